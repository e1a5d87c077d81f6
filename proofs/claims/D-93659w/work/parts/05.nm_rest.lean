/-! java/util/AbstractCollection -/
set_option maxRecDepth 100000
def RJ0 : String := "java/util/AbstractCollection"
abbrev cJ0_init : ByteArray := prog_42_method_1_code
def yJ0_init : MethodName := ⟨RJ0, "<init>", "()V"⟩
theorem dJ0_init_0 : decode cJ0_init 0 = .ok (.aload_n 0, 1) := by decide +kernel
theorem dJ0_init_1 : decode cJ0_init 1 = .ok (.invokespecial 1, 3) := by decide +kernel
theorem dJ0_init_4 : decode cJ0_init 4 = .ok (.return_, 1) := by decide +kernel
theorem q84 : (Jvm.Cond.initialized "java/util/AbstractCollection") ∈ lw_all := lw_g (lw_at lw_m1 2 rfl) rfl
theorem q137 : (Jvm.Cond.instanceMethod ({ cls := "java/util/AbstractCollection", name := "<init>", desc := "()V" } : Jvm.MethodName)) ∈ lw_all := lw_g (lw_at lw_m1 55 rfl) rfl
theorem q138 : (Jvm.Cond.code ({ cls := "java/util/AbstractCollection", name := "<init>", desc := "()V" } : Jvm.MethodName) prog_42_method_1_code (1 : Nat) (Option.none : Option Jvm.ClassFile.FieldType)) ∈ lw_all := lw_g (lw_at lw_m1 56 rfl) rfl
theorem q139 : (Jvm.Cond.methodLink "java/util/AbstractCollection" (1 : Nat) ({ cls := "java/lang/Object", name := "<init>", desc := "()V" } : Jvm.MethodName)) ∈ lw_all := lw_g (lw_at lw_m1 57 rfl) rfl

/-! java/util/AbstractList -/
set_option maxRecDepth 100000
def RJ1 : String := "java/util/AbstractList"
abbrev cJ1_init : ByteArray := prog_43_method_1_code
def yJ1_init : MethodName := ⟨RJ1, "<init>", "()V"⟩
def dkwJ1_init_0 : List UInt8 := [42, 183, 0, 1, 42, 3, 181, 0, 7, 177]
abbrev dktJ1_init_0 : List UInt8 := dkwJ1_init_0 ++ []
theorem dksJ1_init_0 : cJ1_init.data.toList.drop 0 = dktJ1_init_0 := by decide +kernel
theorem dJ1_init_0 : decode cJ1_init 0 = .ok (.aload_n 0, 1) := dk_42 (dk_at dksJ1_init_0 0 rfl rfl)
theorem dJ1_init_1 : decode cJ1_init 1 = .ok (.invokespecial 1, 3) := dk_183 0 1 (dk_at dksJ1_init_0 1 rfl rfl)
theorem dJ1_init_4 : decode cJ1_init 4 = .ok (.aload_n 0, 1) := dk_42 (dk_at dksJ1_init_0 4 rfl rfl)
theorem dJ1_init_5 : decode cJ1_init 5 = .ok (.iconst 0, 1) := dk_3 (dk_at dksJ1_init_0 5 rfl rfl)
theorem dJ1_init_6 : decode cJ1_init 6 = .ok (.putfield 7, 3) := dk_181 0 7 (dk_at dksJ1_init_0 6 rfl rfl)
theorem dJ1_init_9 : decode cJ1_init 9 = .ok (.return_, 1) := dk_177 (dk_at dksJ1_init_0 9 rfl rfl)
theorem q85 : (Jvm.Cond.initialized "java/util/AbstractList") ∈ lw_all := lw_g (lw_at lw_m1 3 rfl) rfl
theorem q134 : (Jvm.Cond.instanceMethod ({ cls := "java/util/AbstractList", name := "<init>", desc := "()V" } : Jvm.MethodName)) ∈ lw_all := lw_g (lw_at lw_m1 52 rfl) rfl
theorem q135 : (Jvm.Cond.code ({ cls := "java/util/AbstractList", name := "<init>", desc := "()V" } : Jvm.MethodName) prog_43_method_1_code (1 : Nat) (Option.none : Option Jvm.ClassFile.FieldType)) ∈ lw_all := lw_g (lw_at lw_m1 53 rfl) rfl
theorem q136 : (Jvm.Cond.methodLink "java/util/AbstractList" (1 : Nat) ({ cls := "java/util/AbstractCollection", name := "<init>", desc := "()V" } : Jvm.MethodName)) ∈ lw_all := lw_g (lw_at lw_m1 54 rfl) rfl
theorem q144 : (Jvm.Cond.fieldLink "java/util/AbstractList" (7 : Nat) "java/util/AbstractList" "modCount" "I") ∈ lw_all := lw_g (lw_at lw_m1 62 rfl) rfl
theorem q152 : (Jvm.Cond.soleField "java/util/AbstractList" "modCount") ∈ lw_all := lw_g (lw_at lw_m1 70 rfl) rfl

/-! java/lang/Math -/
set_option maxRecDepth 100000
def RJ10 : String := "java/lang/Math"
abbrev cJ10_max : ByteArray := prog_31_method_65_code
def yJ10_max : MethodName := ⟨RJ10, "max", "(II)I"⟩
def dkwJ10_max_0 : List UInt8 := [26, 27, 161, 0, 7, 26, 167, 0, 4, 27, 172]
abbrev dktJ10_max_0 : List UInt8 := dkwJ10_max_0 ++ []
theorem dksJ10_max_0 : cJ10_max.data.toList.drop 0 = dktJ10_max_0 := by decide +kernel
theorem dJ10_max_0 : decode cJ10_max 0 = .ok (.iload_n 0, 1) := dk_26 (dk_at dksJ10_max_0 0 rfl rfl)
theorem dJ10_max_1 : decode cJ10_max 1 = .ok (.iload_n 1, 1) := dk_27 (dk_at dksJ10_max_0 1 rfl rfl)
theorem dJ10_max_2 : decode cJ10_max 2 = .ok (.if_icmp .lt 7, 3) := dk_161 0 7 (dk_at dksJ10_max_0 2 rfl rfl)
theorem dJ10_max_5 : decode cJ10_max 5 = .ok (.iload_n 0, 1) := dk_26 (dk_at dksJ10_max_0 5 rfl rfl)
theorem dJ10_max_6 : decode cJ10_max 6 = .ok (.goto 4, 3) := dk_167 0 4 (dk_at dksJ10_max_0 6 rfl rfl)
theorem dJ10_max_9 : decode cJ10_max 9 = .ok (.iload_n 1, 1) := dk_27 (dk_at dksJ10_max_0 9 rfl rfl)
theorem dJ10_max_10 : decode cJ10_max 10 = .ok (.ireturn, 1) := dk_172 (dk_at dksJ10_max_0 10 rfl rfl)
abbrev cJ10_min : ByteArray := prog_31_method_69_code
def yJ10_min : MethodName := ⟨RJ10, "min", "(II)I"⟩
def dkwJ10_min_0 : List UInt8 := [26, 27, 163, 0, 7, 26, 167, 0, 4, 27, 172]
abbrev dktJ10_min_0 : List UInt8 := dkwJ10_min_0 ++ []
theorem dksJ10_min_0 : cJ10_min.data.toList.drop 0 = dktJ10_min_0 := by decide +kernel
theorem dJ10_min_0 : decode cJ10_min 0 = .ok (.iload_n 0, 1) := dk_26 (dk_at dksJ10_min_0 0 rfl rfl)
theorem dJ10_min_1 : decode cJ10_min 1 = .ok (.iload_n 1, 1) := dk_27 (dk_at dksJ10_min_0 1 rfl rfl)
theorem dJ10_min_2 : decode cJ10_min 2 = .ok (.if_icmp .gt 7, 3) := dk_163 0 7 (dk_at dksJ10_min_0 2 rfl rfl)
theorem dJ10_min_5 : decode cJ10_min 5 = .ok (.iload_n 0, 1) := dk_26 (dk_at dksJ10_min_0 5 rfl rfl)
theorem dJ10_min_6 : decode cJ10_min 6 = .ok (.goto 4, 3) := dk_167 0 4 (dk_at dksJ10_min_0 6 rfl rfl)
theorem dJ10_min_9 : decode cJ10_min 9 = .ok (.iload_n 1, 1) := dk_27 (dk_at dksJ10_min_0 9 rfl rfl)
theorem dJ10_min_10 : decode cJ10_min 10 = .ok (.ireturn, 1) := dk_172 (dk_at dksJ10_min_0 10 rfl rfl)
theorem q96 : (Jvm.Cond.initialized "java/lang/Math") ∈ lw_all := lw_g (lw_at lw_m1 14 rfl) rfl
theorem q338 : (Jvm.Cond.static ({ cls := "java/lang/Math", name := "max", desc := "(II)I" } : Jvm.MethodName)) ∈ lw_all := lw_g (lw_at lw_m2 16 rfl) rfl
theorem q339 : (Jvm.Cond.code ({ cls := "java/lang/Math", name := "max", desc := "(II)I" } : Jvm.MethodName) prog_31_method_65_code (2 : Nat) (Option.some Jvm.ClassFile.FieldType.int)) ∈ lw_all := lw_g (lw_at lw_m2 17 rfl) rfl
theorem q356 : (Jvm.Cond.static ({ cls := "java/lang/Math", name := "min", desc := "(II)I" } : Jvm.MethodName)) ∈ lw_all := lw_g (lw_at lw_m2 34 rfl) rfl
theorem q357 : (Jvm.Cond.code ({ cls := "java/lang/Math", name := "min", desc := "(II)I" } : Jvm.MethodName) prog_31_method_69_code (2 : Nat) (Option.some Jvm.ClassFile.FieldType.int)) ∈ lw_all := lw_g (lw_at lw_m2 35 rfl) rfl

/-! java/util/Arrays -/
set_option maxRecDepth 100000
def RJ11 : String := "java/util/Arrays"
abbrev cJ11_copyOf : ByteArray := prog_45_method_121_code
def yJ11_copyOf : MethodName := ⟨RJ11, "copyOf", "([BI)[B"⟩
def dkwJ11_copyOf_1 : List UInt8 := [27, 184, 1, 48, 184, 0, 150, 44, 176]
abbrev dktJ11_copyOf_1 : List UInt8 := dkwJ11_copyOf_1 ++ []
def dkwJ11_copyOf_0 : List UInt8 := [27, 42, 190, 160, 0, 11, 42, 182, 1, 54, 192, 1, 55, 176, 27, 188, 8, 77, 42, 3, 44, 3, 42, 190]
abbrev dktJ11_copyOf_0 : List UInt8 := dkwJ11_copyOf_0 ++ dktJ11_copyOf_1
theorem dksJ11_copyOf_0 : cJ11_copyOf.data.toList.drop 0 = dktJ11_copyOf_0 := by decide +kernel
theorem dksJ11_copyOf_1 : cJ11_copyOf.data.toList.drop 24 = dktJ11_copyOf_1 := dk_seg dksJ11_copyOf_0 24 rfl rfl
theorem dJ11_copyOf_0 : decode cJ11_copyOf 0 = .ok (.iload_n 1, 1) := dk_27 (dk_at dksJ11_copyOf_0 0 rfl rfl)
theorem dJ11_copyOf_1 : decode cJ11_copyOf 1 = .ok (.aload_n 0, 1) := dk_42 (dk_at dksJ11_copyOf_0 1 rfl rfl)
theorem dJ11_copyOf_2 : decode cJ11_copyOf 2 = .ok (.arraylength, 1) := dk_190 (dk_at dksJ11_copyOf_0 2 rfl rfl)
theorem dJ11_copyOf_3 : decode cJ11_copyOf 3 = .ok (.if_icmp .ne 11, 3) := dk_160 0 11 (dk_at dksJ11_copyOf_0 3 rfl rfl)
theorem dJ11_copyOf_6 : decode cJ11_copyOf 6 = .ok (.aload_n 0, 1) := dk_42 (dk_at dksJ11_copyOf_0 6 rfl rfl)
theorem dJ11_copyOf_7 : decode cJ11_copyOf 7 = .ok (.invokevirtual 310, 3) := dk_182 1 54 (dk_at dksJ11_copyOf_0 7 rfl rfl)
theorem dJ11_copyOf_10 : decode cJ11_copyOf 10 = .ok (.checkcast 311, 3) := dk_192 1 55 (dk_at dksJ11_copyOf_0 10 rfl rfl)
theorem dJ11_copyOf_13 : decode cJ11_copyOf 13 = .ok (.areturn, 1) := dk_176 (dk_at dksJ11_copyOf_0 13 rfl rfl)
theorem dJ11_copyOf_14 : decode cJ11_copyOf 14 = .ok (.iload_n 1, 1) := dk_27 (dk_at dksJ11_copyOf_0 14 rfl rfl)
theorem dJ11_copyOf_15 : decode cJ11_copyOf 15 = .ok (.newarray .byte, 2) := dk_188_8 (dk_at dksJ11_copyOf_0 15 rfl rfl)
theorem dJ11_copyOf_17 : decode cJ11_copyOf 17 = .ok (.astore_n 2, 1) := dk_77 (dk_at dksJ11_copyOf_0 17 rfl rfl)
theorem dJ11_copyOf_18 : decode cJ11_copyOf 18 = .ok (.aload_n 0, 1) := dk_42 (dk_at dksJ11_copyOf_0 18 rfl rfl)
theorem dJ11_copyOf_19 : decode cJ11_copyOf 19 = .ok (.iconst 0, 1) := dk_3 (dk_at dksJ11_copyOf_0 19 rfl rfl)
theorem dJ11_copyOf_20 : decode cJ11_copyOf 20 = .ok (.aload_n 2, 1) := dk_44 (dk_at dksJ11_copyOf_0 20 rfl rfl)
theorem dJ11_copyOf_21 : decode cJ11_copyOf 21 = .ok (.iconst 0, 1) := dk_3 (dk_at dksJ11_copyOf_0 21 rfl rfl)
theorem dJ11_copyOf_22 : decode cJ11_copyOf 22 = .ok (.aload_n 0, 1) := dk_42 (dk_at dksJ11_copyOf_0 22 rfl rfl)
theorem dJ11_copyOf_23 : decode cJ11_copyOf 23 = .ok (.arraylength, 1) := dk_190 (dk_at dksJ11_copyOf_0 23 rfl rfl)
theorem dJ11_copyOf_24 : decode cJ11_copyOf 24 = .ok (.iload_n 1, 1) := dk_27 (dk_at dksJ11_copyOf_1 0 rfl rfl)
theorem dJ11_copyOf_25 : decode cJ11_copyOf 25 = .ok (.invokestatic 304, 3) := dk_184 1 48 (dk_at dksJ11_copyOf_1 1 rfl rfl)
theorem dJ11_copyOf_28 : decode cJ11_copyOf 28 = .ok (.invokestatic 150, 3) := dk_184 0 150 (dk_at dksJ11_copyOf_1 4 rfl rfl)
theorem dJ11_copyOf_31 : decode cJ11_copyOf 31 = .ok (.aload_n 2, 1) := dk_44 (dk_at dksJ11_copyOf_1 7 rfl rfl)
theorem dJ11_copyOf_32 : decode cJ11_copyOf 32 = .ok (.areturn, 1) := dk_176 (dk_at dksJ11_copyOf_1 8 rfl rfl)
abbrev cJ11_copyOfRange : ByteArray := prog_45_method_132_code
def yJ11_copyOfRange : MethodName := ⟨RJ11, "copyOfRange", "([BII)[B"⟩
def dkwJ11_copyOfRange_1 : List UInt8 := [176]
abbrev dktJ11_copyOfRange_1 : List UInt8 := dkwJ11_copyOfRange_1 ++ []
def dkwJ11_copyOfRange_0 : List UInt8 := [27, 154, 0, 9, 28, 42, 190, 159, 0, 10, 42, 27, 28, 184, 1, 83, 176, 42, 182, 1, 54, 192, 1, 55]
abbrev dktJ11_copyOfRange_0 : List UInt8 := dkwJ11_copyOfRange_0 ++ dktJ11_copyOfRange_1
theorem dksJ11_copyOfRange_0 : cJ11_copyOfRange.data.toList.drop 0 = dktJ11_copyOfRange_0 := by decide +kernel
theorem dksJ11_copyOfRange_1 : cJ11_copyOfRange.data.toList.drop 24 = dktJ11_copyOfRange_1 := dk_seg dksJ11_copyOfRange_0 24 rfl rfl
theorem dJ11_copyOfRange_0 : decode cJ11_copyOfRange 0 = .ok (.iload_n 1, 1) := dk_27 (dk_at dksJ11_copyOfRange_0 0 rfl rfl)
theorem dJ11_copyOfRange_1 : decode cJ11_copyOfRange 1 = .ok (.ifCond .ne 9, 3) := dk_154 0 9 (dk_at dksJ11_copyOfRange_0 1 rfl rfl)
theorem dJ11_copyOfRange_4 : decode cJ11_copyOfRange 4 = .ok (.iload_n 2, 1) := dk_28 (dk_at dksJ11_copyOfRange_0 4 rfl rfl)
theorem dJ11_copyOfRange_5 : decode cJ11_copyOfRange 5 = .ok (.aload_n 0, 1) := dk_42 (dk_at dksJ11_copyOfRange_0 5 rfl rfl)
theorem dJ11_copyOfRange_6 : decode cJ11_copyOfRange 6 = .ok (.arraylength, 1) := dk_190 (dk_at dksJ11_copyOfRange_0 6 rfl rfl)
theorem dJ11_copyOfRange_7 : decode cJ11_copyOfRange 7 = .ok (.if_icmp .eq 10, 3) := dk_159 0 10 (dk_at dksJ11_copyOfRange_0 7 rfl rfl)
theorem dJ11_copyOfRange_10 : decode cJ11_copyOfRange 10 = .ok (.aload_n 0, 1) := dk_42 (dk_at dksJ11_copyOfRange_0 10 rfl rfl)
theorem dJ11_copyOfRange_11 : decode cJ11_copyOfRange 11 = .ok (.iload_n 1, 1) := dk_27 (dk_at dksJ11_copyOfRange_0 11 rfl rfl)
theorem dJ11_copyOfRange_12 : decode cJ11_copyOfRange 12 = .ok (.iload_n 2, 1) := dk_28 (dk_at dksJ11_copyOfRange_0 12 rfl rfl)
theorem dJ11_copyOfRange_13 : decode cJ11_copyOfRange 13 = .ok (.invokestatic 339, 3) := dk_184 1 83 (dk_at dksJ11_copyOfRange_0 13 rfl rfl)
theorem dJ11_copyOfRange_16 : decode cJ11_copyOfRange 16 = .ok (.areturn, 1) := dk_176 (dk_at dksJ11_copyOfRange_0 16 rfl rfl)
theorem dJ11_copyOfRange_17 : decode cJ11_copyOfRange 17 = .ok (.aload_n 0, 1) := dk_42 (dk_at dksJ11_copyOfRange_0 17 rfl rfl)
theorem dJ11_copyOfRange_18 : decode cJ11_copyOfRange 18 = .ok (.invokevirtual 310, 3) := dk_182 1 54 (dk_at dksJ11_copyOfRange_0 18 rfl rfl)
theorem dJ11_copyOfRange_21 : decode cJ11_copyOfRange 21 = .ok (.checkcast 311, 3) := dk_192 1 55 (dk_at dksJ11_copyOfRange_0 21 rfl rfl)
theorem dJ11_copyOfRange_24 : decode cJ11_copyOfRange 24 = .ok (.areturn, 1) := dk_176 (dk_at dksJ11_copyOfRange_1 0 rfl rfl)
abbrev cJ11_copyOfRangeByte : ByteArray := prog_45_method_133_code
def yJ11_copyOfRangeByte : MethodName := ⟨RJ11, "copyOfRangeByte", "([BII)[B"⟩
def dkwJ11_copyOfRangeByte_1 : List UInt8 := [184, 1, 48, 184, 0, 150, 25, 4, 176]
abbrev dktJ11_copyOfRangeByte_1 : List UInt8 := dkwJ11_copyOfRangeByte_1 ++ []
def dkwJ11_copyOfRangeByte_0 : List UInt8 := [27, 28, 184, 1, 87, 28, 27, 100, 62, 29, 188, 8, 58, 4, 42, 27, 25, 4, 3, 42, 190, 27, 100, 29]
abbrev dktJ11_copyOfRangeByte_0 : List UInt8 := dkwJ11_copyOfRangeByte_0 ++ dktJ11_copyOfRangeByte_1
theorem dksJ11_copyOfRangeByte_0 : cJ11_copyOfRangeByte.data.toList.drop 0 = dktJ11_copyOfRangeByte_0 := by decide +kernel
theorem dksJ11_copyOfRangeByte_1 : cJ11_copyOfRangeByte.data.toList.drop 24 = dktJ11_copyOfRangeByte_1 := dk_seg dksJ11_copyOfRangeByte_0 24 rfl rfl
theorem dJ11_copyOfRangeByte_0 : decode cJ11_copyOfRangeByte 0 = .ok (.iload_n 1, 1) := dk_27 (dk_at dksJ11_copyOfRangeByte_0 0 rfl rfl)
theorem dJ11_copyOfRangeByte_1 : decode cJ11_copyOfRangeByte 1 = .ok (.iload_n 2, 1) := dk_28 (dk_at dksJ11_copyOfRangeByte_0 1 rfl rfl)
theorem dJ11_copyOfRangeByte_2 : decode cJ11_copyOfRangeByte 2 = .ok (.invokestatic 343, 3) := dk_184 1 87 (dk_at dksJ11_copyOfRangeByte_0 2 rfl rfl)
theorem dJ11_copyOfRangeByte_5 : decode cJ11_copyOfRangeByte 5 = .ok (.iload_n 2, 1) := dk_28 (dk_at dksJ11_copyOfRangeByte_0 5 rfl rfl)
theorem dJ11_copyOfRangeByte_6 : decode cJ11_copyOfRangeByte 6 = .ok (.iload_n 1, 1) := dk_27 (dk_at dksJ11_copyOfRangeByte_0 6 rfl rfl)
theorem dJ11_copyOfRangeByte_7 : decode cJ11_copyOfRangeByte 7 = .ok (.isub, 1) := dk_100 (dk_at dksJ11_copyOfRangeByte_0 7 rfl rfl)
theorem dJ11_copyOfRangeByte_8 : decode cJ11_copyOfRangeByte 8 = .ok (.istore_n 3, 1) := dk_62 (dk_at dksJ11_copyOfRangeByte_0 8 rfl rfl)
theorem dJ11_copyOfRangeByte_9 : decode cJ11_copyOfRangeByte 9 = .ok (.iload_n 3, 1) := dk_29 (dk_at dksJ11_copyOfRangeByte_0 9 rfl rfl)
theorem dJ11_copyOfRangeByte_10 : decode cJ11_copyOfRangeByte 10 = .ok (.newarray .byte, 2) := dk_188_8 (dk_at dksJ11_copyOfRangeByte_0 10 rfl rfl)
theorem dJ11_copyOfRangeByte_12 : decode cJ11_copyOfRangeByte 12 = .ok (.astore 4, 2) := dk_58 4 (dk_at dksJ11_copyOfRangeByte_0 12 rfl rfl)
theorem dJ11_copyOfRangeByte_14 : decode cJ11_copyOfRangeByte 14 = .ok (.aload_n 0, 1) := dk_42 (dk_at dksJ11_copyOfRangeByte_0 14 rfl rfl)
theorem dJ11_copyOfRangeByte_15 : decode cJ11_copyOfRangeByte 15 = .ok (.iload_n 1, 1) := dk_27 (dk_at dksJ11_copyOfRangeByte_0 15 rfl rfl)
theorem dJ11_copyOfRangeByte_16 : decode cJ11_copyOfRangeByte 16 = .ok (.aload 4, 2) := dk_25 4 (dk_at dksJ11_copyOfRangeByte_0 16 rfl rfl)
theorem dJ11_copyOfRangeByte_18 : decode cJ11_copyOfRangeByte 18 = .ok (.iconst 0, 1) := dk_3 (dk_at dksJ11_copyOfRangeByte_0 18 rfl rfl)
theorem dJ11_copyOfRangeByte_19 : decode cJ11_copyOfRangeByte 19 = .ok (.aload_n 0, 1) := dk_42 (dk_at dksJ11_copyOfRangeByte_0 19 rfl rfl)
theorem dJ11_copyOfRangeByte_20 : decode cJ11_copyOfRangeByte 20 = .ok (.arraylength, 1) := dk_190 (dk_at dksJ11_copyOfRangeByte_0 20 rfl rfl)
theorem dJ11_copyOfRangeByte_21 : decode cJ11_copyOfRangeByte 21 = .ok (.iload_n 1, 1) := dk_27 (dk_at dksJ11_copyOfRangeByte_0 21 rfl rfl)
theorem dJ11_copyOfRangeByte_22 : decode cJ11_copyOfRangeByte 22 = .ok (.isub, 1) := dk_100 (dk_at dksJ11_copyOfRangeByte_0 22 rfl rfl)
theorem dJ11_copyOfRangeByte_23 : decode cJ11_copyOfRangeByte 23 = .ok (.iload_n 3, 1) := dk_29 (dk_at dksJ11_copyOfRangeByte_0 23 rfl rfl)
theorem dJ11_copyOfRangeByte_24 : decode cJ11_copyOfRangeByte 24 = .ok (.invokestatic 304, 3) := dk_184 1 48 (dk_at dksJ11_copyOfRangeByte_1 0 rfl rfl)
theorem dJ11_copyOfRangeByte_27 : decode cJ11_copyOfRangeByte 27 = .ok (.invokestatic 150, 3) := dk_184 0 150 (dk_at dksJ11_copyOfRangeByte_1 3 rfl rfl)
theorem dJ11_copyOfRangeByte_30 : decode cJ11_copyOfRangeByte 30 = .ok (.aload 4, 2) := dk_25 4 (dk_at dksJ11_copyOfRangeByte_1 6 rfl rfl)
theorem dJ11_copyOfRangeByte_32 : decode cJ11_copyOfRangeByte 32 = .ok (.areturn, 1) := dk_176 (dk_at dksJ11_copyOfRangeByte_1 8 rfl rfl)
abbrev cJ11_checkLength : ByteArray := prog_45_method_131_code
def yJ11_checkLength : MethodName := ⟨RJ11, "checkLength", "(II)V"⟩
def dkwJ11_checkLength_1 : List UInt8 := [182, 0, 50, 27, 182, 0, 54, 182, 0, 61, 183, 0, 65, 191, 177]
abbrev dktJ11_checkLength_1 : List UInt8 := dkwJ11_checkLength_1 ++ []
def dkwJ11_checkLength_0 : List UInt8 := [27, 26, 162, 0, 35, 187, 0, 43, 89, 187, 0, 45, 89, 183, 0, 47, 26, 182, 0, 54, 19, 1, 81]
abbrev dktJ11_checkLength_0 : List UInt8 := dkwJ11_checkLength_0 ++ dktJ11_checkLength_1
theorem dksJ11_checkLength_0 : cJ11_checkLength.data.toList.drop 0 = dktJ11_checkLength_0 := by decide +kernel
theorem dksJ11_checkLength_1 : cJ11_checkLength.data.toList.drop 23 = dktJ11_checkLength_1 := dk_seg dksJ11_checkLength_0 23 rfl rfl
theorem dJ11_checkLength_0 : decode cJ11_checkLength 0 = .ok (.iload_n 1, 1) := dk_27 (dk_at dksJ11_checkLength_0 0 rfl rfl)
theorem dJ11_checkLength_1 : decode cJ11_checkLength 1 = .ok (.iload_n 0, 1) := dk_26 (dk_at dksJ11_checkLength_0 1 rfl rfl)
theorem dJ11_checkLength_2 : decode cJ11_checkLength 2 = .ok (.if_icmp .ge 35, 3) := dk_162 0 35 (dk_at dksJ11_checkLength_0 2 rfl rfl)
theorem dJ11_checkLength_5 : decode cJ11_checkLength 5 = .ok (.new 43, 3) := dk_187 0 43 (dk_at dksJ11_checkLength_0 5 rfl rfl)
theorem dJ11_checkLength_8 : decode cJ11_checkLength 8 = .ok (.dup, 1) := dk_89 (dk_at dksJ11_checkLength_0 8 rfl rfl)
theorem dJ11_checkLength_9 : decode cJ11_checkLength 9 = .ok (.new 45, 3) := dk_187 0 45 (dk_at dksJ11_checkLength_0 9 rfl rfl)
theorem dJ11_checkLength_12 : decode cJ11_checkLength 12 = .ok (.dup, 1) := dk_89 (dk_at dksJ11_checkLength_0 12 rfl rfl)
theorem dJ11_checkLength_13 : decode cJ11_checkLength 13 = .ok (.invokespecial 47, 3) := dk_183 0 47 (dk_at dksJ11_checkLength_0 13 rfl rfl)
theorem dJ11_checkLength_16 : decode cJ11_checkLength 16 = .ok (.iload_n 0, 1) := dk_26 (dk_at dksJ11_checkLength_0 16 rfl rfl)
theorem dJ11_checkLength_17 : decode cJ11_checkLength 17 = .ok (.invokevirtual 54, 3) := dk_182 0 54 (dk_at dksJ11_checkLength_0 17 rfl rfl)
theorem dJ11_checkLength_20 : decode cJ11_checkLength 20 = .ok (.ldc_w 337, 3) := dk_19 1 81 (dk_at dksJ11_checkLength_0 20 rfl rfl)
theorem dJ11_checkLength_23 : decode cJ11_checkLength 23 = .ok (.invokevirtual 50, 3) := dk_182 0 50 (dk_at dksJ11_checkLength_1 0 rfl rfl)
theorem dJ11_checkLength_26 : decode cJ11_checkLength 26 = .ok (.iload_n 1, 1) := dk_27 (dk_at dksJ11_checkLength_1 3 rfl rfl)
theorem dJ11_checkLength_27 : decode cJ11_checkLength 27 = .ok (.invokevirtual 54, 3) := dk_182 0 54 (dk_at dksJ11_checkLength_1 4 rfl rfl)
theorem dJ11_checkLength_30 : decode cJ11_checkLength 30 = .ok (.invokevirtual 61, 3) := dk_182 0 61 (dk_at dksJ11_checkLength_1 7 rfl rfl)
theorem dJ11_checkLength_33 : decode cJ11_checkLength 33 = .ok (.invokespecial 65, 3) := dk_183 0 65 (dk_at dksJ11_checkLength_1 10 rfl rfl)
theorem dJ11_checkLength_36 : decode cJ11_checkLength 36 = .ok (.athrow, 1) := dk_191 (dk_at dksJ11_checkLength_1 13 rfl rfl)
theorem dJ11_checkLength_37 : decode cJ11_checkLength 37 = .ok (.return_, 1) := dk_177 (dk_at dksJ11_checkLength_1 14 rfl rfl)
abbrev cJ11_copyOf_2 : ByteArray := prog_45_method_119_code
def yJ11_copyOf_2 : MethodName := ⟨RJ11, "copyOf", "([Ljava/lang/Object;I)[Ljava/lang/Object;"⟩
def dkwJ11_copyOf_2_0 : List UInt8 := [42, 27, 42, 182, 0, 86, 184, 1, 44, 176]
abbrev dktJ11_copyOf_2_0 : List UInt8 := dkwJ11_copyOf_2_0 ++ []
theorem dksJ11_copyOf_2_0 : cJ11_copyOf_2.data.toList.drop 0 = dktJ11_copyOf_2_0 := by decide +kernel
theorem dJ11_copyOf_2_0 : decode cJ11_copyOf_2 0 = .ok (.aload_n 0, 1) := dk_42 (dk_at dksJ11_copyOf_2_0 0 rfl rfl)
theorem dJ11_copyOf_2_1 : decode cJ11_copyOf_2 1 = .ok (.iload_n 1, 1) := dk_27 (dk_at dksJ11_copyOf_2_0 1 rfl rfl)
theorem dJ11_copyOf_2_2 : decode cJ11_copyOf_2 2 = .ok (.aload_n 0, 1) := dk_42 (dk_at dksJ11_copyOf_2_0 2 rfl rfl)
theorem dJ11_copyOf_2_3 : decode cJ11_copyOf_2 3 = .ok (.invokevirtual 86, 3) := dk_182 0 86 (dk_at dksJ11_copyOf_2_0 3 rfl rfl)
theorem dJ11_copyOf_2_6 : decode cJ11_copyOf_2 6 = .ok (.invokestatic 300, 3) := dk_184 1 44 (dk_at dksJ11_copyOf_2_0 6 rfl rfl)
theorem dJ11_copyOf_2_9 : decode cJ11_copyOf_2 9 = .ok (.areturn, 1) := dk_176 (dk_at dksJ11_copyOf_2_0 9 rfl rfl)
abbrev cJ11_copyOf_3 : ByteArray := prog_45_method_120_code
def yJ11_copyOf_3 : MethodName := ⟨RJ11, "copyOf", "([Ljava/lang/Object;ILjava/lang/Class;)[Ljava/lang/Object;"⟩
def dkwJ11_copyOf_3_1 : List UInt8 := [78, 42, 3, 45, 3, 42, 190, 27, 184, 1, 48, 184, 0, 150, 45, 176]
abbrev dktJ11_copyOf_3_1 : List UInt8 := dkwJ11_copyOf_3_1 ++ []
def dkwJ11_copyOf_3_0 : List UInt8 := [44, 18, 110, 166, 0, 10, 27, 189, 0, 2, 167, 0, 14, 44, 182, 0, 90, 27, 184, 0, 95, 192, 0, 110]
abbrev dktJ11_copyOf_3_0 : List UInt8 := dkwJ11_copyOf_3_0 ++ dktJ11_copyOf_3_1
theorem dksJ11_copyOf_3_0 : cJ11_copyOf_3.data.toList.drop 0 = dktJ11_copyOf_3_0 := by decide +kernel
theorem dksJ11_copyOf_3_1 : cJ11_copyOf_3.data.toList.drop 24 = dktJ11_copyOf_3_1 := dk_seg dksJ11_copyOf_3_0 24 rfl rfl
theorem dJ11_copyOf_3_0 : decode cJ11_copyOf_3 0 = .ok (.aload_n 2, 1) := dk_44 (dk_at dksJ11_copyOf_3_0 0 rfl rfl)
theorem dJ11_copyOf_3_1 : decode cJ11_copyOf_3 1 = .ok (.ldc 110, 2) := dk_18 110 (dk_at dksJ11_copyOf_3_0 1 rfl rfl)
theorem dJ11_copyOf_3_3 : decode cJ11_copyOf_3 3 = .ok (.if_acmp .ne 10, 3) := dk_166 0 10 (dk_at dksJ11_copyOf_3_0 3 rfl rfl)
theorem dJ11_copyOf_3_6 : decode cJ11_copyOf_3 6 = .ok (.iload_n 1, 1) := dk_27 (dk_at dksJ11_copyOf_3_0 6 rfl rfl)
theorem dJ11_copyOf_3_7 : decode cJ11_copyOf_3 7 = .ok (.anewarray 2, 3) := dk_189 0 2 (dk_at dksJ11_copyOf_3_0 7 rfl rfl)
theorem dJ11_copyOf_3_10 : decode cJ11_copyOf_3 10 = .ok (.goto 14, 3) := dk_167 0 14 (dk_at dksJ11_copyOf_3_0 10 rfl rfl)
theorem dJ11_copyOf_3_13 : decode cJ11_copyOf_3 13 = .ok (.aload_n 2, 1) := dk_44 (dk_at dksJ11_copyOf_3_0 13 rfl rfl)
theorem dJ11_copyOf_3_14 : decode cJ11_copyOf_3 14 = .ok (.invokevirtual 90, 3) := dk_182 0 90 (dk_at dksJ11_copyOf_3_0 14 rfl rfl)
theorem dJ11_copyOf_3_17 : decode cJ11_copyOf_3 17 = .ok (.iload_n 1, 1) := dk_27 (dk_at dksJ11_copyOf_3_0 17 rfl rfl)
theorem dJ11_copyOf_3_18 : decode cJ11_copyOf_3 18 = .ok (.invokestatic 95, 3) := dk_184 0 95 (dk_at dksJ11_copyOf_3_0 18 rfl rfl)
theorem dJ11_copyOf_3_21 : decode cJ11_copyOf_3 21 = .ok (.checkcast 110, 3) := dk_192 0 110 (dk_at dksJ11_copyOf_3_0 21 rfl rfl)
theorem dJ11_copyOf_3_24 : decode cJ11_copyOf_3 24 = .ok (.astore_n 3, 1) := dk_78 (dk_at dksJ11_copyOf_3_1 0 rfl rfl)
theorem dJ11_copyOf_3_25 : decode cJ11_copyOf_3 25 = .ok (.aload_n 0, 1) := dk_42 (dk_at dksJ11_copyOf_3_1 1 rfl rfl)
theorem dJ11_copyOf_3_26 : decode cJ11_copyOf_3 26 = .ok (.iconst 0, 1) := dk_3 (dk_at dksJ11_copyOf_3_1 2 rfl rfl)
theorem dJ11_copyOf_3_27 : decode cJ11_copyOf_3 27 = .ok (.aload_n 3, 1) := dk_45 (dk_at dksJ11_copyOf_3_1 3 rfl rfl)
theorem dJ11_copyOf_3_28 : decode cJ11_copyOf_3 28 = .ok (.iconst 0, 1) := dk_3 (dk_at dksJ11_copyOf_3_1 4 rfl rfl)
theorem dJ11_copyOf_3_29 : decode cJ11_copyOf_3 29 = .ok (.aload_n 0, 1) := dk_42 (dk_at dksJ11_copyOf_3_1 5 rfl rfl)
theorem dJ11_copyOf_3_30 : decode cJ11_copyOf_3 30 = .ok (.arraylength, 1) := dk_190 (dk_at dksJ11_copyOf_3_1 6 rfl rfl)
theorem dJ11_copyOf_3_31 : decode cJ11_copyOf_3 31 = .ok (.iload_n 1, 1) := dk_27 (dk_at dksJ11_copyOf_3_1 7 rfl rfl)
theorem dJ11_copyOf_3_32 : decode cJ11_copyOf_3 32 = .ok (.invokestatic 304, 3) := dk_184 1 48 (dk_at dksJ11_copyOf_3_1 8 rfl rfl)
theorem dJ11_copyOf_3_35 : decode cJ11_copyOf_3 35 = .ok (.invokestatic 150, 3) := dk_184 0 150 (dk_at dksJ11_copyOf_3_1 11 rfl rfl)
theorem dJ11_copyOf_3_38 : decode cJ11_copyOf_3 38 = .ok (.aload_n 3, 1) := dk_45 (dk_at dksJ11_copyOf_3_1 14 rfl rfl)
theorem dJ11_copyOf_3_39 : decode cJ11_copyOf_3 39 = .ok (.areturn, 1) := dk_176 (dk_at dksJ11_copyOf_3_1 15 rfl rfl)
abbrev cJ11_fill : ByteArray := prog_45_method_103_code
def yJ11_fill : MethodName := ⟨RJ11, "fill", "([II)V"⟩
def dkwJ11_fill_0 : List UInt8 := [3, 61, 42, 190, 62, 28, 29, 162, 0, 13, 42, 28, 27, 79, 132, 2, 1, 167, 255, 244, 177]
abbrev dktJ11_fill_0 : List UInt8 := dkwJ11_fill_0 ++ []
theorem dksJ11_fill_0 : cJ11_fill.data.toList.drop 0 = dktJ11_fill_0 := by decide +kernel
theorem dJ11_fill_0 : decode cJ11_fill 0 = .ok (.iconst 0, 1) := dk_3 (dk_at dksJ11_fill_0 0 rfl rfl)
theorem dJ11_fill_1 : decode cJ11_fill 1 = .ok (.istore_n 2, 1) := dk_61 (dk_at dksJ11_fill_0 1 rfl rfl)
theorem dJ11_fill_2 : decode cJ11_fill 2 = .ok (.aload_n 0, 1) := dk_42 (dk_at dksJ11_fill_0 2 rfl rfl)
theorem dJ11_fill_3 : decode cJ11_fill 3 = .ok (.arraylength, 1) := dk_190 (dk_at dksJ11_fill_0 3 rfl rfl)
theorem dJ11_fill_4 : decode cJ11_fill 4 = .ok (.istore_n 3, 1) := dk_62 (dk_at dksJ11_fill_0 4 rfl rfl)
theorem dJ11_fill_5 : decode cJ11_fill 5 = .ok (.iload_n 2, 1) := dk_28 (dk_at dksJ11_fill_0 5 rfl rfl)
theorem dJ11_fill_6 : decode cJ11_fill 6 = .ok (.iload_n 3, 1) := dk_29 (dk_at dksJ11_fill_0 6 rfl rfl)
theorem dJ11_fill_7 : decode cJ11_fill 7 = .ok (.if_icmp .ge 13, 3) := dk_162 0 13 (dk_at dksJ11_fill_0 7 rfl rfl)
theorem dJ11_fill_10 : decode cJ11_fill 10 = .ok (.aload_n 0, 1) := dk_42 (dk_at dksJ11_fill_0 10 rfl rfl)
theorem dJ11_fill_11 : decode cJ11_fill 11 = .ok (.iload_n 2, 1) := dk_28 (dk_at dksJ11_fill_0 11 rfl rfl)
theorem dJ11_fill_12 : decode cJ11_fill 12 = .ok (.iload_n 1, 1) := dk_27 (dk_at dksJ11_fill_0 12 rfl rfl)
theorem dJ11_fill_13 : decode cJ11_fill 13 = .ok (.iastore, 1) := dk_79 (dk_at dksJ11_fill_0 13 rfl rfl)
theorem dJ11_fill_14 : decode cJ11_fill 14 = .ok (.iinc 2 1, 3) := dk_132 2 1 (dk_at dksJ11_fill_0 14 rfl rfl)
theorem dJ11_fill_17 : decode cJ11_fill 17 = .ok (.goto (-12), 3) := dk_167 255 244 (dk_at dksJ11_fill_0 17 rfl rfl)
theorem dJ11_fill_20 : decode cJ11_fill 20 = .ok (.return_, 1) := dk_177 (dk_at dksJ11_fill_0 20 rfl rfl)
abbrev cJ11_fill_2 : ByteArray := prog_45_method_109_code
def yJ11_fill_2 : MethodName := ⟨RJ11, "fill", "([BB)V"⟩
def dkwJ11_fill_2_0 : List UInt8 := [3, 61, 42, 190, 62, 28, 29, 162, 0, 13, 42, 28, 27, 84, 132, 2, 1, 167, 255, 244, 177]
abbrev dktJ11_fill_2_0 : List UInt8 := dkwJ11_fill_2_0 ++ []
theorem dksJ11_fill_2_0 : cJ11_fill_2.data.toList.drop 0 = dktJ11_fill_2_0 := by decide +kernel
theorem dJ11_fill_2_0 : decode cJ11_fill_2 0 = .ok (.iconst 0, 1) := dk_3 (dk_at dksJ11_fill_2_0 0 rfl rfl)
theorem dJ11_fill_2_1 : decode cJ11_fill_2 1 = .ok (.istore_n 2, 1) := dk_61 (dk_at dksJ11_fill_2_0 1 rfl rfl)
theorem dJ11_fill_2_2 : decode cJ11_fill_2 2 = .ok (.aload_n 0, 1) := dk_42 (dk_at dksJ11_fill_2_0 2 rfl rfl)
theorem dJ11_fill_2_3 : decode cJ11_fill_2 3 = .ok (.arraylength, 1) := dk_190 (dk_at dksJ11_fill_2_0 3 rfl rfl)
theorem dJ11_fill_2_4 : decode cJ11_fill_2 4 = .ok (.istore_n 3, 1) := dk_62 (dk_at dksJ11_fill_2_0 4 rfl rfl)
theorem dJ11_fill_2_5 : decode cJ11_fill_2 5 = .ok (.iload_n 2, 1) := dk_28 (dk_at dksJ11_fill_2_0 5 rfl rfl)
theorem dJ11_fill_2_6 : decode cJ11_fill_2 6 = .ok (.iload_n 3, 1) := dk_29 (dk_at dksJ11_fill_2_0 6 rfl rfl)
theorem dJ11_fill_2_7 : decode cJ11_fill_2 7 = .ok (.if_icmp .ge 13, 3) := dk_162 0 13 (dk_at dksJ11_fill_2_0 7 rfl rfl)
theorem dJ11_fill_2_10 : decode cJ11_fill_2 10 = .ok (.aload_n 0, 1) := dk_42 (dk_at dksJ11_fill_2_0 10 rfl rfl)
theorem dJ11_fill_2_11 : decode cJ11_fill_2 11 = .ok (.iload_n 2, 1) := dk_28 (dk_at dksJ11_fill_2_0 11 rfl rfl)
theorem dJ11_fill_2_12 : decode cJ11_fill_2 12 = .ok (.iload_n 1, 1) := dk_27 (dk_at dksJ11_fill_2_0 12 rfl rfl)
theorem dJ11_fill_2_13 : decode cJ11_fill_2 13 = .ok (.bastore, 1) := dk_84 (dk_at dksJ11_fill_2_0 13 rfl rfl)
theorem dJ11_fill_2_14 : decode cJ11_fill_2 14 = .ok (.iinc 2 1, 3) := dk_132 2 1 (dk_at dksJ11_fill_2_0 14 rfl rfl)
theorem dJ11_fill_2_17 : decode cJ11_fill_2 17 = .ok (.goto (-12), 3) := dk_167 255 244 (dk_at dksJ11_fill_2_0 17 rfl rfl)
theorem dJ11_fill_2_20 : decode cJ11_fill_2 20 = .ok (.return_, 1) := dk_177 (dk_at dksJ11_fill_2_0 20 rfl rfl)
theorem q97 : (Jvm.Cond.initialized "java/util/Arrays") ∈ lw_all := lw_g (lw_at lw_m1 15 rfl) rfl
theorem q346 : (Jvm.Cond.static ({ cls := "java/util/Arrays", name := "copyOf", desc := "([BI)[B" } : Jvm.MethodName)) ∈ lw_all := lw_g (lw_at lw_m2 24 rfl) rfl
theorem q347 : (Jvm.Cond.code ({ cls := "java/util/Arrays", name := "copyOf", desc := "([BI)[B" } : Jvm.MethodName) prog_45_method_121_code (3 : Nat) (Option.some (Jvm.ClassFile.FieldType.array Jvm.ClassFile.FieldType.byte))) ∈ lw_all := lw_g (lw_at lw_m2 25 rfl) rfl
theorem q348 : (Jvm.Cond.methodLink "java/util/Arrays" (310 : Nat) ({ cls := "[B", name := "clone", desc := "()Ljava/lang/Object;" } : Jvm.MethodName)) ∈ lw_all := lw_g (lw_at lw_m2 26 rfl) rfl
theorem q354 : (Jvm.Cond.classLink "java/util/Arrays" (311 : Nat) "[B") ∈ lw_all := lw_g (lw_at lw_m2 32 rfl) rfl
theorem q355 : (Jvm.Cond.methodLink "java/util/Arrays" (304 : Nat) ({ cls := "java/lang/Math", name := "min", desc := "(II)I" } : Jvm.MethodName)) ∈ lw_all := lw_g (lw_at lw_m2 33 rfl) rfl
theorem q358 : (Jvm.Cond.methodLink "java/util/Arrays" (150 : Nat) ({ cls := "java/lang/System", name := "arraycopy", desc := "(Ljava/lang/Object;ILjava/lang/Object;II)V" } : Jvm.MethodName)) ∈ lw_all := lw_g (lw_at lw_m2 36 rfl) rfl
theorem q415 : (Jvm.Cond.static ({ cls := "java/util/Arrays", name := "copyOfRange", desc := "([BII)[B" } : Jvm.MethodName)) ∈ lw_all := lw_g (lw_at lw_m2 93 rfl) rfl
theorem q416 : (Jvm.Cond.code ({ cls := "java/util/Arrays", name := "copyOfRange", desc := "([BII)[B" } : Jvm.MethodName) prog_45_method_132_code (3 : Nat) (Option.some (Jvm.ClassFile.FieldType.array Jvm.ClassFile.FieldType.byte))) ∈ lw_all := lw_g (lw_at lw_m2 94 rfl) rfl
theorem q417 : (Jvm.Cond.methodLink "java/util/Arrays" (339 : Nat) ({ cls := "java/util/Arrays", name := "copyOfRangeByte", desc := "([BII)[B" } : Jvm.MethodName)) ∈ lw_all := lw_g (lw_at lw_m2 95 rfl) rfl
theorem q418 : (Jvm.Cond.static ({ cls := "java/util/Arrays", name := "copyOfRangeByte", desc := "([BII)[B" } : Jvm.MethodName)) ∈ lw_all := lw_g (lw_at lw_m2 96 rfl) rfl
theorem q419 : (Jvm.Cond.code ({ cls := "java/util/Arrays", name := "copyOfRangeByte", desc := "([BII)[B" } : Jvm.MethodName) prog_45_method_133_code (5 : Nat) (Option.some (Jvm.ClassFile.FieldType.array Jvm.ClassFile.FieldType.byte))) ∈ lw_all := lw_g (lw_at lw_m2 97 rfl) rfl
theorem q420 : (Jvm.Cond.methodLink "java/util/Arrays" (343 : Nat) ({ cls := "java/util/Arrays", name := "checkLength", desc := "(II)V" } : Jvm.MethodName)) ∈ lw_all := lw_g (lw_at lw_m2 98 rfl) rfl
theorem q421 : (Jvm.Cond.static ({ cls := "java/util/Arrays", name := "checkLength", desc := "(II)V" } : Jvm.MethodName)) ∈ lw_all := lw_g (lw_at lw_m2 99 rfl) rfl
theorem q422 : (Jvm.Cond.code ({ cls := "java/util/Arrays", name := "checkLength", desc := "(II)V" } : Jvm.MethodName) prog_45_method_131_code (2 : Nat) (Option.none : Option Jvm.ClassFile.FieldType)) ∈ lw_all := lw_g (lw_at lw_m2 100 rfl) rfl
theorem q1012 : (Jvm.Cond.static ({ cls := "java/util/Arrays", name := "copyOf", desc := "([Ljava/lang/Object;I)[Ljava/lang/Object;" } : Jvm.MethodName)) ∈ lw_all := lw_g (lw_at lw_m4 210 rfl) rfl
theorem q1013 : (Jvm.Cond.code ({ cls := "java/util/Arrays", name := "copyOf", desc := "([Ljava/lang/Object;I)[Ljava/lang/Object;" } : Jvm.MethodName) prog_45_method_119_code (2 : Nat) (Option.some (Jvm.ClassFile.FieldType.array (Jvm.ClassFile.FieldType.object "java/lang/Object")))) ∈ lw_all := lw_g (lw_at lw_m4 211 rfl) rfl
theorem q1014 : (Jvm.Cond.methodLink "java/util/Arrays" (86 : Nat) ({ cls := "java/lang/Object", name := "getClass", desc := "()Ljava/lang/Class;" } : Jvm.MethodName)) ∈ lw_all := lw_g (lw_at lw_m4 212 rfl) rfl
theorem q1038 : (Jvm.Cond.methodLink "java/util/Arrays" (300 : Nat) ({ cls := "java/util/Arrays", name := "copyOf", desc := "([Ljava/lang/Object;ILjava/lang/Class;)[Ljava/lang/Object;" } : Jvm.MethodName)) ∈ lw_all := lw_g (lw_at lw_m4 236 rfl) rfl
theorem q1039 : (Jvm.Cond.static ({ cls := "java/util/Arrays", name := "copyOf", desc := "([Ljava/lang/Object;ILjava/lang/Class;)[Ljava/lang/Object;" } : Jvm.MethodName)) ∈ lw_all := lw_g (lw_at lw_m4 237 rfl) rfl
theorem q1040 : (Jvm.Cond.code ({ cls := "java/util/Arrays", name := "copyOf", desc := "([Ljava/lang/Object;ILjava/lang/Class;)[Ljava/lang/Object;" } : Jvm.MethodName) prog_45_method_120_code (4 : Nat) (Option.some (Jvm.ClassFile.FieldType.array (Jvm.ClassFile.FieldType.object "java/lang/Object")))) ∈ lw_all := lw_g (lw_at lw_m4 238 rfl) rfl
theorem q1041 : (Jvm.Cond.classLink "java/util/Arrays" (110 : Nat) "[Ljava/lang/Object;") ∈ lw_all := lw_g (lw_at lw_m4 239 rfl) rfl
theorem q1043 : (Jvm.Cond.classLink "java/util/Arrays" (2 : Nat) "java/lang/Object") ∈ lw_all := lw_g (lw_at lw_m5 1 rfl) rfl
theorem q1176 : (Jvm.Cond.static ({ cls := "java/util/Arrays", name := "fill", desc := "([II)V" } : Jvm.MethodName)) ∈ lw_all := lw_g (lw_at lw_m5 134 rfl) rfl
theorem q1177 : (Jvm.Cond.code ({ cls := "java/util/Arrays", name := "fill", desc := "([II)V" } : Jvm.MethodName) prog_45_method_103_code (4 : Nat) (Option.none : Option Jvm.ClassFile.FieldType)) ∈ lw_all := lw_g (lw_at lw_m5 135 rfl) rfl
theorem q1179 : (Jvm.Cond.static ({ cls := "java/util/Arrays", name := "fill", desc := "([BB)V" } : Jvm.MethodName)) ∈ lw_all := lw_g (lw_at lw_m5 137 rfl) rfl
theorem q1180 : (Jvm.Cond.code ({ cls := "java/util/Arrays", name := "fill", desc := "([BB)V" } : Jvm.MethodName) prog_45_method_109_code (4 : Nat) (Option.none : Option Jvm.ClassFile.FieldType)) ∈ lw_all := lw_g (lw_at lw_m5 138 rfl) rfl

/-! java/lang/Throwable -/
set_option maxRecDepth 100000
def RJ12 : String := "java/lang/Throwable"
def TJ12 : u_T := fun k => match k with
  | 0 => ("java/lang/Throwable", "cause", "Ljava/lang/Throwable;", false)
  | 1 => ("java/lang/Throwable", "stackTrace", "[Ljava/lang/StackTraceElement;", false)
  | 2 => ("java/lang/Throwable", "suppressedExceptions", "Ljava/util/List;", false)
  | 3 => ("java/lang/Throwable", "detailMessage", "Ljava/lang/String;", false)
  | _ => ("java/lang/Throwable", "backtrace", "Ljava/lang/Object;", false)
def tyJ12 : Nat → FieldType := fun k => match k with
  | 0 => .object "java/lang/Throwable"
  | 1 => .array (.object "java/lang/StackTraceElement")
  | 2 => .object "java/util/List"
  | 3 => .object "java/lang/String"
  | _ => .object "java/lang/Object"
abbrev wsJ120 : List Cond := u_ws RJ12 TJ12 5
theorem nmJ12 : ∀ a, a < 5 → ∀ b, b < 5 → a ≠ b → (TJ12 a).2.1 ≠ (TJ12 b).2.1 := by decide +kernel
theorem tyJ12_ok : ∀ k, k < 5 → parseFieldDescriptor (TJ12 k).2.2.1 = some (tyJ12 k) := by decide +kernel
abbrev cJ12_init : ByteArray := prog_39_method_1_code
def yJ12_init : MethodName := ⟨RJ12, "<init>", "()V"⟩
def dkwJ12_init_1 : List UInt8 := [182, 0, 27, 87, 177]
abbrev dktJ12_init_1 : List UInt8 := dkwJ12_init_1 ++ []
def dkwJ12_init_0 : List UInt8 := [42, 183, 0, 1, 42, 42, 181, 0, 7, 42, 178, 0, 13, 181, 0, 17, 42, 178, 0, 20, 181, 0, 24, 42]
abbrev dktJ12_init_0 : List UInt8 := dkwJ12_init_0 ++ dktJ12_init_1
theorem dksJ12_init_0 : cJ12_init.data.toList.drop 0 = dktJ12_init_0 := by decide +kernel
theorem dksJ12_init_1 : cJ12_init.data.toList.drop 24 = dktJ12_init_1 := dk_seg dksJ12_init_0 24 rfl rfl
theorem dJ12_init_0 : decode cJ12_init 0 = .ok (.aload_n 0, 1) := dk_42 (dk_at dksJ12_init_0 0 rfl rfl)
theorem dJ12_init_1 : decode cJ12_init 1 = .ok (.invokespecial 1, 3) := dk_183 0 1 (dk_at dksJ12_init_0 1 rfl rfl)
theorem dJ12_init_4 : decode cJ12_init 4 = .ok (.aload_n 0, 1) := dk_42 (dk_at dksJ12_init_0 4 rfl rfl)
theorem dJ12_init_5 : decode cJ12_init 5 = .ok (.aload_n 0, 1) := dk_42 (dk_at dksJ12_init_0 5 rfl rfl)
theorem dJ12_init_6 : decode cJ12_init 6 = .ok (.putfield 7, 3) := dk_181 0 7 (dk_at dksJ12_init_0 6 rfl rfl)
theorem dJ12_init_9 : decode cJ12_init 9 = .ok (.aload_n 0, 1) := dk_42 (dk_at dksJ12_init_0 9 rfl rfl)
theorem dJ12_init_10 : decode cJ12_init 10 = .ok (.getstatic 13, 3) := dk_178 0 13 (dk_at dksJ12_init_0 10 rfl rfl)
theorem dJ12_init_13 : decode cJ12_init 13 = .ok (.putfield 17, 3) := dk_181 0 17 (dk_at dksJ12_init_0 13 rfl rfl)
theorem dJ12_init_16 : decode cJ12_init 16 = .ok (.aload_n 0, 1) := dk_42 (dk_at dksJ12_init_0 16 rfl rfl)
theorem dJ12_init_17 : decode cJ12_init 17 = .ok (.getstatic 20, 3) := dk_178 0 20 (dk_at dksJ12_init_0 17 rfl rfl)
theorem dJ12_init_20 : decode cJ12_init 20 = .ok (.putfield 24, 3) := dk_181 0 24 (dk_at dksJ12_init_0 20 rfl rfl)
theorem dJ12_init_23 : decode cJ12_init 23 = .ok (.aload_n 0, 1) := dk_42 (dk_at dksJ12_init_0 23 rfl rfl)
theorem dJ12_init_24 : decode cJ12_init 24 = .ok (.invokevirtual 27, 3) := dk_182 0 27 (dk_at dksJ12_init_1 0 rfl rfl)
theorem dJ12_init_27 : decode cJ12_init 27 = .ok (.pop, 1) := dk_87 (dk_at dksJ12_init_1 3 rfl rfl)
theorem dJ12_init_28 : decode cJ12_init 28 = .ok (.return_, 1) := dk_177 (dk_at dksJ12_init_1 4 rfl rfl)
abbrev cJ12_init_2 : ByteArray := prog_39_method_5_code
def yJ12_init_2 : MethodName := ⟨RJ12, "<init>", "(Ljava/lang/String;Ljava/lang/Throwable;ZZ)V"⟩
def dkwJ12_init_2_2 : List UInt8 := [44, 181, 0, 7, 29, 154, 0, 8, 42, 1, 181, 0, 24, 177]
abbrev dktJ12_init_2_2 : List UInt8 := dkwJ12_init_2_2 ++ []
def dkwJ12_init_2_1 : List UInt8 := [21, 4, 153, 0, 11, 42, 182, 0, 27, 87, 167, 0, 8, 42, 1, 181, 0, 17, 42, 43, 181, 0, 31, 42]
abbrev dktJ12_init_2_1 : List UInt8 := dkwJ12_init_2_1 ++ dktJ12_init_2_2
def dkwJ12_init_2_0 : List UInt8 := [42, 183, 0, 1, 42, 42, 181, 0, 7, 42, 178, 0, 13, 181, 0, 17, 42, 178, 0, 20, 181, 0, 24]
abbrev dktJ12_init_2_0 : List UInt8 := dkwJ12_init_2_0 ++ dktJ12_init_2_1
theorem dksJ12_init_2_0 : cJ12_init_2.data.toList.drop 0 = dktJ12_init_2_0 := by decide +kernel
theorem dksJ12_init_2_1 : cJ12_init_2.data.toList.drop 23 = dktJ12_init_2_1 := dk_seg dksJ12_init_2_0 23 rfl rfl
theorem dksJ12_init_2_2 : cJ12_init_2.data.toList.drop 47 = dktJ12_init_2_2 := dk_seg dksJ12_init_2_1 24 rfl rfl
theorem dJ12_init_2_0 : decode cJ12_init_2 0 = .ok (.aload_n 0, 1) := dk_42 (dk_at dksJ12_init_2_0 0 rfl rfl)
theorem dJ12_init_2_1 : decode cJ12_init_2 1 = .ok (.invokespecial 1, 3) := dk_183 0 1 (dk_at dksJ12_init_2_0 1 rfl rfl)
theorem dJ12_init_2_4 : decode cJ12_init_2 4 = .ok (.aload_n 0, 1) := dk_42 (dk_at dksJ12_init_2_0 4 rfl rfl)
theorem dJ12_init_2_5 : decode cJ12_init_2 5 = .ok (.aload_n 0, 1) := dk_42 (dk_at dksJ12_init_2_0 5 rfl rfl)
theorem dJ12_init_2_6 : decode cJ12_init_2 6 = .ok (.putfield 7, 3) := dk_181 0 7 (dk_at dksJ12_init_2_0 6 rfl rfl)
theorem dJ12_init_2_9 : decode cJ12_init_2 9 = .ok (.aload_n 0, 1) := dk_42 (dk_at dksJ12_init_2_0 9 rfl rfl)
theorem dJ12_init_2_10 : decode cJ12_init_2 10 = .ok (.getstatic 13, 3) := dk_178 0 13 (dk_at dksJ12_init_2_0 10 rfl rfl)
theorem dJ12_init_2_13 : decode cJ12_init_2 13 = .ok (.putfield 17, 3) := dk_181 0 17 (dk_at dksJ12_init_2_0 13 rfl rfl)
theorem dJ12_init_2_16 : decode cJ12_init_2 16 = .ok (.aload_n 0, 1) := dk_42 (dk_at dksJ12_init_2_0 16 rfl rfl)
theorem dJ12_init_2_17 : decode cJ12_init_2 17 = .ok (.getstatic 20, 3) := dk_178 0 20 (dk_at dksJ12_init_2_0 17 rfl rfl)
theorem dJ12_init_2_20 : decode cJ12_init_2 20 = .ok (.putfield 24, 3) := dk_181 0 24 (dk_at dksJ12_init_2_0 20 rfl rfl)
theorem dJ12_init_2_23 : decode cJ12_init_2 23 = .ok (.iload 4, 2) := dk_21 4 (dk_at dksJ12_init_2_1 0 rfl rfl)
theorem dJ12_init_2_25 : decode cJ12_init_2 25 = .ok (.ifCond .eq 11, 3) := dk_153 0 11 (dk_at dksJ12_init_2_1 2 rfl rfl)
theorem dJ12_init_2_28 : decode cJ12_init_2 28 = .ok (.aload_n 0, 1) := dk_42 (dk_at dksJ12_init_2_1 5 rfl rfl)
theorem dJ12_init_2_29 : decode cJ12_init_2 29 = .ok (.invokevirtual 27, 3) := dk_182 0 27 (dk_at dksJ12_init_2_1 6 rfl rfl)
theorem dJ12_init_2_32 : decode cJ12_init_2 32 = .ok (.pop, 1) := dk_87 (dk_at dksJ12_init_2_1 9 rfl rfl)
theorem dJ12_init_2_33 : decode cJ12_init_2 33 = .ok (.goto 8, 3) := dk_167 0 8 (dk_at dksJ12_init_2_1 10 rfl rfl)
theorem dJ12_init_2_36 : decode cJ12_init_2 36 = .ok (.aload_n 0, 1) := dk_42 (dk_at dksJ12_init_2_1 13 rfl rfl)
theorem dJ12_init_2_37 : decode cJ12_init_2 37 = .ok (.aconst_null, 1) := dk_1 (dk_at dksJ12_init_2_1 14 rfl rfl)
theorem dJ12_init_2_38 : decode cJ12_init_2 38 = .ok (.putfield 17, 3) := dk_181 0 17 (dk_at dksJ12_init_2_1 15 rfl rfl)
theorem dJ12_init_2_41 : decode cJ12_init_2 41 = .ok (.aload_n 0, 1) := dk_42 (dk_at dksJ12_init_2_1 18 rfl rfl)
theorem dJ12_init_2_42 : decode cJ12_init_2 42 = .ok (.aload_n 1, 1) := dk_43 (dk_at dksJ12_init_2_1 19 rfl rfl)
theorem dJ12_init_2_43 : decode cJ12_init_2 43 = .ok (.putfield 31, 3) := dk_181 0 31 (dk_at dksJ12_init_2_1 20 rfl rfl)
theorem dJ12_init_2_46 : decode cJ12_init_2 46 = .ok (.aload_n 0, 1) := dk_42 (dk_at dksJ12_init_2_1 23 rfl rfl)
theorem dJ12_init_2_47 : decode cJ12_init_2 47 = .ok (.aload_n 2, 1) := dk_44 (dk_at dksJ12_init_2_2 0 rfl rfl)
theorem dJ12_init_2_48 : decode cJ12_init_2 48 = .ok (.putfield 7, 3) := dk_181 0 7 (dk_at dksJ12_init_2_2 1 rfl rfl)
theorem dJ12_init_2_51 : decode cJ12_init_2 51 = .ok (.iload_n 3, 1) := dk_29 (dk_at dksJ12_init_2_2 4 rfl rfl)
theorem dJ12_init_2_52 : decode cJ12_init_2 52 = .ok (.ifCond .ne 8, 3) := dk_154 0 8 (dk_at dksJ12_init_2_2 5 rfl rfl)
theorem dJ12_init_2_55 : decode cJ12_init_2 55 = .ok (.aload_n 0, 1) := dk_42 (dk_at dksJ12_init_2_2 8 rfl rfl)
theorem dJ12_init_2_56 : decode cJ12_init_2 56 = .ok (.aconst_null, 1) := dk_1 (dk_at dksJ12_init_2_2 9 rfl rfl)
theorem dJ12_init_2_57 : decode cJ12_init_2 57 = .ok (.putfield 24, 3) := dk_181 0 24 (dk_at dksJ12_init_2_2 10 rfl rfl)
theorem dJ12_init_2_60 : decode cJ12_init_2 60 = .ok (.return_, 1) := dk_177 (dk_at dksJ12_init_2_2 13 rfl rfl)
theorem q99 : (Jvm.Cond.initialized "java/lang/Throwable") ∈ lw_all := lw_g (lw_at lw_m1 17 rfl) rfl
theorem q457 : (Jvm.Cond.declares ({ cls := "java/lang/Throwable", name := "<init>", desc := "()V" } : Jvm.MethodName)) ∈ lw_tbl := lw_at lw_m2 135 rfl
theorem q458 : (Jvm.Cond.declares ({ cls := "java/lang/Throwable", name := "<init>", desc := "(Ljava/lang/String;)V" } : Jvm.MethodName)) ∈ lw_tbl := lw_at lw_m2 136 rfl
theorem q462 : (Jvm.Cond.lays "java/lang/Throwable" "java/lang/Throwable" "cause" "Ljava/lang/Throwable;") ∈ lw_all := lw_g (lw_at lw_m2 140 rfl) rfl
theorem q464 : (Jvm.Cond.lays "java/lang/Throwable" "java/lang/Throwable" "stackTrace" "[Ljava/lang/StackTraceElement;") ∈ lw_all := lw_g (lw_at lw_m2 142 rfl) rfl
theorem q466 : (Jvm.Cond.lays "java/lang/Throwable" "java/lang/Throwable" "suppressedExceptions" "Ljava/util/List;") ∈ lw_all := lw_g (lw_at lw_m2 144 rfl) rfl
theorem q468 : (Jvm.Cond.lays "java/lang/Throwable" "java/lang/Throwable" "detailMessage" "Ljava/lang/String;") ∈ lw_all := lw_g (lw_at lw_m2 146 rfl) rfl
theorem q470 : (Jvm.Cond.lays "java/lang/Throwable" "java/lang/Throwable" "backtrace" "Ljava/lang/Object;") ∈ lw_all := lw_g (lw_at lw_m2 148 rfl) rfl
theorem q471 : (Jvm.Cond.fieldLink "java/lang/Throwable" (198 : Nat) "java/lang/Throwable" "backtrace" "Ljava/lang/Object;") ∈ lw_all := lw_g (lw_at lw_m2 149 rfl) rfl
theorem q472 : (Jvm.Cond.superclass "java/lang/Throwable" "java/lang/Object") ∈ lw_all := lw_g (lw_at lw_m2 150 rfl) rfl
theorem q473 : (Jvm.Cond.instanceMethod ({ cls := "java/lang/Throwable", name := "<init>", desc := "()V" } : Jvm.MethodName)) ∈ lw_all := lw_g (lw_at lw_m2 151 rfl) rfl
theorem q474 : (Jvm.Cond.code ({ cls := "java/lang/Throwable", name := "<init>", desc := "()V" } : Jvm.MethodName) prog_39_method_1_code (1 : Nat) (Option.none : Option Jvm.ClassFile.FieldType)) ∈ lw_all := lw_g (lw_at lw_m2 152 rfl) rfl
theorem q475 : (Jvm.Cond.methodLink "java/lang/Throwable" (1 : Nat) ({ cls := "java/lang/Object", name := "<init>", desc := "()V" } : Jvm.MethodName)) ∈ lw_all := lw_g (lw_at lw_m2 153 rfl) rfl
theorem q476 : (Jvm.Cond.fieldLink "java/lang/Throwable" (13 : Nat) "java/lang/Throwable" "UNASSIGNED_STACK" "[Ljava/lang/StackTraceElement;") ∈ lw_all := lw_g (lw_at lw_m2 154 rfl) rfl
theorem q477 : (Jvm.Cond.laysStatic "java/lang/Throwable" "UNASSIGNED_STACK" "[Ljava/lang/StackTraceElement;") ∈ lw_tbl := lw_at lw_m2 155 rfl
theorem q478 : (Jvm.Cond.fieldLink "java/lang/Throwable" (20 : Nat) "java/lang/Throwable" "SUPPRESSED_SENTINEL" "Ljava/util/List;") ∈ lw_all := lw_g (lw_at lw_m2 156 rfl) rfl
theorem q479 : (Jvm.Cond.laysStatic "java/lang/Throwable" "SUPPRESSED_SENTINEL" "Ljava/util/List;") ∈ lw_tbl := lw_at lw_m2 157 rfl
theorem q480 : (Jvm.Cond.methodLink "java/lang/Throwable" (27 : Nat) ({ cls := "java/lang/Throwable", name := "fillInStackTrace", desc := "()Ljava/lang/Throwable;" } : Jvm.MethodName)) ∈ lw_all := lw_g (lw_at lw_m2 158 rfl) rfl
theorem q481 : (Jvm.Cond.instanceMethod ({ cls := "java/lang/Throwable", name := "fillInStackTrace", desc := "()Ljava/lang/Throwable;" } : Jvm.MethodName)) ∈ lw_all := lw_g (lw_at lw_m2 159 rfl) rfl
theorem q482 : (Jvm.Cond.sameMethod "java/lang/Throwable" "java/lang/Throwable" "fillInStackTrace" "()Ljava/lang/Throwable;") ∈ lw_all := lw_g (lw_at lw_m2 160 rfl) rfl
theorem q484 : (Jvm.Cond.codeSync ({ cls := "java/lang/Throwable", name := "fillInStackTrace", desc := "()Ljava/lang/Throwable;" } : Jvm.MethodName) prog_39_method_18_code (1 : Nat) (Option.some (Jvm.ClassFile.FieldType.object "java/lang/Throwable"))) ∈ lw_all := lw_g (lw_at lw_m2 162 rfl) rfl
theorem q485 : (Jvm.Cond.methodLink "java/lang/Throwable" (202 : Nat) ({ cls := "java/lang/Throwable", name := "fillInStackTrace", desc := "(I)Ljava/lang/Throwable;" } : Jvm.MethodName)) ∈ lw_all := lw_g (lw_at lw_m2 163 rfl) rfl
theorem q486 : (Jvm.Cond.privateMethod ({ cls := "java/lang/Throwable", name := "fillInStackTrace", desc := "(I)Ljava/lang/Throwable;" } : Jvm.MethodName)) ∈ lw_tbl := lw_at lw_m2 164 rfl
theorem q487 : (Jvm.Cond.instanceMethod ({ cls := "java/lang/Throwable", name := "fillInStackTrace", desc := "(I)Ljava/lang/Throwable;" } : Jvm.MethodName)) ∈ lw_all := lw_g (lw_at lw_m2 165 rfl) rfl
theorem q488 : (Jvm.Cond.instantiable "java/lang/Throwable" (6 : Nat)) ∈ lw_all := lw_g (lw_at lw_m2 166 rfl) rfl
theorem q489 : (Jvm.Cond.native ({ cls := "java/lang/Throwable", name := "fillInStackTrace", desc := "(I)Ljava/lang/Throwable;" } : Jvm.MethodName)) ∈ lw_all := lw_g (lw_at lw_m2 167 rfl) rfl
theorem q500 : (Jvm.Cond.instanceMethod ({ cls := "java/lang/Throwable", name := "<init>", desc := "(Ljava/lang/String;Ljava/lang/Throwable;ZZ)V" } : Jvm.MethodName)) ∈ lw_all := lw_g (lw_at lw_m2 178 rfl) rfl
theorem q501 : (Jvm.Cond.code ({ cls := "java/lang/Throwable", name := "<init>", desc := "(Ljava/lang/String;Ljava/lang/Throwable;ZZ)V" } : Jvm.MethodName) prog_39_method_5_code (5 : Nat) (Option.none : Option Jvm.ClassFile.FieldType)) ∈ lw_all := lw_g (lw_at lw_m2 179 rfl) rfl
theorem q504 : (Jvm.Cond.fieldLink "java/lang/Throwable" (198 : Nat) "java/lang/Throwable" "backtrace" "Ljava/lang/Object;") ∈ lw_all := lw_g (lw_at lw_m2 182 rfl) rfl
theorem q505 : (Jvm.Cond.fieldLink "java/lang/Throwable" (31 : Nat) "java/lang/Throwable" "detailMessage" "Ljava/lang/String;") ∈ lw_all := lw_g (lw_at lw_m2 183 rfl) rfl
theorem q506 : (Jvm.Cond.fieldLink "java/lang/Throwable" (7 : Nat) "java/lang/Throwable" "cause" "Ljava/lang/Throwable;") ∈ lw_all := lw_g (lw_at lw_m2 184 rfl) rfl
theorem q507 : (Jvm.Cond.fieldLink "java/lang/Throwable" (17 : Nat) "java/lang/Throwable" "stackTrace" "[Ljava/lang/StackTraceElement;") ∈ lw_all := lw_g (lw_at lw_m2 185 rfl) rfl
theorem q508 : (Jvm.Cond.fieldLink "java/lang/Throwable" (24 : Nat) "java/lang/Throwable" "suppressedExceptions" "Ljava/util/List;") ∈ lw_all := lw_g (lw_at lw_m2 186 rfl) rfl
theorem q511 : (Jvm.Cond.soleField "java/lang/Throwable" "backtrace") ∈ lw_all := lw_g (lw_at lw_m2 189 rfl) rfl
theorem q512 : (Jvm.Cond.soleField "java/lang/Throwable" "detailMessage") ∈ lw_all := lw_g (lw_at lw_m2 190 rfl) rfl
theorem q513 : (Jvm.Cond.soleField "java/lang/Throwable" "cause") ∈ lw_all := lw_g (lw_at lw_m2 191 rfl) rfl
theorem q514 : (Jvm.Cond.soleField "java/lang/Throwable" "stackTrace") ∈ lw_all := lw_g (lw_at lw_m2 192 rfl) rfl
theorem q516 : (Jvm.Cond.soleField "java/lang/Throwable" "depth") ∈ lw_all := lw_g (lw_at lw_m2 194 rfl) rfl
theorem q517 : (Jvm.Cond.soleField "java/lang/Throwable" "suppressedExceptions") ∈ lw_all := lw_g (lw_at lw_m2 195 rfl) rfl
theorem q1942 : (Jvm.Cond.sameMethod "java/lang/Throwable" "java/lang/Throwable" "fillInStackTrace" "(I)Ljava/lang/Throwable;") ∈ lw_all := lw_g (lw_at lw_m8 180 rfl) rfl
theorem q1975 : (Jvm.Cond.castable "java/lang/Throwable" "java/lang/Object") ∈ lw_tbl := lw_at lw_m8 213 rfl
theorem in_J12 : ∀ w ∈ wsJ120, w ∈ lw_all := lw_in wsJ120 [462, 464, 466, 468, 470] (by decide +kernel) (by decide +kernel)

/-! java/lang/Exception -/
set_option maxRecDepth 100000
def RJ13 : String := "java/lang/Exception"
abbrev cJ13_init : ByteArray := prog_27_method_5_code
def yJ13_init : MethodName := ⟨RJ13, "<init>", "(Ljava/lang/String;Ljava/lang/Throwable;ZZ)V"⟩
def dkwJ13_init_0 : List UInt8 := [42, 43, 44, 29, 21, 4, 183, 0, 16, 177]
abbrev dktJ13_init_0 : List UInt8 := dkwJ13_init_0 ++ []
theorem dksJ13_init_0 : cJ13_init.data.toList.drop 0 = dktJ13_init_0 := by decide +kernel
theorem dJ13_init_0 : decode cJ13_init 0 = .ok (.aload_n 0, 1) := dk_42 (dk_at dksJ13_init_0 0 rfl rfl)
theorem dJ13_init_1 : decode cJ13_init 1 = .ok (.aload_n 1, 1) := dk_43 (dk_at dksJ13_init_0 1 rfl rfl)
theorem dJ13_init_2 : decode cJ13_init 2 = .ok (.aload_n 2, 1) := dk_44 (dk_at dksJ13_init_0 2 rfl rfl)
theorem dJ13_init_3 : decode cJ13_init 3 = .ok (.iload_n 3, 1) := dk_29 (dk_at dksJ13_init_0 3 rfl rfl)
theorem dJ13_init_4 : decode cJ13_init 4 = .ok (.iload 4, 2) := dk_21 4 (dk_at dksJ13_init_0 4 rfl rfl)
theorem dJ13_init_6 : decode cJ13_init 6 = .ok (.invokespecial 16, 3) := dk_183 0 16 (dk_at dksJ13_init_0 6 rfl rfl)
theorem dJ13_init_9 : decode cJ13_init 9 = .ok (.return_, 1) := dk_177 (dk_at dksJ13_init_0 9 rfl rfl)
theorem q100 : (Jvm.Cond.initialized "java/lang/Exception") ∈ lw_all := lw_g (lw_at lw_m1 18 rfl) rfl
theorem q455 : (Jvm.Cond.declares ({ cls := "java/lang/Exception", name := "<init>", desc := "()V" } : Jvm.MethodName)) ∈ lw_tbl := lw_at lw_m2 133 rfl
theorem q456 : (Jvm.Cond.declares ({ cls := "java/lang/Exception", name := "<init>", desc := "(Ljava/lang/String;)V" } : Jvm.MethodName)) ∈ lw_tbl := lw_at lw_m2 134 rfl
theorem q497 : (Jvm.Cond.instanceMethod ({ cls := "java/lang/Exception", name := "<init>", desc := "(Ljava/lang/String;Ljava/lang/Throwable;ZZ)V" } : Jvm.MethodName)) ∈ lw_all := lw_g (lw_at lw_m2 175 rfl) rfl
theorem q498 : (Jvm.Cond.code ({ cls := "java/lang/Exception", name := "<init>", desc := "(Ljava/lang/String;Ljava/lang/Throwable;ZZ)V" } : Jvm.MethodName) prog_27_method_5_code (5 : Nat) (Option.none : Option Jvm.ClassFile.FieldType)) ∈ lw_all := lw_g (lw_at lw_m2 176 rfl) rfl
theorem q499 : (Jvm.Cond.methodLink "java/lang/Exception" (16 : Nat) ({ cls := "java/lang/Throwable", name := "<init>", desc := "(Ljava/lang/String;Ljava/lang/Throwable;ZZ)V" } : Jvm.MethodName)) ∈ lw_all := lw_g (lw_at lw_m2 177 rfl) rfl

/-! java/lang/RuntimeException -/
set_option maxRecDepth 100000
def RJ14 : String := "java/lang/RuntimeException"
abbrev cJ14_init : ByteArray := prog_33_method_5_code
def yJ14_init : MethodName := ⟨RJ14, "<init>", "(Ljava/lang/String;Ljava/lang/Throwable;ZZ)V"⟩
def dkwJ14_init_0 : List UInt8 := [42, 43, 44, 29, 21, 4, 183, 0, 16, 177]
abbrev dktJ14_init_0 : List UInt8 := dkwJ14_init_0 ++ []
theorem dksJ14_init_0 : cJ14_init.data.toList.drop 0 = dktJ14_init_0 := by decide +kernel
theorem dJ14_init_0 : decode cJ14_init 0 = .ok (.aload_n 0, 1) := dk_42 (dk_at dksJ14_init_0 0 rfl rfl)
theorem dJ14_init_1 : decode cJ14_init 1 = .ok (.aload_n 1, 1) := dk_43 (dk_at dksJ14_init_0 1 rfl rfl)
theorem dJ14_init_2 : decode cJ14_init 2 = .ok (.aload_n 2, 1) := dk_44 (dk_at dksJ14_init_0 2 rfl rfl)
theorem dJ14_init_3 : decode cJ14_init 3 = .ok (.iload_n 3, 1) := dk_29 (dk_at dksJ14_init_0 3 rfl rfl)
theorem dJ14_init_4 : decode cJ14_init 4 = .ok (.iload 4, 2) := dk_21 4 (dk_at dksJ14_init_0 4 rfl rfl)
theorem dJ14_init_6 : decode cJ14_init 6 = .ok (.invokespecial 16, 3) := dk_183 0 16 (dk_at dksJ14_init_0 6 rfl rfl)
theorem dJ14_init_9 : decode cJ14_init 9 = .ok (.return_, 1) := dk_177 (dk_at dksJ14_init_0 9 rfl rfl)
theorem q101 : (Jvm.Cond.initialized "java/lang/RuntimeException") ∈ lw_all := lw_g (lw_at lw_m1 19 rfl) rfl
theorem q453 : (Jvm.Cond.declares ({ cls := "java/lang/RuntimeException", name := "<init>", desc := "()V" } : Jvm.MethodName)) ∈ lw_tbl := lw_at lw_m2 131 rfl
theorem q454 : (Jvm.Cond.declares ({ cls := "java/lang/RuntimeException", name := "<init>", desc := "(Ljava/lang/String;)V" } : Jvm.MethodName)) ∈ lw_tbl := lw_at lw_m2 132 rfl
theorem q494 : (Jvm.Cond.instanceMethod ({ cls := "java/lang/RuntimeException", name := "<init>", desc := "(Ljava/lang/String;Ljava/lang/Throwable;ZZ)V" } : Jvm.MethodName)) ∈ lw_all := lw_g (lw_at lw_m2 172 rfl) rfl
theorem q495 : (Jvm.Cond.code ({ cls := "java/lang/RuntimeException", name := "<init>", desc := "(Ljava/lang/String;Ljava/lang/Throwable;ZZ)V" } : Jvm.MethodName) prog_33_method_5_code (5 : Nat) (Option.none : Option Jvm.ClassFile.FieldType)) ∈ lw_all := lw_g (lw_at lw_m2 173 rfl) rfl
theorem q496 : (Jvm.Cond.methodLink "java/lang/RuntimeException" (16 : Nat) ({ cls := "java/lang/Exception", name := "<init>", desc := "(Ljava/lang/String;Ljava/lang/Throwable;ZZ)V" } : Jvm.MethodName)) ∈ lw_all := lw_g (lw_at lw_m2 174 rfl) rfl

/-! java/lang/Character -/
set_option maxRecDepth 100000
def RJ15 : String := "java/lang/Character"
abbrev cJ15_isValidCodePoint : ByteArray := prog_24_method_11_code
def yJ15_isValidCodePoint : MethodName := ⟨RJ15, "isValidCodePoint", "(I)Z"⟩
def dkwJ15_isValidCodePoint_0 : List UInt8 := [26, 16, 16, 124, 60, 27, 16, 17, 162, 0, 7, 4, 167, 0, 4, 3, 172]
abbrev dktJ15_isValidCodePoint_0 : List UInt8 := dkwJ15_isValidCodePoint_0 ++ []
theorem dksJ15_isValidCodePoint_0 : cJ15_isValidCodePoint.data.toList.drop 0 = dktJ15_isValidCodePoint_0 := by decide +kernel
theorem dJ15_isValidCodePoint_0 : decode cJ15_isValidCodePoint 0 = .ok (.iload_n 0, 1) := dk_26 (dk_at dksJ15_isValidCodePoint_0 0 rfl rfl)
theorem dJ15_isValidCodePoint_1 : decode cJ15_isValidCodePoint 1 = .ok (.bipush 16, 2) := dk_16 16 (dk_at dksJ15_isValidCodePoint_0 1 rfl rfl)
theorem dJ15_isValidCodePoint_3 : decode cJ15_isValidCodePoint 3 = .ok (.iushr, 1) := dk_124 (dk_at dksJ15_isValidCodePoint_0 3 rfl rfl)
theorem dJ15_isValidCodePoint_4 : decode cJ15_isValidCodePoint 4 = .ok (.istore_n 1, 1) := dk_60 (dk_at dksJ15_isValidCodePoint_0 4 rfl rfl)
theorem dJ15_isValidCodePoint_5 : decode cJ15_isValidCodePoint 5 = .ok (.iload_n 1, 1) := dk_27 (dk_at dksJ15_isValidCodePoint_0 5 rfl rfl)
theorem dJ15_isValidCodePoint_6 : decode cJ15_isValidCodePoint 6 = .ok (.bipush 17, 2) := dk_16 17 (dk_at dksJ15_isValidCodePoint_0 6 rfl rfl)
theorem dJ15_isValidCodePoint_8 : decode cJ15_isValidCodePoint 8 = .ok (.if_icmp .ge 7, 3) := dk_162 0 7 (dk_at dksJ15_isValidCodePoint_0 8 rfl rfl)
theorem dJ15_isValidCodePoint_11 : decode cJ15_isValidCodePoint 11 = .ok (.iconst 1, 1) := dk_4 (dk_at dksJ15_isValidCodePoint_0 11 rfl rfl)
theorem dJ15_isValidCodePoint_12 : decode cJ15_isValidCodePoint 12 = .ok (.goto 4, 3) := dk_167 0 4 (dk_at dksJ15_isValidCodePoint_0 12 rfl rfl)
theorem dJ15_isValidCodePoint_15 : decode cJ15_isValidCodePoint 15 = .ok (.iconst 0, 1) := dk_3 (dk_at dksJ15_isValidCodePoint_0 15 rfl rfl)
theorem dJ15_isValidCodePoint_16 : decode cJ15_isValidCodePoint 16 = .ok (.ireturn, 1) := dk_172 (dk_at dksJ15_isValidCodePoint_0 16 rfl rfl)
abbrev cJ15_highSurrogate : ByteArray := prog_24_method_28_code
def yJ15_highSurrogate : MethodName := ⟨RJ15, "highSurrogate", "(I)C"⟩
def dkwJ15_highSurrogate_0 : List UInt8 := [26, 16, 10, 124, 18, 110, 96, 146, 172]
abbrev dktJ15_highSurrogate_0 : List UInt8 := dkwJ15_highSurrogate_0 ++ []
theorem dksJ15_highSurrogate_0 : cJ15_highSurrogate.data.toList.drop 0 = dktJ15_highSurrogate_0 := by decide +kernel
theorem dJ15_highSurrogate_0 : decode cJ15_highSurrogate 0 = .ok (.iload_n 0, 1) := dk_26 (dk_at dksJ15_highSurrogate_0 0 rfl rfl)
theorem dJ15_highSurrogate_1 : decode cJ15_highSurrogate 1 = .ok (.bipush 10, 2) := dk_16 10 (dk_at dksJ15_highSurrogate_0 1 rfl rfl)
theorem dJ15_highSurrogate_3 : decode cJ15_highSurrogate 3 = .ok (.iushr, 1) := dk_124 (dk_at dksJ15_highSurrogate_0 3 rfl rfl)
theorem dJ15_highSurrogate_4 : decode cJ15_highSurrogate 4 = .ok (.ldc 110, 2) := dk_18 110 (dk_at dksJ15_highSurrogate_0 4 rfl rfl)
theorem dJ15_highSurrogate_6 : decode cJ15_highSurrogate 6 = .ok (.iadd, 1) := dk_96 (dk_at dksJ15_highSurrogate_0 6 rfl rfl)
theorem dJ15_highSurrogate_7 : decode cJ15_highSurrogate 7 = .ok (.i2c, 1) := dk_146 (dk_at dksJ15_highSurrogate_0 7 rfl rfl)
theorem dJ15_highSurrogate_8 : decode cJ15_highSurrogate 8 = .ok (.ireturn, 1) := dk_172 (dk_at dksJ15_highSurrogate_0 8 rfl rfl)
abbrev cJ15_lowSurrogate : ByteArray := prog_24_method_29_code
def yJ15_lowSurrogate : MethodName := ⟨RJ15, "lowSurrogate", "(I)C"⟩
def dkwJ15_lowSurrogate_0 : List UInt8 := [26, 17, 3, 255, 126, 18, 76, 96, 146, 172]
abbrev dktJ15_lowSurrogate_0 : List UInt8 := dkwJ15_lowSurrogate_0 ++ []
theorem dksJ15_lowSurrogate_0 : cJ15_lowSurrogate.data.toList.drop 0 = dktJ15_lowSurrogate_0 := by decide +kernel
theorem dJ15_lowSurrogate_0 : decode cJ15_lowSurrogate 0 = .ok (.iload_n 0, 1) := dk_26 (dk_at dksJ15_lowSurrogate_0 0 rfl rfl)
theorem dJ15_lowSurrogate_1 : decode cJ15_lowSurrogate 1 = .ok (.sipush 1023, 3) := dk_17 3 255 (dk_at dksJ15_lowSurrogate_0 1 rfl rfl)
theorem dJ15_lowSurrogate_4 : decode cJ15_lowSurrogate 4 = .ok (.iand, 1) := dk_126 (dk_at dksJ15_lowSurrogate_0 4 rfl rfl)
theorem dJ15_lowSurrogate_5 : decode cJ15_lowSurrogate 5 = .ok (.ldc 76, 2) := dk_18 76 (dk_at dksJ15_lowSurrogate_0 5 rfl rfl)
theorem dJ15_lowSurrogate_7 : decode cJ15_lowSurrogate 7 = .ok (.iadd, 1) := dk_96 (dk_at dksJ15_lowSurrogate_0 7 rfl rfl)
theorem dJ15_lowSurrogate_8 : decode cJ15_lowSurrogate 8 = .ok (.i2c, 1) := dk_146 (dk_at dksJ15_lowSurrogate_0 8 rfl rfl)
theorem dJ15_lowSurrogate_9 : decode cJ15_lowSurrogate 9 = .ok (.ireturn, 1) := dk_172 (dk_at dksJ15_lowSurrogate_0 9 rfl rfl)
theorem q103 : (Jvm.Cond.initialized "java/lang/Character") ∈ lw_all := lw_g (lw_at lw_m1 21 rfl) rfl
theorem q565 : (Jvm.Cond.static ({ cls := "java/lang/Character", name := "isValidCodePoint", desc := "(I)Z" } : Jvm.MethodName)) ∈ lw_all := lw_g (lw_at lw_m3 3 rfl) rfl
theorem q566 : (Jvm.Cond.code ({ cls := "java/lang/Character", name := "isValidCodePoint", desc := "(I)Z" } : Jvm.MethodName) prog_24_method_11_code (2 : Nat) (Option.some Jvm.ClassFile.FieldType.boolean)) ∈ lw_all := lw_g (lw_at lw_m3 4 rfl) rfl
theorem q568 : (Jvm.Cond.static ({ cls := "java/lang/Character", name := "highSurrogate", desc := "(I)C" } : Jvm.MethodName)) ∈ lw_all := lw_g (lw_at lw_m3 6 rfl) rfl
theorem q569 : (Jvm.Cond.code ({ cls := "java/lang/Character", name := "highSurrogate", desc := "(I)C" } : Jvm.MethodName) prog_24_method_28_code (1 : Nat) (Option.some Jvm.ClassFile.FieldType.char)) ∈ lw_all := lw_g (lw_at lw_m3 7 rfl) rfl
theorem q570 : (Jvm.Cond.constant "java/lang/Character" (110 : Nat) (55232 : Int32)) ∈ lw_all := lw_g (lw_at lw_m3 8 rfl) rfl
theorem q572 : (Jvm.Cond.static ({ cls := "java/lang/Character", name := "lowSurrogate", desc := "(I)C" } : Jvm.MethodName)) ∈ lw_all := lw_g (lw_at lw_m3 10 rfl) rfl
theorem q573 : (Jvm.Cond.code ({ cls := "java/lang/Character", name := "lowSurrogate", desc := "(I)C" } : Jvm.MethodName) prog_24_method_29_code (1 : Nat) (Option.some Jvm.ClassFile.FieldType.char)) ∈ lw_all := lw_g (lw_at lw_m3 11 rfl) rfl
theorem q574 : (Jvm.Cond.constant "java/lang/Character" (76 : Nat) (56320 : Int32)) ∈ lw_all := lw_g (lw_at lw_m3 12 rfl) rfl

/-! java/util/Objects -/
set_option maxRecDepth 100000
def RJ16 : String := "java/util/Objects"
abbrev cJ16_checkIndex : ByteArray := prog_48_method_17_code
def yJ16_checkIndex : MethodName := ⟨RJ16, "checkIndex", "(II)I"⟩
def dkwJ16_checkIndex_0 : List UInt8 := [26, 27, 1, 184, 0, 105, 172]
abbrev dktJ16_checkIndex_0 : List UInt8 := dkwJ16_checkIndex_0 ++ []
theorem dksJ16_checkIndex_0 : cJ16_checkIndex.data.toList.drop 0 = dktJ16_checkIndex_0 := by decide +kernel
theorem dJ16_checkIndex_0 : decode cJ16_checkIndex 0 = .ok (.iload_n 0, 1) := dk_26 (dk_at dksJ16_checkIndex_0 0 rfl rfl)
theorem dJ16_checkIndex_1 : decode cJ16_checkIndex 1 = .ok (.iload_n 1, 1) := dk_27 (dk_at dksJ16_checkIndex_0 1 rfl rfl)
theorem dJ16_checkIndex_2 : decode cJ16_checkIndex 2 = .ok (.aconst_null, 1) := dk_1 (dk_at dksJ16_checkIndex_0 2 rfl rfl)
theorem dJ16_checkIndex_3 : decode cJ16_checkIndex 3 = .ok (.invokestatic 105, 3) := dk_184 0 105 (dk_at dksJ16_checkIndex_0 3 rfl rfl)
theorem dJ16_checkIndex_6 : decode cJ16_checkIndex 6 = .ok (.ireturn, 1) := dk_172 (dk_at dksJ16_checkIndex_0 6 rfl rfl)
theorem q114 : (Jvm.Cond.initialized "java/util/Objects") ∈ lw_all := lw_g (lw_at lw_m1 32 rfl) rfl
theorem q1059 : (Jvm.Cond.static ({ cls := "java/util/Objects", name := "checkIndex", desc := "(II)I" } : Jvm.MethodName)) ∈ lw_all := lw_g (lw_at lw_m5 17 rfl) rfl
theorem q1060 : (Jvm.Cond.code ({ cls := "java/util/Objects", name := "checkIndex", desc := "(II)I" } : Jvm.MethodName) prog_48_method_17_code (2 : Nat) (Option.some Jvm.ClassFile.FieldType.int)) ∈ lw_all := lw_g (lw_at lw_m5 18 rfl) rfl
theorem q1061 : (Jvm.Cond.methodLink "java/util/Objects" (105 : Nat) ({ cls := "jdk/internal/util/Preconditions", name := "checkIndex", desc := "(IILjava/util/function/BiFunction;)I" } : Jvm.MethodName)) ∈ lw_all := lw_g (lw_at lw_m5 19 rfl) rfl

/-! java/lang/Number -/
set_option maxRecDepth 100000
def RJ17 : String := "java/lang/Number"
abbrev cJ17_init : ByteArray := prog_32_method_1_code
def yJ17_init : MethodName := ⟨RJ17, "<init>", "()V"⟩
theorem dJ17_init_0 : decode cJ17_init 0 = .ok (.aload_n 0, 1) := by decide +kernel
theorem dJ17_init_1 : decode cJ17_init 1 = .ok (.invokespecial 1, 3) := by decide +kernel
theorem dJ17_init_4 : decode cJ17_init 4 = .ok (.return_, 1) := by decide +kernel
theorem q115 : (Jvm.Cond.initialized "java/lang/Number") ∈ lw_all := lw_g (lw_at lw_m1 33 rfl) rfl
theorem q1391 : (Jvm.Cond.instanceMethod ({ cls := "java/lang/Number", name := "<init>", desc := "()V" } : Jvm.MethodName)) ∈ lw_all := lw_g (lw_at lw_m6 109 rfl) rfl
theorem q1392 : (Jvm.Cond.code ({ cls := "java/lang/Number", name := "<init>", desc := "()V" } : Jvm.MethodName) prog_32_method_1_code (1 : Nat) (Option.none : Option Jvm.ClassFile.FieldType)) ∈ lw_all := lw_g (lw_at lw_m6 110 rfl) rfl
theorem q1393 : (Jvm.Cond.methodLink "java/lang/Number" (1 : Nat) ({ cls := "java/lang/Object", name := "<init>", desc := "()V" } : Jvm.MethodName)) ∈ lw_all := lw_g (lw_at lw_m6 111 rfl) rfl

/-! java/lang/Integer -/
set_option maxRecDepth 100000
def RJ18 : String := "java/lang/Integer"
def TJ18 : u_T := fun k => match k with
  | _ => ("java/lang/Integer", "value", "I", true)
def tyJ18 : Nat → FieldType := fun k => match k with
  | _ => .int
abbrev wsJ180 : List Cond := u_ws RJ18 TJ18 1
theorem nmJ18 : ∀ a, a < 1 → ∀ b, b < 1 → a ≠ b → (TJ18 a).2.1 ≠ (TJ18 b).2.1 := by decide +kernel
theorem tyJ18_ok : ∀ k, k < 1 → parseFieldDescriptor (TJ18 k).2.2.1 = some (tyJ18 k) := by decide +kernel
abbrev cJ18_bitCount : ByteArray := prog_28_method_49_code
def yJ18_bitCount : MethodName := ⟨RJ18, "bitCount", "(I)I"⟩
def dkwJ18_bitCount_2 : List UInt8 := [26, 16, 63, 126, 172]
abbrev dktJ18_bitCount_2 : List UInt8 := dkwJ18_bitCount_2 ++ []
def dkwJ18_bitCount_1 : List UInt8 := [26, 26, 7, 124, 96, 19, 1, 11, 126, 59, 26, 26, 16, 8, 124, 96, 59, 26, 26, 16, 16, 124, 96, 59]
abbrev dktJ18_bitCount_1 : List UInt8 := dkwJ18_bitCount_1 ++ dktJ18_bitCount_2
def dkwJ18_bitCount_0 : List UInt8 := [26, 26, 4, 124, 19, 1, 9, 126, 100, 59, 26, 19, 1, 10, 126, 26, 5, 124, 19, 1, 10, 126, 96, 59]
abbrev dktJ18_bitCount_0 : List UInt8 := dkwJ18_bitCount_0 ++ dktJ18_bitCount_1
theorem dksJ18_bitCount_0 : cJ18_bitCount.data.toList.drop 0 = dktJ18_bitCount_0 := by decide +kernel
theorem dksJ18_bitCount_1 : cJ18_bitCount.data.toList.drop 24 = dktJ18_bitCount_1 := dk_seg dksJ18_bitCount_0 24 rfl rfl
theorem dksJ18_bitCount_2 : cJ18_bitCount.data.toList.drop 48 = dktJ18_bitCount_2 := dk_seg dksJ18_bitCount_1 24 rfl rfl
theorem dJ18_bitCount_0 : decode cJ18_bitCount 0 = .ok (.iload_n 0, 1) := dk_26 (dk_at dksJ18_bitCount_0 0 rfl rfl)
theorem dJ18_bitCount_1 : decode cJ18_bitCount 1 = .ok (.iload_n 0, 1) := dk_26 (dk_at dksJ18_bitCount_0 1 rfl rfl)
theorem dJ18_bitCount_2 : decode cJ18_bitCount 2 = .ok (.iconst 1, 1) := dk_4 (dk_at dksJ18_bitCount_0 2 rfl rfl)
theorem dJ18_bitCount_3 : decode cJ18_bitCount 3 = .ok (.iushr, 1) := dk_124 (dk_at dksJ18_bitCount_0 3 rfl rfl)
theorem dJ18_bitCount_4 : decode cJ18_bitCount 4 = .ok (.ldc_w 265, 3) := dk_19 1 9 (dk_at dksJ18_bitCount_0 4 rfl rfl)
theorem dJ18_bitCount_7 : decode cJ18_bitCount 7 = .ok (.iand, 1) := dk_126 (dk_at dksJ18_bitCount_0 7 rfl rfl)
theorem dJ18_bitCount_8 : decode cJ18_bitCount 8 = .ok (.isub, 1) := dk_100 (dk_at dksJ18_bitCount_0 8 rfl rfl)
theorem dJ18_bitCount_9 : decode cJ18_bitCount 9 = .ok (.istore_n 0, 1) := dk_59 (dk_at dksJ18_bitCount_0 9 rfl rfl)
theorem dJ18_bitCount_10 : decode cJ18_bitCount 10 = .ok (.iload_n 0, 1) := dk_26 (dk_at dksJ18_bitCount_0 10 rfl rfl)
theorem dJ18_bitCount_11 : decode cJ18_bitCount 11 = .ok (.ldc_w 266, 3) := dk_19 1 10 (dk_at dksJ18_bitCount_0 11 rfl rfl)
theorem dJ18_bitCount_14 : decode cJ18_bitCount 14 = .ok (.iand, 1) := dk_126 (dk_at dksJ18_bitCount_0 14 rfl rfl)
theorem dJ18_bitCount_15 : decode cJ18_bitCount 15 = .ok (.iload_n 0, 1) := dk_26 (dk_at dksJ18_bitCount_0 15 rfl rfl)
theorem dJ18_bitCount_16 : decode cJ18_bitCount 16 = .ok (.iconst 2, 1) := dk_5 (dk_at dksJ18_bitCount_0 16 rfl rfl)
theorem dJ18_bitCount_17 : decode cJ18_bitCount 17 = .ok (.iushr, 1) := dk_124 (dk_at dksJ18_bitCount_0 17 rfl rfl)
theorem dJ18_bitCount_18 : decode cJ18_bitCount 18 = .ok (.ldc_w 266, 3) := dk_19 1 10 (dk_at dksJ18_bitCount_0 18 rfl rfl)
theorem dJ18_bitCount_21 : decode cJ18_bitCount 21 = .ok (.iand, 1) := dk_126 (dk_at dksJ18_bitCount_0 21 rfl rfl)
theorem dJ18_bitCount_22 : decode cJ18_bitCount 22 = .ok (.iadd, 1) := dk_96 (dk_at dksJ18_bitCount_0 22 rfl rfl)
theorem dJ18_bitCount_23 : decode cJ18_bitCount 23 = .ok (.istore_n 0, 1) := dk_59 (dk_at dksJ18_bitCount_0 23 rfl rfl)
theorem dJ18_bitCount_24 : decode cJ18_bitCount 24 = .ok (.iload_n 0, 1) := dk_26 (dk_at dksJ18_bitCount_1 0 rfl rfl)
theorem dJ18_bitCount_25 : decode cJ18_bitCount 25 = .ok (.iload_n 0, 1) := dk_26 (dk_at dksJ18_bitCount_1 1 rfl rfl)
theorem dJ18_bitCount_26 : decode cJ18_bitCount 26 = .ok (.iconst 4, 1) := dk_7 (dk_at dksJ18_bitCount_1 2 rfl rfl)
theorem dJ18_bitCount_27 : decode cJ18_bitCount 27 = .ok (.iushr, 1) := dk_124 (dk_at dksJ18_bitCount_1 3 rfl rfl)
theorem dJ18_bitCount_28 : decode cJ18_bitCount 28 = .ok (.iadd, 1) := dk_96 (dk_at dksJ18_bitCount_1 4 rfl rfl)
theorem dJ18_bitCount_29 : decode cJ18_bitCount 29 = .ok (.ldc_w 267, 3) := dk_19 1 11 (dk_at dksJ18_bitCount_1 5 rfl rfl)
theorem dJ18_bitCount_32 : decode cJ18_bitCount 32 = .ok (.iand, 1) := dk_126 (dk_at dksJ18_bitCount_1 8 rfl rfl)
theorem dJ18_bitCount_33 : decode cJ18_bitCount 33 = .ok (.istore_n 0, 1) := dk_59 (dk_at dksJ18_bitCount_1 9 rfl rfl)
theorem dJ18_bitCount_34 : decode cJ18_bitCount 34 = .ok (.iload_n 0, 1) := dk_26 (dk_at dksJ18_bitCount_1 10 rfl rfl)
theorem dJ18_bitCount_35 : decode cJ18_bitCount 35 = .ok (.iload_n 0, 1) := dk_26 (dk_at dksJ18_bitCount_1 11 rfl rfl)
theorem dJ18_bitCount_36 : decode cJ18_bitCount 36 = .ok (.bipush 8, 2) := dk_16 8 (dk_at dksJ18_bitCount_1 12 rfl rfl)
theorem dJ18_bitCount_38 : decode cJ18_bitCount 38 = .ok (.iushr, 1) := dk_124 (dk_at dksJ18_bitCount_1 14 rfl rfl)
theorem dJ18_bitCount_39 : decode cJ18_bitCount 39 = .ok (.iadd, 1) := dk_96 (dk_at dksJ18_bitCount_1 15 rfl rfl)
theorem dJ18_bitCount_40 : decode cJ18_bitCount 40 = .ok (.istore_n 0, 1) := dk_59 (dk_at dksJ18_bitCount_1 16 rfl rfl)
theorem dJ18_bitCount_41 : decode cJ18_bitCount 41 = .ok (.iload_n 0, 1) := dk_26 (dk_at dksJ18_bitCount_1 17 rfl rfl)
theorem dJ18_bitCount_42 : decode cJ18_bitCount 42 = .ok (.iload_n 0, 1) := dk_26 (dk_at dksJ18_bitCount_1 18 rfl rfl)
theorem dJ18_bitCount_43 : decode cJ18_bitCount 43 = .ok (.bipush 16, 2) := dk_16 16 (dk_at dksJ18_bitCount_1 19 rfl rfl)
theorem dJ18_bitCount_45 : decode cJ18_bitCount 45 = .ok (.iushr, 1) := dk_124 (dk_at dksJ18_bitCount_1 21 rfl rfl)
theorem dJ18_bitCount_46 : decode cJ18_bitCount 46 = .ok (.iadd, 1) := dk_96 (dk_at dksJ18_bitCount_1 22 rfl rfl)
theorem dJ18_bitCount_47 : decode cJ18_bitCount 47 = .ok (.istore_n 0, 1) := dk_59 (dk_at dksJ18_bitCount_1 23 rfl rfl)
theorem dJ18_bitCount_48 : decode cJ18_bitCount 48 = .ok (.iload_n 0, 1) := dk_26 (dk_at dksJ18_bitCount_2 0 rfl rfl)
theorem dJ18_bitCount_49 : decode cJ18_bitCount 49 = .ok (.bipush 63, 2) := dk_16 63 (dk_at dksJ18_bitCount_2 1 rfl rfl)
theorem dJ18_bitCount_51 : decode cJ18_bitCount 51 = .ok (.iand, 1) := dk_126 (dk_at dksJ18_bitCount_2 3 rfl rfl)
theorem dJ18_bitCount_52 : decode cJ18_bitCount 52 = .ok (.ireturn, 1) := dk_172 (dk_at dksJ18_bitCount_2 4 rfl rfl)
abbrev cJ18_valueOf : ByteArray := prog_28_method_22_code
def yJ18_valueOf : MethodName := ⟨RJ18, "valueOf", "(I)Ljava/lang/Integer;"⟩
def dkwJ18_valueOf_1 : List UInt8 := [187, 0, 1, 89, 26, 183, 0, 199, 176]
abbrev dktJ18_valueOf_1 : List UInt8 := dkwJ18_valueOf_1 ++ []
def dkwJ18_valueOf_0 : List UInt8 := [26, 16, 128, 161, 0, 20, 26, 178, 0, 191, 163, 0, 13, 178, 0, 195, 26, 17, 0, 128, 96, 50, 176]
abbrev dktJ18_valueOf_0 : List UInt8 := dkwJ18_valueOf_0 ++ dktJ18_valueOf_1
theorem dksJ18_valueOf_0 : cJ18_valueOf.data.toList.drop 0 = dktJ18_valueOf_0 := by decide +kernel
theorem dksJ18_valueOf_1 : cJ18_valueOf.data.toList.drop 23 = dktJ18_valueOf_1 := dk_seg dksJ18_valueOf_0 23 rfl rfl
theorem dJ18_valueOf_0 : decode cJ18_valueOf 0 = .ok (.iload_n 0, 1) := dk_26 (dk_at dksJ18_valueOf_0 0 rfl rfl)
theorem dJ18_valueOf_1 : decode cJ18_valueOf 1 = .ok (.bipush (-128), 2) := dk_16 128 (dk_at dksJ18_valueOf_0 1 rfl rfl)
theorem dJ18_valueOf_3 : decode cJ18_valueOf 3 = .ok (.if_icmp .lt 20, 3) := dk_161 0 20 (dk_at dksJ18_valueOf_0 3 rfl rfl)
theorem dJ18_valueOf_6 : decode cJ18_valueOf 6 = .ok (.iload_n 0, 1) := dk_26 (dk_at dksJ18_valueOf_0 6 rfl rfl)
theorem dJ18_valueOf_7 : decode cJ18_valueOf 7 = .ok (.getstatic 191, 3) := dk_178 0 191 (dk_at dksJ18_valueOf_0 7 rfl rfl)
theorem dJ18_valueOf_10 : decode cJ18_valueOf 10 = .ok (.if_icmp .gt 13, 3) := dk_163 0 13 (dk_at dksJ18_valueOf_0 10 rfl rfl)
theorem dJ18_valueOf_13 : decode cJ18_valueOf 13 = .ok (.getstatic 195, 3) := dk_178 0 195 (dk_at dksJ18_valueOf_0 13 rfl rfl)
theorem dJ18_valueOf_16 : decode cJ18_valueOf 16 = .ok (.iload_n 0, 1) := dk_26 (dk_at dksJ18_valueOf_0 16 rfl rfl)
theorem dJ18_valueOf_17 : decode cJ18_valueOf 17 = .ok (.sipush 128, 3) := dk_17 0 128 (dk_at dksJ18_valueOf_0 17 rfl rfl)
theorem dJ18_valueOf_20 : decode cJ18_valueOf 20 = .ok (.iadd, 1) := dk_96 (dk_at dksJ18_valueOf_0 20 rfl rfl)
theorem dJ18_valueOf_21 : decode cJ18_valueOf 21 = .ok (.aaload, 1) := dk_50 (dk_at dksJ18_valueOf_0 21 rfl rfl)
theorem dJ18_valueOf_22 : decode cJ18_valueOf 22 = .ok (.areturn, 1) := dk_176 (dk_at dksJ18_valueOf_0 22 rfl rfl)
theorem dJ18_valueOf_23 : decode cJ18_valueOf 23 = .ok (.new 1, 3) := dk_187 0 1 (dk_at dksJ18_valueOf_1 0 rfl rfl)
theorem dJ18_valueOf_26 : decode cJ18_valueOf 26 = .ok (.dup, 1) := dk_89 (dk_at dksJ18_valueOf_1 3 rfl rfl)
theorem dJ18_valueOf_27 : decode cJ18_valueOf 27 = .ok (.iload_n 0, 1) := dk_26 (dk_at dksJ18_valueOf_1 4 rfl rfl)
theorem dJ18_valueOf_28 : decode cJ18_valueOf 28 = .ok (.invokespecial 199, 3) := dk_183 0 199 (dk_at dksJ18_valueOf_1 5 rfl rfl)
theorem dJ18_valueOf_31 : decode cJ18_valueOf 31 = .ok (.areturn, 1) := dk_176 (dk_at dksJ18_valueOf_1 8 rfl rfl)
abbrev cJ18_init : ByteArray := prog_28_method_23_code
def yJ18_init : MethodName := ⟨RJ18, "<init>", "(I)V"⟩
def dkwJ18_init_0 : List UInt8 := [42, 183, 0, 202, 42, 27, 181, 0, 205, 177]
abbrev dktJ18_init_0 : List UInt8 := dkwJ18_init_0 ++ []
theorem dksJ18_init_0 : cJ18_init.data.toList.drop 0 = dktJ18_init_0 := by decide +kernel
theorem dJ18_init_0 : decode cJ18_init 0 = .ok (.aload_n 0, 1) := dk_42 (dk_at dksJ18_init_0 0 rfl rfl)
theorem dJ18_init_1 : decode cJ18_init 1 = .ok (.invokespecial 202, 3) := dk_183 0 202 (dk_at dksJ18_init_0 1 rfl rfl)
theorem dJ18_init_4 : decode cJ18_init 4 = .ok (.aload_n 0, 1) := dk_42 (dk_at dksJ18_init_0 4 rfl rfl)
theorem dJ18_init_5 : decode cJ18_init 5 = .ok (.iload_n 1, 1) := dk_27 (dk_at dksJ18_init_0 5 rfl rfl)
theorem dJ18_init_6 : decode cJ18_init 6 = .ok (.putfield 205, 3) := dk_181 0 205 (dk_at dksJ18_init_0 6 rfl rfl)
theorem dJ18_init_9 : decode cJ18_init 9 = .ok (.return_, 1) := dk_177 (dk_at dksJ18_init_0 9 rfl rfl)
abbrev cJ18_intValue : ByteArray := prog_28_method_27_code
def yJ18_intValue : MethodName := ⟨RJ18, "intValue", "()I"⟩
theorem dJ18_intValue_0 : decode cJ18_intValue 0 = .ok (.aload_n 0, 1) := by decide +kernel
theorem dJ18_intValue_1 : decode cJ18_intValue 1 = .ok (.getfield 205, 3) := by decide +kernel
theorem dJ18_intValue_4 : decode cJ18_intValue 4 = .ok (.ireturn, 1) := by decide +kernel
theorem q116 : (Jvm.Cond.initialized "java/lang/Integer") ∈ lw_all := lw_g (lw_at lw_m1 34 rfl) rfl
theorem q1033 : (Jvm.Cond.selects "java/lang/Integer" ({ cls := "java/lang/Object", name := "getClass", desc := "()Ljava/lang/Class;" } : Jvm.MethodName) ({ cls := "java/lang/Object", name := "getClass", desc := "()Ljava/lang/Class;" } : Jvm.MethodName)) ∈ lw_all := lw_g (lw_at lw_m4 231 rfl) rfl
theorem q1225 : (Jvm.Cond.static ({ cls := "java/lang/Integer", name := "bitCount", desc := "(I)I" } : Jvm.MethodName)) ∈ lw_all := lw_g (lw_at lw_m5 183 rfl) rfl
theorem q1226 : (Jvm.Cond.code ({ cls := "java/lang/Integer", name := "bitCount", desc := "(I)I" } : Jvm.MethodName) prog_28_method_49_code (1 : Nat) (Option.some Jvm.ClassFile.FieldType.int)) ∈ lw_all := lw_g (lw_at lw_m5 184 rfl) rfl
theorem q1227 : (Jvm.Cond.constant "java/lang/Integer" (265 : Nat) (1431655765 : Int32)) ∈ lw_all := lw_g (lw_at lw_m5 185 rfl) rfl
theorem q1228 : (Jvm.Cond.constant "java/lang/Integer" (266 : Nat) (858993459 : Int32)) ∈ lw_all := lw_g (lw_at lw_m5 186 rfl) rfl
theorem q1229 : (Jvm.Cond.constant "java/lang/Integer" (267 : Nat) (252645135 : Int32)) ∈ lw_all := lw_g (lw_at lw_m5 187 rfl) rfl
theorem q1379 : (Jvm.Cond.static ({ cls := "java/lang/Integer", name := "valueOf", desc := "(I)Ljava/lang/Integer;" } : Jvm.MethodName)) ∈ lw_all := lw_g (lw_at lw_m6 97 rfl) rfl
theorem q1380 : (Jvm.Cond.code ({ cls := "java/lang/Integer", name := "valueOf", desc := "(I)Ljava/lang/Integer;" } : Jvm.MethodName) prog_28_method_22_code (1 : Nat) (Option.some (Jvm.ClassFile.FieldType.object "java/lang/Integer"))) ∈ lw_all := lw_g (lw_at lw_m6 98 rfl) rfl
theorem q1381 : (Jvm.Cond.fieldLink "java/lang/Integer" (191 : Nat) "java/lang/Integer$IntegerCache" "high" "I") ∈ lw_all := lw_g (lw_at lw_m6 99 rfl) rfl
theorem q1383 : (Jvm.Cond.fieldLink "java/lang/Integer" (195 : Nat) "java/lang/Integer$IntegerCache" "cache" "[Ljava/lang/Integer;") ∈ lw_all := lw_g (lw_at lw_m6 101 rfl) rfl
theorem q1385 : (Jvm.Cond.classLink "java/lang/Integer" (1 : Nat) "java/lang/Integer") ∈ lw_all := lw_g (lw_at lw_m6 103 rfl) rfl
theorem q1386 : (Jvm.Cond.instantiable "java/lang/Integer" (1 : Nat)) ∈ lw_all := lw_g (lw_at lw_m6 104 rfl) rfl
theorem q1387 : (Jvm.Cond.methodLink "java/lang/Integer" (199 : Nat) ({ cls := "java/lang/Integer", name := "<init>", desc := "(I)V" } : Jvm.MethodName)) ∈ lw_all := lw_g (lw_at lw_m6 105 rfl) rfl
theorem q1388 : (Jvm.Cond.instanceMethod ({ cls := "java/lang/Integer", name := "<init>", desc := "(I)V" } : Jvm.MethodName)) ∈ lw_all := lw_g (lw_at lw_m6 106 rfl) rfl
theorem q1389 : (Jvm.Cond.code ({ cls := "java/lang/Integer", name := "<init>", desc := "(I)V" } : Jvm.MethodName) prog_28_method_23_code (2 : Nat) (Option.none : Option Jvm.ClassFile.FieldType)) ∈ lw_all := lw_g (lw_at lw_m6 107 rfl) rfl
theorem q1390 : (Jvm.Cond.methodLink "java/lang/Integer" (202 : Nat) ({ cls := "java/lang/Number", name := "<init>", desc := "()V" } : Jvm.MethodName)) ∈ lw_all := lw_g (lw_at lw_m6 108 rfl) rfl
theorem q1394 : (Jvm.Cond.fieldLink "java/lang/Integer" (205 : Nat) "java/lang/Integer" "value" "I") ∈ lw_all := lw_g (lw_at lw_m6 112 rfl) rfl
theorem q1395 : (Jvm.Cond.laysFinal "java/lang/Integer" "java/lang/Integer" "value" "I") ∈ lw_all := lw_g (lw_at lw_m6 113 rfl) rfl
theorem q1396 : (Jvm.Cond.soleField "java/lang/Integer" "value") ∈ lw_all := lw_g (lw_at lw_m6 114 rfl) rfl
theorem q1397 : (Jvm.Cond.superclass "java/lang/Integer" "java/lang/Number") ∈ lw_all := lw_g (lw_at lw_m6 115 rfl) rfl
theorem q1412 : (Jvm.Cond.instanceMethod ({ cls := "java/lang/Integer", name := "intValue", desc := "()I" } : Jvm.MethodName)) ∈ lw_all := lw_g (lw_at lw_m6 130 rfl) rfl
theorem q1413 : (Jvm.Cond.selects "java/lang/Integer" ({ cls := "java/lang/Integer", name := "intValue", desc := "()I" } : Jvm.MethodName) ({ cls := "java/lang/Integer", name := "intValue", desc := "()I" } : Jvm.MethodName)) ∈ lw_all := lw_g (lw_at lw_m6 131 rfl) rfl
theorem q1414 : (Jvm.Cond.code ({ cls := "java/lang/Integer", name := "intValue", desc := "()I" } : Jvm.MethodName) prog_28_method_27_code (1 : Nat) (Option.some Jvm.ClassFile.FieldType.int)) ∈ lw_all := lw_g (lw_at lw_m6 132 rfl) rfl
theorem q1974 : (Jvm.Cond.castable "java/lang/Integer" "java/lang/Object") ∈ lw_tbl := lw_at lw_m8 212 rfl
theorem in_J18 : ∀ w ∈ wsJ180, w ∈ lw_all := lw_in wsJ180 [1395] (by decide +kernel) (by decide +kernel)

/-! java/lang/Object -/
set_option maxRecDepth 100000
def RJ19 : String := "java/lang/Object"
abbrev cJ19_init : ByteArray := object_method_1_code
def yJ19_init : MethodName := ⟨RJ19, "<init>", "()V"⟩
theorem dJ19_init_0 : decode cJ19_init 0 = .ok (.return_, 1) := by decide +kernel
theorem q126 : (Jvm.Cond.instanceMethod ({ cls := "java/lang/Object", name := "<init>", desc := "()V" } : Jvm.MethodName)) ∈ lw_all := lw_g (lw_at lw_m1 44 rfl) rfl
theorem q127 : (Jvm.Cond.code ({ cls := "java/lang/Object", name := "<init>", desc := "()V" } : Jvm.MethodName) object_method_1_code (1 : Nat) (Option.none : Option Jvm.ClassFile.FieldType)) ∈ lw_all := lw_g (lw_at lw_m1 45 rfl) rfl
theorem q350 : (Jvm.Cond.native ({ cls := "java/lang/Object", name := "clone", desc := "()Ljava/lang/Object;" } : Jvm.MethodName)) ∈ lw_all := lw_g (lw_at lw_m2 28 rfl) rfl
theorem q351 : (Jvm.Cond.instanceMethod ({ cls := "java/lang/Object", name := "clone", desc := "()Ljava/lang/Object;" } : Jvm.MethodName)) ∈ lw_all := lw_g (lw_at lw_m2 29 rfl) rfl
theorem q1015 : (Jvm.Cond.instanceMethod ({ cls := "java/lang/Object", name := "getClass", desc := "()Ljava/lang/Class;" } : Jvm.MethodName)) ∈ lw_all := lw_g (lw_at lw_m4 213 rfl) rfl
theorem q1016 : (Jvm.Cond.sameMethod "java/lang/Object" "java/lang/Object" "getClass" "()Ljava/lang/Class;") ∈ lw_all := lw_g (lw_at lw_m4 214 rfl) rfl
theorem q1037 : (Jvm.Cond.native ({ cls := "java/lang/Object", name := "getClass", desc := "()Ljava/lang/Class;" } : Jvm.MethodName)) ∈ lw_all := lw_g (lw_at lw_m4 235 rfl) rfl
theorem q1978 : (Jvm.Cond.declares ({ cls := "java/lang/Object", name := "getClass", desc := "()Ljava/lang/Class;" } : Jvm.MethodName)) ∈ lw_tbl := lw_at lw_m8 216 rfl

/-! java/util/ArrayList -/
set_option maxRecDepth 100000
def RJ2 : String := "java/util/ArrayList"
def TJ2 : u_T := fun k => match k with
  | 0 => ("java/util/AbstractList", "modCount", "I", false)
  | 1 => ("java/util/ArrayList", "elementData", "[Ljava/lang/Object;", false)
  | _ => ("java/util/ArrayList", "size", "I", false)
def tyJ2 : Nat → FieldType := fun k => match k with
  | 0 => .int
  | 1 => .array (.object "java/lang/Object")
  | _ => .int
abbrev wsJ20 : List Cond := u_ws RJ2 TJ2 3
theorem nmJ2 : ∀ a, a < 3 → ∀ b, b < 3 → a ≠ b → (TJ2 a).2.1 ≠ (TJ2 b).2.1 := by decide +kernel
theorem tyJ2_ok : ∀ k, k < 3 → parseFieldDescriptor (TJ2 k).2.2.1 = some (tyJ2 k) := by decide +kernel
abbrev cJ2_init : ByteArray := prog_44_method_2_code
def yJ2_init : MethodName := ⟨RJ2, "<init>", "()V"⟩
def dkwJ2_init_0 : List UInt8 := [42, 183, 0, 1, 42, 178, 0, 39, 181, 0, 9, 177]
abbrev dktJ2_init_0 : List UInt8 := dkwJ2_init_0 ++ []
theorem dksJ2_init_0 : cJ2_init.data.toList.drop 0 = dktJ2_init_0 := by decide +kernel
theorem dJ2_init_0 : decode cJ2_init 0 = .ok (.aload_n 0, 1) := dk_42 (dk_at dksJ2_init_0 0 rfl rfl)
theorem dJ2_init_1 : decode cJ2_init 1 = .ok (.invokespecial 1, 3) := dk_183 0 1 (dk_at dksJ2_init_0 1 rfl rfl)
theorem dJ2_init_4 : decode cJ2_init 4 = .ok (.aload_n 0, 1) := dk_42 (dk_at dksJ2_init_0 4 rfl rfl)
theorem dJ2_init_5 : decode cJ2_init 5 = .ok (.getstatic 39, 3) := dk_178 0 39 (dk_at dksJ2_init_0 5 rfl rfl)
theorem dJ2_init_8 : decode cJ2_init 8 = .ok (.putfield 9, 3) := dk_181 0 9 (dk_at dksJ2_init_0 8 rfl rfl)
theorem dJ2_init_11 : decode cJ2_init 11 = .ok (.return_, 1) := dk_177 (dk_at dksJ2_init_0 11 rfl rfl)
abbrev cJ2_size : ByteArray := prog_44_method_8_code
def yJ2_size : MethodName := ⟨RJ2, "size", "()I"⟩
theorem dJ2_size_0 : decode cJ2_size 0 = .ok (.aload_n 0, 1) := by decide +kernel
theorem dJ2_size_1 : decode cJ2_size 1 = .ok (.getfield 48, 3) := by decide +kernel
theorem dJ2_size_4 : decode cJ2_size 4 = .ok (.ireturn, 1) := by decide +kernel
abbrev cJ2_add : ByteArray := prog_44_method_25_code
def yJ2_add : MethodName := ⟨RJ2, "add", "(Ljava/lang/Object;)Z"⟩
def dkwJ2_add_1 : List UInt8 := [172]
abbrev dktJ2_add_1 : List UInt8 := dkwJ2_add_1 ++ []
def dkwJ2_add_0 : List UInt8 := [42, 89, 180, 0, 63, 4, 96, 181, 0, 63, 42, 43, 42, 180, 0, 9, 42, 180, 0, 48, 182, 0, 131, 4]
abbrev dktJ2_add_0 : List UInt8 := dkwJ2_add_0 ++ dktJ2_add_1
theorem dksJ2_add_0 : cJ2_add.data.toList.drop 0 = dktJ2_add_0 := by decide +kernel
theorem dksJ2_add_1 : cJ2_add.data.toList.drop 24 = dktJ2_add_1 := dk_seg dksJ2_add_0 24 rfl rfl
theorem dJ2_add_0 : decode cJ2_add 0 = .ok (.aload_n 0, 1) := dk_42 (dk_at dksJ2_add_0 0 rfl rfl)
theorem dJ2_add_1 : decode cJ2_add 1 = .ok (.dup, 1) := dk_89 (dk_at dksJ2_add_0 1 rfl rfl)
theorem dJ2_add_2 : decode cJ2_add 2 = .ok (.getfield 63, 3) := dk_180 0 63 (dk_at dksJ2_add_0 2 rfl rfl)
theorem dJ2_add_5 : decode cJ2_add 5 = .ok (.iconst 1, 1) := dk_4 (dk_at dksJ2_add_0 5 rfl rfl)
theorem dJ2_add_6 : decode cJ2_add 6 = .ok (.iadd, 1) := dk_96 (dk_at dksJ2_add_0 6 rfl rfl)
theorem dJ2_add_7 : decode cJ2_add 7 = .ok (.putfield 63, 3) := dk_181 0 63 (dk_at dksJ2_add_0 7 rfl rfl)
theorem dJ2_add_10 : decode cJ2_add 10 = .ok (.aload_n 0, 1) := dk_42 (dk_at dksJ2_add_0 10 rfl rfl)
theorem dJ2_add_11 : decode cJ2_add 11 = .ok (.aload_n 1, 1) := dk_43 (dk_at dksJ2_add_0 11 rfl rfl)
theorem dJ2_add_12 : decode cJ2_add 12 = .ok (.aload_n 0, 1) := dk_42 (dk_at dksJ2_add_0 12 rfl rfl)
theorem dJ2_add_13 : decode cJ2_add 13 = .ok (.getfield 9, 3) := dk_180 0 9 (dk_at dksJ2_add_0 13 rfl rfl)
theorem dJ2_add_16 : decode cJ2_add 16 = .ok (.aload_n 0, 1) := dk_42 (dk_at dksJ2_add_0 16 rfl rfl)
theorem dJ2_add_17 : decode cJ2_add 17 = .ok (.getfield 48, 3) := dk_180 0 48 (dk_at dksJ2_add_0 17 rfl rfl)
theorem dJ2_add_20 : decode cJ2_add 20 = .ok (.invokevirtual 131, 3) := dk_182 0 131 (dk_at dksJ2_add_0 20 rfl rfl)
theorem dJ2_add_23 : decode cJ2_add 23 = .ok (.iconst 1, 1) := dk_4 (dk_at dksJ2_add_0 23 rfl rfl)
theorem dJ2_add_24 : decode cJ2_add 24 = .ok (.ireturn, 1) := dk_172 (dk_at dksJ2_add_1 0 rfl rfl)
abbrev cJ2_add_2 : ByteArray := prog_44_method_24_code
def yJ2_add_2 : MethodName := ⟨RJ2, "add", "(Ljava/lang/Object;[Ljava/lang/Object;I)V"⟩
def dkwJ2_add_2_0 : List UInt8 := [29, 44, 190, 160, 0, 8, 42, 182, 0, 129, 77, 44, 29, 43, 83, 42, 29, 4, 96, 181, 0, 48, 177]
abbrev dktJ2_add_2_0 : List UInt8 := dkwJ2_add_2_0 ++ []
theorem dksJ2_add_2_0 : cJ2_add_2.data.toList.drop 0 = dktJ2_add_2_0 := by decide +kernel
theorem dJ2_add_2_0 : decode cJ2_add_2 0 = .ok (.iload_n 3, 1) := dk_29 (dk_at dksJ2_add_2_0 0 rfl rfl)
theorem dJ2_add_2_1 : decode cJ2_add_2 1 = .ok (.aload_n 2, 1) := dk_44 (dk_at dksJ2_add_2_0 1 rfl rfl)
theorem dJ2_add_2_2 : decode cJ2_add_2 2 = .ok (.arraylength, 1) := dk_190 (dk_at dksJ2_add_2_0 2 rfl rfl)
theorem dJ2_add_2_3 : decode cJ2_add_2 3 = .ok (.if_icmp .ne 8, 3) := dk_160 0 8 (dk_at dksJ2_add_2_0 3 rfl rfl)
theorem dJ2_add_2_6 : decode cJ2_add_2 6 = .ok (.aload_n 0, 1) := dk_42 (dk_at dksJ2_add_2_0 6 rfl rfl)
theorem dJ2_add_2_7 : decode cJ2_add_2 7 = .ok (.invokevirtual 129, 3) := dk_182 0 129 (dk_at dksJ2_add_2_0 7 rfl rfl)
theorem dJ2_add_2_10 : decode cJ2_add_2 10 = .ok (.astore_n 2, 1) := dk_77 (dk_at dksJ2_add_2_0 10 rfl rfl)
theorem dJ2_add_2_11 : decode cJ2_add_2 11 = .ok (.aload_n 2, 1) := dk_44 (dk_at dksJ2_add_2_0 11 rfl rfl)
theorem dJ2_add_2_12 : decode cJ2_add_2 12 = .ok (.iload_n 3, 1) := dk_29 (dk_at dksJ2_add_2_0 12 rfl rfl)
theorem dJ2_add_2_13 : decode cJ2_add_2 13 = .ok (.aload_n 1, 1) := dk_43 (dk_at dksJ2_add_2_0 13 rfl rfl)
theorem dJ2_add_2_14 : decode cJ2_add_2 14 = .ok (.aastore, 1) := dk_83 (dk_at dksJ2_add_2_0 14 rfl rfl)
theorem dJ2_add_2_15 : decode cJ2_add_2 15 = .ok (.aload_n 0, 1) := dk_42 (dk_at dksJ2_add_2_0 15 rfl rfl)
theorem dJ2_add_2_16 : decode cJ2_add_2 16 = .ok (.iload_n 3, 1) := dk_29 (dk_at dksJ2_add_2_0 16 rfl rfl)
theorem dJ2_add_2_17 : decode cJ2_add_2 17 = .ok (.iconst 1, 1) := dk_4 (dk_at dksJ2_add_2_0 17 rfl rfl)
theorem dJ2_add_2_18 : decode cJ2_add_2 18 = .ok (.iadd, 1) := dk_96 (dk_at dksJ2_add_2_0 18 rfl rfl)
theorem dJ2_add_2_19 : decode cJ2_add_2 19 = .ok (.putfield 48, 3) := dk_181 0 48 (dk_at dksJ2_add_2_0 19 rfl rfl)
theorem dJ2_add_2_22 : decode cJ2_add_2 22 = .ok (.return_, 1) := dk_177 (dk_at dksJ2_add_2_0 22 rfl rfl)
abbrev cJ2_grow : ByteArray := prog_44_method_7_code
def yJ2_grow : MethodName := ⟨RJ2, "grow", "()[Ljava/lang/Object;"⟩
def dkwJ2_grow_0 : List UInt8 := [42, 42, 180, 0, 48, 4, 96, 182, 0, 69, 176]
abbrev dktJ2_grow_0 : List UInt8 := dkwJ2_grow_0 ++ []
theorem dksJ2_grow_0 : cJ2_grow.data.toList.drop 0 = dktJ2_grow_0 := by decide +kernel
theorem dJ2_grow_0 : decode cJ2_grow 0 = .ok (.aload_n 0, 1) := dk_42 (dk_at dksJ2_grow_0 0 rfl rfl)
theorem dJ2_grow_1 : decode cJ2_grow 1 = .ok (.aload_n 0, 1) := dk_42 (dk_at dksJ2_grow_0 1 rfl rfl)
theorem dJ2_grow_2 : decode cJ2_grow 2 = .ok (.getfield 48, 3) := dk_180 0 48 (dk_at dksJ2_grow_0 2 rfl rfl)
theorem dJ2_grow_5 : decode cJ2_grow 5 = .ok (.iconst 1, 1) := dk_4 (dk_at dksJ2_grow_0 5 rfl rfl)
theorem dJ2_grow_6 : decode cJ2_grow 6 = .ok (.iadd, 1) := dk_96 (dk_at dksJ2_grow_0 6 rfl rfl)
theorem dJ2_grow_7 : decode cJ2_grow 7 = .ok (.invokevirtual 69, 3) := dk_182 0 69 (dk_at dksJ2_grow_0 7 rfl rfl)
theorem dJ2_grow_10 : decode cJ2_grow 10 = .ok (.areturn, 1) := dk_176 (dk_at dksJ2_grow_0 10 rfl rfl)
abbrev cJ2_grow_2 : ByteArray := prog_44_method_6_code
def yJ2_grow_2 : MethodName := ⟨RJ2, "grow", "(I)[Ljava/lang/Object;"⟩
def dkwJ2_grow_2_2 : List UInt8 := [27, 184, 0, 79, 189, 0, 7, 90, 181, 0, 9, 176]
abbrev dktJ2_grow_2_2 : List UInt8 := dkwJ2_grow_2_2 ++ []
def dkwJ2_grow_2_1 : List UInt8 := [28, 4, 122, 184, 0, 73, 62, 42, 42, 180, 0, 9, 29, 184, 0, 66, 90, 181, 0, 9, 176, 42, 16, 10]
abbrev dktJ2_grow_2_1 : List UInt8 := dkwJ2_grow_2_1 ++ dktJ2_grow_2_2
def dkwJ2_grow_2_0 : List UInt8 := [42, 180, 0, 9, 190, 61, 28, 157, 0, 13, 42, 180, 0, 9, 178, 0, 39, 165, 0, 28, 28, 27, 28, 100]
abbrev dktJ2_grow_2_0 : List UInt8 := dkwJ2_grow_2_0 ++ dktJ2_grow_2_1
theorem dksJ2_grow_2_0 : cJ2_grow_2.data.toList.drop 0 = dktJ2_grow_2_0 := by decide +kernel
theorem dksJ2_grow_2_1 : cJ2_grow_2.data.toList.drop 24 = dktJ2_grow_2_1 := dk_seg dksJ2_grow_2_0 24 rfl rfl
theorem dksJ2_grow_2_2 : cJ2_grow_2.data.toList.drop 48 = dktJ2_grow_2_2 := dk_seg dksJ2_grow_2_1 24 rfl rfl
theorem dJ2_grow_2_0 : decode cJ2_grow_2 0 = .ok (.aload_n 0, 1) := dk_42 (dk_at dksJ2_grow_2_0 0 rfl rfl)
theorem dJ2_grow_2_1 : decode cJ2_grow_2 1 = .ok (.getfield 9, 3) := dk_180 0 9 (dk_at dksJ2_grow_2_0 1 rfl rfl)
theorem dJ2_grow_2_4 : decode cJ2_grow_2 4 = .ok (.arraylength, 1) := dk_190 (dk_at dksJ2_grow_2_0 4 rfl rfl)
theorem dJ2_grow_2_5 : decode cJ2_grow_2 5 = .ok (.istore_n 2, 1) := dk_61 (dk_at dksJ2_grow_2_0 5 rfl rfl)
theorem dJ2_grow_2_6 : decode cJ2_grow_2 6 = .ok (.iload_n 2, 1) := dk_28 (dk_at dksJ2_grow_2_0 6 rfl rfl)
theorem dJ2_grow_2_7 : decode cJ2_grow_2 7 = .ok (.ifCond .gt 13, 3) := dk_157 0 13 (dk_at dksJ2_grow_2_0 7 rfl rfl)
theorem dJ2_grow_2_10 : decode cJ2_grow_2 10 = .ok (.aload_n 0, 1) := dk_42 (dk_at dksJ2_grow_2_0 10 rfl rfl)
theorem dJ2_grow_2_11 : decode cJ2_grow_2 11 = .ok (.getfield 9, 3) := dk_180 0 9 (dk_at dksJ2_grow_2_0 11 rfl rfl)
theorem dJ2_grow_2_14 : decode cJ2_grow_2 14 = .ok (.getstatic 39, 3) := dk_178 0 39 (dk_at dksJ2_grow_2_0 14 rfl rfl)
theorem dJ2_grow_2_17 : decode cJ2_grow_2 17 = .ok (.if_acmp .eq 28, 3) := dk_165 0 28 (dk_at dksJ2_grow_2_0 17 rfl rfl)
theorem dJ2_grow_2_20 : decode cJ2_grow_2 20 = .ok (.iload_n 2, 1) := dk_28 (dk_at dksJ2_grow_2_0 20 rfl rfl)
theorem dJ2_grow_2_21 : decode cJ2_grow_2 21 = .ok (.iload_n 1, 1) := dk_27 (dk_at dksJ2_grow_2_0 21 rfl rfl)
theorem dJ2_grow_2_22 : decode cJ2_grow_2 22 = .ok (.iload_n 2, 1) := dk_28 (dk_at dksJ2_grow_2_0 22 rfl rfl)
theorem dJ2_grow_2_23 : decode cJ2_grow_2 23 = .ok (.isub, 1) := dk_100 (dk_at dksJ2_grow_2_0 23 rfl rfl)
theorem dJ2_grow_2_24 : decode cJ2_grow_2 24 = .ok (.iload_n 2, 1) := dk_28 (dk_at dksJ2_grow_2_1 0 rfl rfl)
theorem dJ2_grow_2_25 : decode cJ2_grow_2 25 = .ok (.iconst 1, 1) := dk_4 (dk_at dksJ2_grow_2_1 1 rfl rfl)
theorem dJ2_grow_2_26 : decode cJ2_grow_2 26 = .ok (.ishr, 1) := dk_122 (dk_at dksJ2_grow_2_1 2 rfl rfl)
theorem dJ2_grow_2_27 : decode cJ2_grow_2 27 = .ok (.invokestatic 73, 3) := dk_184 0 73 (dk_at dksJ2_grow_2_1 3 rfl rfl)
theorem dJ2_grow_2_30 : decode cJ2_grow_2 30 = .ok (.istore_n 3, 1) := dk_62 (dk_at dksJ2_grow_2_1 6 rfl rfl)
theorem dJ2_grow_2_31 : decode cJ2_grow_2 31 = .ok (.aload_n 0, 1) := dk_42 (dk_at dksJ2_grow_2_1 7 rfl rfl)
theorem dJ2_grow_2_32 : decode cJ2_grow_2 32 = .ok (.aload_n 0, 1) := dk_42 (dk_at dksJ2_grow_2_1 8 rfl rfl)
theorem dJ2_grow_2_33 : decode cJ2_grow_2 33 = .ok (.getfield 9, 3) := dk_180 0 9 (dk_at dksJ2_grow_2_1 9 rfl rfl)
theorem dJ2_grow_2_36 : decode cJ2_grow_2 36 = .ok (.iload_n 3, 1) := dk_29 (dk_at dksJ2_grow_2_1 12 rfl rfl)
theorem dJ2_grow_2_37 : decode cJ2_grow_2 37 = .ok (.invokestatic 66, 3) := dk_184 0 66 (dk_at dksJ2_grow_2_1 13 rfl rfl)
theorem dJ2_grow_2_40 : decode cJ2_grow_2 40 = .ok (.dup_x1, 1) := dk_90 (dk_at dksJ2_grow_2_1 16 rfl rfl)
theorem dJ2_grow_2_41 : decode cJ2_grow_2 41 = .ok (.putfield 9, 3) := dk_181 0 9 (dk_at dksJ2_grow_2_1 17 rfl rfl)
theorem dJ2_grow_2_44 : decode cJ2_grow_2 44 = .ok (.areturn, 1) := dk_176 (dk_at dksJ2_grow_2_1 20 rfl rfl)
theorem dJ2_grow_2_45 : decode cJ2_grow_2 45 = .ok (.aload_n 0, 1) := dk_42 (dk_at dksJ2_grow_2_1 21 rfl rfl)
theorem dJ2_grow_2_46 : decode cJ2_grow_2 46 = .ok (.bipush 10, 2) := dk_16 10 (dk_at dksJ2_grow_2_1 22 rfl rfl)
theorem dJ2_grow_2_48 : decode cJ2_grow_2 48 = .ok (.iload_n 1, 1) := dk_27 (dk_at dksJ2_grow_2_2 0 rfl rfl)
theorem dJ2_grow_2_49 : decode cJ2_grow_2 49 = .ok (.invokestatic 79, 3) := dk_184 0 79 (dk_at dksJ2_grow_2_2 1 rfl rfl)
theorem dJ2_grow_2_52 : decode cJ2_grow_2 52 = .ok (.anewarray 7, 3) := dk_189 0 7 (dk_at dksJ2_grow_2_2 4 rfl rfl)
theorem dJ2_grow_2_55 : decode cJ2_grow_2 55 = .ok (.dup_x1, 1) := dk_90 (dk_at dksJ2_grow_2_2 7 rfl rfl)
theorem dJ2_grow_2_56 : decode cJ2_grow_2 56 = .ok (.putfield 9, 3) := dk_181 0 9 (dk_at dksJ2_grow_2_2 8 rfl rfl)
theorem dJ2_grow_2_59 : decode cJ2_grow_2 59 = .ok (.areturn, 1) := dk_176 (dk_at dksJ2_grow_2_2 11 rfl rfl)
abbrev cJ2_get : ByteArray := prog_44_method_20_code
def yJ2_get : MethodName := ⟨RJ2, "get", "(I)Ljava/lang/Object;"⟩
def dkwJ2_get_0 : List UInt8 := [27, 42, 180, 0, 48, 184, 0, 118, 87, 42, 27, 182, 0, 123, 176]
abbrev dktJ2_get_0 : List UInt8 := dkwJ2_get_0 ++ []
theorem dksJ2_get_0 : cJ2_get.data.toList.drop 0 = dktJ2_get_0 := by decide +kernel
theorem dJ2_get_0 : decode cJ2_get 0 = .ok (.iload_n 1, 1) := dk_27 (dk_at dksJ2_get_0 0 rfl rfl)
theorem dJ2_get_1 : decode cJ2_get 1 = .ok (.aload_n 0, 1) := dk_42 (dk_at dksJ2_get_0 1 rfl rfl)
theorem dJ2_get_2 : decode cJ2_get 2 = .ok (.getfield 48, 3) := dk_180 0 48 (dk_at dksJ2_get_0 2 rfl rfl)
theorem dJ2_get_5 : decode cJ2_get 5 = .ok (.invokestatic 118, 3) := dk_184 0 118 (dk_at dksJ2_get_0 5 rfl rfl)
theorem dJ2_get_8 : decode cJ2_get 8 = .ok (.pop, 1) := dk_87 (dk_at dksJ2_get_0 8 rfl rfl)
theorem dJ2_get_9 : decode cJ2_get 9 = .ok (.aload_n 0, 1) := dk_42 (dk_at dksJ2_get_0 9 rfl rfl)
theorem dJ2_get_10 : decode cJ2_get 10 = .ok (.iload_n 1, 1) := dk_27 (dk_at dksJ2_get_0 10 rfl rfl)
theorem dJ2_get_11 : decode cJ2_get 11 = .ok (.invokevirtual 123, 3) := dk_182 0 123 (dk_at dksJ2_get_0 11 rfl rfl)
theorem dJ2_get_14 : decode cJ2_get 14 = .ok (.areturn, 1) := dk_176 (dk_at dksJ2_get_0 14 rfl rfl)
abbrev cJ2_elementData : ByteArray := prog_44_method_18_code
def yJ2_elementData : MethodName := ⟨RJ2, "elementData", "(I)Ljava/lang/Object;"⟩
def dkwJ2_elementData_0 : List UInt8 := [42, 180, 0, 9, 27, 50, 176]
abbrev dktJ2_elementData_0 : List UInt8 := dkwJ2_elementData_0 ++ []
theorem dksJ2_elementData_0 : cJ2_elementData.data.toList.drop 0 = dktJ2_elementData_0 := by decide +kernel
theorem dJ2_elementData_0 : decode cJ2_elementData 0 = .ok (.aload_n 0, 1) := dk_42 (dk_at dksJ2_elementData_0 0 rfl rfl)
theorem dJ2_elementData_1 : decode cJ2_elementData 1 = .ok (.getfield 9, 3) := dk_180 0 9 (dk_at dksJ2_elementData_0 1 rfl rfl)
theorem dJ2_elementData_4 : decode cJ2_elementData 4 = .ok (.iload_n 1, 1) := dk_27 (dk_at dksJ2_elementData_0 4 rfl rfl)
theorem dJ2_elementData_5 : decode cJ2_elementData 5 = .ok (.aaload, 1) := dk_50 (dk_at dksJ2_elementData_0 5 rfl rfl)
theorem dJ2_elementData_6 : decode cJ2_elementData 6 = .ok (.areturn, 1) := dk_176 (dk_at dksJ2_elementData_0 6 rfl rfl)
theorem q86 : (Jvm.Cond.initialized "java/util/ArrayList") ∈ lw_all := lw_g (lw_at lw_m1 4 rfl) rfl
theorem q129 : (Jvm.Cond.instantiable "java/util/ArrayList" (3 : Nat)) ∈ lw_all := lw_g (lw_at lw_m1 47 rfl) rfl
theorem q131 : (Jvm.Cond.instanceMethod ({ cls := "java/util/ArrayList", name := "<init>", desc := "()V" } : Jvm.MethodName)) ∈ lw_all := lw_g (lw_at lw_m1 49 rfl) rfl
theorem q132 : (Jvm.Cond.code ({ cls := "java/util/ArrayList", name := "<init>", desc := "()V" } : Jvm.MethodName) prog_44_method_2_code (1 : Nat) (Option.none : Option Jvm.ClassFile.FieldType)) ∈ lw_all := lw_g (lw_at lw_m1 50 rfl) rfl
theorem q133 : (Jvm.Cond.methodLink "java/util/ArrayList" (1 : Nat) ({ cls := "java/util/AbstractList", name := "<init>", desc := "()V" } : Jvm.MethodName)) ∈ lw_all := lw_g (lw_at lw_m1 51 rfl) rfl
theorem q140 : (Jvm.Cond.fieldLink "java/util/ArrayList" (39 : Nat) "java/util/ArrayList" "DEFAULTCAPACITY_EMPTY_ELEMENTDATA" "[Ljava/lang/Object;") ∈ lw_all := lw_g (lw_at lw_m1 58 rfl) rfl
theorem q141 : (Jvm.Cond.laysStatic "java/util/ArrayList" "DEFAULTCAPACITY_EMPTY_ELEMENTDATA" "[Ljava/lang/Object;") ∈ lw_tbl := lw_at lw_m1 59 rfl
theorem q142 : (Jvm.Cond.fieldLink "java/util/ArrayList" (9 : Nat) "java/util/ArrayList" "elementData" "[Ljava/lang/Object;") ∈ lw_all := lw_g (lw_at lw_m1 60 rfl) rfl
theorem q143 : (Jvm.Cond.fieldLink "java/util/ArrayList" (48 : Nat) "java/util/ArrayList" "size" "I") ∈ lw_all := lw_g (lw_at lw_m1 61 rfl) rfl
theorem q145 : (Jvm.Cond.fieldLink "java/util/ArrayList" (63 : Nat) "java/util/ArrayList" "modCount" "I") ∈ lw_all := lw_g (lw_at lw_m1 63 rfl) rfl
theorem q146 : (Jvm.Cond.sameField "java/util/ArrayList" "java/util/AbstractList" "modCount" "I") ∈ lw_all := lw_g (lw_at lw_m1 64 rfl) rfl
theorem q147 : (Jvm.Cond.lays "java/util/ArrayList" "java/util/ArrayList" "elementData" "[Ljava/lang/Object;") ∈ lw_all := lw_g (lw_at lw_m1 65 rfl) rfl
theorem q148 : (Jvm.Cond.soleField "java/util/ArrayList" "elementData") ∈ lw_all := lw_g (lw_at lw_m1 66 rfl) rfl
theorem q149 : (Jvm.Cond.lays "java/util/ArrayList" "java/util/ArrayList" "size" "I") ∈ lw_all := lw_g (lw_at lw_m1 67 rfl) rfl
theorem q150 : (Jvm.Cond.soleField "java/util/ArrayList" "size") ∈ lw_all := lw_g (lw_at lw_m1 68 rfl) rfl
theorem q151 : (Jvm.Cond.lays "java/util/ArrayList" "java/util/AbstractList" "modCount" "I") ∈ lw_all := lw_g (lw_at lw_m1 69 rfl) rfl
theorem q153 : (Jvm.Cond.superclass "java/util/ArrayList" "java/util/AbstractList") ∈ lw_all := lw_g (lw_at lw_m1 71 rfl) rfl
theorem q903 : (Jvm.Cond.instanceMethod ({ cls := "java/util/ArrayList", name := "size", desc := "()I" } : Jvm.MethodName)) ∈ lw_all := lw_g (lw_at lw_m4 101 rfl) rfl
theorem q904 : (Jvm.Cond.selects "java/util/ArrayList" ({ cls := "java/util/ArrayList", name := "size", desc := "()I" } : Jvm.MethodName) ({ cls := "java/util/ArrayList", name := "size", desc := "()I" } : Jvm.MethodName)) ∈ lw_all := lw_g (lw_at lw_m4 102 rfl) rfl
theorem q905 : (Jvm.Cond.code ({ cls := "java/util/ArrayList", name := "size", desc := "()I" } : Jvm.MethodName) prog_44_method_8_code (1 : Nat) (Option.some Jvm.ClassFile.FieldType.int)) ∈ lw_all := lw_g (lw_at lw_m4 103 rfl) rfl
theorem q995 : (Jvm.Cond.instanceMethod ({ cls := "java/util/ArrayList", name := "add", desc := "(Ljava/lang/Object;)Z" } : Jvm.MethodName)) ∈ lw_all := lw_g (lw_at lw_m4 193 rfl) rfl
theorem q996 : (Jvm.Cond.selects "java/util/ArrayList" ({ cls := "java/util/ArrayList", name := "add", desc := "(Ljava/lang/Object;)Z" } : Jvm.MethodName) ({ cls := "java/util/ArrayList", name := "add", desc := "(Ljava/lang/Object;)Z" } : Jvm.MethodName)) ∈ lw_all := lw_g (lw_at lw_m4 194 rfl) rfl
theorem q997 : (Jvm.Cond.code ({ cls := "java/util/ArrayList", name := "add", desc := "(Ljava/lang/Object;)Z" } : Jvm.MethodName) prog_44_method_25_code (2 : Nat) (Option.some Jvm.ClassFile.FieldType.boolean)) ∈ lw_all := lw_g (lw_at lw_m4 195 rfl) rfl
theorem q998 : (Jvm.Cond.methodLink "java/util/ArrayList" (131 : Nat) ({ cls := "java/util/ArrayList", name := "add", desc := "(Ljava/lang/Object;[Ljava/lang/Object;I)V" } : Jvm.MethodName)) ∈ lw_all := lw_g (lw_at lw_m4 196 rfl) rfl
theorem q999 : (Jvm.Cond.privateMethod ({ cls := "java/util/ArrayList", name := "add", desc := "(Ljava/lang/Object;[Ljava/lang/Object;I)V" } : Jvm.MethodName)) ∈ lw_tbl := lw_at lw_m4 197 rfl
theorem q1000 : (Jvm.Cond.instanceMethod ({ cls := "java/util/ArrayList", name := "add", desc := "(Ljava/lang/Object;[Ljava/lang/Object;I)V" } : Jvm.MethodName)) ∈ lw_all := lw_g (lw_at lw_m4 198 rfl) rfl
theorem q1001 : (Jvm.Cond.code ({ cls := "java/util/ArrayList", name := "add", desc := "(Ljava/lang/Object;[Ljava/lang/Object;I)V" } : Jvm.MethodName) prog_44_method_24_code (4 : Nat) (Option.none : Option Jvm.ClassFile.FieldType)) ∈ lw_all := lw_g (lw_at lw_m4 199 rfl) rfl
theorem q1002 : (Jvm.Cond.methodLink "java/util/ArrayList" (129 : Nat) ({ cls := "java/util/ArrayList", name := "grow", desc := "()[Ljava/lang/Object;" } : Jvm.MethodName)) ∈ lw_all := lw_g (lw_at lw_m4 200 rfl) rfl
theorem q1003 : (Jvm.Cond.privateMethod ({ cls := "java/util/ArrayList", name := "grow", desc := "()[Ljava/lang/Object;" } : Jvm.MethodName)) ∈ lw_tbl := lw_at lw_m4 201 rfl
theorem q1004 : (Jvm.Cond.instanceMethod ({ cls := "java/util/ArrayList", name := "grow", desc := "()[Ljava/lang/Object;" } : Jvm.MethodName)) ∈ lw_all := lw_g (lw_at lw_m4 202 rfl) rfl
theorem q1005 : (Jvm.Cond.code ({ cls := "java/util/ArrayList", name := "grow", desc := "()[Ljava/lang/Object;" } : Jvm.MethodName) prog_44_method_7_code (1 : Nat) (Option.some (Jvm.ClassFile.FieldType.array (Jvm.ClassFile.FieldType.object "java/lang/Object")))) ∈ lw_all := lw_g (lw_at lw_m4 203 rfl) rfl
theorem q1006 : (Jvm.Cond.methodLink "java/util/ArrayList" (69 : Nat) ({ cls := "java/util/ArrayList", name := "grow", desc := "(I)[Ljava/lang/Object;" } : Jvm.MethodName)) ∈ lw_all := lw_g (lw_at lw_m4 204 rfl) rfl
theorem q1007 : (Jvm.Cond.privateMethod ({ cls := "java/util/ArrayList", name := "grow", desc := "(I)[Ljava/lang/Object;" } : Jvm.MethodName)) ∈ lw_tbl := lw_at lw_m4 205 rfl
theorem q1008 : (Jvm.Cond.instanceMethod ({ cls := "java/util/ArrayList", name := "grow", desc := "(I)[Ljava/lang/Object;" } : Jvm.MethodName)) ∈ lw_all := lw_g (lw_at lw_m4 206 rfl) rfl
theorem q1009 : (Jvm.Cond.code ({ cls := "java/util/ArrayList", name := "grow", desc := "(I)[Ljava/lang/Object;" } : Jvm.MethodName) prog_44_method_6_code (4 : Nat) (Option.some (Jvm.ClassFile.FieldType.array (Jvm.ClassFile.FieldType.object "java/lang/Object")))) ∈ lw_all := lw_g (lw_at lw_m4 207 rfl) rfl
theorem q1010 : (Jvm.Cond.methodLink "java/util/ArrayList" (73 : Nat) ({ cls := "jdk/internal/util/ArraysSupport", name := "newLength", desc := "(III)I" } : Jvm.MethodName)) ∈ lw_all := lw_g (lw_at lw_m4 208 rfl) rfl
theorem q1011 : (Jvm.Cond.methodLink "java/util/ArrayList" (66 : Nat) ({ cls := "java/util/Arrays", name := "copyOf", desc := "([Ljava/lang/Object;I)[Ljava/lang/Object;" } : Jvm.MethodName)) ∈ lw_all := lw_g (lw_at lw_m4 209 rfl) rfl
theorem q1036 : (Jvm.Cond.selects "java/util/ArrayList" ({ cls := "java/lang/Object", name := "getClass", desc := "()Ljava/lang/Class;" } : Jvm.MethodName) ({ cls := "java/lang/Object", name := "getClass", desc := "()Ljava/lang/Class;" } : Jvm.MethodName)) ∈ lw_all := lw_g (lw_at lw_m4 234 rfl) rfl
theorem q1044 : (Jvm.Cond.methodLink "java/util/ArrayList" (79 : Nat) ({ cls := "java/lang/Math", name := "max", desc := "(II)I" } : Jvm.MethodName)) ∈ lw_all := lw_g (lw_at lw_m5 2 rfl) rfl
theorem q1045 : (Jvm.Cond.classLink "java/util/ArrayList" (7 : Nat) "java/lang/Object") ∈ lw_all := lw_g (lw_at lw_m5 3 rfl) rfl
theorem q1055 : (Jvm.Cond.instanceMethod ({ cls := "java/util/ArrayList", name := "get", desc := "(I)Ljava/lang/Object;" } : Jvm.MethodName)) ∈ lw_all := lw_g (lw_at lw_m5 13 rfl) rfl
theorem q1056 : (Jvm.Cond.selects "java/util/ArrayList" ({ cls := "java/util/ArrayList", name := "get", desc := "(I)Ljava/lang/Object;" } : Jvm.MethodName) ({ cls := "java/util/ArrayList", name := "get", desc := "(I)Ljava/lang/Object;" } : Jvm.MethodName)) ∈ lw_all := lw_g (lw_at lw_m5 14 rfl) rfl
theorem q1057 : (Jvm.Cond.code ({ cls := "java/util/ArrayList", name := "get", desc := "(I)Ljava/lang/Object;" } : Jvm.MethodName) prog_44_method_20_code (2 : Nat) (Option.some (Jvm.ClassFile.FieldType.object "java/lang/Object"))) ∈ lw_all := lw_g (lw_at lw_m5 15 rfl) rfl
theorem q1058 : (Jvm.Cond.methodLink "java/util/ArrayList" (118 : Nat) ({ cls := "java/util/Objects", name := "checkIndex", desc := "(II)I" } : Jvm.MethodName)) ∈ lw_all := lw_g (lw_at lw_m5 16 rfl) rfl
theorem q1062 : (Jvm.Cond.methodLink "java/util/ArrayList" (123 : Nat) ({ cls := "java/util/ArrayList", name := "elementData", desc := "(I)Ljava/lang/Object;" } : Jvm.MethodName)) ∈ lw_all := lw_g (lw_at lw_m5 20 rfl) rfl
theorem q1063 : (Jvm.Cond.instanceMethod ({ cls := "java/util/ArrayList", name := "elementData", desc := "(I)Ljava/lang/Object;" } : Jvm.MethodName)) ∈ lw_all := lw_g (lw_at lw_m5 21 rfl) rfl
theorem q1064 : (Jvm.Cond.selects "java/util/ArrayList" ({ cls := "java/util/ArrayList", name := "elementData", desc := "(I)Ljava/lang/Object;" } : Jvm.MethodName) ({ cls := "java/util/ArrayList", name := "elementData", desc := "(I)Ljava/lang/Object;" } : Jvm.MethodName)) ∈ lw_all := lw_g (lw_at lw_m5 22 rfl) rfl
theorem q1065 : (Jvm.Cond.code ({ cls := "java/util/ArrayList", name := "elementData", desc := "(I)Ljava/lang/Object;" } : Jvm.MethodName) prog_44_method_18_code (2 : Nat) (Option.some (Jvm.ClassFile.FieldType.object "java/lang/Object"))) ∈ lw_all := lw_g (lw_at lw_m5 23 rfl) rfl
theorem q1958 : (Jvm.Cond.castable "java/util/ArrayList" "java/lang/Object") ∈ lw_tbl := lw_at lw_m8 196 rfl
theorem in_J2 : ∀ w ∈ wsJ20, w ∈ lw_all := lw_in wsJ20 [151, 147, 149] (by decide +kernel) (by decide +kernel)

/-! java/lang/String -/
set_option maxRecDepth 100000
def RJ3 : String := "java/lang/String"
def TJ3 : u_T := fun k => match k with
  | 0 => ("java/lang/String", "value", "[B", true)
  | 1 => ("java/lang/String", "coder", "B", true)
  | 2 => ("java/lang/String", "hash", "I", false)
  | _ => ("java/lang/String", "hashIsZero", "Z", false)
def tyJ3 : Nat → FieldType := fun k => match k with
  | 0 => .array .byte
  | 1 => .byte
  | 2 => .int
  | _ => .boolean
abbrev wsJ30 : List Cond := u_ws RJ3 TJ3 4
theorem nmJ3 : ∀ a, a < 4 → ∀ b, b < 4 → a ≠ b → (TJ3 a).2.1 ≠ (TJ3 b).2.1 := by decide +kernel
theorem tyJ3_ok : ∀ k, k < 4 → parseFieldDescriptor (TJ3 k).2.2.1 = some (tyJ3 k) := by decide +kernel
abbrev cJ3_length : ByteArray := prog_34_method_54_code
def yJ3_length : MethodName := ⟨RJ3, "length", "()I"⟩
def dkwJ3_length_0 : List UInt8 := [42, 180, 0, 9, 190, 42, 182, 1, 79, 122, 172]
abbrev dktJ3_length_0 : List UInt8 := dkwJ3_length_0 ++ []
theorem dksJ3_length_0 : cJ3_length.data.toList.drop 0 = dktJ3_length_0 := by decide +kernel
theorem dJ3_length_0 : decode cJ3_length 0 = .ok (.aload_n 0, 1) := dk_42 (dk_at dksJ3_length_0 0 rfl rfl)
theorem dJ3_length_1 : decode cJ3_length 1 = .ok (.getfield 9, 3) := dk_180 0 9 (dk_at dksJ3_length_0 1 rfl rfl)
theorem dJ3_length_4 : decode cJ3_length 4 = .ok (.arraylength, 1) := dk_190 (dk_at dksJ3_length_0 4 rfl rfl)
theorem dJ3_length_5 : decode cJ3_length 5 = .ok (.aload_n 0, 1) := dk_42 (dk_at dksJ3_length_0 5 rfl rfl)
theorem dJ3_length_6 : decode cJ3_length 6 = .ok (.invokevirtual 335, 3) := dk_182 1 79 (dk_at dksJ3_length_0 6 rfl rfl)
theorem dJ3_length_9 : decode cJ3_length 9 = .ok (.ishr, 1) := dk_122 (dk_at dksJ3_length_0 9 rfl rfl)
theorem dJ3_length_10 : decode cJ3_length 10 = .ok (.ireturn, 1) := dk_172 (dk_at dksJ3_length_0 10 rfl rfl)
abbrev cJ3_coder : ByteArray := prog_34_method_152_code
def yJ3_coder : MethodName := ⟨RJ3, "coder", "()B"⟩
def dkwJ3_coder_0 : List UInt8 := [178, 0, 38, 153, 0, 10, 42, 180, 0, 15, 167, 0, 4, 4, 172]
abbrev dktJ3_coder_0 : List UInt8 := dkwJ3_coder_0 ++ []
theorem dksJ3_coder_0 : cJ3_coder.data.toList.drop 0 = dktJ3_coder_0 := by decide +kernel
theorem dJ3_coder_0 : decode cJ3_coder 0 = .ok (.getstatic 38, 3) := dk_178 0 38 (dk_at dksJ3_coder_0 0 rfl rfl)
theorem dJ3_coder_3 : decode cJ3_coder 3 = .ok (.ifCond .eq 10, 3) := dk_153 0 10 (dk_at dksJ3_coder_0 3 rfl rfl)
theorem dJ3_coder_6 : decode cJ3_coder 6 = .ok (.aload_n 0, 1) := dk_42 (dk_at dksJ3_coder_0 6 rfl rfl)
theorem dJ3_coder_7 : decode cJ3_coder 7 = .ok (.getfield 15, 3) := dk_180 0 15 (dk_at dksJ3_coder_0 7 rfl rfl)
theorem dJ3_coder_10 : decode cJ3_coder 10 = .ok (.goto 4, 3) := dk_167 0 4 (dk_at dksJ3_coder_0 10 rfl rfl)
theorem dJ3_coder_13 : decode cJ3_coder 13 = .ok (.iconst 1, 1) := dk_4 (dk_at dksJ3_coder_0 13 rfl rfl)
theorem dJ3_coder_14 : decode cJ3_coder 14 = .ok (.ireturn, 1) := dk_172 (dk_at dksJ3_coder_0 14 rfl rfl)
abbrev cJ3_charAt : ByteArray := prog_34_method_56_code
def yJ3_charAt : MethodName := ⟨RJ3, "charAt", "(I)C"⟩
def dkwJ3_charAt_1 : List UInt8 := [172]
abbrev dktJ3_charAt_1 : List UInt8 := dkwJ3_charAt_1 ++ []
def dkwJ3_charAt_0 : List UInt8 := [42, 182, 1, 236, 153, 0, 12, 42, 180, 0, 9, 27, 184, 1, 239, 172, 42, 180, 0, 9, 27, 184, 1, 242]
abbrev dktJ3_charAt_0 : List UInt8 := dkwJ3_charAt_0 ++ dktJ3_charAt_1
theorem dksJ3_charAt_0 : cJ3_charAt.data.toList.drop 0 = dktJ3_charAt_0 := by decide +kernel
theorem dksJ3_charAt_1 : cJ3_charAt.data.toList.drop 24 = dktJ3_charAt_1 := dk_seg dksJ3_charAt_0 24 rfl rfl
theorem dJ3_charAt_0 : decode cJ3_charAt 0 = .ok (.aload_n 0, 1) := dk_42 (dk_at dksJ3_charAt_0 0 rfl rfl)
theorem dJ3_charAt_1 : decode cJ3_charAt 1 = .ok (.invokevirtual 492, 3) := dk_182 1 236 (dk_at dksJ3_charAt_0 1 rfl rfl)
theorem dJ3_charAt_4 : decode cJ3_charAt 4 = .ok (.ifCond .eq 12, 3) := dk_153 0 12 (dk_at dksJ3_charAt_0 4 rfl rfl)
theorem dJ3_charAt_7 : decode cJ3_charAt 7 = .ok (.aload_n 0, 1) := dk_42 (dk_at dksJ3_charAt_0 7 rfl rfl)
theorem dJ3_charAt_8 : decode cJ3_charAt 8 = .ok (.getfield 9, 3) := dk_180 0 9 (dk_at dksJ3_charAt_0 8 rfl rfl)
theorem dJ3_charAt_11 : decode cJ3_charAt 11 = .ok (.iload_n 1, 1) := dk_27 (dk_at dksJ3_charAt_0 11 rfl rfl)
theorem dJ3_charAt_12 : decode cJ3_charAt 12 = .ok (.invokestatic 495, 3) := dk_184 1 239 (dk_at dksJ3_charAt_0 12 rfl rfl)
theorem dJ3_charAt_15 : decode cJ3_charAt 15 = .ok (.ireturn, 1) := dk_172 (dk_at dksJ3_charAt_0 15 rfl rfl)
theorem dJ3_charAt_16 : decode cJ3_charAt 16 = .ok (.aload_n 0, 1) := dk_42 (dk_at dksJ3_charAt_0 16 rfl rfl)
theorem dJ3_charAt_17 : decode cJ3_charAt 17 = .ok (.getfield 9, 3) := dk_180 0 9 (dk_at dksJ3_charAt_0 17 rfl rfl)
theorem dJ3_charAt_20 : decode cJ3_charAt 20 = .ok (.iload_n 1, 1) := dk_27 (dk_at dksJ3_charAt_0 20 rfl rfl)
theorem dJ3_charAt_21 : decode cJ3_charAt 21 = .ok (.invokestatic 498, 3) := dk_184 1 242 (dk_at dksJ3_charAt_0 21 rfl rfl)
theorem dJ3_charAt_24 : decode cJ3_charAt 24 = .ok (.ireturn, 1) := dk_172 (dk_at dksJ3_charAt_1 0 rfl rfl)
abbrev cJ3_isLatin1 : ByteArray := prog_34_method_154_code
def yJ3_isLatin1 : MethodName := ⟨RJ3, "isLatin1", "()Z"⟩
def dkwJ3_isLatin1_0 : List UInt8 := [178, 0, 38, 153, 0, 14, 42, 180, 0, 15, 154, 0, 7, 4, 167, 0, 4, 3, 172]
abbrev dktJ3_isLatin1_0 : List UInt8 := dkwJ3_isLatin1_0 ++ []
theorem dksJ3_isLatin1_0 : cJ3_isLatin1.data.toList.drop 0 = dktJ3_isLatin1_0 := by decide +kernel
theorem dJ3_isLatin1_0 : decode cJ3_isLatin1 0 = .ok (.getstatic 38, 3) := dk_178 0 38 (dk_at dksJ3_isLatin1_0 0 rfl rfl)
theorem dJ3_isLatin1_3 : decode cJ3_isLatin1 3 = .ok (.ifCond .eq 14, 3) := dk_153 0 14 (dk_at dksJ3_isLatin1_0 3 rfl rfl)
theorem dJ3_isLatin1_6 : decode cJ3_isLatin1 6 = .ok (.aload_n 0, 1) := dk_42 (dk_at dksJ3_isLatin1_0 6 rfl rfl)
theorem dJ3_isLatin1_7 : decode cJ3_isLatin1 7 = .ok (.getfield 15, 3) := dk_180 0 15 (dk_at dksJ3_isLatin1_0 7 rfl rfl)
theorem dJ3_isLatin1_10 : decode cJ3_isLatin1 10 = .ok (.ifCond .ne 7, 3) := dk_154 0 7 (dk_at dksJ3_isLatin1_0 10 rfl rfl)
theorem dJ3_isLatin1_13 : decode cJ3_isLatin1 13 = .ok (.iconst 1, 1) := dk_4 (dk_at dksJ3_isLatin1_0 13 rfl rfl)
theorem dJ3_isLatin1_14 : decode cJ3_isLatin1 14 = .ok (.goto 4, 3) := dk_167 0 4 (dk_at dksJ3_isLatin1_0 14 rfl rfl)
theorem dJ3_isLatin1_17 : decode cJ3_isLatin1 17 = .ok (.iconst 0, 1) := dk_3 (dk_at dksJ3_isLatin1_0 17 rfl rfl)
theorem dJ3_isLatin1_18 : decode cJ3_isLatin1 18 = .ok (.ireturn, 1) := dk_172 (dk_at dksJ3_isLatin1_0 18 rfl rfl)
abbrev cJ3_checkIndex : ByteArray := prog_34_method_155_code
def yJ3_checkIndex : MethodName := ⟨RJ3, "checkIndex", "(II)V"⟩
def dkwJ3_checkIndex_0 : List UInt8 := [26, 27, 178, 4, 29, 184, 4, 35, 87, 177]
abbrev dktJ3_checkIndex_0 : List UInt8 := dkwJ3_checkIndex_0 ++ []
theorem dksJ3_checkIndex_0 : cJ3_checkIndex.data.toList.drop 0 = dktJ3_checkIndex_0 := by decide +kernel
theorem dJ3_checkIndex_0 : decode cJ3_checkIndex 0 = .ok (.iload_n 0, 1) := dk_26 (dk_at dksJ3_checkIndex_0 0 rfl rfl)
theorem dJ3_checkIndex_1 : decode cJ3_checkIndex 1 = .ok (.iload_n 1, 1) := dk_27 (dk_at dksJ3_checkIndex_0 1 rfl rfl)
theorem dJ3_checkIndex_2 : decode cJ3_checkIndex 2 = .ok (.getstatic 1053, 3) := dk_178 4 29 (dk_at dksJ3_checkIndex_0 2 rfl rfl)
theorem dJ3_checkIndex_5 : decode cJ3_checkIndex 5 = .ok (.invokestatic 1059, 3) := dk_184 4 35 (dk_at dksJ3_checkIndex_0 5 rfl rfl)
theorem dJ3_checkIndex_8 : decode cJ3_checkIndex 8 = .ok (.pop, 1) := dk_87 (dk_at dksJ3_checkIndex_0 8 rfl rfl)
theorem dJ3_checkIndex_9 : decode cJ3_checkIndex 9 = .ok (.return_, 1) := dk_177 (dk_at dksJ3_checkIndex_0 9 rfl rfl)
abbrev cJ3_checkBoundsOffCount : ByteArray := prog_34_method_157_code
def yJ3_checkBoundsOffCount : MethodName := ⟨RJ3, "checkBoundsOffCount", "(III)I"⟩
def dkwJ3_checkBoundsOffCount_0 : List UInt8 := [26, 27, 28, 178, 4, 29, 184, 4, 41, 172]
abbrev dktJ3_checkBoundsOffCount_0 : List UInt8 := dkwJ3_checkBoundsOffCount_0 ++ []
theorem dksJ3_checkBoundsOffCount_0 : cJ3_checkBoundsOffCount.data.toList.drop 0 = dktJ3_checkBoundsOffCount_0 := by decide +kernel
theorem dJ3_checkBoundsOffCount_0 : decode cJ3_checkBoundsOffCount 0 = .ok (.iload_n 0, 1) := dk_26 (dk_at dksJ3_checkBoundsOffCount_0 0 rfl rfl)
theorem dJ3_checkBoundsOffCount_1 : decode cJ3_checkBoundsOffCount 1 = .ok (.iload_n 1, 1) := dk_27 (dk_at dksJ3_checkBoundsOffCount_0 1 rfl rfl)
theorem dJ3_checkBoundsOffCount_2 : decode cJ3_checkBoundsOffCount 2 = .ok (.iload_n 2, 1) := dk_28 (dk_at dksJ3_checkBoundsOffCount_0 2 rfl rfl)
theorem dJ3_checkBoundsOffCount_3 : decode cJ3_checkBoundsOffCount 3 = .ok (.getstatic 1053, 3) := dk_178 4 29 (dk_at dksJ3_checkBoundsOffCount_0 3 rfl rfl)
theorem dJ3_checkBoundsOffCount_6 : decode cJ3_checkBoundsOffCount 6 = .ok (.invokestatic 1065, 3) := dk_184 4 41 (dk_at dksJ3_checkBoundsOffCount_0 6 rfl rfl)
theorem dJ3_checkBoundsOffCount_9 : decode cJ3_checkBoundsOffCount 9 = .ok (.ireturn, 1) := dk_172 (dk_at dksJ3_checkBoundsOffCount_0 9 rfl rfl)
abbrev cJ3_init : ByteArray := prog_34_method_53_code
def yJ3_init : MethodName := ⟨RJ3, "<init>", "(Ljava/lang/StringBuilder;)V"⟩
def dkwJ3_init_0 : List UInt8 := [42, 43, 1, 183, 1, 233, 177]
abbrev dktJ3_init_0 : List UInt8 := dkwJ3_init_0 ++ []
theorem dksJ3_init_0 : cJ3_init.data.toList.drop 0 = dktJ3_init_0 := by decide +kernel
theorem dJ3_init_0 : decode cJ3_init 0 = .ok (.aload_n 0, 1) := dk_42 (dk_at dksJ3_init_0 0 rfl rfl)
theorem dJ3_init_1 : decode cJ3_init 1 = .ok (.aload_n 1, 1) := dk_43 (dk_at dksJ3_init_0 1 rfl rfl)
theorem dJ3_init_2 : decode cJ3_init 2 = .ok (.aconst_null, 1) := dk_1 (dk_at dksJ3_init_0 2 rfl rfl)
theorem dJ3_init_3 : decode cJ3_init 3 = .ok (.invokespecial 489, 3) := dk_183 1 233 (dk_at dksJ3_init_0 3 rfl rfl)
theorem dJ3_init_6 : decode cJ3_init 6 = .ok (.return_, 1) := dk_177 (dk_at dksJ3_init_0 6 rfl rfl)
abbrev cJ3_init_2 : ByteArray := prog_34_method_150_code
def yJ3_init_2 : MethodName := ⟨RJ3, "<init>", "(Ljava/lang/AbstractStringBuilder;Ljava/lang/Void;)V"⟩
def dkwJ3_init_2_4 : List UInt8 := [181, 0, 9, 177]
abbrev dktJ3_init_2_4 : List UInt8 := dkwJ3_init_2_4 ++ []
def dkwJ3_init_2_3 : List UInt8 := [184, 0, 47, 181, 0, 15, 177, 42, 4, 181, 0, 15, 42, 45, 3, 21, 4, 4, 120, 184, 0, 54]
abbrev dktJ3_init_2_3 : List UInt8 := dkwJ3_init_2_3 ++ dktJ3_init_2_4
def dkwJ3_init_2_2 : List UInt8 := [180, 4, 24, 153, 0, 28, 42, 45, 3, 21, 4, 184, 4, 27, 181, 0, 9, 42, 42, 180, 0, 9, 21, 4]
abbrev dktJ3_init_2_2 : List UInt8 := dkwJ3_init_2_2 ++ dktJ3_init_2_3
def dkwJ3_init_2_1 : List UInt8 := [181, 0, 15, 42, 45, 3, 21, 4, 184, 0, 54, 181, 0, 9, 167, 0, 59, 178, 0, 38, 153, 0, 35, 43]
abbrev dktJ3_init_2_1 : List UInt8 := dkwJ3_init_2_1 ++ dktJ3_init_2_2
def dkwJ3_init_2_0 : List UInt8 := [42, 183, 0, 1, 43, 182, 2, 40, 78, 43, 182, 2, 37, 54, 4, 43, 182, 4, 23, 153, 0, 22, 42, 3]
abbrev dktJ3_init_2_0 : List UInt8 := dkwJ3_init_2_0 ++ dktJ3_init_2_1
theorem dksJ3_init_2_0 : cJ3_init_2.data.toList.drop 0 = dktJ3_init_2_0 := by decide +kernel
theorem dksJ3_init_2_1 : cJ3_init_2.data.toList.drop 24 = dktJ3_init_2_1 := dk_seg dksJ3_init_2_0 24 rfl rfl
theorem dksJ3_init_2_2 : cJ3_init_2.data.toList.drop 48 = dktJ3_init_2_2 := dk_seg dksJ3_init_2_1 24 rfl rfl
theorem dksJ3_init_2_3 : cJ3_init_2.data.toList.drop 72 = dktJ3_init_2_3 := dk_seg dksJ3_init_2_2 24 rfl rfl
theorem dksJ3_init_2_4 : cJ3_init_2.data.toList.drop 94 = dktJ3_init_2_4 := dk_seg dksJ3_init_2_3 22 rfl rfl
theorem dJ3_init_2_0 : decode cJ3_init_2 0 = .ok (.aload_n 0, 1) := dk_42 (dk_at dksJ3_init_2_0 0 rfl rfl)
theorem dJ3_init_2_1 : decode cJ3_init_2 1 = .ok (.invokespecial 1, 3) := dk_183 0 1 (dk_at dksJ3_init_2_0 1 rfl rfl)
theorem dJ3_init_2_4 : decode cJ3_init_2 4 = .ok (.aload_n 1, 1) := dk_43 (dk_at dksJ3_init_2_0 4 rfl rfl)
theorem dJ3_init_2_5 : decode cJ3_init_2 5 = .ok (.invokevirtual 552, 3) := dk_182 2 40 (dk_at dksJ3_init_2_0 5 rfl rfl)
theorem dJ3_init_2_8 : decode cJ3_init_2 8 = .ok (.astore_n 3, 1) := dk_78 (dk_at dksJ3_init_2_0 8 rfl rfl)
theorem dJ3_init_2_9 : decode cJ3_init_2 9 = .ok (.aload_n 1, 1) := dk_43 (dk_at dksJ3_init_2_0 9 rfl rfl)
theorem dJ3_init_2_10 : decode cJ3_init_2 10 = .ok (.invokevirtual 549, 3) := dk_182 2 37 (dk_at dksJ3_init_2_0 10 rfl rfl)
theorem dJ3_init_2_13 : decode cJ3_init_2 13 = .ok (.istore 4, 2) := dk_54 4 (dk_at dksJ3_init_2_0 13 rfl rfl)
theorem dJ3_init_2_15 : decode cJ3_init_2 15 = .ok (.aload_n 1, 1) := dk_43 (dk_at dksJ3_init_2_0 15 rfl rfl)
theorem dJ3_init_2_16 : decode cJ3_init_2 16 = .ok (.invokevirtual 1047, 3) := dk_182 4 23 (dk_at dksJ3_init_2_0 16 rfl rfl)
theorem dJ3_init_2_19 : decode cJ3_init_2 19 = .ok (.ifCond .eq 22, 3) := dk_153 0 22 (dk_at dksJ3_init_2_0 19 rfl rfl)
theorem dJ3_init_2_22 : decode cJ3_init_2 22 = .ok (.aload_n 0, 1) := dk_42 (dk_at dksJ3_init_2_0 22 rfl rfl)
theorem dJ3_init_2_23 : decode cJ3_init_2 23 = .ok (.iconst 0, 1) := dk_3 (dk_at dksJ3_init_2_0 23 rfl rfl)
theorem dJ3_init_2_24 : decode cJ3_init_2 24 = .ok (.putfield 15, 3) := dk_181 0 15 (dk_at dksJ3_init_2_1 0 rfl rfl)
theorem dJ3_init_2_27 : decode cJ3_init_2 27 = .ok (.aload_n 0, 1) := dk_42 (dk_at dksJ3_init_2_1 3 rfl rfl)
theorem dJ3_init_2_28 : decode cJ3_init_2 28 = .ok (.aload_n 3, 1) := dk_45 (dk_at dksJ3_init_2_1 4 rfl rfl)
theorem dJ3_init_2_29 : decode cJ3_init_2 29 = .ok (.iconst 0, 1) := dk_3 (dk_at dksJ3_init_2_1 5 rfl rfl)
theorem dJ3_init_2_30 : decode cJ3_init_2 30 = .ok (.iload 4, 2) := dk_21 4 (dk_at dksJ3_init_2_1 6 rfl rfl)
theorem dJ3_init_2_32 : decode cJ3_init_2 32 = .ok (.invokestatic 54, 3) := dk_184 0 54 (dk_at dksJ3_init_2_1 8 rfl rfl)
theorem dJ3_init_2_35 : decode cJ3_init_2 35 = .ok (.putfield 9, 3) := dk_181 0 9 (dk_at dksJ3_init_2_1 11 rfl rfl)
theorem dJ3_init_2_38 : decode cJ3_init_2 38 = .ok (.goto 59, 3) := dk_167 0 59 (dk_at dksJ3_init_2_1 14 rfl rfl)
theorem dJ3_init_2_41 : decode cJ3_init_2 41 = .ok (.getstatic 38, 3) := dk_178 0 38 (dk_at dksJ3_init_2_1 17 rfl rfl)
theorem dJ3_init_2_44 : decode cJ3_init_2 44 = .ok (.ifCond .eq 35, 3) := dk_153 0 35 (dk_at dksJ3_init_2_1 20 rfl rfl)
theorem dJ3_init_2_47 : decode cJ3_init_2 47 = .ok (.aload_n 1, 1) := dk_43 (dk_at dksJ3_init_2_1 23 rfl rfl)
theorem dJ3_init_2_48 : decode cJ3_init_2 48 = .ok (.getfield 1048, 3) := dk_180 4 24 (dk_at dksJ3_init_2_2 0 rfl rfl)
theorem dJ3_init_2_51 : decode cJ3_init_2 51 = .ok (.ifCond .eq 28, 3) := dk_153 0 28 (dk_at dksJ3_init_2_2 3 rfl rfl)
theorem dJ3_init_2_54 : decode cJ3_init_2 54 = .ok (.aload_n 0, 1) := dk_42 (dk_at dksJ3_init_2_2 6 rfl rfl)
theorem dJ3_init_2_55 : decode cJ3_init_2 55 = .ok (.aload_n 3, 1) := dk_45 (dk_at dksJ3_init_2_2 7 rfl rfl)
theorem dJ3_init_2_56 : decode cJ3_init_2 56 = .ok (.iconst 0, 1) := dk_3 (dk_at dksJ3_init_2_2 8 rfl rfl)
theorem dJ3_init_2_57 : decode cJ3_init_2 57 = .ok (.iload 4, 2) := dk_21 4 (dk_at dksJ3_init_2_2 9 rfl rfl)
theorem dJ3_init_2_59 : decode cJ3_init_2 59 = .ok (.invokestatic 1051, 3) := dk_184 4 27 (dk_at dksJ3_init_2_2 11 rfl rfl)
theorem dJ3_init_2_62 : decode cJ3_init_2 62 = .ok (.putfield 9, 3) := dk_181 0 9 (dk_at dksJ3_init_2_2 14 rfl rfl)
theorem dJ3_init_2_65 : decode cJ3_init_2 65 = .ok (.aload_n 0, 1) := dk_42 (dk_at dksJ3_init_2_2 17 rfl rfl)
theorem dJ3_init_2_66 : decode cJ3_init_2 66 = .ok (.aload_n 0, 1) := dk_42 (dk_at dksJ3_init_2_2 18 rfl rfl)
theorem dJ3_init_2_67 : decode cJ3_init_2 67 = .ok (.getfield 9, 3) := dk_180 0 9 (dk_at dksJ3_init_2_2 19 rfl rfl)
theorem dJ3_init_2_70 : decode cJ3_init_2 70 = .ok (.iload 4, 2) := dk_21 4 (dk_at dksJ3_init_2_2 22 rfl rfl)
theorem dJ3_init_2_72 : decode cJ3_init_2 72 = .ok (.invokestatic 47, 3) := dk_184 0 47 (dk_at dksJ3_init_2_3 0 rfl rfl)
theorem dJ3_init_2_75 : decode cJ3_init_2 75 = .ok (.putfield 15, 3) := dk_181 0 15 (dk_at dksJ3_init_2_3 3 rfl rfl)
theorem dJ3_init_2_78 : decode cJ3_init_2 78 = .ok (.return_, 1) := dk_177 (dk_at dksJ3_init_2_3 6 rfl rfl)
theorem dJ3_init_2_79 : decode cJ3_init_2 79 = .ok (.aload_n 0, 1) := dk_42 (dk_at dksJ3_init_2_3 7 rfl rfl)
theorem dJ3_init_2_80 : decode cJ3_init_2 80 = .ok (.iconst 1, 1) := dk_4 (dk_at dksJ3_init_2_3 8 rfl rfl)
theorem dJ3_init_2_81 : decode cJ3_init_2 81 = .ok (.putfield 15, 3) := dk_181 0 15 (dk_at dksJ3_init_2_3 9 rfl rfl)
theorem dJ3_init_2_84 : decode cJ3_init_2 84 = .ok (.aload_n 0, 1) := dk_42 (dk_at dksJ3_init_2_3 12 rfl rfl)
theorem dJ3_init_2_85 : decode cJ3_init_2 85 = .ok (.aload_n 3, 1) := dk_45 (dk_at dksJ3_init_2_3 13 rfl rfl)
theorem dJ3_init_2_86 : decode cJ3_init_2 86 = .ok (.iconst 0, 1) := dk_3 (dk_at dksJ3_init_2_3 14 rfl rfl)
theorem dJ3_init_2_87 : decode cJ3_init_2 87 = .ok (.iload 4, 2) := dk_21 4 (dk_at dksJ3_init_2_3 15 rfl rfl)
theorem dJ3_init_2_89 : decode cJ3_init_2 89 = .ok (.iconst 1, 1) := dk_4 (dk_at dksJ3_init_2_3 17 rfl rfl)
theorem dJ3_init_2_90 : decode cJ3_init_2 90 = .ok (.ishl, 1) := dk_120 (dk_at dksJ3_init_2_3 18 rfl rfl)
theorem dJ3_init_2_91 : decode cJ3_init_2 91 = .ok (.invokestatic 54, 3) := dk_184 0 54 (dk_at dksJ3_init_2_3 19 rfl rfl)
theorem dJ3_init_2_94 : decode cJ3_init_2 94 = .ok (.putfield 9, 3) := dk_181 0 9 (dk_at dksJ3_init_2_4 0 rfl rfl)
theorem dJ3_init_2_97 : decode cJ3_init_2 97 = .ok (.return_, 1) := dk_177 (dk_at dksJ3_init_2_4 3 rfl rfl)
abbrev cJ3_indexOf : ByteArray := prog_34_method_79_code
def yJ3_indexOf : MethodName := ⟨RJ3, "indexOf", "(I)I"⟩
def dkwJ3_indexOf_0 : List UInt8 := [42, 27, 3, 182, 2, 121, 172]
abbrev dktJ3_indexOf_0 : List UInt8 := dkwJ3_indexOf_0 ++ []
theorem dksJ3_indexOf_0 : cJ3_indexOf.data.toList.drop 0 = dktJ3_indexOf_0 := by decide +kernel
theorem dJ3_indexOf_0 : decode cJ3_indexOf 0 = .ok (.aload_n 0, 1) := dk_42 (dk_at dksJ3_indexOf_0 0 rfl rfl)
theorem dJ3_indexOf_1 : decode cJ3_indexOf 1 = .ok (.iload_n 1, 1) := dk_27 (dk_at dksJ3_indexOf_0 1 rfl rfl)
theorem dJ3_indexOf_2 : decode cJ3_indexOf 2 = .ok (.iconst 0, 1) := dk_3 (dk_at dksJ3_indexOf_0 2 rfl rfl)
theorem dJ3_indexOf_3 : decode cJ3_indexOf 3 = .ok (.invokevirtual 633, 3) := dk_182 2 121 (dk_at dksJ3_indexOf_0 3 rfl rfl)
theorem dJ3_indexOf_6 : decode cJ3_indexOf 6 = .ok (.ireturn, 1) := dk_172 (dk_at dksJ3_indexOf_0 6 rfl rfl)
abbrev cJ3_indexOf_2 : ByteArray := prog_34_method_80_code
def yJ3_indexOf_2 : MethodName := ⟨RJ3, "indexOf", "(II)I"⟩
def dkwJ3_indexOf_2_1 : List UInt8 := [180, 0, 9, 27, 28, 42, 182, 1, 249, 184, 2, 128, 172]
abbrev dktJ3_indexOf_2_1 : List UInt8 := dkwJ3_indexOf_2_1 ++ []
def dkwJ3_indexOf_2_0 : List UInt8 := [42, 182, 1, 236, 153, 0, 19, 42, 180, 0, 9, 27, 28, 42, 182, 1, 249, 184, 2, 125, 167, 0, 16, 42]
abbrev dktJ3_indexOf_2_0 : List UInt8 := dkwJ3_indexOf_2_0 ++ dktJ3_indexOf_2_1
theorem dksJ3_indexOf_2_0 : cJ3_indexOf_2.data.toList.drop 0 = dktJ3_indexOf_2_0 := by decide +kernel
theorem dksJ3_indexOf_2_1 : cJ3_indexOf_2.data.toList.drop 24 = dktJ3_indexOf_2_1 := dk_seg dksJ3_indexOf_2_0 24 rfl rfl
theorem dJ3_indexOf_2_0 : decode cJ3_indexOf_2 0 = .ok (.aload_n 0, 1) := dk_42 (dk_at dksJ3_indexOf_2_0 0 rfl rfl)
theorem dJ3_indexOf_2_1 : decode cJ3_indexOf_2 1 = .ok (.invokevirtual 492, 3) := dk_182 1 236 (dk_at dksJ3_indexOf_2_0 1 rfl rfl)
theorem dJ3_indexOf_2_4 : decode cJ3_indexOf_2 4 = .ok (.ifCond .eq 19, 3) := dk_153 0 19 (dk_at dksJ3_indexOf_2_0 4 rfl rfl)
theorem dJ3_indexOf_2_7 : decode cJ3_indexOf_2 7 = .ok (.aload_n 0, 1) := dk_42 (dk_at dksJ3_indexOf_2_0 7 rfl rfl)
theorem dJ3_indexOf_2_8 : decode cJ3_indexOf_2 8 = .ok (.getfield 9, 3) := dk_180 0 9 (dk_at dksJ3_indexOf_2_0 8 rfl rfl)
theorem dJ3_indexOf_2_11 : decode cJ3_indexOf_2 11 = .ok (.iload_n 1, 1) := dk_27 (dk_at dksJ3_indexOf_2_0 11 rfl rfl)
theorem dJ3_indexOf_2_12 : decode cJ3_indexOf_2 12 = .ok (.iload_n 2, 1) := dk_28 (dk_at dksJ3_indexOf_2_0 12 rfl rfl)
theorem dJ3_indexOf_2_13 : decode cJ3_indexOf_2 13 = .ok (.aload_n 0, 1) := dk_42 (dk_at dksJ3_indexOf_2_0 13 rfl rfl)
theorem dJ3_indexOf_2_14 : decode cJ3_indexOf_2 14 = .ok (.invokevirtual 505, 3) := dk_182 1 249 (dk_at dksJ3_indexOf_2_0 14 rfl rfl)
theorem dJ3_indexOf_2_17 : decode cJ3_indexOf_2 17 = .ok (.invokestatic 637, 3) := dk_184 2 125 (dk_at dksJ3_indexOf_2_0 17 rfl rfl)
theorem dJ3_indexOf_2_20 : decode cJ3_indexOf_2 20 = .ok (.goto 16, 3) := dk_167 0 16 (dk_at dksJ3_indexOf_2_0 20 rfl rfl)
theorem dJ3_indexOf_2_23 : decode cJ3_indexOf_2 23 = .ok (.aload_n 0, 1) := dk_42 (dk_at dksJ3_indexOf_2_0 23 rfl rfl)
theorem dJ3_indexOf_2_24 : decode cJ3_indexOf_2 24 = .ok (.getfield 9, 3) := dk_180 0 9 (dk_at dksJ3_indexOf_2_1 0 rfl rfl)
theorem dJ3_indexOf_2_27 : decode cJ3_indexOf_2 27 = .ok (.iload_n 1, 1) := dk_27 (dk_at dksJ3_indexOf_2_1 3 rfl rfl)
theorem dJ3_indexOf_2_28 : decode cJ3_indexOf_2 28 = .ok (.iload_n 2, 1) := dk_28 (dk_at dksJ3_indexOf_2_1 4 rfl rfl)
theorem dJ3_indexOf_2_29 : decode cJ3_indexOf_2 29 = .ok (.aload_n 0, 1) := dk_42 (dk_at dksJ3_indexOf_2_1 5 rfl rfl)
theorem dJ3_indexOf_2_30 : decode cJ3_indexOf_2 30 = .ok (.invokevirtual 505, 3) := dk_182 1 249 (dk_at dksJ3_indexOf_2_1 6 rfl rfl)
theorem dJ3_indexOf_2_33 : decode cJ3_indexOf_2 33 = .ok (.invokestatic 640, 3) := dk_184 2 128 (dk_at dksJ3_indexOf_2_1 9 rfl rfl)
theorem dJ3_indexOf_2_36 : decode cJ3_indexOf_2 36 = .ok (.ireturn, 1) := dk_172 (dk_at dksJ3_indexOf_2_1 12 rfl rfl)
abbrev cJ3_checkBoundsBeginEnd : ByteArray := prog_34_method_158_code
def yJ3_checkBoundsBeginEnd : MethodName := ⟨RJ3, "checkBoundsBeginEnd", "(III)V"⟩
def dkwJ3_checkBoundsBeginEnd_0 : List UInt8 := [26, 27, 28, 178, 4, 29, 184, 4, 38, 87, 177]
abbrev dktJ3_checkBoundsBeginEnd_0 : List UInt8 := dkwJ3_checkBoundsBeginEnd_0 ++ []
theorem dksJ3_checkBoundsBeginEnd_0 : cJ3_checkBoundsBeginEnd.data.toList.drop 0 = dktJ3_checkBoundsBeginEnd_0 := by decide +kernel
theorem dJ3_checkBoundsBeginEnd_0 : decode cJ3_checkBoundsBeginEnd 0 = .ok (.iload_n 0, 1) := dk_26 (dk_at dksJ3_checkBoundsBeginEnd_0 0 rfl rfl)
theorem dJ3_checkBoundsBeginEnd_1 : decode cJ3_checkBoundsBeginEnd 1 = .ok (.iload_n 1, 1) := dk_27 (dk_at dksJ3_checkBoundsBeginEnd_0 1 rfl rfl)
theorem dJ3_checkBoundsBeginEnd_2 : decode cJ3_checkBoundsBeginEnd 2 = .ok (.iload_n 2, 1) := dk_28 (dk_at dksJ3_checkBoundsBeginEnd_0 2 rfl rfl)
theorem dJ3_checkBoundsBeginEnd_3 : decode cJ3_checkBoundsBeginEnd 3 = .ok (.getstatic 1053, 3) := dk_178 4 29 (dk_at dksJ3_checkBoundsBeginEnd_0 3 rfl rfl)
theorem dJ3_checkBoundsBeginEnd_6 : decode cJ3_checkBoundsBeginEnd 6 = .ok (.invokestatic 1062, 3) := dk_184 4 38 (dk_at dksJ3_checkBoundsBeginEnd_0 6 rfl rfl)
theorem dJ3_checkBoundsBeginEnd_9 : decode cJ3_checkBoundsBeginEnd 9 = .ok (.pop, 1) := dk_87 (dk_at dksJ3_checkBoundsBeginEnd_0 9 rfl rfl)
theorem dJ3_checkBoundsBeginEnd_10 : decode cJ3_checkBoundsBeginEnd 10 = .ok (.return_, 1) := dk_177 (dk_at dksJ3_checkBoundsBeginEnd_0 10 rfl rfl)
abbrev cJ3_equals : ByteArray := prog_34_method_66_code
def yJ3_equals : MethodName := ⟨RJ3, "equals", "(Ljava/lang/Object;)Z"⟩
def dkwJ3_equals_2 : List UInt8 := [184, 2, 29, 153, 0, 7, 4, 167, 0, 4, 3, 172]
abbrev dktJ3_equals_2 : List UInt8 := dkwJ3_equals_2 ++ []
def dkwJ3_equals_1 : List UInt8 := [153, 0, 14, 42, 180, 0, 15, 44, 180, 0, 15, 160, 0, 21, 42, 180, 0, 9, 44, 180, 0, 9]
abbrev dktJ3_equals_1 : List UInt8 := dkwJ3_equals_1 ++ dktJ3_equals_2
def dkwJ3_equals_0 : List UInt8 := [42, 43, 166, 0, 5, 4, 172, 43, 193, 0, 10, 153, 0, 43, 43, 192, 0, 10, 77, 178, 0, 38]
abbrev dktJ3_equals_0 : List UInt8 := dkwJ3_equals_0 ++ dktJ3_equals_1
theorem dksJ3_equals_0 : cJ3_equals.data.toList.drop 0 = dktJ3_equals_0 := by decide +kernel
theorem dksJ3_equals_1 : cJ3_equals.data.toList.drop 22 = dktJ3_equals_1 := dk_seg dksJ3_equals_0 22 rfl rfl
theorem dksJ3_equals_2 : cJ3_equals.data.toList.drop 44 = dktJ3_equals_2 := dk_seg dksJ3_equals_1 22 rfl rfl
theorem dJ3_equals_0 : decode cJ3_equals 0 = .ok (.aload_n 0, 1) := dk_42 (dk_at dksJ3_equals_0 0 rfl rfl)
theorem dJ3_equals_1 : decode cJ3_equals 1 = .ok (.aload_n 1, 1) := dk_43 (dk_at dksJ3_equals_0 1 rfl rfl)
theorem dJ3_equals_2 : decode cJ3_equals 2 = .ok (.if_acmp .ne 5, 3) := dk_166 0 5 (dk_at dksJ3_equals_0 2 rfl rfl)
theorem dJ3_equals_5 : decode cJ3_equals 5 = .ok (.iconst 1, 1) := dk_4 (dk_at dksJ3_equals_0 5 rfl rfl)
theorem dJ3_equals_6 : decode cJ3_equals 6 = .ok (.ireturn, 1) := dk_172 (dk_at dksJ3_equals_0 6 rfl rfl)
theorem dJ3_equals_7 : decode cJ3_equals 7 = .ok (.aload_n 1, 1) := dk_43 (dk_at dksJ3_equals_0 7 rfl rfl)
theorem dJ3_equals_8 : decode cJ3_equals 8 = .ok (.instanceof 10, 3) := dk_193 0 10 (dk_at dksJ3_equals_0 8 rfl rfl)
theorem dJ3_equals_11 : decode cJ3_equals 11 = .ok (.ifCond .eq 43, 3) := dk_153 0 43 (dk_at dksJ3_equals_0 11 rfl rfl)
theorem dJ3_equals_14 : decode cJ3_equals 14 = .ok (.aload_n 1, 1) := dk_43 (dk_at dksJ3_equals_0 14 rfl rfl)
theorem dJ3_equals_15 : decode cJ3_equals 15 = .ok (.checkcast 10, 3) := dk_192 0 10 (dk_at dksJ3_equals_0 15 rfl rfl)
theorem dJ3_equals_18 : decode cJ3_equals 18 = .ok (.astore_n 2, 1) := dk_77 (dk_at dksJ3_equals_0 18 rfl rfl)
theorem dJ3_equals_19 : decode cJ3_equals 19 = .ok (.getstatic 38, 3) := dk_178 0 38 (dk_at dksJ3_equals_0 19 rfl rfl)
theorem dJ3_equals_22 : decode cJ3_equals 22 = .ok (.ifCond .eq 14, 3) := dk_153 0 14 (dk_at dksJ3_equals_1 0 rfl rfl)
theorem dJ3_equals_25 : decode cJ3_equals 25 = .ok (.aload_n 0, 1) := dk_42 (dk_at dksJ3_equals_1 3 rfl rfl)
theorem dJ3_equals_26 : decode cJ3_equals 26 = .ok (.getfield 15, 3) := dk_180 0 15 (dk_at dksJ3_equals_1 4 rfl rfl)
theorem dJ3_equals_29 : decode cJ3_equals 29 = .ok (.aload_n 2, 1) := dk_44 (dk_at dksJ3_equals_1 7 rfl rfl)
theorem dJ3_equals_30 : decode cJ3_equals 30 = .ok (.getfield 15, 3) := dk_180 0 15 (dk_at dksJ3_equals_1 8 rfl rfl)
theorem dJ3_equals_33 : decode cJ3_equals 33 = .ok (.if_icmp .ne 21, 3) := dk_160 0 21 (dk_at dksJ3_equals_1 11 rfl rfl)
theorem dJ3_equals_36 : decode cJ3_equals 36 = .ok (.aload_n 0, 1) := dk_42 (dk_at dksJ3_equals_1 14 rfl rfl)
theorem dJ3_equals_37 : decode cJ3_equals 37 = .ok (.getfield 9, 3) := dk_180 0 9 (dk_at dksJ3_equals_1 15 rfl rfl)
theorem dJ3_equals_40 : decode cJ3_equals 40 = .ok (.aload_n 2, 1) := dk_44 (dk_at dksJ3_equals_1 18 rfl rfl)
theorem dJ3_equals_41 : decode cJ3_equals 41 = .ok (.getfield 9, 3) := dk_180 0 9 (dk_at dksJ3_equals_1 19 rfl rfl)
theorem dJ3_equals_44 : decode cJ3_equals 44 = .ok (.invokestatic 541, 3) := dk_184 2 29 (dk_at dksJ3_equals_2 0 rfl rfl)
theorem dJ3_equals_47 : decode cJ3_equals 47 = .ok (.ifCond .eq 7, 3) := dk_153 0 7 (dk_at dksJ3_equals_2 3 rfl rfl)
theorem dJ3_equals_50 : decode cJ3_equals 50 = .ok (.iconst 1, 1) := dk_4 (dk_at dksJ3_equals_2 6 rfl rfl)
theorem dJ3_equals_51 : decode cJ3_equals 51 = .ok (.goto 4, 3) := dk_167 0 4 (dk_at dksJ3_equals_2 7 rfl rfl)
theorem dJ3_equals_54 : decode cJ3_equals 54 = .ok (.iconst 0, 1) := dk_3 (dk_at dksJ3_equals_2 10 rfl rfl)
theorem dJ3_equals_55 : decode cJ3_equals 55 = .ok (.ireturn, 1) := dk_172 (dk_at dksJ3_equals_2 11 rfl rfl)
theorem q88 : (Jvm.Cond.initialized "java/lang/String") ∈ lw_all := lw_g (lw_at lw_m1 6 rfl) rfl
theorem q183 : (Jvm.Cond.instanceMethod ({ cls := "java/lang/String", name := "length", desc := "()I" } : Jvm.MethodName)) ∈ lw_all := lw_g (lw_at lw_m1 101 rfl) rfl
theorem q184 : (Jvm.Cond.selects "java/lang/String" ({ cls := "java/lang/String", name := "length", desc := "()I" } : Jvm.MethodName) ({ cls := "java/lang/String", name := "length", desc := "()I" } : Jvm.MethodName)) ∈ lw_all := lw_g (lw_at lw_m1 102 rfl) rfl
theorem q185 : (Jvm.Cond.code ({ cls := "java/lang/String", name := "length", desc := "()I" } : Jvm.MethodName) prog_34_method_54_code (1 : Nat) (Option.some Jvm.ClassFile.FieldType.int)) ∈ lw_all := lw_g (lw_at lw_m1 103 rfl) rfl
theorem q186 : (Jvm.Cond.methodLink "java/lang/String" (335 : Nat) ({ cls := "java/lang/String", name := "coder", desc := "()B" } : Jvm.MethodName)) ∈ lw_all := lw_g (lw_at lw_m1 104 rfl) rfl
theorem q187 : (Jvm.Cond.instanceMethod ({ cls := "java/lang/String", name := "coder", desc := "()B" } : Jvm.MethodName)) ∈ lw_all := lw_g (lw_at lw_m1 105 rfl) rfl
theorem q188 : (Jvm.Cond.selects "java/lang/String" ({ cls := "java/lang/String", name := "coder", desc := "()B" } : Jvm.MethodName) ({ cls := "java/lang/String", name := "coder", desc := "()B" } : Jvm.MethodName)) ∈ lw_all := lw_g (lw_at lw_m1 106 rfl) rfl
theorem q189 : (Jvm.Cond.code ({ cls := "java/lang/String", name := "coder", desc := "()B" } : Jvm.MethodName) prog_34_method_152_code (1 : Nat) (Option.some Jvm.ClassFile.FieldType.byte)) ∈ lw_all := lw_g (lw_at lw_m1 107 rfl) rfl
theorem q190 : (Jvm.Cond.fieldLink "java/lang/String" (38 : Nat) "java/lang/String" "COMPACT_STRINGS" "Z") ∈ lw_all := lw_g (lw_at lw_m1 108 rfl) rfl
theorem q191 : (Jvm.Cond.laysStatic "java/lang/String" "COMPACT_STRINGS" "Z") ∈ lw_tbl := lw_at lw_m1 109 rfl
theorem q193 : (Jvm.Cond.instanceMethod ({ cls := "java/lang/String", name := "charAt", desc := "(I)C" } : Jvm.MethodName)) ∈ lw_all := lw_g (lw_at lw_m1 111 rfl) rfl
theorem q194 : (Jvm.Cond.selects "java/lang/String" ({ cls := "java/lang/String", name := "charAt", desc := "(I)C" } : Jvm.MethodName) ({ cls := "java/lang/String", name := "charAt", desc := "(I)C" } : Jvm.MethodName)) ∈ lw_all := lw_g (lw_at lw_m1 112 rfl) rfl
theorem q195 : (Jvm.Cond.code ({ cls := "java/lang/String", name := "charAt", desc := "(I)C" } : Jvm.MethodName) prog_34_method_56_code (2 : Nat) (Option.some Jvm.ClassFile.FieldType.char)) ∈ lw_all := lw_g (lw_at lw_m1 113 rfl) rfl
theorem q196 : (Jvm.Cond.methodLink "java/lang/String" (492 : Nat) ({ cls := "java/lang/String", name := "isLatin1", desc := "()Z" } : Jvm.MethodName)) ∈ lw_all := lw_g (lw_at lw_m1 114 rfl) rfl
theorem q197 : (Jvm.Cond.instanceMethod ({ cls := "java/lang/String", name := "isLatin1", desc := "()Z" } : Jvm.MethodName)) ∈ lw_all := lw_g (lw_at lw_m1 115 rfl) rfl
theorem q198 : (Jvm.Cond.selects "java/lang/String" ({ cls := "java/lang/String", name := "isLatin1", desc := "()Z" } : Jvm.MethodName) ({ cls := "java/lang/String", name := "isLatin1", desc := "()Z" } : Jvm.MethodName)) ∈ lw_all := lw_g (lw_at lw_m1 116 rfl) rfl
theorem q199 : (Jvm.Cond.code ({ cls := "java/lang/String", name := "isLatin1", desc := "()Z" } : Jvm.MethodName) prog_34_method_154_code (1 : Nat) (Option.some Jvm.ClassFile.FieldType.boolean)) ∈ lw_all := lw_g (lw_at lw_m1 117 rfl) rfl
theorem q200 : (Jvm.Cond.methodLink "java/lang/String" (495 : Nat) ({ cls := "java/lang/StringLatin1", name := "charAt", desc := "([BI)C" } : Jvm.MethodName)) ∈ lw_all := lw_g (lw_at lw_m1 118 rfl) rfl
theorem q204 : (Jvm.Cond.static ({ cls := "java/lang/String", name := "checkIndex", desc := "(II)V" } : Jvm.MethodName)) ∈ lw_all := lw_g (lw_at lw_m1 122 rfl) rfl
theorem q205 : (Jvm.Cond.code ({ cls := "java/lang/String", name := "checkIndex", desc := "(II)V" } : Jvm.MethodName) prog_34_method_155_code (2 : Nat) (Option.none : Option Jvm.ClassFile.FieldType)) ∈ lw_all := lw_g (lw_at lw_m1 123 rfl) rfl
theorem q206 : (Jvm.Cond.fieldLink "java/lang/String" (1053 : Nat) "jdk/internal/util/Preconditions" "SIOOBE_FORMATTER" "Ljava/util/function/BiFunction;") ∈ lw_all := lw_g (lw_at lw_m1 124 rfl) rfl
theorem q208 : (Jvm.Cond.methodLink "java/lang/String" (1059 : Nat) ({ cls := "jdk/internal/util/Preconditions", name := "checkIndex", desc := "(IILjava/util/function/BiFunction;)I" } : Jvm.MethodName)) ∈ lw_all := lw_g (lw_at lw_m1 126 rfl) rfl
theorem q211 : (Jvm.Cond.methodLink "java/lang/String" (498 : Nat) ({ cls := "java/lang/StringUTF16", name := "charAt", desc := "([BI)C" } : Jvm.MethodName)) ∈ lw_all := lw_g (lw_at lw_m1 129 rfl) rfl
theorem q301 : (Jvm.Cond.fieldLink "java/lang/String" (1048 : Nat) "java/lang/AbstractStringBuilder" "maybeLatin1" "Z") ∈ lw_all := lw_g (lw_at lw_m1 219 rfl) rfl
theorem q383 : (Jvm.Cond.static ({ cls := "java/lang/String", name := "checkBoundsOffCount", desc := "(III)I" } : Jvm.MethodName)) ∈ lw_all := lw_g (lw_at lw_m2 61 rfl) rfl
theorem q384 : (Jvm.Cond.code ({ cls := "java/lang/String", name := "checkBoundsOffCount", desc := "(III)I" } : Jvm.MethodName) prog_34_method_157_code (3 : Nat) (Option.some Jvm.ClassFile.FieldType.int)) ∈ lw_all := lw_g (lw_at lw_m2 62 rfl) rfl
theorem q385 : (Jvm.Cond.methodLink "java/lang/String" (1065 : Nat) ({ cls := "jdk/internal/util/Preconditions", name := "checkFromIndexSize", desc := "(IIILjava/util/function/BiFunction;)I" } : Jvm.MethodName)) ∈ lw_all := lw_g (lw_at lw_m2 63 rfl) rfl
theorem q399 : (Jvm.Cond.instantiable "java/lang/String" (4 : Nat)) ∈ lw_all := lw_g (lw_at lw_m2 77 rfl) rfl
theorem q401 : (Jvm.Cond.instanceMethod ({ cls := "java/lang/String", name := "<init>", desc := "(Ljava/lang/StringBuilder;)V" } : Jvm.MethodName)) ∈ lw_all := lw_g (lw_at lw_m2 79 rfl) rfl
theorem q402 : (Jvm.Cond.code ({ cls := "java/lang/String", name := "<init>", desc := "(Ljava/lang/StringBuilder;)V" } : Jvm.MethodName) prog_34_method_53_code (2 : Nat) (Option.none : Option Jvm.ClassFile.FieldType)) ∈ lw_all := lw_g (lw_at lw_m2 80 rfl) rfl
theorem q403 : (Jvm.Cond.methodLink "java/lang/String" (489 : Nat) ({ cls := "java/lang/String", name := "<init>", desc := "(Ljava/lang/AbstractStringBuilder;Ljava/lang/Void;)V" } : Jvm.MethodName)) ∈ lw_all := lw_g (lw_at lw_m2 81 rfl) rfl
theorem q404 : (Jvm.Cond.instanceMethod ({ cls := "java/lang/String", name := "<init>", desc := "(Ljava/lang/AbstractStringBuilder;Ljava/lang/Void;)V" } : Jvm.MethodName)) ∈ lw_all := lw_g (lw_at lw_m2 82 rfl) rfl
theorem q405 : (Jvm.Cond.code ({ cls := "java/lang/String", name := "<init>", desc := "(Ljava/lang/AbstractStringBuilder;Ljava/lang/Void;)V" } : Jvm.MethodName) prog_34_method_150_code (5 : Nat) (Option.none : Option Jvm.ClassFile.FieldType)) ∈ lw_all := lw_g (lw_at lw_m2 83 rfl) rfl
theorem q406 : (Jvm.Cond.methodLink "java/lang/String" (1 : Nat) ({ cls := "java/lang/Object", name := "<init>", desc := "()V" } : Jvm.MethodName)) ∈ lw_all := lw_g (lw_at lw_m2 84 rfl) rfl
theorem q407 : (Jvm.Cond.methodLink "java/lang/String" (552 : Nat) ({ cls := "java/lang/AbstractStringBuilder", name := "getValue", desc := "()[B" } : Jvm.MethodName)) ∈ lw_all := lw_g (lw_at lw_m2 85 rfl) rfl
theorem q412 : (Jvm.Cond.methodLink "java/lang/String" (549 : Nat) ({ cls := "java/lang/AbstractStringBuilder", name := "length", desc := "()I" } : Jvm.MethodName)) ∈ lw_all := lw_g (lw_at lw_m2 90 rfl) rfl
theorem q413 : (Jvm.Cond.methodLink "java/lang/String" (1047 : Nat) ({ cls := "java/lang/AbstractStringBuilder", name := "isLatin1", desc := "()Z" } : Jvm.MethodName)) ∈ lw_all := lw_g (lw_at lw_m2 91 rfl) rfl
theorem q414 : (Jvm.Cond.methodLink "java/lang/String" (54 : Nat) ({ cls := "java/util/Arrays", name := "copyOfRange", desc := "([BII)[B" } : Jvm.MethodName)) ∈ lw_all := lw_g (lw_at lw_m2 92 rfl) rfl
theorem q423 : (Jvm.Cond.methodLink "java/lang/String" (1051 : Nat) ({ cls := "java/lang/StringUTF16", name := "compress", desc := "([BII)[B" } : Jvm.MethodName)) ∈ lw_all := lw_g (lw_at lw_m2 101 rfl) rfl
theorem q430 : (Jvm.Cond.methodLink "java/lang/String" (47 : Nat) ({ cls := "java/lang/StringUTF16", name := "coderFromArrayLen", desc := "([BI)B" } : Jvm.MethodName)) ∈ lw_all := lw_g (lw_at lw_m2 108 rfl) rfl
theorem q433 : (Jvm.Cond.fieldLink "java/lang/String" (9 : Nat) "java/lang/String" "value" "[B") ∈ lw_all := lw_g (lw_at lw_m2 111 rfl) rfl
theorem q434 : (Jvm.Cond.fieldLink "java/lang/String" (15 : Nat) "java/lang/String" "coder" "B") ∈ lw_all := lw_g (lw_at lw_m2 112 rfl) rfl
theorem q435 : (Jvm.Cond.laysFinal "java/lang/String" "java/lang/String" "value" "[B") ∈ lw_all := lw_g (lw_at lw_m2 113 rfl) rfl
theorem q436 : (Jvm.Cond.soleField "java/lang/String" "value") ∈ lw_all := lw_g (lw_at lw_m2 114 rfl) rfl
theorem q437 : (Jvm.Cond.laysFinal "java/lang/String" "java/lang/String" "coder" "B") ∈ lw_all := lw_g (lw_at lw_m2 115 rfl) rfl
theorem q438 : (Jvm.Cond.soleField "java/lang/String" "coder") ∈ lw_all := lw_g (lw_at lw_m2 116 rfl) rfl
theorem q439 : (Jvm.Cond.lays "java/lang/String" "java/lang/String" "hash" "I") ∈ lw_all := lw_g (lw_at lw_m2 117 rfl) rfl
theorem q440 : (Jvm.Cond.soleField "java/lang/String" "hash") ∈ lw_all := lw_g (lw_at lw_m2 118 rfl) rfl
theorem q441 : (Jvm.Cond.lays "java/lang/String" "java/lang/String" "hashIsZero" "Z") ∈ lw_all := lw_g (lw_at lw_m2 119 rfl) rfl
theorem q442 : (Jvm.Cond.soleField "java/lang/String" "hashIsZero") ∈ lw_all := lw_g (lw_at lw_m2 120 rfl) rfl
theorem q443 : (Jvm.Cond.superclass "java/lang/String" "java/lang/Object") ∈ lw_all := lw_g (lw_at lw_m2 121 rfl) rfl
theorem q521 : (Jvm.Cond.instanceMethod ({ cls := "java/lang/String", name := "indexOf", desc := "(I)I" } : Jvm.MethodName)) ∈ lw_all := lw_g (lw_at lw_m2 199 rfl) rfl
theorem q522 : (Jvm.Cond.selects "java/lang/String" ({ cls := "java/lang/String", name := "indexOf", desc := "(I)I" } : Jvm.MethodName) ({ cls := "java/lang/String", name := "indexOf", desc := "(I)I" } : Jvm.MethodName)) ∈ lw_all := lw_g (lw_at lw_m2 200 rfl) rfl
theorem q523 : (Jvm.Cond.code ({ cls := "java/lang/String", name := "indexOf", desc := "(I)I" } : Jvm.MethodName) prog_34_method_79_code (2 : Nat) (Option.some Jvm.ClassFile.FieldType.int)) ∈ lw_all := lw_g (lw_at lw_m2 201 rfl) rfl
theorem q524 : (Jvm.Cond.methodLink "java/lang/String" (633 : Nat) ({ cls := "java/lang/String", name := "indexOf", desc := "(II)I" } : Jvm.MethodName)) ∈ lw_all := lw_g (lw_at lw_m2 202 rfl) rfl
theorem q525 : (Jvm.Cond.instanceMethod ({ cls := "java/lang/String", name := "indexOf", desc := "(II)I" } : Jvm.MethodName)) ∈ lw_all := lw_g (lw_at lw_m2 203 rfl) rfl
theorem q526 : (Jvm.Cond.selects "java/lang/String" ({ cls := "java/lang/String", name := "indexOf", desc := "(II)I" } : Jvm.MethodName) ({ cls := "java/lang/String", name := "indexOf", desc := "(II)I" } : Jvm.MethodName)) ∈ lw_all := lw_g (lw_at lw_m2 204 rfl) rfl
theorem q527 : (Jvm.Cond.code ({ cls := "java/lang/String", name := "indexOf", desc := "(II)I" } : Jvm.MethodName) prog_34_method_80_code (3 : Nat) (Option.some Jvm.ClassFile.FieldType.int)) ∈ lw_all := lw_g (lw_at lw_m2 205 rfl) rfl
theorem q528 : (Jvm.Cond.methodLink "java/lang/String" (505 : Nat) ({ cls := "java/lang/String", name := "length", desc := "()I" } : Jvm.MethodName)) ∈ lw_all := lw_g (lw_at lw_m2 206 rfl) rfl
theorem q529 : (Jvm.Cond.methodLink "java/lang/String" (637 : Nat) ({ cls := "java/lang/StringLatin1", name := "indexOf", desc := "([BIII)I" } : Jvm.MethodName)) ∈ lw_all := lw_g (lw_at lw_m2 207 rfl) rfl
theorem q540 : (Jvm.Cond.methodLink "java/lang/String" (640 : Nat) ({ cls := "java/lang/StringUTF16", name := "indexOf", desc := "([BIII)I" } : Jvm.MethodName)) ∈ lw_all := lw_g (lw_at lw_m2 218 rfl) rfl
theorem q553 : (Jvm.Cond.static ({ cls := "java/lang/String", name := "checkBoundsBeginEnd", desc := "(III)V" } : Jvm.MethodName)) ∈ lw_all := lw_g (lw_at lw_m2 231 rfl) rfl
theorem q554 : (Jvm.Cond.code ({ cls := "java/lang/String", name := "checkBoundsBeginEnd", desc := "(III)V" } : Jvm.MethodName) prog_34_method_158_code (3 : Nat) (Option.none : Option Jvm.ClassFile.FieldType)) ∈ lw_all := lw_g (lw_at lw_m2 232 rfl) rfl
theorem q555 : (Jvm.Cond.methodLink "java/lang/String" (1062 : Nat) ({ cls := "jdk/internal/util/Preconditions", name := "checkFromToIndex", desc := "(IIILjava/util/function/BiFunction;)I" } : Jvm.MethodName)) ∈ lw_all := lw_g (lw_at lw_m2 233 rfl) rfl
theorem q580 : (Jvm.Cond.instanceMethod ({ cls := "java/lang/String", name := "equals", desc := "(Ljava/lang/Object;)Z" } : Jvm.MethodName)) ∈ lw_all := lw_g (lw_at lw_m3 18 rfl) rfl
theorem q581 : (Jvm.Cond.selects "java/lang/String" ({ cls := "java/lang/String", name := "equals", desc := "(Ljava/lang/Object;)Z" } : Jvm.MethodName) ({ cls := "java/lang/String", name := "equals", desc := "(Ljava/lang/Object;)Z" } : Jvm.MethodName)) ∈ lw_all := lw_g (lw_at lw_m3 19 rfl) rfl
theorem q582 : (Jvm.Cond.code ({ cls := "java/lang/String", name := "equals", desc := "(Ljava/lang/Object;)Z" } : Jvm.MethodName) prog_34_method_66_code (3 : Nat) (Option.some Jvm.ClassFile.FieldType.boolean)) ∈ lw_all := lw_g (lw_at lw_m3 20 rfl) rfl
theorem q583 : (Jvm.Cond.classLink "java/lang/String" (10 : Nat) "java/lang/String") ∈ lw_all := lw_g (lw_at lw_m3 21 rfl) rfl
theorem q584 : (Jvm.Cond.methodLink "java/lang/String" (541 : Nat) ({ cls := "java/lang/StringLatin1", name := "equals", desc := "([B[B)Z" } : Jvm.MethodName)) ∈ lw_all := lw_g (lw_at lw_m3 22 rfl) rfl
theorem q1034 : (Jvm.Cond.selects "java/lang/String" ({ cls := "java/lang/Object", name := "getClass", desc := "()Ljava/lang/Class;" } : Jvm.MethodName) ({ cls := "java/lang/Object", name := "getClass", desc := "()Ljava/lang/Class;" } : Jvm.MethodName)) ∈ lw_all := lw_g (lw_at lw_m4 232 rfl) rfl
theorem q1956 : (Jvm.Cond.castable "java/lang/String" "java/lang/Object") ∈ lw_tbl := lw_at lw_m8 194 rfl
theorem in_J3 : ∀ w ∈ wsJ30, w ∈ lw_all := lw_in wsJ30 [435, 437, 439, 441] (by decide +kernel) (by decide +kernel)

/-! java/lang/StringLatin1 -/
set_option maxRecDepth 100000
def RJ4 : String := "java/lang/StringLatin1"
abbrev cJ4_charAt : ByteArray := prog_36_method_2_code
def yJ4_charAt : MethodName := ⟨RJ4, "charAt", "([BI)C"⟩
def dkwJ4_charAt_0 : List UInt8 := [27, 42, 190, 184, 0, 9, 42, 27, 51, 17, 0, 255, 126, 146, 172]
abbrev dktJ4_charAt_0 : List UInt8 := dkwJ4_charAt_0 ++ []
theorem dksJ4_charAt_0 : cJ4_charAt.data.toList.drop 0 = dktJ4_charAt_0 := by decide +kernel
theorem dJ4_charAt_0 : decode cJ4_charAt 0 = .ok (.iload_n 1, 1) := dk_27 (dk_at dksJ4_charAt_0 0 rfl rfl)
theorem dJ4_charAt_1 : decode cJ4_charAt 1 = .ok (.aload_n 0, 1) := dk_42 (dk_at dksJ4_charAt_0 1 rfl rfl)
theorem dJ4_charAt_2 : decode cJ4_charAt 2 = .ok (.arraylength, 1) := dk_190 (dk_at dksJ4_charAt_0 2 rfl rfl)
theorem dJ4_charAt_3 : decode cJ4_charAt 3 = .ok (.invokestatic 9, 3) := dk_184 0 9 (dk_at dksJ4_charAt_0 3 rfl rfl)
theorem dJ4_charAt_6 : decode cJ4_charAt 6 = .ok (.aload_n 0, 1) := dk_42 (dk_at dksJ4_charAt_0 6 rfl rfl)
theorem dJ4_charAt_7 : decode cJ4_charAt 7 = .ok (.iload_n 1, 1) := dk_27 (dk_at dksJ4_charAt_0 7 rfl rfl)
theorem dJ4_charAt_8 : decode cJ4_charAt 8 = .ok (.baload, 1) := dk_51 (dk_at dksJ4_charAt_0 8 rfl rfl)
theorem dJ4_charAt_9 : decode cJ4_charAt 9 = .ok (.sipush 255, 3) := dk_17 0 255 (dk_at dksJ4_charAt_0 9 rfl rfl)
theorem dJ4_charAt_12 : decode cJ4_charAt 12 = .ok (.iand, 1) := dk_126 (dk_at dksJ4_charAt_0 12 rfl rfl)
theorem dJ4_charAt_13 : decode cJ4_charAt 13 = .ok (.i2c, 1) := dk_146 (dk_at dksJ4_charAt_0 13 rfl rfl)
theorem dJ4_charAt_14 : decode cJ4_charAt 14 = .ok (.ireturn, 1) := dk_172 (dk_at dksJ4_charAt_0 14 rfl rfl)
abbrev cJ4_canEncode : ByteArray := prog_36_method_3_code
def yJ4_canEncode : MethodName := ⟨RJ4, "canEncode", "(C)Z"⟩
def dkwJ4_canEncode_0 : List UInt8 := [26, 17, 0, 255, 163, 0, 7, 4, 167, 0, 4, 3, 172]
abbrev dktJ4_canEncode_0 : List UInt8 := dkwJ4_canEncode_0 ++ []
theorem dksJ4_canEncode_0 : cJ4_canEncode.data.toList.drop 0 = dktJ4_canEncode_0 := by decide +kernel
theorem dJ4_canEncode_0 : decode cJ4_canEncode 0 = .ok (.iload_n 0, 1) := dk_26 (dk_at dksJ4_canEncode_0 0 rfl rfl)
theorem dJ4_canEncode_1 : decode cJ4_canEncode 1 = .ok (.sipush 255, 3) := dk_17 0 255 (dk_at dksJ4_canEncode_0 1 rfl rfl)
theorem dJ4_canEncode_4 : decode cJ4_canEncode 4 = .ok (.if_icmp .gt 7, 3) := dk_163 0 7 (dk_at dksJ4_canEncode_0 4 rfl rfl)
theorem dJ4_canEncode_7 : decode cJ4_canEncode 7 = .ok (.iconst 1, 1) := dk_4 (dk_at dksJ4_canEncode_0 7 rfl rfl)
theorem dJ4_canEncode_8 : decode cJ4_canEncode 8 = .ok (.goto 4, 3) := dk_167 0 4 (dk_at dksJ4_canEncode_0 8 rfl rfl)
theorem dJ4_canEncode_11 : decode cJ4_canEncode 11 = .ok (.iconst 0, 1) := dk_3 (dk_at dksJ4_canEncode_0 11 rfl rfl)
theorem dJ4_canEncode_12 : decode cJ4_canEncode 12 = .ok (.ireturn, 1) := dk_172 (dk_at dksJ4_canEncode_0 12 rfl rfl)
abbrev cJ4_inflate : ByteArray := prog_36_method_50_code
def yJ4_inflate : MethodName := ⟨RJ4, "inflate", "([BI[BII)V"⟩
def dkwJ4_inflate_0 : List UInt8 := [42, 27, 44, 29, 21, 4, 184, 0, 240, 177]
abbrev dktJ4_inflate_0 : List UInt8 := dkwJ4_inflate_0 ++ []
theorem dksJ4_inflate_0 : cJ4_inflate.data.toList.drop 0 = dktJ4_inflate_0 := by decide +kernel
theorem dJ4_inflate_0 : decode cJ4_inflate 0 = .ok (.aload_n 0, 1) := dk_42 (dk_at dksJ4_inflate_0 0 rfl rfl)
theorem dJ4_inflate_1 : decode cJ4_inflate 1 = .ok (.iload_n 1, 1) := dk_27 (dk_at dksJ4_inflate_0 1 rfl rfl)
theorem dJ4_inflate_2 : decode cJ4_inflate 2 = .ok (.aload_n 2, 1) := dk_44 (dk_at dksJ4_inflate_0 2 rfl rfl)
theorem dJ4_inflate_3 : decode cJ4_inflate 3 = .ok (.iload_n 3, 1) := dk_29 (dk_at dksJ4_inflate_0 3 rfl rfl)
theorem dJ4_inflate_4 : decode cJ4_inflate 4 = .ok (.iload 4, 2) := dk_21 4 (dk_at dksJ4_inflate_0 4 rfl rfl)
theorem dJ4_inflate_6 : decode cJ4_inflate 6 = .ok (.invokestatic 240, 3) := dk_184 0 240 (dk_at dksJ4_inflate_0 6 rfl rfl)
theorem dJ4_inflate_9 : decode cJ4_inflate 9 = .ok (.return_, 1) := dk_177 (dk_at dksJ4_inflate_0 9 rfl rfl)
abbrev cJ4_indexOf : ByteArray := prog_36_method_22_code
def yJ4_indexOf : MethodName := ⟨RJ4, "indexOf", "([BIII)I"⟩
def dkwJ4_indexOf_1 : List UInt8 := [161, 0, 5, 2, 172, 42, 27, 28, 29, 184, 0, 95, 172]
abbrev dktJ4_indexOf_1 : List UInt8 := dkwJ4_indexOf_1 ++ []
def dkwJ4_indexOf_0 : List UInt8 := [27, 184, 0, 88, 154, 0, 5, 2, 172, 28, 3, 184, 0, 92, 61, 29, 42, 190, 184, 0, 38, 62, 28, 29]
abbrev dktJ4_indexOf_0 : List UInt8 := dkwJ4_indexOf_0 ++ dktJ4_indexOf_1
theorem dksJ4_indexOf_0 : cJ4_indexOf.data.toList.drop 0 = dktJ4_indexOf_0 := by decide +kernel
theorem dksJ4_indexOf_1 : cJ4_indexOf.data.toList.drop 24 = dktJ4_indexOf_1 := dk_seg dksJ4_indexOf_0 24 rfl rfl
theorem dJ4_indexOf_0 : decode cJ4_indexOf 0 = .ok (.iload_n 1, 1) := dk_27 (dk_at dksJ4_indexOf_0 0 rfl rfl)
theorem dJ4_indexOf_1 : decode cJ4_indexOf 1 = .ok (.invokestatic 88, 3) := dk_184 0 88 (dk_at dksJ4_indexOf_0 1 rfl rfl)
theorem dJ4_indexOf_4 : decode cJ4_indexOf 4 = .ok (.ifCond .ne 5, 3) := dk_154 0 5 (dk_at dksJ4_indexOf_0 4 rfl rfl)
theorem dJ4_indexOf_7 : decode cJ4_indexOf 7 = .ok (.iconst (-1), 1) := dk_2 (dk_at dksJ4_indexOf_0 7 rfl rfl)
theorem dJ4_indexOf_8 : decode cJ4_indexOf 8 = .ok (.ireturn, 1) := dk_172 (dk_at dksJ4_indexOf_0 8 rfl rfl)
theorem dJ4_indexOf_9 : decode cJ4_indexOf 9 = .ok (.iload_n 2, 1) := dk_28 (dk_at dksJ4_indexOf_0 9 rfl rfl)
theorem dJ4_indexOf_10 : decode cJ4_indexOf 10 = .ok (.iconst 0, 1) := dk_3 (dk_at dksJ4_indexOf_0 10 rfl rfl)
theorem dJ4_indexOf_11 : decode cJ4_indexOf 11 = .ok (.invokestatic 92, 3) := dk_184 0 92 (dk_at dksJ4_indexOf_0 11 rfl rfl)
theorem dJ4_indexOf_14 : decode cJ4_indexOf 14 = .ok (.istore_n 2, 1) := dk_61 (dk_at dksJ4_indexOf_0 14 rfl rfl)
theorem dJ4_indexOf_15 : decode cJ4_indexOf 15 = .ok (.iload_n 3, 1) := dk_29 (dk_at dksJ4_indexOf_0 15 rfl rfl)
theorem dJ4_indexOf_16 : decode cJ4_indexOf 16 = .ok (.aload_n 0, 1) := dk_42 (dk_at dksJ4_indexOf_0 16 rfl rfl)
theorem dJ4_indexOf_17 : decode cJ4_indexOf 17 = .ok (.arraylength, 1) := dk_190 (dk_at dksJ4_indexOf_0 17 rfl rfl)
theorem dJ4_indexOf_18 : decode cJ4_indexOf 18 = .ok (.invokestatic 38, 3) := dk_184 0 38 (dk_at dksJ4_indexOf_0 18 rfl rfl)
theorem dJ4_indexOf_21 : decode cJ4_indexOf 21 = .ok (.istore_n 3, 1) := dk_62 (dk_at dksJ4_indexOf_0 21 rfl rfl)
theorem dJ4_indexOf_22 : decode cJ4_indexOf 22 = .ok (.iload_n 2, 1) := dk_28 (dk_at dksJ4_indexOf_0 22 rfl rfl)
theorem dJ4_indexOf_23 : decode cJ4_indexOf 23 = .ok (.iload_n 3, 1) := dk_29 (dk_at dksJ4_indexOf_0 23 rfl rfl)
theorem dJ4_indexOf_24 : decode cJ4_indexOf 24 = .ok (.if_icmp .lt 5, 3) := dk_161 0 5 (dk_at dksJ4_indexOf_1 0 rfl rfl)
theorem dJ4_indexOf_27 : decode cJ4_indexOf 27 = .ok (.iconst (-1), 1) := dk_2 (dk_at dksJ4_indexOf_1 3 rfl rfl)
theorem dJ4_indexOf_28 : decode cJ4_indexOf 28 = .ok (.ireturn, 1) := dk_172 (dk_at dksJ4_indexOf_1 4 rfl rfl)
theorem dJ4_indexOf_29 : decode cJ4_indexOf 29 = .ok (.aload_n 0, 1) := dk_42 (dk_at dksJ4_indexOf_1 5 rfl rfl)
theorem dJ4_indexOf_30 : decode cJ4_indexOf 30 = .ok (.iload_n 1, 1) := dk_27 (dk_at dksJ4_indexOf_1 6 rfl rfl)
theorem dJ4_indexOf_31 : decode cJ4_indexOf 31 = .ok (.iload_n 2, 1) := dk_28 (dk_at dksJ4_indexOf_1 7 rfl rfl)
theorem dJ4_indexOf_32 : decode cJ4_indexOf 32 = .ok (.iload_n 3, 1) := dk_29 (dk_at dksJ4_indexOf_1 8 rfl rfl)
theorem dJ4_indexOf_33 : decode cJ4_indexOf 33 = .ok (.invokestatic 95, 3) := dk_184 0 95 (dk_at dksJ4_indexOf_1 9 rfl rfl)
theorem dJ4_indexOf_36 : decode cJ4_indexOf 36 = .ok (.ireturn, 1) := dk_172 (dk_at dksJ4_indexOf_1 12 rfl rfl)
abbrev cJ4_canEncode_2 : ByteArray := prog_36_method_4_code
def yJ4_canEncode_2 : MethodName := ⟨RJ4, "canEncode", "(I)Z"⟩
def dkwJ4_canEncode_2_0 : List UInt8 := [26, 155, 0, 14, 26, 17, 0, 255, 163, 0, 7, 4, 167, 0, 4, 3, 172]
abbrev dktJ4_canEncode_2_0 : List UInt8 := dkwJ4_canEncode_2_0 ++ []
theorem dksJ4_canEncode_2_0 : cJ4_canEncode_2.data.toList.drop 0 = dktJ4_canEncode_2_0 := by decide +kernel
theorem dJ4_canEncode_2_0 : decode cJ4_canEncode_2 0 = .ok (.iload_n 0, 1) := dk_26 (dk_at dksJ4_canEncode_2_0 0 rfl rfl)
theorem dJ4_canEncode_2_1 : decode cJ4_canEncode_2 1 = .ok (.ifCond .lt 14, 3) := dk_155 0 14 (dk_at dksJ4_canEncode_2_0 1 rfl rfl)
theorem dJ4_canEncode_2_4 : decode cJ4_canEncode_2 4 = .ok (.iload_n 0, 1) := dk_26 (dk_at dksJ4_canEncode_2_0 4 rfl rfl)
theorem dJ4_canEncode_2_5 : decode cJ4_canEncode_2 5 = .ok (.sipush 255, 3) := dk_17 0 255 (dk_at dksJ4_canEncode_2_0 5 rfl rfl)
theorem dJ4_canEncode_2_8 : decode cJ4_canEncode_2 8 = .ok (.if_icmp .gt 7, 3) := dk_163 0 7 (dk_at dksJ4_canEncode_2_0 8 rfl rfl)
theorem dJ4_canEncode_2_11 : decode cJ4_canEncode_2 11 = .ok (.iconst 1, 1) := dk_4 (dk_at dksJ4_canEncode_2_0 11 rfl rfl)
theorem dJ4_canEncode_2_12 : decode cJ4_canEncode_2 12 = .ok (.goto 4, 3) := dk_167 0 4 (dk_at dksJ4_canEncode_2_0 12 rfl rfl)
theorem dJ4_canEncode_2_15 : decode cJ4_canEncode_2 15 = .ok (.iconst 0, 1) := dk_3 (dk_at dksJ4_canEncode_2_0 15 rfl rfl)
theorem dJ4_canEncode_2_16 : decode cJ4_canEncode_2 16 = .ok (.ireturn, 1) := dk_172 (dk_at dksJ4_canEncode_2_0 16 rfl rfl)
abbrev cJ4_indexOfChar : ByteArray := prog_36_method_23_code
def yJ4_indexOfChar : MethodName := ⟨RJ4, "indexOfChar", "([BIII)I"⟩
def dkwJ4_indexOfChar_1 : List UInt8 := [172, 132, 5, 1, 167, 255, 235, 2, 172]
abbrev dktJ4_indexOfChar_1 : List UInt8 := dkwJ4_indexOfChar_1 ++ []
def dkwJ4_indexOfChar_0 : List UInt8 := [27, 145, 54, 4, 28, 54, 5, 21, 5, 29, 162, 0, 21, 42, 21, 5, 51, 21, 4, 160, 0, 6, 21, 5]
abbrev dktJ4_indexOfChar_0 : List UInt8 := dkwJ4_indexOfChar_0 ++ dktJ4_indexOfChar_1
theorem dksJ4_indexOfChar_0 : cJ4_indexOfChar.data.toList.drop 0 = dktJ4_indexOfChar_0 := by decide +kernel
theorem dksJ4_indexOfChar_1 : cJ4_indexOfChar.data.toList.drop 24 = dktJ4_indexOfChar_1 := dk_seg dksJ4_indexOfChar_0 24 rfl rfl
theorem dJ4_indexOfChar_0 : decode cJ4_indexOfChar 0 = .ok (.iload_n 1, 1) := dk_27 (dk_at dksJ4_indexOfChar_0 0 rfl rfl)
theorem dJ4_indexOfChar_1 : decode cJ4_indexOfChar 1 = .ok (.i2b, 1) := dk_145 (dk_at dksJ4_indexOfChar_0 1 rfl rfl)
theorem dJ4_indexOfChar_2 : decode cJ4_indexOfChar 2 = .ok (.istore 4, 2) := dk_54 4 (dk_at dksJ4_indexOfChar_0 2 rfl rfl)
theorem dJ4_indexOfChar_4 : decode cJ4_indexOfChar 4 = .ok (.iload_n 2, 1) := dk_28 (dk_at dksJ4_indexOfChar_0 4 rfl rfl)
theorem dJ4_indexOfChar_5 : decode cJ4_indexOfChar 5 = .ok (.istore 5, 2) := dk_54 5 (dk_at dksJ4_indexOfChar_0 5 rfl rfl)
theorem dJ4_indexOfChar_7 : decode cJ4_indexOfChar 7 = .ok (.iload 5, 2) := dk_21 5 (dk_at dksJ4_indexOfChar_0 7 rfl rfl)
theorem dJ4_indexOfChar_9 : decode cJ4_indexOfChar 9 = .ok (.iload_n 3, 1) := dk_29 (dk_at dksJ4_indexOfChar_0 9 rfl rfl)
theorem dJ4_indexOfChar_10 : decode cJ4_indexOfChar 10 = .ok (.if_icmp .ge 21, 3) := dk_162 0 21 (dk_at dksJ4_indexOfChar_0 10 rfl rfl)
theorem dJ4_indexOfChar_13 : decode cJ4_indexOfChar 13 = .ok (.aload_n 0, 1) := dk_42 (dk_at dksJ4_indexOfChar_0 13 rfl rfl)
theorem dJ4_indexOfChar_14 : decode cJ4_indexOfChar 14 = .ok (.iload 5, 2) := dk_21 5 (dk_at dksJ4_indexOfChar_0 14 rfl rfl)
theorem dJ4_indexOfChar_16 : decode cJ4_indexOfChar 16 = .ok (.baload, 1) := dk_51 (dk_at dksJ4_indexOfChar_0 16 rfl rfl)
theorem dJ4_indexOfChar_17 : decode cJ4_indexOfChar 17 = .ok (.iload 4, 2) := dk_21 4 (dk_at dksJ4_indexOfChar_0 17 rfl rfl)
theorem dJ4_indexOfChar_19 : decode cJ4_indexOfChar 19 = .ok (.if_icmp .ne 6, 3) := dk_160 0 6 (dk_at dksJ4_indexOfChar_0 19 rfl rfl)
theorem dJ4_indexOfChar_22 : decode cJ4_indexOfChar 22 = .ok (.iload 5, 2) := dk_21 5 (dk_at dksJ4_indexOfChar_0 22 rfl rfl)
theorem dJ4_indexOfChar_24 : decode cJ4_indexOfChar 24 = .ok (.ireturn, 1) := dk_172 (dk_at dksJ4_indexOfChar_1 0 rfl rfl)
theorem dJ4_indexOfChar_25 : decode cJ4_indexOfChar 25 = .ok (.iinc 5 1, 3) := dk_132 5 1 (dk_at dksJ4_indexOfChar_1 1 rfl rfl)
theorem dJ4_indexOfChar_28 : decode cJ4_indexOfChar 28 = .ok (.goto (-21), 3) := dk_167 255 235 (dk_at dksJ4_indexOfChar_1 4 rfl rfl)
theorem dJ4_indexOfChar_31 : decode cJ4_indexOfChar 31 = .ok (.iconst (-1), 1) := dk_2 (dk_at dksJ4_indexOfChar_1 7 rfl rfl)
theorem dJ4_indexOfChar_32 : decode cJ4_indexOfChar 32 = .ok (.ireturn, 1) := dk_172 (dk_at dksJ4_indexOfChar_1 8 rfl rfl)
abbrev cJ4_equals : ByteArray := prog_36_method_13_code
def yJ4_equals : MethodName := ⟨RJ4, "equals", "([B[B)Z"⟩
def dkwJ4_equals_1 : List UInt8 := [3, 172, 132, 2, 1, 167, 255, 236, 4, 172, 3, 172]
abbrev dktJ4_equals_1 : List UInt8 := dkwJ4_equals_1 ++ []
def dkwJ4_equals_0 : List UInt8 := [42, 190, 43, 190, 160, 0, 30, 3, 61, 28, 42, 190, 162, 0, 20, 42, 28, 51, 43, 28, 51, 159, 0, 5]
abbrev dktJ4_equals_0 : List UInt8 := dkwJ4_equals_0 ++ dktJ4_equals_1
theorem dksJ4_equals_0 : cJ4_equals.data.toList.drop 0 = dktJ4_equals_0 := by decide +kernel
theorem dksJ4_equals_1 : cJ4_equals.data.toList.drop 24 = dktJ4_equals_1 := dk_seg dksJ4_equals_0 24 rfl rfl
theorem dJ4_equals_0 : decode cJ4_equals 0 = .ok (.aload_n 0, 1) := dk_42 (dk_at dksJ4_equals_0 0 rfl rfl)
theorem dJ4_equals_1 : decode cJ4_equals 1 = .ok (.arraylength, 1) := dk_190 (dk_at dksJ4_equals_0 1 rfl rfl)
theorem dJ4_equals_2 : decode cJ4_equals 2 = .ok (.aload_n 1, 1) := dk_43 (dk_at dksJ4_equals_0 2 rfl rfl)
theorem dJ4_equals_3 : decode cJ4_equals 3 = .ok (.arraylength, 1) := dk_190 (dk_at dksJ4_equals_0 3 rfl rfl)
theorem dJ4_equals_4 : decode cJ4_equals 4 = .ok (.if_icmp .ne 30, 3) := dk_160 0 30 (dk_at dksJ4_equals_0 4 rfl rfl)
theorem dJ4_equals_7 : decode cJ4_equals 7 = .ok (.iconst 0, 1) := dk_3 (dk_at dksJ4_equals_0 7 rfl rfl)
theorem dJ4_equals_8 : decode cJ4_equals 8 = .ok (.istore_n 2, 1) := dk_61 (dk_at dksJ4_equals_0 8 rfl rfl)
theorem dJ4_equals_9 : decode cJ4_equals 9 = .ok (.iload_n 2, 1) := dk_28 (dk_at dksJ4_equals_0 9 rfl rfl)
theorem dJ4_equals_10 : decode cJ4_equals 10 = .ok (.aload_n 0, 1) := dk_42 (dk_at dksJ4_equals_0 10 rfl rfl)
theorem dJ4_equals_11 : decode cJ4_equals 11 = .ok (.arraylength, 1) := dk_190 (dk_at dksJ4_equals_0 11 rfl rfl)
theorem dJ4_equals_12 : decode cJ4_equals 12 = .ok (.if_icmp .ge 20, 3) := dk_162 0 20 (dk_at dksJ4_equals_0 12 rfl rfl)
theorem dJ4_equals_15 : decode cJ4_equals 15 = .ok (.aload_n 0, 1) := dk_42 (dk_at dksJ4_equals_0 15 rfl rfl)
theorem dJ4_equals_16 : decode cJ4_equals 16 = .ok (.iload_n 2, 1) := dk_28 (dk_at dksJ4_equals_0 16 rfl rfl)
theorem dJ4_equals_17 : decode cJ4_equals 17 = .ok (.baload, 1) := dk_51 (dk_at dksJ4_equals_0 17 rfl rfl)
theorem dJ4_equals_18 : decode cJ4_equals 18 = .ok (.aload_n 1, 1) := dk_43 (dk_at dksJ4_equals_0 18 rfl rfl)
theorem dJ4_equals_19 : decode cJ4_equals 19 = .ok (.iload_n 2, 1) := dk_28 (dk_at dksJ4_equals_0 19 rfl rfl)
theorem dJ4_equals_20 : decode cJ4_equals 20 = .ok (.baload, 1) := dk_51 (dk_at dksJ4_equals_0 20 rfl rfl)
theorem dJ4_equals_21 : decode cJ4_equals 21 = .ok (.if_icmp .eq 5, 3) := dk_159 0 5 (dk_at dksJ4_equals_0 21 rfl rfl)
theorem dJ4_equals_24 : decode cJ4_equals 24 = .ok (.iconst 0, 1) := dk_3 (dk_at dksJ4_equals_1 0 rfl rfl)
theorem dJ4_equals_25 : decode cJ4_equals 25 = .ok (.ireturn, 1) := dk_172 (dk_at dksJ4_equals_1 1 rfl rfl)
theorem dJ4_equals_26 : decode cJ4_equals 26 = .ok (.iinc 2 1, 3) := dk_132 2 1 (dk_at dksJ4_equals_1 2 rfl rfl)
theorem dJ4_equals_29 : decode cJ4_equals 29 = .ok (.goto (-20), 3) := dk_167 255 236 (dk_at dksJ4_equals_1 5 rfl rfl)
theorem dJ4_equals_32 : decode cJ4_equals 32 = .ok (.iconst 1, 1) := dk_4 (dk_at dksJ4_equals_1 8 rfl rfl)
theorem dJ4_equals_33 : decode cJ4_equals 33 = .ok (.ireturn, 1) := dk_172 (dk_at dksJ4_equals_1 9 rfl rfl)
theorem dJ4_equals_34 : decode cJ4_equals 34 = .ok (.iconst 0, 1) := dk_3 (dk_at dksJ4_equals_1 10 rfl rfl)
theorem dJ4_equals_35 : decode cJ4_equals 35 = .ok (.ireturn, 1) := dk_172 (dk_at dksJ4_equals_1 11 rfl rfl)
theorem q89 : (Jvm.Cond.initialized "java/lang/StringLatin1") ∈ lw_all := lw_g (lw_at lw_m1 7 rfl) rfl
theorem q201 : (Jvm.Cond.static ({ cls := "java/lang/StringLatin1", name := "charAt", desc := "([BI)C" } : Jvm.MethodName)) ∈ lw_all := lw_g (lw_at lw_m1 119 rfl) rfl
theorem q202 : (Jvm.Cond.code ({ cls := "java/lang/StringLatin1", name := "charAt", desc := "([BI)C" } : Jvm.MethodName) prog_36_method_2_code (2 : Nat) (Option.some Jvm.ClassFile.FieldType.char)) ∈ lw_all := lw_g (lw_at lw_m1 120 rfl) rfl
theorem q203 : (Jvm.Cond.methodLink "java/lang/StringLatin1" (9 : Nat) ({ cls := "java/lang/String", name := "checkIndex", desc := "(II)V" } : Jvm.MethodName)) ∈ lw_all := lw_g (lw_at lw_m1 121 rfl) rfl
theorem q367 : (Jvm.Cond.static ({ cls := "java/lang/StringLatin1", name := "canEncode", desc := "(C)Z" } : Jvm.MethodName)) ∈ lw_all := lw_g (lw_at lw_m2 45 rfl) rfl
theorem q368 : (Jvm.Cond.code ({ cls := "java/lang/StringLatin1", name := "canEncode", desc := "(C)Z" } : Jvm.MethodName) prog_36_method_3_code (1 : Nat) (Option.some Jvm.ClassFile.FieldType.boolean)) ∈ lw_all := lw_g (lw_at lw_m2 46 rfl) rfl
theorem q374 : (Jvm.Cond.static ({ cls := "java/lang/StringLatin1", name := "inflate", desc := "([BI[BII)V" } : Jvm.MethodName)) ∈ lw_all := lw_g (lw_at lw_m2 52 rfl) rfl
theorem q375 : (Jvm.Cond.code ({ cls := "java/lang/StringLatin1", name := "inflate", desc := "([BI[BII)V" } : Jvm.MethodName) prog_36_method_50_code (5 : Nat) (Option.none : Option Jvm.ClassFile.FieldType)) ∈ lw_all := lw_g (lw_at lw_m2 53 rfl) rfl
theorem q376 : (Jvm.Cond.methodLink "java/lang/StringLatin1" (240 : Nat) ({ cls := "java/lang/StringUTF16", name := "inflate", desc := "([BI[BII)V" } : Jvm.MethodName)) ∈ lw_all := lw_g (lw_at lw_m2 54 rfl) rfl
theorem q530 : (Jvm.Cond.static ({ cls := "java/lang/StringLatin1", name := "indexOf", desc := "([BIII)I" } : Jvm.MethodName)) ∈ lw_all := lw_g (lw_at lw_m2 208 rfl) rfl
theorem q531 : (Jvm.Cond.code ({ cls := "java/lang/StringLatin1", name := "indexOf", desc := "([BIII)I" } : Jvm.MethodName) prog_36_method_22_code (4 : Nat) (Option.some Jvm.ClassFile.FieldType.int)) ∈ lw_all := lw_g (lw_at lw_m2 209 rfl) rfl
theorem q532 : (Jvm.Cond.methodLink "java/lang/StringLatin1" (88 : Nat) ({ cls := "java/lang/StringLatin1", name := "canEncode", desc := "(I)Z" } : Jvm.MethodName)) ∈ lw_all := lw_g (lw_at lw_m2 210 rfl) rfl
theorem q533 : (Jvm.Cond.static ({ cls := "java/lang/StringLatin1", name := "canEncode", desc := "(I)Z" } : Jvm.MethodName)) ∈ lw_all := lw_g (lw_at lw_m2 211 rfl) rfl
theorem q534 : (Jvm.Cond.code ({ cls := "java/lang/StringLatin1", name := "canEncode", desc := "(I)Z" } : Jvm.MethodName) prog_36_method_4_code (1 : Nat) (Option.some Jvm.ClassFile.FieldType.boolean)) ∈ lw_all := lw_g (lw_at lw_m2 212 rfl) rfl
theorem q535 : (Jvm.Cond.methodLink "java/lang/StringLatin1" (92 : Nat) ({ cls := "java/lang/Math", name := "max", desc := "(II)I" } : Jvm.MethodName)) ∈ lw_all := lw_g (lw_at lw_m2 213 rfl) rfl
theorem q536 : (Jvm.Cond.methodLink "java/lang/StringLatin1" (38 : Nat) ({ cls := "java/lang/Math", name := "min", desc := "(II)I" } : Jvm.MethodName)) ∈ lw_all := lw_g (lw_at lw_m2 214 rfl) rfl
theorem q537 : (Jvm.Cond.methodLink "java/lang/StringLatin1" (95 : Nat) ({ cls := "java/lang/StringLatin1", name := "indexOfChar", desc := "([BIII)I" } : Jvm.MethodName)) ∈ lw_all := lw_g (lw_at lw_m2 215 rfl) rfl
theorem q538 : (Jvm.Cond.static ({ cls := "java/lang/StringLatin1", name := "indexOfChar", desc := "([BIII)I" } : Jvm.MethodName)) ∈ lw_all := lw_g (lw_at lw_m2 216 rfl) rfl
theorem q539 : (Jvm.Cond.code ({ cls := "java/lang/StringLatin1", name := "indexOfChar", desc := "([BIII)I" } : Jvm.MethodName) prog_36_method_23_code (6 : Nat) (Option.some Jvm.ClassFile.FieldType.int)) ∈ lw_all := lw_g (lw_at lw_m2 217 rfl) rfl
theorem q585 : (Jvm.Cond.static ({ cls := "java/lang/StringLatin1", name := "equals", desc := "([B[B)Z" } : Jvm.MethodName)) ∈ lw_all := lw_g (lw_at lw_m3 23 rfl) rfl
theorem q586 : (Jvm.Cond.code ({ cls := "java/lang/StringLatin1", name := "equals", desc := "([B[B)Z" } : Jvm.MethodName) prog_36_method_13_code (3 : Nat) (Option.some Jvm.ClassFile.FieldType.boolean)) ∈ lw_all := lw_g (lw_at lw_m3 24 rfl) rfl

/-! jdk/internal/util/Preconditions -/
set_option maxRecDepth 100000
def RJ5 : String := "jdk/internal/util/Preconditions"
abbrev cJ5_checkIndex : ByteArray := prog_52_method_11_code
def yJ5_checkIndex : MethodName := ⟨RJ5, "checkIndex", "(IILjava/util/function/BiFunction;)I"⟩
def dkwJ5_checkIndex_0 : List UInt8 := [26, 155, 0, 8, 26, 27, 161, 0, 10, 44, 26, 27, 184, 0, 95, 191, 26, 172]
abbrev dktJ5_checkIndex_0 : List UInt8 := dkwJ5_checkIndex_0 ++ []
theorem dksJ5_checkIndex_0 : cJ5_checkIndex.data.toList.drop 0 = dktJ5_checkIndex_0 := by decide +kernel
theorem dJ5_checkIndex_0 : decode cJ5_checkIndex 0 = .ok (.iload_n 0, 1) := dk_26 (dk_at dksJ5_checkIndex_0 0 rfl rfl)
theorem dJ5_checkIndex_1 : decode cJ5_checkIndex 1 = .ok (.ifCond .lt 8, 3) := dk_155 0 8 (dk_at dksJ5_checkIndex_0 1 rfl rfl)
theorem dJ5_checkIndex_4 : decode cJ5_checkIndex 4 = .ok (.iload_n 0, 1) := dk_26 (dk_at dksJ5_checkIndex_0 4 rfl rfl)
theorem dJ5_checkIndex_5 : decode cJ5_checkIndex 5 = .ok (.iload_n 1, 1) := dk_27 (dk_at dksJ5_checkIndex_0 5 rfl rfl)
theorem dJ5_checkIndex_6 : decode cJ5_checkIndex 6 = .ok (.if_icmp .lt 10, 3) := dk_161 0 10 (dk_at dksJ5_checkIndex_0 6 rfl rfl)
theorem dJ5_checkIndex_9 : decode cJ5_checkIndex 9 = .ok (.aload_n 2, 1) := dk_44 (dk_at dksJ5_checkIndex_0 9 rfl rfl)
theorem dJ5_checkIndex_10 : decode cJ5_checkIndex 10 = .ok (.iload_n 0, 1) := dk_26 (dk_at dksJ5_checkIndex_0 10 rfl rfl)
theorem dJ5_checkIndex_11 : decode cJ5_checkIndex 11 = .ok (.iload_n 1, 1) := dk_27 (dk_at dksJ5_checkIndex_0 11 rfl rfl)
theorem dJ5_checkIndex_12 : decode cJ5_checkIndex 12 = .ok (.invokestatic 95, 3) := dk_184 0 95 (dk_at dksJ5_checkIndex_0 12 rfl rfl)
theorem dJ5_checkIndex_15 : decode cJ5_checkIndex 15 = .ok (.athrow, 1) := dk_191 (dk_at dksJ5_checkIndex_0 15 rfl rfl)
theorem dJ5_checkIndex_16 : decode cJ5_checkIndex 16 = .ok (.iload_n 0, 1) := dk_26 (dk_at dksJ5_checkIndex_0 16 rfl rfl)
theorem dJ5_checkIndex_17 : decode cJ5_checkIndex 17 = .ok (.ireturn, 1) := dk_172 (dk_at dksJ5_checkIndex_0 17 rfl rfl)
abbrev cJ5_checkFromIndexSize : ByteArray := prog_52_method_13_code
def yJ5_checkFromIndexSize : MethodName := ⟨RJ5, "checkFromIndexSize", "(IIILjava/util/function/BiFunction;)I"⟩
def dkwJ5_checkFromIndexSize_1 : List UInt8 := [172]
abbrev dktJ5_checkFromIndexSize_1 : List UInt8 := dkwJ5_checkFromIndexSize_1 ++ []
def dkwJ5_checkFromIndexSize_0 : List UInt8 := [28, 26, 128, 27, 128, 155, 0, 10, 27, 28, 26, 100, 164, 0, 11, 45, 26, 27, 28, 184, 0, 103, 191, 26]
abbrev dktJ5_checkFromIndexSize_0 : List UInt8 := dkwJ5_checkFromIndexSize_0 ++ dktJ5_checkFromIndexSize_1
theorem dksJ5_checkFromIndexSize_0 : cJ5_checkFromIndexSize.data.toList.drop 0 = dktJ5_checkFromIndexSize_0 := by decide +kernel
theorem dksJ5_checkFromIndexSize_1 : cJ5_checkFromIndexSize.data.toList.drop 24 = dktJ5_checkFromIndexSize_1 := dk_seg dksJ5_checkFromIndexSize_0 24 rfl rfl
theorem dJ5_checkFromIndexSize_0 : decode cJ5_checkFromIndexSize 0 = .ok (.iload_n 2, 1) := dk_28 (dk_at dksJ5_checkFromIndexSize_0 0 rfl rfl)
theorem dJ5_checkFromIndexSize_1 : decode cJ5_checkFromIndexSize 1 = .ok (.iload_n 0, 1) := dk_26 (dk_at dksJ5_checkFromIndexSize_0 1 rfl rfl)
theorem dJ5_checkFromIndexSize_2 : decode cJ5_checkFromIndexSize 2 = .ok (.ior, 1) := dk_128 (dk_at dksJ5_checkFromIndexSize_0 2 rfl rfl)
theorem dJ5_checkFromIndexSize_3 : decode cJ5_checkFromIndexSize 3 = .ok (.iload_n 1, 1) := dk_27 (dk_at dksJ5_checkFromIndexSize_0 3 rfl rfl)
theorem dJ5_checkFromIndexSize_4 : decode cJ5_checkFromIndexSize 4 = .ok (.ior, 1) := dk_128 (dk_at dksJ5_checkFromIndexSize_0 4 rfl rfl)
theorem dJ5_checkFromIndexSize_5 : decode cJ5_checkFromIndexSize 5 = .ok (.ifCond .lt 10, 3) := dk_155 0 10 (dk_at dksJ5_checkFromIndexSize_0 5 rfl rfl)
theorem dJ5_checkFromIndexSize_8 : decode cJ5_checkFromIndexSize 8 = .ok (.iload_n 1, 1) := dk_27 (dk_at dksJ5_checkFromIndexSize_0 8 rfl rfl)
theorem dJ5_checkFromIndexSize_9 : decode cJ5_checkFromIndexSize 9 = .ok (.iload_n 2, 1) := dk_28 (dk_at dksJ5_checkFromIndexSize_0 9 rfl rfl)
theorem dJ5_checkFromIndexSize_10 : decode cJ5_checkFromIndexSize 10 = .ok (.iload_n 0, 1) := dk_26 (dk_at dksJ5_checkFromIndexSize_0 10 rfl rfl)
theorem dJ5_checkFromIndexSize_11 : decode cJ5_checkFromIndexSize 11 = .ok (.isub, 1) := dk_100 (dk_at dksJ5_checkFromIndexSize_0 11 rfl rfl)
theorem dJ5_checkFromIndexSize_12 : decode cJ5_checkFromIndexSize 12 = .ok (.if_icmp .le 11, 3) := dk_164 0 11 (dk_at dksJ5_checkFromIndexSize_0 12 rfl rfl)
theorem dJ5_checkFromIndexSize_15 : decode cJ5_checkFromIndexSize 15 = .ok (.aload_n 3, 1) := dk_45 (dk_at dksJ5_checkFromIndexSize_0 15 rfl rfl)
theorem dJ5_checkFromIndexSize_16 : decode cJ5_checkFromIndexSize 16 = .ok (.iload_n 0, 1) := dk_26 (dk_at dksJ5_checkFromIndexSize_0 16 rfl rfl)
theorem dJ5_checkFromIndexSize_17 : decode cJ5_checkFromIndexSize 17 = .ok (.iload_n 1, 1) := dk_27 (dk_at dksJ5_checkFromIndexSize_0 17 rfl rfl)
theorem dJ5_checkFromIndexSize_18 : decode cJ5_checkFromIndexSize 18 = .ok (.iload_n 2, 1) := dk_28 (dk_at dksJ5_checkFromIndexSize_0 18 rfl rfl)
theorem dJ5_checkFromIndexSize_19 : decode cJ5_checkFromIndexSize 19 = .ok (.invokestatic 103, 3) := dk_184 0 103 (dk_at dksJ5_checkFromIndexSize_0 19 rfl rfl)
theorem dJ5_checkFromIndexSize_22 : decode cJ5_checkFromIndexSize 22 = .ok (.athrow, 1) := dk_191 (dk_at dksJ5_checkFromIndexSize_0 22 rfl rfl)
theorem dJ5_checkFromIndexSize_23 : decode cJ5_checkFromIndexSize 23 = .ok (.iload_n 0, 1) := dk_26 (dk_at dksJ5_checkFromIndexSize_0 23 rfl rfl)
theorem dJ5_checkFromIndexSize_24 : decode cJ5_checkFromIndexSize 24 = .ok (.ireturn, 1) := dk_172 (dk_at dksJ5_checkFromIndexSize_1 0 rfl rfl)
abbrev cJ5_checkFromToIndex : ByteArray := prog_52_method_12_code
def yJ5_checkFromToIndex : MethodName := ⟨RJ5, "checkFromToIndex", "(IIILjava/util/function/BiFunction;)I"⟩
def dkwJ5_checkFromToIndex_0 : List UInt8 := [26, 155, 0, 13, 26, 27, 163, 0, 8, 27, 28, 164, 0, 11, 45, 26, 27, 28, 184, 0, 99, 191, 26, 172]
abbrev dktJ5_checkFromToIndex_0 : List UInt8 := dkwJ5_checkFromToIndex_0 ++ []
theorem dksJ5_checkFromToIndex_0 : cJ5_checkFromToIndex.data.toList.drop 0 = dktJ5_checkFromToIndex_0 := by decide +kernel
theorem dJ5_checkFromToIndex_0 : decode cJ5_checkFromToIndex 0 = .ok (.iload_n 0, 1) := dk_26 (dk_at dksJ5_checkFromToIndex_0 0 rfl rfl)
theorem dJ5_checkFromToIndex_1 : decode cJ5_checkFromToIndex 1 = .ok (.ifCond .lt 13, 3) := dk_155 0 13 (dk_at dksJ5_checkFromToIndex_0 1 rfl rfl)
theorem dJ5_checkFromToIndex_4 : decode cJ5_checkFromToIndex 4 = .ok (.iload_n 0, 1) := dk_26 (dk_at dksJ5_checkFromToIndex_0 4 rfl rfl)
theorem dJ5_checkFromToIndex_5 : decode cJ5_checkFromToIndex 5 = .ok (.iload_n 1, 1) := dk_27 (dk_at dksJ5_checkFromToIndex_0 5 rfl rfl)
theorem dJ5_checkFromToIndex_6 : decode cJ5_checkFromToIndex 6 = .ok (.if_icmp .gt 8, 3) := dk_163 0 8 (dk_at dksJ5_checkFromToIndex_0 6 rfl rfl)
theorem dJ5_checkFromToIndex_9 : decode cJ5_checkFromToIndex 9 = .ok (.iload_n 1, 1) := dk_27 (dk_at dksJ5_checkFromToIndex_0 9 rfl rfl)
theorem dJ5_checkFromToIndex_10 : decode cJ5_checkFromToIndex 10 = .ok (.iload_n 2, 1) := dk_28 (dk_at dksJ5_checkFromToIndex_0 10 rfl rfl)
theorem dJ5_checkFromToIndex_11 : decode cJ5_checkFromToIndex 11 = .ok (.if_icmp .le 11, 3) := dk_164 0 11 (dk_at dksJ5_checkFromToIndex_0 11 rfl rfl)
theorem dJ5_checkFromToIndex_14 : decode cJ5_checkFromToIndex 14 = .ok (.aload_n 3, 1) := dk_45 (dk_at dksJ5_checkFromToIndex_0 14 rfl rfl)
theorem dJ5_checkFromToIndex_15 : decode cJ5_checkFromToIndex 15 = .ok (.iload_n 0, 1) := dk_26 (dk_at dksJ5_checkFromToIndex_0 15 rfl rfl)
theorem dJ5_checkFromToIndex_16 : decode cJ5_checkFromToIndex 16 = .ok (.iload_n 1, 1) := dk_27 (dk_at dksJ5_checkFromToIndex_0 16 rfl rfl)
theorem dJ5_checkFromToIndex_17 : decode cJ5_checkFromToIndex 17 = .ok (.iload_n 2, 1) := dk_28 (dk_at dksJ5_checkFromToIndex_0 17 rfl rfl)
theorem dJ5_checkFromToIndex_18 : decode cJ5_checkFromToIndex 18 = .ok (.invokestatic 99, 3) := dk_184 0 99 (dk_at dksJ5_checkFromToIndex_0 18 rfl rfl)
theorem dJ5_checkFromToIndex_21 : decode cJ5_checkFromToIndex 21 = .ok (.athrow, 1) := dk_191 (dk_at dksJ5_checkFromToIndex_0 21 rfl rfl)
theorem dJ5_checkFromToIndex_22 : decode cJ5_checkFromToIndex 22 = .ok (.iload_n 0, 1) := dk_26 (dk_at dksJ5_checkFromToIndex_0 22 rfl rfl)
theorem dJ5_checkFromToIndex_23 : decode cJ5_checkFromToIndex 23 = .ok (.ireturn, 1) := dk_172 (dk_at dksJ5_checkFromToIndex_0 23 rfl rfl)
theorem q90 : (Jvm.Cond.initialized "jdk/internal/util/Preconditions") ∈ lw_all := lw_g (lw_at lw_m1 8 rfl) rfl
theorem q207 : (Jvm.Cond.laysStatic "jdk/internal/util/Preconditions" "SIOOBE_FORMATTER" "Ljava/util/function/BiFunction;") ∈ lw_tbl := lw_at lw_m1 125 rfl
theorem q209 : (Jvm.Cond.static ({ cls := "jdk/internal/util/Preconditions", name := "checkIndex", desc := "(IILjava/util/function/BiFunction;)I" } : Jvm.MethodName)) ∈ lw_all := lw_g (lw_at lw_m1 127 rfl) rfl
theorem q210 : (Jvm.Cond.code ({ cls := "jdk/internal/util/Preconditions", name := "checkIndex", desc := "(IILjava/util/function/BiFunction;)I" } : Jvm.MethodName) prog_52_method_11_code (3 : Nat) (Option.some Jvm.ClassFile.FieldType.int)) ∈ lw_all := lw_g (lw_at lw_m1 128 rfl) rfl
theorem q386 : (Jvm.Cond.static ({ cls := "jdk/internal/util/Preconditions", name := "checkFromIndexSize", desc := "(IIILjava/util/function/BiFunction;)I" } : Jvm.MethodName)) ∈ lw_all := lw_g (lw_at lw_m2 64 rfl) rfl
theorem q387 : (Jvm.Cond.code ({ cls := "jdk/internal/util/Preconditions", name := "checkFromIndexSize", desc := "(IIILjava/util/function/BiFunction;)I" } : Jvm.MethodName) prog_52_method_13_code (4 : Nat) (Option.some Jvm.ClassFile.FieldType.int)) ∈ lw_all := lw_g (lw_at lw_m2 65 rfl) rfl
theorem q556 : (Jvm.Cond.static ({ cls := "jdk/internal/util/Preconditions", name := "checkFromToIndex", desc := "(IIILjava/util/function/BiFunction;)I" } : Jvm.MethodName)) ∈ lw_all := lw_g (lw_at lw_m2 234 rfl) rfl
theorem q557 : (Jvm.Cond.code ({ cls := "jdk/internal/util/Preconditions", name := "checkFromToIndex", desc := "(IIILjava/util/function/BiFunction;)I" } : Jvm.MethodName) prog_52_method_12_code (4 : Nat) (Option.some Jvm.ClassFile.FieldType.int)) ∈ lw_all := lw_g (lw_at lw_m2 235 rfl) rfl

/-! java/lang/StringUTF16 -/
set_option maxRecDepth 100000
def RJ6 : String := "java/lang/StringUTF16"
abbrev cJ6_charAt : ByteArray := prog_37_method_83_code
def yJ6_charAt : MethodName := ⟨RJ6, "charAt", "([BI)C"⟩
def dkwJ6_charAt_0 : List UInt8 := [27, 42, 184, 0, 67, 42, 27, 184, 0, 71, 172]
abbrev dktJ6_charAt_0 : List UInt8 := dkwJ6_charAt_0 ++ []
theorem dksJ6_charAt_0 : cJ6_charAt.data.toList.drop 0 = dktJ6_charAt_0 := by decide +kernel
theorem dJ6_charAt_0 : decode cJ6_charAt 0 = .ok (.iload_n 1, 1) := dk_27 (dk_at dksJ6_charAt_0 0 rfl rfl)
theorem dJ6_charAt_1 : decode cJ6_charAt 1 = .ok (.aload_n 0, 1) := dk_42 (dk_at dksJ6_charAt_0 1 rfl rfl)
theorem dJ6_charAt_2 : decode cJ6_charAt 2 = .ok (.invokestatic 67, 3) := dk_184 0 67 (dk_at dksJ6_charAt_0 2 rfl rfl)
theorem dJ6_charAt_5 : decode cJ6_charAt 5 = .ok (.aload_n 0, 1) := dk_42 (dk_at dksJ6_charAt_0 5 rfl rfl)
theorem dJ6_charAt_6 : decode cJ6_charAt 6 = .ok (.iload_n 1, 1) := dk_27 (dk_at dksJ6_charAt_0 6 rfl rfl)
theorem dJ6_charAt_7 : decode cJ6_charAt 7 = .ok (.invokestatic 71, 3) := dk_184 0 71 (dk_at dksJ6_charAt_0 7 rfl rfl)
theorem dJ6_charAt_10 : decode cJ6_charAt 10 = .ok (.ireturn, 1) := dk_172 (dk_at dksJ6_charAt_0 10 rfl rfl)
abbrev cJ6_checkIndex : ByteArray := prog_37_method_91_code
def yJ6_checkIndex : MethodName := ⟨RJ6, "checkIndex", "(I[B)V"⟩
def dkwJ6_checkIndex_0 : List UInt8 := [26, 43, 184, 0, 48, 184, 1, 158, 177]
abbrev dktJ6_checkIndex_0 : List UInt8 := dkwJ6_checkIndex_0 ++ []
theorem dksJ6_checkIndex_0 : cJ6_checkIndex.data.toList.drop 0 = dktJ6_checkIndex_0 := by decide +kernel
theorem dJ6_checkIndex_0 : decode cJ6_checkIndex 0 = .ok (.iload_n 0, 1) := dk_26 (dk_at dksJ6_checkIndex_0 0 rfl rfl)
theorem dJ6_checkIndex_1 : decode cJ6_checkIndex 1 = .ok (.aload_n 1, 1) := dk_43 (dk_at dksJ6_checkIndex_0 1 rfl rfl)
theorem dJ6_checkIndex_2 : decode cJ6_checkIndex 2 = .ok (.invokestatic 48, 3) := dk_184 0 48 (dk_at dksJ6_checkIndex_0 2 rfl rfl)
theorem dJ6_checkIndex_5 : decode cJ6_checkIndex 5 = .ok (.invokestatic 414, 3) := dk_184 1 158 (dk_at dksJ6_checkIndex_0 5 rfl rfl)
theorem dJ6_checkIndex_8 : decode cJ6_checkIndex 8 = .ok (.return_, 1) := dk_177 (dk_at dksJ6_checkIndex_0 8 rfl rfl)
abbrev cJ6_length : ByteArray := prog_37_method_6_code
def yJ6_length : MethodName := ⟨RJ6, "length", "([B)I"⟩
def dkwJ6_length_0 : List UInt8 := [42, 190, 4, 122, 172]
abbrev dktJ6_length_0 : List UInt8 := dkwJ6_length_0 ++ []
theorem dksJ6_length_0 : cJ6_length.data.toList.drop 0 = dktJ6_length_0 := by decide +kernel
theorem dJ6_length_0 : decode cJ6_length 0 = .ok (.aload_n 0, 1) := dk_42 (dk_at dksJ6_length_0 0 rfl rfl)
theorem dJ6_length_1 : decode cJ6_length 1 = .ok (.arraylength, 1) := dk_190 (dk_at dksJ6_length_0 1 rfl rfl)
theorem dJ6_length_2 : decode cJ6_length 2 = .ok (.iconst 1, 1) := dk_4 (dk_at dksJ6_length_0 2 rfl rfl)
theorem dJ6_length_3 : decode cJ6_length 3 = .ok (.ishr, 1) := dk_122 (dk_at dksJ6_length_0 3 rfl rfl)
theorem dJ6_length_4 : decode cJ6_length 4 = .ok (.ireturn, 1) := dk_172 (dk_at dksJ6_length_0 4 rfl rfl)
abbrev cJ6_getChar : ByteArray := prog_37_method_5_code
def yJ6_getChar : MethodName := ⟨RJ6, "getChar", "([BI)C"⟩
def dkwJ6_getChar_2 : List UInt8 := [51, 17, 0, 255, 126, 178, 0, 63, 120, 128, 146, 172]
abbrev dktJ6_getChar_2 : List UInt8 := dkwJ6_getChar_2 ++ []
def dkwJ6_getChar_1 : List UInt8 := [183, 0, 56, 191, 27, 4, 120, 60, 42, 27, 132, 1, 1, 51, 17, 0, 255, 126, 178, 0, 59, 120, 42, 27]
abbrev dktJ6_getChar_1 : List UInt8 := dkwJ6_getChar_1 ++ dktJ6_getChar_2
def dkwJ6_getChar_0 : List UInt8 := [178, 0, 44, 154, 0, 25, 27, 155, 0, 11, 27, 42, 184, 0, 48, 161, 0, 13, 187, 0, 52, 89, 18, 54]
abbrev dktJ6_getChar_0 : List UInt8 := dkwJ6_getChar_0 ++ dktJ6_getChar_1
theorem dksJ6_getChar_0 : cJ6_getChar.data.toList.drop 0 = dktJ6_getChar_0 := by decide +kernel
theorem dksJ6_getChar_1 : cJ6_getChar.data.toList.drop 24 = dktJ6_getChar_1 := dk_seg dksJ6_getChar_0 24 rfl rfl
theorem dksJ6_getChar_2 : cJ6_getChar.data.toList.drop 48 = dktJ6_getChar_2 := dk_seg dksJ6_getChar_1 24 rfl rfl
theorem dJ6_getChar_0 : decode cJ6_getChar 0 = .ok (.getstatic 44, 3) := dk_178 0 44 (dk_at dksJ6_getChar_0 0 rfl rfl)
theorem dJ6_getChar_3 : decode cJ6_getChar 3 = .ok (.ifCond .ne 25, 3) := dk_154 0 25 (dk_at dksJ6_getChar_0 3 rfl rfl)
theorem dJ6_getChar_6 : decode cJ6_getChar 6 = .ok (.iload_n 1, 1) := dk_27 (dk_at dksJ6_getChar_0 6 rfl rfl)
theorem dJ6_getChar_7 : decode cJ6_getChar 7 = .ok (.ifCond .lt 11, 3) := dk_155 0 11 (dk_at dksJ6_getChar_0 7 rfl rfl)
theorem dJ6_getChar_10 : decode cJ6_getChar 10 = .ok (.iload_n 1, 1) := dk_27 (dk_at dksJ6_getChar_0 10 rfl rfl)
theorem dJ6_getChar_11 : decode cJ6_getChar 11 = .ok (.aload_n 0, 1) := dk_42 (dk_at dksJ6_getChar_0 11 rfl rfl)
theorem dJ6_getChar_12 : decode cJ6_getChar 12 = .ok (.invokestatic 48, 3) := dk_184 0 48 (dk_at dksJ6_getChar_0 12 rfl rfl)
theorem dJ6_getChar_15 : decode cJ6_getChar 15 = .ok (.if_icmp .lt 13, 3) := dk_161 0 13 (dk_at dksJ6_getChar_0 15 rfl rfl)
theorem dJ6_getChar_18 : decode cJ6_getChar 18 = .ok (.new 52, 3) := dk_187 0 52 (dk_at dksJ6_getChar_0 18 rfl rfl)
theorem dJ6_getChar_21 : decode cJ6_getChar 21 = .ok (.dup, 1) := dk_89 (dk_at dksJ6_getChar_0 21 rfl rfl)
theorem dJ6_getChar_22 : decode cJ6_getChar 22 = .ok (.ldc 54, 2) := dk_18 54 (dk_at dksJ6_getChar_0 22 rfl rfl)
theorem dJ6_getChar_24 : decode cJ6_getChar 24 = .ok (.invokespecial 56, 3) := dk_183 0 56 (dk_at dksJ6_getChar_1 0 rfl rfl)
theorem dJ6_getChar_27 : decode cJ6_getChar 27 = .ok (.athrow, 1) := dk_191 (dk_at dksJ6_getChar_1 3 rfl rfl)
theorem dJ6_getChar_28 : decode cJ6_getChar 28 = .ok (.iload_n 1, 1) := dk_27 (dk_at dksJ6_getChar_1 4 rfl rfl)
theorem dJ6_getChar_29 : decode cJ6_getChar 29 = .ok (.iconst 1, 1) := dk_4 (dk_at dksJ6_getChar_1 5 rfl rfl)
theorem dJ6_getChar_30 : decode cJ6_getChar 30 = .ok (.ishl, 1) := dk_120 (dk_at dksJ6_getChar_1 6 rfl rfl)
theorem dJ6_getChar_31 : decode cJ6_getChar 31 = .ok (.istore_n 1, 1) := dk_60 (dk_at dksJ6_getChar_1 7 rfl rfl)
theorem dJ6_getChar_32 : decode cJ6_getChar 32 = .ok (.aload_n 0, 1) := dk_42 (dk_at dksJ6_getChar_1 8 rfl rfl)
theorem dJ6_getChar_33 : decode cJ6_getChar 33 = .ok (.iload_n 1, 1) := dk_27 (dk_at dksJ6_getChar_1 9 rfl rfl)
theorem dJ6_getChar_34 : decode cJ6_getChar 34 = .ok (.iinc 1 1, 3) := dk_132 1 1 (dk_at dksJ6_getChar_1 10 rfl rfl)
theorem dJ6_getChar_37 : decode cJ6_getChar 37 = .ok (.baload, 1) := dk_51 (dk_at dksJ6_getChar_1 13 rfl rfl)
theorem dJ6_getChar_38 : decode cJ6_getChar 38 = .ok (.sipush 255, 3) := dk_17 0 255 (dk_at dksJ6_getChar_1 14 rfl rfl)
theorem dJ6_getChar_41 : decode cJ6_getChar 41 = .ok (.iand, 1) := dk_126 (dk_at dksJ6_getChar_1 17 rfl rfl)
theorem dJ6_getChar_42 : decode cJ6_getChar 42 = .ok (.getstatic 59, 3) := dk_178 0 59 (dk_at dksJ6_getChar_1 18 rfl rfl)
theorem dJ6_getChar_45 : decode cJ6_getChar 45 = .ok (.ishl, 1) := dk_120 (dk_at dksJ6_getChar_1 21 rfl rfl)
theorem dJ6_getChar_46 : decode cJ6_getChar 46 = .ok (.aload_n 0, 1) := dk_42 (dk_at dksJ6_getChar_1 22 rfl rfl)
theorem dJ6_getChar_47 : decode cJ6_getChar 47 = .ok (.iload_n 1, 1) := dk_27 (dk_at dksJ6_getChar_1 23 rfl rfl)
theorem dJ6_getChar_48 : decode cJ6_getChar 48 = .ok (.baload, 1) := dk_51 (dk_at dksJ6_getChar_2 0 rfl rfl)
theorem dJ6_getChar_49 : decode cJ6_getChar 49 = .ok (.sipush 255, 3) := dk_17 0 255 (dk_at dksJ6_getChar_2 1 rfl rfl)
theorem dJ6_getChar_52 : decode cJ6_getChar 52 = .ok (.iand, 1) := dk_126 (dk_at dksJ6_getChar_2 4 rfl rfl)
theorem dJ6_getChar_53 : decode cJ6_getChar 53 = .ok (.getstatic 63, 3) := dk_178 0 63 (dk_at dksJ6_getChar_2 5 rfl rfl)
theorem dJ6_getChar_56 : decode cJ6_getChar 56 = .ok (.ishl, 1) := dk_120 (dk_at dksJ6_getChar_2 8 rfl rfl)
theorem dJ6_getChar_57 : decode cJ6_getChar 57 = .ok (.ior, 1) := dk_128 (dk_at dksJ6_getChar_2 9 rfl rfl)
theorem dJ6_getChar_58 : decode cJ6_getChar 58 = .ok (.i2c, 1) := dk_146 (dk_at dksJ6_getChar_2 10 rfl rfl)
theorem dJ6_getChar_59 : decode cJ6_getChar 59 = .ok (.ireturn, 1) := dk_172 (dk_at dksJ6_getChar_2 11 rfl rfl)
abbrev cJ6_newBytesFor : ByteArray := prog_37_method_2_code
def yJ6_newBytesFor : MethodName := ⟨RJ6, "newBytesFor", "(I)[B"⟩
def dkwJ6_newBytesFor_0 : List UInt8 := [26, 184, 0, 11, 188, 8, 176]
abbrev dktJ6_newBytesFor_0 : List UInt8 := dkwJ6_newBytesFor_0 ++ []
theorem dksJ6_newBytesFor_0 : cJ6_newBytesFor.data.toList.drop 0 = dktJ6_newBytesFor_0 := by decide +kernel
theorem dJ6_newBytesFor_0 : decode cJ6_newBytesFor 0 = .ok (.iload_n 0, 1) := dk_26 (dk_at dksJ6_newBytesFor_0 0 rfl rfl)
theorem dJ6_newBytesFor_1 : decode cJ6_newBytesFor 1 = .ok (.invokestatic 11, 3) := dk_184 0 11 (dk_at dksJ6_newBytesFor_0 1 rfl rfl)
theorem dJ6_newBytesFor_4 : decode cJ6_newBytesFor 4 = .ok (.newarray .byte, 2) := dk_188_8 (dk_at dksJ6_newBytesFor_0 4 rfl rfl)
theorem dJ6_newBytesFor_6 : decode cJ6_newBytesFor 6 = .ok (.areturn, 1) := dk_176 (dk_at dksJ6_newBytesFor_0 6 rfl rfl)
abbrev cJ6_newBytesLength : ByteArray := prog_37_method_3_code
def yJ6_newBytesLength : MethodName := ⟨RJ6, "newBytesLength", "(I)I"⟩
def dkwJ6_newBytesLength_2 : List UInt8 := [182, 0, 32, 182, 0, 37, 183, 0, 41, 191, 26, 4, 120, 172]
abbrev dktJ6_newBytesLength_2 : List UInt8 := dkwJ6_newBytesLength_2 ++ []
def dkwJ6_newBytesLength_1 : List UInt8 := [187, 0, 23, 89, 183, 0, 25, 18, 26, 182, 0, 28, 26, 182, 0, 32, 18, 35, 182, 0, 28, 18, 20]
abbrev dktJ6_newBytesLength_1 : List UInt8 := dkwJ6_newBytesLength_1 ++ dktJ6_newBytesLength_2
def dkwJ6_newBytesLength_0 : List UInt8 := [26, 156, 0, 11, 187, 0, 17, 89, 183, 0, 19, 191, 26, 18, 20, 161, 0, 40, 187, 0, 21, 89]
abbrev dktJ6_newBytesLength_0 : List UInt8 := dkwJ6_newBytesLength_0 ++ dktJ6_newBytesLength_1
theorem dksJ6_newBytesLength_0 : cJ6_newBytesLength.data.toList.drop 0 = dktJ6_newBytesLength_0 := by decide +kernel
theorem dksJ6_newBytesLength_1 : cJ6_newBytesLength.data.toList.drop 22 = dktJ6_newBytesLength_1 := dk_seg dksJ6_newBytesLength_0 22 rfl rfl
theorem dksJ6_newBytesLength_2 : cJ6_newBytesLength.data.toList.drop 45 = dktJ6_newBytesLength_2 := dk_seg dksJ6_newBytesLength_1 23 rfl rfl
theorem dJ6_newBytesLength_0 : decode cJ6_newBytesLength 0 = .ok (.iload_n 0, 1) := dk_26 (dk_at dksJ6_newBytesLength_0 0 rfl rfl)
theorem dJ6_newBytesLength_1 : decode cJ6_newBytesLength 1 = .ok (.ifCond .ge 11, 3) := dk_156 0 11 (dk_at dksJ6_newBytesLength_0 1 rfl rfl)
theorem dJ6_newBytesLength_4 : decode cJ6_newBytesLength 4 = .ok (.new 17, 3) := dk_187 0 17 (dk_at dksJ6_newBytesLength_0 4 rfl rfl)
theorem dJ6_newBytesLength_7 : decode cJ6_newBytesLength 7 = .ok (.dup, 1) := dk_89 (dk_at dksJ6_newBytesLength_0 7 rfl rfl)
theorem dJ6_newBytesLength_8 : decode cJ6_newBytesLength 8 = .ok (.invokespecial 19, 3) := dk_183 0 19 (dk_at dksJ6_newBytesLength_0 8 rfl rfl)
theorem dJ6_newBytesLength_11 : decode cJ6_newBytesLength 11 = .ok (.athrow, 1) := dk_191 (dk_at dksJ6_newBytesLength_0 11 rfl rfl)
theorem dJ6_newBytesLength_12 : decode cJ6_newBytesLength 12 = .ok (.iload_n 0, 1) := dk_26 (dk_at dksJ6_newBytesLength_0 12 rfl rfl)
theorem dJ6_newBytesLength_13 : decode cJ6_newBytesLength 13 = .ok (.ldc 20, 2) := dk_18 20 (dk_at dksJ6_newBytesLength_0 13 rfl rfl)
theorem dJ6_newBytesLength_15 : decode cJ6_newBytesLength 15 = .ok (.if_icmp .lt 40, 3) := dk_161 0 40 (dk_at dksJ6_newBytesLength_0 15 rfl rfl)
theorem dJ6_newBytesLength_18 : decode cJ6_newBytesLength 18 = .ok (.new 21, 3) := dk_187 0 21 (dk_at dksJ6_newBytesLength_0 18 rfl rfl)
theorem dJ6_newBytesLength_21 : decode cJ6_newBytesLength 21 = .ok (.dup, 1) := dk_89 (dk_at dksJ6_newBytesLength_0 21 rfl rfl)
theorem dJ6_newBytesLength_22 : decode cJ6_newBytesLength 22 = .ok (.new 23, 3) := dk_187 0 23 (dk_at dksJ6_newBytesLength_1 0 rfl rfl)
theorem dJ6_newBytesLength_25 : decode cJ6_newBytesLength 25 = .ok (.dup, 1) := dk_89 (dk_at dksJ6_newBytesLength_1 3 rfl rfl)
theorem dJ6_newBytesLength_26 : decode cJ6_newBytesLength 26 = .ok (.invokespecial 25, 3) := dk_183 0 25 (dk_at dksJ6_newBytesLength_1 4 rfl rfl)
theorem dJ6_newBytesLength_29 : decode cJ6_newBytesLength 29 = .ok (.ldc 26, 2) := dk_18 26 (dk_at dksJ6_newBytesLength_1 7 rfl rfl)
theorem dJ6_newBytesLength_31 : decode cJ6_newBytesLength 31 = .ok (.invokevirtual 28, 3) := dk_182 0 28 (dk_at dksJ6_newBytesLength_1 9 rfl rfl)
theorem dJ6_newBytesLength_34 : decode cJ6_newBytesLength 34 = .ok (.iload_n 0, 1) := dk_26 (dk_at dksJ6_newBytesLength_1 12 rfl rfl)
theorem dJ6_newBytesLength_35 : decode cJ6_newBytesLength 35 = .ok (.invokevirtual 32, 3) := dk_182 0 32 (dk_at dksJ6_newBytesLength_1 13 rfl rfl)
theorem dJ6_newBytesLength_38 : decode cJ6_newBytesLength 38 = .ok (.ldc 35, 2) := dk_18 35 (dk_at dksJ6_newBytesLength_1 16 rfl rfl)
theorem dJ6_newBytesLength_40 : decode cJ6_newBytesLength 40 = .ok (.invokevirtual 28, 3) := dk_182 0 28 (dk_at dksJ6_newBytesLength_1 18 rfl rfl)
theorem dJ6_newBytesLength_43 : decode cJ6_newBytesLength 43 = .ok (.ldc 20, 2) := dk_18 20 (dk_at dksJ6_newBytesLength_1 21 rfl rfl)
theorem dJ6_newBytesLength_45 : decode cJ6_newBytesLength 45 = .ok (.invokevirtual 32, 3) := dk_182 0 32 (dk_at dksJ6_newBytesLength_2 0 rfl rfl)
theorem dJ6_newBytesLength_48 : decode cJ6_newBytesLength 48 = .ok (.invokevirtual 37, 3) := dk_182 0 37 (dk_at dksJ6_newBytesLength_2 3 rfl rfl)
theorem dJ6_newBytesLength_51 : decode cJ6_newBytesLength 51 = .ok (.invokespecial 41, 3) := dk_183 0 41 (dk_at dksJ6_newBytesLength_2 6 rfl rfl)
theorem dJ6_newBytesLength_54 : decode cJ6_newBytesLength 54 = .ok (.athrow, 1) := dk_191 (dk_at dksJ6_newBytesLength_2 9 rfl rfl)
theorem dJ6_newBytesLength_55 : decode cJ6_newBytesLength 55 = .ok (.iload_n 0, 1) := dk_26 (dk_at dksJ6_newBytesLength_2 10 rfl rfl)
theorem dJ6_newBytesLength_56 : decode cJ6_newBytesLength 56 = .ok (.iconst 1, 1) := dk_4 (dk_at dksJ6_newBytesLength_2 11 rfl rfl)
theorem dJ6_newBytesLength_57 : decode cJ6_newBytesLength 57 = .ok (.ishl, 1) := dk_120 (dk_at dksJ6_newBytesLength_2 12 rfl rfl)
theorem dJ6_newBytesLength_58 : decode cJ6_newBytesLength 58 = .ok (.ireturn, 1) := dk_172 (dk_at dksJ6_newBytesLength_2 13 rfl rfl)
abbrev cJ6_inflate : ByteArray := prog_37_method_86_code
def yJ6_inflate : MethodName := ⟨RJ6, "inflate", "([BI[BII)V"⟩
def dkwJ6_inflate_1 : List UInt8 := [132, 1, 1, 51, 17, 0, 255, 126, 184, 0, 111, 132, 5, 1, 167, 255, 228, 177]
abbrev dktJ6_inflate_1 : List UInt8 := dkwJ6_inflate_1 ++ []
def dkwJ6_inflate_0 : List UInt8 := [29, 21, 4, 44, 184, 0, 173, 3, 54, 5, 21, 5, 21, 4, 162, 0, 27, 44, 29, 132, 3, 1, 42, 27]
abbrev dktJ6_inflate_0 : List UInt8 := dkwJ6_inflate_0 ++ dktJ6_inflate_1
theorem dksJ6_inflate_0 : cJ6_inflate.data.toList.drop 0 = dktJ6_inflate_0 := by decide +kernel
theorem dksJ6_inflate_1 : cJ6_inflate.data.toList.drop 24 = dktJ6_inflate_1 := dk_seg dksJ6_inflate_0 24 rfl rfl
theorem dJ6_inflate_0 : decode cJ6_inflate 0 = .ok (.iload_n 3, 1) := dk_29 (dk_at dksJ6_inflate_0 0 rfl rfl)
theorem dJ6_inflate_1 : decode cJ6_inflate 1 = .ok (.iload 4, 2) := dk_21 4 (dk_at dksJ6_inflate_0 1 rfl rfl)
theorem dJ6_inflate_3 : decode cJ6_inflate 3 = .ok (.aload_n 2, 1) := dk_44 (dk_at dksJ6_inflate_0 3 rfl rfl)
theorem dJ6_inflate_4 : decode cJ6_inflate 4 = .ok (.invokestatic 173, 3) := dk_184 0 173 (dk_at dksJ6_inflate_0 4 rfl rfl)
theorem dJ6_inflate_7 : decode cJ6_inflate 7 = .ok (.iconst 0, 1) := dk_3 (dk_at dksJ6_inflate_0 7 rfl rfl)
theorem dJ6_inflate_8 : decode cJ6_inflate 8 = .ok (.istore 5, 2) := dk_54 5 (dk_at dksJ6_inflate_0 8 rfl rfl)
theorem dJ6_inflate_10 : decode cJ6_inflate 10 = .ok (.iload 5, 2) := dk_21 5 (dk_at dksJ6_inflate_0 10 rfl rfl)
theorem dJ6_inflate_12 : decode cJ6_inflate 12 = .ok (.iload 4, 2) := dk_21 4 (dk_at dksJ6_inflate_0 12 rfl rfl)
theorem dJ6_inflate_14 : decode cJ6_inflate 14 = .ok (.if_icmp .ge 27, 3) := dk_162 0 27 (dk_at dksJ6_inflate_0 14 rfl rfl)
theorem dJ6_inflate_17 : decode cJ6_inflate 17 = .ok (.aload_n 2, 1) := dk_44 (dk_at dksJ6_inflate_0 17 rfl rfl)
theorem dJ6_inflate_18 : decode cJ6_inflate 18 = .ok (.iload_n 3, 1) := dk_29 (dk_at dksJ6_inflate_0 18 rfl rfl)
theorem dJ6_inflate_19 : decode cJ6_inflate 19 = .ok (.iinc 3 1, 3) := dk_132 3 1 (dk_at dksJ6_inflate_0 19 rfl rfl)
theorem dJ6_inflate_22 : decode cJ6_inflate 22 = .ok (.aload_n 0, 1) := dk_42 (dk_at dksJ6_inflate_0 22 rfl rfl)
theorem dJ6_inflate_23 : decode cJ6_inflate 23 = .ok (.iload_n 1, 1) := dk_27 (dk_at dksJ6_inflate_0 23 rfl rfl)
theorem dJ6_inflate_24 : decode cJ6_inflate 24 = .ok (.iinc 1 1, 3) := dk_132 1 1 (dk_at dksJ6_inflate_1 0 rfl rfl)
theorem dJ6_inflate_27 : decode cJ6_inflate 27 = .ok (.baload, 1) := dk_51 (dk_at dksJ6_inflate_1 3 rfl rfl)
theorem dJ6_inflate_28 : decode cJ6_inflate 28 = .ok (.sipush 255, 3) := dk_17 0 255 (dk_at dksJ6_inflate_1 4 rfl rfl)
theorem dJ6_inflate_31 : decode cJ6_inflate 31 = .ok (.iand, 1) := dk_126 (dk_at dksJ6_inflate_1 7 rfl rfl)
theorem dJ6_inflate_32 : decode cJ6_inflate 32 = .ok (.invokestatic 111, 3) := dk_184 0 111 (dk_at dksJ6_inflate_1 8 rfl rfl)
theorem dJ6_inflate_35 : decode cJ6_inflate 35 = .ok (.iinc 5 1, 3) := dk_132 5 1 (dk_at dksJ6_inflate_1 11 rfl rfl)
theorem dJ6_inflate_38 : decode cJ6_inflate 38 = .ok (.goto (-28), 3) := dk_167 255 228 (dk_at dksJ6_inflate_1 14 rfl rfl)
theorem dJ6_inflate_41 : decode cJ6_inflate 41 = .ok (.return_, 1) := dk_177 (dk_at dksJ6_inflate_1 17 rfl rfl)
abbrev cJ6_checkBoundsOffCount : ByteArray := prog_37_method_94_code
def yJ6_checkBoundsOffCount : MethodName := ⟨RJ6, "checkBoundsOffCount", "(II[B)V"⟩
def dkwJ6_checkBoundsOffCount_0 : List UInt8 := [26, 27, 44, 184, 0, 48, 184, 1, 163, 87, 177]
abbrev dktJ6_checkBoundsOffCount_0 : List UInt8 := dkwJ6_checkBoundsOffCount_0 ++ []
theorem dksJ6_checkBoundsOffCount_0 : cJ6_checkBoundsOffCount.data.toList.drop 0 = dktJ6_checkBoundsOffCount_0 := by decide +kernel
theorem dJ6_checkBoundsOffCount_0 : decode cJ6_checkBoundsOffCount 0 = .ok (.iload_n 0, 1) := dk_26 (dk_at dksJ6_checkBoundsOffCount_0 0 rfl rfl)
theorem dJ6_checkBoundsOffCount_1 : decode cJ6_checkBoundsOffCount 1 = .ok (.iload_n 1, 1) := dk_27 (dk_at dksJ6_checkBoundsOffCount_0 1 rfl rfl)
theorem dJ6_checkBoundsOffCount_2 : decode cJ6_checkBoundsOffCount 2 = .ok (.aload_n 2, 1) := dk_44 (dk_at dksJ6_checkBoundsOffCount_0 2 rfl rfl)
theorem dJ6_checkBoundsOffCount_3 : decode cJ6_checkBoundsOffCount 3 = .ok (.invokestatic 48, 3) := dk_184 0 48 (dk_at dksJ6_checkBoundsOffCount_0 3 rfl rfl)
theorem dJ6_checkBoundsOffCount_6 : decode cJ6_checkBoundsOffCount 6 = .ok (.invokestatic 419, 3) := dk_184 1 163 (dk_at dksJ6_checkBoundsOffCount_0 6 rfl rfl)
theorem dJ6_checkBoundsOffCount_9 : decode cJ6_checkBoundsOffCount 9 = .ok (.pop, 1) := dk_87 (dk_at dksJ6_checkBoundsOffCount_0 9 rfl rfl)
theorem dJ6_checkBoundsOffCount_10 : decode cJ6_checkBoundsOffCount 10 = .ok (.return_, 1) := dk_177 (dk_at dksJ6_checkBoundsOffCount_0 10 rfl rfl)
abbrev cJ6_putChar : ByteArray := prog_37_method_4_code
def yJ6_putChar : MethodName := ⟨RJ6, "putChar", "([BII)V"⟩
def dkwJ6_putChar_2 : List UInt8 := [178, 0, 63, 122, 145, 84, 177]
abbrev dktJ6_putChar_2 : List UInt8 := dkwJ6_putChar_2 ++ []
def dkwJ6_putChar_1 : List UInt8 := [183, 0, 56, 191, 27, 4, 120, 60, 42, 27, 132, 1, 1, 28, 178, 0, 59, 122, 145, 84, 42, 27, 28]
abbrev dktJ6_putChar_1 : List UInt8 := dkwJ6_putChar_1 ++ dktJ6_putChar_2
def dkwJ6_putChar_0 : List UInt8 := [178, 0, 44, 154, 0, 25, 27, 155, 0, 11, 27, 42, 184, 0, 48, 161, 0, 13, 187, 0, 52, 89, 18, 54]
abbrev dktJ6_putChar_0 : List UInt8 := dkwJ6_putChar_0 ++ dktJ6_putChar_1
theorem dksJ6_putChar_0 : cJ6_putChar.data.toList.drop 0 = dktJ6_putChar_0 := by decide +kernel
theorem dksJ6_putChar_1 : cJ6_putChar.data.toList.drop 24 = dktJ6_putChar_1 := dk_seg dksJ6_putChar_0 24 rfl rfl
theorem dksJ6_putChar_2 : cJ6_putChar.data.toList.drop 47 = dktJ6_putChar_2 := dk_seg dksJ6_putChar_1 23 rfl rfl
theorem dJ6_putChar_0 : decode cJ6_putChar 0 = .ok (.getstatic 44, 3) := dk_178 0 44 (dk_at dksJ6_putChar_0 0 rfl rfl)
theorem dJ6_putChar_3 : decode cJ6_putChar 3 = .ok (.ifCond .ne 25, 3) := dk_154 0 25 (dk_at dksJ6_putChar_0 3 rfl rfl)
theorem dJ6_putChar_6 : decode cJ6_putChar 6 = .ok (.iload_n 1, 1) := dk_27 (dk_at dksJ6_putChar_0 6 rfl rfl)
theorem dJ6_putChar_7 : decode cJ6_putChar 7 = .ok (.ifCond .lt 11, 3) := dk_155 0 11 (dk_at dksJ6_putChar_0 7 rfl rfl)
theorem dJ6_putChar_10 : decode cJ6_putChar 10 = .ok (.iload_n 1, 1) := dk_27 (dk_at dksJ6_putChar_0 10 rfl rfl)
theorem dJ6_putChar_11 : decode cJ6_putChar 11 = .ok (.aload_n 0, 1) := dk_42 (dk_at dksJ6_putChar_0 11 rfl rfl)
theorem dJ6_putChar_12 : decode cJ6_putChar 12 = .ok (.invokestatic 48, 3) := dk_184 0 48 (dk_at dksJ6_putChar_0 12 rfl rfl)
theorem dJ6_putChar_15 : decode cJ6_putChar 15 = .ok (.if_icmp .lt 13, 3) := dk_161 0 13 (dk_at dksJ6_putChar_0 15 rfl rfl)
theorem dJ6_putChar_18 : decode cJ6_putChar 18 = .ok (.new 52, 3) := dk_187 0 52 (dk_at dksJ6_putChar_0 18 rfl rfl)
theorem dJ6_putChar_21 : decode cJ6_putChar 21 = .ok (.dup, 1) := dk_89 (dk_at dksJ6_putChar_0 21 rfl rfl)
theorem dJ6_putChar_22 : decode cJ6_putChar 22 = .ok (.ldc 54, 2) := dk_18 54 (dk_at dksJ6_putChar_0 22 rfl rfl)
theorem dJ6_putChar_24 : decode cJ6_putChar 24 = .ok (.invokespecial 56, 3) := dk_183 0 56 (dk_at dksJ6_putChar_1 0 rfl rfl)
theorem dJ6_putChar_27 : decode cJ6_putChar 27 = .ok (.athrow, 1) := dk_191 (dk_at dksJ6_putChar_1 3 rfl rfl)
theorem dJ6_putChar_28 : decode cJ6_putChar 28 = .ok (.iload_n 1, 1) := dk_27 (dk_at dksJ6_putChar_1 4 rfl rfl)
theorem dJ6_putChar_29 : decode cJ6_putChar 29 = .ok (.iconst 1, 1) := dk_4 (dk_at dksJ6_putChar_1 5 rfl rfl)
theorem dJ6_putChar_30 : decode cJ6_putChar 30 = .ok (.ishl, 1) := dk_120 (dk_at dksJ6_putChar_1 6 rfl rfl)
theorem dJ6_putChar_31 : decode cJ6_putChar 31 = .ok (.istore_n 1, 1) := dk_60 (dk_at dksJ6_putChar_1 7 rfl rfl)
theorem dJ6_putChar_32 : decode cJ6_putChar 32 = .ok (.aload_n 0, 1) := dk_42 (dk_at dksJ6_putChar_1 8 rfl rfl)
theorem dJ6_putChar_33 : decode cJ6_putChar 33 = .ok (.iload_n 1, 1) := dk_27 (dk_at dksJ6_putChar_1 9 rfl rfl)
theorem dJ6_putChar_34 : decode cJ6_putChar 34 = .ok (.iinc 1 1, 3) := dk_132 1 1 (dk_at dksJ6_putChar_1 10 rfl rfl)
theorem dJ6_putChar_37 : decode cJ6_putChar 37 = .ok (.iload_n 2, 1) := dk_28 (dk_at dksJ6_putChar_1 13 rfl rfl)
theorem dJ6_putChar_38 : decode cJ6_putChar 38 = .ok (.getstatic 59, 3) := dk_178 0 59 (dk_at dksJ6_putChar_1 14 rfl rfl)
theorem dJ6_putChar_41 : decode cJ6_putChar 41 = .ok (.ishr, 1) := dk_122 (dk_at dksJ6_putChar_1 17 rfl rfl)
theorem dJ6_putChar_42 : decode cJ6_putChar 42 = .ok (.i2b, 1) := dk_145 (dk_at dksJ6_putChar_1 18 rfl rfl)
theorem dJ6_putChar_43 : decode cJ6_putChar 43 = .ok (.bastore, 1) := dk_84 (dk_at dksJ6_putChar_1 19 rfl rfl)
theorem dJ6_putChar_44 : decode cJ6_putChar 44 = .ok (.aload_n 0, 1) := dk_42 (dk_at dksJ6_putChar_1 20 rfl rfl)
theorem dJ6_putChar_45 : decode cJ6_putChar 45 = .ok (.iload_n 1, 1) := dk_27 (dk_at dksJ6_putChar_1 21 rfl rfl)
theorem dJ6_putChar_46 : decode cJ6_putChar 46 = .ok (.iload_n 2, 1) := dk_28 (dk_at dksJ6_putChar_1 22 rfl rfl)
theorem dJ6_putChar_47 : decode cJ6_putChar 47 = .ok (.getstatic 63, 3) := dk_178 0 63 (dk_at dksJ6_putChar_2 0 rfl rfl)
theorem dJ6_putChar_50 : decode cJ6_putChar 50 = .ok (.ishr, 1) := dk_122 (dk_at dksJ6_putChar_2 3 rfl rfl)
theorem dJ6_putChar_51 : decode cJ6_putChar 51 = .ok (.i2b, 1) := dk_145 (dk_at dksJ6_putChar_2 4 rfl rfl)
theorem dJ6_putChar_52 : decode cJ6_putChar 52 = .ok (.bastore, 1) := dk_84 (dk_at dksJ6_putChar_2 5 rfl rfl)
theorem dJ6_putChar_53 : decode cJ6_putChar 53 = .ok (.return_, 1) := dk_177 (dk_at dksJ6_putChar_2 6 rfl rfl)
abbrev cJ6_putCharSB : ByteArray := prog_37_method_71_code
def yJ6_putCharSB : MethodName := ⟨RJ6, "putCharSB", "([BII)V"⟩
def dkwJ6_putCharSB_0 : List UInt8 := [27, 42, 184, 0, 67, 42, 27, 28, 184, 0, 111, 177]
abbrev dktJ6_putCharSB_0 : List UInt8 := dkwJ6_putCharSB_0 ++ []
theorem dksJ6_putCharSB_0 : cJ6_putCharSB.data.toList.drop 0 = dktJ6_putCharSB_0 := by decide +kernel
theorem dJ6_putCharSB_0 : decode cJ6_putCharSB 0 = .ok (.iload_n 1, 1) := dk_27 (dk_at dksJ6_putCharSB_0 0 rfl rfl)
theorem dJ6_putCharSB_1 : decode cJ6_putCharSB 1 = .ok (.aload_n 0, 1) := dk_42 (dk_at dksJ6_putCharSB_0 1 rfl rfl)
theorem dJ6_putCharSB_2 : decode cJ6_putCharSB 2 = .ok (.invokestatic 67, 3) := dk_184 0 67 (dk_at dksJ6_putCharSB_0 2 rfl rfl)
theorem dJ6_putCharSB_5 : decode cJ6_putCharSB 5 = .ok (.aload_n 0, 1) := dk_42 (dk_at dksJ6_putCharSB_0 5 rfl rfl)
theorem dJ6_putCharSB_6 : decode cJ6_putCharSB 6 = .ok (.iload_n 1, 1) := dk_27 (dk_at dksJ6_putCharSB_0 6 rfl rfl)
theorem dJ6_putCharSB_7 : decode cJ6_putCharSB 7 = .ok (.iload_n 2, 1) := dk_28 (dk_at dksJ6_putCharSB_0 7 rfl rfl)
theorem dJ6_putCharSB_8 : decode cJ6_putCharSB 8 = .ok (.invokestatic 111, 3) := dk_184 0 111 (dk_at dksJ6_putCharSB_0 8 rfl rfl)
theorem dJ6_putCharSB_11 : decode cJ6_putCharSB 11 = .ok (.return_, 1) := dk_177 (dk_at dksJ6_putCharSB_0 11 rfl rfl)
abbrev cJ6_compress : ByteArray := prog_37_method_17_code
def yJ6_compress : MethodName := ⟨RJ6, "compress", "([BII)[B"⟩
def dkwJ6_compress_2 : List UInt8 := [25, 5, 3, 45, 3, 28, 184, 0, 123, 28, 159, 0, 6, 25, 5, 176, 45, 176]
abbrev dktJ6_compress_2 : List UInt8 := dkwJ6_compress_2 ++ []
def dkwJ6_compress_1 : List UInt8 := [27, 28, 96, 184, 0, 11, 184, 0, 126, 58, 5, 25, 5, 21, 4, 184, 0, 71, 17, 0, 255, 163, 0, 16]
abbrev dktJ6_compress_1 : List UInt8 := dkwJ6_compress_1 ++ dktJ6_compress_2
def dkwJ6_compress_0 : List UInt8 := [28, 188, 8, 78, 42, 27, 45, 3, 28, 184, 0, 123, 54, 4, 21, 4, 28, 159, 0, 47, 42, 27, 4, 120]
abbrev dktJ6_compress_0 : List UInt8 := dkwJ6_compress_0 ++ dktJ6_compress_1
theorem dksJ6_compress_0 : cJ6_compress.data.toList.drop 0 = dktJ6_compress_0 := by decide +kernel
theorem dksJ6_compress_1 : cJ6_compress.data.toList.drop 24 = dktJ6_compress_1 := dk_seg dksJ6_compress_0 24 rfl rfl
theorem dksJ6_compress_2 : cJ6_compress.data.toList.drop 48 = dktJ6_compress_2 := dk_seg dksJ6_compress_1 24 rfl rfl
theorem dJ6_compress_0 : decode cJ6_compress 0 = .ok (.iload_n 2, 1) := dk_28 (dk_at dksJ6_compress_0 0 rfl rfl)
theorem dJ6_compress_1 : decode cJ6_compress 1 = .ok (.newarray .byte, 2) := dk_188_8 (dk_at dksJ6_compress_0 1 rfl rfl)
theorem dJ6_compress_3 : decode cJ6_compress 3 = .ok (.astore_n 3, 1) := dk_78 (dk_at dksJ6_compress_0 3 rfl rfl)
theorem dJ6_compress_4 : decode cJ6_compress 4 = .ok (.aload_n 0, 1) := dk_42 (dk_at dksJ6_compress_0 4 rfl rfl)
theorem dJ6_compress_5 : decode cJ6_compress 5 = .ok (.iload_n 1, 1) := dk_27 (dk_at dksJ6_compress_0 5 rfl rfl)
theorem dJ6_compress_6 : decode cJ6_compress 6 = .ok (.aload_n 3, 1) := dk_45 (dk_at dksJ6_compress_0 6 rfl rfl)
theorem dJ6_compress_7 : decode cJ6_compress 7 = .ok (.iconst 0, 1) := dk_3 (dk_at dksJ6_compress_0 7 rfl rfl)
theorem dJ6_compress_8 : decode cJ6_compress 8 = .ok (.iload_n 2, 1) := dk_28 (dk_at dksJ6_compress_0 8 rfl rfl)
theorem dJ6_compress_9 : decode cJ6_compress 9 = .ok (.invokestatic 123, 3) := dk_184 0 123 (dk_at dksJ6_compress_0 9 rfl rfl)
theorem dJ6_compress_12 : decode cJ6_compress 12 = .ok (.istore 4, 2) := dk_54 4 (dk_at dksJ6_compress_0 12 rfl rfl)
theorem dJ6_compress_14 : decode cJ6_compress 14 = .ok (.iload 4, 2) := dk_21 4 (dk_at dksJ6_compress_0 14 rfl rfl)
theorem dJ6_compress_16 : decode cJ6_compress 16 = .ok (.iload_n 2, 1) := dk_28 (dk_at dksJ6_compress_0 16 rfl rfl)
theorem dJ6_compress_17 : decode cJ6_compress 17 = .ok (.if_icmp .eq 47, 3) := dk_159 0 47 (dk_at dksJ6_compress_0 17 rfl rfl)
theorem dJ6_compress_20 : decode cJ6_compress 20 = .ok (.aload_n 0, 1) := dk_42 (dk_at dksJ6_compress_0 20 rfl rfl)
theorem dJ6_compress_21 : decode cJ6_compress 21 = .ok (.iload_n 1, 1) := dk_27 (dk_at dksJ6_compress_0 21 rfl rfl)
theorem dJ6_compress_22 : decode cJ6_compress 22 = .ok (.iconst 1, 1) := dk_4 (dk_at dksJ6_compress_0 22 rfl rfl)
theorem dJ6_compress_23 : decode cJ6_compress 23 = .ok (.ishl, 1) := dk_120 (dk_at dksJ6_compress_0 23 rfl rfl)
theorem dJ6_compress_24 : decode cJ6_compress 24 = .ok (.iload_n 1, 1) := dk_27 (dk_at dksJ6_compress_1 0 rfl rfl)
theorem dJ6_compress_25 : decode cJ6_compress 25 = .ok (.iload_n 2, 1) := dk_28 (dk_at dksJ6_compress_1 1 rfl rfl)
theorem dJ6_compress_26 : decode cJ6_compress 26 = .ok (.iadd, 1) := dk_96 (dk_at dksJ6_compress_1 2 rfl rfl)
theorem dJ6_compress_27 : decode cJ6_compress 27 = .ok (.invokestatic 11, 3) := dk_184 0 11 (dk_at dksJ6_compress_1 3 rfl rfl)
theorem dJ6_compress_30 : decode cJ6_compress 30 = .ok (.invokestatic 126, 3) := dk_184 0 126 (dk_at dksJ6_compress_1 6 rfl rfl)
theorem dJ6_compress_33 : decode cJ6_compress 33 = .ok (.astore 5, 2) := dk_58 5 (dk_at dksJ6_compress_1 9 rfl rfl)
theorem dJ6_compress_35 : decode cJ6_compress 35 = .ok (.aload 5, 2) := dk_25 5 (dk_at dksJ6_compress_1 11 rfl rfl)
theorem dJ6_compress_37 : decode cJ6_compress 37 = .ok (.iload 4, 2) := dk_21 4 (dk_at dksJ6_compress_1 13 rfl rfl)
theorem dJ6_compress_39 : decode cJ6_compress 39 = .ok (.invokestatic 71, 3) := dk_184 0 71 (dk_at dksJ6_compress_1 15 rfl rfl)
theorem dJ6_compress_42 : decode cJ6_compress 42 = .ok (.sipush 255, 3) := dk_17 0 255 (dk_at dksJ6_compress_1 18 rfl rfl)
theorem dJ6_compress_45 : decode cJ6_compress 45 = .ok (.if_icmp .gt 16, 3) := dk_163 0 16 (dk_at dksJ6_compress_1 21 rfl rfl)
theorem dJ6_compress_48 : decode cJ6_compress 48 = .ok (.aload 5, 2) := dk_25 5 (dk_at dksJ6_compress_2 0 rfl rfl)
theorem dJ6_compress_50 : decode cJ6_compress 50 = .ok (.iconst 0, 1) := dk_3 (dk_at dksJ6_compress_2 2 rfl rfl)
theorem dJ6_compress_51 : decode cJ6_compress 51 = .ok (.aload_n 3, 1) := dk_45 (dk_at dksJ6_compress_2 3 rfl rfl)
theorem dJ6_compress_52 : decode cJ6_compress 52 = .ok (.iconst 0, 1) := dk_3 (dk_at dksJ6_compress_2 4 rfl rfl)
theorem dJ6_compress_53 : decode cJ6_compress 53 = .ok (.iload_n 2, 1) := dk_28 (dk_at dksJ6_compress_2 5 rfl rfl)
theorem dJ6_compress_54 : decode cJ6_compress 54 = .ok (.invokestatic 123, 3) := dk_184 0 123 (dk_at dksJ6_compress_2 6 rfl rfl)
theorem dJ6_compress_57 : decode cJ6_compress 57 = .ok (.iload_n 2, 1) := dk_28 (dk_at dksJ6_compress_2 9 rfl rfl)
theorem dJ6_compress_58 : decode cJ6_compress 58 = .ok (.if_icmp .eq 6, 3) := dk_159 0 6 (dk_at dksJ6_compress_2 10 rfl rfl)
theorem dJ6_compress_61 : decode cJ6_compress 61 = .ok (.aload 5, 2) := dk_25 5 (dk_at dksJ6_compress_2 13 rfl rfl)
theorem dJ6_compress_63 : decode cJ6_compress 63 = .ok (.areturn, 1) := dk_176 (dk_at dksJ6_compress_2 15 rfl rfl)
theorem dJ6_compress_64 : decode cJ6_compress 64 = .ok (.aload_n 3, 1) := dk_45 (dk_at dksJ6_compress_2 16 rfl rfl)
theorem dJ6_compress_65 : decode cJ6_compress 65 = .ok (.areturn, 1) := dk_176 (dk_at dksJ6_compress_2 17 rfl rfl)
abbrev cJ6_compress_2 : ByteArray := prog_37_method_22_code
def yJ6_compress_2 : MethodName := ⟨RJ6, "compress", "([BI[BII)I"⟩
def dkwJ6_compress_2_2 : List UInt8 := [132, 5, 1, 167, 255, 216, 21, 4, 172]
abbrev dktJ6_compress_2_2 : List UInt8 := dkwJ6_compress_2_2 ++ []
def dkwJ6_compress_2_1 : List UInt8 := [21, 6, 17, 0, 255, 164, 0, 6, 21, 5, 172, 44, 29, 21, 6, 145, 84, 132, 1, 1, 132, 3, 1]
abbrev dktJ6_compress_2_1 : List UInt8 := dkwJ6_compress_2_1 ++ dktJ6_compress_2_2
def dkwJ6_compress_2_0 : List UInt8 := [27, 21, 4, 42, 184, 0, 173, 3, 54, 5, 21, 5, 21, 4, 162, 0, 39, 42, 27, 184, 0, 71, 54, 6]
abbrev dktJ6_compress_2_0 : List UInt8 := dkwJ6_compress_2_0 ++ dktJ6_compress_2_1
theorem dksJ6_compress_2_0 : cJ6_compress_2.data.toList.drop 0 = dktJ6_compress_2_0 := by decide +kernel
theorem dksJ6_compress_2_1 : cJ6_compress_2.data.toList.drop 24 = dktJ6_compress_2_1 := dk_seg dksJ6_compress_2_0 24 rfl rfl
theorem dksJ6_compress_2_2 : cJ6_compress_2.data.toList.drop 47 = dktJ6_compress_2_2 := dk_seg dksJ6_compress_2_1 23 rfl rfl
theorem dJ6_compress_2_0 : decode cJ6_compress_2 0 = .ok (.iload_n 1, 1) := dk_27 (dk_at dksJ6_compress_2_0 0 rfl rfl)
theorem dJ6_compress_2_1 : decode cJ6_compress_2 1 = .ok (.iload 4, 2) := dk_21 4 (dk_at dksJ6_compress_2_0 1 rfl rfl)
theorem dJ6_compress_2_3 : decode cJ6_compress_2 3 = .ok (.aload_n 0, 1) := dk_42 (dk_at dksJ6_compress_2_0 3 rfl rfl)
theorem dJ6_compress_2_4 : decode cJ6_compress_2 4 = .ok (.invokestatic 173, 3) := dk_184 0 173 (dk_at dksJ6_compress_2_0 4 rfl rfl)
theorem dJ6_compress_2_7 : decode cJ6_compress_2 7 = .ok (.iconst 0, 1) := dk_3 (dk_at dksJ6_compress_2_0 7 rfl rfl)
theorem dJ6_compress_2_8 : decode cJ6_compress_2 8 = .ok (.istore 5, 2) := dk_54 5 (dk_at dksJ6_compress_2_0 8 rfl rfl)
theorem dJ6_compress_2_10 : decode cJ6_compress_2 10 = .ok (.iload 5, 2) := dk_21 5 (dk_at dksJ6_compress_2_0 10 rfl rfl)
theorem dJ6_compress_2_12 : decode cJ6_compress_2 12 = .ok (.iload 4, 2) := dk_21 4 (dk_at dksJ6_compress_2_0 12 rfl rfl)
theorem dJ6_compress_2_14 : decode cJ6_compress_2 14 = .ok (.if_icmp .ge 39, 3) := dk_162 0 39 (dk_at dksJ6_compress_2_0 14 rfl rfl)
theorem dJ6_compress_2_17 : decode cJ6_compress_2 17 = .ok (.aload_n 0, 1) := dk_42 (dk_at dksJ6_compress_2_0 17 rfl rfl)
theorem dJ6_compress_2_18 : decode cJ6_compress_2 18 = .ok (.iload_n 1, 1) := dk_27 (dk_at dksJ6_compress_2_0 18 rfl rfl)
theorem dJ6_compress_2_19 : decode cJ6_compress_2 19 = .ok (.invokestatic 71, 3) := dk_184 0 71 (dk_at dksJ6_compress_2_0 19 rfl rfl)
theorem dJ6_compress_2_22 : decode cJ6_compress_2 22 = .ok (.istore 6, 2) := dk_54 6 (dk_at dksJ6_compress_2_0 22 rfl rfl)
theorem dJ6_compress_2_24 : decode cJ6_compress_2 24 = .ok (.iload 6, 2) := dk_21 6 (dk_at dksJ6_compress_2_1 0 rfl rfl)
theorem dJ6_compress_2_26 : decode cJ6_compress_2 26 = .ok (.sipush 255, 3) := dk_17 0 255 (dk_at dksJ6_compress_2_1 2 rfl rfl)
theorem dJ6_compress_2_29 : decode cJ6_compress_2 29 = .ok (.if_icmp .le 6, 3) := dk_164 0 6 (dk_at dksJ6_compress_2_1 5 rfl rfl)
theorem dJ6_compress_2_32 : decode cJ6_compress_2 32 = .ok (.iload 5, 2) := dk_21 5 (dk_at dksJ6_compress_2_1 8 rfl rfl)
theorem dJ6_compress_2_34 : decode cJ6_compress_2 34 = .ok (.ireturn, 1) := dk_172 (dk_at dksJ6_compress_2_1 10 rfl rfl)
theorem dJ6_compress_2_35 : decode cJ6_compress_2 35 = .ok (.aload_n 2, 1) := dk_44 (dk_at dksJ6_compress_2_1 11 rfl rfl)
theorem dJ6_compress_2_36 : decode cJ6_compress_2 36 = .ok (.iload_n 3, 1) := dk_29 (dk_at dksJ6_compress_2_1 12 rfl rfl)
theorem dJ6_compress_2_37 : decode cJ6_compress_2 37 = .ok (.iload 6, 2) := dk_21 6 (dk_at dksJ6_compress_2_1 13 rfl rfl)
theorem dJ6_compress_2_39 : decode cJ6_compress_2 39 = .ok (.i2b, 1) := dk_145 (dk_at dksJ6_compress_2_1 15 rfl rfl)
theorem dJ6_compress_2_40 : decode cJ6_compress_2 40 = .ok (.bastore, 1) := dk_84 (dk_at dksJ6_compress_2_1 16 rfl rfl)
theorem dJ6_compress_2_41 : decode cJ6_compress_2 41 = .ok (.iinc 1 1, 3) := dk_132 1 1 (dk_at dksJ6_compress_2_1 17 rfl rfl)
theorem dJ6_compress_2_44 : decode cJ6_compress_2 44 = .ok (.iinc 3 1, 3) := dk_132 3 1 (dk_at dksJ6_compress_2_1 20 rfl rfl)
theorem dJ6_compress_2_47 : decode cJ6_compress_2 47 = .ok (.iinc 5 1, 3) := dk_132 5 1 (dk_at dksJ6_compress_2_2 0 rfl rfl)
theorem dJ6_compress_2_50 : decode cJ6_compress_2 50 = .ok (.goto (-40), 3) := dk_167 255 216 (dk_at dksJ6_compress_2_2 3 rfl rfl)
theorem dJ6_compress_2_53 : decode cJ6_compress_2 53 = .ok (.iload 4, 2) := dk_21 4 (dk_at dksJ6_compress_2_2 6 rfl rfl)
theorem dJ6_compress_2_55 : decode cJ6_compress_2 55 = .ok (.ireturn, 1) := dk_172 (dk_at dksJ6_compress_2_2 8 rfl rfl)
abbrev cJ6_coderFromArrayLen : ByteArray := prog_37_method_15_code
def yJ6_coderFromArrayLen : MethodName := ⟨RJ6, "coderFromArrayLen", "([BI)B"⟩
def dkwJ6_coderFromArrayLen_0 : List UInt8 := [27, 42, 190, 100, 16, 31, 124, 145, 172]
abbrev dktJ6_coderFromArrayLen_0 : List UInt8 := dkwJ6_coderFromArrayLen_0 ++ []
theorem dksJ6_coderFromArrayLen_0 : cJ6_coderFromArrayLen.data.toList.drop 0 = dktJ6_coderFromArrayLen_0 := by decide +kernel
theorem dJ6_coderFromArrayLen_0 : decode cJ6_coderFromArrayLen 0 = .ok (.iload_n 1, 1) := dk_27 (dk_at dksJ6_coderFromArrayLen_0 0 rfl rfl)
theorem dJ6_coderFromArrayLen_1 : decode cJ6_coderFromArrayLen 1 = .ok (.aload_n 0, 1) := dk_42 (dk_at dksJ6_coderFromArrayLen_0 1 rfl rfl)
theorem dJ6_coderFromArrayLen_2 : decode cJ6_coderFromArrayLen 2 = .ok (.arraylength, 1) := dk_190 (dk_at dksJ6_coderFromArrayLen_0 2 rfl rfl)
theorem dJ6_coderFromArrayLen_3 : decode cJ6_coderFromArrayLen 3 = .ok (.isub, 1) := dk_100 (dk_at dksJ6_coderFromArrayLen_0 3 rfl rfl)
theorem dJ6_coderFromArrayLen_4 : decode cJ6_coderFromArrayLen 4 = .ok (.bipush 31, 2) := dk_16 31 (dk_at dksJ6_coderFromArrayLen_0 4 rfl rfl)
theorem dJ6_coderFromArrayLen_6 : decode cJ6_coderFromArrayLen 6 = .ok (.iushr, 1) := dk_124 (dk_at dksJ6_coderFromArrayLen_0 6 rfl rfl)
theorem dJ6_coderFromArrayLen_7 : decode cJ6_coderFromArrayLen 7 = .ok (.i2b, 1) := dk_145 (dk_at dksJ6_coderFromArrayLen_0 7 rfl rfl)
theorem dJ6_coderFromArrayLen_8 : decode cJ6_coderFromArrayLen 8 = .ok (.ireturn, 1) := dk_172 (dk_at dksJ6_coderFromArrayLen_0 8 rfl rfl)
abbrev cJ6_indexOf : ByteArray := prog_37_method_40_code
def yJ6_indexOf : MethodName := ⟨RJ6, "indexOf", "([BIII)I"⟩
def dkwJ6_indexOf_1 : List UInt8 := [18, 227, 162, 0, 11, 42, 27, 28, 29, 184, 0, 228, 172, 42, 27, 28, 29, 184, 0, 232, 172]
abbrev dktJ6_indexOf_1 : List UInt8 := dkwJ6_indexOf_1 ++ []
def dkwJ6_indexOf_0 : List UInt8 := [28, 3, 184, 0, 224, 61, 29, 42, 190, 4, 122, 184, 0, 183, 62, 28, 29, 161, 0, 5, 2, 172, 27]
abbrev dktJ6_indexOf_0 : List UInt8 := dkwJ6_indexOf_0 ++ dktJ6_indexOf_1
theorem dksJ6_indexOf_0 : cJ6_indexOf.data.toList.drop 0 = dktJ6_indexOf_0 := by decide +kernel
theorem dksJ6_indexOf_1 : cJ6_indexOf.data.toList.drop 23 = dktJ6_indexOf_1 := dk_seg dksJ6_indexOf_0 23 rfl rfl
theorem dJ6_indexOf_0 : decode cJ6_indexOf 0 = .ok (.iload_n 2, 1) := dk_28 (dk_at dksJ6_indexOf_0 0 rfl rfl)
theorem dJ6_indexOf_1 : decode cJ6_indexOf 1 = .ok (.iconst 0, 1) := dk_3 (dk_at dksJ6_indexOf_0 1 rfl rfl)
theorem dJ6_indexOf_2 : decode cJ6_indexOf 2 = .ok (.invokestatic 224, 3) := dk_184 0 224 (dk_at dksJ6_indexOf_0 2 rfl rfl)
theorem dJ6_indexOf_5 : decode cJ6_indexOf 5 = .ok (.istore_n 2, 1) := dk_61 (dk_at dksJ6_indexOf_0 5 rfl rfl)
theorem dJ6_indexOf_6 : decode cJ6_indexOf 6 = .ok (.iload_n 3, 1) := dk_29 (dk_at dksJ6_indexOf_0 6 rfl rfl)
theorem dJ6_indexOf_7 : decode cJ6_indexOf 7 = .ok (.aload_n 0, 1) := dk_42 (dk_at dksJ6_indexOf_0 7 rfl rfl)
theorem dJ6_indexOf_8 : decode cJ6_indexOf 8 = .ok (.arraylength, 1) := dk_190 (dk_at dksJ6_indexOf_0 8 rfl rfl)
theorem dJ6_indexOf_9 : decode cJ6_indexOf 9 = .ok (.iconst 1, 1) := dk_4 (dk_at dksJ6_indexOf_0 9 rfl rfl)
theorem dJ6_indexOf_10 : decode cJ6_indexOf 10 = .ok (.ishr, 1) := dk_122 (dk_at dksJ6_indexOf_0 10 rfl rfl)
theorem dJ6_indexOf_11 : decode cJ6_indexOf 11 = .ok (.invokestatic 183, 3) := dk_184 0 183 (dk_at dksJ6_indexOf_0 11 rfl rfl)
theorem dJ6_indexOf_14 : decode cJ6_indexOf 14 = .ok (.istore_n 3, 1) := dk_62 (dk_at dksJ6_indexOf_0 14 rfl rfl)
theorem dJ6_indexOf_15 : decode cJ6_indexOf 15 = .ok (.iload_n 2, 1) := dk_28 (dk_at dksJ6_indexOf_0 15 rfl rfl)
theorem dJ6_indexOf_16 : decode cJ6_indexOf 16 = .ok (.iload_n 3, 1) := dk_29 (dk_at dksJ6_indexOf_0 16 rfl rfl)
theorem dJ6_indexOf_17 : decode cJ6_indexOf 17 = .ok (.if_icmp .lt 5, 3) := dk_161 0 5 (dk_at dksJ6_indexOf_0 17 rfl rfl)
theorem dJ6_indexOf_20 : decode cJ6_indexOf 20 = .ok (.iconst (-1), 1) := dk_2 (dk_at dksJ6_indexOf_0 20 rfl rfl)
theorem dJ6_indexOf_21 : decode cJ6_indexOf 21 = .ok (.ireturn, 1) := dk_172 (dk_at dksJ6_indexOf_0 21 rfl rfl)
theorem dJ6_indexOf_22 : decode cJ6_indexOf 22 = .ok (.iload_n 1, 1) := dk_27 (dk_at dksJ6_indexOf_0 22 rfl rfl)
theorem dJ6_indexOf_23 : decode cJ6_indexOf 23 = .ok (.ldc 227, 2) := dk_18 227 (dk_at dksJ6_indexOf_1 0 rfl rfl)
theorem dJ6_indexOf_25 : decode cJ6_indexOf 25 = .ok (.if_icmp .ge 11, 3) := dk_162 0 11 (dk_at dksJ6_indexOf_1 2 rfl rfl)
theorem dJ6_indexOf_28 : decode cJ6_indexOf 28 = .ok (.aload_n 0, 1) := dk_42 (dk_at dksJ6_indexOf_1 5 rfl rfl)
theorem dJ6_indexOf_29 : decode cJ6_indexOf 29 = .ok (.iload_n 1, 1) := dk_27 (dk_at dksJ6_indexOf_1 6 rfl rfl)
theorem dJ6_indexOf_30 : decode cJ6_indexOf 30 = .ok (.iload_n 2, 1) := dk_28 (dk_at dksJ6_indexOf_1 7 rfl rfl)
theorem dJ6_indexOf_31 : decode cJ6_indexOf 31 = .ok (.iload_n 3, 1) := dk_29 (dk_at dksJ6_indexOf_1 8 rfl rfl)
theorem dJ6_indexOf_32 : decode cJ6_indexOf 32 = .ok (.invokestatic 228, 3) := dk_184 0 228 (dk_at dksJ6_indexOf_1 9 rfl rfl)
theorem dJ6_indexOf_35 : decode cJ6_indexOf 35 = .ok (.ireturn, 1) := dk_172 (dk_at dksJ6_indexOf_1 12 rfl rfl)
theorem dJ6_indexOf_36 : decode cJ6_indexOf 36 = .ok (.aload_n 0, 1) := dk_42 (dk_at dksJ6_indexOf_1 13 rfl rfl)
theorem dJ6_indexOf_37 : decode cJ6_indexOf 37 = .ok (.iload_n 1, 1) := dk_27 (dk_at dksJ6_indexOf_1 14 rfl rfl)
theorem dJ6_indexOf_38 : decode cJ6_indexOf 38 = .ok (.iload_n 2, 1) := dk_28 (dk_at dksJ6_indexOf_1 15 rfl rfl)
theorem dJ6_indexOf_39 : decode cJ6_indexOf 39 = .ok (.iload_n 3, 1) := dk_29 (dk_at dksJ6_indexOf_1 16 rfl rfl)
theorem dJ6_indexOf_40 : decode cJ6_indexOf 40 = .ok (.invokestatic 232, 3) := dk_184 0 232 (dk_at dksJ6_indexOf_1 17 rfl rfl)
theorem dJ6_indexOf_43 : decode cJ6_indexOf 43 = .ok (.ireturn, 1) := dk_172 (dk_at dksJ6_indexOf_1 20 rfl rfl)
abbrev cJ6_indexOfChar : ByteArray := prog_37_method_47_code
def yJ6_indexOfChar : MethodName := ⟨RJ6, "indexOfChar", "([BIII)I"⟩
def dkwJ6_indexOfChar_0 : List UInt8 := [28, 29, 42, 184, 0, 96, 42, 27, 28, 29, 184, 0, 244, 172]
abbrev dktJ6_indexOfChar_0 : List UInt8 := dkwJ6_indexOfChar_0 ++ []
theorem dksJ6_indexOfChar_0 : cJ6_indexOfChar.data.toList.drop 0 = dktJ6_indexOfChar_0 := by decide +kernel
theorem dJ6_indexOfChar_0 : decode cJ6_indexOfChar 0 = .ok (.iload_n 2, 1) := dk_28 (dk_at dksJ6_indexOfChar_0 0 rfl rfl)
theorem dJ6_indexOfChar_1 : decode cJ6_indexOfChar 1 = .ok (.iload_n 3, 1) := dk_29 (dk_at dksJ6_indexOfChar_0 1 rfl rfl)
theorem dJ6_indexOfChar_2 : decode cJ6_indexOfChar 2 = .ok (.aload_n 0, 1) := dk_42 (dk_at dksJ6_indexOfChar_0 2 rfl rfl)
theorem dJ6_indexOfChar_3 : decode cJ6_indexOfChar 3 = .ok (.invokestatic 96, 3) := dk_184 0 96 (dk_at dksJ6_indexOfChar_0 3 rfl rfl)
theorem dJ6_indexOfChar_6 : decode cJ6_indexOfChar 6 = .ok (.aload_n 0, 1) := dk_42 (dk_at dksJ6_indexOfChar_0 6 rfl rfl)
theorem dJ6_indexOfChar_7 : decode cJ6_indexOfChar 7 = .ok (.iload_n 1, 1) := dk_27 (dk_at dksJ6_indexOfChar_0 7 rfl rfl)
theorem dJ6_indexOfChar_8 : decode cJ6_indexOfChar 8 = .ok (.iload_n 2, 1) := dk_28 (dk_at dksJ6_indexOfChar_0 8 rfl rfl)
theorem dJ6_indexOfChar_9 : decode cJ6_indexOfChar 9 = .ok (.iload_n 3, 1) := dk_29 (dk_at dksJ6_indexOfChar_0 9 rfl rfl)
theorem dJ6_indexOfChar_10 : decode cJ6_indexOfChar 10 = .ok (.invokestatic 244, 3) := dk_184 0 244 (dk_at dksJ6_indexOfChar_0 10 rfl rfl)
theorem dJ6_indexOfChar_13 : decode cJ6_indexOfChar 13 = .ok (.ireturn, 1) := dk_172 (dk_at dksJ6_indexOfChar_0 13 rfl rfl)
abbrev cJ6_checkBoundsBeginEnd : ByteArray := prog_37_method_93_code
def yJ6_checkBoundsBeginEnd : MethodName := ⟨RJ6, "checkBoundsBeginEnd", "(II[B)V"⟩
def dkwJ6_checkBoundsBeginEnd_0 : List UInt8 := [26, 27, 44, 184, 0, 48, 184, 0, 241, 177]
abbrev dktJ6_checkBoundsBeginEnd_0 : List UInt8 := dkwJ6_checkBoundsBeginEnd_0 ++ []
theorem dksJ6_checkBoundsBeginEnd_0 : cJ6_checkBoundsBeginEnd.data.toList.drop 0 = dktJ6_checkBoundsBeginEnd_0 := by decide +kernel
theorem dJ6_checkBoundsBeginEnd_0 : decode cJ6_checkBoundsBeginEnd 0 = .ok (.iload_n 0, 1) := dk_26 (dk_at dksJ6_checkBoundsBeginEnd_0 0 rfl rfl)
theorem dJ6_checkBoundsBeginEnd_1 : decode cJ6_checkBoundsBeginEnd 1 = .ok (.iload_n 1, 1) := dk_27 (dk_at dksJ6_checkBoundsBeginEnd_0 1 rfl rfl)
theorem dJ6_checkBoundsBeginEnd_2 : decode cJ6_checkBoundsBeginEnd 2 = .ok (.aload_n 2, 1) := dk_44 (dk_at dksJ6_checkBoundsBeginEnd_0 2 rfl rfl)
theorem dJ6_checkBoundsBeginEnd_3 : decode cJ6_checkBoundsBeginEnd 3 = .ok (.invokestatic 48, 3) := dk_184 0 48 (dk_at dksJ6_checkBoundsBeginEnd_0 3 rfl rfl)
theorem dJ6_checkBoundsBeginEnd_6 : decode cJ6_checkBoundsBeginEnd 6 = .ok (.invokestatic 241, 3) := dk_184 0 241 (dk_at dksJ6_checkBoundsBeginEnd_0 6 rfl rfl)
theorem dJ6_checkBoundsBeginEnd_9 : decode cJ6_checkBoundsBeginEnd 9 = .ok (.return_, 1) := dk_177 (dk_at dksJ6_checkBoundsBeginEnd_0 9 rfl rfl)
abbrev cJ6_indexOfCharUnsafe : ByteArray := prog_37_method_48_code
def yJ6_indexOfCharUnsafe : MethodName := ⟨RJ6, "indexOfCharUnsafe", "([BIII)I"⟩
def dkwJ6_indexOfCharUnsafe_1 : List UInt8 := [132, 4, 1, 167, 255, 234, 2, 172]
abbrev dktJ6_indexOfCharUnsafe_1 : List UInt8 := dkwJ6_indexOfCharUnsafe_1 ++ []
def dkwJ6_indexOfCharUnsafe_0 : List UInt8 := [28, 54, 4, 21, 4, 29, 162, 0, 22, 42, 21, 4, 184, 0, 71, 27, 160, 0, 6, 21, 4, 172]
abbrev dktJ6_indexOfCharUnsafe_0 : List UInt8 := dkwJ6_indexOfCharUnsafe_0 ++ dktJ6_indexOfCharUnsafe_1
theorem dksJ6_indexOfCharUnsafe_0 : cJ6_indexOfCharUnsafe.data.toList.drop 0 = dktJ6_indexOfCharUnsafe_0 := by decide +kernel
theorem dksJ6_indexOfCharUnsafe_1 : cJ6_indexOfCharUnsafe.data.toList.drop 22 = dktJ6_indexOfCharUnsafe_1 := dk_seg dksJ6_indexOfCharUnsafe_0 22 rfl rfl
theorem dJ6_indexOfCharUnsafe_0 : decode cJ6_indexOfCharUnsafe 0 = .ok (.iload_n 2, 1) := dk_28 (dk_at dksJ6_indexOfCharUnsafe_0 0 rfl rfl)
theorem dJ6_indexOfCharUnsafe_1 : decode cJ6_indexOfCharUnsafe 1 = .ok (.istore 4, 2) := dk_54 4 (dk_at dksJ6_indexOfCharUnsafe_0 1 rfl rfl)
theorem dJ6_indexOfCharUnsafe_3 : decode cJ6_indexOfCharUnsafe 3 = .ok (.iload 4, 2) := dk_21 4 (dk_at dksJ6_indexOfCharUnsafe_0 3 rfl rfl)
theorem dJ6_indexOfCharUnsafe_5 : decode cJ6_indexOfCharUnsafe 5 = .ok (.iload_n 3, 1) := dk_29 (dk_at dksJ6_indexOfCharUnsafe_0 5 rfl rfl)
theorem dJ6_indexOfCharUnsafe_6 : decode cJ6_indexOfCharUnsafe 6 = .ok (.if_icmp .ge 22, 3) := dk_162 0 22 (dk_at dksJ6_indexOfCharUnsafe_0 6 rfl rfl)
theorem dJ6_indexOfCharUnsafe_9 : decode cJ6_indexOfCharUnsafe 9 = .ok (.aload_n 0, 1) := dk_42 (dk_at dksJ6_indexOfCharUnsafe_0 9 rfl rfl)
theorem dJ6_indexOfCharUnsafe_10 : decode cJ6_indexOfCharUnsafe 10 = .ok (.iload 4, 2) := dk_21 4 (dk_at dksJ6_indexOfCharUnsafe_0 10 rfl rfl)
theorem dJ6_indexOfCharUnsafe_12 : decode cJ6_indexOfCharUnsafe 12 = .ok (.invokestatic 71, 3) := dk_184 0 71 (dk_at dksJ6_indexOfCharUnsafe_0 12 rfl rfl)
theorem dJ6_indexOfCharUnsafe_15 : decode cJ6_indexOfCharUnsafe 15 = .ok (.iload_n 1, 1) := dk_27 (dk_at dksJ6_indexOfCharUnsafe_0 15 rfl rfl)
theorem dJ6_indexOfCharUnsafe_16 : decode cJ6_indexOfCharUnsafe 16 = .ok (.if_icmp .ne 6, 3) := dk_160 0 6 (dk_at dksJ6_indexOfCharUnsafe_0 16 rfl rfl)
theorem dJ6_indexOfCharUnsafe_19 : decode cJ6_indexOfCharUnsafe 19 = .ok (.iload 4, 2) := dk_21 4 (dk_at dksJ6_indexOfCharUnsafe_0 19 rfl rfl)
theorem dJ6_indexOfCharUnsafe_21 : decode cJ6_indexOfCharUnsafe 21 = .ok (.ireturn, 1) := dk_172 (dk_at dksJ6_indexOfCharUnsafe_0 21 rfl rfl)
theorem dJ6_indexOfCharUnsafe_22 : decode cJ6_indexOfCharUnsafe 22 = .ok (.iinc 4 1, 3) := dk_132 4 1 (dk_at dksJ6_indexOfCharUnsafe_1 0 rfl rfl)
theorem dJ6_indexOfCharUnsafe_25 : decode cJ6_indexOfCharUnsafe 25 = .ok (.goto (-22), 3) := dk_167 255 234 (dk_at dksJ6_indexOfCharUnsafe_1 3 rfl rfl)
theorem dJ6_indexOfCharUnsafe_28 : decode cJ6_indexOfCharUnsafe 28 = .ok (.iconst (-1), 1) := dk_2 (dk_at dksJ6_indexOfCharUnsafe_1 6 rfl rfl)
theorem dJ6_indexOfCharUnsafe_29 : decode cJ6_indexOfCharUnsafe 29 = .ok (.ireturn, 1) := dk_172 (dk_at dksJ6_indexOfCharUnsafe_1 7 rfl rfl)
abbrev cJ6_indexOfSupplementary : ByteArray := prog_37_method_49_code
def yJ6_indexOfSupplementary : MethodName := ⟨RJ6, "indexOfSupplementary", "([BIII)I"⟩
def dkwJ6_indexOfSupplementary_3 : List UInt8 := [167, 255, 218, 2, 172]
abbrev dktJ6_indexOfSupplementary_3 : List UInt8 := dkwJ6_indexOfSupplementary_3 ++ []
def dkwJ6_indexOfSupplementary_2 : List UInt8 := [160, 0, 19, 42, 21, 6, 4, 96, 184, 0, 71, 21, 5, 160, 0, 6, 21, 6, 172, 132, 6, 1]
abbrev dktJ6_indexOfSupplementary_2 : List UInt8 := dkwJ6_indexOfSupplementary_2 ++ dktJ6_indexOfSupplementary_3
def dkwJ6_indexOfSupplementary_1 : List UInt8 := [184, 0, 96, 28, 54, 6, 21, 6, 29, 4, 100, 162, 0, 36, 42, 21, 6, 184, 0, 71, 21, 4]
abbrev dktJ6_indexOfSupplementary_1 : List UInt8 := dkwJ6_indexOfSupplementary_1 ++ dktJ6_indexOfSupplementary_2
def dkwJ6_indexOfSupplementary_0 : List UInt8 := [27, 184, 0, 164, 153, 0, 65, 27, 184, 0, 157, 54, 4, 27, 184, 0, 161, 54, 5, 28, 29, 42]
abbrev dktJ6_indexOfSupplementary_0 : List UInt8 := dkwJ6_indexOfSupplementary_0 ++ dktJ6_indexOfSupplementary_1
theorem dksJ6_indexOfSupplementary_0 : cJ6_indexOfSupplementary.data.toList.drop 0 = dktJ6_indexOfSupplementary_0 := by decide +kernel
theorem dksJ6_indexOfSupplementary_1 : cJ6_indexOfSupplementary.data.toList.drop 22 = dktJ6_indexOfSupplementary_1 := dk_seg dksJ6_indexOfSupplementary_0 22 rfl rfl
theorem dksJ6_indexOfSupplementary_2 : cJ6_indexOfSupplementary.data.toList.drop 44 = dktJ6_indexOfSupplementary_2 := dk_seg dksJ6_indexOfSupplementary_1 22 rfl rfl
theorem dksJ6_indexOfSupplementary_3 : cJ6_indexOfSupplementary.data.toList.drop 66 = dktJ6_indexOfSupplementary_3 := dk_seg dksJ6_indexOfSupplementary_2 22 rfl rfl
theorem dJ6_indexOfSupplementary_0 : decode cJ6_indexOfSupplementary 0 = .ok (.iload_n 1, 1) := dk_27 (dk_at dksJ6_indexOfSupplementary_0 0 rfl rfl)
theorem dJ6_indexOfSupplementary_1 : decode cJ6_indexOfSupplementary 1 = .ok (.invokestatic 164, 3) := dk_184 0 164 (dk_at dksJ6_indexOfSupplementary_0 1 rfl rfl)
theorem dJ6_indexOfSupplementary_4 : decode cJ6_indexOfSupplementary 4 = .ok (.ifCond .eq 65, 3) := dk_153 0 65 (dk_at dksJ6_indexOfSupplementary_0 4 rfl rfl)
theorem dJ6_indexOfSupplementary_7 : decode cJ6_indexOfSupplementary 7 = .ok (.iload_n 1, 1) := dk_27 (dk_at dksJ6_indexOfSupplementary_0 7 rfl rfl)
theorem dJ6_indexOfSupplementary_8 : decode cJ6_indexOfSupplementary 8 = .ok (.invokestatic 157, 3) := dk_184 0 157 (dk_at dksJ6_indexOfSupplementary_0 8 rfl rfl)
theorem dJ6_indexOfSupplementary_11 : decode cJ6_indexOfSupplementary 11 = .ok (.istore 4, 2) := dk_54 4 (dk_at dksJ6_indexOfSupplementary_0 11 rfl rfl)
theorem dJ6_indexOfSupplementary_13 : decode cJ6_indexOfSupplementary 13 = .ok (.iload_n 1, 1) := dk_27 (dk_at dksJ6_indexOfSupplementary_0 13 rfl rfl)
theorem dJ6_indexOfSupplementary_14 : decode cJ6_indexOfSupplementary 14 = .ok (.invokestatic 161, 3) := dk_184 0 161 (dk_at dksJ6_indexOfSupplementary_0 14 rfl rfl)
theorem dJ6_indexOfSupplementary_17 : decode cJ6_indexOfSupplementary 17 = .ok (.istore 5, 2) := dk_54 5 (dk_at dksJ6_indexOfSupplementary_0 17 rfl rfl)
theorem dJ6_indexOfSupplementary_19 : decode cJ6_indexOfSupplementary 19 = .ok (.iload_n 2, 1) := dk_28 (dk_at dksJ6_indexOfSupplementary_0 19 rfl rfl)
theorem dJ6_indexOfSupplementary_20 : decode cJ6_indexOfSupplementary 20 = .ok (.iload_n 3, 1) := dk_29 (dk_at dksJ6_indexOfSupplementary_0 20 rfl rfl)
theorem dJ6_indexOfSupplementary_21 : decode cJ6_indexOfSupplementary 21 = .ok (.aload_n 0, 1) := dk_42 (dk_at dksJ6_indexOfSupplementary_0 21 rfl rfl)
theorem dJ6_indexOfSupplementary_22 : decode cJ6_indexOfSupplementary 22 = .ok (.invokestatic 96, 3) := dk_184 0 96 (dk_at dksJ6_indexOfSupplementary_1 0 rfl rfl)
theorem dJ6_indexOfSupplementary_25 : decode cJ6_indexOfSupplementary 25 = .ok (.iload_n 2, 1) := dk_28 (dk_at dksJ6_indexOfSupplementary_1 3 rfl rfl)
theorem dJ6_indexOfSupplementary_26 : decode cJ6_indexOfSupplementary 26 = .ok (.istore 6, 2) := dk_54 6 (dk_at dksJ6_indexOfSupplementary_1 4 rfl rfl)
theorem dJ6_indexOfSupplementary_28 : decode cJ6_indexOfSupplementary 28 = .ok (.iload 6, 2) := dk_21 6 (dk_at dksJ6_indexOfSupplementary_1 6 rfl rfl)
theorem dJ6_indexOfSupplementary_30 : decode cJ6_indexOfSupplementary 30 = .ok (.iload_n 3, 1) := dk_29 (dk_at dksJ6_indexOfSupplementary_1 8 rfl rfl)
theorem dJ6_indexOfSupplementary_31 : decode cJ6_indexOfSupplementary 31 = .ok (.iconst 1, 1) := dk_4 (dk_at dksJ6_indexOfSupplementary_1 9 rfl rfl)
theorem dJ6_indexOfSupplementary_32 : decode cJ6_indexOfSupplementary 32 = .ok (.isub, 1) := dk_100 (dk_at dksJ6_indexOfSupplementary_1 10 rfl rfl)
theorem dJ6_indexOfSupplementary_33 : decode cJ6_indexOfSupplementary 33 = .ok (.if_icmp .ge 36, 3) := dk_162 0 36 (dk_at dksJ6_indexOfSupplementary_1 11 rfl rfl)
theorem dJ6_indexOfSupplementary_36 : decode cJ6_indexOfSupplementary 36 = .ok (.aload_n 0, 1) := dk_42 (dk_at dksJ6_indexOfSupplementary_1 14 rfl rfl)
theorem dJ6_indexOfSupplementary_37 : decode cJ6_indexOfSupplementary 37 = .ok (.iload 6, 2) := dk_21 6 (dk_at dksJ6_indexOfSupplementary_1 15 rfl rfl)
theorem dJ6_indexOfSupplementary_39 : decode cJ6_indexOfSupplementary 39 = .ok (.invokestatic 71, 3) := dk_184 0 71 (dk_at dksJ6_indexOfSupplementary_1 17 rfl rfl)
theorem dJ6_indexOfSupplementary_42 : decode cJ6_indexOfSupplementary 42 = .ok (.iload 4, 2) := dk_21 4 (dk_at dksJ6_indexOfSupplementary_1 20 rfl rfl)
theorem dJ6_indexOfSupplementary_44 : decode cJ6_indexOfSupplementary 44 = .ok (.if_icmp .ne 19, 3) := dk_160 0 19 (dk_at dksJ6_indexOfSupplementary_2 0 rfl rfl)
theorem dJ6_indexOfSupplementary_47 : decode cJ6_indexOfSupplementary 47 = .ok (.aload_n 0, 1) := dk_42 (dk_at dksJ6_indexOfSupplementary_2 3 rfl rfl)
theorem dJ6_indexOfSupplementary_48 : decode cJ6_indexOfSupplementary 48 = .ok (.iload 6, 2) := dk_21 6 (dk_at dksJ6_indexOfSupplementary_2 4 rfl rfl)
theorem dJ6_indexOfSupplementary_50 : decode cJ6_indexOfSupplementary 50 = .ok (.iconst 1, 1) := dk_4 (dk_at dksJ6_indexOfSupplementary_2 6 rfl rfl)
theorem dJ6_indexOfSupplementary_51 : decode cJ6_indexOfSupplementary 51 = .ok (.iadd, 1) := dk_96 (dk_at dksJ6_indexOfSupplementary_2 7 rfl rfl)
theorem dJ6_indexOfSupplementary_52 : decode cJ6_indexOfSupplementary 52 = .ok (.invokestatic 71, 3) := dk_184 0 71 (dk_at dksJ6_indexOfSupplementary_2 8 rfl rfl)
theorem dJ6_indexOfSupplementary_55 : decode cJ6_indexOfSupplementary 55 = .ok (.iload 5, 2) := dk_21 5 (dk_at dksJ6_indexOfSupplementary_2 11 rfl rfl)
theorem dJ6_indexOfSupplementary_57 : decode cJ6_indexOfSupplementary 57 = .ok (.if_icmp .ne 6, 3) := dk_160 0 6 (dk_at dksJ6_indexOfSupplementary_2 13 rfl rfl)
theorem dJ6_indexOfSupplementary_60 : decode cJ6_indexOfSupplementary 60 = .ok (.iload 6, 2) := dk_21 6 (dk_at dksJ6_indexOfSupplementary_2 16 rfl rfl)
theorem dJ6_indexOfSupplementary_62 : decode cJ6_indexOfSupplementary 62 = .ok (.ireturn, 1) := dk_172 (dk_at dksJ6_indexOfSupplementary_2 18 rfl rfl)
theorem dJ6_indexOfSupplementary_63 : decode cJ6_indexOfSupplementary 63 = .ok (.iinc 6 1, 3) := dk_132 6 1 (dk_at dksJ6_indexOfSupplementary_2 19 rfl rfl)
theorem dJ6_indexOfSupplementary_66 : decode cJ6_indexOfSupplementary 66 = .ok (.goto (-38), 3) := dk_167 255 218 (dk_at dksJ6_indexOfSupplementary_3 0 rfl rfl)
theorem dJ6_indexOfSupplementary_69 : decode cJ6_indexOfSupplementary 69 = .ok (.iconst (-1), 1) := dk_2 (dk_at dksJ6_indexOfSupplementary_3 3 rfl rfl)
theorem dJ6_indexOfSupplementary_70 : decode cJ6_indexOfSupplementary 70 = .ok (.ireturn, 1) := dk_172 (dk_at dksJ6_indexOfSupplementary_3 4 rfl rfl)
theorem q91 : (Jvm.Cond.initialized "java/lang/StringUTF16") ∈ lw_all := lw_g (lw_at lw_m1 9 rfl) rfl
theorem q212 : (Jvm.Cond.static ({ cls := "java/lang/StringUTF16", name := "charAt", desc := "([BI)C" } : Jvm.MethodName)) ∈ lw_all := lw_g (lw_at lw_m1 130 rfl) rfl
theorem q213 : (Jvm.Cond.code ({ cls := "java/lang/StringUTF16", name := "charAt", desc := "([BI)C" } : Jvm.MethodName) prog_37_method_83_code (2 : Nat) (Option.some Jvm.ClassFile.FieldType.char)) ∈ lw_all := lw_g (lw_at lw_m1 131 rfl) rfl
theorem q214 : (Jvm.Cond.methodLink "java/lang/StringUTF16" (67 : Nat) ({ cls := "java/lang/StringUTF16", name := "checkIndex", desc := "(I[B)V" } : Jvm.MethodName)) ∈ lw_all := lw_g (lw_at lw_m1 132 rfl) rfl
theorem q215 : (Jvm.Cond.static ({ cls := "java/lang/StringUTF16", name := "checkIndex", desc := "(I[B)V" } : Jvm.MethodName)) ∈ lw_all := lw_g (lw_at lw_m1 133 rfl) rfl
theorem q216 : (Jvm.Cond.code ({ cls := "java/lang/StringUTF16", name := "checkIndex", desc := "(I[B)V" } : Jvm.MethodName) prog_37_method_91_code (2 : Nat) (Option.none : Option Jvm.ClassFile.FieldType)) ∈ lw_all := lw_g (lw_at lw_m1 134 rfl) rfl
theorem q217 : (Jvm.Cond.methodLink "java/lang/StringUTF16" (48 : Nat) ({ cls := "java/lang/StringUTF16", name := "length", desc := "([B)I" } : Jvm.MethodName)) ∈ lw_all := lw_g (lw_at lw_m1 135 rfl) rfl
theorem q218 : (Jvm.Cond.static ({ cls := "java/lang/StringUTF16", name := "length", desc := "([B)I" } : Jvm.MethodName)) ∈ lw_all := lw_g (lw_at lw_m1 136 rfl) rfl
theorem q219 : (Jvm.Cond.code ({ cls := "java/lang/StringUTF16", name := "length", desc := "([B)I" } : Jvm.MethodName) prog_37_method_6_code (1 : Nat) (Option.some Jvm.ClassFile.FieldType.int)) ∈ lw_all := lw_g (lw_at lw_m1 137 rfl) rfl
theorem q220 : (Jvm.Cond.methodLink "java/lang/StringUTF16" (414 : Nat) ({ cls := "java/lang/String", name := "checkIndex", desc := "(II)V" } : Jvm.MethodName)) ∈ lw_all := lw_g (lw_at lw_m1 138 rfl) rfl
theorem q221 : (Jvm.Cond.methodLink "java/lang/StringUTF16" (71 : Nat) ({ cls := "java/lang/StringUTF16", name := "getChar", desc := "([BI)C" } : Jvm.MethodName)) ∈ lw_all := lw_g (lw_at lw_m1 139 rfl) rfl
theorem q222 : (Jvm.Cond.static ({ cls := "java/lang/StringUTF16", name := "getChar", desc := "([BI)C" } : Jvm.MethodName)) ∈ lw_all := lw_g (lw_at lw_m1 140 rfl) rfl
theorem q223 : (Jvm.Cond.code ({ cls := "java/lang/StringUTF16", name := "getChar", desc := "([BI)C" } : Jvm.MethodName) prog_37_method_5_code (2 : Nat) (Option.some Jvm.ClassFile.FieldType.char)) ∈ lw_all := lw_g (lw_at lw_m1 141 rfl) rfl
theorem q224 : (Jvm.Cond.fieldLink "java/lang/StringUTF16" (44 : Nat) "java/lang/StringUTF16" "$assertionsDisabled" "Z") ∈ lw_all := lw_g (lw_at lw_m1 142 rfl) rfl
theorem q225 : (Jvm.Cond.laysStatic "java/lang/StringUTF16" "$assertionsDisabled" "Z") ∈ lw_tbl := lw_at lw_m1 143 rfl
theorem q226 : (Jvm.Cond.fieldLink "java/lang/StringUTF16" (59 : Nat) "java/lang/StringUTF16" "HI_BYTE_SHIFT" "I") ∈ lw_all := lw_g (lw_at lw_m1 144 rfl) rfl
theorem q227 : (Jvm.Cond.laysStatic "java/lang/StringUTF16" "HI_BYTE_SHIFT" "I") ∈ lw_tbl := lw_at lw_m1 145 rfl
theorem q228 : (Jvm.Cond.fieldLink "java/lang/StringUTF16" (63 : Nat) "java/lang/StringUTF16" "LO_BYTE_SHIFT" "I") ∈ lw_all := lw_g (lw_at lw_m1 146 rfl) rfl
theorem q229 : (Jvm.Cond.laysStatic "java/lang/StringUTF16" "LO_BYTE_SHIFT" "I") ∈ lw_tbl := lw_at lw_m1 147 rfl
theorem q293 : (Jvm.Cond.static ({ cls := "java/lang/StringUTF16", name := "newBytesFor", desc := "(I)[B" } : Jvm.MethodName)) ∈ lw_all := lw_g (lw_at lw_m1 211 rfl) rfl
theorem q294 : (Jvm.Cond.code ({ cls := "java/lang/StringUTF16", name := "newBytesFor", desc := "(I)[B" } : Jvm.MethodName) prog_37_method_2_code (1 : Nat) (Option.some (Jvm.ClassFile.FieldType.array Jvm.ClassFile.FieldType.byte))) ∈ lw_all := lw_g (lw_at lw_m1 212 rfl) rfl
theorem q295 : (Jvm.Cond.methodLink "java/lang/StringUTF16" (11 : Nat) ({ cls := "java/lang/StringUTF16", name := "newBytesLength", desc := "(I)I" } : Jvm.MethodName)) ∈ lw_all := lw_g (lw_at lw_m1 213 rfl) rfl
theorem q296 : (Jvm.Cond.static ({ cls := "java/lang/StringUTF16", name := "newBytesLength", desc := "(I)I" } : Jvm.MethodName)) ∈ lw_all := lw_g (lw_at lw_m1 214 rfl) rfl
theorem q297 : (Jvm.Cond.code ({ cls := "java/lang/StringUTF16", name := "newBytesLength", desc := "(I)I" } : Jvm.MethodName) prog_37_method_3_code (1 : Nat) (Option.some Jvm.ClassFile.FieldType.int)) ∈ lw_all := lw_g (lw_at lw_m1 215 rfl) rfl
theorem q298 : (Jvm.Cond.constant "java/lang/StringUTF16" (20 : Nat) (1073741823 : Int32)) ∈ lw_all := lw_g (lw_at lw_m1 216 rfl) rfl
theorem q377 : (Jvm.Cond.static ({ cls := "java/lang/StringUTF16", name := "inflate", desc := "([BI[BII)V" } : Jvm.MethodName)) ∈ lw_all := lw_g (lw_at lw_m2 55 rfl) rfl
theorem q378 : (Jvm.Cond.code ({ cls := "java/lang/StringUTF16", name := "inflate", desc := "([BI[BII)V" } : Jvm.MethodName) prog_37_method_86_code (6 : Nat) (Option.none : Option Jvm.ClassFile.FieldType)) ∈ lw_all := lw_g (lw_at lw_m2 56 rfl) rfl
theorem q379 : (Jvm.Cond.methodLink "java/lang/StringUTF16" (173 : Nat) ({ cls := "java/lang/StringUTF16", name := "checkBoundsOffCount", desc := "(II[B)V" } : Jvm.MethodName)) ∈ lw_all := lw_g (lw_at lw_m2 57 rfl) rfl
theorem q380 : (Jvm.Cond.static ({ cls := "java/lang/StringUTF16", name := "checkBoundsOffCount", desc := "(II[B)V" } : Jvm.MethodName)) ∈ lw_all := lw_g (lw_at lw_m2 58 rfl) rfl
theorem q381 : (Jvm.Cond.code ({ cls := "java/lang/StringUTF16", name := "checkBoundsOffCount", desc := "(II[B)V" } : Jvm.MethodName) prog_37_method_94_code (3 : Nat) (Option.none : Option Jvm.ClassFile.FieldType)) ∈ lw_all := lw_g (lw_at lw_m2 59 rfl) rfl
theorem q382 : (Jvm.Cond.methodLink "java/lang/StringUTF16" (419 : Nat) ({ cls := "java/lang/String", name := "checkBoundsOffCount", desc := "(III)I" } : Jvm.MethodName)) ∈ lw_all := lw_g (lw_at lw_m2 60 rfl) rfl
theorem q388 : (Jvm.Cond.methodLink "java/lang/StringUTF16" (111 : Nat) ({ cls := "java/lang/StringUTF16", name := "putChar", desc := "([BII)V" } : Jvm.MethodName)) ∈ lw_all := lw_g (lw_at lw_m2 66 rfl) rfl
theorem q389 : (Jvm.Cond.static ({ cls := "java/lang/StringUTF16", name := "putChar", desc := "([BII)V" } : Jvm.MethodName)) ∈ lw_all := lw_g (lw_at lw_m2 67 rfl) rfl
theorem q390 : (Jvm.Cond.code ({ cls := "java/lang/StringUTF16", name := "putChar", desc := "([BII)V" } : Jvm.MethodName) prog_37_method_4_code (3 : Nat) (Option.none : Option Jvm.ClassFile.FieldType)) ∈ lw_all := lw_g (lw_at lw_m2 68 rfl) rfl
theorem q392 : (Jvm.Cond.static ({ cls := "java/lang/StringUTF16", name := "putCharSB", desc := "([BII)V" } : Jvm.MethodName)) ∈ lw_all := lw_g (lw_at lw_m2 70 rfl) rfl
theorem q393 : (Jvm.Cond.code ({ cls := "java/lang/StringUTF16", name := "putCharSB", desc := "([BII)V" } : Jvm.MethodName) prog_37_method_71_code (3 : Nat) (Option.none : Option Jvm.ClassFile.FieldType)) ∈ lw_all := lw_g (lw_at lw_m2 71 rfl) rfl
theorem q424 : (Jvm.Cond.static ({ cls := "java/lang/StringUTF16", name := "compress", desc := "([BII)[B" } : Jvm.MethodName)) ∈ lw_all := lw_g (lw_at lw_m2 102 rfl) rfl
theorem q425 : (Jvm.Cond.code ({ cls := "java/lang/StringUTF16", name := "compress", desc := "([BII)[B" } : Jvm.MethodName) prog_37_method_17_code (6 : Nat) (Option.some (Jvm.ClassFile.FieldType.array Jvm.ClassFile.FieldType.byte))) ∈ lw_all := lw_g (lw_at lw_m2 103 rfl) rfl
theorem q426 : (Jvm.Cond.methodLink "java/lang/StringUTF16" (123 : Nat) ({ cls := "java/lang/StringUTF16", name := "compress", desc := "([BI[BII)I" } : Jvm.MethodName)) ∈ lw_all := lw_g (lw_at lw_m2 104 rfl) rfl
theorem q427 : (Jvm.Cond.static ({ cls := "java/lang/StringUTF16", name := "compress", desc := "([BI[BII)I" } : Jvm.MethodName)) ∈ lw_all := lw_g (lw_at lw_m2 105 rfl) rfl
theorem q428 : (Jvm.Cond.code ({ cls := "java/lang/StringUTF16", name := "compress", desc := "([BI[BII)I" } : Jvm.MethodName) prog_37_method_22_code (7 : Nat) (Option.some Jvm.ClassFile.FieldType.int)) ∈ lw_all := lw_g (lw_at lw_m2 106 rfl) rfl
theorem q429 : (Jvm.Cond.methodLink "java/lang/StringUTF16" (126 : Nat) ({ cls := "java/util/Arrays", name := "copyOfRange", desc := "([BII)[B" } : Jvm.MethodName)) ∈ lw_all := lw_g (lw_at lw_m2 107 rfl) rfl
theorem q431 : (Jvm.Cond.static ({ cls := "java/lang/StringUTF16", name := "coderFromArrayLen", desc := "([BI)B" } : Jvm.MethodName)) ∈ lw_all := lw_g (lw_at lw_m2 109 rfl) rfl
theorem q432 : (Jvm.Cond.code ({ cls := "java/lang/StringUTF16", name := "coderFromArrayLen", desc := "([BI)B" } : Jvm.MethodName) prog_37_method_15_code (2 : Nat) (Option.some Jvm.ClassFile.FieldType.byte)) ∈ lw_all := lw_g (lw_at lw_m2 110 rfl) rfl
theorem q541 : (Jvm.Cond.static ({ cls := "java/lang/StringUTF16", name := "indexOf", desc := "([BIII)I" } : Jvm.MethodName)) ∈ lw_all := lw_g (lw_at lw_m2 219 rfl) rfl
theorem q542 : (Jvm.Cond.code ({ cls := "java/lang/StringUTF16", name := "indexOf", desc := "([BIII)I" } : Jvm.MethodName) prog_37_method_40_code (4 : Nat) (Option.some Jvm.ClassFile.FieldType.int)) ∈ lw_all := lw_g (lw_at lw_m2 220 rfl) rfl
theorem q543 : (Jvm.Cond.methodLink "java/lang/StringUTF16" (224 : Nat) ({ cls := "java/lang/Math", name := "max", desc := "(II)I" } : Jvm.MethodName)) ∈ lw_all := lw_g (lw_at lw_m2 221 rfl) rfl
theorem q544 : (Jvm.Cond.methodLink "java/lang/StringUTF16" (183 : Nat) ({ cls := "java/lang/Math", name := "min", desc := "(II)I" } : Jvm.MethodName)) ∈ lw_all := lw_g (lw_at lw_m2 222 rfl) rfl
theorem q545 : (Jvm.Cond.constant "java/lang/StringUTF16" (227 : Nat) (65536 : Int32)) ∈ lw_all := lw_g (lw_at lw_m2 223 rfl) rfl
theorem q546 : (Jvm.Cond.methodLink "java/lang/StringUTF16" (228 : Nat) ({ cls := "java/lang/StringUTF16", name := "indexOfChar", desc := "([BIII)I" } : Jvm.MethodName)) ∈ lw_all := lw_g (lw_at lw_m2 224 rfl) rfl
theorem q547 : (Jvm.Cond.static ({ cls := "java/lang/StringUTF16", name := "indexOfChar", desc := "([BIII)I" } : Jvm.MethodName)) ∈ lw_all := lw_g (lw_at lw_m2 225 rfl) rfl
theorem q548 : (Jvm.Cond.code ({ cls := "java/lang/StringUTF16", name := "indexOfChar", desc := "([BIII)I" } : Jvm.MethodName) prog_37_method_47_code (4 : Nat) (Option.some Jvm.ClassFile.FieldType.int)) ∈ lw_all := lw_g (lw_at lw_m2 226 rfl) rfl
theorem q549 : (Jvm.Cond.methodLink "java/lang/StringUTF16" (96 : Nat) ({ cls := "java/lang/StringUTF16", name := "checkBoundsBeginEnd", desc := "(II[B)V" } : Jvm.MethodName)) ∈ lw_all := lw_g (lw_at lw_m2 227 rfl) rfl
theorem q550 : (Jvm.Cond.static ({ cls := "java/lang/StringUTF16", name := "checkBoundsBeginEnd", desc := "(II[B)V" } : Jvm.MethodName)) ∈ lw_all := lw_g (lw_at lw_m2 228 rfl) rfl
theorem q551 : (Jvm.Cond.code ({ cls := "java/lang/StringUTF16", name := "checkBoundsBeginEnd", desc := "(II[B)V" } : Jvm.MethodName) prog_37_method_93_code (3 : Nat) (Option.none : Option Jvm.ClassFile.FieldType)) ∈ lw_all := lw_g (lw_at lw_m2 229 rfl) rfl
theorem q552 : (Jvm.Cond.methodLink "java/lang/StringUTF16" (241 : Nat) ({ cls := "java/lang/String", name := "checkBoundsBeginEnd", desc := "(III)V" } : Jvm.MethodName)) ∈ lw_all := lw_g (lw_at lw_m2 230 rfl) rfl
theorem q558 : (Jvm.Cond.methodLink "java/lang/StringUTF16" (244 : Nat) ({ cls := "java/lang/StringUTF16", name := "indexOfCharUnsafe", desc := "([BIII)I" } : Jvm.MethodName)) ∈ lw_all := lw_g (lw_at lw_m2 236 rfl) rfl
theorem q559 : (Jvm.Cond.static ({ cls := "java/lang/StringUTF16", name := "indexOfCharUnsafe", desc := "([BIII)I" } : Jvm.MethodName)) ∈ lw_all := lw_g (lw_at lw_m2 237 rfl) rfl
theorem q560 : (Jvm.Cond.code ({ cls := "java/lang/StringUTF16", name := "indexOfCharUnsafe", desc := "([BIII)I" } : Jvm.MethodName) prog_37_method_48_code (5 : Nat) (Option.some Jvm.ClassFile.FieldType.int)) ∈ lw_all := lw_g (lw_at lw_m2 238 rfl) rfl
theorem q561 : (Jvm.Cond.methodLink "java/lang/StringUTF16" (232 : Nat) ({ cls := "java/lang/StringUTF16", name := "indexOfSupplementary", desc := "([BIII)I" } : Jvm.MethodName)) ∈ lw_all := lw_g (lw_at lw_m2 239 rfl) rfl
theorem q562 : (Jvm.Cond.static ({ cls := "java/lang/StringUTF16", name := "indexOfSupplementary", desc := "([BIII)I" } : Jvm.MethodName)) ∈ lw_all := lw_g (lw_at lw_m3 0 rfl) rfl
theorem q563 : (Jvm.Cond.code ({ cls := "java/lang/StringUTF16", name := "indexOfSupplementary", desc := "([BIII)I" } : Jvm.MethodName) prog_37_method_49_code (7 : Nat) (Option.some Jvm.ClassFile.FieldType.int)) ∈ lw_all := lw_g (lw_at lw_m3 1 rfl) rfl
theorem q564 : (Jvm.Cond.methodLink "java/lang/StringUTF16" (164 : Nat) ({ cls := "java/lang/Character", name := "isValidCodePoint", desc := "(I)Z" } : Jvm.MethodName)) ∈ lw_all := lw_g (lw_at lw_m3 2 rfl) rfl
theorem q567 : (Jvm.Cond.methodLink "java/lang/StringUTF16" (157 : Nat) ({ cls := "java/lang/Character", name := "highSurrogate", desc := "(I)C" } : Jvm.MethodName)) ∈ lw_all := lw_g (lw_at lw_m3 5 rfl) rfl
theorem q571 : (Jvm.Cond.methodLink "java/lang/StringUTF16" (161 : Nat) ({ cls := "java/lang/Character", name := "lowSurrogate", desc := "(I)C" } : Jvm.MethodName)) ∈ lw_all := lw_g (lw_at lw_m3 9 rfl) rfl

/-! java/lang/AbstractStringBuilder -/
set_option maxRecDepth 100000
def RJ7 : String := "java/lang/AbstractStringBuilder"
abbrev cJ7_init : ByteArray := prog_21_method_2_code
def yJ7_init : MethodName := ⟨RJ7, "<init>", "(I)V"⟩
def dkwJ7_init_1 : List UInt8 := [167, 0, 16, 42, 27, 184, 0, 26, 181, 0, 15, 42, 4, 181, 0, 22, 177]
abbrev dktJ7_init_1 : List UInt8 := dkwJ7_init_1 ++ []
def dkwJ7_init_0 : List UInt8 := [42, 183, 0, 3, 178, 0, 18, 153, 0, 18, 42, 27, 188, 8, 181, 0, 15, 42, 3, 181, 0, 22]
abbrev dktJ7_init_0 : List UInt8 := dkwJ7_init_0 ++ dktJ7_init_1
theorem dksJ7_init_0 : cJ7_init.data.toList.drop 0 = dktJ7_init_0 := by decide +kernel
theorem dksJ7_init_1 : cJ7_init.data.toList.drop 22 = dktJ7_init_1 := dk_seg dksJ7_init_0 22 rfl rfl
theorem dJ7_init_0 : decode cJ7_init 0 = .ok (.aload_n 0, 1) := dk_42 (dk_at dksJ7_init_0 0 rfl rfl)
theorem dJ7_init_1 : decode cJ7_init 1 = .ok (.invokespecial 3, 3) := dk_183 0 3 (dk_at dksJ7_init_0 1 rfl rfl)
theorem dJ7_init_4 : decode cJ7_init 4 = .ok (.getstatic 18, 3) := dk_178 0 18 (dk_at dksJ7_init_0 4 rfl rfl)
theorem dJ7_init_7 : decode cJ7_init 7 = .ok (.ifCond .eq 18, 3) := dk_153 0 18 (dk_at dksJ7_init_0 7 rfl rfl)
theorem dJ7_init_10 : decode cJ7_init 10 = .ok (.aload_n 0, 1) := dk_42 (dk_at dksJ7_init_0 10 rfl rfl)
theorem dJ7_init_11 : decode cJ7_init 11 = .ok (.iload_n 1, 1) := dk_27 (dk_at dksJ7_init_0 11 rfl rfl)
theorem dJ7_init_12 : decode cJ7_init 12 = .ok (.newarray .byte, 2) := dk_188_8 (dk_at dksJ7_init_0 12 rfl rfl)
theorem dJ7_init_14 : decode cJ7_init 14 = .ok (.putfield 15, 3) := dk_181 0 15 (dk_at dksJ7_init_0 14 rfl rfl)
theorem dJ7_init_17 : decode cJ7_init 17 = .ok (.aload_n 0, 1) := dk_42 (dk_at dksJ7_init_0 17 rfl rfl)
theorem dJ7_init_18 : decode cJ7_init 18 = .ok (.iconst 0, 1) := dk_3 (dk_at dksJ7_init_0 18 rfl rfl)
theorem dJ7_init_19 : decode cJ7_init 19 = .ok (.putfield 22, 3) := dk_181 0 22 (dk_at dksJ7_init_0 19 rfl rfl)
theorem dJ7_init_22 : decode cJ7_init 22 = .ok (.goto 16, 3) := dk_167 0 16 (dk_at dksJ7_init_1 0 rfl rfl)
theorem dJ7_init_25 : decode cJ7_init 25 = .ok (.aload_n 0, 1) := dk_42 (dk_at dksJ7_init_1 3 rfl rfl)
theorem dJ7_init_26 : decode cJ7_init 26 = .ok (.iload_n 1, 1) := dk_27 (dk_at dksJ7_init_1 4 rfl rfl)
theorem dJ7_init_27 : decode cJ7_init 27 = .ok (.invokestatic 26, 3) := dk_184 0 26 (dk_at dksJ7_init_1 5 rfl rfl)
theorem dJ7_init_30 : decode cJ7_init 30 = .ok (.putfield 15, 3) := dk_181 0 15 (dk_at dksJ7_init_1 8 rfl rfl)
theorem dJ7_init_33 : decode cJ7_init 33 = .ok (.aload_n 0, 1) := dk_42 (dk_at dksJ7_init_1 11 rfl rfl)
theorem dJ7_init_34 : decode cJ7_init 34 = .ok (.iconst 1, 1) := dk_4 (dk_at dksJ7_init_1 12 rfl rfl)
theorem dJ7_init_35 : decode cJ7_init 35 = .ok (.putfield 22, 3) := dk_181 0 22 (dk_at dksJ7_init_1 13 rfl rfl)
theorem dJ7_init_38 : decode cJ7_init 38 = .ok (.return_, 1) := dk_177 (dk_at dksJ7_init_1 16 rfl rfl)
abbrev cJ7_length : ByteArray := prog_21_method_6_code
def yJ7_length : MethodName := ⟨RJ7, "length", "()I"⟩
theorem dJ7_length_0 : decode cJ7_length 0 = .ok (.aload_n 0, 1) := by decide +kernel
theorem dJ7_length_1 : decode cJ7_length 1 = .ok (.getfield 79, 3) := by decide +kernel
theorem dJ7_length_4 : decode cJ7_length 4 = .ok (.ireturn, 1) := by decide +kernel
abbrev cJ7_append : ByteArray := prog_21_method_31_code
def yJ7_append : MethodName := ⟨RJ7, "append", "(C)Ljava/lang/AbstractStringBuilder;"⟩
def dkwJ7_append_3 : List UInt8 := [181, 0, 79, 27, 184, 0, 197, 42, 176]
abbrev dktJ7_append_3 : List UInt8 := dkwJ7_append_3 ++ []
def dkwJ7_append_2 : List UInt8 := [182, 0, 83, 153, 0, 7, 42, 182, 0, 195, 42, 180, 0, 15, 42, 89, 180, 0, 79, 90, 4, 96]
abbrev dktJ7_append_2 : List UInt8 := dkwJ7_append_2 ++ dktJ7_append_3
def dkwJ7_append_1 : List UInt8 := [42, 180, 0, 15, 42, 89, 180, 0, 79, 90, 4, 96, 181, 0, 79, 27, 145, 84, 167, 0, 33, 42]
abbrev dktJ7_append_1 : List UInt8 := dkwJ7_append_1 ++ dktJ7_append_2
def dkwJ7_append_0 : List UInt8 := [42, 42, 180, 0, 79, 4, 96, 182, 0, 100, 42, 182, 0, 83, 153, 0, 31, 27, 184, 0, 191, 153, 0, 24]
abbrev dktJ7_append_0 : List UInt8 := dkwJ7_append_0 ++ dktJ7_append_1
theorem dksJ7_append_0 : cJ7_append.data.toList.drop 0 = dktJ7_append_0 := by decide +kernel
theorem dksJ7_append_1 : cJ7_append.data.toList.drop 24 = dktJ7_append_1 := dk_seg dksJ7_append_0 24 rfl rfl
theorem dksJ7_append_2 : cJ7_append.data.toList.drop 46 = dktJ7_append_2 := dk_seg dksJ7_append_1 22 rfl rfl
theorem dksJ7_append_3 : cJ7_append.data.toList.drop 68 = dktJ7_append_3 := dk_seg dksJ7_append_2 22 rfl rfl
theorem dJ7_append_0 : decode cJ7_append 0 = .ok (.aload_n 0, 1) := dk_42 (dk_at dksJ7_append_0 0 rfl rfl)
theorem dJ7_append_1 : decode cJ7_append 1 = .ok (.aload_n 0, 1) := dk_42 (dk_at dksJ7_append_0 1 rfl rfl)
theorem dJ7_append_2 : decode cJ7_append 2 = .ok (.getfield 79, 3) := dk_180 0 79 (dk_at dksJ7_append_0 2 rfl rfl)
theorem dJ7_append_5 : decode cJ7_append 5 = .ok (.iconst 1, 1) := dk_4 (dk_at dksJ7_append_0 5 rfl rfl)
theorem dJ7_append_6 : decode cJ7_append 6 = .ok (.iadd, 1) := dk_96 (dk_at dksJ7_append_0 6 rfl rfl)
theorem dJ7_append_7 : decode cJ7_append 7 = .ok (.invokevirtual 100, 3) := dk_182 0 100 (dk_at dksJ7_append_0 7 rfl rfl)
theorem dJ7_append_10 : decode cJ7_append 10 = .ok (.aload_n 0, 1) := dk_42 (dk_at dksJ7_append_0 10 rfl rfl)
theorem dJ7_append_11 : decode cJ7_append 11 = .ok (.invokevirtual 83, 3) := dk_182 0 83 (dk_at dksJ7_append_0 11 rfl rfl)
theorem dJ7_append_14 : decode cJ7_append 14 = .ok (.ifCond .eq 31, 3) := dk_153 0 31 (dk_at dksJ7_append_0 14 rfl rfl)
theorem dJ7_append_17 : decode cJ7_append 17 = .ok (.iload_n 1, 1) := dk_27 (dk_at dksJ7_append_0 17 rfl rfl)
theorem dJ7_append_18 : decode cJ7_append 18 = .ok (.invokestatic 191, 3) := dk_184 0 191 (dk_at dksJ7_append_0 18 rfl rfl)
theorem dJ7_append_21 : decode cJ7_append 21 = .ok (.ifCond .eq 24, 3) := dk_153 0 24 (dk_at dksJ7_append_0 21 rfl rfl)
theorem dJ7_append_24 : decode cJ7_append 24 = .ok (.aload_n 0, 1) := dk_42 (dk_at dksJ7_append_1 0 rfl rfl)
theorem dJ7_append_25 : decode cJ7_append 25 = .ok (.getfield 15, 3) := dk_180 0 15 (dk_at dksJ7_append_1 1 rfl rfl)
theorem dJ7_append_28 : decode cJ7_append 28 = .ok (.aload_n 0, 1) := dk_42 (dk_at dksJ7_append_1 4 rfl rfl)
theorem dJ7_append_29 : decode cJ7_append 29 = .ok (.dup, 1) := dk_89 (dk_at dksJ7_append_1 5 rfl rfl)
theorem dJ7_append_30 : decode cJ7_append 30 = .ok (.getfield 79, 3) := dk_180 0 79 (dk_at dksJ7_append_1 6 rfl rfl)
theorem dJ7_append_33 : decode cJ7_append 33 = .ok (.dup_x1, 1) := dk_90 (dk_at dksJ7_append_1 9 rfl rfl)
theorem dJ7_append_34 : decode cJ7_append 34 = .ok (.iconst 1, 1) := dk_4 (dk_at dksJ7_append_1 10 rfl rfl)
theorem dJ7_append_35 : decode cJ7_append 35 = .ok (.iadd, 1) := dk_96 (dk_at dksJ7_append_1 11 rfl rfl)
theorem dJ7_append_36 : decode cJ7_append 36 = .ok (.putfield 79, 3) := dk_181 0 79 (dk_at dksJ7_append_1 12 rfl rfl)
theorem dJ7_append_39 : decode cJ7_append 39 = .ok (.iload_n 1, 1) := dk_27 (dk_at dksJ7_append_1 15 rfl rfl)
theorem dJ7_append_40 : decode cJ7_append 40 = .ok (.i2b, 1) := dk_145 (dk_at dksJ7_append_1 16 rfl rfl)
theorem dJ7_append_41 : decode cJ7_append 41 = .ok (.bastore, 1) := dk_84 (dk_at dksJ7_append_1 17 rfl rfl)
theorem dJ7_append_42 : decode cJ7_append 42 = .ok (.goto 33, 3) := dk_167 0 33 (dk_at dksJ7_append_1 18 rfl rfl)
theorem dJ7_append_45 : decode cJ7_append 45 = .ok (.aload_n 0, 1) := dk_42 (dk_at dksJ7_append_1 21 rfl rfl)
theorem dJ7_append_46 : decode cJ7_append 46 = .ok (.invokevirtual 83, 3) := dk_182 0 83 (dk_at dksJ7_append_2 0 rfl rfl)
theorem dJ7_append_49 : decode cJ7_append 49 = .ok (.ifCond .eq 7, 3) := dk_153 0 7 (dk_at dksJ7_append_2 3 rfl rfl)
theorem dJ7_append_52 : decode cJ7_append 52 = .ok (.aload_n 0, 1) := dk_42 (dk_at dksJ7_append_2 6 rfl rfl)
theorem dJ7_append_53 : decode cJ7_append 53 = .ok (.invokevirtual 195, 3) := dk_182 0 195 (dk_at dksJ7_append_2 7 rfl rfl)
theorem dJ7_append_56 : decode cJ7_append 56 = .ok (.aload_n 0, 1) := dk_42 (dk_at dksJ7_append_2 10 rfl rfl)
theorem dJ7_append_57 : decode cJ7_append 57 = .ok (.getfield 15, 3) := dk_180 0 15 (dk_at dksJ7_append_2 11 rfl rfl)
theorem dJ7_append_60 : decode cJ7_append 60 = .ok (.aload_n 0, 1) := dk_42 (dk_at dksJ7_append_2 14 rfl rfl)
theorem dJ7_append_61 : decode cJ7_append 61 = .ok (.dup, 1) := dk_89 (dk_at dksJ7_append_2 15 rfl rfl)
theorem dJ7_append_62 : decode cJ7_append 62 = .ok (.getfield 79, 3) := dk_180 0 79 (dk_at dksJ7_append_2 16 rfl rfl)
theorem dJ7_append_65 : decode cJ7_append 65 = .ok (.dup_x1, 1) := dk_90 (dk_at dksJ7_append_2 19 rfl rfl)
theorem dJ7_append_66 : decode cJ7_append 66 = .ok (.iconst 1, 1) := dk_4 (dk_at dksJ7_append_2 20 rfl rfl)
theorem dJ7_append_67 : decode cJ7_append 67 = .ok (.iadd, 1) := dk_96 (dk_at dksJ7_append_2 21 rfl rfl)
theorem dJ7_append_68 : decode cJ7_append 68 = .ok (.putfield 79, 3) := dk_181 0 79 (dk_at dksJ7_append_3 0 rfl rfl)
theorem dJ7_append_71 : decode cJ7_append 71 = .ok (.iload_n 1, 1) := dk_27 (dk_at dksJ7_append_3 3 rfl rfl)
theorem dJ7_append_72 : decode cJ7_append 72 = .ok (.invokestatic 197, 3) := dk_184 0 197 (dk_at dksJ7_append_3 4 rfl rfl)
theorem dJ7_append_75 : decode cJ7_append 75 = .ok (.aload_n 0, 1) := dk_42 (dk_at dksJ7_append_3 7 rfl rfl)
theorem dJ7_append_76 : decode cJ7_append 76 = .ok (.areturn, 1) := dk_176 (dk_at dksJ7_append_3 8 rfl rfl)
abbrev cJ7_ensureCapacityInternal : ByteArray := prog_21_method_9_code
def yJ7_ensureCapacityInternal : MethodName := ⟨RJ7, "ensureCapacityInternal", "(I)V"⟩
def dkwJ7_ensureCapacityInternal_1 : List UInt8 := [182, 0, 104, 42, 180, 0, 22, 120, 184, 0, 108, 181, 0, 15, 177]
abbrev dktJ7_ensureCapacityInternal_1 : List UInt8 := dkwJ7_ensureCapacityInternal_1 ++ []
def dkwJ7_ensureCapacityInternal_0 : List UInt8 := [42, 180, 0, 15, 190, 42, 180, 0, 22, 122, 61, 27, 28, 100, 158, 0, 24, 42, 42, 180, 0, 15, 42, 27]
abbrev dktJ7_ensureCapacityInternal_0 : List UInt8 := dkwJ7_ensureCapacityInternal_0 ++ dktJ7_ensureCapacityInternal_1
theorem dksJ7_ensureCapacityInternal_0 : cJ7_ensureCapacityInternal.data.toList.drop 0 = dktJ7_ensureCapacityInternal_0 := by decide +kernel
theorem dksJ7_ensureCapacityInternal_1 : cJ7_ensureCapacityInternal.data.toList.drop 24 = dktJ7_ensureCapacityInternal_1 := dk_seg dksJ7_ensureCapacityInternal_0 24 rfl rfl
theorem dJ7_ensureCapacityInternal_0 : decode cJ7_ensureCapacityInternal 0 = .ok (.aload_n 0, 1) := dk_42 (dk_at dksJ7_ensureCapacityInternal_0 0 rfl rfl)
theorem dJ7_ensureCapacityInternal_1 : decode cJ7_ensureCapacityInternal 1 = .ok (.getfield 15, 3) := dk_180 0 15 (dk_at dksJ7_ensureCapacityInternal_0 1 rfl rfl)
theorem dJ7_ensureCapacityInternal_4 : decode cJ7_ensureCapacityInternal 4 = .ok (.arraylength, 1) := dk_190 (dk_at dksJ7_ensureCapacityInternal_0 4 rfl rfl)
theorem dJ7_ensureCapacityInternal_5 : decode cJ7_ensureCapacityInternal 5 = .ok (.aload_n 0, 1) := dk_42 (dk_at dksJ7_ensureCapacityInternal_0 5 rfl rfl)
theorem dJ7_ensureCapacityInternal_6 : decode cJ7_ensureCapacityInternal 6 = .ok (.getfield 22, 3) := dk_180 0 22 (dk_at dksJ7_ensureCapacityInternal_0 6 rfl rfl)
theorem dJ7_ensureCapacityInternal_9 : decode cJ7_ensureCapacityInternal 9 = .ok (.ishr, 1) := dk_122 (dk_at dksJ7_ensureCapacityInternal_0 9 rfl rfl)
theorem dJ7_ensureCapacityInternal_10 : decode cJ7_ensureCapacityInternal 10 = .ok (.istore_n 2, 1) := dk_61 (dk_at dksJ7_ensureCapacityInternal_0 10 rfl rfl)
theorem dJ7_ensureCapacityInternal_11 : decode cJ7_ensureCapacityInternal 11 = .ok (.iload_n 1, 1) := dk_27 (dk_at dksJ7_ensureCapacityInternal_0 11 rfl rfl)
theorem dJ7_ensureCapacityInternal_12 : decode cJ7_ensureCapacityInternal 12 = .ok (.iload_n 2, 1) := dk_28 (dk_at dksJ7_ensureCapacityInternal_0 12 rfl rfl)
theorem dJ7_ensureCapacityInternal_13 : decode cJ7_ensureCapacityInternal 13 = .ok (.isub, 1) := dk_100 (dk_at dksJ7_ensureCapacityInternal_0 13 rfl rfl)
theorem dJ7_ensureCapacityInternal_14 : decode cJ7_ensureCapacityInternal 14 = .ok (.ifCond .le 24, 3) := dk_158 0 24 (dk_at dksJ7_ensureCapacityInternal_0 14 rfl rfl)
theorem dJ7_ensureCapacityInternal_17 : decode cJ7_ensureCapacityInternal 17 = .ok (.aload_n 0, 1) := dk_42 (dk_at dksJ7_ensureCapacityInternal_0 17 rfl rfl)
theorem dJ7_ensureCapacityInternal_18 : decode cJ7_ensureCapacityInternal 18 = .ok (.aload_n 0, 1) := dk_42 (dk_at dksJ7_ensureCapacityInternal_0 18 rfl rfl)
theorem dJ7_ensureCapacityInternal_19 : decode cJ7_ensureCapacityInternal 19 = .ok (.getfield 15, 3) := dk_180 0 15 (dk_at dksJ7_ensureCapacityInternal_0 19 rfl rfl)
theorem dJ7_ensureCapacityInternal_22 : decode cJ7_ensureCapacityInternal 22 = .ok (.aload_n 0, 1) := dk_42 (dk_at dksJ7_ensureCapacityInternal_0 22 rfl rfl)
theorem dJ7_ensureCapacityInternal_23 : decode cJ7_ensureCapacityInternal 23 = .ok (.iload_n 1, 1) := dk_27 (dk_at dksJ7_ensureCapacityInternal_0 23 rfl rfl)
theorem dJ7_ensureCapacityInternal_24 : decode cJ7_ensureCapacityInternal 24 = .ok (.invokevirtual 104, 3) := dk_182 0 104 (dk_at dksJ7_ensureCapacityInternal_1 0 rfl rfl)
theorem dJ7_ensureCapacityInternal_27 : decode cJ7_ensureCapacityInternal 27 = .ok (.aload_n 0, 1) := dk_42 (dk_at dksJ7_ensureCapacityInternal_1 3 rfl rfl)
theorem dJ7_ensureCapacityInternal_28 : decode cJ7_ensureCapacityInternal 28 = .ok (.getfield 22, 3) := dk_180 0 22 (dk_at dksJ7_ensureCapacityInternal_1 4 rfl rfl)
theorem dJ7_ensureCapacityInternal_31 : decode cJ7_ensureCapacityInternal 31 = .ok (.ishl, 1) := dk_120 (dk_at dksJ7_ensureCapacityInternal_1 7 rfl rfl)
theorem dJ7_ensureCapacityInternal_32 : decode cJ7_ensureCapacityInternal 32 = .ok (.invokestatic 108, 3) := dk_184 0 108 (dk_at dksJ7_ensureCapacityInternal_1 8 rfl rfl)
theorem dJ7_ensureCapacityInternal_35 : decode cJ7_ensureCapacityInternal 35 = .ok (.putfield 15, 3) := dk_181 0 15 (dk_at dksJ7_ensureCapacityInternal_1 11 rfl rfl)
theorem dJ7_ensureCapacityInternal_38 : decode cJ7_ensureCapacityInternal 38 = .ok (.return_, 1) := dk_177 (dk_at dksJ7_ensureCapacityInternal_1 14 rfl rfl)
abbrev cJ7_newCapacity : ByteArray := prog_21_method_10_code
def yJ7_newCapacity : MethodName := ⟨RJ7, "newCapacity", "(I)I"⟩
def dkwJ7_newCapacity_2 : List UInt8 := [183, 0, 124, 191, 21, 5, 42, 180, 0, 22, 122, 172]
abbrev dktJ7_newCapacity_2 : List UInt8 := dkwJ7_newCapacity_2 ++ []
def dkwJ7_newCapacity_1 : List UInt8 := [180, 0, 22, 120, 96, 184, 0, 114, 54, 5, 21, 5, 18, 39, 160, 0, 13, 187, 0, 120, 89, 18, 122]
abbrev dktJ7_newCapacity_1 : List UInt8 := dkwJ7_newCapacity_1 ++ dktJ7_newCapacity_2
def dkwJ7_newCapacity_0 : List UInt8 := [42, 180, 0, 15, 190, 61, 27, 42, 180, 0, 22, 120, 62, 29, 28, 100, 54, 4, 28, 21, 4, 28, 5, 42]
abbrev dktJ7_newCapacity_0 : List UInt8 := dkwJ7_newCapacity_0 ++ dktJ7_newCapacity_1
theorem dksJ7_newCapacity_0 : cJ7_newCapacity.data.toList.drop 0 = dktJ7_newCapacity_0 := by decide +kernel
theorem dksJ7_newCapacity_1 : cJ7_newCapacity.data.toList.drop 24 = dktJ7_newCapacity_1 := dk_seg dksJ7_newCapacity_0 24 rfl rfl
theorem dksJ7_newCapacity_2 : cJ7_newCapacity.data.toList.drop 47 = dktJ7_newCapacity_2 := dk_seg dksJ7_newCapacity_1 23 rfl rfl
theorem dJ7_newCapacity_0 : decode cJ7_newCapacity 0 = .ok (.aload_n 0, 1) := dk_42 (dk_at dksJ7_newCapacity_0 0 rfl rfl)
theorem dJ7_newCapacity_1 : decode cJ7_newCapacity 1 = .ok (.getfield 15, 3) := dk_180 0 15 (dk_at dksJ7_newCapacity_0 1 rfl rfl)
theorem dJ7_newCapacity_4 : decode cJ7_newCapacity 4 = .ok (.arraylength, 1) := dk_190 (dk_at dksJ7_newCapacity_0 4 rfl rfl)
theorem dJ7_newCapacity_5 : decode cJ7_newCapacity 5 = .ok (.istore_n 2, 1) := dk_61 (dk_at dksJ7_newCapacity_0 5 rfl rfl)
theorem dJ7_newCapacity_6 : decode cJ7_newCapacity 6 = .ok (.iload_n 1, 1) := dk_27 (dk_at dksJ7_newCapacity_0 6 rfl rfl)
theorem dJ7_newCapacity_7 : decode cJ7_newCapacity 7 = .ok (.aload_n 0, 1) := dk_42 (dk_at dksJ7_newCapacity_0 7 rfl rfl)
theorem dJ7_newCapacity_8 : decode cJ7_newCapacity 8 = .ok (.getfield 22, 3) := dk_180 0 22 (dk_at dksJ7_newCapacity_0 8 rfl rfl)
theorem dJ7_newCapacity_11 : decode cJ7_newCapacity 11 = .ok (.ishl, 1) := dk_120 (dk_at dksJ7_newCapacity_0 11 rfl rfl)
theorem dJ7_newCapacity_12 : decode cJ7_newCapacity 12 = .ok (.istore_n 3, 1) := dk_62 (dk_at dksJ7_newCapacity_0 12 rfl rfl)
theorem dJ7_newCapacity_13 : decode cJ7_newCapacity 13 = .ok (.iload_n 3, 1) := dk_29 (dk_at dksJ7_newCapacity_0 13 rfl rfl)
theorem dJ7_newCapacity_14 : decode cJ7_newCapacity 14 = .ok (.iload_n 2, 1) := dk_28 (dk_at dksJ7_newCapacity_0 14 rfl rfl)
theorem dJ7_newCapacity_15 : decode cJ7_newCapacity 15 = .ok (.isub, 1) := dk_100 (dk_at dksJ7_newCapacity_0 15 rfl rfl)
theorem dJ7_newCapacity_16 : decode cJ7_newCapacity 16 = .ok (.istore 4, 2) := dk_54 4 (dk_at dksJ7_newCapacity_0 16 rfl rfl)
theorem dJ7_newCapacity_18 : decode cJ7_newCapacity 18 = .ok (.iload_n 2, 1) := dk_28 (dk_at dksJ7_newCapacity_0 18 rfl rfl)
theorem dJ7_newCapacity_19 : decode cJ7_newCapacity 19 = .ok (.iload 4, 2) := dk_21 4 (dk_at dksJ7_newCapacity_0 19 rfl rfl)
theorem dJ7_newCapacity_21 : decode cJ7_newCapacity 21 = .ok (.iload_n 2, 1) := dk_28 (dk_at dksJ7_newCapacity_0 21 rfl rfl)
theorem dJ7_newCapacity_22 : decode cJ7_newCapacity 22 = .ok (.iconst 2, 1) := dk_5 (dk_at dksJ7_newCapacity_0 22 rfl rfl)
theorem dJ7_newCapacity_23 : decode cJ7_newCapacity 23 = .ok (.aload_n 0, 1) := dk_42 (dk_at dksJ7_newCapacity_0 23 rfl rfl)
theorem dJ7_newCapacity_24 : decode cJ7_newCapacity 24 = .ok (.getfield 22, 3) := dk_180 0 22 (dk_at dksJ7_newCapacity_1 0 rfl rfl)
theorem dJ7_newCapacity_27 : decode cJ7_newCapacity 27 = .ok (.ishl, 1) := dk_120 (dk_at dksJ7_newCapacity_1 3 rfl rfl)
theorem dJ7_newCapacity_28 : decode cJ7_newCapacity 28 = .ok (.iadd, 1) := dk_96 (dk_at dksJ7_newCapacity_1 4 rfl rfl)
theorem dJ7_newCapacity_29 : decode cJ7_newCapacity 29 = .ok (.invokestatic 114, 3) := dk_184 0 114 (dk_at dksJ7_newCapacity_1 5 rfl rfl)
theorem dJ7_newCapacity_32 : decode cJ7_newCapacity 32 = .ok (.istore 5, 2) := dk_54 5 (dk_at dksJ7_newCapacity_1 8 rfl rfl)
theorem dJ7_newCapacity_34 : decode cJ7_newCapacity 34 = .ok (.iload 5, 2) := dk_21 5 (dk_at dksJ7_newCapacity_1 10 rfl rfl)
theorem dJ7_newCapacity_36 : decode cJ7_newCapacity 36 = .ok (.ldc 39, 2) := dk_18 39 (dk_at dksJ7_newCapacity_1 12 rfl rfl)
theorem dJ7_newCapacity_38 : decode cJ7_newCapacity 38 = .ok (.if_icmp .ne 13, 3) := dk_160 0 13 (dk_at dksJ7_newCapacity_1 14 rfl rfl)
theorem dJ7_newCapacity_41 : decode cJ7_newCapacity 41 = .ok (.new 120, 3) := dk_187 0 120 (dk_at dksJ7_newCapacity_1 17 rfl rfl)
theorem dJ7_newCapacity_44 : decode cJ7_newCapacity 44 = .ok (.dup, 1) := dk_89 (dk_at dksJ7_newCapacity_1 20 rfl rfl)
theorem dJ7_newCapacity_45 : decode cJ7_newCapacity 45 = .ok (.ldc 122, 2) := dk_18 122 (dk_at dksJ7_newCapacity_1 21 rfl rfl)
theorem dJ7_newCapacity_47 : decode cJ7_newCapacity 47 = .ok (.invokespecial 124, 3) := dk_183 0 124 (dk_at dksJ7_newCapacity_2 0 rfl rfl)
theorem dJ7_newCapacity_50 : decode cJ7_newCapacity 50 = .ok (.athrow, 1) := dk_191 (dk_at dksJ7_newCapacity_2 3 rfl rfl)
theorem dJ7_newCapacity_51 : decode cJ7_newCapacity 51 = .ok (.iload 5, 2) := dk_21 5 (dk_at dksJ7_newCapacity_2 4 rfl rfl)
theorem dJ7_newCapacity_53 : decode cJ7_newCapacity 53 = .ok (.aload_n 0, 1) := dk_42 (dk_at dksJ7_newCapacity_2 6 rfl rfl)
theorem dJ7_newCapacity_54 : decode cJ7_newCapacity 54 = .ok (.getfield 22, 3) := dk_180 0 22 (dk_at dksJ7_newCapacity_2 7 rfl rfl)
theorem dJ7_newCapacity_57 : decode cJ7_newCapacity 57 = .ok (.ishr, 1) := dk_122 (dk_at dksJ7_newCapacity_2 10 rfl rfl)
theorem dJ7_newCapacity_58 : decode cJ7_newCapacity 58 = .ok (.ireturn, 1) := dk_172 (dk_at dksJ7_newCapacity_2 11 rfl rfl)
abbrev cJ7_isLatin1 : ByteArray := prog_21_method_68_code
def yJ7_isLatin1 : MethodName := ⟨RJ7, "isLatin1", "()Z"⟩
def dkwJ7_isLatin1_0 : List UInt8 := [178, 0, 18, 153, 0, 14, 42, 180, 0, 22, 154, 0, 7, 4, 167, 0, 4, 3, 172]
abbrev dktJ7_isLatin1_0 : List UInt8 := dkwJ7_isLatin1_0 ++ []
theorem dksJ7_isLatin1_0 : cJ7_isLatin1.data.toList.drop 0 = dktJ7_isLatin1_0 := by decide +kernel
theorem dJ7_isLatin1_0 : decode cJ7_isLatin1 0 = .ok (.getstatic 18, 3) := dk_178 0 18 (dk_at dksJ7_isLatin1_0 0 rfl rfl)
theorem dJ7_isLatin1_3 : decode cJ7_isLatin1 3 = .ok (.ifCond .eq 14, 3) := dk_153 0 14 (dk_at dksJ7_isLatin1_0 3 rfl rfl)
theorem dJ7_isLatin1_6 : decode cJ7_isLatin1 6 = .ok (.aload_n 0, 1) := dk_42 (dk_at dksJ7_isLatin1_0 6 rfl rfl)
theorem dJ7_isLatin1_7 : decode cJ7_isLatin1 7 = .ok (.getfield 22, 3) := dk_180 0 22 (dk_at dksJ7_isLatin1_0 7 rfl rfl)
theorem dJ7_isLatin1_10 : decode cJ7_isLatin1 10 = .ok (.ifCond .ne 7, 3) := dk_154 0 7 (dk_at dksJ7_isLatin1_0 10 rfl rfl)
theorem dJ7_isLatin1_13 : decode cJ7_isLatin1 13 = .ok (.iconst 1, 1) := dk_4 (dk_at dksJ7_isLatin1_0 13 rfl rfl)
theorem dJ7_isLatin1_14 : decode cJ7_isLatin1 14 = .ok (.goto 4, 3) := dk_167 0 4 (dk_at dksJ7_isLatin1_0 14 rfl rfl)
theorem dJ7_isLatin1_17 : decode cJ7_isLatin1 17 = .ok (.iconst 0, 1) := dk_3 (dk_at dksJ7_isLatin1_0 17 rfl rfl)
theorem dJ7_isLatin1_18 : decode cJ7_isLatin1 18 = .ok (.ireturn, 1) := dk_172 (dk_at dksJ7_isLatin1_0 18 rfl rfl)
abbrev cJ7_inflate : ByteArray := prog_21_method_11_code
def yJ7_inflate : MethodName := ⟨RJ7, "inflate", "()V"⟩
def dkwJ7_inflate_1 : List UInt8 := [42, 180, 0, 79, 184, 0, 125, 42, 43, 181, 0, 15, 42, 4, 181, 0, 22, 177]
abbrev dktJ7_inflate_1 : List UInt8 := dkwJ7_inflate_1 ++ []
def dkwJ7_inflate_0 : List UInt8 := [42, 182, 0, 83, 154, 0, 4, 177, 42, 180, 0, 15, 190, 184, 0, 26, 76, 42, 180, 0, 15, 3, 43, 3]
abbrev dktJ7_inflate_0 : List UInt8 := dkwJ7_inflate_0 ++ dktJ7_inflate_1
theorem dksJ7_inflate_0 : cJ7_inflate.data.toList.drop 0 = dktJ7_inflate_0 := by decide +kernel
theorem dksJ7_inflate_1 : cJ7_inflate.data.toList.drop 24 = dktJ7_inflate_1 := dk_seg dksJ7_inflate_0 24 rfl rfl
theorem dJ7_inflate_0 : decode cJ7_inflate 0 = .ok (.aload_n 0, 1) := dk_42 (dk_at dksJ7_inflate_0 0 rfl rfl)
theorem dJ7_inflate_1 : decode cJ7_inflate 1 = .ok (.invokevirtual 83, 3) := dk_182 0 83 (dk_at dksJ7_inflate_0 1 rfl rfl)
theorem dJ7_inflate_4 : decode cJ7_inflate 4 = .ok (.ifCond .ne 4, 3) := dk_154 0 4 (dk_at dksJ7_inflate_0 4 rfl rfl)
theorem dJ7_inflate_7 : decode cJ7_inflate 7 = .ok (.return_, 1) := dk_177 (dk_at dksJ7_inflate_0 7 rfl rfl)
theorem dJ7_inflate_8 : decode cJ7_inflate 8 = .ok (.aload_n 0, 1) := dk_42 (dk_at dksJ7_inflate_0 8 rfl rfl)
theorem dJ7_inflate_9 : decode cJ7_inflate 9 = .ok (.getfield 15, 3) := dk_180 0 15 (dk_at dksJ7_inflate_0 9 rfl rfl)
theorem dJ7_inflate_12 : decode cJ7_inflate 12 = .ok (.arraylength, 1) := dk_190 (dk_at dksJ7_inflate_0 12 rfl rfl)
theorem dJ7_inflate_13 : decode cJ7_inflate 13 = .ok (.invokestatic 26, 3) := dk_184 0 26 (dk_at dksJ7_inflate_0 13 rfl rfl)
theorem dJ7_inflate_16 : decode cJ7_inflate 16 = .ok (.astore_n 1, 1) := dk_76 (dk_at dksJ7_inflate_0 16 rfl rfl)
theorem dJ7_inflate_17 : decode cJ7_inflate 17 = .ok (.aload_n 0, 1) := dk_42 (dk_at dksJ7_inflate_0 17 rfl rfl)
theorem dJ7_inflate_18 : decode cJ7_inflate 18 = .ok (.getfield 15, 3) := dk_180 0 15 (dk_at dksJ7_inflate_0 18 rfl rfl)
theorem dJ7_inflate_21 : decode cJ7_inflate 21 = .ok (.iconst 0, 1) := dk_3 (dk_at dksJ7_inflate_0 21 rfl rfl)
theorem dJ7_inflate_22 : decode cJ7_inflate 22 = .ok (.aload_n 1, 1) := dk_43 (dk_at dksJ7_inflate_0 22 rfl rfl)
theorem dJ7_inflate_23 : decode cJ7_inflate 23 = .ok (.iconst 0, 1) := dk_3 (dk_at dksJ7_inflate_0 23 rfl rfl)
theorem dJ7_inflate_24 : decode cJ7_inflate 24 = .ok (.aload_n 0, 1) := dk_42 (dk_at dksJ7_inflate_1 0 rfl rfl)
theorem dJ7_inflate_25 : decode cJ7_inflate 25 = .ok (.getfield 79, 3) := dk_180 0 79 (dk_at dksJ7_inflate_1 1 rfl rfl)
theorem dJ7_inflate_28 : decode cJ7_inflate 28 = .ok (.invokestatic 125, 3) := dk_184 0 125 (dk_at dksJ7_inflate_1 4 rfl rfl)
theorem dJ7_inflate_31 : decode cJ7_inflate 31 = .ok (.aload_n 0, 1) := dk_42 (dk_at dksJ7_inflate_1 7 rfl rfl)
theorem dJ7_inflate_32 : decode cJ7_inflate 32 = .ok (.aload_n 1, 1) := dk_43 (dk_at dksJ7_inflate_1 8 rfl rfl)
theorem dJ7_inflate_33 : decode cJ7_inflate 33 = .ok (.putfield 15, 3) := dk_181 0 15 (dk_at dksJ7_inflate_1 9 rfl rfl)
theorem dJ7_inflate_36 : decode cJ7_inflate 36 = .ok (.aload_n 0, 1) := dk_42 (dk_at dksJ7_inflate_1 12 rfl rfl)
theorem dJ7_inflate_37 : decode cJ7_inflate 37 = .ok (.iconst 1, 1) := dk_4 (dk_at dksJ7_inflate_1 13 rfl rfl)
theorem dJ7_inflate_38 : decode cJ7_inflate 38 = .ok (.putfield 22, 3) := dk_181 0 22 (dk_at dksJ7_inflate_1 14 rfl rfl)
theorem dJ7_inflate_41 : decode cJ7_inflate 41 = .ok (.return_, 1) := dk_177 (dk_at dksJ7_inflate_1 17 rfl rfl)
abbrev cJ7_getValue : ByteArray := prog_21_method_64_code
def yJ7_getValue : MethodName := ⟨RJ7, "getValue", "()[B"⟩
theorem dJ7_getValue_0 : decode cJ7_getValue 0 = .ok (.aload_n 0, 1) := by decide +kernel
theorem dJ7_getValue_1 : decode cJ7_getValue 1 = .ok (.getfield 15, 3) := by decide +kernel
theorem dJ7_getValue_4 : decode cJ7_getValue 4 = .ok (.areturn, 1) := by decide +kernel
theorem q93 : (Jvm.Cond.initialized "java/lang/AbstractStringBuilder") ∈ lw_all := lw_g (lw_at lw_m1 11 rfl) rfl
theorem q288 : (Jvm.Cond.instanceMethod ({ cls := "java/lang/AbstractStringBuilder", name := "<init>", desc := "(I)V" } : Jvm.MethodName)) ∈ lw_all := lw_g (lw_at lw_m1 206 rfl) rfl
theorem q289 : (Jvm.Cond.code ({ cls := "java/lang/AbstractStringBuilder", name := "<init>", desc := "(I)V" } : Jvm.MethodName) prog_21_method_2_code (2 : Nat) (Option.none : Option Jvm.ClassFile.FieldType)) ∈ lw_all := lw_g (lw_at lw_m1 207 rfl) rfl
theorem q290 : (Jvm.Cond.methodLink "java/lang/AbstractStringBuilder" (3 : Nat) ({ cls := "java/lang/Object", name := "<init>", desc := "()V" } : Jvm.MethodName)) ∈ lw_all := lw_g (lw_at lw_m1 208 rfl) rfl
theorem q291 : (Jvm.Cond.fieldLink "java/lang/AbstractStringBuilder" (18 : Nat) "java/lang/String" "COMPACT_STRINGS" "Z") ∈ lw_all := lw_g (lw_at lw_m1 209 rfl) rfl
theorem q292 : (Jvm.Cond.methodLink "java/lang/AbstractStringBuilder" (26 : Nat) ({ cls := "java/lang/StringUTF16", name := "newBytesFor", desc := "(I)[B" } : Jvm.MethodName)) ∈ lw_all := lw_g (lw_at lw_m1 210 rfl) rfl
theorem q299 : (Jvm.Cond.fieldLink "java/lang/AbstractStringBuilder" (15 : Nat) "java/lang/AbstractStringBuilder" "value" "[B") ∈ lw_all := lw_g (lw_at lw_m1 217 rfl) rfl
theorem q300 : (Jvm.Cond.fieldLink "java/lang/AbstractStringBuilder" (22 : Nat) "java/lang/AbstractStringBuilder" "coder" "B") ∈ lw_all := lw_g (lw_at lw_m1 218 rfl) rfl
theorem q302 : (Jvm.Cond.fieldLink "java/lang/AbstractStringBuilder" (79 : Nat) "java/lang/AbstractStringBuilder" "count" "I") ∈ lw_all := lw_g (lw_at lw_m1 220 rfl) rfl
theorem q304 : (Jvm.Cond.soleField "java/lang/AbstractStringBuilder" "value") ∈ lw_all := lw_g (lw_at lw_m1 222 rfl) rfl
theorem q306 : (Jvm.Cond.soleField "java/lang/AbstractStringBuilder" "coder") ∈ lw_all := lw_g (lw_at lw_m1 224 rfl) rfl
theorem q308 : (Jvm.Cond.soleField "java/lang/AbstractStringBuilder" "maybeLatin1") ∈ lw_all := lw_g (lw_at lw_m1 226 rfl) rfl
theorem q310 : (Jvm.Cond.soleField "java/lang/AbstractStringBuilder" "count") ∈ lw_all := lw_g (lw_at lw_m1 228 rfl) rfl
theorem q317 : (Jvm.Cond.instanceMethod ({ cls := "java/lang/AbstractStringBuilder", name := "length", desc := "()I" } : Jvm.MethodName)) ∈ lw_all := lw_g (lw_at lw_m1 235 rfl) rfl
theorem q318 : (Jvm.Cond.code ({ cls := "java/lang/AbstractStringBuilder", name := "length", desc := "()I" } : Jvm.MethodName) prog_21_method_6_code (1 : Nat) (Option.some Jvm.ClassFile.FieldType.int)) ∈ lw_all := lw_g (lw_at lw_m1 236 rfl) rfl
theorem q324 : (Jvm.Cond.instanceMethod ({ cls := "java/lang/AbstractStringBuilder", name := "append", desc := "(C)Ljava/lang/AbstractStringBuilder;" } : Jvm.MethodName)) ∈ lw_all := lw_g (lw_at lw_m2 2 rfl) rfl
theorem q325 : (Jvm.Cond.code ({ cls := "java/lang/AbstractStringBuilder", name := "append", desc := "(C)Ljava/lang/AbstractStringBuilder;" } : Jvm.MethodName) prog_21_method_31_code (2 : Nat) (Option.some (Jvm.ClassFile.FieldType.object "java/lang/AbstractStringBuilder"))) ∈ lw_all := lw_g (lw_at lw_m2 3 rfl) rfl
theorem q326 : (Jvm.Cond.methodLink "java/lang/AbstractStringBuilder" (100 : Nat) ({ cls := "java/lang/AbstractStringBuilder", name := "ensureCapacityInternal", desc := "(I)V" } : Jvm.MethodName)) ∈ lw_all := lw_g (lw_at lw_m2 4 rfl) rfl
theorem q327 : (Jvm.Cond.privateMethod ({ cls := "java/lang/AbstractStringBuilder", name := "ensureCapacityInternal", desc := "(I)V" } : Jvm.MethodName)) ∈ lw_tbl := lw_at lw_m2 5 rfl
theorem q328 : (Jvm.Cond.instanceMethod ({ cls := "java/lang/AbstractStringBuilder", name := "ensureCapacityInternal", desc := "(I)V" } : Jvm.MethodName)) ∈ lw_all := lw_g (lw_at lw_m2 6 rfl) rfl
theorem q329 : (Jvm.Cond.code ({ cls := "java/lang/AbstractStringBuilder", name := "ensureCapacityInternal", desc := "(I)V" } : Jvm.MethodName) prog_21_method_9_code (3 : Nat) (Option.none : Option Jvm.ClassFile.FieldType)) ∈ lw_all := lw_g (lw_at lw_m2 7 rfl) rfl
theorem q330 : (Jvm.Cond.methodLink "java/lang/AbstractStringBuilder" (104 : Nat) ({ cls := "java/lang/AbstractStringBuilder", name := "newCapacity", desc := "(I)I" } : Jvm.MethodName)) ∈ lw_all := lw_g (lw_at lw_m2 8 rfl) rfl
theorem q331 : (Jvm.Cond.privateMethod ({ cls := "java/lang/AbstractStringBuilder", name := "newCapacity", desc := "(I)I" } : Jvm.MethodName)) ∈ lw_tbl := lw_at lw_m2 9 rfl
theorem q332 : (Jvm.Cond.instanceMethod ({ cls := "java/lang/AbstractStringBuilder", name := "newCapacity", desc := "(I)I" } : Jvm.MethodName)) ∈ lw_all := lw_g (lw_at lw_m2 10 rfl) rfl
theorem q333 : (Jvm.Cond.code ({ cls := "java/lang/AbstractStringBuilder", name := "newCapacity", desc := "(I)I" } : Jvm.MethodName) prog_21_method_10_code (6 : Nat) (Option.some Jvm.ClassFile.FieldType.int)) ∈ lw_all := lw_g (lw_at lw_m2 11 rfl) rfl
theorem q334 : (Jvm.Cond.methodLink "java/lang/AbstractStringBuilder" (114 : Nat) ({ cls := "jdk/internal/util/ArraysSupport", name := "newLength", desc := "(III)I" } : Jvm.MethodName)) ∈ lw_all := lw_g (lw_at lw_m2 12 rfl) rfl
theorem q344 : (Jvm.Cond.constant "java/lang/AbstractStringBuilder" (39 : Nat) (2147483647 : Int32)) ∈ lw_all := lw_g (lw_at lw_m2 22 rfl) rfl
theorem q345 : (Jvm.Cond.methodLink "java/lang/AbstractStringBuilder" (108 : Nat) ({ cls := "java/util/Arrays", name := "copyOf", desc := "([BI)[B" } : Jvm.MethodName)) ∈ lw_all := lw_g (lw_at lw_m2 23 rfl) rfl
theorem q361 : (Jvm.Cond.methodLink "java/lang/AbstractStringBuilder" (83 : Nat) ({ cls := "java/lang/AbstractStringBuilder", name := "isLatin1", desc := "()Z" } : Jvm.MethodName)) ∈ lw_all := lw_g (lw_at lw_m2 39 rfl) rfl
theorem q362 : (Jvm.Cond.instanceMethod ({ cls := "java/lang/AbstractStringBuilder", name := "isLatin1", desc := "()Z" } : Jvm.MethodName)) ∈ lw_all := lw_g (lw_at lw_m2 40 rfl) rfl
theorem q363 : (Jvm.Cond.sameMethod "java/lang/AbstractStringBuilder" "java/lang/AbstractStringBuilder" "isLatin1" "()Z") ∈ lw_all := lw_g (lw_at lw_m2 41 rfl) rfl
theorem q365 : (Jvm.Cond.code ({ cls := "java/lang/AbstractStringBuilder", name := "isLatin1", desc := "()Z" } : Jvm.MethodName) prog_21_method_68_code (1 : Nat) (Option.some Jvm.ClassFile.FieldType.boolean)) ∈ lw_all := lw_g (lw_at lw_m2 43 rfl) rfl
theorem q366 : (Jvm.Cond.methodLink "java/lang/AbstractStringBuilder" (191 : Nat) ({ cls := "java/lang/StringLatin1", name := "canEncode", desc := "(C)Z" } : Jvm.MethodName)) ∈ lw_all := lw_g (lw_at lw_m2 44 rfl) rfl
theorem q369 : (Jvm.Cond.methodLink "java/lang/AbstractStringBuilder" (195 : Nat) ({ cls := "java/lang/AbstractStringBuilder", name := "inflate", desc := "()V" } : Jvm.MethodName)) ∈ lw_all := lw_g (lw_at lw_m2 47 rfl) rfl
theorem q370 : (Jvm.Cond.privateMethod ({ cls := "java/lang/AbstractStringBuilder", name := "inflate", desc := "()V" } : Jvm.MethodName)) ∈ lw_tbl := lw_at lw_m2 48 rfl
theorem q371 : (Jvm.Cond.instanceMethod ({ cls := "java/lang/AbstractStringBuilder", name := "inflate", desc := "()V" } : Jvm.MethodName)) ∈ lw_all := lw_g (lw_at lw_m2 49 rfl) rfl
theorem q372 : (Jvm.Cond.code ({ cls := "java/lang/AbstractStringBuilder", name := "inflate", desc := "()V" } : Jvm.MethodName) prog_21_method_11_code (2 : Nat) (Option.none : Option Jvm.ClassFile.FieldType)) ∈ lw_all := lw_g (lw_at lw_m2 50 rfl) rfl
theorem q373 : (Jvm.Cond.methodLink "java/lang/AbstractStringBuilder" (125 : Nat) ({ cls := "java/lang/StringLatin1", name := "inflate", desc := "([BI[BII)V" } : Jvm.MethodName)) ∈ lw_all := lw_g (lw_at lw_m2 51 rfl) rfl
theorem q391 : (Jvm.Cond.methodLink "java/lang/AbstractStringBuilder" (197 : Nat) ({ cls := "java/lang/StringUTF16", name := "putCharSB", desc := "([BII)V" } : Jvm.MethodName)) ∈ lw_all := lw_g (lw_at lw_m2 69 rfl) rfl
theorem q408 : (Jvm.Cond.instanceMethod ({ cls := "java/lang/AbstractStringBuilder", name := "getValue", desc := "()[B" } : Jvm.MethodName)) ∈ lw_all := lw_g (lw_at lw_m2 86 rfl) rfl
theorem q409 : (Jvm.Cond.sameMethod "java/lang/AbstractStringBuilder" "java/lang/AbstractStringBuilder" "getValue" "()[B") ∈ lw_all := lw_g (lw_at lw_m2 87 rfl) rfl
theorem q411 : (Jvm.Cond.code ({ cls := "java/lang/AbstractStringBuilder", name := "getValue", desc := "()[B" } : Jvm.MethodName) prog_21_method_64_code (1 : Nat) (Option.some (Jvm.ClassFile.FieldType.array Jvm.ClassFile.FieldType.byte))) ∈ lw_all := lw_g (lw_at lw_m2 89 rfl) rfl
theorem q1936 : (Jvm.Cond.sameMethod "java/lang/AbstractStringBuilder" "java/lang/AbstractStringBuilder" "length" "()I") ∈ lw_all := lw_g (lw_at lw_m8 174 rfl) rfl
theorem q1937 : (Jvm.Cond.sameMethod "java/lang/AbstractStringBuilder" "java/lang/AbstractStringBuilder" "append" "(C)Ljava/lang/AbstractStringBuilder;") ∈ lw_all := lw_g (lw_at lw_m8 175 rfl) rfl
theorem q1938 : (Jvm.Cond.sameMethod "java/lang/AbstractStringBuilder" "java/lang/AbstractStringBuilder" "ensureCapacityInternal" "(I)V") ∈ lw_all := lw_g (lw_at lw_m8 176 rfl) rfl
theorem q1939 : (Jvm.Cond.sameMethod "java/lang/AbstractStringBuilder" "java/lang/AbstractStringBuilder" "newCapacity" "(I)I") ∈ lw_all := lw_g (lw_at lw_m8 177 rfl) rfl
theorem q1940 : (Jvm.Cond.sameMethod "java/lang/AbstractStringBuilder" "java/lang/AbstractStringBuilder" "inflate" "()V") ∈ lw_all := lw_g (lw_at lw_m8 178 rfl) rfl

/-! java/lang/StringBuilder -/
set_option maxRecDepth 100000
def RJ8 : String := "java/lang/StringBuilder"
def TJ8 : u_T := fun k => match k with
  | 0 => ("java/lang/AbstractStringBuilder", "value", "[B", false)
  | 1 => ("java/lang/AbstractStringBuilder", "coder", "B", false)
  | 2 => ("java/lang/AbstractStringBuilder", "maybeLatin1", "Z", false)
  | _ => ("java/lang/AbstractStringBuilder", "count", "I", false)
def tyJ8 : Nat → FieldType := fun k => match k with
  | 0 => .array .byte
  | 1 => .byte
  | 2 => .boolean
  | _ => .int
abbrev wsJ80 : List Cond := u_ws RJ8 TJ8 4
theorem nmJ8 : ∀ a, a < 4 → ∀ b, b < 4 → a ≠ b → (TJ8 a).2.1 ≠ (TJ8 b).2.1 := by decide +kernel
theorem tyJ8_ok : ∀ k, k < 4 → parseFieldDescriptor (TJ8 k).2.2.1 = some (tyJ8 k) := by decide +kernel
abbrev cJ8_init : ByteArray := prog_35_method_1_code
def yJ8_init : MethodName := ⟨RJ8, "<init>", "()V"⟩
def dkwJ8_init_0 : List UInt8 := [42, 16, 16, 183, 0, 1, 177]
abbrev dktJ8_init_0 : List UInt8 := dkwJ8_init_0 ++ []
theorem dksJ8_init_0 : cJ8_init.data.toList.drop 0 = dktJ8_init_0 := by decide +kernel
theorem dJ8_init_0 : decode cJ8_init 0 = .ok (.aload_n 0, 1) := dk_42 (dk_at dksJ8_init_0 0 rfl rfl)
theorem dJ8_init_1 : decode cJ8_init 1 = .ok (.bipush 16, 2) := dk_16 16 (dk_at dksJ8_init_0 1 rfl rfl)
theorem dJ8_init_3 : decode cJ8_init 3 = .ok (.invokespecial 1, 3) := dk_183 0 1 (dk_at dksJ8_init_0 3 rfl rfl)
theorem dJ8_init_6 : decode cJ8_init 6 = .ok (.return_, 1) := dk_177 (dk_at dksJ8_init_0 6 rfl rfl)
abbrev cJ8_length : ByteArray := prog_35_method_93_code
def yJ8_length : MethodName := ⟨RJ8, "length", "()I"⟩
theorem dJ8_length_0 : decode cJ8_length 0 = .ok (.aload_n 0, 1) := by decide +kernel
theorem dJ8_length_1 : decode cJ8_length 1 = .ok (.invokespecial 343, 3) := by decide +kernel
theorem dJ8_length_4 : decode cJ8_length 4 = .ok (.ireturn, 1) := by decide +kernel
abbrev cJ8_append : ByteArray := prog_35_method_14_code
def yJ8_append : MethodName := ⟨RJ8, "append", "(C)Ljava/lang/StringBuilder;"⟩
def dkwJ8_append_0 : List UInt8 := [42, 27, 183, 0, 50, 87, 42, 176]
abbrev dktJ8_append_0 : List UInt8 := dkwJ8_append_0 ++ []
theorem dksJ8_append_0 : cJ8_append.data.toList.drop 0 = dktJ8_append_0 := by decide +kernel
theorem dJ8_append_0 : decode cJ8_append 0 = .ok (.aload_n 0, 1) := dk_42 (dk_at dksJ8_append_0 0 rfl rfl)
theorem dJ8_append_1 : decode cJ8_append 1 = .ok (.iload_n 1, 1) := dk_27 (dk_at dksJ8_append_0 1 rfl rfl)
theorem dJ8_append_2 : decode cJ8_append 2 = .ok (.invokespecial 50, 3) := dk_183 0 50 (dk_at dksJ8_append_0 2 rfl rfl)
theorem dJ8_append_5 : decode cJ8_append 5 = .ok (.pop, 1) := dk_87 (dk_at dksJ8_append_0 5 rfl rfl)
theorem dJ8_append_6 : decode cJ8_append 6 = .ok (.aload_n 0, 1) := dk_42 (dk_at dksJ8_append_0 6 rfl rfl)
theorem dJ8_append_7 : decode cJ8_append 7 = .ok (.areturn, 1) := dk_176 (dk_at dksJ8_append_0 7 rfl rfl)
abbrev cJ8_toString : ByteArray := prog_35_method_42_code
def yJ8_toString : MethodName := ⟨RJ8, "toString", "()Ljava/lang/String;"⟩
def dkwJ8_toString_0 : List UInt8 := [187, 0, 18, 89, 42, 183, 0, 137, 176]
abbrev dktJ8_toString_0 : List UInt8 := dkwJ8_toString_0 ++ []
theorem dksJ8_toString_0 : cJ8_toString.data.toList.drop 0 = dktJ8_toString_0 := by decide +kernel
theorem dJ8_toString_0 : decode cJ8_toString 0 = .ok (.new 18, 3) := dk_187 0 18 (dk_at dksJ8_toString_0 0 rfl rfl)
theorem dJ8_toString_3 : decode cJ8_toString 3 = .ok (.dup, 1) := dk_89 (dk_at dksJ8_toString_0 3 rfl rfl)
theorem dJ8_toString_4 : decode cJ8_toString 4 = .ok (.aload_n 0, 1) := dk_42 (dk_at dksJ8_toString_0 4 rfl rfl)
theorem dJ8_toString_5 : decode cJ8_toString 5 = .ok (.invokespecial 137, 3) := dk_183 0 137 (dk_at dksJ8_toString_0 5 rfl rfl)
theorem dJ8_toString_8 : decode cJ8_toString 8 = .ok (.areturn, 1) := dk_176 (dk_at dksJ8_toString_0 8 rfl rfl)
theorem q94 : (Jvm.Cond.initialized "java/lang/StringBuilder") ∈ lw_all := lw_g (lw_at lw_m1 12 rfl) rfl
theorem q283 : (Jvm.Cond.instantiable "java/lang/StringBuilder" (4 : Nat)) ∈ lw_all := lw_g (lw_at lw_m1 201 rfl) rfl
theorem q285 : (Jvm.Cond.instanceMethod ({ cls := "java/lang/StringBuilder", name := "<init>", desc := "()V" } : Jvm.MethodName)) ∈ lw_all := lw_g (lw_at lw_m1 203 rfl) rfl
theorem q286 : (Jvm.Cond.code ({ cls := "java/lang/StringBuilder", name := "<init>", desc := "()V" } : Jvm.MethodName) prog_35_method_1_code (1 : Nat) (Option.none : Option Jvm.ClassFile.FieldType)) ∈ lw_all := lw_g (lw_at lw_m1 204 rfl) rfl
theorem q287 : (Jvm.Cond.methodLink "java/lang/StringBuilder" (1 : Nat) ({ cls := "java/lang/AbstractStringBuilder", name := "<init>", desc := "(I)V" } : Jvm.MethodName)) ∈ lw_all := lw_g (lw_at lw_m1 205 rfl) rfl
theorem q303 : (Jvm.Cond.lays "java/lang/StringBuilder" "java/lang/AbstractStringBuilder" "value" "[B") ∈ lw_all := lw_g (lw_at lw_m1 221 rfl) rfl
theorem q305 : (Jvm.Cond.lays "java/lang/StringBuilder" "java/lang/AbstractStringBuilder" "coder" "B") ∈ lw_all := lw_g (lw_at lw_m1 223 rfl) rfl
theorem q307 : (Jvm.Cond.lays "java/lang/StringBuilder" "java/lang/AbstractStringBuilder" "maybeLatin1" "Z") ∈ lw_all := lw_g (lw_at lw_m1 225 rfl) rfl
theorem q309 : (Jvm.Cond.lays "java/lang/StringBuilder" "java/lang/AbstractStringBuilder" "count" "I") ∈ lw_all := lw_g (lw_at lw_m1 227 rfl) rfl
theorem q311 : (Jvm.Cond.superclass "java/lang/StringBuilder" "java/lang/AbstractStringBuilder") ∈ lw_all := lw_g (lw_at lw_m1 229 rfl) rfl
theorem q313 : (Jvm.Cond.instanceMethod ({ cls := "java/lang/StringBuilder", name := "length", desc := "()I" } : Jvm.MethodName)) ∈ lw_all := lw_g (lw_at lw_m1 231 rfl) rfl
theorem q314 : (Jvm.Cond.selects "java/lang/StringBuilder" ({ cls := "java/lang/StringBuilder", name := "length", desc := "()I" } : Jvm.MethodName) ({ cls := "java/lang/StringBuilder", name := "length", desc := "()I" } : Jvm.MethodName)) ∈ lw_all := lw_g (lw_at lw_m1 232 rfl) rfl
theorem q315 : (Jvm.Cond.code ({ cls := "java/lang/StringBuilder", name := "length", desc := "()I" } : Jvm.MethodName) prog_35_method_93_code (1 : Nat) (Option.some Jvm.ClassFile.FieldType.int)) ∈ lw_all := lw_g (lw_at lw_m1 233 rfl) rfl
theorem q316 : (Jvm.Cond.methodLink "java/lang/StringBuilder" (343 : Nat) ({ cls := "java/lang/AbstractStringBuilder", name := "length", desc := "()I" } : Jvm.MethodName)) ∈ lw_all := lw_g (lw_at lw_m1 234 rfl) rfl
theorem q320 : (Jvm.Cond.instanceMethod ({ cls := "java/lang/StringBuilder", name := "append", desc := "(C)Ljava/lang/StringBuilder;" } : Jvm.MethodName)) ∈ lw_all := lw_g (lw_at lw_m1 238 rfl) rfl
theorem q321 : (Jvm.Cond.selects "java/lang/StringBuilder" ({ cls := "java/lang/StringBuilder", name := "append", desc := "(C)Ljava/lang/StringBuilder;" } : Jvm.MethodName) ({ cls := "java/lang/StringBuilder", name := "append", desc := "(C)Ljava/lang/StringBuilder;" } : Jvm.MethodName)) ∈ lw_all := lw_g (lw_at lw_m1 239 rfl) rfl
theorem q322 : (Jvm.Cond.code ({ cls := "java/lang/StringBuilder", name := "append", desc := "(C)Ljava/lang/StringBuilder;" } : Jvm.MethodName) prog_35_method_14_code (2 : Nat) (Option.some (Jvm.ClassFile.FieldType.object "java/lang/StringBuilder"))) ∈ lw_all := lw_g (lw_at lw_m2 0 rfl) rfl
theorem q323 : (Jvm.Cond.methodLink "java/lang/StringBuilder" (50 : Nat) ({ cls := "java/lang/AbstractStringBuilder", name := "append", desc := "(C)Ljava/lang/AbstractStringBuilder;" } : Jvm.MethodName)) ∈ lw_all := lw_g (lw_at lw_m2 1 rfl) rfl
theorem q364 : (Jvm.Cond.selects "java/lang/StringBuilder" ({ cls := "java/lang/AbstractStringBuilder", name := "isLatin1", desc := "()Z" } : Jvm.MethodName) ({ cls := "java/lang/AbstractStringBuilder", name := "isLatin1", desc := "()Z" } : Jvm.MethodName)) ∈ lw_all := lw_g (lw_at lw_m2 42 rfl) rfl
theorem q395 : (Jvm.Cond.instanceMethod ({ cls := "java/lang/StringBuilder", name := "toString", desc := "()Ljava/lang/String;" } : Jvm.MethodName)) ∈ lw_all := lw_g (lw_at lw_m2 73 rfl) rfl
theorem q396 : (Jvm.Cond.selects "java/lang/StringBuilder" ({ cls := "java/lang/StringBuilder", name := "toString", desc := "()Ljava/lang/String;" } : Jvm.MethodName) ({ cls := "java/lang/StringBuilder", name := "toString", desc := "()Ljava/lang/String;" } : Jvm.MethodName)) ∈ lw_all := lw_g (lw_at lw_m2 74 rfl) rfl
theorem q397 : (Jvm.Cond.code ({ cls := "java/lang/StringBuilder", name := "toString", desc := "()Ljava/lang/String;" } : Jvm.MethodName) prog_35_method_42_code (1 : Nat) (Option.some (Jvm.ClassFile.FieldType.object "java/lang/String"))) ∈ lw_all := lw_g (lw_at lw_m2 75 rfl) rfl
theorem q398 : (Jvm.Cond.classLink "java/lang/StringBuilder" (18 : Nat) "java/lang/String") ∈ lw_all := lw_g (lw_at lw_m2 76 rfl) rfl
theorem q400 : (Jvm.Cond.methodLink "java/lang/StringBuilder" (137 : Nat) ({ cls := "java/lang/String", name := "<init>", desc := "(Ljava/lang/StringBuilder;)V" } : Jvm.MethodName)) ∈ lw_all := lw_g (lw_at lw_m2 78 rfl) rfl
theorem q410 : (Jvm.Cond.selects "java/lang/StringBuilder" ({ cls := "java/lang/AbstractStringBuilder", name := "getValue", desc := "()[B" } : Jvm.MethodName) ({ cls := "java/lang/AbstractStringBuilder", name := "getValue", desc := "()[B" } : Jvm.MethodName)) ∈ lw_all := lw_g (lw_at lw_m2 88 rfl) rfl
theorem q1035 : (Jvm.Cond.selects "java/lang/StringBuilder" ({ cls := "java/lang/Object", name := "getClass", desc := "()Ljava/lang/Class;" } : Jvm.MethodName) ({ cls := "java/lang/Object", name := "getClass", desc := "()Ljava/lang/Class;" } : Jvm.MethodName)) ∈ lw_all := lw_g (lw_at lw_m4 233 rfl) rfl
theorem q1941 : (Jvm.Cond.selects "java/lang/StringBuilder" ({ cls := "java/lang/AbstractStringBuilder", name := "length", desc := "()I" } : Jvm.MethodName) ({ cls := "java/lang/StringBuilder", name := "length", desc := "()I" } : Jvm.MethodName)) ∈ lw_all := lw_g (lw_at lw_m8 179 rfl) rfl
theorem q1960 : (Jvm.Cond.castable "java/lang/StringBuilder" "java/lang/Object") ∈ lw_tbl := lw_at lw_m8 198 rfl
theorem in_J8 : ∀ w ∈ wsJ80, w ∈ lw_all := lw_in wsJ80 [303, 305, 307, 309] (by decide +kernel) (by decide +kernel)

/-! jdk/internal/util/ArraysSupport -/
set_option maxRecDepth 100000
def RJ9 : String := "jdk/internal/util/ArraysSupport"
abbrev cJ9_newLength : ByteArray := prog_51_method_27_code
def yJ9_newLength : MethodName := ⟨RJ9, "newLength", "(III)I"⟩
def dkwJ9_newLength_1 : List UInt8 := [184, 0, 201, 172]
abbrev dktJ9_newLength_1 : List UInt8 := dkwJ9_newLength_1 ++ []
def dkwJ9_newLength_0 : List UInt8 := [26, 27, 28, 184, 0, 194, 96, 62, 3, 29, 162, 0, 11, 29, 18, 200, 163, 0, 5, 29, 172, 26, 27]
abbrev dktJ9_newLength_0 : List UInt8 := dkwJ9_newLength_0 ++ dktJ9_newLength_1
theorem dksJ9_newLength_0 : cJ9_newLength.data.toList.drop 0 = dktJ9_newLength_0 := by decide +kernel
theorem dksJ9_newLength_1 : cJ9_newLength.data.toList.drop 23 = dktJ9_newLength_1 := dk_seg dksJ9_newLength_0 23 rfl rfl
theorem dJ9_newLength_0 : decode cJ9_newLength 0 = .ok (.iload_n 0, 1) := dk_26 (dk_at dksJ9_newLength_0 0 rfl rfl)
theorem dJ9_newLength_1 : decode cJ9_newLength 1 = .ok (.iload_n 1, 1) := dk_27 (dk_at dksJ9_newLength_0 1 rfl rfl)
theorem dJ9_newLength_2 : decode cJ9_newLength 2 = .ok (.iload_n 2, 1) := dk_28 (dk_at dksJ9_newLength_0 2 rfl rfl)
theorem dJ9_newLength_3 : decode cJ9_newLength 3 = .ok (.invokestatic 194, 3) := dk_184 0 194 (dk_at dksJ9_newLength_0 3 rfl rfl)
theorem dJ9_newLength_6 : decode cJ9_newLength 6 = .ok (.iadd, 1) := dk_96 (dk_at dksJ9_newLength_0 6 rfl rfl)
theorem dJ9_newLength_7 : decode cJ9_newLength 7 = .ok (.istore_n 3, 1) := dk_62 (dk_at dksJ9_newLength_0 7 rfl rfl)
theorem dJ9_newLength_8 : decode cJ9_newLength 8 = .ok (.iconst 0, 1) := dk_3 (dk_at dksJ9_newLength_0 8 rfl rfl)
theorem dJ9_newLength_9 : decode cJ9_newLength 9 = .ok (.iload_n 3, 1) := dk_29 (dk_at dksJ9_newLength_0 9 rfl rfl)
theorem dJ9_newLength_10 : decode cJ9_newLength 10 = .ok (.if_icmp .ge 11, 3) := dk_162 0 11 (dk_at dksJ9_newLength_0 10 rfl rfl)
theorem dJ9_newLength_13 : decode cJ9_newLength 13 = .ok (.iload_n 3, 1) := dk_29 (dk_at dksJ9_newLength_0 13 rfl rfl)
theorem dJ9_newLength_14 : decode cJ9_newLength 14 = .ok (.ldc 200, 2) := dk_18 200 (dk_at dksJ9_newLength_0 14 rfl rfl)
theorem dJ9_newLength_16 : decode cJ9_newLength 16 = .ok (.if_icmp .gt 5, 3) := dk_163 0 5 (dk_at dksJ9_newLength_0 16 rfl rfl)
theorem dJ9_newLength_19 : decode cJ9_newLength 19 = .ok (.iload_n 3, 1) := dk_29 (dk_at dksJ9_newLength_0 19 rfl rfl)
theorem dJ9_newLength_20 : decode cJ9_newLength 20 = .ok (.ireturn, 1) := dk_172 (dk_at dksJ9_newLength_0 20 rfl rfl)
theorem dJ9_newLength_21 : decode cJ9_newLength 21 = .ok (.iload_n 0, 1) := dk_26 (dk_at dksJ9_newLength_0 21 rfl rfl)
theorem dJ9_newLength_22 : decode cJ9_newLength 22 = .ok (.iload_n 1, 1) := dk_27 (dk_at dksJ9_newLength_0 22 rfl rfl)
theorem dJ9_newLength_23 : decode cJ9_newLength 23 = .ok (.invokestatic 201, 3) := dk_184 0 201 (dk_at dksJ9_newLength_1 0 rfl rfl)
theorem dJ9_newLength_26 : decode cJ9_newLength 26 = .ok (.ireturn, 1) := dk_172 (dk_at dksJ9_newLength_1 3 rfl rfl)
abbrev cJ9_hugeLength : ByteArray := prog_51_method_28_code
def yJ9_hugeLength : MethodName := ⟨RJ9, "hugeLength", "(II)I"⟩
def dkwJ9_hugeLength_2 : List UInt8 := [191, 28, 18, 200, 163, 0, 6, 18, 200, 172, 28, 172]
abbrev dktJ9_hugeLength_2 : List UInt8 := dkwJ9_hugeLength_2 ++ []
def dkwJ9_hugeLength_1 : List UInt8 := [26, 182, 0, 98, 18, 208, 182, 0, 94, 27, 182, 0, 98, 18, 210, 182, 0, 94, 182, 0, 101, 183, 0, 212]
abbrev dktJ9_hugeLength_1 : List UInt8 := dkwJ9_hugeLength_1 ++ dktJ9_hugeLength_2
def dkwJ9_hugeLength_0 : List UInt8 := [26, 27, 96, 61, 28, 156, 0, 44, 187, 0, 204, 89, 187, 0, 89, 89, 183, 0, 91, 18, 206, 182, 0, 94]
abbrev dktJ9_hugeLength_0 : List UInt8 := dkwJ9_hugeLength_0 ++ dktJ9_hugeLength_1
theorem dksJ9_hugeLength_0 : cJ9_hugeLength.data.toList.drop 0 = dktJ9_hugeLength_0 := by decide +kernel
theorem dksJ9_hugeLength_1 : cJ9_hugeLength.data.toList.drop 24 = dktJ9_hugeLength_1 := dk_seg dksJ9_hugeLength_0 24 rfl rfl
theorem dksJ9_hugeLength_2 : cJ9_hugeLength.data.toList.drop 48 = dktJ9_hugeLength_2 := dk_seg dksJ9_hugeLength_1 24 rfl rfl
theorem dJ9_hugeLength_0 : decode cJ9_hugeLength 0 = .ok (.iload_n 0, 1) := dk_26 (dk_at dksJ9_hugeLength_0 0 rfl rfl)
theorem dJ9_hugeLength_1 : decode cJ9_hugeLength 1 = .ok (.iload_n 1, 1) := dk_27 (dk_at dksJ9_hugeLength_0 1 rfl rfl)
theorem dJ9_hugeLength_2 : decode cJ9_hugeLength 2 = .ok (.iadd, 1) := dk_96 (dk_at dksJ9_hugeLength_0 2 rfl rfl)
theorem dJ9_hugeLength_3 : decode cJ9_hugeLength 3 = .ok (.istore_n 2, 1) := dk_61 (dk_at dksJ9_hugeLength_0 3 rfl rfl)
theorem dJ9_hugeLength_4 : decode cJ9_hugeLength 4 = .ok (.iload_n 2, 1) := dk_28 (dk_at dksJ9_hugeLength_0 4 rfl rfl)
theorem dJ9_hugeLength_5 : decode cJ9_hugeLength 5 = .ok (.ifCond .ge 44, 3) := dk_156 0 44 (dk_at dksJ9_hugeLength_0 5 rfl rfl)
theorem dJ9_hugeLength_8 : decode cJ9_hugeLength 8 = .ok (.new 204, 3) := dk_187 0 204 (dk_at dksJ9_hugeLength_0 8 rfl rfl)
theorem dJ9_hugeLength_11 : decode cJ9_hugeLength 11 = .ok (.dup, 1) := dk_89 (dk_at dksJ9_hugeLength_0 11 rfl rfl)
theorem dJ9_hugeLength_12 : decode cJ9_hugeLength 12 = .ok (.new 89, 3) := dk_187 0 89 (dk_at dksJ9_hugeLength_0 12 rfl rfl)
theorem dJ9_hugeLength_15 : decode cJ9_hugeLength 15 = .ok (.dup, 1) := dk_89 (dk_at dksJ9_hugeLength_0 15 rfl rfl)
theorem dJ9_hugeLength_16 : decode cJ9_hugeLength 16 = .ok (.invokespecial 91, 3) := dk_183 0 91 (dk_at dksJ9_hugeLength_0 16 rfl rfl)
theorem dJ9_hugeLength_19 : decode cJ9_hugeLength 19 = .ok (.ldc 206, 2) := dk_18 206 (dk_at dksJ9_hugeLength_0 19 rfl rfl)
theorem dJ9_hugeLength_21 : decode cJ9_hugeLength 21 = .ok (.invokevirtual 94, 3) := dk_182 0 94 (dk_at dksJ9_hugeLength_0 21 rfl rfl)
theorem dJ9_hugeLength_24 : decode cJ9_hugeLength 24 = .ok (.iload_n 0, 1) := dk_26 (dk_at dksJ9_hugeLength_1 0 rfl rfl)
theorem dJ9_hugeLength_25 : decode cJ9_hugeLength 25 = .ok (.invokevirtual 98, 3) := dk_182 0 98 (dk_at dksJ9_hugeLength_1 1 rfl rfl)
theorem dJ9_hugeLength_28 : decode cJ9_hugeLength 28 = .ok (.ldc 208, 2) := dk_18 208 (dk_at dksJ9_hugeLength_1 4 rfl rfl)
theorem dJ9_hugeLength_30 : decode cJ9_hugeLength 30 = .ok (.invokevirtual 94, 3) := dk_182 0 94 (dk_at dksJ9_hugeLength_1 6 rfl rfl)
theorem dJ9_hugeLength_33 : decode cJ9_hugeLength 33 = .ok (.iload_n 1, 1) := dk_27 (dk_at dksJ9_hugeLength_1 9 rfl rfl)
theorem dJ9_hugeLength_34 : decode cJ9_hugeLength 34 = .ok (.invokevirtual 98, 3) := dk_182 0 98 (dk_at dksJ9_hugeLength_1 10 rfl rfl)
theorem dJ9_hugeLength_37 : decode cJ9_hugeLength 37 = .ok (.ldc 210, 2) := dk_18 210 (dk_at dksJ9_hugeLength_1 13 rfl rfl)
theorem dJ9_hugeLength_39 : decode cJ9_hugeLength 39 = .ok (.invokevirtual 94, 3) := dk_182 0 94 (dk_at dksJ9_hugeLength_1 15 rfl rfl)
theorem dJ9_hugeLength_42 : decode cJ9_hugeLength 42 = .ok (.invokevirtual 101, 3) := dk_182 0 101 (dk_at dksJ9_hugeLength_1 18 rfl rfl)
theorem dJ9_hugeLength_45 : decode cJ9_hugeLength 45 = .ok (.invokespecial 212, 3) := dk_183 0 212 (dk_at dksJ9_hugeLength_1 21 rfl rfl)
theorem dJ9_hugeLength_48 : decode cJ9_hugeLength 48 = .ok (.athrow, 1) := dk_191 (dk_at dksJ9_hugeLength_2 0 rfl rfl)
theorem dJ9_hugeLength_49 : decode cJ9_hugeLength 49 = .ok (.iload_n 2, 1) := dk_28 (dk_at dksJ9_hugeLength_2 1 rfl rfl)
theorem dJ9_hugeLength_50 : decode cJ9_hugeLength 50 = .ok (.ldc 200, 2) := dk_18 200 (dk_at dksJ9_hugeLength_2 2 rfl rfl)
theorem dJ9_hugeLength_52 : decode cJ9_hugeLength 52 = .ok (.if_icmp .gt 6, 3) := dk_163 0 6 (dk_at dksJ9_hugeLength_2 4 rfl rfl)
theorem dJ9_hugeLength_55 : decode cJ9_hugeLength 55 = .ok (.ldc 200, 2) := dk_18 200 (dk_at dksJ9_hugeLength_2 7 rfl rfl)
theorem dJ9_hugeLength_57 : decode cJ9_hugeLength 57 = .ok (.ireturn, 1) := dk_172 (dk_at dksJ9_hugeLength_2 9 rfl rfl)
theorem dJ9_hugeLength_58 : decode cJ9_hugeLength 58 = .ok (.iload_n 2, 1) := dk_28 (dk_at dksJ9_hugeLength_2 10 rfl rfl)
theorem dJ9_hugeLength_59 : decode cJ9_hugeLength 59 = .ok (.ireturn, 1) := dk_172 (dk_at dksJ9_hugeLength_2 11 rfl rfl)
theorem q95 : (Jvm.Cond.initialized "jdk/internal/util/ArraysSupport") ∈ lw_all := lw_g (lw_at lw_m1 13 rfl) rfl
theorem q335 : (Jvm.Cond.static ({ cls := "jdk/internal/util/ArraysSupport", name := "newLength", desc := "(III)I" } : Jvm.MethodName)) ∈ lw_all := lw_g (lw_at lw_m2 13 rfl) rfl
theorem q336 : (Jvm.Cond.code ({ cls := "jdk/internal/util/ArraysSupport", name := "newLength", desc := "(III)I" } : Jvm.MethodName) prog_51_method_27_code (4 : Nat) (Option.some Jvm.ClassFile.FieldType.int)) ∈ lw_all := lw_g (lw_at lw_m2 14 rfl) rfl
theorem q337 : (Jvm.Cond.methodLink "jdk/internal/util/ArraysSupport" (194 : Nat) ({ cls := "java/lang/Math", name := "max", desc := "(II)I" } : Jvm.MethodName)) ∈ lw_all := lw_g (lw_at lw_m2 15 rfl) rfl
theorem q340 : (Jvm.Cond.constant "jdk/internal/util/ArraysSupport" (200 : Nat) (2147483639 : Int32)) ∈ lw_all := lw_g (lw_at lw_m2 18 rfl) rfl
theorem q341 : (Jvm.Cond.methodLink "jdk/internal/util/ArraysSupport" (201 : Nat) ({ cls := "jdk/internal/util/ArraysSupport", name := "hugeLength", desc := "(II)I" } : Jvm.MethodName)) ∈ lw_all := lw_g (lw_at lw_m2 19 rfl) rfl
theorem q342 : (Jvm.Cond.static ({ cls := "jdk/internal/util/ArraysSupport", name := "hugeLength", desc := "(II)I" } : Jvm.MethodName)) ∈ lw_all := lw_g (lw_at lw_m2 20 rfl) rfl
theorem q343 : (Jvm.Cond.code ({ cls := "jdk/internal/util/ArraysSupport", name := "hugeLength", desc := "(II)I" } : Jvm.MethodName) prog_51_method_28_code (3 : Nat) (Option.some Jvm.ClassFile.FieldType.int)) ∈ lw_all := lw_g (lw_at lw_m2 21 rfl) rfl

/-! MarketDays$Sheet -/
set_option maxRecDepth 100000
def RX1 : String := "MarketDays$Sheet"
def TX1 : u_T := fun k => match k with
  | 0 => ("MarketDays$Sheet", "sort", "I", false)
  | 1 => ("MarketDays$Sheet", "size", "I", false)
  | _ => ("MarketDays$Sheet", "cells", "[I", true)
def tyX1 : Nat → FieldType := fun k => match k with
  | 0 => .int
  | 1 => .int
  | _ => .array .int
abbrev wsX10 : List Cond := u_ws RX1 TX1 3
theorem nmX1 : ∀ a, a < 3 → ∀ b, b < 3 → a ≠ b → (TX1 a).2.1 ≠ (TX1 b).2.1 := by decide +kernel
theorem tyX1_ok : ∀ k, k < 3 → parseFieldDescriptor (TX1 k).2.2.1 = some (tyX1 k) := by decide +kernel
abbrev cX1_init : ByteArray := prog_12_method_1_code
def yX1_init : MethodName := ⟨RX1, "<init>", "()V"⟩
def dkwX1_init_0 : List UInt8 := [42, 183, 0, 3, 42, 2, 181, 0, 9, 42, 3, 181, 0, 15, 42, 16, 40, 188, 10, 181, 0, 18, 177]
abbrev dktX1_init_0 : List UInt8 := dkwX1_init_0 ++ []
theorem dksX1_init_0 : cX1_init.data.toList.drop 0 = dktX1_init_0 := by decide +kernel
theorem dX1_init_0 : decode cX1_init 0 = .ok (.aload_n 0, 1) := dk_42 (dk_at dksX1_init_0 0 rfl rfl)
theorem dX1_init_1 : decode cX1_init 1 = .ok (.invokespecial 3, 3) := dk_183 0 3 (dk_at dksX1_init_0 1 rfl rfl)
theorem dX1_init_4 : decode cX1_init 4 = .ok (.aload_n 0, 1) := dk_42 (dk_at dksX1_init_0 4 rfl rfl)
theorem dX1_init_5 : decode cX1_init 5 = .ok (.iconst (-1), 1) := dk_2 (dk_at dksX1_init_0 5 rfl rfl)
theorem dX1_init_6 : decode cX1_init 6 = .ok (.putfield 9, 3) := dk_181 0 9 (dk_at dksX1_init_0 6 rfl rfl)
theorem dX1_init_9 : decode cX1_init 9 = .ok (.aload_n 0, 1) := dk_42 (dk_at dksX1_init_0 9 rfl rfl)
theorem dX1_init_10 : decode cX1_init 10 = .ok (.iconst 0, 1) := dk_3 (dk_at dksX1_init_0 10 rfl rfl)
theorem dX1_init_11 : decode cX1_init 11 = .ok (.putfield 15, 3) := dk_181 0 15 (dk_at dksX1_init_0 11 rfl rfl)
theorem dX1_init_14 : decode cX1_init 14 = .ok (.aload_n 0, 1) := dk_42 (dk_at dksX1_init_0 14 rfl rfl)
theorem dX1_init_15 : decode cX1_init 15 = .ok (.bipush 40, 2) := dk_16 40 (dk_at dksX1_init_0 15 rfl rfl)
theorem dX1_init_17 : decode cX1_init 17 = .ok (.newarray .int, 2) := dk_188_10 (dk_at dksX1_init_0 17 rfl rfl)
theorem dX1_init_19 : decode cX1_init 19 = .ok (.putfield 18, 3) := dk_181 0 18 (dk_at dksX1_init_0 19 rfl rfl)
theorem dX1_init_22 : decode cX1_init 22 = .ok (.return_, 1) := dk_177 (dk_at dksX1_init_0 22 rfl rfl)
abbrev cX1_put : ByteArray := prog_12_method_2_code
def yX1_put : MethodName := ⟨RX1, "put", "(II)V"⟩
def dkwX1_put_1 : List UInt8 := [160, 0, 8, 28, 147, 167, 0, 4, 28, 79, 177]
abbrev dktX1_put_1 : List UInt8 := dkwX1_put_1 ++ []
def dkwX1_put_0 : List UInt8 := [42, 180, 0, 18, 27, 42, 180, 0, 9, 154, 0, 8, 28, 145, 167, 0, 17, 42, 180, 0, 9, 4]
abbrev dktX1_put_0 : List UInt8 := dkwX1_put_0 ++ dktX1_put_1
theorem dksX1_put_0 : cX1_put.data.toList.drop 0 = dktX1_put_0 := by decide +kernel
theorem dksX1_put_1 : cX1_put.data.toList.drop 22 = dktX1_put_1 := dk_seg dksX1_put_0 22 rfl rfl
theorem dX1_put_0 : decode cX1_put 0 = .ok (.aload_n 0, 1) := dk_42 (dk_at dksX1_put_0 0 rfl rfl)
theorem dX1_put_1 : decode cX1_put 1 = .ok (.getfield 18, 3) := dk_180 0 18 (dk_at dksX1_put_0 1 rfl rfl)
theorem dX1_put_4 : decode cX1_put 4 = .ok (.iload_n 1, 1) := dk_27 (dk_at dksX1_put_0 4 rfl rfl)
theorem dX1_put_5 : decode cX1_put 5 = .ok (.aload_n 0, 1) := dk_42 (dk_at dksX1_put_0 5 rfl rfl)
theorem dX1_put_6 : decode cX1_put 6 = .ok (.getfield 9, 3) := dk_180 0 9 (dk_at dksX1_put_0 6 rfl rfl)
theorem dX1_put_9 : decode cX1_put 9 = .ok (.ifCond .ne 8, 3) := dk_154 0 8 (dk_at dksX1_put_0 9 rfl rfl)
theorem dX1_put_12 : decode cX1_put 12 = .ok (.iload_n 2, 1) := dk_28 (dk_at dksX1_put_0 12 rfl rfl)
theorem dX1_put_13 : decode cX1_put 13 = .ok (.i2b, 1) := dk_145 (dk_at dksX1_put_0 13 rfl rfl)
theorem dX1_put_14 : decode cX1_put 14 = .ok (.goto 17, 3) := dk_167 0 17 (dk_at dksX1_put_0 14 rfl rfl)
theorem dX1_put_17 : decode cX1_put 17 = .ok (.aload_n 0, 1) := dk_42 (dk_at dksX1_put_0 17 rfl rfl)
theorem dX1_put_18 : decode cX1_put 18 = .ok (.getfield 9, 3) := dk_180 0 9 (dk_at dksX1_put_0 18 rfl rfl)
theorem dX1_put_21 : decode cX1_put 21 = .ok (.iconst 1, 1) := dk_4 (dk_at dksX1_put_0 21 rfl rfl)
theorem dX1_put_22 : decode cX1_put 22 = .ok (.if_icmp .ne 8, 3) := dk_160 0 8 (dk_at dksX1_put_1 0 rfl rfl)
theorem dX1_put_25 : decode cX1_put 25 = .ok (.iload_n 2, 1) := dk_28 (dk_at dksX1_put_1 3 rfl rfl)
theorem dX1_put_26 : decode cX1_put 26 = .ok (.i2s, 1) := dk_147 (dk_at dksX1_put_1 4 rfl rfl)
theorem dX1_put_27 : decode cX1_put 27 = .ok (.goto 4, 3) := dk_167 0 4 (dk_at dksX1_put_1 5 rfl rfl)
theorem dX1_put_30 : decode cX1_put 30 = .ok (.iload_n 2, 1) := dk_28 (dk_at dksX1_put_1 8 rfl rfl)
theorem dX1_put_31 : decode cX1_put 31 = .ok (.iastore, 1) := dk_79 (dk_at dksX1_put_1 9 rfl rfl)
theorem dX1_put_32 : decode cX1_put 32 = .ok (.return_, 1) := dk_177 (dk_at dksX1_put_1 10 rfl rfl)
theorem q87 : (Jvm.Cond.initialized "MarketDays$Sheet") ∈ lw_all := lw_g (lw_at lw_m1 5 rfl) rfl
theorem q159 : (Jvm.Cond.instantiable "MarketDays$Sheet" (3 : Nat)) ∈ lw_all := lw_g (lw_at lw_m1 77 rfl) rfl
theorem q161 : (Jvm.Cond.instanceMethod ({ cls := "MarketDays$Sheet", name := "<init>", desc := "()V" } : Jvm.MethodName)) ∈ lw_all := lw_g (lw_at lw_m1 79 rfl) rfl
theorem q162 : (Jvm.Cond.code ({ cls := "MarketDays$Sheet", name := "<init>", desc := "()V" } : Jvm.MethodName) prog_12_method_1_code (1 : Nat) (Option.none : Option Jvm.ClassFile.FieldType)) ∈ lw_all := lw_g (lw_at lw_m1 80 rfl) rfl
theorem q163 : (Jvm.Cond.methodLink "MarketDays$Sheet" (3 : Nat) ({ cls := "java/lang/Object", name := "<init>", desc := "()V" } : Jvm.MethodName)) ∈ lw_all := lw_g (lw_at lw_m1 81 rfl) rfl
theorem q164 : (Jvm.Cond.fieldLink "MarketDays$Sheet" (9 : Nat) "MarketDays$Sheet" "sort" "I") ∈ lw_all := lw_g (lw_at lw_m1 82 rfl) rfl
theorem q166 : (Jvm.Cond.fieldLink "MarketDays$Sheet" (15 : Nat) "MarketDays$Sheet" "size" "I") ∈ lw_all := lw_g (lw_at lw_m1 84 rfl) rfl
theorem q168 : (Jvm.Cond.fieldLink "MarketDays$Sheet" (18 : Nat) "MarketDays$Sheet" "cells" "[I") ∈ lw_all := lw_g (lw_at lw_m1 86 rfl) rfl
theorem q170 : (Jvm.Cond.lays "MarketDays$Sheet" "MarketDays$Sheet" "sort" "I") ∈ lw_all := lw_g (lw_at lw_m1 88 rfl) rfl
theorem q171 : (Jvm.Cond.soleField "MarketDays$Sheet" "sort") ∈ lw_all := lw_g (lw_at lw_m1 89 rfl) rfl
theorem q172 : (Jvm.Cond.lays "MarketDays$Sheet" "MarketDays$Sheet" "size" "I") ∈ lw_all := lw_g (lw_at lw_m1 90 rfl) rfl
theorem q173 : (Jvm.Cond.soleField "MarketDays$Sheet" "size") ∈ lw_all := lw_g (lw_at lw_m1 91 rfl) rfl
theorem q174 : (Jvm.Cond.laysFinal "MarketDays$Sheet" "MarketDays$Sheet" "cells" "[I") ∈ lw_all := lw_g (lw_at lw_m1 92 rfl) rfl
theorem q175 : (Jvm.Cond.soleField "MarketDays$Sheet" "cells") ∈ lw_all := lw_g (lw_at lw_m1 93 rfl) rfl
theorem q176 : (Jvm.Cond.superclass "MarketDays$Sheet" "java/lang/Object") ∈ lw_all := lw_g (lw_at lw_m1 94 rfl) rfl
theorem q1026 : (Jvm.Cond.selects "MarketDays$Sheet" ({ cls := "java/lang/Object", name := "getClass", desc := "()Ljava/lang/Class;" } : Jvm.MethodName) ({ cls := "java/lang/Object", name := "getClass", desc := "()Ljava/lang/Class;" } : Jvm.MethodName)) ∈ lw_all := lw_g (lw_at lw_m4 224 rfl) rfl
theorem q1358 : (Jvm.Cond.instanceMethod ({ cls := "MarketDays$Sheet", name := "put", desc := "(II)V" } : Jvm.MethodName)) ∈ lw_all := lw_g (lw_at lw_m6 76 rfl) rfl
theorem q1359 : (Jvm.Cond.selects "MarketDays$Sheet" ({ cls := "MarketDays$Sheet", name := "put", desc := "(II)V" } : Jvm.MethodName) ({ cls := "MarketDays$Sheet", name := "put", desc := "(II)V" } : Jvm.MethodName)) ∈ lw_all := lw_g (lw_at lw_m6 77 rfl) rfl
theorem q1360 : (Jvm.Cond.code ({ cls := "MarketDays$Sheet", name := "put", desc := "(II)V" } : Jvm.MethodName) prog_12_method_2_code (3 : Nat) (Option.none : Option Jvm.ClassFile.FieldType)) ∈ lw_all := lw_g (lw_at lw_m6 78 rfl) rfl
theorem q1954 : (Jvm.Cond.castable "MarketDays$Sheet" "java/lang/Object") ∈ lw_tbl := lw_at lw_m8 192 rfl
theorem in_X1 : ∀ w ∈ wsX10, w ∈ lw_all := lw_in wsX10 [170, 172, 174] (by decide +kernel) (by decide +kernel)

/-! MarketDays$Twice -/
set_option maxRecDepth 100000
def RX10 : String := "MarketDays$Twice"
def TX10 : u_T := fun k => match k with
  | 0 => ("MarketDays$Giving", "number", "I", true)
  | 1 => ("MarketDays$Giving", "towns", "I", true)
  | _ => ("MarketDays$Giving", "day", "[B", true)
def tyX10 : Nat → FieldType := fun k => match k with
  | 0 => .int
  | 1 => .int
  | _ => .array .byte
abbrev wsX100 : List Cond := u_ws RX10 TX10 3
theorem nmX10 : ∀ a, a < 3 → ∀ b, b < 3 → a ≠ b → (TX10 a).2.1 ≠ (TX10 b).2.1 := by decide +kernel
theorem tyX10_ok : ∀ k, k < 3 → parseFieldDescriptor (TX10 k).2.2.1 = some (tyX10 k) := by decide +kernel
abbrev cX10_init : ByteArray := prog_16_method_1_code
def yX10_init : MethodName := ⟨RX10, "<init>", "(I[B)V"⟩
def dkwX10_init_0 : List UInt8 := [42, 27, 44, 183, 0, 1, 177]
abbrev dktX10_init_0 : List UInt8 := dkwX10_init_0 ++ []
theorem dksX10_init_0 : cX10_init.data.toList.drop 0 = dktX10_init_0 := by decide +kernel
theorem dX10_init_0 : decode cX10_init 0 = .ok (.aload_n 0, 1) := dk_42 (dk_at dksX10_init_0 0 rfl rfl)
theorem dX10_init_1 : decode cX10_init 1 = .ok (.iload_n 1, 1) := dk_27 (dk_at dksX10_init_0 1 rfl rfl)
theorem dX10_init_2 : decode cX10_init 2 = .ok (.aload_n 2, 1) := dk_44 (dk_at dksX10_init_0 2 rfl rfl)
theorem dX10_init_3 : decode cX10_init 3 = .ok (.invokespecial 1, 3) := dk_183 0 1 (dk_at dksX10_init_0 3 rfl rfl)
theorem dX10_init_6 : decode cX10_init 6 = .ok (.return_, 1) := dk_177 (dk_at dksX10_init_0 6 rfl rfl)
abbrev cX10_daysOf : ByteArray := prog_16_method_3_code
def yX10_daysOf : MethodName := ⟨RX10, "daysOf", "(III)I"⟩
def dkwX10_daysOf_1 : List UInt8 := [180, 0, 11, 27, 51, 29, 5, 108, 96, 29, 112, 120, 128, 172]
abbrev dktX10_daysOf_1 : List UInt8 := dkwX10_daysOf_1 ++ []
def dkwX10_daysOf_0 : List UInt8 := [42, 27, 28, 29, 183, 0, 7, 54, 4, 21, 4, 154, 0, 7, 3, 167, 0, 20, 21, 4, 4, 42]
abbrev dktX10_daysOf_0 : List UInt8 := dkwX10_daysOf_0 ++ dktX10_daysOf_1
theorem dksX10_daysOf_0 : cX10_daysOf.data.toList.drop 0 = dktX10_daysOf_0 := by decide +kernel
theorem dksX10_daysOf_1 : cX10_daysOf.data.toList.drop 22 = dktX10_daysOf_1 := dk_seg dksX10_daysOf_0 22 rfl rfl
theorem dX10_daysOf_0 : decode cX10_daysOf 0 = .ok (.aload_n 0, 1) := dk_42 (dk_at dksX10_daysOf_0 0 rfl rfl)
theorem dX10_daysOf_1 : decode cX10_daysOf 1 = .ok (.iload_n 1, 1) := dk_27 (dk_at dksX10_daysOf_0 1 rfl rfl)
theorem dX10_daysOf_2 : decode cX10_daysOf 2 = .ok (.iload_n 2, 1) := dk_28 (dk_at dksX10_daysOf_0 2 rfl rfl)
theorem dX10_daysOf_3 : decode cX10_daysOf 3 = .ok (.iload_n 3, 1) := dk_29 (dk_at dksX10_daysOf_0 3 rfl rfl)
theorem dX10_daysOf_4 : decode cX10_daysOf 4 = .ok (.invokespecial 7, 3) := dk_183 0 7 (dk_at dksX10_daysOf_0 4 rfl rfl)
theorem dX10_daysOf_7 : decode cX10_daysOf 7 = .ok (.istore 4, 2) := dk_54 4 (dk_at dksX10_daysOf_0 7 rfl rfl)
theorem dX10_daysOf_9 : decode cX10_daysOf 9 = .ok (.iload 4, 2) := dk_21 4 (dk_at dksX10_daysOf_0 9 rfl rfl)
theorem dX10_daysOf_11 : decode cX10_daysOf 11 = .ok (.ifCond .ne 7, 3) := dk_154 0 7 (dk_at dksX10_daysOf_0 11 rfl rfl)
theorem dX10_daysOf_14 : decode cX10_daysOf 14 = .ok (.iconst 0, 1) := dk_3 (dk_at dksX10_daysOf_0 14 rfl rfl)
theorem dX10_daysOf_15 : decode cX10_daysOf 15 = .ok (.goto 20, 3) := dk_167 0 20 (dk_at dksX10_daysOf_0 15 rfl rfl)
theorem dX10_daysOf_18 : decode cX10_daysOf 18 = .ok (.iload 4, 2) := dk_21 4 (dk_at dksX10_daysOf_0 18 rfl rfl)
theorem dX10_daysOf_20 : decode cX10_daysOf 20 = .ok (.iconst 1, 1) := dk_4 (dk_at dksX10_daysOf_0 20 rfl rfl)
theorem dX10_daysOf_21 : decode cX10_daysOf 21 = .ok (.aload_n 0, 1) := dk_42 (dk_at dksX10_daysOf_0 21 rfl rfl)
theorem dX10_daysOf_22 : decode cX10_daysOf 22 = .ok (.getfield 11, 3) := dk_180 0 11 (dk_at dksX10_daysOf_1 0 rfl rfl)
theorem dX10_daysOf_25 : decode cX10_daysOf 25 = .ok (.iload_n 1, 1) := dk_27 (dk_at dksX10_daysOf_1 3 rfl rfl)
theorem dX10_daysOf_26 : decode cX10_daysOf 26 = .ok (.baload, 1) := dk_51 (dk_at dksX10_daysOf_1 4 rfl rfl)
theorem dX10_daysOf_27 : decode cX10_daysOf 27 = .ok (.iload_n 3, 1) := dk_29 (dk_at dksX10_daysOf_1 5 rfl rfl)
theorem dX10_daysOf_28 : decode cX10_daysOf 28 = .ok (.iconst 2, 1) := dk_5 (dk_at dksX10_daysOf_1 6 rfl rfl)
theorem dX10_daysOf_29 : decode cX10_daysOf 29 = .ok (.idiv, 1) := dk_108 (dk_at dksX10_daysOf_1 7 rfl rfl)
theorem dX10_daysOf_30 : decode cX10_daysOf 30 = .ok (.iadd, 1) := dk_96 (dk_at dksX10_daysOf_1 8 rfl rfl)
theorem dX10_daysOf_31 : decode cX10_daysOf 31 = .ok (.iload_n 3, 1) := dk_29 (dk_at dksX10_daysOf_1 9 rfl rfl)
theorem dX10_daysOf_32 : decode cX10_daysOf 32 = .ok (.irem, 1) := dk_112 (dk_at dksX10_daysOf_1 10 rfl rfl)
theorem dX10_daysOf_33 : decode cX10_daysOf 33 = .ok (.ishl, 1) := dk_120 (dk_at dksX10_daysOf_1 11 rfl rfl)
theorem dX10_daysOf_34 : decode cX10_daysOf 34 = .ok (.ior, 1) := dk_128 (dk_at dksX10_daysOf_1 12 rfl rfl)
theorem dX10_daysOf_35 : decode cX10_daysOf 35 = .ok (.ireturn, 1) := dk_172 (dk_at dksX10_daysOf_1 13 rfl rfl)
abbrev cX10_worth : ByteArray := prog_16_method_4_code
def yX10_worth : MethodName := ⟨RX10, "worth", "(II)I"⟩
def dkwX10_worth_0 : List UInt8 := [42, 27, 28, 183, 0, 17, 5, 108, 172]
abbrev dktX10_worth_0 : List UInt8 := dkwX10_worth_0 ++ []
theorem dksX10_worth_0 : cX10_worth.data.toList.drop 0 = dktX10_worth_0 := by decide +kernel
theorem dX10_worth_0 : decode cX10_worth 0 = .ok (.aload_n 0, 1) := dk_42 (dk_at dksX10_worth_0 0 rfl rfl)
theorem dX10_worth_1 : decode cX10_worth 1 = .ok (.iload_n 1, 1) := dk_27 (dk_at dksX10_worth_0 1 rfl rfl)
theorem dX10_worth_2 : decode cX10_worth 2 = .ok (.iload_n 2, 1) := dk_28 (dk_at dksX10_worth_0 2 rfl rfl)
theorem dX10_worth_3 : decode cX10_worth 3 = .ok (.invokespecial 17, 3) := dk_183 0 17 (dk_at dksX10_worth_0 3 rfl rfl)
theorem dX10_worth_6 : decode cX10_worth 6 = .ok (.iconst 2, 1) := dk_5 (dk_at dksX10_worth_0 6 rfl rfl)
theorem dX10_worth_7 : decode cX10_worth 7 = .ok (.idiv, 1) := dk_108 (dk_at dksX10_worth_0 7 rfl rfl)
theorem dX10_worth_8 : decode cX10_worth 8 = .ok (.ireturn, 1) := dk_172 (dk_at dksX10_worth_0 8 rfl rfl)
abbrev cX10_kind : ByteArray := prog_16_method_2_code
def yX10_kind : MethodName := ⟨RX10, "kind", "()I"⟩
theorem dX10_kind_0 : decode cX10_kind 0 = .ok (.iconst 2, 1) := by decide +kernel
theorem dX10_kind_1 : decode cX10_kind 1 = .ok (.ireturn, 1) := by decide +kernel
theorem q110 : (Jvm.Cond.initialized "MarketDays$Twice") ∈ lw_all := lw_g (lw_at lw_m1 28 rfl) rfl
theorem q922 : (Jvm.Cond.fieldLink "MarketDays$Twice" (11 : Nat) "MarketDays$Twice" "day" "[B") ∈ lw_all := lw_g (lw_at lw_m4 120 rfl) rfl
theorem q923 : (Jvm.Cond.sameField "MarketDays$Twice" "MarketDays$Giving" "day" "[B") ∈ lw_all := lw_g (lw_at lw_m4 121 rfl) rfl
theorem q943 : (Jvm.Cond.instantiable "MarketDays$Twice" (3 : Nat)) ∈ lw_all := lw_g (lw_at lw_m4 141 rfl) rfl
theorem q945 : (Jvm.Cond.instanceMethod ({ cls := "MarketDays$Twice", name := "<init>", desc := "(I[B)V" } : Jvm.MethodName)) ∈ lw_all := lw_g (lw_at lw_m4 143 rfl) rfl
theorem q946 : (Jvm.Cond.code ({ cls := "MarketDays$Twice", name := "<init>", desc := "(I[B)V" } : Jvm.MethodName) prog_16_method_1_code (3 : Nat) (Option.none : Option Jvm.ClassFile.FieldType)) ∈ lw_all := lw_g (lw_at lw_m4 144 rfl) rfl
theorem q947 : (Jvm.Cond.methodLink "MarketDays$Twice" (1 : Nat) ({ cls := "MarketDays$Giving", name := "<init>", desc := "(I[B)V" } : Jvm.MethodName)) ∈ lw_all := lw_g (lw_at lw_m4 145 rfl) rfl
theorem q948 : (Jvm.Cond.laysFinal "MarketDays$Twice" "MarketDays$Giving" "number" "I") ∈ lw_all := lw_g (lw_at lw_m4 146 rfl) rfl
theorem q949 : (Jvm.Cond.laysFinal "MarketDays$Twice" "MarketDays$Giving" "towns" "I") ∈ lw_all := lw_g (lw_at lw_m4 147 rfl) rfl
theorem q950 : (Jvm.Cond.laysFinal "MarketDays$Twice" "MarketDays$Giving" "day" "[B") ∈ lw_all := lw_g (lw_at lw_m4 148 rfl) rfl
theorem q951 : (Jvm.Cond.superclass "MarketDays$Twice" "MarketDays$Giving") ∈ lw_all := lw_g (lw_at lw_m4 149 rfl) rfl
theorem q992 : (Jvm.Cond.selects "MarketDays$Twice" ({ cls := "MarketDays$Giving", name := "mostTold", desc := "(I)I" } : Jvm.MethodName) ({ cls := "MarketDays$Giving", name := "mostTold", desc := "(I)I" } : Jvm.MethodName)) ∈ lw_all := lw_g (lw_at lw_m4 190 rfl) rfl
theorem q1030 : (Jvm.Cond.selects "MarketDays$Twice" ({ cls := "java/lang/Object", name := "getClass", desc := "()Ljava/lang/Class;" } : Jvm.MethodName) ({ cls := "java/lang/Object", name := "getClass", desc := "()Ljava/lang/Class;" } : Jvm.MethodName)) ∈ lw_all := lw_g (lw_at lw_m4 228 rfl) rfl
theorem q1084 : (Jvm.Cond.selects "MarketDays$Twice" ({ cls := "MarketDays$Giving", name := "daysOf", desc := "(III)I" } : Jvm.MethodName) ({ cls := "MarketDays$Twice", name := "daysOf", desc := "(III)I" } : Jvm.MethodName)) ∈ lw_all := lw_g (lw_at lw_m5 42 rfl) rfl
theorem q1085 : (Jvm.Cond.instanceMethod ({ cls := "MarketDays$Twice", name := "daysOf", desc := "(III)I" } : Jvm.MethodName)) ∈ lw_all := lw_g (lw_at lw_m5 43 rfl) rfl
theorem q1086 : (Jvm.Cond.code ({ cls := "MarketDays$Twice", name := "daysOf", desc := "(III)I" } : Jvm.MethodName) prog_16_method_3_code (5 : Nat) (Option.some Jvm.ClassFile.FieldType.int)) ∈ lw_all := lw_g (lw_at lw_m5 44 rfl) rfl
theorem q1087 : (Jvm.Cond.methodLink "MarketDays$Twice" (7 : Nat) ({ cls := "MarketDays$Giving", name := "daysOf", desc := "(III)I" } : Jvm.MethodName)) ∈ lw_all := lw_g (lw_at lw_m5 45 rfl) rfl
theorem q1099 : (Jvm.Cond.selects "MarketDays$Twice" ({ cls := "MarketDays$Giving", name := "moves", desc := "()Z" } : Jvm.MethodName) ({ cls := "MarketDays$Giving", name := "moves", desc := "()Z" } : Jvm.MethodName)) ∈ lw_all := lw_g (lw_at lw_m5 57 rfl) rfl
theorem q1158 : (Jvm.Cond.selects "MarketDays$Twice" ({ cls := "MarketDays$Giving", name := "worth", desc := "(II)I" } : Jvm.MethodName) ({ cls := "MarketDays$Twice", name := "worth", desc := "(II)I" } : Jvm.MethodName)) ∈ lw_all := lw_g (lw_at lw_m5 116 rfl) rfl
theorem q1159 : (Jvm.Cond.instanceMethod ({ cls := "MarketDays$Twice", name := "worth", desc := "(II)I" } : Jvm.MethodName)) ∈ lw_all := lw_g (lw_at lw_m5 117 rfl) rfl
theorem q1160 : (Jvm.Cond.code ({ cls := "MarketDays$Twice", name := "worth", desc := "(II)I" } : Jvm.MethodName) prog_16_method_4_code (3 : Nat) (Option.some Jvm.ClassFile.FieldType.int)) ∈ lw_all := lw_g (lw_at lw_m5 118 rfl) rfl
theorem q1161 : (Jvm.Cond.methodLink "MarketDays$Twice" (17 : Nat) ({ cls := "MarketDays$Giving", name := "worth", desc := "(II)I" } : Jvm.MethodName)) ∈ lw_all := lw_g (lw_at lw_m5 119 rfl) rfl
theorem q1293 : (Jvm.Cond.selects "MarketDays$Twice" ({ cls := "MarketDays$Giving", name := "kind", desc := "()I" } : Jvm.MethodName) ({ cls := "MarketDays$Twice", name := "kind", desc := "()I" } : Jvm.MethodName)) ∈ lw_all := lw_g (lw_at lw_m6 11 rfl) rfl
theorem q1294 : (Jvm.Cond.instanceMethod ({ cls := "MarketDays$Twice", name := "kind", desc := "()I" } : Jvm.MethodName)) ∈ lw_all := lw_g (lw_at lw_m6 12 rfl) rfl
theorem q1295 : (Jvm.Cond.code ({ cls := "MarketDays$Twice", name := "kind", desc := "()I" } : Jvm.MethodName) prog_16_method_2_code (1 : Nat) (Option.some Jvm.ClassFile.FieldType.int)) ∈ lw_all := lw_g (lw_at lw_m6 13 rfl) rfl
theorem q1951 : (Jvm.Cond.castable "MarketDays$Twice" "MarketDays$Giving") ∈ lw_tbl := lw_at lw_m8 189 rfl
theorem q1968 : (Jvm.Cond.castable "MarketDays$Twice" "java/lang/Object") ∈ lw_tbl := lw_at lw_m8 206 rfl
theorem in_X10 : ∀ w ∈ wsX100, w ∈ lw_all := lw_in wsX100 [948, 949, 950] (by decide +kernel) (by decide +kernel)

/-! MarketDays$Turn -/
set_option maxRecDepth 100000
def RX11 : String := "MarketDays$Turn"
def TX11 : u_T := fun k => match k with
  | 0 => ("MarketDays$Giving", "number", "I", true)
  | 1 => ("MarketDays$Giving", "towns", "I", true)
  | _ => ("MarketDays$Giving", "day", "[B", true)
def tyX11 : Nat → FieldType := fun k => match k with
  | 0 => .int
  | 1 => .int
  | _ => .array .byte
abbrev wsX110 : List Cond := u_ws RX11 TX11 3
theorem nmX11 : ∀ a, a < 3 → ∀ b, b < 3 → a ≠ b → (TX11 a).2.1 ≠ (TX11 b).2.1 := by decide +kernel
theorem tyX11_ok : ∀ k, k < 3 → parseFieldDescriptor (TX11 k).2.2.1 = some (tyX11 k) := by decide +kernel
abbrev cX11_init : ByteArray := prog_15_method_1_code
def yX11_init : MethodName := ⟨RX11, "<init>", "(I[B)V"⟩
def dkwX11_init_0 : List UInt8 := [42, 27, 44, 183, 0, 1, 177]
abbrev dktX11_init_0 : List UInt8 := dkwX11_init_0 ++ []
theorem dksX11_init_0 : cX11_init.data.toList.drop 0 = dktX11_init_0 := by decide +kernel
theorem dX11_init_0 : decode cX11_init 0 = .ok (.aload_n 0, 1) := dk_42 (dk_at dksX11_init_0 0 rfl rfl)
theorem dX11_init_1 : decode cX11_init 1 = .ok (.iload_n 1, 1) := dk_27 (dk_at dksX11_init_0 1 rfl rfl)
theorem dX11_init_2 : decode cX11_init 2 = .ok (.aload_n 2, 1) := dk_44 (dk_at dksX11_init_0 2 rfl rfl)
theorem dX11_init_3 : decode cX11_init 3 = .ok (.invokespecial 1, 3) := dk_183 0 1 (dk_at dksX11_init_0 3 rfl rfl)
theorem dX11_init_6 : decode cX11_init 6 = .ok (.return_, 1) := dk_177 (dk_at dksX11_init_0 6 rfl rfl)
abbrev cX11_daysOf : ByteArray := prog_15_method_3_code
def yX11_daysOf : MethodName := ⟨RX11, "daysOf", "(III)I"⟩
def dkwX11_daysOf_1 : List UInt8 := [112, 120, 172]
abbrev dktX11_daysOf_1 : List UInt8 := dkwX11_daysOf_1 ++ []
def dkwX11_daysOf_0 : List UInt8 := [42, 27, 28, 29, 183, 0, 7, 154, 0, 7, 3, 167, 0, 15, 4, 42, 180, 0, 11, 27, 51, 28, 96, 29]
abbrev dktX11_daysOf_0 : List UInt8 := dkwX11_daysOf_0 ++ dktX11_daysOf_1
theorem dksX11_daysOf_0 : cX11_daysOf.data.toList.drop 0 = dktX11_daysOf_0 := by decide +kernel
theorem dksX11_daysOf_1 : cX11_daysOf.data.toList.drop 24 = dktX11_daysOf_1 := dk_seg dksX11_daysOf_0 24 rfl rfl
theorem dX11_daysOf_0 : decode cX11_daysOf 0 = .ok (.aload_n 0, 1) := dk_42 (dk_at dksX11_daysOf_0 0 rfl rfl)
theorem dX11_daysOf_1 : decode cX11_daysOf 1 = .ok (.iload_n 1, 1) := dk_27 (dk_at dksX11_daysOf_0 1 rfl rfl)
theorem dX11_daysOf_2 : decode cX11_daysOf 2 = .ok (.iload_n 2, 1) := dk_28 (dk_at dksX11_daysOf_0 2 rfl rfl)
theorem dX11_daysOf_3 : decode cX11_daysOf 3 = .ok (.iload_n 3, 1) := dk_29 (dk_at dksX11_daysOf_0 3 rfl rfl)
theorem dX11_daysOf_4 : decode cX11_daysOf 4 = .ok (.invokespecial 7, 3) := dk_183 0 7 (dk_at dksX11_daysOf_0 4 rfl rfl)
theorem dX11_daysOf_7 : decode cX11_daysOf 7 = .ok (.ifCond .ne 7, 3) := dk_154 0 7 (dk_at dksX11_daysOf_0 7 rfl rfl)
theorem dX11_daysOf_10 : decode cX11_daysOf 10 = .ok (.iconst 0, 1) := dk_3 (dk_at dksX11_daysOf_0 10 rfl rfl)
theorem dX11_daysOf_11 : decode cX11_daysOf 11 = .ok (.goto 15, 3) := dk_167 0 15 (dk_at dksX11_daysOf_0 11 rfl rfl)
theorem dX11_daysOf_14 : decode cX11_daysOf 14 = .ok (.iconst 1, 1) := dk_4 (dk_at dksX11_daysOf_0 14 rfl rfl)
theorem dX11_daysOf_15 : decode cX11_daysOf 15 = .ok (.aload_n 0, 1) := dk_42 (dk_at dksX11_daysOf_0 15 rfl rfl)
theorem dX11_daysOf_16 : decode cX11_daysOf 16 = .ok (.getfield 11, 3) := dk_180 0 11 (dk_at dksX11_daysOf_0 16 rfl rfl)
theorem dX11_daysOf_19 : decode cX11_daysOf 19 = .ok (.iload_n 1, 1) := dk_27 (dk_at dksX11_daysOf_0 19 rfl rfl)
theorem dX11_daysOf_20 : decode cX11_daysOf 20 = .ok (.baload, 1) := dk_51 (dk_at dksX11_daysOf_0 20 rfl rfl)
theorem dX11_daysOf_21 : decode cX11_daysOf 21 = .ok (.iload_n 2, 1) := dk_28 (dk_at dksX11_daysOf_0 21 rfl rfl)
theorem dX11_daysOf_22 : decode cX11_daysOf 22 = .ok (.iadd, 1) := dk_96 (dk_at dksX11_daysOf_0 22 rfl rfl)
theorem dX11_daysOf_23 : decode cX11_daysOf 23 = .ok (.iload_n 3, 1) := dk_29 (dk_at dksX11_daysOf_0 23 rfl rfl)
theorem dX11_daysOf_24 : decode cX11_daysOf 24 = .ok (.irem, 1) := dk_112 (dk_at dksX11_daysOf_1 0 rfl rfl)
theorem dX11_daysOf_25 : decode cX11_daysOf 25 = .ok (.ishl, 1) := dk_120 (dk_at dksX11_daysOf_1 1 rfl rfl)
theorem dX11_daysOf_26 : decode cX11_daysOf 26 = .ok (.ireturn, 1) := dk_172 (dk_at dksX11_daysOf_1 2 rfl rfl)
abbrev cX11_worth : ByteArray := prog_15_method_4_code
def yX11_worth : MethodName := ⟨RX11, "worth", "(II)I"⟩
def dkwX11_worth_0 : List UInt8 := [42, 27, 28, 183, 0, 17, 5, 100, 172]
abbrev dktX11_worth_0 : List UInt8 := dkwX11_worth_0 ++ []
theorem dksX11_worth_0 : cX11_worth.data.toList.drop 0 = dktX11_worth_0 := by decide +kernel
theorem dX11_worth_0 : decode cX11_worth 0 = .ok (.aload_n 0, 1) := dk_42 (dk_at dksX11_worth_0 0 rfl rfl)
theorem dX11_worth_1 : decode cX11_worth 1 = .ok (.iload_n 1, 1) := dk_27 (dk_at dksX11_worth_0 1 rfl rfl)
theorem dX11_worth_2 : decode cX11_worth 2 = .ok (.iload_n 2, 1) := dk_28 (dk_at dksX11_worth_0 2 rfl rfl)
theorem dX11_worth_3 : decode cX11_worth 3 = .ok (.invokespecial 17, 3) := dk_183 0 17 (dk_at dksX11_worth_0 3 rfl rfl)
theorem dX11_worth_6 : decode cX11_worth 6 = .ok (.iconst 2, 1) := dk_5 (dk_at dksX11_worth_0 6 rfl rfl)
theorem dX11_worth_7 : decode cX11_worth 7 = .ok (.isub, 1) := dk_100 (dk_at dksX11_worth_0 7 rfl rfl)
theorem dX11_worth_8 : decode cX11_worth 8 = .ok (.ireturn, 1) := dk_172 (dk_at dksX11_worth_0 8 rfl rfl)
abbrev cX11_kind : ByteArray := prog_15_method_2_code
def yX11_kind : MethodName := ⟨RX11, "kind", "()I"⟩
theorem dX11_kind_0 : decode cX11_kind 0 = .ok (.iconst 3, 1) := by decide +kernel
theorem dX11_kind_1 : decode cX11_kind 1 = .ok (.ireturn, 1) := by decide +kernel
theorem q111 : (Jvm.Cond.initialized "MarketDays$Turn") ∈ lw_all := lw_g (lw_at lw_m1 29 rfl) rfl
theorem q920 : (Jvm.Cond.fieldLink "MarketDays$Turn" (11 : Nat) "MarketDays$Turn" "day" "[B") ∈ lw_all := lw_g (lw_at lw_m4 118 rfl) rfl
theorem q921 : (Jvm.Cond.sameField "MarketDays$Turn" "MarketDays$Giving" "day" "[B") ∈ lw_all := lw_g (lw_at lw_m4 119 rfl) rfl
theorem q953 : (Jvm.Cond.instantiable "MarketDays$Turn" (3 : Nat)) ∈ lw_all := lw_g (lw_at lw_m4 151 rfl) rfl
theorem q955 : (Jvm.Cond.instanceMethod ({ cls := "MarketDays$Turn", name := "<init>", desc := "(I[B)V" } : Jvm.MethodName)) ∈ lw_all := lw_g (lw_at lw_m4 153 rfl) rfl
theorem q956 : (Jvm.Cond.code ({ cls := "MarketDays$Turn", name := "<init>", desc := "(I[B)V" } : Jvm.MethodName) prog_15_method_1_code (3 : Nat) (Option.none : Option Jvm.ClassFile.FieldType)) ∈ lw_all := lw_g (lw_at lw_m4 154 rfl) rfl
theorem q957 : (Jvm.Cond.methodLink "MarketDays$Turn" (1 : Nat) ({ cls := "MarketDays$Giving", name := "<init>", desc := "(I[B)V" } : Jvm.MethodName)) ∈ lw_all := lw_g (lw_at lw_m4 155 rfl) rfl
theorem q958 : (Jvm.Cond.laysFinal "MarketDays$Turn" "MarketDays$Giving" "number" "I") ∈ lw_all := lw_g (lw_at lw_m4 156 rfl) rfl
theorem q959 : (Jvm.Cond.laysFinal "MarketDays$Turn" "MarketDays$Giving" "towns" "I") ∈ lw_all := lw_g (lw_at lw_m4 157 rfl) rfl
theorem q960 : (Jvm.Cond.laysFinal "MarketDays$Turn" "MarketDays$Giving" "day" "[B") ∈ lw_all := lw_g (lw_at lw_m4 158 rfl) rfl
theorem q961 : (Jvm.Cond.superclass "MarketDays$Turn" "MarketDays$Giving") ∈ lw_all := lw_g (lw_at lw_m4 159 rfl) rfl
theorem q991 : (Jvm.Cond.selects "MarketDays$Turn" ({ cls := "MarketDays$Giving", name := "mostTold", desc := "(I)I" } : Jvm.MethodName) ({ cls := "MarketDays$Giving", name := "mostTold", desc := "(I)I" } : Jvm.MethodName)) ∈ lw_all := lw_g (lw_at lw_m4 189 rfl) rfl
theorem q1029 : (Jvm.Cond.selects "MarketDays$Turn" ({ cls := "java/lang/Object", name := "getClass", desc := "()Ljava/lang/Class;" } : Jvm.MethodName) ({ cls := "java/lang/Object", name := "getClass", desc := "()Ljava/lang/Class;" } : Jvm.MethodName)) ∈ lw_all := lw_g (lw_at lw_m4 227 rfl) rfl
theorem q1079 : (Jvm.Cond.instanceMethod ({ cls := "MarketDays$Turn", name := "daysOf", desc := "(III)I" } : Jvm.MethodName)) ∈ lw_all := lw_g (lw_at lw_m5 37 rfl) rfl
theorem q1080 : (Jvm.Cond.code ({ cls := "MarketDays$Turn", name := "daysOf", desc := "(III)I" } : Jvm.MethodName) prog_15_method_3_code (4 : Nat) (Option.some Jvm.ClassFile.FieldType.int)) ∈ lw_all := lw_g (lw_at lw_m5 38 rfl) rfl
theorem q1081 : (Jvm.Cond.methodLink "MarketDays$Turn" (7 : Nat) ({ cls := "MarketDays$Giving", name := "daysOf", desc := "(III)I" } : Jvm.MethodName)) ∈ lw_all := lw_g (lw_at lw_m5 39 rfl) rfl
theorem q1083 : (Jvm.Cond.selects "MarketDays$Turn" ({ cls := "MarketDays$Giving", name := "daysOf", desc := "(III)I" } : Jvm.MethodName) ({ cls := "MarketDays$Turn", name := "daysOf", desc := "(III)I" } : Jvm.MethodName)) ∈ lw_all := lw_g (lw_at lw_m5 41 rfl) rfl
theorem q1098 : (Jvm.Cond.selects "MarketDays$Turn" ({ cls := "MarketDays$Giving", name := "moves", desc := "()Z" } : Jvm.MethodName) ({ cls := "MarketDays$Giving", name := "moves", desc := "()Z" } : Jvm.MethodName)) ∈ lw_all := lw_g (lw_at lw_m5 56 rfl) rfl
theorem q1150 : (Jvm.Cond.instanceMethod ({ cls := "MarketDays$Turn", name := "worth", desc := "(II)I" } : Jvm.MethodName)) ∈ lw_all := lw_g (lw_at lw_m5 108 rfl) rfl
theorem q1151 : (Jvm.Cond.code ({ cls := "MarketDays$Turn", name := "worth", desc := "(II)I" } : Jvm.MethodName) prog_15_method_4_code (3 : Nat) (Option.some Jvm.ClassFile.FieldType.int)) ∈ lw_all := lw_g (lw_at lw_m5 109 rfl) rfl
theorem q1152 : (Jvm.Cond.methodLink "MarketDays$Turn" (17 : Nat) ({ cls := "MarketDays$Giving", name := "worth", desc := "(II)I" } : Jvm.MethodName)) ∈ lw_all := lw_g (lw_at lw_m5 110 rfl) rfl
theorem q1157 : (Jvm.Cond.selects "MarketDays$Turn" ({ cls := "MarketDays$Giving", name := "worth", desc := "(II)I" } : Jvm.MethodName) ({ cls := "MarketDays$Turn", name := "worth", desc := "(II)I" } : Jvm.MethodName)) ∈ lw_all := lw_g (lw_at lw_m5 115 rfl) rfl
theorem q1286 : (Jvm.Cond.instanceMethod ({ cls := "MarketDays$Turn", name := "kind", desc := "()I" } : Jvm.MethodName)) ∈ lw_all := lw_g (lw_at lw_m6 4 rfl) rfl
theorem q1287 : (Jvm.Cond.code ({ cls := "MarketDays$Turn", name := "kind", desc := "()I" } : Jvm.MethodName) prog_15_method_2_code (1 : Nat) (Option.some Jvm.ClassFile.FieldType.int)) ∈ lw_all := lw_g (lw_at lw_m6 5 rfl) rfl
theorem q1292 : (Jvm.Cond.selects "MarketDays$Turn" ({ cls := "MarketDays$Giving", name := "kind", desc := "()I" } : Jvm.MethodName) ({ cls := "MarketDays$Turn", name := "kind", desc := "()I" } : Jvm.MethodName)) ∈ lw_all := lw_g (lw_at lw_m6 10 rfl) rfl
theorem q1943 : (Jvm.Cond.sameMethod "MarketDays$Turn" "MarketDays$Turn" "daysOf" "(III)I") ∈ lw_all := lw_g (lw_at lw_m8 181 rfl) rfl
theorem q1945 : (Jvm.Cond.sameMethod "MarketDays$Turn" "MarketDays$Turn" "kind" "()I") ∈ lw_all := lw_g (lw_at lw_m8 183 rfl) rfl
theorem q1950 : (Jvm.Cond.castable "MarketDays$Turn" "MarketDays$Giving") ∈ lw_tbl := lw_at lw_m8 188 rfl
theorem q1969 : (Jvm.Cond.castable "MarketDays$Turn" "java/lang/Object") ∈ lw_tbl := lw_at lw_m8 207 rfl
theorem in_X11 : ∀ w ∈ wsX110, w ∈ lw_all := lw_in wsX110 [958, 959, 960] (by decide +kernel) (by decide +kernel)

/-! MarketDays$Season -/
set_option maxRecDepth 100000
def RX12 : String := "MarketDays$Season"
def TX12 : u_T := fun k => match k with
  | 0 => ("MarketDays$Giving", "number", "I", true)
  | 1 => ("MarketDays$Giving", "towns", "I", true)
  | _ => ("MarketDays$Giving", "day", "[B", true)
def tyX12 : Nat → FieldType := fun k => match k with
  | 0 => .int
  | 1 => .int
  | _ => .array .byte
abbrev wsX120 : List Cond := u_ws RX12 TX12 3
theorem nmX12 : ∀ a, a < 3 → ∀ b, b < 3 → a ≠ b → (TX12 a).2.1 ≠ (TX12 b).2.1 := by decide +kernel
theorem tyX12_ok : ∀ k, k < 3 → parseFieldDescriptor (TX12 k).2.2.1 = some (tyX12 k) := by decide +kernel
abbrev cX12_init : ByteArray := prog_11_method_1_code
def yX12_init : MethodName := ⟨RX12, "<init>", "(I[B)V"⟩
def dkwX12_init_0 : List UInt8 := [42, 27, 44, 183, 0, 1, 177]
abbrev dktX12_init_0 : List UInt8 := dkwX12_init_0 ++ []
theorem dksX12_init_0 : cX12_init.data.toList.drop 0 = dktX12_init_0 := by decide +kernel
theorem dX12_init_0 : decode cX12_init 0 = .ok (.aload_n 0, 1) := dk_42 (dk_at dksX12_init_0 0 rfl rfl)
theorem dX12_init_1 : decode cX12_init 1 = .ok (.iload_n 1, 1) := dk_27 (dk_at dksX12_init_0 1 rfl rfl)
theorem dX12_init_2 : decode cX12_init 2 = .ok (.aload_n 2, 1) := dk_44 (dk_at dksX12_init_0 2 rfl rfl)
theorem dX12_init_3 : decode cX12_init 3 = .ok (.invokespecial 1, 3) := dk_183 0 1 (dk_at dksX12_init_0 3 rfl rfl)
theorem dX12_init_6 : decode cX12_init 6 = .ok (.return_, 1) := dk_177 (dk_at dksX12_init_0 6 rfl rfl)
abbrev cX12_daysOf : ByteArray := prog_11_method_3_code
def yX12_daysOf : MethodName := ⟨RX12, "daysOf", "(III)I"⟩
def dkwX12_daysOf_0 : List UInt8 := [42, 27, 28, 5, 112, 154, 0, 7, 28, 167, 0, 6, 28, 5, 96, 29, 183, 0, 11, 172]
abbrev dktX12_daysOf_0 : List UInt8 := dkwX12_daysOf_0 ++ []
theorem dksX12_daysOf_0 : cX12_daysOf.data.toList.drop 0 = dktX12_daysOf_0 := by decide +kernel
theorem dX12_daysOf_0 : decode cX12_daysOf 0 = .ok (.aload_n 0, 1) := dk_42 (dk_at dksX12_daysOf_0 0 rfl rfl)
theorem dX12_daysOf_1 : decode cX12_daysOf 1 = .ok (.iload_n 1, 1) := dk_27 (dk_at dksX12_daysOf_0 1 rfl rfl)
theorem dX12_daysOf_2 : decode cX12_daysOf 2 = .ok (.iload_n 2, 1) := dk_28 (dk_at dksX12_daysOf_0 2 rfl rfl)
theorem dX12_daysOf_3 : decode cX12_daysOf 3 = .ok (.iconst 2, 1) := dk_5 (dk_at dksX12_daysOf_0 3 rfl rfl)
theorem dX12_daysOf_4 : decode cX12_daysOf 4 = .ok (.irem, 1) := dk_112 (dk_at dksX12_daysOf_0 4 rfl rfl)
theorem dX12_daysOf_5 : decode cX12_daysOf 5 = .ok (.ifCond .ne 7, 3) := dk_154 0 7 (dk_at dksX12_daysOf_0 5 rfl rfl)
theorem dX12_daysOf_8 : decode cX12_daysOf 8 = .ok (.iload_n 2, 1) := dk_28 (dk_at dksX12_daysOf_0 8 rfl rfl)
theorem dX12_daysOf_9 : decode cX12_daysOf 9 = .ok (.goto 6, 3) := dk_167 0 6 (dk_at dksX12_daysOf_0 9 rfl rfl)
theorem dX12_daysOf_12 : decode cX12_daysOf 12 = .ok (.iload_n 2, 1) := dk_28 (dk_at dksX12_daysOf_0 12 rfl rfl)
theorem dX12_daysOf_13 : decode cX12_daysOf 13 = .ok (.iconst 2, 1) := dk_5 (dk_at dksX12_daysOf_0 13 rfl rfl)
theorem dX12_daysOf_14 : decode cX12_daysOf 14 = .ok (.iadd, 1) := dk_96 (dk_at dksX12_daysOf_0 14 rfl rfl)
theorem dX12_daysOf_15 : decode cX12_daysOf 15 = .ok (.iload_n 3, 1) := dk_29 (dk_at dksX12_daysOf_0 15 rfl rfl)
theorem dX12_daysOf_16 : decode cX12_daysOf 16 = .ok (.invokespecial 11, 3) := dk_183 0 11 (dk_at dksX12_daysOf_0 16 rfl rfl)
theorem dX12_daysOf_19 : decode cX12_daysOf 19 = .ok (.ireturn, 1) := dk_172 (dk_at dksX12_daysOf_0 19 rfl rfl)
abbrev cX12_kind : ByteArray := prog_11_method_2_code
def yX12_kind : MethodName := ⟨RX12, "kind", "()I"⟩
def dkwX12_kind_0 : List UInt8 := [42, 183, 0, 7, 4, 96, 172]
abbrev dktX12_kind_0 : List UInt8 := dkwX12_kind_0 ++ []
theorem dksX12_kind_0 : cX12_kind.data.toList.drop 0 = dktX12_kind_0 := by decide +kernel
theorem dX12_kind_0 : decode cX12_kind 0 = .ok (.aload_n 0, 1) := dk_42 (dk_at dksX12_kind_0 0 rfl rfl)
theorem dX12_kind_1 : decode cX12_kind 1 = .ok (.invokespecial 7, 3) := dk_183 0 7 (dk_at dksX12_kind_0 1 rfl rfl)
theorem dX12_kind_4 : decode cX12_kind 4 = .ok (.iconst 1, 1) := dk_4 (dk_at dksX12_kind_0 4 rfl rfl)
theorem dX12_kind_5 : decode cX12_kind 5 = .ok (.iadd, 1) := dk_96 (dk_at dksX12_kind_0 5 rfl rfl)
theorem dX12_kind_6 : decode cX12_kind 6 = .ok (.ireturn, 1) := dk_172 (dk_at dksX12_kind_0 6 rfl rfl)
theorem q112 : (Jvm.Cond.initialized "MarketDays$Season") ∈ lw_all := lw_g (lw_at lw_m1 30 rfl) rfl
theorem q963 : (Jvm.Cond.instantiable "MarketDays$Season" (3 : Nat)) ∈ lw_all := lw_g (lw_at lw_m4 161 rfl) rfl
theorem q965 : (Jvm.Cond.instanceMethod ({ cls := "MarketDays$Season", name := "<init>", desc := "(I[B)V" } : Jvm.MethodName)) ∈ lw_all := lw_g (lw_at lw_m4 163 rfl) rfl
theorem q966 : (Jvm.Cond.code ({ cls := "MarketDays$Season", name := "<init>", desc := "(I[B)V" } : Jvm.MethodName) prog_11_method_1_code (3 : Nat) (Option.none : Option Jvm.ClassFile.FieldType)) ∈ lw_all := lw_g (lw_at lw_m4 164 rfl) rfl
theorem q967 : (Jvm.Cond.methodLink "MarketDays$Season" (1 : Nat) ({ cls := "MarketDays$Turn", name := "<init>", desc := "(I[B)V" } : Jvm.MethodName)) ∈ lw_all := lw_g (lw_at lw_m4 165 rfl) rfl
theorem q968 : (Jvm.Cond.laysFinal "MarketDays$Season" "MarketDays$Giving" "number" "I") ∈ lw_all := lw_g (lw_at lw_m4 166 rfl) rfl
theorem q969 : (Jvm.Cond.laysFinal "MarketDays$Season" "MarketDays$Giving" "towns" "I") ∈ lw_all := lw_g (lw_at lw_m4 167 rfl) rfl
theorem q970 : (Jvm.Cond.laysFinal "MarketDays$Season" "MarketDays$Giving" "day" "[B") ∈ lw_all := lw_g (lw_at lw_m4 168 rfl) rfl
theorem q971 : (Jvm.Cond.superclass "MarketDays$Season" "MarketDays$Turn") ∈ lw_all := lw_g (lw_at lw_m4 169 rfl) rfl
theorem q989 : (Jvm.Cond.selects "MarketDays$Season" ({ cls := "MarketDays$Giving", name := "mostTold", desc := "(I)I" } : Jvm.MethodName) ({ cls := "MarketDays$Giving", name := "mostTold", desc := "(I)I" } : Jvm.MethodName)) ∈ lw_all := lw_g (lw_at lw_m4 187 rfl) rfl
theorem q1025 : (Jvm.Cond.selects "MarketDays$Season" ({ cls := "java/lang/Object", name := "getClass", desc := "()Ljava/lang/Class;" } : Jvm.MethodName) ({ cls := "java/lang/Object", name := "getClass", desc := "()Ljava/lang/Class;" } : Jvm.MethodName)) ∈ lw_all := lw_g (lw_at lw_m4 223 rfl) rfl
theorem q1075 : (Jvm.Cond.selects "MarketDays$Season" ({ cls := "MarketDays$Giving", name := "daysOf", desc := "(III)I" } : Jvm.MethodName) ({ cls := "MarketDays$Season", name := "daysOf", desc := "(III)I" } : Jvm.MethodName)) ∈ lw_all := lw_g (lw_at lw_m5 33 rfl) rfl
theorem q1076 : (Jvm.Cond.instanceMethod ({ cls := "MarketDays$Season", name := "daysOf", desc := "(III)I" } : Jvm.MethodName)) ∈ lw_all := lw_g (lw_at lw_m5 34 rfl) rfl
theorem q1077 : (Jvm.Cond.code ({ cls := "MarketDays$Season", name := "daysOf", desc := "(III)I" } : Jvm.MethodName) prog_11_method_3_code (4 : Nat) (Option.some Jvm.ClassFile.FieldType.int)) ∈ lw_all := lw_g (lw_at lw_m5 35 rfl) rfl
theorem q1078 : (Jvm.Cond.methodLink "MarketDays$Season" (11 : Nat) ({ cls := "MarketDays$Turn", name := "daysOf", desc := "(III)I" } : Jvm.MethodName)) ∈ lw_all := lw_g (lw_at lw_m5 36 rfl) rfl
theorem q1094 : (Jvm.Cond.selects "MarketDays$Season" ({ cls := "MarketDays$Giving", name := "moves", desc := "()Z" } : Jvm.MethodName) ({ cls := "MarketDays$Giving", name := "moves", desc := "()Z" } : Jvm.MethodName)) ∈ lw_all := lw_g (lw_at lw_m5 52 rfl) rfl
theorem q1149 : (Jvm.Cond.selects "MarketDays$Season" ({ cls := "MarketDays$Giving", name := "worth", desc := "(II)I" } : Jvm.MethodName) ({ cls := "MarketDays$Turn", name := "worth", desc := "(II)I" } : Jvm.MethodName)) ∈ lw_all := lw_g (lw_at lw_m5 107 rfl) rfl
theorem q1282 : (Jvm.Cond.selects "MarketDays$Season" ({ cls := "MarketDays$Giving", name := "kind", desc := "()I" } : Jvm.MethodName) ({ cls := "MarketDays$Season", name := "kind", desc := "()I" } : Jvm.MethodName)) ∈ lw_all := lw_g (lw_at lw_m6 0 rfl) rfl
theorem q1283 : (Jvm.Cond.instanceMethod ({ cls := "MarketDays$Season", name := "kind", desc := "()I" } : Jvm.MethodName)) ∈ lw_all := lw_g (lw_at lw_m6 1 rfl) rfl
theorem q1284 : (Jvm.Cond.code ({ cls := "MarketDays$Season", name := "kind", desc := "()I" } : Jvm.MethodName) prog_11_method_2_code (1 : Nat) (Option.some Jvm.ClassFile.FieldType.int)) ∈ lw_all := lw_g (lw_at lw_m6 2 rfl) rfl
theorem q1285 : (Jvm.Cond.methodLink "MarketDays$Season" (7 : Nat) ({ cls := "MarketDays$Turn", name := "kind", desc := "()I" } : Jvm.MethodName)) ∈ lw_all := lw_g (lw_at lw_m6 3 rfl) rfl
theorem q1948 : (Jvm.Cond.castable "MarketDays$Season" "MarketDays$Giving") ∈ lw_tbl := lw_at lw_m8 186 rfl
theorem q1953 : (Jvm.Cond.castable "MarketDays$Season" "MarketDays$Turn") ∈ lw_tbl := lw_at lw_m8 191 rfl
theorem q1970 : (Jvm.Cond.castable "MarketDays$Season" "java/lang/Object") ∈ lw_tbl := lw_at lw_m8 208 rfl
theorem in_X12 : ∀ w ∈ wsX120, w ∈ lw_all := lw_in wsX120 [968, 969, 970] (by decide +kernel) (by decide +kernel)

/-! MarketDays$Told -/
set_option maxRecDepth 100000
def RX13 : String := "MarketDays$Told"
def TX13 : u_T := fun k => match k with
  | 0 => ("MarketDays$Giving", "number", "I", true)
  | 1 => ("MarketDays$Giving", "towns", "I", true)
  | _ => ("MarketDays$Giving", "day", "[B", true)
def tyX13 : Nat → FieldType := fun k => match k with
  | 0 => .int
  | 1 => .int
  | _ => .array .byte
abbrev wsX130 : List Cond := u_ws RX13 TX13 3
theorem nmX13 : ∀ a, a < 3 → ∀ b, b < 3 → a ≠ b → (TX13 a).2.1 ≠ (TX13 b).2.1 := by decide +kernel
theorem tyX13_ok : ∀ k, k < 3 → parseFieldDescriptor (TX13 k).2.2.1 = some (tyX13 k) := by decide +kernel
abbrev cX13_init : ByteArray := prog_14_method_1_code
def yX13_init : MethodName := ⟨RX13, "<init>", "(I[B)V"⟩
def dkwX13_init_0 : List UInt8 := [42, 27, 44, 183, 0, 1, 177]
abbrev dktX13_init_0 : List UInt8 := dkwX13_init_0 ++ []
theorem dksX13_init_0 : cX13_init.data.toList.drop 0 = dktX13_init_0 := by decide +kernel
theorem dX13_init_0 : decode cX13_init 0 = .ok (.aload_n 0, 1) := dk_42 (dk_at dksX13_init_0 0 rfl rfl)
theorem dX13_init_1 : decode cX13_init 1 = .ok (.iload_n 1, 1) := dk_27 (dk_at dksX13_init_0 1 rfl rfl)
theorem dX13_init_2 : decode cX13_init 2 = .ok (.aload_n 2, 1) := dk_44 (dk_at dksX13_init_0 2 rfl rfl)
theorem dX13_init_3 : decode cX13_init 3 = .ok (.invokespecial 1, 3) := dk_183 0 1 (dk_at dksX13_init_0 3 rfl rfl)
theorem dX13_init_6 : decode cX13_init 6 = .ok (.return_, 1) := dk_177 (dk_at dksX13_init_0 6 rfl rfl)
abbrev cX13_moves : ByteArray := prog_14_method_3_code
def yX13_moves : MethodName := ⟨RX13, "moves", "()Z"⟩
theorem dX13_moves_0 : decode cX13_moves 0 = .ok (.iconst 0, 1) := by decide +kernel
theorem dX13_moves_1 : decode cX13_moves 1 = .ok (.ireturn, 1) := by decide +kernel
abbrev cX13_worth : ByteArray := prog_14_method_4_code
def yX13_worth : MethodName := ⟨RX13, "worth", "(II)I"⟩
def dkwX13_worth_0 : List UInt8 := [42, 27, 28, 183, 0, 11, 4, 96, 172]
abbrev dktX13_worth_0 : List UInt8 := dkwX13_worth_0 ++ []
theorem dksX13_worth_0 : cX13_worth.data.toList.drop 0 = dktX13_worth_0 := by decide +kernel
theorem dX13_worth_0 : decode cX13_worth 0 = .ok (.aload_n 0, 1) := dk_42 (dk_at dksX13_worth_0 0 rfl rfl)
theorem dX13_worth_1 : decode cX13_worth 1 = .ok (.iload_n 1, 1) := dk_27 (dk_at dksX13_worth_0 1 rfl rfl)
theorem dX13_worth_2 : decode cX13_worth 2 = .ok (.iload_n 2, 1) := dk_28 (dk_at dksX13_worth_0 2 rfl rfl)
theorem dX13_worth_3 : decode cX13_worth 3 = .ok (.invokespecial 11, 3) := dk_183 0 11 (dk_at dksX13_worth_0 3 rfl rfl)
theorem dX13_worth_6 : decode cX13_worth 6 = .ok (.iconst 1, 1) := dk_4 (dk_at dksX13_worth_0 6 rfl rfl)
theorem dX13_worth_7 : decode cX13_worth 7 = .ok (.iadd, 1) := dk_96 (dk_at dksX13_worth_0 7 rfl rfl)
theorem dX13_worth_8 : decode cX13_worth 8 = .ok (.ireturn, 1) := dk_172 (dk_at dksX13_worth_0 8 rfl rfl)
abbrev cX13_kind : ByteArray := prog_14_method_2_code
def yX13_kind : MethodName := ⟨RX13, "kind", "()I"⟩
def dkwX13_kind_0 : List UInt8 := [42, 183, 0, 7, 7, 96, 172]
abbrev dktX13_kind_0 : List UInt8 := dkwX13_kind_0 ++ []
theorem dksX13_kind_0 : cX13_kind.data.toList.drop 0 = dktX13_kind_0 := by decide +kernel
theorem dX13_kind_0 : decode cX13_kind 0 = .ok (.aload_n 0, 1) := dk_42 (dk_at dksX13_kind_0 0 rfl rfl)
theorem dX13_kind_1 : decode cX13_kind 1 = .ok (.invokespecial 7, 3) := dk_183 0 7 (dk_at dksX13_kind_0 1 rfl rfl)
theorem dX13_kind_4 : decode cX13_kind 4 = .ok (.iconst 4, 1) := dk_7 (dk_at dksX13_kind_0 4 rfl rfl)
theorem dX13_kind_5 : decode cX13_kind 5 = .ok (.iadd, 1) := dk_96 (dk_at dksX13_kind_0 5 rfl rfl)
theorem dX13_kind_6 : decode cX13_kind 6 = .ok (.ireturn, 1) := dk_172 (dk_at dksX13_kind_0 6 rfl rfl)
theorem q113 : (Jvm.Cond.initialized "MarketDays$Told") ∈ lw_all := lw_g (lw_at lw_m1 31 rfl) rfl
theorem q973 : (Jvm.Cond.instantiable "MarketDays$Told" (3 : Nat)) ∈ lw_all := lw_g (lw_at lw_m4 171 rfl) rfl
theorem q975 : (Jvm.Cond.instanceMethod ({ cls := "MarketDays$Told", name := "<init>", desc := "(I[B)V" } : Jvm.MethodName)) ∈ lw_all := lw_g (lw_at lw_m4 173 rfl) rfl
theorem q976 : (Jvm.Cond.code ({ cls := "MarketDays$Told", name := "<init>", desc := "(I[B)V" } : Jvm.MethodName) prog_14_method_1_code (3 : Nat) (Option.none : Option Jvm.ClassFile.FieldType)) ∈ lw_all := lw_g (lw_at lw_m4 174 rfl) rfl
theorem q977 : (Jvm.Cond.methodLink "MarketDays$Told" (1 : Nat) ({ cls := "MarketDays$Part", name := "<init>", desc := "(I[B)V" } : Jvm.MethodName)) ∈ lw_all := lw_g (lw_at lw_m4 175 rfl) rfl
theorem q978 : (Jvm.Cond.laysFinal "MarketDays$Told" "MarketDays$Giving" "number" "I") ∈ lw_all := lw_g (lw_at lw_m4 176 rfl) rfl
theorem q979 : (Jvm.Cond.laysFinal "MarketDays$Told" "MarketDays$Giving" "towns" "I") ∈ lw_all := lw_g (lw_at lw_m4 177 rfl) rfl
theorem q980 : (Jvm.Cond.laysFinal "MarketDays$Told" "MarketDays$Giving" "day" "[B") ∈ lw_all := lw_g (lw_at lw_m4 178 rfl) rfl
theorem q981 : (Jvm.Cond.superclass "MarketDays$Told" "MarketDays$Part") ∈ lw_all := lw_g (lw_at lw_m4 179 rfl) rfl
theorem q990 : (Jvm.Cond.selects "MarketDays$Told" ({ cls := "MarketDays$Giving", name := "mostTold", desc := "(I)I" } : Jvm.MethodName) ({ cls := "MarketDays$Part", name := "mostTold", desc := "(I)I" } : Jvm.MethodName)) ∈ lw_all := lw_g (lw_at lw_m4 188 rfl) rfl
theorem q1028 : (Jvm.Cond.selects "MarketDays$Told" ({ cls := "java/lang/Object", name := "getClass", desc := "()Ljava/lang/Class;" } : Jvm.MethodName) ({ cls := "java/lang/Object", name := "getClass", desc := "()Ljava/lang/Class;" } : Jvm.MethodName)) ∈ lw_all := lw_g (lw_at lw_m4 226 rfl) rfl
theorem q1082 : (Jvm.Cond.selects "MarketDays$Told" ({ cls := "MarketDays$Giving", name := "daysOf", desc := "(III)I" } : Jvm.MethodName) ({ cls := "MarketDays$Giving", name := "daysOf", desc := "(III)I" } : Jvm.MethodName)) ∈ lw_all := lw_g (lw_at lw_m5 40 rfl) rfl
theorem q1095 : (Jvm.Cond.selects "MarketDays$Told" ({ cls := "MarketDays$Giving", name := "moves", desc := "()Z" } : Jvm.MethodName) ({ cls := "MarketDays$Told", name := "moves", desc := "()Z" } : Jvm.MethodName)) ∈ lw_all := lw_g (lw_at lw_m5 53 rfl) rfl
theorem q1096 : (Jvm.Cond.instanceMethod ({ cls := "MarketDays$Told", name := "moves", desc := "()Z" } : Jvm.MethodName)) ∈ lw_all := lw_g (lw_at lw_m5 54 rfl) rfl
theorem q1097 : (Jvm.Cond.code ({ cls := "MarketDays$Told", name := "moves", desc := "()Z" } : Jvm.MethodName) prog_14_method_3_code (1 : Nat) (Option.some Jvm.ClassFile.FieldType.boolean)) ∈ lw_all := lw_g (lw_at lw_m5 55 rfl) rfl
theorem q1153 : (Jvm.Cond.selects "MarketDays$Told" ({ cls := "MarketDays$Giving", name := "worth", desc := "(II)I" } : Jvm.MethodName) ({ cls := "MarketDays$Told", name := "worth", desc := "(II)I" } : Jvm.MethodName)) ∈ lw_all := lw_g (lw_at lw_m5 111 rfl) rfl
theorem q1154 : (Jvm.Cond.instanceMethod ({ cls := "MarketDays$Told", name := "worth", desc := "(II)I" } : Jvm.MethodName)) ∈ lw_all := lw_g (lw_at lw_m5 112 rfl) rfl
theorem q1155 : (Jvm.Cond.code ({ cls := "MarketDays$Told", name := "worth", desc := "(II)I" } : Jvm.MethodName) prog_14_method_4_code (3 : Nat) (Option.some Jvm.ClassFile.FieldType.int)) ∈ lw_all := lw_g (lw_at lw_m5 113 rfl) rfl
theorem q1156 : (Jvm.Cond.methodLink "MarketDays$Told" (11 : Nat) ({ cls := "MarketDays$Part", name := "worth", desc := "(II)I" } : Jvm.MethodName)) ∈ lw_all := lw_g (lw_at lw_m5 114 rfl) rfl
theorem q1288 : (Jvm.Cond.selects "MarketDays$Told" ({ cls := "MarketDays$Giving", name := "kind", desc := "()I" } : Jvm.MethodName) ({ cls := "MarketDays$Told", name := "kind", desc := "()I" } : Jvm.MethodName)) ∈ lw_all := lw_g (lw_at lw_m6 6 rfl) rfl
theorem q1289 : (Jvm.Cond.instanceMethod ({ cls := "MarketDays$Told", name := "kind", desc := "()I" } : Jvm.MethodName)) ∈ lw_all := lw_g (lw_at lw_m6 7 rfl) rfl
theorem q1290 : (Jvm.Cond.code ({ cls := "MarketDays$Told", name := "kind", desc := "()I" } : Jvm.MethodName) prog_14_method_2_code (1 : Nat) (Option.some Jvm.ClassFile.FieldType.int)) ∈ lw_all := lw_g (lw_at lw_m6 8 rfl) rfl
theorem q1291 : (Jvm.Cond.methodLink "MarketDays$Told" (7 : Nat) ({ cls := "MarketDays$Part", name := "kind", desc := "()I" } : Jvm.MethodName)) ∈ lw_all := lw_g (lw_at lw_m6 9 rfl) rfl
theorem q1949 : (Jvm.Cond.castable "MarketDays$Told" "MarketDays$Giving") ∈ lw_tbl := lw_at lw_m8 187 rfl
theorem q1952 : (Jvm.Cond.castable "MarketDays$Told" "MarketDays$Part") ∈ lw_tbl := lw_at lw_m8 190 rfl
theorem q1971 : (Jvm.Cond.castable "MarketDays$Told" "java/lang/Object") ∈ lw_tbl := lw_at lw_m8 209 rfl
theorem in_X13 : ∀ w ∈ wsX130, w ∈ lw_all := lw_in wsX130 [978, 979, 980] (by decide +kernel) (by decide +kernel)

/-! MarketDays$Odd -/
set_option maxRecDepth 100000
def RX14 : String := "MarketDays$Odd"
def TX14 : u_T := fun k => match k with
  | 0 => ("java/lang/Throwable", "cause", "Ljava/lang/Throwable;", false)
  | 1 => ("java/lang/Throwable", "stackTrace", "[Ljava/lang/StackTraceElement;", false)
  | 2 => ("java/lang/Throwable", "suppressedExceptions", "Ljava/util/List;", false)
  | 3 => ("java/lang/Throwable", "detailMessage", "Ljava/lang/String;", false)
  | 4 => ("java/lang/Throwable", "backtrace", "Ljava/lang/Object;", false)
  | 5 => ("java/lang/Throwable", "depth", "I", false)
  | _ => ("MarketDays$Odd", "code", "I", true)
def tyX14 : Nat → FieldType := fun k => match k with
  | 0 => .object "java/lang/Throwable"
  | 1 => .array (.object "java/lang/StackTraceElement")
  | 2 => .object "java/util/List"
  | 3 => .object "java/lang/String"
  | 4 => .object "java/lang/Object"
  | 5 => .int
  | _ => .int
abbrev wsX140 : List Cond := u_ws RX14 TX14 7
theorem nmX14 : ∀ a, a < 7 → ∀ b, b < 7 → a ≠ b → (TX14 a).2.1 ≠ (TX14 b).2.1 := by decide +kernel
theorem tyX14_ok : ∀ k, k < 7 → parseFieldDescriptor (TX14 k).2.2.1 = some (tyX14 k) := by decide +kernel
abbrev cX14_init : ByteArray := prog_7_method_1_code
def yX14_init : MethodName := ⟨RX14, "<init>", "(I)V"⟩
def dkwX14_init_0 : List UInt8 := [42, 1, 1, 3, 3, 183, 0, 1, 42, 27, 181, 0, 7, 177]
abbrev dktX14_init_0 : List UInt8 := dkwX14_init_0 ++ []
theorem dksX14_init_0 : cX14_init.data.toList.drop 0 = dktX14_init_0 := by decide +kernel
theorem dX14_init_0 : decode cX14_init 0 = .ok (.aload_n 0, 1) := dk_42 (dk_at dksX14_init_0 0 rfl rfl)
theorem dX14_init_1 : decode cX14_init 1 = .ok (.aconst_null, 1) := dk_1 (dk_at dksX14_init_0 1 rfl rfl)
theorem dX14_init_2 : decode cX14_init 2 = .ok (.aconst_null, 1) := dk_1 (dk_at dksX14_init_0 2 rfl rfl)
theorem dX14_init_3 : decode cX14_init 3 = .ok (.iconst 0, 1) := dk_3 (dk_at dksX14_init_0 3 rfl rfl)
theorem dX14_init_4 : decode cX14_init 4 = .ok (.iconst 0, 1) := dk_3 (dk_at dksX14_init_0 4 rfl rfl)
theorem dX14_init_5 : decode cX14_init 5 = .ok (.invokespecial 1, 3) := dk_183 0 1 (dk_at dksX14_init_0 5 rfl rfl)
theorem dX14_init_8 : decode cX14_init 8 = .ok (.aload_n 0, 1) := dk_42 (dk_at dksX14_init_0 8 rfl rfl)
theorem dX14_init_9 : decode cX14_init 9 = .ok (.iload_n 1, 1) := dk_27 (dk_at dksX14_init_0 9 rfl rfl)
theorem dX14_init_10 : decode cX14_init 10 = .ok (.putfield 7, 3) := dk_181 0 7 (dk_at dksX14_init_0 10 rfl rfl)
theorem dX14_init_13 : decode cX14_init 13 = .ok (.return_, 1) := dk_177 (dk_at dksX14_init_0 13 rfl rfl)
theorem q117 : (Jvm.Cond.initialized "MarketDays$Odd") ∈ lw_all := lw_g (lw_at lw_m1 35 rfl) rfl
theorem q483 : (Jvm.Cond.selects "MarketDays$Odd" ({ cls := "java/lang/Throwable", name := "fillInStackTrace", desc := "()Ljava/lang/Throwable;" } : Jvm.MethodName) ({ cls := "java/lang/Throwable", name := "fillInStackTrace", desc := "()Ljava/lang/Throwable;" } : Jvm.MethodName)) ∈ lw_all := lw_g (lw_at lw_m2 161 rfl) rfl
theorem q1021 : (Jvm.Cond.selects "MarketDays$Odd" ({ cls := "java/lang/Object", name := "getClass", desc := "()Ljava/lang/Class;" } : Jvm.MethodName) ({ cls := "java/lang/Object", name := "getClass", desc := "()Ljava/lang/Class;" } : Jvm.MethodName)) ∈ lw_all := lw_g (lw_at lw_m4 219 rfl) rfl
theorem q1336 : (Jvm.Cond.instantiable "MarketDays$Odd" (7 : Nat)) ∈ lw_all := lw_g (lw_at lw_m6 54 rfl) rfl
theorem q1337 : (Jvm.Cond.castable "MarketDays$Odd" "MarketDays$Odd") ∈ lw_tbl := lw_at lw_m6 55 rfl
theorem q1338 : (Jvm.Cond.selects "MarketDays$Odd" ({ cls := "java/lang/Throwable", name := "fillInStackTrace", desc := "(I)Ljava/lang/Throwable;" } : Jvm.MethodName) ({ cls := "java/lang/Throwable", name := "fillInStackTrace", desc := "(I)Ljava/lang/Throwable;" } : Jvm.MethodName)) ∈ lw_all := lw_g (lw_at lw_m6 56 rfl) rfl
theorem q1339 : (Jvm.Cond.lays "MarketDays$Odd" "java/lang/Throwable" "cause" "Ljava/lang/Throwable;") ∈ lw_all := lw_g (lw_at lw_m6 57 rfl) rfl
theorem q1340 : (Jvm.Cond.lays "MarketDays$Odd" "java/lang/Throwable" "stackTrace" "[Ljava/lang/StackTraceElement;") ∈ lw_all := lw_g (lw_at lw_m6 58 rfl) rfl
theorem q1341 : (Jvm.Cond.lays "MarketDays$Odd" "java/lang/Throwable" "suppressedExceptions" "Ljava/util/List;") ∈ lw_all := lw_g (lw_at lw_m6 59 rfl) rfl
theorem q1342 : (Jvm.Cond.lays "MarketDays$Odd" "java/lang/Throwable" "detailMessage" "Ljava/lang/String;") ∈ lw_all := lw_g (lw_at lw_m6 60 rfl) rfl
theorem q1343 : (Jvm.Cond.lays "MarketDays$Odd" "java/lang/Throwable" "backtrace" "Ljava/lang/Object;") ∈ lw_all := lw_g (lw_at lw_m6 61 rfl) rfl
theorem q1345 : (Jvm.Cond.instanceMethod ({ cls := "MarketDays$Odd", name := "<init>", desc := "(I)V" } : Jvm.MethodName)) ∈ lw_all := lw_g (lw_at lw_m6 63 rfl) rfl
theorem q1346 : (Jvm.Cond.code ({ cls := "MarketDays$Odd", name := "<init>", desc := "(I)V" } : Jvm.MethodName) prog_7_method_1_code (2 : Nat) (Option.none : Option Jvm.ClassFile.FieldType)) ∈ lw_all := lw_g (lw_at lw_m6 64 rfl) rfl
theorem q1347 : (Jvm.Cond.methodLink "MarketDays$Odd" (1 : Nat) ({ cls := "java/lang/RuntimeException", name := "<init>", desc := "(Ljava/lang/String;Ljava/lang/Throwable;ZZ)V" } : Jvm.MethodName)) ∈ lw_all := lw_g (lw_at lw_m6 65 rfl) rfl
theorem q1348 : (Jvm.Cond.fieldLink "MarketDays$Odd" (7 : Nat) "MarketDays$Odd" "code" "I") ∈ lw_all := lw_g (lw_at lw_m6 66 rfl) rfl
theorem q1350 : (Jvm.Cond.laysFinal "MarketDays$Odd" "MarketDays$Odd" "code" "I") ∈ lw_all := lw_g (lw_at lw_m6 68 rfl) rfl
theorem q1351 : (Jvm.Cond.soleField "MarketDays$Odd" "code") ∈ lw_all := lw_g (lw_at lw_m6 69 rfl) rfl
theorem q1352 : (Jvm.Cond.lays "MarketDays$Odd" "java/lang/Throwable" "depth" "I") ∈ lw_all := lw_g (lw_at lw_m6 70 rfl) rfl
theorem q1353 : (Jvm.Cond.superclass "MarketDays$Odd" "java/lang/RuntimeException") ∈ lw_all := lw_g (lw_at lw_m6 71 rfl) rfl
theorem q1972 : (Jvm.Cond.castable "MarketDays$Odd" "java/lang/Object") ∈ lw_tbl := lw_at lw_m8 210 rfl
theorem in_X14 : ∀ w ∈ wsX140, w ∈ lw_all := lw_in wsX140 [1339, 1340, 1341, 1342, 1343, 1352, 1350] (by decide +kernel) (by decide +kernel)

/-! MarketDays$Slot -/
set_option maxRecDepth 100000
def RX15 : String := "MarketDays$Slot"
def TX15 : u_T := fun k => match k with
  | _ => ("MarketDays$Slot", "thing", "Ljava/lang/Object;", true)
def tyX15 : Nat → FieldType := fun k => match k with
  | _ => .object "java/lang/Object"
abbrev wsX150 : List Cond := u_ws RX15 TX15 1
theorem nmX15 : ∀ a, a < 1 → ∀ b, b < 1 → a ≠ b → (TX15 a).2.1 ≠ (TX15 b).2.1 := by decide +kernel
theorem tyX15_ok : ∀ k, k < 1 → parseFieldDescriptor (TX15 k).2.2.1 = some (tyX15 k) := by decide +kernel
abbrev cX15_init : ByteArray := prog_13_method_1_code
def yX15_init : MethodName := ⟨RX15, "<init>", "(Ljava/lang/Object;)V"⟩
def dkwX15_init_0 : List UInt8 := [42, 183, 0, 1, 42, 43, 181, 0, 7, 177]
abbrev dktX15_init_0 : List UInt8 := dkwX15_init_0 ++ []
theorem dksX15_init_0 : cX15_init.data.toList.drop 0 = dktX15_init_0 := by decide +kernel
theorem dX15_init_0 : decode cX15_init 0 = .ok (.aload_n 0, 1) := dk_42 (dk_at dksX15_init_0 0 rfl rfl)
theorem dX15_init_1 : decode cX15_init 1 = .ok (.invokespecial 1, 3) := dk_183 0 1 (dk_at dksX15_init_0 1 rfl rfl)
theorem dX15_init_4 : decode cX15_init 4 = .ok (.aload_n 0, 1) := dk_42 (dk_at dksX15_init_0 4 rfl rfl)
theorem dX15_init_5 : decode cX15_init 5 = .ok (.aload_n 1, 1) := dk_43 (dk_at dksX15_init_0 5 rfl rfl)
theorem dX15_init_6 : decode cX15_init 6 = .ok (.putfield 7, 3) := dk_181 0 7 (dk_at dksX15_init_0 6 rfl rfl)
theorem dX15_init_9 : decode cX15_init 9 = .ok (.return_, 1) := dk_177 (dk_at dksX15_init_0 9 rfl rfl)
abbrev cX15_town : ByteArray := prog_13_method_3_code
def yX15_town : MethodName := ⟨RX15, "town", "()I"⟩
def dkwX15_town_1 : List UInt8 := [89, 16, 243, 183, 0, 17, 191]
abbrev dktX15_town_1 : List UInt8 := dkwX15_town_1 ++ []
def dkwX15_town_0 : List UInt8 := [42, 180, 0, 7, 193, 0, 20, 153, 0, 14, 42, 180, 0, 7, 192, 0, 20, 182, 0, 22, 172, 187, 0, 15]
abbrev dktX15_town_0 : List UInt8 := dkwX15_town_0 ++ dktX15_town_1
theorem dksX15_town_0 : cX15_town.data.toList.drop 0 = dktX15_town_0 := by decide +kernel
theorem dksX15_town_1 : cX15_town.data.toList.drop 24 = dktX15_town_1 := dk_seg dksX15_town_0 24 rfl rfl
theorem dX15_town_0 : decode cX15_town 0 = .ok (.aload_n 0, 1) := dk_42 (dk_at dksX15_town_0 0 rfl rfl)
theorem dX15_town_1 : decode cX15_town 1 = .ok (.getfield 7, 3) := dk_180 0 7 (dk_at dksX15_town_0 1 rfl rfl)
theorem dX15_town_4 : decode cX15_town 4 = .ok (.instanceof 20, 3) := dk_193 0 20 (dk_at dksX15_town_0 4 rfl rfl)
theorem dX15_town_7 : decode cX15_town 7 = .ok (.ifCond .eq 14, 3) := dk_153 0 14 (dk_at dksX15_town_0 7 rfl rfl)
theorem dX15_town_10 : decode cX15_town 10 = .ok (.aload_n 0, 1) := dk_42 (dk_at dksX15_town_0 10 rfl rfl)
theorem dX15_town_11 : decode cX15_town 11 = .ok (.getfield 7, 3) := dk_180 0 7 (dk_at dksX15_town_0 11 rfl rfl)
theorem dX15_town_14 : decode cX15_town 14 = .ok (.checkcast 20, 3) := dk_192 0 20 (dk_at dksX15_town_0 14 rfl rfl)
theorem dX15_town_17 : decode cX15_town 17 = .ok (.invokevirtual 22, 3) := dk_182 0 22 (dk_at dksX15_town_0 17 rfl rfl)
theorem dX15_town_20 : decode cX15_town 20 = .ok (.ireturn, 1) := dk_172 (dk_at dksX15_town_0 20 rfl rfl)
theorem dX15_town_21 : decode cX15_town 21 = .ok (.new 15, 3) := dk_187 0 15 (dk_at dksX15_town_0 21 rfl rfl)
theorem dX15_town_24 : decode cX15_town 24 = .ok (.dup, 1) := dk_89 (dk_at dksX15_town_1 0 rfl rfl)
theorem dX15_town_25 : decode cX15_town 25 = .ok (.bipush (-13), 2) := dk_16 243 (dk_at dksX15_town_1 1 rfl rfl)
theorem dX15_town_27 : decode cX15_town 27 = .ok (.invokespecial 17, 3) := dk_183 0 17 (dk_at dksX15_town_1 3 rfl rfl)
theorem dX15_town_30 : decode cX15_town 30 = .ok (.athrow, 1) := dk_191 (dk_at dksX15_town_1 6 rfl rfl)
abbrev cX15_giving : ByteArray := prog_13_method_2_code
def yX15_giving : MethodName := ⟨RX15, "giving", "()LMarketDays$Giving;"⟩
def dkwX15_giving_1 : List UInt8 := [183, 0, 17, 191]
abbrev dktX15_giving_1 : List UInt8 := dkwX15_giving_1 ++ []
def dkwX15_giving_0 : List UInt8 := [42, 180, 0, 7, 193, 0, 13, 153, 0, 11, 42, 180, 0, 7, 192, 0, 13, 176, 187, 0, 15, 89, 16, 243]
abbrev dktX15_giving_0 : List UInt8 := dkwX15_giving_0 ++ dktX15_giving_1
theorem dksX15_giving_0 : cX15_giving.data.toList.drop 0 = dktX15_giving_0 := by decide +kernel
theorem dksX15_giving_1 : cX15_giving.data.toList.drop 24 = dktX15_giving_1 := dk_seg dksX15_giving_0 24 rfl rfl
theorem dX15_giving_0 : decode cX15_giving 0 = .ok (.aload_n 0, 1) := dk_42 (dk_at dksX15_giving_0 0 rfl rfl)
theorem dX15_giving_1 : decode cX15_giving 1 = .ok (.getfield 7, 3) := dk_180 0 7 (dk_at dksX15_giving_0 1 rfl rfl)
theorem dX15_giving_4 : decode cX15_giving 4 = .ok (.instanceof 13, 3) := dk_193 0 13 (dk_at dksX15_giving_0 4 rfl rfl)
theorem dX15_giving_7 : decode cX15_giving 7 = .ok (.ifCond .eq 11, 3) := dk_153 0 11 (dk_at dksX15_giving_0 7 rfl rfl)
theorem dX15_giving_10 : decode cX15_giving 10 = .ok (.aload_n 0, 1) := dk_42 (dk_at dksX15_giving_0 10 rfl rfl)
theorem dX15_giving_11 : decode cX15_giving 11 = .ok (.getfield 7, 3) := dk_180 0 7 (dk_at dksX15_giving_0 11 rfl rfl)
theorem dX15_giving_14 : decode cX15_giving 14 = .ok (.checkcast 13, 3) := dk_192 0 13 (dk_at dksX15_giving_0 14 rfl rfl)
theorem dX15_giving_17 : decode cX15_giving 17 = .ok (.areturn, 1) := dk_176 (dk_at dksX15_giving_0 17 rfl rfl)
theorem dX15_giving_18 : decode cX15_giving 18 = .ok (.new 15, 3) := dk_187 0 15 (dk_at dksX15_giving_0 18 rfl rfl)
theorem dX15_giving_21 : decode cX15_giving 21 = .ok (.dup, 1) := dk_89 (dk_at dksX15_giving_0 21 rfl rfl)
theorem dX15_giving_22 : decode cX15_giving 22 = .ok (.bipush (-13), 2) := dk_16 243 (dk_at dksX15_giving_0 22 rfl rfl)
theorem dX15_giving_24 : decode cX15_giving 24 = .ok (.invokespecial 17, 3) := dk_183 0 17 (dk_at dksX15_giving_1 0 rfl rfl)
theorem dX15_giving_27 : decode cX15_giving 27 = .ok (.athrow, 1) := dk_191 (dk_at dksX15_giving_1 3 rfl rfl)
theorem q118 : (Jvm.Cond.initialized "MarketDays$Slot") ∈ lw_all := lw_g (lw_at lw_m1 36 rfl) rfl
theorem q1027 : (Jvm.Cond.selects "MarketDays$Slot" ({ cls := "java/lang/Object", name := "getClass", desc := "()Ljava/lang/Class;" } : Jvm.MethodName) ({ cls := "java/lang/Object", name := "getClass", desc := "()Ljava/lang/Class;" } : Jvm.MethodName)) ∈ lw_all := lw_g (lw_at lw_m4 225 rfl) rfl
theorem q1377 : (Jvm.Cond.instantiable "MarketDays$Slot" (1 : Nat)) ∈ lw_all := lw_g (lw_at lw_m6 95 rfl) rfl
theorem q1399 : (Jvm.Cond.instanceMethod ({ cls := "MarketDays$Slot", name := "<init>", desc := "(Ljava/lang/Object;)V" } : Jvm.MethodName)) ∈ lw_all := lw_g (lw_at lw_m6 117 rfl) rfl
theorem q1400 : (Jvm.Cond.code ({ cls := "MarketDays$Slot", name := "<init>", desc := "(Ljava/lang/Object;)V" } : Jvm.MethodName) prog_13_method_1_code (2 : Nat) (Option.none : Option Jvm.ClassFile.FieldType)) ∈ lw_all := lw_g (lw_at lw_m6 118 rfl) rfl
theorem q1401 : (Jvm.Cond.methodLink "MarketDays$Slot" (1 : Nat) ({ cls := "java/lang/Object", name := "<init>", desc := "()V" } : Jvm.MethodName)) ∈ lw_all := lw_g (lw_at lw_m6 119 rfl) rfl
theorem q1402 : (Jvm.Cond.fieldLink "MarketDays$Slot" (7 : Nat) "MarketDays$Slot" "thing" "Ljava/lang/Object;") ∈ lw_all := lw_g (lw_at lw_m6 120 rfl) rfl
theorem q1403 : (Jvm.Cond.laysFinal "MarketDays$Slot" "MarketDays$Slot" "thing" "Ljava/lang/Object;") ∈ lw_all := lw_g (lw_at lw_m6 121 rfl) rfl
theorem q1404 : (Jvm.Cond.soleField "MarketDays$Slot" "thing") ∈ lw_all := lw_g (lw_at lw_m6 122 rfl) rfl
theorem q1405 : (Jvm.Cond.superclass "MarketDays$Slot" "java/lang/Object") ∈ lw_all := lw_g (lw_at lw_m6 123 rfl) rfl
theorem q1407 : (Jvm.Cond.instanceMethod ({ cls := "MarketDays$Slot", name := "town", desc := "()I" } : Jvm.MethodName)) ∈ lw_all := lw_g (lw_at lw_m6 125 rfl) rfl
theorem q1408 : (Jvm.Cond.selects "MarketDays$Slot" ({ cls := "MarketDays$Slot", name := "town", desc := "()I" } : Jvm.MethodName) ({ cls := "MarketDays$Slot", name := "town", desc := "()I" } : Jvm.MethodName)) ∈ lw_all := lw_g (lw_at lw_m6 126 rfl) rfl
theorem q1409 : (Jvm.Cond.code ({ cls := "MarketDays$Slot", name := "town", desc := "()I" } : Jvm.MethodName) prog_13_method_3_code (1 : Nat) (Option.some Jvm.ClassFile.FieldType.int)) ∈ lw_all := lw_g (lw_at lw_m6 127 rfl) rfl
theorem q1410 : (Jvm.Cond.classLink "MarketDays$Slot" (20 : Nat) "java/lang/Integer") ∈ lw_all := lw_g (lw_at lw_m6 128 rfl) rfl
theorem q1411 : (Jvm.Cond.methodLink "MarketDays$Slot" (22 : Nat) ({ cls := "java/lang/Integer", name := "intValue", desc := "()I" } : Jvm.MethodName)) ∈ lw_all := lw_g (lw_at lw_m6 129 rfl) rfl
theorem q1415 : (Jvm.Cond.classLink "MarketDays$Slot" (15 : Nat) "MarketDays$Odd") ∈ lw_all := lw_g (lw_at lw_m6 133 rfl) rfl
theorem q1416 : (Jvm.Cond.methodLink "MarketDays$Slot" (17 : Nat) ({ cls := "MarketDays$Odd", name := "<init>", desc := "(I)V" } : Jvm.MethodName)) ∈ lw_all := lw_g (lw_at lw_m6 134 rfl) rfl
theorem q1418 : (Jvm.Cond.instanceMethod ({ cls := "MarketDays$Slot", name := "giving", desc := "()LMarketDays$Giving;" } : Jvm.MethodName)) ∈ lw_all := lw_g (lw_at lw_m6 136 rfl) rfl
theorem q1419 : (Jvm.Cond.selects "MarketDays$Slot" ({ cls := "MarketDays$Slot", name := "giving", desc := "()LMarketDays$Giving;" } : Jvm.MethodName) ({ cls := "MarketDays$Slot", name := "giving", desc := "()LMarketDays$Giving;" } : Jvm.MethodName)) ∈ lw_all := lw_g (lw_at lw_m6 137 rfl) rfl
theorem q1420 : (Jvm.Cond.code ({ cls := "MarketDays$Slot", name := "giving", desc := "()LMarketDays$Giving;" } : Jvm.MethodName) prog_13_method_2_code (1 : Nat) (Option.some (Jvm.ClassFile.FieldType.object "MarketDays$Giving"))) ∈ lw_all := lw_g (lw_at lw_m6 138 rfl) rfl
theorem q1421 : (Jvm.Cond.classLink "MarketDays$Slot" (13 : Nat) "MarketDays$Giving") ∈ lw_all := lw_g (lw_at lw_m6 139 rfl) rfl
theorem q1973 : (Jvm.Cond.castable "MarketDays$Slot" "java/lang/Object") ∈ lw_tbl := lw_at lw_m8 211 rfl
theorem in_X15 : ∀ w ∈ wsX150, w ∈ lw_all := lw_in wsX150 [1403] (by decide +kernel) (by decide +kernel)

/-! MarketDays$Reader -/
set_option maxRecDepth 100000
def RX2 : String := "MarketDays$Reader"
def TX2 : u_T := fun k => match k with
  | 0 => ("MarketDays$Reader", "text", "[B", true)
  | 1 => ("MarketDays$Reader", "size", "I", true)
  | 2 => ("MarketDays$Reader", "at", "I", false)
  | 3 => ("MarketDays$Reader", "from", "I", false)
  | 4 => ("MarketDays$Reader", "open", "I", false)
  | 5 => ("MarketDays$Reader", "word", "Ljava/lang/String;", false)
  | 6 => ("MarketDays$Reader", "number", "I", false)
  | _ => ("MarketDays$Reader", "sign", "I", false)
def tyX2 : Nat → FieldType := fun k => match k with
  | 0 => .array .byte
  | 1 => .int
  | 2 => .int
  | 3 => .int
  | 4 => .int
  | 5 => .object "java/lang/String"
  | 6 => .int
  | _ => .int
abbrev wsX20 : List Cond := u_ws RX2 TX2 8
theorem nmX2 : ∀ a, a < 8 → ∀ b, b < 8 → a ≠ b → (TX2 a).2.1 ≠ (TX2 b).2.1 := by decide +kernel
theorem tyX2_ok : ∀ k, k < 8 → parseFieldDescriptor (TX2 k).2.2.1 = some (tyX2 k) := by decide +kernel
abbrev cX2_init : ByteArray := prog_10_method_1_code
def yX2_init : MethodName := ⟨RX2, "<init>", "([BI)V"⟩
def dkwX2_init_1 : List UInt8 := [42, 28, 181, 0, 25, 177]
abbrev dktX2_init_1 : List UInt8 := dkwX2_init_1 ++ []
def dkwX2_init_0 : List UInt8 := [42, 183, 0, 3, 42, 3, 181, 0, 9, 42, 3, 181, 0, 15, 42, 3, 181, 0, 18, 42, 43, 181, 0, 21]
abbrev dktX2_init_0 : List UInt8 := dkwX2_init_0 ++ dktX2_init_1
theorem dksX2_init_0 : cX2_init.data.toList.drop 0 = dktX2_init_0 := by decide +kernel
theorem dksX2_init_1 : cX2_init.data.toList.drop 24 = dktX2_init_1 := dk_seg dksX2_init_0 24 rfl rfl
theorem dX2_init_0 : decode cX2_init 0 = .ok (.aload_n 0, 1) := dk_42 (dk_at dksX2_init_0 0 rfl rfl)
theorem dX2_init_1 : decode cX2_init 1 = .ok (.invokespecial 3, 3) := dk_183 0 3 (dk_at dksX2_init_0 1 rfl rfl)
theorem dX2_init_4 : decode cX2_init 4 = .ok (.aload_n 0, 1) := dk_42 (dk_at dksX2_init_0 4 rfl rfl)
theorem dX2_init_5 : decode cX2_init 5 = .ok (.iconst 0, 1) := dk_3 (dk_at dksX2_init_0 5 rfl rfl)
theorem dX2_init_6 : decode cX2_init 6 = .ok (.putfield 9, 3) := dk_181 0 9 (dk_at dksX2_init_0 6 rfl rfl)
theorem dX2_init_9 : decode cX2_init 9 = .ok (.aload_n 0, 1) := dk_42 (dk_at dksX2_init_0 9 rfl rfl)
theorem dX2_init_10 : decode cX2_init 10 = .ok (.iconst 0, 1) := dk_3 (dk_at dksX2_init_0 10 rfl rfl)
theorem dX2_init_11 : decode cX2_init 11 = .ok (.putfield 15, 3) := dk_181 0 15 (dk_at dksX2_init_0 11 rfl rfl)
theorem dX2_init_14 : decode cX2_init 14 = .ok (.aload_n 0, 1) := dk_42 (dk_at dksX2_init_0 14 rfl rfl)
theorem dX2_init_15 : decode cX2_init 15 = .ok (.iconst 0, 1) := dk_3 (dk_at dksX2_init_0 15 rfl rfl)
theorem dX2_init_16 : decode cX2_init 16 = .ok (.putfield 18, 3) := dk_181 0 18 (dk_at dksX2_init_0 16 rfl rfl)
theorem dX2_init_19 : decode cX2_init 19 = .ok (.aload_n 0, 1) := dk_42 (dk_at dksX2_init_0 19 rfl rfl)
theorem dX2_init_20 : decode cX2_init 20 = .ok (.aload_n 1, 1) := dk_43 (dk_at dksX2_init_0 20 rfl rfl)
theorem dX2_init_21 : decode cX2_init 21 = .ok (.putfield 21, 3) := dk_181 0 21 (dk_at dksX2_init_0 21 rfl rfl)
theorem dX2_init_24 : decode cX2_init 24 = .ok (.aload_n 0, 1) := dk_42 (dk_at dksX2_init_1 0 rfl rfl)
theorem dX2_init_25 : decode cX2_init 25 = .ok (.iload_n 2, 1) := dk_28 (dk_at dksX2_init_1 1 rfl rfl)
theorem dX2_init_26 : decode cX2_init 26 = .ok (.putfield 25, 3) := dk_181 0 25 (dk_at dksX2_init_1 2 rfl rfl)
theorem dX2_init_29 : decode cX2_init 29 = .ok (.return_, 1) := dk_177 (dk_at dksX2_init_1 5 rfl rfl)
abbrev cX2_parts : ByteArray := prog_10_method_14_code
def yX2_parts : MethodName := ⟨RX2, "parts", "()[LMarketDays$Node;"⟩
def dkwX2_parts_4 : List UInt8 := [42, 180, 0, 41, 2, 160, 0, 11, 42, 180, 0, 44, 2, 159, 0, 8, 42, 182, 0, 73, 191, 43, 176]
abbrev dktX2_parts_4 : List UInt8 := dkwX2_parts_4 ++ []
def dkwX2_parts_3 : List UInt8 := [132, 2, 1, 167, 255, 199, 42, 180, 0, 9, 42, 180, 0, 25, 161, 0, 26, 42, 180, 0, 37, 199, 0, 19]
abbrev dktX2_parts_3 : List UInt8 := dkwX2_parts_3 ++ dktX2_parts_4
def dkwX2_parts_2 : List UInt8 := [182, 0, 104, 83, 42, 180, 0, 44, 16, 59, 159, 0, 8, 42, 182, 0, 73, 191, 42, 182, 0, 89]
abbrev dktX2_parts_2 : List UInt8 := dkwX2_parts_2 ++ dktX2_parts_3
def dkwX2_parts_1 : List UInt8 := [178, 0, 146, 28, 50, 182, 0, 116, 154, 0, 8, 42, 182, 0, 73, 191, 42, 182, 0, 89, 43, 28, 42]
abbrev dktX2_parts_1 : List UInt8 := dkwX2_parts_1 ++ dktX2_parts_2
def dkwX2_parts_0 : List UInt8 := [178, 0, 146, 190, 189, 0, 149, 76, 42, 182, 0, 89, 3, 61, 28, 178, 0, 146, 190, 162, 0, 55, 42]
abbrev dktX2_parts_0 : List UInt8 := dkwX2_parts_0 ++ dktX2_parts_1
theorem dksX2_parts_0 : cX2_parts.data.toList.drop 0 = dktX2_parts_0 := by decide +kernel
theorem dksX2_parts_1 : cX2_parts.data.toList.drop 23 = dktX2_parts_1 := dk_seg dksX2_parts_0 23 rfl rfl
theorem dksX2_parts_2 : cX2_parts.data.toList.drop 46 = dktX2_parts_2 := dk_seg dksX2_parts_1 23 rfl rfl
theorem dksX2_parts_3 : cX2_parts.data.toList.drop 68 = dktX2_parts_3 := dk_seg dksX2_parts_2 22 rfl rfl
theorem dksX2_parts_4 : cX2_parts.data.toList.drop 92 = dktX2_parts_4 := dk_seg dksX2_parts_3 24 rfl rfl
theorem dX2_parts_0 : decode cX2_parts 0 = .ok (.getstatic 146, 3) := dk_178 0 146 (dk_at dksX2_parts_0 0 rfl rfl)
theorem dX2_parts_3 : decode cX2_parts 3 = .ok (.arraylength, 1) := dk_190 (dk_at dksX2_parts_0 3 rfl rfl)
theorem dX2_parts_4 : decode cX2_parts 4 = .ok (.anewarray 149, 3) := dk_189 0 149 (dk_at dksX2_parts_0 4 rfl rfl)
theorem dX2_parts_7 : decode cX2_parts 7 = .ok (.astore_n 1, 1) := dk_76 (dk_at dksX2_parts_0 7 rfl rfl)
theorem dX2_parts_8 : decode cX2_parts 8 = .ok (.aload_n 0, 1) := dk_42 (dk_at dksX2_parts_0 8 rfl rfl)
theorem dX2_parts_9 : decode cX2_parts 9 = .ok (.invokevirtual 89, 3) := dk_182 0 89 (dk_at dksX2_parts_0 9 rfl rfl)
theorem dX2_parts_12 : decode cX2_parts 12 = .ok (.iconst 0, 1) := dk_3 (dk_at dksX2_parts_0 12 rfl rfl)
theorem dX2_parts_13 : decode cX2_parts 13 = .ok (.istore_n 2, 1) := dk_61 (dk_at dksX2_parts_0 13 rfl rfl)
theorem dX2_parts_14 : decode cX2_parts 14 = .ok (.iload_n 2, 1) := dk_28 (dk_at dksX2_parts_0 14 rfl rfl)
theorem dX2_parts_15 : decode cX2_parts 15 = .ok (.getstatic 146, 3) := dk_178 0 146 (dk_at dksX2_parts_0 15 rfl rfl)
theorem dX2_parts_18 : decode cX2_parts 18 = .ok (.arraylength, 1) := dk_190 (dk_at dksX2_parts_0 18 rfl rfl)
theorem dX2_parts_19 : decode cX2_parts 19 = .ok (.if_icmp .ge 55, 3) := dk_162 0 55 (dk_at dksX2_parts_0 19 rfl rfl)
theorem dX2_parts_22 : decode cX2_parts 22 = .ok (.aload_n 0, 1) := dk_42 (dk_at dksX2_parts_0 22 rfl rfl)
theorem dX2_parts_23 : decode cX2_parts 23 = .ok (.getstatic 146, 3) := dk_178 0 146 (dk_at dksX2_parts_1 0 rfl rfl)
theorem dX2_parts_26 : decode cX2_parts 26 = .ok (.iload_n 2, 1) := dk_28 (dk_at dksX2_parts_1 3 rfl rfl)
theorem dX2_parts_27 : decode cX2_parts 27 = .ok (.aaload, 1) := dk_50 (dk_at dksX2_parts_1 4 rfl rfl)
theorem dX2_parts_28 : decode cX2_parts 28 = .ok (.invokevirtual 116, 3) := dk_182 0 116 (dk_at dksX2_parts_1 5 rfl rfl)
theorem dX2_parts_31 : decode cX2_parts 31 = .ok (.ifCond .ne 8, 3) := dk_154 0 8 (dk_at dksX2_parts_1 8 rfl rfl)
theorem dX2_parts_34 : decode cX2_parts 34 = .ok (.aload_n 0, 1) := dk_42 (dk_at dksX2_parts_1 11 rfl rfl)
theorem dX2_parts_35 : decode cX2_parts 35 = .ok (.invokevirtual 73, 3) := dk_182 0 73 (dk_at dksX2_parts_1 12 rfl rfl)
theorem dX2_parts_38 : decode cX2_parts 38 = .ok (.athrow, 1) := dk_191 (dk_at dksX2_parts_1 15 rfl rfl)
theorem dX2_parts_39 : decode cX2_parts 39 = .ok (.aload_n 0, 1) := dk_42 (dk_at dksX2_parts_1 16 rfl rfl)
theorem dX2_parts_40 : decode cX2_parts 40 = .ok (.invokevirtual 89, 3) := dk_182 0 89 (dk_at dksX2_parts_1 17 rfl rfl)
theorem dX2_parts_43 : decode cX2_parts 43 = .ok (.aload_n 1, 1) := dk_43 (dk_at dksX2_parts_1 20 rfl rfl)
theorem dX2_parts_44 : decode cX2_parts 44 = .ok (.iload_n 2, 1) := dk_28 (dk_at dksX2_parts_1 21 rfl rfl)
theorem dX2_parts_45 : decode cX2_parts 45 = .ok (.aload_n 0, 1) := dk_42 (dk_at dksX2_parts_1 22 rfl rfl)
theorem dX2_parts_46 : decode cX2_parts 46 = .ok (.invokevirtual 104, 3) := dk_182 0 104 (dk_at dksX2_parts_2 0 rfl rfl)
theorem dX2_parts_49 : decode cX2_parts 49 = .ok (.aastore, 1) := dk_83 (dk_at dksX2_parts_2 3 rfl rfl)
theorem dX2_parts_50 : decode cX2_parts 50 = .ok (.aload_n 0, 1) := dk_42 (dk_at dksX2_parts_2 4 rfl rfl)
theorem dX2_parts_51 : decode cX2_parts 51 = .ok (.getfield 44, 3) := dk_180 0 44 (dk_at dksX2_parts_2 5 rfl rfl)
theorem dX2_parts_54 : decode cX2_parts 54 = .ok (.bipush 59, 2) := dk_16 59 (dk_at dksX2_parts_2 8 rfl rfl)
theorem dX2_parts_56 : decode cX2_parts 56 = .ok (.if_icmp .eq 8, 3) := dk_159 0 8 (dk_at dksX2_parts_2 10 rfl rfl)
theorem dX2_parts_59 : decode cX2_parts 59 = .ok (.aload_n 0, 1) := dk_42 (dk_at dksX2_parts_2 13 rfl rfl)
theorem dX2_parts_60 : decode cX2_parts 60 = .ok (.invokevirtual 73, 3) := dk_182 0 73 (dk_at dksX2_parts_2 14 rfl rfl)
theorem dX2_parts_63 : decode cX2_parts 63 = .ok (.athrow, 1) := dk_191 (dk_at dksX2_parts_2 17 rfl rfl)
theorem dX2_parts_64 : decode cX2_parts 64 = .ok (.aload_n 0, 1) := dk_42 (dk_at dksX2_parts_2 18 rfl rfl)
theorem dX2_parts_65 : decode cX2_parts 65 = .ok (.invokevirtual 89, 3) := dk_182 0 89 (dk_at dksX2_parts_2 19 rfl rfl)
theorem dX2_parts_68 : decode cX2_parts 68 = .ok (.iinc 2 1, 3) := dk_132 2 1 (dk_at dksX2_parts_3 0 rfl rfl)
theorem dX2_parts_71 : decode cX2_parts 71 = .ok (.goto (-57), 3) := dk_167 255 199 (dk_at dksX2_parts_3 3 rfl rfl)
theorem dX2_parts_74 : decode cX2_parts 74 = .ok (.aload_n 0, 1) := dk_42 (dk_at dksX2_parts_3 6 rfl rfl)
theorem dX2_parts_75 : decode cX2_parts 75 = .ok (.getfield 9, 3) := dk_180 0 9 (dk_at dksX2_parts_3 7 rfl rfl)
theorem dX2_parts_78 : decode cX2_parts 78 = .ok (.aload_n 0, 1) := dk_42 (dk_at dksX2_parts_3 10 rfl rfl)
theorem dX2_parts_79 : decode cX2_parts 79 = .ok (.getfield 25, 3) := dk_180 0 25 (dk_at dksX2_parts_3 11 rfl rfl)
theorem dX2_parts_82 : decode cX2_parts 82 = .ok (.if_icmp .lt 26, 3) := dk_161 0 26 (dk_at dksX2_parts_3 14 rfl rfl)
theorem dX2_parts_85 : decode cX2_parts 85 = .ok (.aload_n 0, 1) := dk_42 (dk_at dksX2_parts_3 17 rfl rfl)
theorem dX2_parts_86 : decode cX2_parts 86 = .ok (.getfield 37, 3) := dk_180 0 37 (dk_at dksX2_parts_3 18 rfl rfl)
theorem dX2_parts_89 : decode cX2_parts 89 = .ok (.ifnonnull 19, 3) := dk_199 0 19 (dk_at dksX2_parts_3 21 rfl rfl)
theorem dX2_parts_92 : decode cX2_parts 92 = .ok (.aload_n 0, 1) := dk_42 (dk_at dksX2_parts_4 0 rfl rfl)
theorem dX2_parts_93 : decode cX2_parts 93 = .ok (.getfield 41, 3) := dk_180 0 41 (dk_at dksX2_parts_4 1 rfl rfl)
theorem dX2_parts_96 : decode cX2_parts 96 = .ok (.iconst (-1), 1) := dk_2 (dk_at dksX2_parts_4 4 rfl rfl)
theorem dX2_parts_97 : decode cX2_parts 97 = .ok (.if_icmp .ne 11, 3) := dk_160 0 11 (dk_at dksX2_parts_4 5 rfl rfl)
theorem dX2_parts_100 : decode cX2_parts 100 = .ok (.aload_n 0, 1) := dk_42 (dk_at dksX2_parts_4 8 rfl rfl)
theorem dX2_parts_101 : decode cX2_parts 101 = .ok (.getfield 44, 3) := dk_180 0 44 (dk_at dksX2_parts_4 9 rfl rfl)
theorem dX2_parts_104 : decode cX2_parts 104 = .ok (.iconst (-1), 1) := dk_2 (dk_at dksX2_parts_4 12 rfl rfl)
theorem dX2_parts_105 : decode cX2_parts 105 = .ok (.if_icmp .eq 8, 3) := dk_159 0 8 (dk_at dksX2_parts_4 13 rfl rfl)
theorem dX2_parts_108 : decode cX2_parts 108 = .ok (.aload_n 0, 1) := dk_42 (dk_at dksX2_parts_4 16 rfl rfl)
theorem dX2_parts_109 : decode cX2_parts 109 = .ok (.invokevirtual 73, 3) := dk_182 0 73 (dk_at dksX2_parts_4 17 rfl rfl)
theorem dX2_parts_112 : decode cX2_parts 112 = .ok (.athrow, 1) := dk_191 (dk_at dksX2_parts_4 20 rfl rfl)
theorem dX2_parts_113 : decode cX2_parts 113 = .ok (.aload_n 1, 1) := dk_43 (dk_at dksX2_parts_4 21 rfl rfl)
theorem dX2_parts_114 : decode cX2_parts 114 = .ok (.areturn, 1) := dk_176 (dk_at dksX2_parts_4 22 rfl rfl)
abbrev cX2_next : ByteArray := prog_10_method_4_code
def yX2_next : MethodName := ⟨RX2, "next", "()V"⟩
def dkwX2_next_12 : List UInt8 := [180, 0, 9, 4, 96, 181, 0, 9, 177]
abbrev dktX2_next_12 : List UInt8 := dkwX2_next_12 ++ []
def dkwX2_next_11 : List UInt8 := [181, 0, 44, 18, 77, 42, 180, 0, 44, 182, 0, 79, 156, 0, 8, 42, 182, 0, 73, 191, 42, 89]
abbrev dktX2_next_11 : List UInt8 := dkwX2_next_11 ++ dktX2_next_12
def dkwX2_next_10 : List UInt8 := [182, 0, 73, 191, 167, 0, 49, 42, 180, 0, 9, 42, 180, 0, 25, 162, 0, 38, 42, 42, 182, 0, 33]
abbrev dktX2_next_10 : List UInt8 := dkwX2_next_10 ++ dktX2_next_11
def dkwX2_next_9 : List UInt8 := [132, 1, 1, 42, 89, 180, 0, 9, 4, 96, 181, 0, 9, 167, 255, 202, 27, 7, 164, 0, 8, 42]
abbrev dktX2_next_9 : List UInt8 := dkwX2_next_9 ++ dktX2_next_10
def dkwX2_next_8 : List UInt8 := [162, 0, 22, 42, 16, 10, 42, 180, 0, 41, 104, 42, 182, 0, 33, 96, 16, 48, 100, 181, 0, 41]
abbrev dktX2_next_8 : List UInt8 := dkwX2_next_8 ++ dktX2_next_9
def dkwX2_next_7 : List UInt8 := [181, 0, 41, 42, 182, 0, 33, 133, 20, 0, 69, 20, 0, 71, 184, 0, 51, 153, 0, 43, 27, 7]
abbrev dktX2_next_7 : List UInt8 := dkwX2_next_7 ++ dktX2_next_8
def dkwX2_next_6 : List UInt8 := [167, 0, 143, 42, 182, 0, 33, 133, 20, 0, 69, 20, 0, 71, 184, 0, 51, 153, 0, 80, 3, 60, 42, 3]
abbrev dktX2_next_6 : List UInt8 := dkwX2_next_6 ++ dktX2_next_7
def dkwX2_next_5 : List UInt8 := [87, 42, 89, 180, 0, 9, 4, 96, 181, 0, 9, 167, 255, 210, 42, 43, 182, 0, 65, 181, 0, 37]
abbrev dktX2_next_5 : List UInt8 := dkwX2_next_5 ++ dktX2_next_6
def dkwX2_next_4 : List UInt8 := [184, 0, 51, 153, 0, 35, 43, 182, 0, 58, 16, 9, 162, 0, 13, 43, 42, 182, 0, 33, 146, 182, 0, 61]
abbrev dktX2_next_4 : List UInt8 := dkwX2_next_4 ++ dktX2_next_5
def dkwX2_next_3 : List UInt8 := [153, 0, 71, 187, 0, 55, 89, 183, 0, 57, 76, 42, 182, 0, 33, 133, 20, 0, 47, 20, 0, 49]
abbrev dktX2_next_3 : List UInt8 := dkwX2_next_3 ++ dktX2_next_4
def dkwX2_next_2 : List UInt8 := [181, 0, 41, 42, 2, 181, 0, 44, 42, 182, 0, 33, 133, 20, 0, 47, 20, 0, 49, 184, 0, 51]
abbrev dktX2_next_2 : List UInt8 := dkwX2_next_2 ++ dktX2_next_3
def dkwX2_next_1 : List UInt8 := [96, 181, 0, 9, 167, 255, 228, 42, 42, 180, 0, 9, 181, 0, 15, 42, 1, 181, 0, 37, 42, 2]
abbrev dktX2_next_1 : List UInt8 := dkwX2_next_1 ++ dktX2_next_2
def dkwX2_next_0 : List UInt8 := [42, 182, 0, 33, 16, 32, 159, 0, 12, 42, 182, 0, 33, 16, 10, 160, 0, 16, 42, 89, 180, 0, 9, 4]
abbrev dktX2_next_0 : List UInt8 := dkwX2_next_0 ++ dktX2_next_1
theorem dksX2_next_0 : cX2_next.data.toList.drop 0 = dktX2_next_0 := by decide +kernel
theorem dksX2_next_1 : cX2_next.data.toList.drop 24 = dktX2_next_1 := dk_seg dksX2_next_0 24 rfl rfl
theorem dksX2_next_2 : cX2_next.data.toList.drop 46 = dktX2_next_2 := dk_seg dksX2_next_1 22 rfl rfl
theorem dksX2_next_3 : cX2_next.data.toList.drop 68 = dktX2_next_3 := dk_seg dksX2_next_2 22 rfl rfl
theorem dksX2_next_4 : cX2_next.data.toList.drop 90 = dktX2_next_4 := dk_seg dksX2_next_3 22 rfl rfl
theorem dksX2_next_5 : cX2_next.data.toList.drop 114 = dktX2_next_5 := dk_seg dksX2_next_4 24 rfl rfl
theorem dksX2_next_6 : cX2_next.data.toList.drop 136 = dktX2_next_6 := dk_seg dksX2_next_5 22 rfl rfl
theorem dksX2_next_7 : cX2_next.data.toList.drop 160 = dktX2_next_7 := dk_seg dksX2_next_6 24 rfl rfl
theorem dksX2_next_8 : cX2_next.data.toList.drop 182 = dktX2_next_8 := dk_seg dksX2_next_7 22 rfl rfl
theorem dksX2_next_9 : cX2_next.data.toList.drop 204 = dktX2_next_9 := dk_seg dksX2_next_8 22 rfl rfl
theorem dksX2_next_10 : cX2_next.data.toList.drop 226 = dktX2_next_10 := dk_seg dksX2_next_9 22 rfl rfl
theorem dksX2_next_11 : cX2_next.data.toList.drop 249 = dktX2_next_11 := dk_seg dksX2_next_10 23 rfl rfl
theorem dksX2_next_12 : cX2_next.data.toList.drop 271 = dktX2_next_12 := dk_seg dksX2_next_11 22 rfl rfl
theorem dX2_next_0 : decode cX2_next 0 = .ok (.aload_n 0, 1) := dk_42 (dk_at dksX2_next_0 0 rfl rfl)
theorem dX2_next_1 : decode cX2_next 1 = .ok (.invokevirtual 33, 3) := dk_182 0 33 (dk_at dksX2_next_0 1 rfl rfl)
theorem dX2_next_4 : decode cX2_next 4 = .ok (.bipush 32, 2) := dk_16 32 (dk_at dksX2_next_0 4 rfl rfl)
theorem dX2_next_6 : decode cX2_next 6 = .ok (.if_icmp .eq 12, 3) := dk_159 0 12 (dk_at dksX2_next_0 6 rfl rfl)
theorem dX2_next_9 : decode cX2_next 9 = .ok (.aload_n 0, 1) := dk_42 (dk_at dksX2_next_0 9 rfl rfl)
theorem dX2_next_10 : decode cX2_next 10 = .ok (.invokevirtual 33, 3) := dk_182 0 33 (dk_at dksX2_next_0 10 rfl rfl)
theorem dX2_next_13 : decode cX2_next 13 = .ok (.bipush 10, 2) := dk_16 10 (dk_at dksX2_next_0 13 rfl rfl)
theorem dX2_next_15 : decode cX2_next 15 = .ok (.if_icmp .ne 16, 3) := dk_160 0 16 (dk_at dksX2_next_0 15 rfl rfl)
theorem dX2_next_18 : decode cX2_next 18 = .ok (.aload_n 0, 1) := dk_42 (dk_at dksX2_next_0 18 rfl rfl)
theorem dX2_next_19 : decode cX2_next 19 = .ok (.dup, 1) := dk_89 (dk_at dksX2_next_0 19 rfl rfl)
theorem dX2_next_20 : decode cX2_next 20 = .ok (.getfield 9, 3) := dk_180 0 9 (dk_at dksX2_next_0 20 rfl rfl)
theorem dX2_next_23 : decode cX2_next 23 = .ok (.iconst 1, 1) := dk_4 (dk_at dksX2_next_0 23 rfl rfl)
theorem dX2_next_24 : decode cX2_next 24 = .ok (.iadd, 1) := dk_96 (dk_at dksX2_next_1 0 rfl rfl)
theorem dX2_next_25 : decode cX2_next 25 = .ok (.putfield 9, 3) := dk_181 0 9 (dk_at dksX2_next_1 1 rfl rfl)
theorem dX2_next_28 : decode cX2_next 28 = .ok (.goto (-28), 3) := dk_167 255 228 (dk_at dksX2_next_1 4 rfl rfl)
theorem dX2_next_31 : decode cX2_next 31 = .ok (.aload_n 0, 1) := dk_42 (dk_at dksX2_next_1 7 rfl rfl)
theorem dX2_next_32 : decode cX2_next 32 = .ok (.aload_n 0, 1) := dk_42 (dk_at dksX2_next_1 8 rfl rfl)
theorem dX2_next_33 : decode cX2_next 33 = .ok (.getfield 9, 3) := dk_180 0 9 (dk_at dksX2_next_1 9 rfl rfl)
theorem dX2_next_36 : decode cX2_next 36 = .ok (.putfield 15, 3) := dk_181 0 15 (dk_at dksX2_next_1 12 rfl rfl)
theorem dX2_next_39 : decode cX2_next 39 = .ok (.aload_n 0, 1) := dk_42 (dk_at dksX2_next_1 15 rfl rfl)
theorem dX2_next_40 : decode cX2_next 40 = .ok (.aconst_null, 1) := dk_1 (dk_at dksX2_next_1 16 rfl rfl)
theorem dX2_next_41 : decode cX2_next 41 = .ok (.putfield 37, 3) := dk_181 0 37 (dk_at dksX2_next_1 17 rfl rfl)
theorem dX2_next_44 : decode cX2_next 44 = .ok (.aload_n 0, 1) := dk_42 (dk_at dksX2_next_1 20 rfl rfl)
theorem dX2_next_45 : decode cX2_next 45 = .ok (.iconst (-1), 1) := dk_2 (dk_at dksX2_next_1 21 rfl rfl)
theorem dX2_next_46 : decode cX2_next 46 = .ok (.putfield 41, 3) := dk_181 0 41 (dk_at dksX2_next_2 0 rfl rfl)
theorem dX2_next_49 : decode cX2_next 49 = .ok (.aload_n 0, 1) := dk_42 (dk_at dksX2_next_2 3 rfl rfl)
theorem dX2_next_50 : decode cX2_next 50 = .ok (.iconst (-1), 1) := dk_2 (dk_at dksX2_next_2 4 rfl rfl)
theorem dX2_next_51 : decode cX2_next 51 = .ok (.putfield 44, 3) := dk_181 0 44 (dk_at dksX2_next_2 5 rfl rfl)
theorem dX2_next_54 : decode cX2_next 54 = .ok (.aload_n 0, 1) := dk_42 (dk_at dksX2_next_2 8 rfl rfl)
theorem dX2_next_55 : decode cX2_next 55 = .ok (.invokevirtual 33, 3) := dk_182 0 33 (dk_at dksX2_next_2 9 rfl rfl)
theorem dX2_next_58 : decode cX2_next 58 = .ok (.i2l, 1) := dk_133 (dk_at dksX2_next_2 12 rfl rfl)
theorem dX2_next_59 : decode cX2_next 59 = .ok (.ldc2_w 47, 3) := dk_20 0 47 (dk_at dksX2_next_2 13 rfl rfl)
theorem dX2_next_62 : decode cX2_next 62 = .ok (.ldc2_w 49, 3) := dk_20 0 49 (dk_at dksX2_next_2 16 rfl rfl)
theorem dX2_next_65 : decode cX2_next 65 = .ok (.invokestatic 51, 3) := dk_184 0 51 (dk_at dksX2_next_2 19 rfl rfl)
theorem dX2_next_68 : decode cX2_next 68 = .ok (.ifCond .eq 71, 3) := dk_153 0 71 (dk_at dksX2_next_3 0 rfl rfl)
theorem dX2_next_71 : decode cX2_next 71 = .ok (.new 55, 3) := dk_187 0 55 (dk_at dksX2_next_3 3 rfl rfl)
theorem dX2_next_74 : decode cX2_next 74 = .ok (.dup, 1) := dk_89 (dk_at dksX2_next_3 6 rfl rfl)
theorem dX2_next_75 : decode cX2_next 75 = .ok (.invokespecial 57, 3) := dk_183 0 57 (dk_at dksX2_next_3 7 rfl rfl)
theorem dX2_next_78 : decode cX2_next 78 = .ok (.astore_n 1, 1) := dk_76 (dk_at dksX2_next_3 10 rfl rfl)
theorem dX2_next_79 : decode cX2_next 79 = .ok (.aload_n 0, 1) := dk_42 (dk_at dksX2_next_3 11 rfl rfl)
theorem dX2_next_80 : decode cX2_next 80 = .ok (.invokevirtual 33, 3) := dk_182 0 33 (dk_at dksX2_next_3 12 rfl rfl)
theorem dX2_next_83 : decode cX2_next 83 = .ok (.i2l, 1) := dk_133 (dk_at dksX2_next_3 15 rfl rfl)
theorem dX2_next_84 : decode cX2_next 84 = .ok (.ldc2_w 47, 3) := dk_20 0 47 (dk_at dksX2_next_3 16 rfl rfl)
theorem dX2_next_87 : decode cX2_next 87 = .ok (.ldc2_w 49, 3) := dk_20 0 49 (dk_at dksX2_next_3 19 rfl rfl)
theorem dX2_next_90 : decode cX2_next 90 = .ok (.invokestatic 51, 3) := dk_184 0 51 (dk_at dksX2_next_4 0 rfl rfl)
theorem dX2_next_93 : decode cX2_next 93 = .ok (.ifCond .eq 35, 3) := dk_153 0 35 (dk_at dksX2_next_4 3 rfl rfl)
theorem dX2_next_96 : decode cX2_next 96 = .ok (.aload_n 1, 1) := dk_43 (dk_at dksX2_next_4 6 rfl rfl)
theorem dX2_next_97 : decode cX2_next 97 = .ok (.invokevirtual 58, 3) := dk_182 0 58 (dk_at dksX2_next_4 7 rfl rfl)
theorem dX2_next_100 : decode cX2_next 100 = .ok (.bipush 9, 2) := dk_16 9 (dk_at dksX2_next_4 10 rfl rfl)
theorem dX2_next_102 : decode cX2_next 102 = .ok (.if_icmp .ge 13, 3) := dk_162 0 13 (dk_at dksX2_next_4 12 rfl rfl)
theorem dX2_next_105 : decode cX2_next 105 = .ok (.aload_n 1, 1) := dk_43 (dk_at dksX2_next_4 15 rfl rfl)
theorem dX2_next_106 : decode cX2_next 106 = .ok (.aload_n 0, 1) := dk_42 (dk_at dksX2_next_4 16 rfl rfl)
theorem dX2_next_107 : decode cX2_next 107 = .ok (.invokevirtual 33, 3) := dk_182 0 33 (dk_at dksX2_next_4 17 rfl rfl)
theorem dX2_next_110 : decode cX2_next 110 = .ok (.i2c, 1) := dk_146 (dk_at dksX2_next_4 20 rfl rfl)
theorem dX2_next_111 : decode cX2_next 111 = .ok (.invokevirtual 61, 3) := dk_182 0 61 (dk_at dksX2_next_4 21 rfl rfl)
theorem dX2_next_114 : decode cX2_next 114 = .ok (.pop, 1) := dk_87 (dk_at dksX2_next_5 0 rfl rfl)
theorem dX2_next_115 : decode cX2_next 115 = .ok (.aload_n 0, 1) := dk_42 (dk_at dksX2_next_5 1 rfl rfl)
theorem dX2_next_116 : decode cX2_next 116 = .ok (.dup, 1) := dk_89 (dk_at dksX2_next_5 2 rfl rfl)
theorem dX2_next_117 : decode cX2_next 117 = .ok (.getfield 9, 3) := dk_180 0 9 (dk_at dksX2_next_5 3 rfl rfl)
theorem dX2_next_120 : decode cX2_next 120 = .ok (.iconst 1, 1) := dk_4 (dk_at dksX2_next_5 6 rfl rfl)
theorem dX2_next_121 : decode cX2_next 121 = .ok (.iadd, 1) := dk_96 (dk_at dksX2_next_5 7 rfl rfl)
theorem dX2_next_122 : decode cX2_next 122 = .ok (.putfield 9, 3) := dk_181 0 9 (dk_at dksX2_next_5 8 rfl rfl)
theorem dX2_next_125 : decode cX2_next 125 = .ok (.goto (-46), 3) := dk_167 255 210 (dk_at dksX2_next_5 11 rfl rfl)
theorem dX2_next_128 : decode cX2_next 128 = .ok (.aload_n 0, 1) := dk_42 (dk_at dksX2_next_5 14 rfl rfl)
theorem dX2_next_129 : decode cX2_next 129 = .ok (.aload_n 1, 1) := dk_43 (dk_at dksX2_next_5 15 rfl rfl)
theorem dX2_next_130 : decode cX2_next 130 = .ok (.invokevirtual 65, 3) := dk_182 0 65 (dk_at dksX2_next_5 16 rfl rfl)
theorem dX2_next_133 : decode cX2_next 133 = .ok (.putfield 37, 3) := dk_181 0 37 (dk_at dksX2_next_5 19 rfl rfl)
theorem dX2_next_136 : decode cX2_next 136 = .ok (.goto 143, 3) := dk_167 0 143 (dk_at dksX2_next_6 0 rfl rfl)
theorem dX2_next_139 : decode cX2_next 139 = .ok (.aload_n 0, 1) := dk_42 (dk_at dksX2_next_6 3 rfl rfl)
theorem dX2_next_140 : decode cX2_next 140 = .ok (.invokevirtual 33, 3) := dk_182 0 33 (dk_at dksX2_next_6 4 rfl rfl)
theorem dX2_next_143 : decode cX2_next 143 = .ok (.i2l, 1) := dk_133 (dk_at dksX2_next_6 7 rfl rfl)
theorem dX2_next_144 : decode cX2_next 144 = .ok (.ldc2_w 69, 3) := dk_20 0 69 (dk_at dksX2_next_6 8 rfl rfl)
theorem dX2_next_147 : decode cX2_next 147 = .ok (.ldc2_w 71, 3) := dk_20 0 71 (dk_at dksX2_next_6 11 rfl rfl)
theorem dX2_next_150 : decode cX2_next 150 = .ok (.invokestatic 51, 3) := dk_184 0 51 (dk_at dksX2_next_6 14 rfl rfl)
theorem dX2_next_153 : decode cX2_next 153 = .ok (.ifCond .eq 80, 3) := dk_153 0 80 (dk_at dksX2_next_6 17 rfl rfl)
theorem dX2_next_156 : decode cX2_next 156 = .ok (.iconst 0, 1) := dk_3 (dk_at dksX2_next_6 20 rfl rfl)
theorem dX2_next_157 : decode cX2_next 157 = .ok (.istore_n 1, 1) := dk_60 (dk_at dksX2_next_6 21 rfl rfl)
theorem dX2_next_158 : decode cX2_next 158 = .ok (.aload_n 0, 1) := dk_42 (dk_at dksX2_next_6 22 rfl rfl)
theorem dX2_next_159 : decode cX2_next 159 = .ok (.iconst 0, 1) := dk_3 (dk_at dksX2_next_6 23 rfl rfl)
theorem dX2_next_160 : decode cX2_next 160 = .ok (.putfield 41, 3) := dk_181 0 41 (dk_at dksX2_next_7 0 rfl rfl)
theorem dX2_next_163 : decode cX2_next 163 = .ok (.aload_n 0, 1) := dk_42 (dk_at dksX2_next_7 3 rfl rfl)
theorem dX2_next_164 : decode cX2_next 164 = .ok (.invokevirtual 33, 3) := dk_182 0 33 (dk_at dksX2_next_7 4 rfl rfl)
theorem dX2_next_167 : decode cX2_next 167 = .ok (.i2l, 1) := dk_133 (dk_at dksX2_next_7 7 rfl rfl)
theorem dX2_next_168 : decode cX2_next 168 = .ok (.ldc2_w 69, 3) := dk_20 0 69 (dk_at dksX2_next_7 8 rfl rfl)
theorem dX2_next_171 : decode cX2_next 171 = .ok (.ldc2_w 71, 3) := dk_20 0 71 (dk_at dksX2_next_7 11 rfl rfl)
theorem dX2_next_174 : decode cX2_next 174 = .ok (.invokestatic 51, 3) := dk_184 0 51 (dk_at dksX2_next_7 14 rfl rfl)
theorem dX2_next_177 : decode cX2_next 177 = .ok (.ifCond .eq 43, 3) := dk_153 0 43 (dk_at dksX2_next_7 17 rfl rfl)
theorem dX2_next_180 : decode cX2_next 180 = .ok (.iload_n 1, 1) := dk_27 (dk_at dksX2_next_7 20 rfl rfl)
theorem dX2_next_181 : decode cX2_next 181 = .ok (.iconst 4, 1) := dk_7 (dk_at dksX2_next_7 21 rfl rfl)
theorem dX2_next_182 : decode cX2_next 182 = .ok (.if_icmp .ge 22, 3) := dk_162 0 22 (dk_at dksX2_next_8 0 rfl rfl)
theorem dX2_next_185 : decode cX2_next 185 = .ok (.aload_n 0, 1) := dk_42 (dk_at dksX2_next_8 3 rfl rfl)
theorem dX2_next_186 : decode cX2_next 186 = .ok (.bipush 10, 2) := dk_16 10 (dk_at dksX2_next_8 4 rfl rfl)
theorem dX2_next_188 : decode cX2_next 188 = .ok (.aload_n 0, 1) := dk_42 (dk_at dksX2_next_8 6 rfl rfl)
theorem dX2_next_189 : decode cX2_next 189 = .ok (.getfield 41, 3) := dk_180 0 41 (dk_at dksX2_next_8 7 rfl rfl)
theorem dX2_next_192 : decode cX2_next 192 = .ok (.imul, 1) := dk_104 (dk_at dksX2_next_8 10 rfl rfl)
theorem dX2_next_193 : decode cX2_next 193 = .ok (.aload_n 0, 1) := dk_42 (dk_at dksX2_next_8 11 rfl rfl)
theorem dX2_next_194 : decode cX2_next 194 = .ok (.invokevirtual 33, 3) := dk_182 0 33 (dk_at dksX2_next_8 12 rfl rfl)
theorem dX2_next_197 : decode cX2_next 197 = .ok (.iadd, 1) := dk_96 (dk_at dksX2_next_8 15 rfl rfl)
theorem dX2_next_198 : decode cX2_next 198 = .ok (.bipush 48, 2) := dk_16 48 (dk_at dksX2_next_8 16 rfl rfl)
theorem dX2_next_200 : decode cX2_next 200 = .ok (.isub, 1) := dk_100 (dk_at dksX2_next_8 18 rfl rfl)
theorem dX2_next_201 : decode cX2_next 201 = .ok (.putfield 41, 3) := dk_181 0 41 (dk_at dksX2_next_8 19 rfl rfl)
theorem dX2_next_204 : decode cX2_next 204 = .ok (.iinc 1 1, 3) := dk_132 1 1 (dk_at dksX2_next_9 0 rfl rfl)
theorem dX2_next_207 : decode cX2_next 207 = .ok (.aload_n 0, 1) := dk_42 (dk_at dksX2_next_9 3 rfl rfl)
theorem dX2_next_208 : decode cX2_next 208 = .ok (.dup, 1) := dk_89 (dk_at dksX2_next_9 4 rfl rfl)
theorem dX2_next_209 : decode cX2_next 209 = .ok (.getfield 9, 3) := dk_180 0 9 (dk_at dksX2_next_9 5 rfl rfl)
theorem dX2_next_212 : decode cX2_next 212 = .ok (.iconst 1, 1) := dk_4 (dk_at dksX2_next_9 8 rfl rfl)
theorem dX2_next_213 : decode cX2_next 213 = .ok (.iadd, 1) := dk_96 (dk_at dksX2_next_9 9 rfl rfl)
theorem dX2_next_214 : decode cX2_next 214 = .ok (.putfield 9, 3) := dk_181 0 9 (dk_at dksX2_next_9 10 rfl rfl)
theorem dX2_next_217 : decode cX2_next 217 = .ok (.goto (-54), 3) := dk_167 255 202 (dk_at dksX2_next_9 13 rfl rfl)
theorem dX2_next_220 : decode cX2_next 220 = .ok (.iload_n 1, 1) := dk_27 (dk_at dksX2_next_9 16 rfl rfl)
theorem dX2_next_221 : decode cX2_next 221 = .ok (.iconst 4, 1) := dk_7 (dk_at dksX2_next_9 17 rfl rfl)
theorem dX2_next_222 : decode cX2_next 222 = .ok (.if_icmp .le 8, 3) := dk_164 0 8 (dk_at dksX2_next_9 18 rfl rfl)
theorem dX2_next_225 : decode cX2_next 225 = .ok (.aload_n 0, 1) := dk_42 (dk_at dksX2_next_9 21 rfl rfl)
theorem dX2_next_226 : decode cX2_next 226 = .ok (.invokevirtual 73, 3) := dk_182 0 73 (dk_at dksX2_next_10 0 rfl rfl)
theorem dX2_next_229 : decode cX2_next 229 = .ok (.athrow, 1) := dk_191 (dk_at dksX2_next_10 3 rfl rfl)
theorem dX2_next_230 : decode cX2_next 230 = .ok (.goto 49, 3) := dk_167 0 49 (dk_at dksX2_next_10 4 rfl rfl)
theorem dX2_next_233 : decode cX2_next 233 = .ok (.aload_n 0, 1) := dk_42 (dk_at dksX2_next_10 7 rfl rfl)
theorem dX2_next_234 : decode cX2_next 234 = .ok (.getfield 9, 3) := dk_180 0 9 (dk_at dksX2_next_10 8 rfl rfl)
theorem dX2_next_237 : decode cX2_next 237 = .ok (.aload_n 0, 1) := dk_42 (dk_at dksX2_next_10 11 rfl rfl)
theorem dX2_next_238 : decode cX2_next 238 = .ok (.getfield 25, 3) := dk_180 0 25 (dk_at dksX2_next_10 12 rfl rfl)
theorem dX2_next_241 : decode cX2_next 241 = .ok (.if_icmp .ge 38, 3) := dk_162 0 38 (dk_at dksX2_next_10 15 rfl rfl)
theorem dX2_next_244 : decode cX2_next 244 = .ok (.aload_n 0, 1) := dk_42 (dk_at dksX2_next_10 18 rfl rfl)
theorem dX2_next_245 : decode cX2_next 245 = .ok (.aload_n 0, 1) := dk_42 (dk_at dksX2_next_10 19 rfl rfl)
theorem dX2_next_246 : decode cX2_next 246 = .ok (.invokevirtual 33, 3) := dk_182 0 33 (dk_at dksX2_next_10 20 rfl rfl)
theorem dX2_next_249 : decode cX2_next 249 = .ok (.putfield 44, 3) := dk_181 0 44 (dk_at dksX2_next_11 0 rfl rfl)
theorem dX2_next_252 : decode cX2_next 252 = .ok (.ldc 77, 2) := dk_18 77 (dk_at dksX2_next_11 3 rfl rfl)
theorem dX2_next_254 : decode cX2_next 254 = .ok (.aload_n 0, 1) := dk_42 (dk_at dksX2_next_11 5 rfl rfl)
theorem dX2_next_255 : decode cX2_next 255 = .ok (.getfield 44, 3) := dk_180 0 44 (dk_at dksX2_next_11 6 rfl rfl)
theorem dX2_next_258 : decode cX2_next 258 = .ok (.invokevirtual 79, 3) := dk_182 0 79 (dk_at dksX2_next_11 9 rfl rfl)
theorem dX2_next_261 : decode cX2_next 261 = .ok (.ifCond .ge 8, 3) := dk_156 0 8 (dk_at dksX2_next_11 12 rfl rfl)
theorem dX2_next_264 : decode cX2_next 264 = .ok (.aload_n 0, 1) := dk_42 (dk_at dksX2_next_11 15 rfl rfl)
theorem dX2_next_265 : decode cX2_next 265 = .ok (.invokevirtual 73, 3) := dk_182 0 73 (dk_at dksX2_next_11 16 rfl rfl)
theorem dX2_next_268 : decode cX2_next 268 = .ok (.athrow, 1) := dk_191 (dk_at dksX2_next_11 19 rfl rfl)
theorem dX2_next_269 : decode cX2_next 269 = .ok (.aload_n 0, 1) := dk_42 (dk_at dksX2_next_11 20 rfl rfl)
theorem dX2_next_270 : decode cX2_next 270 = .ok (.dup, 1) := dk_89 (dk_at dksX2_next_11 21 rfl rfl)
theorem dX2_next_271 : decode cX2_next 271 = .ok (.getfield 9, 3) := dk_180 0 9 (dk_at dksX2_next_12 0 rfl rfl)
theorem dX2_next_274 : decode cX2_next 274 = .ok (.iconst 1, 1) := dk_4 (dk_at dksX2_next_12 3 rfl rfl)
theorem dX2_next_275 : decode cX2_next 275 = .ok (.iadd, 1) := dk_96 (dk_at dksX2_next_12 4 rfl rfl)
theorem dX2_next_276 : decode cX2_next 276 = .ok (.putfield 9, 3) := dk_181 0 9 (dk_at dksX2_next_12 5 rfl rfl)
theorem dX2_next_279 : decode cX2_next 279 = .ok (.return_, 1) := dk_177 (dk_at dksX2_next_12 8 rfl rfl)
abbrev cX2_here : ByteArray := prog_10_method_3_code
def yX2_here : MethodName := ⟨RX2, "here", "()I"⟩
def dkwX2_here_1 : List UInt8 := [167, 0, 4, 2, 172]
abbrev dktX2_here_1 : List UInt8 := dkwX2_here_1 ++ []
def dkwX2_here_0 : List UInt8 := [42, 180, 0, 9, 42, 180, 0, 25, 162, 0, 19, 42, 180, 0, 21, 42, 180, 0, 9, 51, 17, 0, 255, 126]
abbrev dktX2_here_0 : List UInt8 := dkwX2_here_0 ++ dktX2_here_1
theorem dksX2_here_0 : cX2_here.data.toList.drop 0 = dktX2_here_0 := by decide +kernel
theorem dksX2_here_1 : cX2_here.data.toList.drop 24 = dktX2_here_1 := dk_seg dksX2_here_0 24 rfl rfl
theorem dX2_here_0 : decode cX2_here 0 = .ok (.aload_n 0, 1) := dk_42 (dk_at dksX2_here_0 0 rfl rfl)
theorem dX2_here_1 : decode cX2_here 1 = .ok (.getfield 9, 3) := dk_180 0 9 (dk_at dksX2_here_0 1 rfl rfl)
theorem dX2_here_4 : decode cX2_here 4 = .ok (.aload_n 0, 1) := dk_42 (dk_at dksX2_here_0 4 rfl rfl)
theorem dX2_here_5 : decode cX2_here 5 = .ok (.getfield 25, 3) := dk_180 0 25 (dk_at dksX2_here_0 5 rfl rfl)
theorem dX2_here_8 : decode cX2_here 8 = .ok (.if_icmp .ge 19, 3) := dk_162 0 19 (dk_at dksX2_here_0 8 rfl rfl)
theorem dX2_here_11 : decode cX2_here 11 = .ok (.aload_n 0, 1) := dk_42 (dk_at dksX2_here_0 11 rfl rfl)
theorem dX2_here_12 : decode cX2_here 12 = .ok (.getfield 21, 3) := dk_180 0 21 (dk_at dksX2_here_0 12 rfl rfl)
theorem dX2_here_15 : decode cX2_here 15 = .ok (.aload_n 0, 1) := dk_42 (dk_at dksX2_here_0 15 rfl rfl)
theorem dX2_here_16 : decode cX2_here 16 = .ok (.getfield 9, 3) := dk_180 0 9 (dk_at dksX2_here_0 16 rfl rfl)
theorem dX2_here_19 : decode cX2_here 19 = .ok (.baload, 1) := dk_51 (dk_at dksX2_here_0 19 rfl rfl)
theorem dX2_here_20 : decode cX2_here 20 = .ok (.sipush 255, 3) := dk_17 0 255 (dk_at dksX2_here_0 20 rfl rfl)
theorem dX2_here_23 : decode cX2_here 23 = .ok (.iand, 1) := dk_126 (dk_at dksX2_here_0 23 rfl rfl)
theorem dX2_here_24 : decode cX2_here 24 = .ok (.goto 4, 3) := dk_167 0 4 (dk_at dksX2_here_1 0 rfl rfl)
theorem dX2_here_27 : decode cX2_here 27 = .ok (.iconst (-1), 1) := dk_2 (dk_at dksX2_here_1 3 rfl rfl)
theorem dX2_here_28 : decode cX2_here 28 = .ok (.ireturn, 1) := dk_172 (dk_at dksX2_here_1 4 rfl rfl)
abbrev cX2_fault : ByteArray := prog_10_method_2_code
def yX2_fault : MethodName := ⟨RX2, "fault", "()LMarketDays$Fault;"⟩
def dkwX2_fault_0 : List UInt8 := [187, 0, 28, 89, 42, 180, 0, 15, 183, 0, 30, 176]
abbrev dktX2_fault_0 : List UInt8 := dkwX2_fault_0 ++ []
theorem dksX2_fault_0 : cX2_fault.data.toList.drop 0 = dktX2_fault_0 := by decide +kernel
theorem dX2_fault_0 : decode cX2_fault 0 = .ok (.new 28, 3) := dk_187 0 28 (dk_at dksX2_fault_0 0 rfl rfl)
theorem dX2_fault_3 : decode cX2_fault 3 = .ok (.dup, 1) := dk_89 (dk_at dksX2_fault_0 3 rfl rfl)
theorem dX2_fault_4 : decode cX2_fault 4 = .ok (.aload_n 0, 1) := dk_42 (dk_at dksX2_fault_0 4 rfl rfl)
theorem dX2_fault_5 : decode cX2_fault 5 = .ok (.getfield 15, 3) := dk_180 0 15 (dk_at dksX2_fault_0 5 rfl rfl)
theorem dX2_fault_8 : decode cX2_fault 8 = .ok (.invokespecial 30, 3) := dk_183 0 30 (dk_at dksX2_fault_0 8 rfl rfl)
theorem dX2_fault_11 : decode cX2_fault 11 = .ok (.areturn, 1) := dk_176 (dk_at dksX2_fault_0 11 rfl rfl)
abbrev cX2_is : ByteArray := prog_10_method_5_code
def yX2_is : MethodName := ⟨RX2, "is", "(Ljava/lang/String;)Z"⟩
def dkwX2_is_0 : List UInt8 := [43, 42, 180, 0, 37, 182, 0, 85, 172]
abbrev dktX2_is_0 : List UInt8 := dkwX2_is_0 ++ []
theorem dksX2_is_0 : cX2_is.data.toList.drop 0 = dktX2_is_0 := by decide +kernel
theorem dX2_is_0 : decode cX2_is 0 = .ok (.aload_n 1, 1) := dk_43 (dk_at dksX2_is_0 0 rfl rfl)
theorem dX2_is_1 : decode cX2_is 1 = .ok (.aload_n 0, 1) := dk_42 (dk_at dksX2_is_0 1 rfl rfl)
theorem dX2_is_2 : decode cX2_is 2 = .ok (.getfield 37, 3) := dk_180 0 37 (dk_at dksX2_is_0 2 rfl rfl)
theorem dX2_is_5 : decode cX2_is 5 = .ok (.invokevirtual 85, 3) := dk_182 0 85 (dk_at dksX2_is_0 5 rfl rfl)
theorem dX2_is_8 : decode cX2_is 8 = .ok (.ireturn, 1) := dk_172 (dk_at dksX2_is_0 8 rfl rfl)
abbrev cX2_either : ByteArray := prog_10_method_13_code
def yX2_either : MethodName := ⟨RX2, "either", "()LMarketDays$Node;"⟩
def dkwX2_either_1 : List UInt8 := [43, 42, 182, 0, 141, 183, 0, 126, 76, 167, 255, 228, 43, 176]
abbrev dktX2_either_1 : List UInt8 := dkwX2_either_1 ++ []
def dkwX2_either_0 : List UInt8 := [42, 182, 0, 141, 76, 42, 18, 144, 182, 0, 116, 153, 0, 25, 42, 182, 0, 89, 187, 0, 124, 89, 16, 124]
abbrev dktX2_either_0 : List UInt8 := dkwX2_either_0 ++ dktX2_either_1
theorem dksX2_either_0 : cX2_either.data.toList.drop 0 = dktX2_either_0 := by decide +kernel
theorem dksX2_either_1 : cX2_either.data.toList.drop 24 = dktX2_either_1 := dk_seg dksX2_either_0 24 rfl rfl
theorem dX2_either_0 : decode cX2_either 0 = .ok (.aload_n 0, 1) := dk_42 (dk_at dksX2_either_0 0 rfl rfl)
theorem dX2_either_1 : decode cX2_either 1 = .ok (.invokevirtual 141, 3) := dk_182 0 141 (dk_at dksX2_either_0 1 rfl rfl)
theorem dX2_either_4 : decode cX2_either 4 = .ok (.astore_n 1, 1) := dk_76 (dk_at dksX2_either_0 4 rfl rfl)
theorem dX2_either_5 : decode cX2_either 5 = .ok (.aload_n 0, 1) := dk_42 (dk_at dksX2_either_0 5 rfl rfl)
theorem dX2_either_6 : decode cX2_either 6 = .ok (.ldc 144, 2) := dk_18 144 (dk_at dksX2_either_0 6 rfl rfl)
theorem dX2_either_8 : decode cX2_either 8 = .ok (.invokevirtual 116, 3) := dk_182 0 116 (dk_at dksX2_either_0 8 rfl rfl)
theorem dX2_either_11 : decode cX2_either 11 = .ok (.ifCond .eq 25, 3) := dk_153 0 25 (dk_at dksX2_either_0 11 rfl rfl)
theorem dX2_either_14 : decode cX2_either 14 = .ok (.aload_n 0, 1) := dk_42 (dk_at dksX2_either_0 14 rfl rfl)
theorem dX2_either_15 : decode cX2_either 15 = .ok (.invokevirtual 89, 3) := dk_182 0 89 (dk_at dksX2_either_0 15 rfl rfl)
theorem dX2_either_18 : decode cX2_either 18 = .ok (.new 124, 3) := dk_187 0 124 (dk_at dksX2_either_0 18 rfl rfl)
theorem dX2_either_21 : decode cX2_either 21 = .ok (.dup, 1) := dk_89 (dk_at dksX2_either_0 21 rfl rfl)
theorem dX2_either_22 : decode cX2_either 22 = .ok (.bipush 124, 2) := dk_16 124 (dk_at dksX2_either_0 22 rfl rfl)
theorem dX2_either_24 : decode cX2_either 24 = .ok (.aload_n 1, 1) := dk_43 (dk_at dksX2_either_1 0 rfl rfl)
theorem dX2_either_25 : decode cX2_either 25 = .ok (.aload_n 0, 1) := dk_42 (dk_at dksX2_either_1 1 rfl rfl)
theorem dX2_either_26 : decode cX2_either 26 = .ok (.invokevirtual 141, 3) := dk_182 0 141 (dk_at dksX2_either_1 2 rfl rfl)
theorem dX2_either_29 : decode cX2_either 29 = .ok (.invokespecial 126, 3) := dk_183 0 126 (dk_at dksX2_either_1 5 rfl rfl)
theorem dX2_either_32 : decode cX2_either 32 = .ok (.astore_n 1, 1) := dk_76 (dk_at dksX2_either_1 8 rfl rfl)
theorem dX2_either_33 : decode cX2_either 33 = .ok (.goto (-28), 3) := dk_167 255 228 (dk_at dksX2_either_1 9 rfl rfl)
theorem dX2_either_36 : decode cX2_either 36 = .ok (.aload_n 1, 1) := dk_43 (dk_at dksX2_either_1 12 rfl rfl)
theorem dX2_either_37 : decode cX2_either 37 = .ok (.areturn, 1) := dk_176 (dk_at dksX2_either_1 13 rfl rfl)
abbrev cX2_both : ByteArray := prog_10_method_12_code
def yX2_both : MethodName := ⟨RX2, "both", "()LMarketDays$Node;"⟩
def dkwX2_both_1 : List UInt8 := [43, 42, 182, 0, 134, 183, 0, 126, 76, 167, 255, 228, 43, 176]
abbrev dktX2_both_1 : List UInt8 := dkwX2_both_1 ++ []
def dkwX2_both_0 : List UInt8 := [42, 182, 0, 134, 76, 42, 18, 139, 182, 0, 116, 153, 0, 25, 42, 182, 0, 89, 187, 0, 124, 89, 16, 38]
abbrev dktX2_both_0 : List UInt8 := dkwX2_both_0 ++ dktX2_both_1
theorem dksX2_both_0 : cX2_both.data.toList.drop 0 = dktX2_both_0 := by decide +kernel
theorem dksX2_both_1 : cX2_both.data.toList.drop 24 = dktX2_both_1 := dk_seg dksX2_both_0 24 rfl rfl
theorem dX2_both_0 : decode cX2_both 0 = .ok (.aload_n 0, 1) := dk_42 (dk_at dksX2_both_0 0 rfl rfl)
theorem dX2_both_1 : decode cX2_both 1 = .ok (.invokevirtual 134, 3) := dk_182 0 134 (dk_at dksX2_both_0 1 rfl rfl)
theorem dX2_both_4 : decode cX2_both 4 = .ok (.astore_n 1, 1) := dk_76 (dk_at dksX2_both_0 4 rfl rfl)
theorem dX2_both_5 : decode cX2_both 5 = .ok (.aload_n 0, 1) := dk_42 (dk_at dksX2_both_0 5 rfl rfl)
theorem dX2_both_6 : decode cX2_both 6 = .ok (.ldc 139, 2) := dk_18 139 (dk_at dksX2_both_0 6 rfl rfl)
theorem dX2_both_8 : decode cX2_both 8 = .ok (.invokevirtual 116, 3) := dk_182 0 116 (dk_at dksX2_both_0 8 rfl rfl)
theorem dX2_both_11 : decode cX2_both 11 = .ok (.ifCond .eq 25, 3) := dk_153 0 25 (dk_at dksX2_both_0 11 rfl rfl)
theorem dX2_both_14 : decode cX2_both 14 = .ok (.aload_n 0, 1) := dk_42 (dk_at dksX2_both_0 14 rfl rfl)
theorem dX2_both_15 : decode cX2_both 15 = .ok (.invokevirtual 89, 3) := dk_182 0 89 (dk_at dksX2_both_0 15 rfl rfl)
theorem dX2_both_18 : decode cX2_both 18 = .ok (.new 124, 3) := dk_187 0 124 (dk_at dksX2_both_0 18 rfl rfl)
theorem dX2_both_21 : decode cX2_both 21 = .ok (.dup, 1) := dk_89 (dk_at dksX2_both_0 21 rfl rfl)
theorem dX2_both_22 : decode cX2_both 22 = .ok (.bipush 38, 2) := dk_16 38 (dk_at dksX2_both_0 22 rfl rfl)
theorem dX2_both_24 : decode cX2_both 24 = .ok (.aload_n 1, 1) := dk_43 (dk_at dksX2_both_1 0 rfl rfl)
theorem dX2_both_25 : decode cX2_both 25 = .ok (.aload_n 0, 1) := dk_42 (dk_at dksX2_both_1 1 rfl rfl)
theorem dX2_both_26 : decode cX2_both 26 = .ok (.invokevirtual 134, 3) := dk_182 0 134 (dk_at dksX2_both_1 2 rfl rfl)
theorem dX2_both_29 : decode cX2_both 29 = .ok (.invokespecial 126, 3) := dk_183 0 126 (dk_at dksX2_both_1 5 rfl rfl)
theorem dX2_both_32 : decode cX2_both 32 = .ok (.astore_n 1, 1) := dk_76 (dk_at dksX2_both_1 8 rfl rfl)
theorem dX2_both_33 : decode cX2_both 33 = .ok (.goto (-28), 3) := dk_167 255 228 (dk_at dksX2_both_1 9 rfl rfl)
theorem dX2_both_36 : decode cX2_both 36 = .ok (.aload_n 1, 1) := dk_43 (dk_at dksX2_both_1 12 rfl rfl)
theorem dX2_both_37 : decode cX2_both 37 = .ok (.areturn, 1) := dk_176 (dk_at dksX2_both_1 13 rfl rfl)
abbrev cX2_not : ByteArray := prog_10_method_11_code
def yX2_not : MethodName := ⟨RX2, "not", "()LMarketDays$Node;"⟩
def dkwX2_not_3 : List UInt8 := [182, 0, 89, 187, 0, 124, 89, 28, 43, 42, 182, 0, 136, 183, 0, 126, 176]
abbrev dktX2_not_3 : List UInt8 := dkwX2_not_3 ++ []
def dkwX2_not_2 : List UInt8 := [16, 60, 159, 0, 14, 42, 180, 0, 44, 16, 61, 159, 0, 5, 43, 176, 42, 180, 0, 44, 61, 42]
abbrev dktX2_not_2 : List UInt8 := dkwX2_not_2 ++ dktX2_not_3
def dkwX2_not_1 : List UInt8 := [100, 181, 0, 18, 187, 0, 99, 89, 4, 43, 183, 0, 101, 176, 42, 182, 0, 136, 76, 42, 180, 0, 44]
abbrev dktX2_not_1 : List UInt8 := dkwX2_not_1 ++ dktX2_not_2
def dkwX2_not_0 : List UInt8 := [42, 18, 132, 182, 0, 116, 153, 0, 32, 42, 182, 0, 92, 42, 182, 0, 134, 76, 42, 89, 180, 0, 18, 4]
abbrev dktX2_not_0 : List UInt8 := dkwX2_not_0 ++ dktX2_not_1
theorem dksX2_not_0 : cX2_not.data.toList.drop 0 = dktX2_not_0 := by decide +kernel
theorem dksX2_not_1 : cX2_not.data.toList.drop 24 = dktX2_not_1 := dk_seg dksX2_not_0 24 rfl rfl
theorem dksX2_not_2 : cX2_not.data.toList.drop 47 = dktX2_not_2 := dk_seg dksX2_not_1 23 rfl rfl
theorem dksX2_not_3 : cX2_not.data.toList.drop 69 = dktX2_not_3 := dk_seg dksX2_not_2 22 rfl rfl
theorem dX2_not_0 : decode cX2_not 0 = .ok (.aload_n 0, 1) := dk_42 (dk_at dksX2_not_0 0 rfl rfl)
theorem dX2_not_1 : decode cX2_not 1 = .ok (.ldc 132, 2) := dk_18 132 (dk_at dksX2_not_0 1 rfl rfl)
theorem dX2_not_3 : decode cX2_not 3 = .ok (.invokevirtual 116, 3) := dk_182 0 116 (dk_at dksX2_not_0 3 rfl rfl)
theorem dX2_not_6 : decode cX2_not 6 = .ok (.ifCond .eq 32, 3) := dk_153 0 32 (dk_at dksX2_not_0 6 rfl rfl)
theorem dX2_not_9 : decode cX2_not 9 = .ok (.aload_n 0, 1) := dk_42 (dk_at dksX2_not_0 9 rfl rfl)
theorem dX2_not_10 : decode cX2_not 10 = .ok (.invokevirtual 92, 3) := dk_182 0 92 (dk_at dksX2_not_0 10 rfl rfl)
theorem dX2_not_13 : decode cX2_not 13 = .ok (.aload_n 0, 1) := dk_42 (dk_at dksX2_not_0 13 rfl rfl)
theorem dX2_not_14 : decode cX2_not 14 = .ok (.invokevirtual 134, 3) := dk_182 0 134 (dk_at dksX2_not_0 14 rfl rfl)
theorem dX2_not_17 : decode cX2_not 17 = .ok (.astore_n 1, 1) := dk_76 (dk_at dksX2_not_0 17 rfl rfl)
theorem dX2_not_18 : decode cX2_not 18 = .ok (.aload_n 0, 1) := dk_42 (dk_at dksX2_not_0 18 rfl rfl)
theorem dX2_not_19 : decode cX2_not 19 = .ok (.dup, 1) := dk_89 (dk_at dksX2_not_0 19 rfl rfl)
theorem dX2_not_20 : decode cX2_not 20 = .ok (.getfield 18, 3) := dk_180 0 18 (dk_at dksX2_not_0 20 rfl rfl)
theorem dX2_not_23 : decode cX2_not 23 = .ok (.iconst 1, 1) := dk_4 (dk_at dksX2_not_0 23 rfl rfl)
theorem dX2_not_24 : decode cX2_not 24 = .ok (.isub, 1) := dk_100 (dk_at dksX2_not_1 0 rfl rfl)
theorem dX2_not_25 : decode cX2_not 25 = .ok (.putfield 18, 3) := dk_181 0 18 (dk_at dksX2_not_1 1 rfl rfl)
theorem dX2_not_28 : decode cX2_not 28 = .ok (.new 99, 3) := dk_187 0 99 (dk_at dksX2_not_1 4 rfl rfl)
theorem dX2_not_31 : decode cX2_not 31 = .ok (.dup, 1) := dk_89 (dk_at dksX2_not_1 7 rfl rfl)
theorem dX2_not_32 : decode cX2_not 32 = .ok (.iconst 1, 1) := dk_4 (dk_at dksX2_not_1 8 rfl rfl)
theorem dX2_not_33 : decode cX2_not 33 = .ok (.aload_n 1, 1) := dk_43 (dk_at dksX2_not_1 9 rfl rfl)
theorem dX2_not_34 : decode cX2_not 34 = .ok (.invokespecial 101, 3) := dk_183 0 101 (dk_at dksX2_not_1 10 rfl rfl)
theorem dX2_not_37 : decode cX2_not 37 = .ok (.areturn, 1) := dk_176 (dk_at dksX2_not_1 13 rfl rfl)
theorem dX2_not_38 : decode cX2_not 38 = .ok (.aload_n 0, 1) := dk_42 (dk_at dksX2_not_1 14 rfl rfl)
theorem dX2_not_39 : decode cX2_not 39 = .ok (.invokevirtual 136, 3) := dk_182 0 136 (dk_at dksX2_not_1 15 rfl rfl)
theorem dX2_not_42 : decode cX2_not 42 = .ok (.astore_n 1, 1) := dk_76 (dk_at dksX2_not_1 18 rfl rfl)
theorem dX2_not_43 : decode cX2_not 43 = .ok (.aload_n 0, 1) := dk_42 (dk_at dksX2_not_1 19 rfl rfl)
theorem dX2_not_44 : decode cX2_not 44 = .ok (.getfield 44, 3) := dk_180 0 44 (dk_at dksX2_not_1 20 rfl rfl)
theorem dX2_not_47 : decode cX2_not 47 = .ok (.bipush 60, 2) := dk_16 60 (dk_at dksX2_not_2 0 rfl rfl)
theorem dX2_not_49 : decode cX2_not 49 = .ok (.if_icmp .eq 14, 3) := dk_159 0 14 (dk_at dksX2_not_2 2 rfl rfl)
theorem dX2_not_52 : decode cX2_not 52 = .ok (.aload_n 0, 1) := dk_42 (dk_at dksX2_not_2 5 rfl rfl)
theorem dX2_not_53 : decode cX2_not 53 = .ok (.getfield 44, 3) := dk_180 0 44 (dk_at dksX2_not_2 6 rfl rfl)
theorem dX2_not_56 : decode cX2_not 56 = .ok (.bipush 61, 2) := dk_16 61 (dk_at dksX2_not_2 9 rfl rfl)
theorem dX2_not_58 : decode cX2_not 58 = .ok (.if_icmp .eq 5, 3) := dk_159 0 5 (dk_at dksX2_not_2 11 rfl rfl)
theorem dX2_not_61 : decode cX2_not 61 = .ok (.aload_n 1, 1) := dk_43 (dk_at dksX2_not_2 14 rfl rfl)
theorem dX2_not_62 : decode cX2_not 62 = .ok (.areturn, 1) := dk_176 (dk_at dksX2_not_2 15 rfl rfl)
theorem dX2_not_63 : decode cX2_not 63 = .ok (.aload_n 0, 1) := dk_42 (dk_at dksX2_not_2 16 rfl rfl)
theorem dX2_not_64 : decode cX2_not 64 = .ok (.getfield 44, 3) := dk_180 0 44 (dk_at dksX2_not_2 17 rfl rfl)
theorem dX2_not_67 : decode cX2_not 67 = .ok (.istore_n 2, 1) := dk_61 (dk_at dksX2_not_2 20 rfl rfl)
theorem dX2_not_68 : decode cX2_not 68 = .ok (.aload_n 0, 1) := dk_42 (dk_at dksX2_not_2 21 rfl rfl)
theorem dX2_not_69 : decode cX2_not 69 = .ok (.invokevirtual 89, 3) := dk_182 0 89 (dk_at dksX2_not_3 0 rfl rfl)
theorem dX2_not_72 : decode cX2_not 72 = .ok (.new 124, 3) := dk_187 0 124 (dk_at dksX2_not_3 3 rfl rfl)
theorem dX2_not_75 : decode cX2_not 75 = .ok (.dup, 1) := dk_89 (dk_at dksX2_not_3 6 rfl rfl)
theorem dX2_not_76 : decode cX2_not 76 = .ok (.iload_n 2, 1) := dk_28 (dk_at dksX2_not_3 7 rfl rfl)
theorem dX2_not_77 : decode cX2_not 77 = .ok (.aload_n 1, 1) := dk_43 (dk_at dksX2_not_3 8 rfl rfl)
theorem dX2_not_78 : decode cX2_not 78 = .ok (.aload_n 0, 1) := dk_42 (dk_at dksX2_not_3 9 rfl rfl)
theorem dX2_not_79 : decode cX2_not 79 = .ok (.invokevirtual 136, 3) := dk_182 0 136 (dk_at dksX2_not_3 10 rfl rfl)
theorem dX2_not_82 : decode cX2_not 82 = .ok (.invokespecial 126, 3) := dk_183 0 126 (dk_at dksX2_not_3 13 rfl rfl)
theorem dX2_not_85 : decode cX2_not 85 = .ok (.areturn, 1) := dk_176 (dk_at dksX2_not_3 16 rfl rfl)
abbrev cX2_opens : ByteArray := prog_10_method_7_code
def yX2_opens : MethodName := ⟨RX2, "opens", "()V"⟩
def dkwX2_opens_1 : List UInt8 := [182, 0, 89, 177]
abbrev dktX2_opens_1 : List UInt8 := dkwX2_opens_1 ++ []
def dkwX2_opens_0 : List UInt8 := [42, 180, 0, 18, 8, 160, 0, 8, 42, 182, 0, 73, 191, 42, 89, 180, 0, 18, 4, 96, 181, 0, 18, 42]
abbrev dktX2_opens_0 : List UInt8 := dkwX2_opens_0 ++ dktX2_opens_1
theorem dksX2_opens_0 : cX2_opens.data.toList.drop 0 = dktX2_opens_0 := by decide +kernel
theorem dksX2_opens_1 : cX2_opens.data.toList.drop 24 = dktX2_opens_1 := dk_seg dksX2_opens_0 24 rfl rfl
theorem dX2_opens_0 : decode cX2_opens 0 = .ok (.aload_n 0, 1) := dk_42 (dk_at dksX2_opens_0 0 rfl rfl)
theorem dX2_opens_1 : decode cX2_opens 1 = .ok (.getfield 18, 3) := dk_180 0 18 (dk_at dksX2_opens_0 1 rfl rfl)
theorem dX2_opens_4 : decode cX2_opens 4 = .ok (.iconst 5, 1) := dk_8 (dk_at dksX2_opens_0 4 rfl rfl)
theorem dX2_opens_5 : decode cX2_opens 5 = .ok (.if_icmp .ne 8, 3) := dk_160 0 8 (dk_at dksX2_opens_0 5 rfl rfl)
theorem dX2_opens_8 : decode cX2_opens 8 = .ok (.aload_n 0, 1) := dk_42 (dk_at dksX2_opens_0 8 rfl rfl)
theorem dX2_opens_9 : decode cX2_opens 9 = .ok (.invokevirtual 73, 3) := dk_182 0 73 (dk_at dksX2_opens_0 9 rfl rfl)
theorem dX2_opens_12 : decode cX2_opens 12 = .ok (.athrow, 1) := dk_191 (dk_at dksX2_opens_0 12 rfl rfl)
theorem dX2_opens_13 : decode cX2_opens 13 = .ok (.aload_n 0, 1) := dk_42 (dk_at dksX2_opens_0 13 rfl rfl)
theorem dX2_opens_14 : decode cX2_opens 14 = .ok (.dup, 1) := dk_89 (dk_at dksX2_opens_0 14 rfl rfl)
theorem dX2_opens_15 : decode cX2_opens 15 = .ok (.getfield 18, 3) := dk_180 0 18 (dk_at dksX2_opens_0 15 rfl rfl)
theorem dX2_opens_18 : decode cX2_opens 18 = .ok (.iconst 1, 1) := dk_4 (dk_at dksX2_opens_0 18 rfl rfl)
theorem dX2_opens_19 : decode cX2_opens 19 = .ok (.iadd, 1) := dk_96 (dk_at dksX2_opens_0 19 rfl rfl)
theorem dX2_opens_20 : decode cX2_opens 20 = .ok (.putfield 18, 3) := dk_181 0 18 (dk_at dksX2_opens_0 20 rfl rfl)
theorem dX2_opens_23 : decode cX2_opens 23 = .ok (.aload_n 0, 1) := dk_42 (dk_at dksX2_opens_0 23 rfl rfl)
theorem dX2_opens_24 : decode cX2_opens 24 = .ok (.invokevirtual 89, 3) := dk_182 0 89 (dk_at dksX2_opens_1 0 rfl rfl)
theorem dX2_opens_27 : decode cX2_opens 27 = .ok (.return_, 1) := dk_177 (dk_at dksX2_opens_1 3 rfl rfl)
abbrev cX2_sum : ByteArray := prog_10_method_10_code
def yX2_sum : MethodName := ⟨RX2, "sum", "()LMarketDays$Node;"⟩
def dkwX2_sum_2 : List UInt8 := [167, 255, 215, 43, 176]
abbrev dktX2_sum_2 : List UInt8 := dkwX2_sum_2 ++ []
def dkwX2_sum_1 : List UInt8 := [180, 0, 44, 61, 42, 182, 0, 89, 187, 0, 124, 89, 28, 43, 42, 182, 0, 129, 183, 0, 126, 76]
abbrev dktX2_sum_1 : List UInt8 := dkwX2_sum_1 ++ dktX2_sum_2
def dkwX2_sum_0 : List UInt8 := [42, 182, 0, 129, 76, 42, 180, 0, 44, 16, 43, 159, 0, 12, 42, 180, 0, 44, 16, 45, 160, 0, 29, 42]
abbrev dktX2_sum_0 : List UInt8 := dkwX2_sum_0 ++ dktX2_sum_1
theorem dksX2_sum_0 : cX2_sum.data.toList.drop 0 = dktX2_sum_0 := by decide +kernel
theorem dksX2_sum_1 : cX2_sum.data.toList.drop 24 = dktX2_sum_1 := dk_seg dksX2_sum_0 24 rfl rfl
theorem dksX2_sum_2 : cX2_sum.data.toList.drop 46 = dktX2_sum_2 := dk_seg dksX2_sum_1 22 rfl rfl
theorem dX2_sum_0 : decode cX2_sum 0 = .ok (.aload_n 0, 1) := dk_42 (dk_at dksX2_sum_0 0 rfl rfl)
theorem dX2_sum_1 : decode cX2_sum 1 = .ok (.invokevirtual 129, 3) := dk_182 0 129 (dk_at dksX2_sum_0 1 rfl rfl)
theorem dX2_sum_4 : decode cX2_sum 4 = .ok (.astore_n 1, 1) := dk_76 (dk_at dksX2_sum_0 4 rfl rfl)
theorem dX2_sum_5 : decode cX2_sum 5 = .ok (.aload_n 0, 1) := dk_42 (dk_at dksX2_sum_0 5 rfl rfl)
theorem dX2_sum_6 : decode cX2_sum 6 = .ok (.getfield 44, 3) := dk_180 0 44 (dk_at dksX2_sum_0 6 rfl rfl)
theorem dX2_sum_9 : decode cX2_sum 9 = .ok (.bipush 43, 2) := dk_16 43 (dk_at dksX2_sum_0 9 rfl rfl)
theorem dX2_sum_11 : decode cX2_sum 11 = .ok (.if_icmp .eq 12, 3) := dk_159 0 12 (dk_at dksX2_sum_0 11 rfl rfl)
theorem dX2_sum_14 : decode cX2_sum 14 = .ok (.aload_n 0, 1) := dk_42 (dk_at dksX2_sum_0 14 rfl rfl)
theorem dX2_sum_15 : decode cX2_sum 15 = .ok (.getfield 44, 3) := dk_180 0 44 (dk_at dksX2_sum_0 15 rfl rfl)
theorem dX2_sum_18 : decode cX2_sum 18 = .ok (.bipush 45, 2) := dk_16 45 (dk_at dksX2_sum_0 18 rfl rfl)
theorem dX2_sum_20 : decode cX2_sum 20 = .ok (.if_icmp .ne 29, 3) := dk_160 0 29 (dk_at dksX2_sum_0 20 rfl rfl)
theorem dX2_sum_23 : decode cX2_sum 23 = .ok (.aload_n 0, 1) := dk_42 (dk_at dksX2_sum_0 23 rfl rfl)
theorem dX2_sum_24 : decode cX2_sum 24 = .ok (.getfield 44, 3) := dk_180 0 44 (dk_at dksX2_sum_1 0 rfl rfl)
theorem dX2_sum_27 : decode cX2_sum 27 = .ok (.istore_n 2, 1) := dk_61 (dk_at dksX2_sum_1 3 rfl rfl)
theorem dX2_sum_28 : decode cX2_sum 28 = .ok (.aload_n 0, 1) := dk_42 (dk_at dksX2_sum_1 4 rfl rfl)
theorem dX2_sum_29 : decode cX2_sum 29 = .ok (.invokevirtual 89, 3) := dk_182 0 89 (dk_at dksX2_sum_1 5 rfl rfl)
theorem dX2_sum_32 : decode cX2_sum 32 = .ok (.new 124, 3) := dk_187 0 124 (dk_at dksX2_sum_1 8 rfl rfl)
theorem dX2_sum_35 : decode cX2_sum 35 = .ok (.dup, 1) := dk_89 (dk_at dksX2_sum_1 11 rfl rfl)
theorem dX2_sum_36 : decode cX2_sum 36 = .ok (.iload_n 2, 1) := dk_28 (dk_at dksX2_sum_1 12 rfl rfl)
theorem dX2_sum_37 : decode cX2_sum 37 = .ok (.aload_n 1, 1) := dk_43 (dk_at dksX2_sum_1 13 rfl rfl)
theorem dX2_sum_38 : decode cX2_sum 38 = .ok (.aload_n 0, 1) := dk_42 (dk_at dksX2_sum_1 14 rfl rfl)
theorem dX2_sum_39 : decode cX2_sum 39 = .ok (.invokevirtual 129, 3) := dk_182 0 129 (dk_at dksX2_sum_1 15 rfl rfl)
theorem dX2_sum_42 : decode cX2_sum 42 = .ok (.invokespecial 126, 3) := dk_183 0 126 (dk_at dksX2_sum_1 18 rfl rfl)
theorem dX2_sum_45 : decode cX2_sum 45 = .ok (.astore_n 1, 1) := dk_76 (dk_at dksX2_sum_1 21 rfl rfl)
theorem dX2_sum_46 : decode cX2_sum 46 = .ok (.goto (-41), 3) := dk_167 255 215 (dk_at dksX2_sum_2 0 rfl rfl)
theorem dX2_sum_49 : decode cX2_sum 49 = .ok (.aload_n 1, 1) := dk_43 (dk_at dksX2_sum_2 3 rfl rfl)
theorem dX2_sum_50 : decode cX2_sum 50 = .ok (.areturn, 1) := dk_176 (dk_at dksX2_sum_2 4 rfl rfl)
abbrev cX2_term : ByteArray := prog_10_method_9_code
def yX2_term : MethodName := ⟨RX2, "term", "()LMarketDays$Node;"⟩
def dkwX2_term_1 : List UInt8 := [182, 0, 95, 183, 0, 126, 76, 167, 255, 232, 43, 176]
abbrev dktX2_term_1 : List UInt8 := dkwX2_term_1 ++ []
def dkwX2_term_0 : List UInt8 := [42, 182, 0, 95, 76, 42, 16, 42, 182, 0, 120, 153, 0, 21, 187, 0, 124, 89, 16, 42, 43, 42]
abbrev dktX2_term_0 : List UInt8 := dkwX2_term_0 ++ dktX2_term_1
theorem dksX2_term_0 : cX2_term.data.toList.drop 0 = dktX2_term_0 := by decide +kernel
theorem dksX2_term_1 : cX2_term.data.toList.drop 22 = dktX2_term_1 := dk_seg dksX2_term_0 22 rfl rfl
theorem dX2_term_0 : decode cX2_term 0 = .ok (.aload_n 0, 1) := dk_42 (dk_at dksX2_term_0 0 rfl rfl)
theorem dX2_term_1 : decode cX2_term 1 = .ok (.invokevirtual 95, 3) := dk_182 0 95 (dk_at dksX2_term_0 1 rfl rfl)
theorem dX2_term_4 : decode cX2_term 4 = .ok (.astore_n 1, 1) := dk_76 (dk_at dksX2_term_0 4 rfl rfl)
theorem dX2_term_5 : decode cX2_term 5 = .ok (.aload_n 0, 1) := dk_42 (dk_at dksX2_term_0 5 rfl rfl)
theorem dX2_term_6 : decode cX2_term 6 = .ok (.bipush 42, 2) := dk_16 42 (dk_at dksX2_term_0 6 rfl rfl)
theorem dX2_term_8 : decode cX2_term 8 = .ok (.invokevirtual 120, 3) := dk_182 0 120 (dk_at dksX2_term_0 8 rfl rfl)
theorem dX2_term_11 : decode cX2_term 11 = .ok (.ifCond .eq 21, 3) := dk_153 0 21 (dk_at dksX2_term_0 11 rfl rfl)
theorem dX2_term_14 : decode cX2_term 14 = .ok (.new 124, 3) := dk_187 0 124 (dk_at dksX2_term_0 14 rfl rfl)
theorem dX2_term_17 : decode cX2_term 17 = .ok (.dup, 1) := dk_89 (dk_at dksX2_term_0 17 rfl rfl)
theorem dX2_term_18 : decode cX2_term 18 = .ok (.bipush 42, 2) := dk_16 42 (dk_at dksX2_term_0 18 rfl rfl)
theorem dX2_term_20 : decode cX2_term 20 = .ok (.aload_n 1, 1) := dk_43 (dk_at dksX2_term_0 20 rfl rfl)
theorem dX2_term_21 : decode cX2_term 21 = .ok (.aload_n 0, 1) := dk_42 (dk_at dksX2_term_0 21 rfl rfl)
theorem dX2_term_22 : decode cX2_term 22 = .ok (.invokevirtual 95, 3) := dk_182 0 95 (dk_at dksX2_term_1 0 rfl rfl)
theorem dX2_term_25 : decode cX2_term 25 = .ok (.invokespecial 126, 3) := dk_183 0 126 (dk_at dksX2_term_1 3 rfl rfl)
theorem dX2_term_28 : decode cX2_term 28 = .ok (.astore_n 1, 1) := dk_76 (dk_at dksX2_term_1 6 rfl rfl)
theorem dX2_term_29 : decode cX2_term 29 = .ok (.goto (-24), 3) := dk_167 255 232 (dk_at dksX2_term_1 7 rfl rfl)
theorem dX2_term_32 : decode cX2_term 32 = .ok (.aload_n 1, 1) := dk_43 (dk_at dksX2_term_1 10 rfl rfl)
theorem dX2_term_33 : decode cX2_term 33 = .ok (.areturn, 1) := dk_176 (dk_at dksX2_term_1 11 rfl rfl)
abbrev cX2_one : ByteArray := prog_10_method_8_code
def yX2_one : MethodName := ⟨RX2, "one", "()LMarketDays$Node;"⟩
def dkwX2_one_6 : List UInt8 := [187, 0, 107, 89, 3, 27, 183, 0, 109, 176, 132, 1, 1, 167, 255, 216, 42, 182, 0, 73, 191]
abbrev dktX2_one_6 : List UInt8 := dkwX2_one_6 ++ []
def dkwX2_one_5 : List UInt8 := [190, 162, 0, 38, 42, 178, 0, 112, 27, 50, 182, 0, 116, 154, 0, 6, 167, 0, 17, 42, 182, 0, 89]
abbrev dktX2_one_5 : List UInt8 := dkwX2_one_5 ++ dktX2_one_6
def dkwX2_one_4 : List UInt8 := [180, 0, 41, 60, 42, 182, 0, 89, 187, 0, 107, 89, 27, 2, 183, 0, 109, 176, 3, 60, 27, 178, 0, 112]
abbrev dktX2_one_4 : List UInt8 := dkwX2_one_4 ++ dktX2_one_5
def dkwX2_one_3 : List UInt8 := [180, 0, 18, 4, 100, 181, 0, 18, 42, 182, 0, 89, 43, 176, 42, 180, 0, 41, 2, 159, 0, 22, 42]
abbrev dktX2_one_3 : List UInt8 := dkwX2_one_3 ++ dktX2_one_4
def dkwX2_one_2 : List UInt8 := [182, 0, 92, 42, 182, 0, 104, 76, 42, 180, 0, 44, 16, 41, 159, 0, 8, 42, 182, 0, 73, 191, 42, 89]
abbrev dktX2_one_2 : List UInt8 := dkwX2_one_2 ++ dktX2_one_3
def dkwX2_one_1 : List UInt8 := [100, 181, 0, 18, 187, 0, 99, 89, 3, 43, 183, 0, 101, 176, 42, 180, 0, 44, 16, 40, 160, 0, 42, 42]
abbrev dktX2_one_1 : List UInt8 := dkwX2_one_1 ++ dktX2_one_2
def dkwX2_one_0 : List UInt8 := [42, 180, 0, 44, 16, 45, 160, 0, 32, 42, 182, 0, 92, 42, 182, 0, 95, 76, 42, 89, 180, 0, 18, 4]
abbrev dktX2_one_0 : List UInt8 := dkwX2_one_0 ++ dktX2_one_1
theorem dksX2_one_0 : cX2_one.data.toList.drop 0 = dktX2_one_0 := by decide +kernel
theorem dksX2_one_1 : cX2_one.data.toList.drop 24 = dktX2_one_1 := dk_seg dksX2_one_0 24 rfl rfl
theorem dksX2_one_2 : cX2_one.data.toList.drop 48 = dktX2_one_2 := dk_seg dksX2_one_1 24 rfl rfl
theorem dksX2_one_3 : cX2_one.data.toList.drop 72 = dktX2_one_3 := dk_seg dksX2_one_2 24 rfl rfl
theorem dksX2_one_4 : cX2_one.data.toList.drop 95 = dktX2_one_4 := dk_seg dksX2_one_3 23 rfl rfl
theorem dksX2_one_5 : cX2_one.data.toList.drop 119 = dktX2_one_5 := dk_seg dksX2_one_4 24 rfl rfl
theorem dksX2_one_6 : cX2_one.data.toList.drop 142 = dktX2_one_6 := dk_seg dksX2_one_5 23 rfl rfl
theorem dX2_one_0 : decode cX2_one 0 = .ok (.aload_n 0, 1) := dk_42 (dk_at dksX2_one_0 0 rfl rfl)
theorem dX2_one_1 : decode cX2_one 1 = .ok (.getfield 44, 3) := dk_180 0 44 (dk_at dksX2_one_0 1 rfl rfl)
theorem dX2_one_4 : decode cX2_one 4 = .ok (.bipush 45, 2) := dk_16 45 (dk_at dksX2_one_0 4 rfl rfl)
theorem dX2_one_6 : decode cX2_one 6 = .ok (.if_icmp .ne 32, 3) := dk_160 0 32 (dk_at dksX2_one_0 6 rfl rfl)
theorem dX2_one_9 : decode cX2_one 9 = .ok (.aload_n 0, 1) := dk_42 (dk_at dksX2_one_0 9 rfl rfl)
theorem dX2_one_10 : decode cX2_one 10 = .ok (.invokevirtual 92, 3) := dk_182 0 92 (dk_at dksX2_one_0 10 rfl rfl)
theorem dX2_one_13 : decode cX2_one 13 = .ok (.aload_n 0, 1) := dk_42 (dk_at dksX2_one_0 13 rfl rfl)
theorem dX2_one_14 : decode cX2_one 14 = .ok (.invokevirtual 95, 3) := dk_182 0 95 (dk_at dksX2_one_0 14 rfl rfl)
theorem dX2_one_17 : decode cX2_one 17 = .ok (.astore_n 1, 1) := dk_76 (dk_at dksX2_one_0 17 rfl rfl)
theorem dX2_one_18 : decode cX2_one 18 = .ok (.aload_n 0, 1) := dk_42 (dk_at dksX2_one_0 18 rfl rfl)
theorem dX2_one_19 : decode cX2_one 19 = .ok (.dup, 1) := dk_89 (dk_at dksX2_one_0 19 rfl rfl)
theorem dX2_one_20 : decode cX2_one 20 = .ok (.getfield 18, 3) := dk_180 0 18 (dk_at dksX2_one_0 20 rfl rfl)
theorem dX2_one_23 : decode cX2_one 23 = .ok (.iconst 1, 1) := dk_4 (dk_at dksX2_one_0 23 rfl rfl)
theorem dX2_one_24 : decode cX2_one 24 = .ok (.isub, 1) := dk_100 (dk_at dksX2_one_1 0 rfl rfl)
theorem dX2_one_25 : decode cX2_one 25 = .ok (.putfield 18, 3) := dk_181 0 18 (dk_at dksX2_one_1 1 rfl rfl)
theorem dX2_one_28 : decode cX2_one 28 = .ok (.new 99, 3) := dk_187 0 99 (dk_at dksX2_one_1 4 rfl rfl)
theorem dX2_one_31 : decode cX2_one 31 = .ok (.dup, 1) := dk_89 (dk_at dksX2_one_1 7 rfl rfl)
theorem dX2_one_32 : decode cX2_one 32 = .ok (.iconst 0, 1) := dk_3 (dk_at dksX2_one_1 8 rfl rfl)
theorem dX2_one_33 : decode cX2_one 33 = .ok (.aload_n 1, 1) := dk_43 (dk_at dksX2_one_1 9 rfl rfl)
theorem dX2_one_34 : decode cX2_one 34 = .ok (.invokespecial 101, 3) := dk_183 0 101 (dk_at dksX2_one_1 10 rfl rfl)
theorem dX2_one_37 : decode cX2_one 37 = .ok (.areturn, 1) := dk_176 (dk_at dksX2_one_1 13 rfl rfl)
theorem dX2_one_38 : decode cX2_one 38 = .ok (.aload_n 0, 1) := dk_42 (dk_at dksX2_one_1 14 rfl rfl)
theorem dX2_one_39 : decode cX2_one 39 = .ok (.getfield 44, 3) := dk_180 0 44 (dk_at dksX2_one_1 15 rfl rfl)
theorem dX2_one_42 : decode cX2_one 42 = .ok (.bipush 40, 2) := dk_16 40 (dk_at dksX2_one_1 18 rfl rfl)
theorem dX2_one_44 : decode cX2_one 44 = .ok (.if_icmp .ne 42, 3) := dk_160 0 42 (dk_at dksX2_one_1 20 rfl rfl)
theorem dX2_one_47 : decode cX2_one 47 = .ok (.aload_n 0, 1) := dk_42 (dk_at dksX2_one_1 23 rfl rfl)
theorem dX2_one_48 : decode cX2_one 48 = .ok (.invokevirtual 92, 3) := dk_182 0 92 (dk_at dksX2_one_2 0 rfl rfl)
theorem dX2_one_51 : decode cX2_one 51 = .ok (.aload_n 0, 1) := dk_42 (dk_at dksX2_one_2 3 rfl rfl)
theorem dX2_one_52 : decode cX2_one 52 = .ok (.invokevirtual 104, 3) := dk_182 0 104 (dk_at dksX2_one_2 4 rfl rfl)
theorem dX2_one_55 : decode cX2_one 55 = .ok (.astore_n 1, 1) := dk_76 (dk_at dksX2_one_2 7 rfl rfl)
theorem dX2_one_56 : decode cX2_one 56 = .ok (.aload_n 0, 1) := dk_42 (dk_at dksX2_one_2 8 rfl rfl)
theorem dX2_one_57 : decode cX2_one 57 = .ok (.getfield 44, 3) := dk_180 0 44 (dk_at dksX2_one_2 9 rfl rfl)
theorem dX2_one_60 : decode cX2_one 60 = .ok (.bipush 41, 2) := dk_16 41 (dk_at dksX2_one_2 12 rfl rfl)
theorem dX2_one_62 : decode cX2_one 62 = .ok (.if_icmp .eq 8, 3) := dk_159 0 8 (dk_at dksX2_one_2 14 rfl rfl)
theorem dX2_one_65 : decode cX2_one 65 = .ok (.aload_n 0, 1) := dk_42 (dk_at dksX2_one_2 17 rfl rfl)
theorem dX2_one_66 : decode cX2_one 66 = .ok (.invokevirtual 73, 3) := dk_182 0 73 (dk_at dksX2_one_2 18 rfl rfl)
theorem dX2_one_69 : decode cX2_one 69 = .ok (.athrow, 1) := dk_191 (dk_at dksX2_one_2 21 rfl rfl)
theorem dX2_one_70 : decode cX2_one 70 = .ok (.aload_n 0, 1) := dk_42 (dk_at dksX2_one_2 22 rfl rfl)
theorem dX2_one_71 : decode cX2_one 71 = .ok (.dup, 1) := dk_89 (dk_at dksX2_one_2 23 rfl rfl)
theorem dX2_one_72 : decode cX2_one 72 = .ok (.getfield 18, 3) := dk_180 0 18 (dk_at dksX2_one_3 0 rfl rfl)
theorem dX2_one_75 : decode cX2_one 75 = .ok (.iconst 1, 1) := dk_4 (dk_at dksX2_one_3 3 rfl rfl)
theorem dX2_one_76 : decode cX2_one 76 = .ok (.isub, 1) := dk_100 (dk_at dksX2_one_3 4 rfl rfl)
theorem dX2_one_77 : decode cX2_one 77 = .ok (.putfield 18, 3) := dk_181 0 18 (dk_at dksX2_one_3 5 rfl rfl)
theorem dX2_one_80 : decode cX2_one 80 = .ok (.aload_n 0, 1) := dk_42 (dk_at dksX2_one_3 8 rfl rfl)
theorem dX2_one_81 : decode cX2_one 81 = .ok (.invokevirtual 89, 3) := dk_182 0 89 (dk_at dksX2_one_3 9 rfl rfl)
theorem dX2_one_84 : decode cX2_one 84 = .ok (.aload_n 1, 1) := dk_43 (dk_at dksX2_one_3 12 rfl rfl)
theorem dX2_one_85 : decode cX2_one 85 = .ok (.areturn, 1) := dk_176 (dk_at dksX2_one_3 13 rfl rfl)
theorem dX2_one_86 : decode cX2_one 86 = .ok (.aload_n 0, 1) := dk_42 (dk_at dksX2_one_3 14 rfl rfl)
theorem dX2_one_87 : decode cX2_one 87 = .ok (.getfield 41, 3) := dk_180 0 41 (dk_at dksX2_one_3 15 rfl rfl)
theorem dX2_one_90 : decode cX2_one 90 = .ok (.iconst (-1), 1) := dk_2 (dk_at dksX2_one_3 18 rfl rfl)
theorem dX2_one_91 : decode cX2_one 91 = .ok (.if_icmp .eq 22, 3) := dk_159 0 22 (dk_at dksX2_one_3 19 rfl rfl)
theorem dX2_one_94 : decode cX2_one 94 = .ok (.aload_n 0, 1) := dk_42 (dk_at dksX2_one_3 22 rfl rfl)
theorem dX2_one_95 : decode cX2_one 95 = .ok (.getfield 41, 3) := dk_180 0 41 (dk_at dksX2_one_4 0 rfl rfl)
theorem dX2_one_98 : decode cX2_one 98 = .ok (.istore_n 1, 1) := dk_60 (dk_at dksX2_one_4 3 rfl rfl)
theorem dX2_one_99 : decode cX2_one 99 = .ok (.aload_n 0, 1) := dk_42 (dk_at dksX2_one_4 4 rfl rfl)
theorem dX2_one_100 : decode cX2_one 100 = .ok (.invokevirtual 89, 3) := dk_182 0 89 (dk_at dksX2_one_4 5 rfl rfl)
theorem dX2_one_103 : decode cX2_one 103 = .ok (.new 107, 3) := dk_187 0 107 (dk_at dksX2_one_4 8 rfl rfl)
theorem dX2_one_106 : decode cX2_one 106 = .ok (.dup, 1) := dk_89 (dk_at dksX2_one_4 11 rfl rfl)
theorem dX2_one_107 : decode cX2_one 107 = .ok (.iload_n 1, 1) := dk_27 (dk_at dksX2_one_4 12 rfl rfl)
theorem dX2_one_108 : decode cX2_one 108 = .ok (.iconst (-1), 1) := dk_2 (dk_at dksX2_one_4 13 rfl rfl)
theorem dX2_one_109 : decode cX2_one 109 = .ok (.invokespecial 109, 3) := dk_183 0 109 (dk_at dksX2_one_4 14 rfl rfl)
theorem dX2_one_112 : decode cX2_one 112 = .ok (.areturn, 1) := dk_176 (dk_at dksX2_one_4 17 rfl rfl)
theorem dX2_one_113 : decode cX2_one 113 = .ok (.iconst 0, 1) := dk_3 (dk_at dksX2_one_4 18 rfl rfl)
theorem dX2_one_114 : decode cX2_one 114 = .ok (.istore_n 1, 1) := dk_60 (dk_at dksX2_one_4 19 rfl rfl)
theorem dX2_one_115 : decode cX2_one 115 = .ok (.iload_n 1, 1) := dk_27 (dk_at dksX2_one_4 20 rfl rfl)
theorem dX2_one_116 : decode cX2_one 116 = .ok (.getstatic 112, 3) := dk_178 0 112 (dk_at dksX2_one_4 21 rfl rfl)
theorem dX2_one_119 : decode cX2_one 119 = .ok (.arraylength, 1) := dk_190 (dk_at dksX2_one_5 0 rfl rfl)
theorem dX2_one_120 : decode cX2_one 120 = .ok (.if_icmp .ge 38, 3) := dk_162 0 38 (dk_at dksX2_one_5 1 rfl rfl)
theorem dX2_one_123 : decode cX2_one 123 = .ok (.aload_n 0, 1) := dk_42 (dk_at dksX2_one_5 4 rfl rfl)
theorem dX2_one_124 : decode cX2_one 124 = .ok (.getstatic 112, 3) := dk_178 0 112 (dk_at dksX2_one_5 5 rfl rfl)
theorem dX2_one_127 : decode cX2_one 127 = .ok (.iload_n 1, 1) := dk_27 (dk_at dksX2_one_5 8 rfl rfl)
theorem dX2_one_128 : decode cX2_one 128 = .ok (.aaload, 1) := dk_50 (dk_at dksX2_one_5 9 rfl rfl)
theorem dX2_one_129 : decode cX2_one 129 = .ok (.invokevirtual 116, 3) := dk_182 0 116 (dk_at dksX2_one_5 10 rfl rfl)
theorem dX2_one_132 : decode cX2_one 132 = .ok (.ifCond .ne 6, 3) := dk_154 0 6 (dk_at dksX2_one_5 13 rfl rfl)
theorem dX2_one_135 : decode cX2_one 135 = .ok (.goto 17, 3) := dk_167 0 17 (dk_at dksX2_one_5 16 rfl rfl)
theorem dX2_one_138 : decode cX2_one 138 = .ok (.aload_n 0, 1) := dk_42 (dk_at dksX2_one_5 19 rfl rfl)
theorem dX2_one_139 : decode cX2_one 139 = .ok (.invokevirtual 89, 3) := dk_182 0 89 (dk_at dksX2_one_5 20 rfl rfl)
theorem dX2_one_142 : decode cX2_one 142 = .ok (.new 107, 3) := dk_187 0 107 (dk_at dksX2_one_6 0 rfl rfl)
theorem dX2_one_145 : decode cX2_one 145 = .ok (.dup, 1) := dk_89 (dk_at dksX2_one_6 3 rfl rfl)
theorem dX2_one_146 : decode cX2_one 146 = .ok (.iconst 0, 1) := dk_3 (dk_at dksX2_one_6 4 rfl rfl)
theorem dX2_one_147 : decode cX2_one 147 = .ok (.iload_n 1, 1) := dk_27 (dk_at dksX2_one_6 5 rfl rfl)
theorem dX2_one_148 : decode cX2_one 148 = .ok (.invokespecial 109, 3) := dk_183 0 109 (dk_at dksX2_one_6 6 rfl rfl)
theorem dX2_one_151 : decode cX2_one 151 = .ok (.areturn, 1) := dk_176 (dk_at dksX2_one_6 9 rfl rfl)
theorem dX2_one_152 : decode cX2_one 152 = .ok (.iinc 1 1, 3) := dk_132 1 1 (dk_at dksX2_one_6 10 rfl rfl)
theorem dX2_one_155 : decode cX2_one 155 = .ok (.goto (-40), 3) := dk_167 255 216 (dk_at dksX2_one_6 13 rfl rfl)
theorem dX2_one_158 : decode cX2_one 158 = .ok (.aload_n 0, 1) := dk_42 (dk_at dksX2_one_6 16 rfl rfl)
theorem dX2_one_159 : decode cX2_one 159 = .ok (.invokevirtual 73, 3) := dk_182 0 73 (dk_at dksX2_one_6 17 rfl rfl)
theorem dX2_one_162 : decode cX2_one 162 = .ok (.athrow, 1) := dk_191 (dk_at dksX2_one_6 20 rfl rfl)
abbrev cX2_takes : ByteArray := prog_10_method_6_code
def yX2_takes : MethodName := ⟨RX2, "takes", "(I)Z"⟩
def dkwX2_takes_0 : List UInt8 := [42, 180, 0, 44, 27, 159, 0, 5, 3, 172, 42, 182, 0, 89, 4, 172]
abbrev dktX2_takes_0 : List UInt8 := dkwX2_takes_0 ++ []
theorem dksX2_takes_0 : cX2_takes.data.toList.drop 0 = dktX2_takes_0 := by decide +kernel
theorem dX2_takes_0 : decode cX2_takes 0 = .ok (.aload_n 0, 1) := dk_42 (dk_at dksX2_takes_0 0 rfl rfl)
theorem dX2_takes_1 : decode cX2_takes 1 = .ok (.getfield 44, 3) := dk_180 0 44 (dk_at dksX2_takes_0 1 rfl rfl)
theorem dX2_takes_4 : decode cX2_takes 4 = .ok (.iload_n 1, 1) := dk_27 (dk_at dksX2_takes_0 4 rfl rfl)
theorem dX2_takes_5 : decode cX2_takes 5 = .ok (.if_icmp .eq 5, 3) := dk_159 0 5 (dk_at dksX2_takes_0 5 rfl rfl)
theorem dX2_takes_8 : decode cX2_takes 8 = .ok (.iconst 0, 1) := dk_3 (dk_at dksX2_takes_0 8 rfl rfl)
theorem dX2_takes_9 : decode cX2_takes 9 = .ok (.ireturn, 1) := dk_172 (dk_at dksX2_takes_0 9 rfl rfl)
theorem dX2_takes_10 : decode cX2_takes 10 = .ok (.aload_n 0, 1) := dk_42 (dk_at dksX2_takes_0 10 rfl rfl)
theorem dX2_takes_11 : decode cX2_takes 11 = .ok (.invokevirtual 89, 3) := dk_182 0 89 (dk_at dksX2_takes_0 11 rfl rfl)
theorem dX2_takes_14 : decode cX2_takes 14 = .ok (.iconst 1, 1) := dk_4 (dk_at dksX2_takes_0 14 rfl rfl)
theorem dX2_takes_15 : decode cX2_takes 15 = .ok (.ireturn, 1) := dk_172 (dk_at dksX2_takes_0 15 rfl rfl)
theorem q92 : (Jvm.Cond.initialized "MarketDays$Reader") ∈ lw_all := lw_g (lw_at lw_m1 10 rfl) rfl
theorem q231 : (Jvm.Cond.instantiable "MarketDays$Reader" (8 : Nat)) ∈ lw_all := lw_g (lw_at lw_m1 149 rfl) rfl
theorem q233 : (Jvm.Cond.instanceMethod ({ cls := "MarketDays$Reader", name := "<init>", desc := "([BI)V" } : Jvm.MethodName)) ∈ lw_all := lw_g (lw_at lw_m1 151 rfl) rfl
theorem q234 : (Jvm.Cond.code ({ cls := "MarketDays$Reader", name := "<init>", desc := "([BI)V" } : Jvm.MethodName) prog_10_method_1_code (3 : Nat) (Option.none : Option Jvm.ClassFile.FieldType)) ∈ lw_all := lw_g (lw_at lw_m1 152 rfl) rfl
theorem q235 : (Jvm.Cond.methodLink "MarketDays$Reader" (3 : Nat) ({ cls := "java/lang/Object", name := "<init>", desc := "()V" } : Jvm.MethodName)) ∈ lw_all := lw_g (lw_at lw_m1 153 rfl) rfl
theorem q236 : (Jvm.Cond.fieldLink "MarketDays$Reader" (21 : Nat) "MarketDays$Reader" "text" "[B") ∈ lw_all := lw_g (lw_at lw_m1 154 rfl) rfl
theorem q237 : (Jvm.Cond.fieldLink "MarketDays$Reader" (25 : Nat) "MarketDays$Reader" "size" "I") ∈ lw_all := lw_g (lw_at lw_m1 155 rfl) rfl
theorem q238 : (Jvm.Cond.fieldLink "MarketDays$Reader" (9 : Nat) "MarketDays$Reader" "at" "I") ∈ lw_all := lw_g (lw_at lw_m1 156 rfl) rfl
theorem q239 : (Jvm.Cond.fieldLink "MarketDays$Reader" (15 : Nat) "MarketDays$Reader" "from" "I") ∈ lw_all := lw_g (lw_at lw_m1 157 rfl) rfl
theorem q240 : (Jvm.Cond.fieldLink "MarketDays$Reader" (18 : Nat) "MarketDays$Reader" "open" "I") ∈ lw_all := lw_g (lw_at lw_m1 158 rfl) rfl
theorem q241 : (Jvm.Cond.fieldLink "MarketDays$Reader" (37 : Nat) "MarketDays$Reader" "word" "Ljava/lang/String;") ∈ lw_all := lw_g (lw_at lw_m1 159 rfl) rfl
theorem q242 : (Jvm.Cond.fieldLink "MarketDays$Reader" (41 : Nat) "MarketDays$Reader" "number" "I") ∈ lw_all := lw_g (lw_at lw_m1 160 rfl) rfl
theorem q243 : (Jvm.Cond.fieldLink "MarketDays$Reader" (44 : Nat) "MarketDays$Reader" "sign" "I") ∈ lw_all := lw_g (lw_at lw_m1 161 rfl) rfl
theorem q244 : (Jvm.Cond.laysFinal "MarketDays$Reader" "MarketDays$Reader" "text" "[B") ∈ lw_all := lw_g (lw_at lw_m1 162 rfl) rfl
theorem q245 : (Jvm.Cond.soleField "MarketDays$Reader" "text") ∈ lw_all := lw_g (lw_at lw_m1 163 rfl) rfl
theorem q246 : (Jvm.Cond.laysFinal "MarketDays$Reader" "MarketDays$Reader" "size" "I") ∈ lw_all := lw_g (lw_at lw_m1 164 rfl) rfl
theorem q247 : (Jvm.Cond.soleField "MarketDays$Reader" "size") ∈ lw_all := lw_g (lw_at lw_m1 165 rfl) rfl
theorem q248 : (Jvm.Cond.lays "MarketDays$Reader" "MarketDays$Reader" "at" "I") ∈ lw_all := lw_g (lw_at lw_m1 166 rfl) rfl
theorem q249 : (Jvm.Cond.soleField "MarketDays$Reader" "at") ∈ lw_all := lw_g (lw_at lw_m1 167 rfl) rfl
theorem q250 : (Jvm.Cond.lays "MarketDays$Reader" "MarketDays$Reader" "from" "I") ∈ lw_all := lw_g (lw_at lw_m1 168 rfl) rfl
theorem q251 : (Jvm.Cond.soleField "MarketDays$Reader" "from") ∈ lw_all := lw_g (lw_at lw_m1 169 rfl) rfl
theorem q252 : (Jvm.Cond.lays "MarketDays$Reader" "MarketDays$Reader" "open" "I") ∈ lw_all := lw_g (lw_at lw_m1 170 rfl) rfl
theorem q253 : (Jvm.Cond.soleField "MarketDays$Reader" "open") ∈ lw_all := lw_g (lw_at lw_m1 171 rfl) rfl
theorem q254 : (Jvm.Cond.lays "MarketDays$Reader" "MarketDays$Reader" "word" "Ljava/lang/String;") ∈ lw_all := lw_g (lw_at lw_m1 172 rfl) rfl
theorem q255 : (Jvm.Cond.soleField "MarketDays$Reader" "word") ∈ lw_all := lw_g (lw_at lw_m1 173 rfl) rfl
theorem q256 : (Jvm.Cond.lays "MarketDays$Reader" "MarketDays$Reader" "number" "I") ∈ lw_all := lw_g (lw_at lw_m1 174 rfl) rfl
theorem q257 : (Jvm.Cond.soleField "MarketDays$Reader" "number") ∈ lw_all := lw_g (lw_at lw_m1 175 rfl) rfl
theorem q258 : (Jvm.Cond.lays "MarketDays$Reader" "MarketDays$Reader" "sign" "I") ∈ lw_all := lw_g (lw_at lw_m1 176 rfl) rfl
theorem q259 : (Jvm.Cond.soleField "MarketDays$Reader" "sign") ∈ lw_all := lw_g (lw_at lw_m1 177 rfl) rfl
theorem q260 : (Jvm.Cond.superclass "MarketDays$Reader" "java/lang/Object") ∈ lw_all := lw_g (lw_at lw_m1 178 rfl) rfl
theorem q262 : (Jvm.Cond.instanceMethod ({ cls := "MarketDays$Reader", name := "parts", desc := "()[LMarketDays$Node;" } : Jvm.MethodName)) ∈ lw_all := lw_g (lw_at lw_m1 180 rfl) rfl
theorem q263 : (Jvm.Cond.selects "MarketDays$Reader" ({ cls := "MarketDays$Reader", name := "parts", desc := "()[LMarketDays$Node;" } : Jvm.MethodName) ({ cls := "MarketDays$Reader", name := "parts", desc := "()[LMarketDays$Node;" } : Jvm.MethodName)) ∈ lw_all := lw_g (lw_at lw_m1 181 rfl) rfl
theorem q264 : (Jvm.Cond.code ({ cls := "MarketDays$Reader", name := "parts", desc := "()[LMarketDays$Node;" } : Jvm.MethodName) prog_10_method_14_code (3 : Nat) (Option.some (Jvm.ClassFile.FieldType.array (Jvm.ClassFile.FieldType.object "MarketDays$Node")))) ∈ lw_all := lw_g (lw_at lw_m1 182 rfl) rfl
theorem q265 : (Jvm.Cond.fieldLinkNest "MarketDays$Reader" (146 : Nat) "MarketDays" "KEYS" "[Ljava/lang/String;" "MarketDays") ∈ lw_tbl := lw_at lw_m1 183 rfl
theorem q267 : (Jvm.Cond.classLink "MarketDays$Reader" (149 : Nat) "MarketDays$Node") ∈ lw_all := lw_g (lw_at lw_m1 185 rfl) rfl
theorem q269 : (Jvm.Cond.methodLink "MarketDays$Reader" (89 : Nat) ({ cls := "MarketDays$Reader", name := "next", desc := "()V" } : Jvm.MethodName)) ∈ lw_all := lw_g (lw_at lw_m1 187 rfl) rfl
theorem q270 : (Jvm.Cond.privateMethod ({ cls := "MarketDays$Reader", name := "next", desc := "()V" } : Jvm.MethodName)) ∈ lw_tbl := lw_at lw_m1 188 rfl
theorem q271 : (Jvm.Cond.instanceMethod ({ cls := "MarketDays$Reader", name := "next", desc := "()V" } : Jvm.MethodName)) ∈ lw_all := lw_g (lw_at lw_m1 189 rfl) rfl
theorem q272 : (Jvm.Cond.code ({ cls := "MarketDays$Reader", name := "next", desc := "()V" } : Jvm.MethodName) prog_10_method_4_code (2 : Nat) (Option.none : Option Jvm.ClassFile.FieldType)) ∈ lw_all := lw_g (lw_at lw_m1 190 rfl) rfl
theorem q273 : (Jvm.Cond.methodLink "MarketDays$Reader" (33 : Nat) ({ cls := "MarketDays$Reader", name := "here", desc := "()I" } : Jvm.MethodName)) ∈ lw_all := lw_g (lw_at lw_m1 191 rfl) rfl
theorem q274 : (Jvm.Cond.privateMethod ({ cls := "MarketDays$Reader", name := "here", desc := "()I" } : Jvm.MethodName)) ∈ lw_tbl := lw_at lw_m1 192 rfl
theorem q275 : (Jvm.Cond.instanceMethod ({ cls := "MarketDays$Reader", name := "here", desc := "()I" } : Jvm.MethodName)) ∈ lw_all := lw_g (lw_at lw_m1 193 rfl) rfl
theorem q276 : (Jvm.Cond.code ({ cls := "MarketDays$Reader", name := "here", desc := "()I" } : Jvm.MethodName) prog_10_method_3_code (1 : Nat) (Option.some Jvm.ClassFile.FieldType.int)) ∈ lw_all := lw_g (lw_at lw_m1 194 rfl) rfl
theorem q277 : (Jvm.Cond.constantLong "MarketDays$Reader" (47 : Nat) (97 : Int64)) ∈ lw_all := lw_g (lw_at lw_m1 195 rfl) rfl
theorem q278 : (Jvm.Cond.constantLong "MarketDays$Reader" (49 : Nat) (122 : Int64)) ∈ lw_all := lw_g (lw_at lw_m1 196 rfl) rfl
theorem q279 : (Jvm.Cond.methodLinkNest "MarketDays$Reader" (51 : Nat) ({ cls := "MarketDays", name := "in", desc := "(JJJ)Z" } : Jvm.MethodName) "MarketDays") ∈ lw_tbl := lw_at lw_m1 197 rfl
theorem q282 : (Jvm.Cond.classLink "MarketDays$Reader" (55 : Nat) "java/lang/StringBuilder") ∈ lw_all := lw_g (lw_at lw_m1 200 rfl) rfl
theorem q284 : (Jvm.Cond.methodLink "MarketDays$Reader" (57 : Nat) ({ cls := "java/lang/StringBuilder", name := "<init>", desc := "()V" } : Jvm.MethodName)) ∈ lw_all := lw_g (lw_at lw_m1 202 rfl) rfl
theorem q312 : (Jvm.Cond.methodLink "MarketDays$Reader" (58 : Nat) ({ cls := "java/lang/StringBuilder", name := "length", desc := "()I" } : Jvm.MethodName)) ∈ lw_all := lw_g (lw_at lw_m1 230 rfl) rfl
theorem q319 : (Jvm.Cond.methodLink "MarketDays$Reader" (61 : Nat) ({ cls := "java/lang/StringBuilder", name := "append", desc := "(C)Ljava/lang/StringBuilder;" } : Jvm.MethodName)) ∈ lw_all := lw_g (lw_at lw_m1 237 rfl) rfl
theorem q394 : (Jvm.Cond.methodLink "MarketDays$Reader" (65 : Nat) ({ cls := "java/lang/StringBuilder", name := "toString", desc := "()Ljava/lang/String;" } : Jvm.MethodName)) ∈ lw_all := lw_g (lw_at lw_m2 72 rfl) rfl
theorem q444 : (Jvm.Cond.constantLong "MarketDays$Reader" (69 : Nat) (48 : Int64)) ∈ lw_all := lw_g (lw_at lw_m2 122 rfl) rfl
theorem q445 : (Jvm.Cond.constantLong "MarketDays$Reader" (71 : Nat) (57 : Int64)) ∈ lw_all := lw_g (lw_at lw_m2 123 rfl) rfl
theorem q446 : (Jvm.Cond.methodLink "MarketDays$Reader" (73 : Nat) ({ cls := "MarketDays$Reader", name := "fault", desc := "()LMarketDays$Fault;" } : Jvm.MethodName)) ∈ lw_all := lw_g (lw_at lw_m2 124 rfl) rfl
theorem q447 : (Jvm.Cond.privateMethod ({ cls := "MarketDays$Reader", name := "fault", desc := "()LMarketDays$Fault;" } : Jvm.MethodName)) ∈ lw_tbl := lw_at lw_m2 125 rfl
theorem q448 : (Jvm.Cond.instanceMethod ({ cls := "MarketDays$Reader", name := "fault", desc := "()LMarketDays$Fault;" } : Jvm.MethodName)) ∈ lw_all := lw_g (lw_at lw_m2 126 rfl) rfl
theorem q449 : (Jvm.Cond.code ({ cls := "MarketDays$Reader", name := "fault", desc := "()LMarketDays$Fault;" } : Jvm.MethodName) prog_10_method_2_code (1 : Nat) (Option.some (Jvm.ClassFile.FieldType.object "MarketDays$Fault"))) ∈ lw_all := lw_g (lw_at lw_m2 127 rfl) rfl
theorem q450 : (Jvm.Cond.classLink "MarketDays$Reader" (28 : Nat) "MarketDays$Fault") ∈ lw_all := lw_g (lw_at lw_m2 128 rfl) rfl
theorem q490 : (Jvm.Cond.methodLink "MarketDays$Reader" (30 : Nat) ({ cls := "MarketDays$Fault", name := "<init>", desc := "(I)V" } : Jvm.MethodName)) ∈ lw_all := lw_g (lw_at lw_m2 168 rfl) rfl
theorem q519 : (Jvm.Cond.stringRef "MarketDays$Reader" (77 : Nat) "();+-*<=") ∈ lw_tbl := lw_at lw_m2 197 rfl
theorem q520 : (Jvm.Cond.methodLink "MarketDays$Reader" (79 : Nat) ({ cls := "java/lang/String", name := "indexOf", desc := "(I)I" } : Jvm.MethodName)) ∈ lw_all := lw_g (lw_at lw_m2 198 rfl) rfl
theorem q575 : (Jvm.Cond.methodLink "MarketDays$Reader" (116 : Nat) ({ cls := "MarketDays$Reader", name := "is", desc := "(Ljava/lang/String;)Z" } : Jvm.MethodName)) ∈ lw_all := lw_g (lw_at lw_m3 13 rfl) rfl
theorem q576 : (Jvm.Cond.privateMethod ({ cls := "MarketDays$Reader", name := "is", desc := "(Ljava/lang/String;)Z" } : Jvm.MethodName)) ∈ lw_tbl := lw_at lw_m3 14 rfl
theorem q577 : (Jvm.Cond.instanceMethod ({ cls := "MarketDays$Reader", name := "is", desc := "(Ljava/lang/String;)Z" } : Jvm.MethodName)) ∈ lw_all := lw_g (lw_at lw_m3 15 rfl) rfl
theorem q578 : (Jvm.Cond.code ({ cls := "MarketDays$Reader", name := "is", desc := "(Ljava/lang/String;)Z" } : Jvm.MethodName) prog_10_method_5_code (2 : Nat) (Option.some Jvm.ClassFile.FieldType.boolean)) ∈ lw_all := lw_g (lw_at lw_m3 16 rfl) rfl
theorem q579 : (Jvm.Cond.methodLink "MarketDays$Reader" (85 : Nat) ({ cls := "java/lang/String", name := "equals", desc := "(Ljava/lang/Object;)Z" } : Jvm.MethodName)) ∈ lw_all := lw_g (lw_at lw_m3 17 rfl) rfl
theorem q587 : (Jvm.Cond.methodLink "MarketDays$Reader" (104 : Nat) ({ cls := "MarketDays$Reader", name := "either", desc := "()LMarketDays$Node;" } : Jvm.MethodName)) ∈ lw_all := lw_g (lw_at lw_m3 25 rfl) rfl
theorem q588 : (Jvm.Cond.privateMethod ({ cls := "MarketDays$Reader", name := "either", desc := "()LMarketDays$Node;" } : Jvm.MethodName)) ∈ lw_tbl := lw_at lw_m3 26 rfl
theorem q589 : (Jvm.Cond.instanceMethod ({ cls := "MarketDays$Reader", name := "either", desc := "()LMarketDays$Node;" } : Jvm.MethodName)) ∈ lw_all := lw_g (lw_at lw_m3 27 rfl) rfl
theorem q590 : (Jvm.Cond.code ({ cls := "MarketDays$Reader", name := "either", desc := "()LMarketDays$Node;" } : Jvm.MethodName) prog_10_method_13_code (2 : Nat) (Option.some (Jvm.ClassFile.FieldType.object "MarketDays$Node"))) ∈ lw_all := lw_g (lw_at lw_m3 28 rfl) rfl
theorem q591 : (Jvm.Cond.methodLink "MarketDays$Reader" (141 : Nat) ({ cls := "MarketDays$Reader", name := "both", desc := "()LMarketDays$Node;" } : Jvm.MethodName)) ∈ lw_all := lw_g (lw_at lw_m3 29 rfl) rfl
theorem q592 : (Jvm.Cond.privateMethod ({ cls := "MarketDays$Reader", name := "both", desc := "()LMarketDays$Node;" } : Jvm.MethodName)) ∈ lw_tbl := lw_at lw_m3 30 rfl
theorem q593 : (Jvm.Cond.instanceMethod ({ cls := "MarketDays$Reader", name := "both", desc := "()LMarketDays$Node;" } : Jvm.MethodName)) ∈ lw_all := lw_g (lw_at lw_m3 31 rfl) rfl
theorem q594 : (Jvm.Cond.code ({ cls := "MarketDays$Reader", name := "both", desc := "()LMarketDays$Node;" } : Jvm.MethodName) prog_10_method_12_code (2 : Nat) (Option.some (Jvm.ClassFile.FieldType.object "MarketDays$Node"))) ∈ lw_all := lw_g (lw_at lw_m3 32 rfl) rfl
theorem q595 : (Jvm.Cond.methodLink "MarketDays$Reader" (134 : Nat) ({ cls := "MarketDays$Reader", name := "not", desc := "()LMarketDays$Node;" } : Jvm.MethodName)) ∈ lw_all := lw_g (lw_at lw_m3 33 rfl) rfl
theorem q596 : (Jvm.Cond.privateMethod ({ cls := "MarketDays$Reader", name := "not", desc := "()LMarketDays$Node;" } : Jvm.MethodName)) ∈ lw_tbl := lw_at lw_m3 34 rfl
theorem q597 : (Jvm.Cond.instanceMethod ({ cls := "MarketDays$Reader", name := "not", desc := "()LMarketDays$Node;" } : Jvm.MethodName)) ∈ lw_all := lw_g (lw_at lw_m3 35 rfl) rfl
theorem q598 : (Jvm.Cond.code ({ cls := "MarketDays$Reader", name := "not", desc := "()LMarketDays$Node;" } : Jvm.MethodName) prog_10_method_11_code (3 : Nat) (Option.some (Jvm.ClassFile.FieldType.object "MarketDays$Node"))) ∈ lw_all := lw_g (lw_at lw_m3 36 rfl) rfl
theorem q599 : (Jvm.Cond.stringRef "MarketDays$Reader" (132 : Nat) "not") ∈ lw_tbl := lw_at lw_m3 37 rfl
theorem q600 : (Jvm.Cond.methodLink "MarketDays$Reader" (92 : Nat) ({ cls := "MarketDays$Reader", name := "opens", desc := "()V" } : Jvm.MethodName)) ∈ lw_all := lw_g (lw_at lw_m3 38 rfl) rfl
theorem q601 : (Jvm.Cond.privateMethod ({ cls := "MarketDays$Reader", name := "opens", desc := "()V" } : Jvm.MethodName)) ∈ lw_tbl := lw_at lw_m3 39 rfl
theorem q602 : (Jvm.Cond.instanceMethod ({ cls := "MarketDays$Reader", name := "opens", desc := "()V" } : Jvm.MethodName)) ∈ lw_all := lw_g (lw_at lw_m3 40 rfl) rfl
theorem q603 : (Jvm.Cond.code ({ cls := "MarketDays$Reader", name := "opens", desc := "()V" } : Jvm.MethodName) prog_10_method_7_code (1 : Nat) (Option.none : Option Jvm.ClassFile.FieldType)) ∈ lw_all := lw_g (lw_at lw_m3 41 rfl) rfl
theorem q604 : (Jvm.Cond.classLink "MarketDays$Reader" (99 : Nat) "MarketDays$One") ∈ lw_all := lw_g (lw_at lw_m3 42 rfl) rfl
theorem q606 : (Jvm.Cond.methodLink "MarketDays$Reader" (101 : Nat) ({ cls := "MarketDays$One", name := "<init>", desc := "(ZLMarketDays$Node;)V" } : Jvm.MethodName)) ∈ lw_all := lw_g (lw_at lw_m3 44 rfl) rfl
theorem q617 : (Jvm.Cond.methodLink "MarketDays$Reader" (136 : Nat) ({ cls := "MarketDays$Reader", name := "sum", desc := "()LMarketDays$Node;" } : Jvm.MethodName)) ∈ lw_all := lw_g (lw_at lw_m3 55 rfl) rfl
theorem q618 : (Jvm.Cond.privateMethod ({ cls := "MarketDays$Reader", name := "sum", desc := "()LMarketDays$Node;" } : Jvm.MethodName)) ∈ lw_tbl := lw_at lw_m3 56 rfl
theorem q619 : (Jvm.Cond.instanceMethod ({ cls := "MarketDays$Reader", name := "sum", desc := "()LMarketDays$Node;" } : Jvm.MethodName)) ∈ lw_all := lw_g (lw_at lw_m3 57 rfl) rfl
theorem q620 : (Jvm.Cond.code ({ cls := "MarketDays$Reader", name := "sum", desc := "()LMarketDays$Node;" } : Jvm.MethodName) prog_10_method_10_code (3 : Nat) (Option.some (Jvm.ClassFile.FieldType.object "MarketDays$Node"))) ∈ lw_all := lw_g (lw_at lw_m3 58 rfl) rfl
theorem q621 : (Jvm.Cond.methodLink "MarketDays$Reader" (129 : Nat) ({ cls := "MarketDays$Reader", name := "term", desc := "()LMarketDays$Node;" } : Jvm.MethodName)) ∈ lw_all := lw_g (lw_at lw_m3 59 rfl) rfl
theorem q622 : (Jvm.Cond.privateMethod ({ cls := "MarketDays$Reader", name := "term", desc := "()LMarketDays$Node;" } : Jvm.MethodName)) ∈ lw_tbl := lw_at lw_m3 60 rfl
theorem q623 : (Jvm.Cond.instanceMethod ({ cls := "MarketDays$Reader", name := "term", desc := "()LMarketDays$Node;" } : Jvm.MethodName)) ∈ lw_all := lw_g (lw_at lw_m3 61 rfl) rfl
theorem q624 : (Jvm.Cond.code ({ cls := "MarketDays$Reader", name := "term", desc := "()LMarketDays$Node;" } : Jvm.MethodName) prog_10_method_9_code (2 : Nat) (Option.some (Jvm.ClassFile.FieldType.object "MarketDays$Node"))) ∈ lw_all := lw_g (lw_at lw_m3 62 rfl) rfl
theorem q625 : (Jvm.Cond.methodLink "MarketDays$Reader" (95 : Nat) ({ cls := "MarketDays$Reader", name := "one", desc := "()LMarketDays$Node;" } : Jvm.MethodName)) ∈ lw_all := lw_g (lw_at lw_m3 63 rfl) rfl
theorem q626 : (Jvm.Cond.privateMethod ({ cls := "MarketDays$Reader", name := "one", desc := "()LMarketDays$Node;" } : Jvm.MethodName)) ∈ lw_tbl := lw_at lw_m3 64 rfl
theorem q627 : (Jvm.Cond.instanceMethod ({ cls := "MarketDays$Reader", name := "one", desc := "()LMarketDays$Node;" } : Jvm.MethodName)) ∈ lw_all := lw_g (lw_at lw_m3 65 rfl) rfl
theorem q628 : (Jvm.Cond.code ({ cls := "MarketDays$Reader", name := "one", desc := "()LMarketDays$Node;" } : Jvm.MethodName) prog_10_method_8_code (2 : Nat) (Option.some (Jvm.ClassFile.FieldType.object "MarketDays$Node"))) ∈ lw_all := lw_g (lw_at lw_m3 66 rfl) rfl
theorem q629 : (Jvm.Cond.classLink "MarketDays$Reader" (107 : Nat) "MarketDays$Leaf") ∈ lw_all := lw_g (lw_at lw_m3 67 rfl) rfl
theorem q631 : (Jvm.Cond.methodLink "MarketDays$Reader" (109 : Nat) ({ cls := "MarketDays$Leaf", name := "<init>", desc := "(II)V" } : Jvm.MethodName)) ∈ lw_all := lw_g (lw_at lw_m3 69 rfl) rfl
theorem q642 : (Jvm.Cond.fieldLinkNest "MarketDays$Reader" (112 : Nat) "MarketDays" "NAMES" "[Ljava/lang/String;" "MarketDays") ∈ lw_tbl := lw_at lw_m3 80 rfl
theorem q644 : (Jvm.Cond.methodLink "MarketDays$Reader" (120 : Nat) ({ cls := "MarketDays$Reader", name := "takes", desc := "(I)Z" } : Jvm.MethodName)) ∈ lw_all := lw_g (lw_at lw_m3 82 rfl) rfl
theorem q645 : (Jvm.Cond.privateMethod ({ cls := "MarketDays$Reader", name := "takes", desc := "(I)Z" } : Jvm.MethodName)) ∈ lw_tbl := lw_at lw_m3 83 rfl
theorem q646 : (Jvm.Cond.instanceMethod ({ cls := "MarketDays$Reader", name := "takes", desc := "(I)Z" } : Jvm.MethodName)) ∈ lw_all := lw_g (lw_at lw_m3 84 rfl) rfl
theorem q647 : (Jvm.Cond.code ({ cls := "MarketDays$Reader", name := "takes", desc := "(I)Z" } : Jvm.MethodName) prog_10_method_6_code (2 : Nat) (Option.some Jvm.ClassFile.FieldType.boolean)) ∈ lw_all := lw_g (lw_at lw_m3 85 rfl) rfl
theorem q648 : (Jvm.Cond.classLink "MarketDays$Reader" (124 : Nat) "MarketDays$Two") ∈ lw_all := lw_g (lw_at lw_m3 86 rfl) rfl
theorem q650 : (Jvm.Cond.methodLink "MarketDays$Reader" (126 : Nat) ({ cls := "MarketDays$Two", name := "<init>", desc := "(ILMarketDays$Node;LMarketDays$Node;)V" } : Jvm.MethodName)) ∈ lw_all := lw_g (lw_at lw_m3 88 rfl) rfl
theorem q664 : (Jvm.Cond.stringRef "MarketDays$Reader" (139 : Nat) "and") ∈ lw_tbl := lw_at lw_m3 102 rfl
theorem q665 : (Jvm.Cond.stringRef "MarketDays$Reader" (144 : Nat) "or") ∈ lw_tbl := lw_at lw_m3 103 rfl
theorem q1024 : (Jvm.Cond.selects "MarketDays$Reader" ({ cls := "java/lang/Object", name := "getClass", desc := "()Ljava/lang/Class;" } : Jvm.MethodName) ({ cls := "java/lang/Object", name := "getClass", desc := "()Ljava/lang/Class;" } : Jvm.MethodName)) ∈ lw_all := lw_g (lw_at lw_m4 222 rfl) rfl
theorem q1959 : (Jvm.Cond.castable "MarketDays$Reader" "java/lang/Object") ∈ lw_tbl := lw_at lw_m8 197 rfl
theorem in_X2 : ∀ w ∈ wsX20, w ∈ lw_all := lw_in wsX20 [244, 246, 248, 250, 252, 254, 256, 258] (by decide +kernel) (by decide +kernel)

/-! MarketDays$Fault -/
set_option maxRecDepth 100000
def RX3 : String := "MarketDays$Fault"
def TX3 : u_T := fun k => match k with
  | 0 => ("java/lang/Throwable", "cause", "Ljava/lang/Throwable;", false)
  | 1 => ("java/lang/Throwable", "stackTrace", "[Ljava/lang/StackTraceElement;", false)
  | 2 => ("java/lang/Throwable", "suppressedExceptions", "Ljava/util/List;", false)
  | 3 => ("java/lang/Throwable", "detailMessage", "Ljava/lang/String;", false)
  | 4 => ("java/lang/Throwable", "backtrace", "Ljava/lang/Object;", false)
  | 5 => ("java/lang/Throwable", "depth", "I", false)
  | _ => ("MarketDays$Fault", "place", "I", true)
def tyX3 : Nat → FieldType := fun k => match k with
  | 0 => .object "java/lang/Throwable"
  | 1 => .array (.object "java/lang/StackTraceElement")
  | 2 => .object "java/util/List"
  | 3 => .object "java/lang/String"
  | 4 => .object "java/lang/Object"
  | 5 => .int
  | _ => .int
abbrev wsX30 : List Cond := u_ws RX3 TX3 7
theorem nmX3 : ∀ a, a < 7 → ∀ b, b < 7 → a ≠ b → (TX3 a).2.1 ≠ (TX3 b).2.1 := by decide +kernel
theorem tyX3_ok : ∀ k, k < 7 → parseFieldDescriptor (TX3 k).2.2.1 = some (tyX3 k) := by decide +kernel
abbrev cX3_init : ByteArray := prog_2_method_1_code
def yX3_init : MethodName := ⟨RX3, "<init>", "(I)V"⟩
def dkwX3_init_0 : List UInt8 := [42, 1, 1, 3, 3, 183, 0, 1, 42, 27, 181, 0, 7, 177]
abbrev dktX3_init_0 : List UInt8 := dkwX3_init_0 ++ []
theorem dksX3_init_0 : cX3_init.data.toList.drop 0 = dktX3_init_0 := by decide +kernel
theorem dX3_init_0 : decode cX3_init 0 = .ok (.aload_n 0, 1) := dk_42 (dk_at dksX3_init_0 0 rfl rfl)
theorem dX3_init_1 : decode cX3_init 1 = .ok (.aconst_null, 1) := dk_1 (dk_at dksX3_init_0 1 rfl rfl)
theorem dX3_init_2 : decode cX3_init 2 = .ok (.aconst_null, 1) := dk_1 (dk_at dksX3_init_0 2 rfl rfl)
theorem dX3_init_3 : decode cX3_init 3 = .ok (.iconst 0, 1) := dk_3 (dk_at dksX3_init_0 3 rfl rfl)
theorem dX3_init_4 : decode cX3_init 4 = .ok (.iconst 0, 1) := dk_3 (dk_at dksX3_init_0 4 rfl rfl)
theorem dX3_init_5 : decode cX3_init 5 = .ok (.invokespecial 1, 3) := dk_183 0 1 (dk_at dksX3_init_0 5 rfl rfl)
theorem dX3_init_8 : decode cX3_init 8 = .ok (.aload_n 0, 1) := dk_42 (dk_at dksX3_init_0 8 rfl rfl)
theorem dX3_init_9 : decode cX3_init 9 = .ok (.iload_n 1, 1) := dk_27 (dk_at dksX3_init_0 9 rfl rfl)
theorem dX3_init_10 : decode cX3_init 10 = .ok (.putfield 7, 3) := dk_181 0 7 (dk_at dksX3_init_0 10 rfl rfl)
theorem dX3_init_13 : decode cX3_init 13 = .ok (.return_, 1) := dk_177 (dk_at dksX3_init_0 13 rfl rfl)
theorem q102 : (Jvm.Cond.initialized "MarketDays$Fault") ∈ lw_all := lw_g (lw_at lw_m1 20 rfl) rfl
theorem q451 : (Jvm.Cond.instantiable "MarketDays$Fault" (7 : Nat)) ∈ lw_all := lw_g (lw_at lw_m2 129 rfl) rfl
theorem q452 : (Jvm.Cond.castable "MarketDays$Fault" "MarketDays$Fault") ∈ lw_tbl := lw_at lw_m2 130 rfl
theorem q459 : (Jvm.Cond.selects "MarketDays$Fault" ({ cls := "java/lang/Throwable", name := "fillInStackTrace", desc := "(I)Ljava/lang/Throwable;" } : Jvm.MethodName) ({ cls := "java/lang/Throwable", name := "fillInStackTrace", desc := "(I)Ljava/lang/Throwable;" } : Jvm.MethodName)) ∈ lw_all := lw_g (lw_at lw_m2 137 rfl) rfl
theorem q460 : (Jvm.Cond.selects "MarketDays$Fault" ({ cls := "java/lang/Throwable", name := "fillInStackTrace", desc := "()Ljava/lang/Throwable;" } : Jvm.MethodName) ({ cls := "java/lang/Throwable", name := "fillInStackTrace", desc := "()Ljava/lang/Throwable;" } : Jvm.MethodName)) ∈ lw_all := lw_g (lw_at lw_m2 138 rfl) rfl
theorem q461 : (Jvm.Cond.lays "MarketDays$Fault" "java/lang/Throwable" "cause" "Ljava/lang/Throwable;") ∈ lw_all := lw_g (lw_at lw_m2 139 rfl) rfl
theorem q463 : (Jvm.Cond.lays "MarketDays$Fault" "java/lang/Throwable" "stackTrace" "[Ljava/lang/StackTraceElement;") ∈ lw_all := lw_g (lw_at lw_m2 141 rfl) rfl
theorem q465 : (Jvm.Cond.lays "MarketDays$Fault" "java/lang/Throwable" "suppressedExceptions" "Ljava/util/List;") ∈ lw_all := lw_g (lw_at lw_m2 143 rfl) rfl
theorem q467 : (Jvm.Cond.lays "MarketDays$Fault" "java/lang/Throwable" "detailMessage" "Ljava/lang/String;") ∈ lw_all := lw_g (lw_at lw_m2 145 rfl) rfl
theorem q469 : (Jvm.Cond.lays "MarketDays$Fault" "java/lang/Throwable" "backtrace" "Ljava/lang/Object;") ∈ lw_all := lw_g (lw_at lw_m2 147 rfl) rfl
theorem q491 : (Jvm.Cond.instanceMethod ({ cls := "MarketDays$Fault", name := "<init>", desc := "(I)V" } : Jvm.MethodName)) ∈ lw_all := lw_g (lw_at lw_m2 169 rfl) rfl
theorem q492 : (Jvm.Cond.code ({ cls := "MarketDays$Fault", name := "<init>", desc := "(I)V" } : Jvm.MethodName) prog_2_method_1_code (2 : Nat) (Option.none : Option Jvm.ClassFile.FieldType)) ∈ lw_all := lw_g (lw_at lw_m2 170 rfl) rfl
theorem q493 : (Jvm.Cond.methodLink "MarketDays$Fault" (1 : Nat) ({ cls := "java/lang/RuntimeException", name := "<init>", desc := "(Ljava/lang/String;Ljava/lang/Throwable;ZZ)V" } : Jvm.MethodName)) ∈ lw_all := lw_g (lw_at lw_m2 171 rfl) rfl
theorem q502 : (Jvm.Cond.fieldLink "MarketDays$Fault" (7 : Nat) "MarketDays$Fault" "place" "I") ∈ lw_all := lw_g (lw_at lw_m2 180 rfl) rfl
theorem q509 : (Jvm.Cond.laysFinal "MarketDays$Fault" "MarketDays$Fault" "place" "I") ∈ lw_all := lw_g (lw_at lw_m2 187 rfl) rfl
theorem q510 : (Jvm.Cond.soleField "MarketDays$Fault" "place") ∈ lw_all := lw_g (lw_at lw_m2 188 rfl) rfl
theorem q515 : (Jvm.Cond.lays "MarketDays$Fault" "java/lang/Throwable" "depth" "I") ∈ lw_all := lw_g (lw_at lw_m2 193 rfl) rfl
theorem q518 : (Jvm.Cond.superclass "MarketDays$Fault" "java/lang/RuntimeException") ∈ lw_all := lw_g (lw_at lw_m2 196 rfl) rfl
theorem q1018 : (Jvm.Cond.selects "MarketDays$Fault" ({ cls := "java/lang/Object", name := "getClass", desc := "()Ljava/lang/Class;" } : Jvm.MethodName) ({ cls := "java/lang/Object", name := "getClass", desc := "()Ljava/lang/Class;" } : Jvm.MethodName)) ∈ lw_all := lw_g (lw_at lw_m4 216 rfl) rfl
theorem q1961 : (Jvm.Cond.castable "MarketDays$Fault" "java/lang/Object") ∈ lw_tbl := lw_at lw_m8 199 rfl
theorem in_X3 : ∀ w ∈ wsX30, w ∈ lw_all := lw_in wsX30 [461, 463, 465, 467, 469, 515, 509] (by decide +kernel) (by decide +kernel)

/-! MarketDays$One -/
set_option maxRecDepth 100000
def RX4 : String := "MarketDays$One"
def TX4 : u_T := fun k => match k with
  | 0 => ("MarketDays$One", "isNot", "Z", true)
  | _ => ("MarketDays$One", "a", "LMarketDays$Node;", true)
def tyX4 : Nat → FieldType := fun k => match k with
  | 0 => .boolean
  | _ => .object "MarketDays$Node"
abbrev wsX40 : List Cond := u_ws RX4 TX4 2
theorem nmX4 : ∀ a, a < 2 → ∀ b, b < 2 → a ≠ b → (TX4 a).2.1 ≠ (TX4 b).2.1 := by decide +kernel
theorem tyX4_ok : ∀ k, k < 2 → parseFieldDescriptor (TX4 k).2.2.1 = some (tyX4 k) := by decide +kernel
abbrev cX4_init : ByteArray := prog_8_method_1_code
def yX4_init : MethodName := ⟨RX4, "<init>", "(ZLMarketDays$Node;)V"⟩
def dkwX4_init_0 : List UInt8 := [42, 183, 0, 1, 42, 27, 181, 0, 7, 42, 44, 181, 0, 13, 177]
abbrev dktX4_init_0 : List UInt8 := dkwX4_init_0 ++ []
theorem dksX4_init_0 : cX4_init.data.toList.drop 0 = dktX4_init_0 := by decide +kernel
theorem dX4_init_0 : decode cX4_init 0 = .ok (.aload_n 0, 1) := dk_42 (dk_at dksX4_init_0 0 rfl rfl)
theorem dX4_init_1 : decode cX4_init 1 = .ok (.invokespecial 1, 3) := dk_183 0 1 (dk_at dksX4_init_0 1 rfl rfl)
theorem dX4_init_4 : decode cX4_init 4 = .ok (.aload_n 0, 1) := dk_42 (dk_at dksX4_init_0 4 rfl rfl)
theorem dX4_init_5 : decode cX4_init 5 = .ok (.iload_n 1, 1) := dk_27 (dk_at dksX4_init_0 5 rfl rfl)
theorem dX4_init_6 : decode cX4_init 6 = .ok (.putfield 7, 3) := dk_181 0 7 (dk_at dksX4_init_0 6 rfl rfl)
theorem dX4_init_9 : decode cX4_init 9 = .ok (.aload_n 0, 1) := dk_42 (dk_at dksX4_init_0 9 rfl rfl)
theorem dX4_init_10 : decode cX4_init 10 = .ok (.aload_n 2, 1) := dk_44 (dk_at dksX4_init_0 10 rfl rfl)
theorem dX4_init_11 : decode cX4_init 11 = .ok (.putfield 13, 3) := dk_181 0 13 (dk_at dksX4_init_0 11 rfl rfl)
theorem dX4_init_14 : decode cX4_init 14 = .ok (.return_, 1) := dk_177 (dk_at dksX4_init_0 14 rfl rfl)
abbrev cX4_worth : ByteArray := prog_8_method_2_code
def yX4_worth : MethodName := ⟨RX4, "worth", "([I)I"⟩
def dkwX4_worth_1 : List UInt8 := [154, 0, 7, 4, 167, 0, 4, 3, 172]
abbrev dktX4_worth_1 : List UInt8 := dkwX4_worth_1 ++ []
def dkwX4_worth_0 : List UInt8 := [42, 180, 0, 13, 43, 185, 0, 17, 2, 0, 61, 42, 180, 0, 7, 154, 0, 8, 28, 116, 167, 0, 12, 28]
abbrev dktX4_worth_0 : List UInt8 := dkwX4_worth_0 ++ dktX4_worth_1
theorem dksX4_worth_0 : cX4_worth.data.toList.drop 0 = dktX4_worth_0 := by decide +kernel
theorem dksX4_worth_1 : cX4_worth.data.toList.drop 24 = dktX4_worth_1 := dk_seg dksX4_worth_0 24 rfl rfl
theorem dX4_worth_0 : decode cX4_worth 0 = .ok (.aload_n 0, 1) := dk_42 (dk_at dksX4_worth_0 0 rfl rfl)
theorem dX4_worth_1 : decode cX4_worth 1 = .ok (.getfield 13, 3) := dk_180 0 13 (dk_at dksX4_worth_0 1 rfl rfl)
theorem dX4_worth_4 : decode cX4_worth 4 = .ok (.aload_n 1, 1) := dk_43 (dk_at dksX4_worth_0 4 rfl rfl)
theorem dX4_worth_5 : decode cX4_worth 5 = .ok (.invokeinterface 17 2, 5) := by decide +kernel
theorem dX4_worth_10 : decode cX4_worth 10 = .ok (.istore_n 2, 1) := dk_61 (dk_at dksX4_worth_0 10 rfl rfl)
theorem dX4_worth_11 : decode cX4_worth 11 = .ok (.aload_n 0, 1) := dk_42 (dk_at dksX4_worth_0 11 rfl rfl)
theorem dX4_worth_12 : decode cX4_worth 12 = .ok (.getfield 7, 3) := dk_180 0 7 (dk_at dksX4_worth_0 12 rfl rfl)
theorem dX4_worth_15 : decode cX4_worth 15 = .ok (.ifCond .ne 8, 3) := dk_154 0 8 (dk_at dksX4_worth_0 15 rfl rfl)
theorem dX4_worth_18 : decode cX4_worth 18 = .ok (.iload_n 2, 1) := dk_28 (dk_at dksX4_worth_0 18 rfl rfl)
theorem dX4_worth_19 : decode cX4_worth 19 = .ok (.ineg, 1) := dk_116 (dk_at dksX4_worth_0 19 rfl rfl)
theorem dX4_worth_20 : decode cX4_worth 20 = .ok (.goto 12, 3) := dk_167 0 12 (dk_at dksX4_worth_0 20 rfl rfl)
theorem dX4_worth_23 : decode cX4_worth 23 = .ok (.iload_n 2, 1) := dk_28 (dk_at dksX4_worth_0 23 rfl rfl)
theorem dX4_worth_24 : decode cX4_worth 24 = .ok (.ifCond .ne 7, 3) := dk_154 0 7 (dk_at dksX4_worth_1 0 rfl rfl)
theorem dX4_worth_27 : decode cX4_worth 27 = .ok (.iconst 1, 1) := dk_4 (dk_at dksX4_worth_1 3 rfl rfl)
theorem dX4_worth_28 : decode cX4_worth 28 = .ok (.goto 4, 3) := dk_167 0 4 (dk_at dksX4_worth_1 4 rfl rfl)
theorem dX4_worth_31 : decode cX4_worth 31 = .ok (.iconst 0, 1) := dk_3 (dk_at dksX4_worth_1 7 rfl rfl)
theorem dX4_worth_32 : decode cX4_worth 32 = .ok (.ireturn, 1) := dk_172 (dk_at dksX4_worth_1 8 rfl rfl)
theorem q104 : (Jvm.Cond.initialized "MarketDays$One") ∈ lw_all := lw_g (lw_at lw_m1 22 rfl) rfl
theorem q605 : (Jvm.Cond.instantiable "MarketDays$One" (2 : Nat)) ∈ lw_all := lw_g (lw_at lw_m3 43 rfl) rfl
theorem q607 : (Jvm.Cond.instanceMethod ({ cls := "MarketDays$One", name := "<init>", desc := "(ZLMarketDays$Node;)V" } : Jvm.MethodName)) ∈ lw_all := lw_g (lw_at lw_m3 45 rfl) rfl
theorem q608 : (Jvm.Cond.code ({ cls := "MarketDays$One", name := "<init>", desc := "(ZLMarketDays$Node;)V" } : Jvm.MethodName) prog_8_method_1_code (3 : Nat) (Option.none : Option Jvm.ClassFile.FieldType)) ∈ lw_all := lw_g (lw_at lw_m3 46 rfl) rfl
theorem q609 : (Jvm.Cond.methodLink "MarketDays$One" (1 : Nat) ({ cls := "java/lang/Object", name := "<init>", desc := "()V" } : Jvm.MethodName)) ∈ lw_all := lw_g (lw_at lw_m3 47 rfl) rfl
theorem q610 : (Jvm.Cond.fieldLink "MarketDays$One" (7 : Nat) "MarketDays$One" "isNot" "Z") ∈ lw_all := lw_g (lw_at lw_m3 48 rfl) rfl
theorem q611 : (Jvm.Cond.fieldLink "MarketDays$One" (13 : Nat) "MarketDays$One" "a" "LMarketDays$Node;") ∈ lw_all := lw_g (lw_at lw_m3 49 rfl) rfl
theorem q612 : (Jvm.Cond.laysFinal "MarketDays$One" "MarketDays$One" "isNot" "Z") ∈ lw_all := lw_g (lw_at lw_m3 50 rfl) rfl
theorem q613 : (Jvm.Cond.soleField "MarketDays$One" "isNot") ∈ lw_all := lw_g (lw_at lw_m3 51 rfl) rfl
theorem q614 : (Jvm.Cond.laysFinal "MarketDays$One" "MarketDays$One" "a" "LMarketDays$Node;") ∈ lw_all := lw_g (lw_at lw_m3 52 rfl) rfl
theorem q615 : (Jvm.Cond.soleField "MarketDays$One" "a") ∈ lw_all := lw_g (lw_at lw_m3 53 rfl) rfl
theorem q616 : (Jvm.Cond.superclass "MarketDays$One" "java/lang/Object") ∈ lw_all := lw_g (lw_at lw_m3 54 rfl) rfl
theorem q863 : (Jvm.Cond.castable "MarketDays$One" "MarketDays$Node") ∈ lw_tbl := lw_at lw_m4 61 rfl
theorem q864 : (Jvm.Cond.selects "MarketDays$One" ({ cls := "MarketDays$Node", name := "worth", desc := "([I)I" } : Jvm.MethodName) ({ cls := "MarketDays$One", name := "worth", desc := "([I)I" } : Jvm.MethodName)) ∈ lw_all := lw_g (lw_at lw_m4 62 rfl) rfl
theorem q865 : (Jvm.Cond.unhidden "MarketDays$One" "worth" "([I)I") ∈ lw_tbl := lw_at lw_m4 63 rfl
theorem q866 : (Jvm.Cond.instanceMethod ({ cls := "MarketDays$One", name := "worth", desc := "([I)I" } : Jvm.MethodName)) ∈ lw_all := lw_g (lw_at lw_m4 64 rfl) rfl
theorem q867 : (Jvm.Cond.publicMethod ({ cls := "MarketDays$One", name := "worth", desc := "([I)I" } : Jvm.MethodName)) ∈ lw_tbl := lw_at lw_m4 65 rfl
theorem q868 : (Jvm.Cond.code ({ cls := "MarketDays$One", name := "worth", desc := "([I)I" } : Jvm.MethodName) prog_8_method_2_code (3 : Nat) (Option.some Jvm.ClassFile.FieldType.int)) ∈ lw_all := lw_g (lw_at lw_m4 66 rfl) rfl
theorem q869 : (Jvm.Cond.interfaceEntry "MarketDays$One" (17 : Nat)) ∈ lw_tbl := lw_at lw_m4 67 rfl
theorem q870 : (Jvm.Cond.methodLink "MarketDays$One" (17 : Nat) ({ cls := "MarketDays$Node", name := "worth", desc := "([I)I" } : Jvm.MethodName)) ∈ lw_all := lw_g (lw_at lw_m4 68 rfl) rfl
theorem q1022 : (Jvm.Cond.selects "MarketDays$One" ({ cls := "java/lang/Object", name := "getClass", desc := "()Ljava/lang/Class;" } : Jvm.MethodName) ({ cls := "java/lang/Object", name := "getClass", desc := "()Ljava/lang/Class;" } : Jvm.MethodName)) ∈ lw_all := lw_g (lw_at lw_m4 220 rfl) rfl
theorem q1962 : (Jvm.Cond.castable "MarketDays$One" "java/lang/Object") ∈ lw_tbl := lw_at lw_m8 200 rfl
theorem in_X4 : ∀ w ∈ wsX40, w ∈ lw_all := lw_in wsX40 [612, 614] (by decide +kernel) (by decide +kernel)

/-! MarketDays$Leaf -/
set_option maxRecDepth 100000
def RX5 : String := "MarketDays$Leaf"
def TX5 : u_T := fun k => match k with
  | 0 => ("MarketDays$Leaf", "number", "I", true)
  | _ => ("MarketDays$Leaf", "name", "I", true)
def tyX5 : Nat → FieldType := fun k => match k with
  | 0 => .int
  | _ => .int
abbrev wsX50 : List Cond := u_ws RX5 TX5 2
theorem nmX5 : ∀ a, a < 2 → ∀ b, b < 2 → a ≠ b → (TX5 a).2.1 ≠ (TX5 b).2.1 := by decide +kernel
theorem tyX5_ok : ∀ k, k < 2 → parseFieldDescriptor (TX5 k).2.2.1 = some (tyX5 k) := by decide +kernel
abbrev cX5_init : ByteArray := prog_5_method_1_code
def yX5_init : MethodName := ⟨RX5, "<init>", "(II)V"⟩
def dkwX5_init_0 : List UInt8 := [42, 183, 0, 3, 42, 27, 181, 0, 9, 42, 28, 181, 0, 15, 177]
abbrev dktX5_init_0 : List UInt8 := dkwX5_init_0 ++ []
theorem dksX5_init_0 : cX5_init.data.toList.drop 0 = dktX5_init_0 := by decide +kernel
theorem dX5_init_0 : decode cX5_init 0 = .ok (.aload_n 0, 1) := dk_42 (dk_at dksX5_init_0 0 rfl rfl)
theorem dX5_init_1 : decode cX5_init 1 = .ok (.invokespecial 3, 3) := dk_183 0 3 (dk_at dksX5_init_0 1 rfl rfl)
theorem dX5_init_4 : decode cX5_init 4 = .ok (.aload_n 0, 1) := dk_42 (dk_at dksX5_init_0 4 rfl rfl)
theorem dX5_init_5 : decode cX5_init 5 = .ok (.iload_n 1, 1) := dk_27 (dk_at dksX5_init_0 5 rfl rfl)
theorem dX5_init_6 : decode cX5_init 6 = .ok (.putfield 9, 3) := dk_181 0 9 (dk_at dksX5_init_0 6 rfl rfl)
theorem dX5_init_9 : decode cX5_init 9 = .ok (.aload_n 0, 1) := dk_42 (dk_at dksX5_init_0 9 rfl rfl)
theorem dX5_init_10 : decode cX5_init 10 = .ok (.iload_n 2, 1) := dk_28 (dk_at dksX5_init_0 10 rfl rfl)
theorem dX5_init_11 : decode cX5_init 11 = .ok (.putfield 15, 3) := dk_181 0 15 (dk_at dksX5_init_0 11 rfl rfl)
theorem dX5_init_14 : decode cX5_init 14 = .ok (.return_, 1) := dk_177 (dk_at dksX5_init_0 14 rfl rfl)
abbrev cX5_worth : ByteArray := prog_5_method_2_code
def yX5_worth : MethodName := ⟨RX5, "worth", "([I)I"⟩
def dkwX5_worth_0 : List UInt8 := [42, 180, 0, 15, 2, 160, 0, 10, 42, 180, 0, 9, 167, 0, 9, 43, 42, 180, 0, 15, 46, 172]
abbrev dktX5_worth_0 : List UInt8 := dkwX5_worth_0 ++ []
theorem dksX5_worth_0 : cX5_worth.data.toList.drop 0 = dktX5_worth_0 := by decide +kernel
theorem dX5_worth_0 : decode cX5_worth 0 = .ok (.aload_n 0, 1) := dk_42 (dk_at dksX5_worth_0 0 rfl rfl)
theorem dX5_worth_1 : decode cX5_worth 1 = .ok (.getfield 15, 3) := dk_180 0 15 (dk_at dksX5_worth_0 1 rfl rfl)
theorem dX5_worth_4 : decode cX5_worth 4 = .ok (.iconst (-1), 1) := dk_2 (dk_at dksX5_worth_0 4 rfl rfl)
theorem dX5_worth_5 : decode cX5_worth 5 = .ok (.if_icmp .ne 10, 3) := dk_160 0 10 (dk_at dksX5_worth_0 5 rfl rfl)
theorem dX5_worth_8 : decode cX5_worth 8 = .ok (.aload_n 0, 1) := dk_42 (dk_at dksX5_worth_0 8 rfl rfl)
theorem dX5_worth_9 : decode cX5_worth 9 = .ok (.getfield 9, 3) := dk_180 0 9 (dk_at dksX5_worth_0 9 rfl rfl)
theorem dX5_worth_12 : decode cX5_worth 12 = .ok (.goto 9, 3) := dk_167 0 9 (dk_at dksX5_worth_0 12 rfl rfl)
theorem dX5_worth_15 : decode cX5_worth 15 = .ok (.aload_n 1, 1) := dk_43 (dk_at dksX5_worth_0 15 rfl rfl)
theorem dX5_worth_16 : decode cX5_worth 16 = .ok (.aload_n 0, 1) := dk_42 (dk_at dksX5_worth_0 16 rfl rfl)
theorem dX5_worth_17 : decode cX5_worth 17 = .ok (.getfield 15, 3) := dk_180 0 15 (dk_at dksX5_worth_0 17 rfl rfl)
theorem dX5_worth_20 : decode cX5_worth 20 = .ok (.iaload, 1) := dk_46 (dk_at dksX5_worth_0 20 rfl rfl)
theorem dX5_worth_21 : decode cX5_worth 21 = .ok (.ireturn, 1) := dk_172 (dk_at dksX5_worth_0 21 rfl rfl)
theorem q105 : (Jvm.Cond.initialized "MarketDays$Leaf") ∈ lw_all := lw_g (lw_at lw_m1 23 rfl) rfl
theorem q630 : (Jvm.Cond.instantiable "MarketDays$Leaf" (2 : Nat)) ∈ lw_all := lw_g (lw_at lw_m3 68 rfl) rfl
theorem q632 : (Jvm.Cond.instanceMethod ({ cls := "MarketDays$Leaf", name := "<init>", desc := "(II)V" } : Jvm.MethodName)) ∈ lw_all := lw_g (lw_at lw_m3 70 rfl) rfl
theorem q633 : (Jvm.Cond.code ({ cls := "MarketDays$Leaf", name := "<init>", desc := "(II)V" } : Jvm.MethodName) prog_5_method_1_code (3 : Nat) (Option.none : Option Jvm.ClassFile.FieldType)) ∈ lw_all := lw_g (lw_at lw_m3 71 rfl) rfl
theorem q634 : (Jvm.Cond.methodLink "MarketDays$Leaf" (3 : Nat) ({ cls := "java/lang/Object", name := "<init>", desc := "()V" } : Jvm.MethodName)) ∈ lw_all := lw_g (lw_at lw_m3 72 rfl) rfl
theorem q635 : (Jvm.Cond.fieldLink "MarketDays$Leaf" (9 : Nat) "MarketDays$Leaf" "number" "I") ∈ lw_all := lw_g (lw_at lw_m3 73 rfl) rfl
theorem q636 : (Jvm.Cond.fieldLink "MarketDays$Leaf" (15 : Nat) "MarketDays$Leaf" "name" "I") ∈ lw_all := lw_g (lw_at lw_m3 74 rfl) rfl
theorem q637 : (Jvm.Cond.laysFinal "MarketDays$Leaf" "MarketDays$Leaf" "number" "I") ∈ lw_all := lw_g (lw_at lw_m3 75 rfl) rfl
theorem q638 : (Jvm.Cond.soleField "MarketDays$Leaf" "number") ∈ lw_all := lw_g (lw_at lw_m3 76 rfl) rfl
theorem q639 : (Jvm.Cond.laysFinal "MarketDays$Leaf" "MarketDays$Leaf" "name" "I") ∈ lw_all := lw_g (lw_at lw_m3 77 rfl) rfl
theorem q640 : (Jvm.Cond.soleField "MarketDays$Leaf" "name") ∈ lw_all := lw_g (lw_at lw_m3 78 rfl) rfl
theorem q641 : (Jvm.Cond.superclass "MarketDays$Leaf" "java/lang/Object") ∈ lw_all := lw_g (lw_at lw_m3 79 rfl) rfl
theorem q857 : (Jvm.Cond.castable "MarketDays$Leaf" "MarketDays$Node") ∈ lw_tbl := lw_at lw_m4 55 rfl
theorem q858 : (Jvm.Cond.selects "MarketDays$Leaf" ({ cls := "MarketDays$Node", name := "worth", desc := "([I)I" } : Jvm.MethodName) ({ cls := "MarketDays$Leaf", name := "worth", desc := "([I)I" } : Jvm.MethodName)) ∈ lw_all := lw_g (lw_at lw_m4 56 rfl) rfl
theorem q859 : (Jvm.Cond.unhidden "MarketDays$Leaf" "worth" "([I)I") ∈ lw_tbl := lw_at lw_m4 57 rfl
theorem q860 : (Jvm.Cond.instanceMethod ({ cls := "MarketDays$Leaf", name := "worth", desc := "([I)I" } : Jvm.MethodName)) ∈ lw_all := lw_g (lw_at lw_m4 58 rfl) rfl
theorem q861 : (Jvm.Cond.publicMethod ({ cls := "MarketDays$Leaf", name := "worth", desc := "([I)I" } : Jvm.MethodName)) ∈ lw_tbl := lw_at lw_m4 59 rfl
theorem q862 : (Jvm.Cond.code ({ cls := "MarketDays$Leaf", name := "worth", desc := "([I)I" } : Jvm.MethodName) prog_5_method_2_code (2 : Nat) (Option.some Jvm.ClassFile.FieldType.int)) ∈ lw_all := lw_g (lw_at lw_m4 60 rfl) rfl
theorem q1020 : (Jvm.Cond.selects "MarketDays$Leaf" ({ cls := "java/lang/Object", name := "getClass", desc := "()Ljava/lang/Class;" } : Jvm.MethodName) ({ cls := "java/lang/Object", name := "getClass", desc := "()Ljava/lang/Class;" } : Jvm.MethodName)) ∈ lw_all := lw_g (lw_at lw_m4 218 rfl) rfl
theorem q1963 : (Jvm.Cond.castable "MarketDays$Leaf" "java/lang/Object") ∈ lw_tbl := lw_at lw_m8 201 rfl
theorem in_X5 : ∀ w ∈ wsX50, w ∈ lw_all := lw_in wsX50 [637, 639] (by decide +kernel) (by decide +kernel)

/-! MarketDays$Two -/
set_option maxRecDepth 100000
def RX6 : String := "MarketDays$Two"
def TX6 : u_T := fun k => match k with
  | 0 => ("MarketDays$Two", "sign", "I", true)
  | 1 => ("MarketDays$Two", "a", "LMarketDays$Node;", true)
  | _ => ("MarketDays$Two", "b", "LMarketDays$Node;", true)
def tyX6 : Nat → FieldType := fun k => match k with
  | 0 => .int
  | 1 => .object "MarketDays$Node"
  | _ => .object "MarketDays$Node"
abbrev wsX60 : List Cond := u_ws RX6 TX6 3
theorem nmX6 : ∀ a, a < 3 → ∀ b, b < 3 → a ≠ b → (TX6 a).2.1 ≠ (TX6 b).2.1 := by decide +kernel
theorem tyX6_ok : ∀ k, k < 3 → parseFieldDescriptor (TX6 k).2.2.1 = some (tyX6 k) := by decide +kernel
abbrev cX6_init : ByteArray := prog_17_method_1_code
def yX6_init : MethodName := ⟨RX6, "<init>", "(ILMarketDays$Node;LMarketDays$Node;)V"⟩
def dkwX6_init_0 : List UInt8 := [42, 183, 0, 1, 42, 27, 181, 0, 7, 42, 44, 181, 0, 13, 42, 45, 181, 0, 17, 177]
abbrev dktX6_init_0 : List UInt8 := dkwX6_init_0 ++ []
theorem dksX6_init_0 : cX6_init.data.toList.drop 0 = dktX6_init_0 := by decide +kernel
theorem dX6_init_0 : decode cX6_init 0 = .ok (.aload_n 0, 1) := dk_42 (dk_at dksX6_init_0 0 rfl rfl)
theorem dX6_init_1 : decode cX6_init 1 = .ok (.invokespecial 1, 3) := dk_183 0 1 (dk_at dksX6_init_0 1 rfl rfl)
theorem dX6_init_4 : decode cX6_init 4 = .ok (.aload_n 0, 1) := dk_42 (dk_at dksX6_init_0 4 rfl rfl)
theorem dX6_init_5 : decode cX6_init 5 = .ok (.iload_n 1, 1) := dk_27 (dk_at dksX6_init_0 5 rfl rfl)
theorem dX6_init_6 : decode cX6_init 6 = .ok (.putfield 7, 3) := dk_181 0 7 (dk_at dksX6_init_0 6 rfl rfl)
theorem dX6_init_9 : decode cX6_init 9 = .ok (.aload_n 0, 1) := dk_42 (dk_at dksX6_init_0 9 rfl rfl)
theorem dX6_init_10 : decode cX6_init 10 = .ok (.aload_n 2, 1) := dk_44 (dk_at dksX6_init_0 10 rfl rfl)
theorem dX6_init_11 : decode cX6_init 11 = .ok (.putfield 13, 3) := dk_181 0 13 (dk_at dksX6_init_0 11 rfl rfl)
theorem dX6_init_14 : decode cX6_init 14 = .ok (.aload_n 0, 1) := dk_42 (dk_at dksX6_init_0 14 rfl rfl)
theorem dX6_init_15 : decode cX6_init 15 = .ok (.aload_n 3, 1) := dk_45 (dk_at dksX6_init_0 15 rfl rfl)
theorem dX6_init_16 : decode cX6_init 16 = .ok (.putfield 17, 3) := dk_181 0 17 (dk_at dksX6_init_0 16 rfl rfl)
theorem dX6_init_19 : decode cX6_init 19 = .ok (.return_, 1) := dk_177 (dk_at dksX6_init_0 19 rfl rfl)
abbrev cX6_worth : ByteArray := prog_17_method_2_code
def yX6_worth : MethodName := ⟨RX6, "worth", "([I)I"⟩
def dkwX6_worth_5 : List UInt8 := [28, 154, 0, 7, 29, 153, 0, 7, 4, 167, 0, 4, 3, 172]
abbrev dktX6_worth_5 : List UInt8 := dkwX6_worth_5 ++ []
def dkwX6_worth_4 : List UInt8 := [29, 160, 0, 7, 4, 167, 0, 4, 3, 172, 28, 153, 0, 11, 29, 153, 0, 7, 4, 167, 0, 4, 3, 172]
abbrev dktX6_worth_4 : List UInt8 := dkwX6_worth_4 ++ dktX6_worth_5
def dkwX6_worth_3 : List UInt8 := [28, 29, 96, 172, 28, 29, 100, 172, 28, 29, 104, 172, 28, 29, 162, 0, 7, 4, 167, 0, 4, 3, 172, 28]
abbrev dktX6_worth_3 : List UInt8 := dkwX6_worth_3 ++ dktX6_worth_4
def dkwX6_worth_2 : List UInt8 := [171, 0, 0, 0, 0, 106, 0, 0, 0, 6, 0, 0, 0, 38, 0, 0, 0, 92, 0, 0, 0, 42, 0, 0, 0, 66, 0, 0, 0, 43, 0, 0, 0, 58, 0, 0, 0, 45, 0, 0, 0, 62, 0, 0, 0, 60, 0, 0, 0, 70, 0, 0, 0, 61, 0, 0, 0, 81]
abbrev dktX6_worth_2 : List UInt8 := dkwX6_worth_2 ++ dktX6_worth_3
def dkwX6_worth_1 : List UInt8 := [180, 0, 7]
abbrev dktX6_worth_1 : List UInt8 := dkwX6_worth_1 ++ dktX6_worth_2
def dkwX6_worth_0 : List UInt8 := [42, 180, 0, 13, 43, 185, 0, 20, 2, 0, 61, 42, 180, 0, 17, 43, 185, 0, 20, 2, 0, 62, 42]
abbrev dktX6_worth_0 : List UInt8 := dkwX6_worth_0 ++ dktX6_worth_1
theorem dksX6_worth_0 : cX6_worth.data.toList.drop 0 = dktX6_worth_0 := by decide +kernel
theorem dksX6_worth_1 : cX6_worth.data.toList.drop 23 = dktX6_worth_1 := dk_seg dksX6_worth_0 23 rfl rfl
theorem dksX6_worth_2 : cX6_worth.data.toList.drop 26 = dktX6_worth_2 := dk_seg dksX6_worth_1 3 rfl rfl
theorem dksX6_worth_3 : cX6_worth.data.toList.drop 84 = dktX6_worth_3 := dk_seg dksX6_worth_2 58 rfl rfl
theorem dksX6_worth_4 : cX6_worth.data.toList.drop 108 = dktX6_worth_4 := dk_seg dksX6_worth_3 24 rfl rfl
theorem dksX6_worth_5 : cX6_worth.data.toList.drop 132 = dktX6_worth_5 := dk_seg dksX6_worth_4 24 rfl rfl
theorem dX6_worth_0 : decode cX6_worth 0 = .ok (.aload_n 0, 1) := dk_42 (dk_at dksX6_worth_0 0 rfl rfl)
theorem dX6_worth_1 : decode cX6_worth 1 = .ok (.getfield 13, 3) := dk_180 0 13 (dk_at dksX6_worth_0 1 rfl rfl)
theorem dX6_worth_4 : decode cX6_worth 4 = .ok (.aload_n 1, 1) := dk_43 (dk_at dksX6_worth_0 4 rfl rfl)
theorem dX6_worth_5 : decode cX6_worth 5 = .ok (.invokeinterface 20 2, 5) := by decide +kernel
theorem dX6_worth_10 : decode cX6_worth 10 = .ok (.istore_n 2, 1) := dk_61 (dk_at dksX6_worth_0 10 rfl rfl)
theorem dX6_worth_11 : decode cX6_worth 11 = .ok (.aload_n 0, 1) := dk_42 (dk_at dksX6_worth_0 11 rfl rfl)
theorem dX6_worth_12 : decode cX6_worth 12 = .ok (.getfield 17, 3) := dk_180 0 17 (dk_at dksX6_worth_0 12 rfl rfl)
theorem dX6_worth_15 : decode cX6_worth 15 = .ok (.aload_n 1, 1) := dk_43 (dk_at dksX6_worth_0 15 rfl rfl)
theorem dX6_worth_16 : decode cX6_worth 16 = .ok (.invokeinterface 20 2, 5) := by decide +kernel
theorem dX6_worth_21 : decode cX6_worth 21 = .ok (.istore_n 3, 1) := dk_62 (dk_at dksX6_worth_0 21 rfl rfl)
theorem dX6_worth_22 : decode cX6_worth 22 = .ok (.aload_n 0, 1) := dk_42 (dk_at dksX6_worth_0 22 rfl rfl)
theorem dX6_worth_23 : decode cX6_worth 23 = .ok (.getfield 7, 3) := dk_180 0 7 (dk_at dksX6_worth_1 0 rfl rfl)
theorem dX6_worth_26 : decode cX6_worth 26 = .ok (.lookupswitch 106 #[(38, 92), (42, 66), (43, 58), (45, 62), (60, 70), (61, 81)], 58) := by decide +kernel
theorem dX6_worth_84 : decode cX6_worth 84 = .ok (.iload_n 2, 1) := dk_28 (dk_at dksX6_worth_3 0 rfl rfl)
theorem dX6_worth_85 : decode cX6_worth 85 = .ok (.iload_n 3, 1) := dk_29 (dk_at dksX6_worth_3 1 rfl rfl)
theorem dX6_worth_86 : decode cX6_worth 86 = .ok (.iadd, 1) := dk_96 (dk_at dksX6_worth_3 2 rfl rfl)
theorem dX6_worth_87 : decode cX6_worth 87 = .ok (.ireturn, 1) := dk_172 (dk_at dksX6_worth_3 3 rfl rfl)
theorem dX6_worth_88 : decode cX6_worth 88 = .ok (.iload_n 2, 1) := dk_28 (dk_at dksX6_worth_3 4 rfl rfl)
theorem dX6_worth_89 : decode cX6_worth 89 = .ok (.iload_n 3, 1) := dk_29 (dk_at dksX6_worth_3 5 rfl rfl)
theorem dX6_worth_90 : decode cX6_worth 90 = .ok (.isub, 1) := dk_100 (dk_at dksX6_worth_3 6 rfl rfl)
theorem dX6_worth_91 : decode cX6_worth 91 = .ok (.ireturn, 1) := dk_172 (dk_at dksX6_worth_3 7 rfl rfl)
theorem dX6_worth_92 : decode cX6_worth 92 = .ok (.iload_n 2, 1) := dk_28 (dk_at dksX6_worth_3 8 rfl rfl)
theorem dX6_worth_93 : decode cX6_worth 93 = .ok (.iload_n 3, 1) := dk_29 (dk_at dksX6_worth_3 9 rfl rfl)
theorem dX6_worth_94 : decode cX6_worth 94 = .ok (.imul, 1) := dk_104 (dk_at dksX6_worth_3 10 rfl rfl)
theorem dX6_worth_95 : decode cX6_worth 95 = .ok (.ireturn, 1) := dk_172 (dk_at dksX6_worth_3 11 rfl rfl)
theorem dX6_worth_96 : decode cX6_worth 96 = .ok (.iload_n 2, 1) := dk_28 (dk_at dksX6_worth_3 12 rfl rfl)
theorem dX6_worth_97 : decode cX6_worth 97 = .ok (.iload_n 3, 1) := dk_29 (dk_at dksX6_worth_3 13 rfl rfl)
theorem dX6_worth_98 : decode cX6_worth 98 = .ok (.if_icmp .ge 7, 3) := dk_162 0 7 (dk_at dksX6_worth_3 14 rfl rfl)
theorem dX6_worth_101 : decode cX6_worth 101 = .ok (.iconst 1, 1) := dk_4 (dk_at dksX6_worth_3 17 rfl rfl)
theorem dX6_worth_102 : decode cX6_worth 102 = .ok (.goto 4, 3) := dk_167 0 4 (dk_at dksX6_worth_3 18 rfl rfl)
theorem dX6_worth_105 : decode cX6_worth 105 = .ok (.iconst 0, 1) := dk_3 (dk_at dksX6_worth_3 21 rfl rfl)
theorem dX6_worth_106 : decode cX6_worth 106 = .ok (.ireturn, 1) := dk_172 (dk_at dksX6_worth_3 22 rfl rfl)
theorem dX6_worth_107 : decode cX6_worth 107 = .ok (.iload_n 2, 1) := dk_28 (dk_at dksX6_worth_3 23 rfl rfl)
theorem dX6_worth_108 : decode cX6_worth 108 = .ok (.iload_n 3, 1) := dk_29 (dk_at dksX6_worth_4 0 rfl rfl)
theorem dX6_worth_109 : decode cX6_worth 109 = .ok (.if_icmp .ne 7, 3) := dk_160 0 7 (dk_at dksX6_worth_4 1 rfl rfl)
theorem dX6_worth_112 : decode cX6_worth 112 = .ok (.iconst 1, 1) := dk_4 (dk_at dksX6_worth_4 4 rfl rfl)
theorem dX6_worth_113 : decode cX6_worth 113 = .ok (.goto 4, 3) := dk_167 0 4 (dk_at dksX6_worth_4 5 rfl rfl)
theorem dX6_worth_116 : decode cX6_worth 116 = .ok (.iconst 0, 1) := dk_3 (dk_at dksX6_worth_4 8 rfl rfl)
theorem dX6_worth_117 : decode cX6_worth 117 = .ok (.ireturn, 1) := dk_172 (dk_at dksX6_worth_4 9 rfl rfl)
theorem dX6_worth_118 : decode cX6_worth 118 = .ok (.iload_n 2, 1) := dk_28 (dk_at dksX6_worth_4 10 rfl rfl)
theorem dX6_worth_119 : decode cX6_worth 119 = .ok (.ifCond .eq 11, 3) := dk_153 0 11 (dk_at dksX6_worth_4 11 rfl rfl)
theorem dX6_worth_122 : decode cX6_worth 122 = .ok (.iload_n 3, 1) := dk_29 (dk_at dksX6_worth_4 14 rfl rfl)
theorem dX6_worth_123 : decode cX6_worth 123 = .ok (.ifCond .eq 7, 3) := dk_153 0 7 (dk_at dksX6_worth_4 15 rfl rfl)
theorem dX6_worth_126 : decode cX6_worth 126 = .ok (.iconst 1, 1) := dk_4 (dk_at dksX6_worth_4 18 rfl rfl)
theorem dX6_worth_127 : decode cX6_worth 127 = .ok (.goto 4, 3) := dk_167 0 4 (dk_at dksX6_worth_4 19 rfl rfl)
theorem dX6_worth_130 : decode cX6_worth 130 = .ok (.iconst 0, 1) := dk_3 (dk_at dksX6_worth_4 22 rfl rfl)
theorem dX6_worth_131 : decode cX6_worth 131 = .ok (.ireturn, 1) := dk_172 (dk_at dksX6_worth_4 23 rfl rfl)
theorem dX6_worth_132 : decode cX6_worth 132 = .ok (.iload_n 2, 1) := dk_28 (dk_at dksX6_worth_5 0 rfl rfl)
theorem dX6_worth_133 : decode cX6_worth 133 = .ok (.ifCond .ne 7, 3) := dk_154 0 7 (dk_at dksX6_worth_5 1 rfl rfl)
theorem dX6_worth_136 : decode cX6_worth 136 = .ok (.iload_n 3, 1) := dk_29 (dk_at dksX6_worth_5 4 rfl rfl)
theorem dX6_worth_137 : decode cX6_worth 137 = .ok (.ifCond .eq 7, 3) := dk_153 0 7 (dk_at dksX6_worth_5 5 rfl rfl)
theorem dX6_worth_140 : decode cX6_worth 140 = .ok (.iconst 1, 1) := dk_4 (dk_at dksX6_worth_5 8 rfl rfl)
theorem dX6_worth_141 : decode cX6_worth 141 = .ok (.goto 4, 3) := dk_167 0 4 (dk_at dksX6_worth_5 9 rfl rfl)
theorem dX6_worth_144 : decode cX6_worth 144 = .ok (.iconst 0, 1) := dk_3 (dk_at dksX6_worth_5 12 rfl rfl)
theorem dX6_worth_145 : decode cX6_worth 145 = .ok (.ireturn, 1) := dk_172 (dk_at dksX6_worth_5 13 rfl rfl)
theorem q106 : (Jvm.Cond.initialized "MarketDays$Two") ∈ lw_all := lw_g (lw_at lw_m1 24 rfl) rfl
theorem q649 : (Jvm.Cond.instantiable "MarketDays$Two" (3 : Nat)) ∈ lw_all := lw_g (lw_at lw_m3 87 rfl) rfl
theorem q651 : (Jvm.Cond.instanceMethod ({ cls := "MarketDays$Two", name := "<init>", desc := "(ILMarketDays$Node;LMarketDays$Node;)V" } : Jvm.MethodName)) ∈ lw_all := lw_g (lw_at lw_m3 89 rfl) rfl
theorem q652 : (Jvm.Cond.code ({ cls := "MarketDays$Two", name := "<init>", desc := "(ILMarketDays$Node;LMarketDays$Node;)V" } : Jvm.MethodName) prog_17_method_1_code (4 : Nat) (Option.none : Option Jvm.ClassFile.FieldType)) ∈ lw_all := lw_g (lw_at lw_m3 90 rfl) rfl
theorem q653 : (Jvm.Cond.methodLink "MarketDays$Two" (1 : Nat) ({ cls := "java/lang/Object", name := "<init>", desc := "()V" } : Jvm.MethodName)) ∈ lw_all := lw_g (lw_at lw_m3 91 rfl) rfl
theorem q654 : (Jvm.Cond.fieldLink "MarketDays$Two" (7 : Nat) "MarketDays$Two" "sign" "I") ∈ lw_all := lw_g (lw_at lw_m3 92 rfl) rfl
theorem q655 : (Jvm.Cond.fieldLink "MarketDays$Two" (13 : Nat) "MarketDays$Two" "a" "LMarketDays$Node;") ∈ lw_all := lw_g (lw_at lw_m3 93 rfl) rfl
theorem q656 : (Jvm.Cond.fieldLink "MarketDays$Two" (17 : Nat) "MarketDays$Two" "b" "LMarketDays$Node;") ∈ lw_all := lw_g (lw_at lw_m3 94 rfl) rfl
theorem q657 : (Jvm.Cond.laysFinal "MarketDays$Two" "MarketDays$Two" "sign" "I") ∈ lw_all := lw_g (lw_at lw_m3 95 rfl) rfl
theorem q658 : (Jvm.Cond.soleField "MarketDays$Two" "sign") ∈ lw_all := lw_g (lw_at lw_m3 96 rfl) rfl
theorem q659 : (Jvm.Cond.laysFinal "MarketDays$Two" "MarketDays$Two" "a" "LMarketDays$Node;") ∈ lw_all := lw_g (lw_at lw_m3 97 rfl) rfl
theorem q660 : (Jvm.Cond.soleField "MarketDays$Two" "a") ∈ lw_all := lw_g (lw_at lw_m3 98 rfl) rfl
theorem q661 : (Jvm.Cond.laysFinal "MarketDays$Two" "MarketDays$Two" "b" "LMarketDays$Node;") ∈ lw_all := lw_g (lw_at lw_m3 99 rfl) rfl
theorem q662 : (Jvm.Cond.soleField "MarketDays$Two" "b") ∈ lw_all := lw_g (lw_at lw_m3 100 rfl) rfl
theorem q663 : (Jvm.Cond.superclass "MarketDays$Two" "java/lang/Object") ∈ lw_all := lw_g (lw_at lw_m3 101 rfl) rfl
theorem q871 : (Jvm.Cond.castable "MarketDays$Two" "MarketDays$Node") ∈ lw_tbl := lw_at lw_m4 69 rfl
theorem q872 : (Jvm.Cond.selects "MarketDays$Two" ({ cls := "MarketDays$Node", name := "worth", desc := "([I)I" } : Jvm.MethodName) ({ cls := "MarketDays$Two", name := "worth", desc := "([I)I" } : Jvm.MethodName)) ∈ lw_all := lw_g (lw_at lw_m4 70 rfl) rfl
theorem q873 : (Jvm.Cond.unhidden "MarketDays$Two" "worth" "([I)I") ∈ lw_tbl := lw_at lw_m4 71 rfl
theorem q874 : (Jvm.Cond.instanceMethod ({ cls := "MarketDays$Two", name := "worth", desc := "([I)I" } : Jvm.MethodName)) ∈ lw_all := lw_g (lw_at lw_m4 72 rfl) rfl
theorem q875 : (Jvm.Cond.publicMethod ({ cls := "MarketDays$Two", name := "worth", desc := "([I)I" } : Jvm.MethodName)) ∈ lw_tbl := lw_at lw_m4 73 rfl
theorem q876 : (Jvm.Cond.code ({ cls := "MarketDays$Two", name := "worth", desc := "([I)I" } : Jvm.MethodName) prog_17_method_2_code (4 : Nat) (Option.some Jvm.ClassFile.FieldType.int)) ∈ lw_all := lw_g (lw_at lw_m4 74 rfl) rfl
theorem q877 : (Jvm.Cond.interfaceEntry "MarketDays$Two" (20 : Nat)) ∈ lw_tbl := lw_at lw_m4 75 rfl
theorem q878 : (Jvm.Cond.methodLink "MarketDays$Two" (20 : Nat) ({ cls := "MarketDays$Node", name := "worth", desc := "([I)I" } : Jvm.MethodName)) ∈ lw_all := lw_g (lw_at lw_m4 76 rfl) rfl
theorem q1031 : (Jvm.Cond.selects "MarketDays$Two" ({ cls := "java/lang/Object", name := "getClass", desc := "()Ljava/lang/Class;" } : Jvm.MethodName) ({ cls := "java/lang/Object", name := "getClass", desc := "()Ljava/lang/Class;" } : Jvm.MethodName)) ∈ lw_all := lw_g (lw_at lw_m4 229 rfl) rfl
theorem q1964 : (Jvm.Cond.castable "MarketDays$Two" "java/lang/Object") ∈ lw_tbl := lw_at lw_m8 202 rfl
theorem in_X6 : ∀ w ∈ wsX60, w ∈ lw_all := lw_in wsX60 [657, 659, 661] (by decide +kernel) (by decide +kernel)

/-! MarketDays$Giving -/
set_option maxRecDepth 100000
def RX8 : String := "MarketDays$Giving"
def TX8 : u_T := fun k => match k with
  | 0 => ("MarketDays$Giving", "number", "I", true)
  | 1 => ("MarketDays$Giving", "towns", "I", true)
  | _ => ("MarketDays$Giving", "day", "[B", true)
def tyX8 : Nat → FieldType := fun k => match k with
  | 0 => .int
  | 1 => .int
  | _ => .array .byte
abbrev wsX80 : List Cond := u_ws RX8 TX8 3
theorem nmX8 : ∀ a, a < 3 → ∀ b, b < 3 → a ≠ b → (TX8 a).2.1 ≠ (TX8 b).2.1 := by decide +kernel
theorem tyX8_ok : ∀ k, k < 3 → parseFieldDescriptor (TX8 k).2.2.1 = some (tyX8 k) := by decide +kernel
abbrev cX8_init : ByteArray := prog_4_method_1_code
def yX8_init : MethodName := ⟨RX8, "<init>", "(I[B)V"⟩
def dkwX8_init_0 : List UInt8 := [42, 183, 0, 1, 42, 27, 181, 0, 7, 42, 44, 190, 181, 0, 13, 42, 44, 181, 0, 16, 177]
abbrev dktX8_init_0 : List UInt8 := dkwX8_init_0 ++ []
theorem dksX8_init_0 : cX8_init.data.toList.drop 0 = dktX8_init_0 := by decide +kernel
theorem dX8_init_0 : decode cX8_init 0 = .ok (.aload_n 0, 1) := dk_42 (dk_at dksX8_init_0 0 rfl rfl)
theorem dX8_init_1 : decode cX8_init 1 = .ok (.invokespecial 1, 3) := dk_183 0 1 (dk_at dksX8_init_0 1 rfl rfl)
theorem dX8_init_4 : decode cX8_init 4 = .ok (.aload_n 0, 1) := dk_42 (dk_at dksX8_init_0 4 rfl rfl)
theorem dX8_init_5 : decode cX8_init 5 = .ok (.iload_n 1, 1) := dk_27 (dk_at dksX8_init_0 5 rfl rfl)
theorem dX8_init_6 : decode cX8_init 6 = .ok (.putfield 7, 3) := dk_181 0 7 (dk_at dksX8_init_0 6 rfl rfl)
theorem dX8_init_9 : decode cX8_init 9 = .ok (.aload_n 0, 1) := dk_42 (dk_at dksX8_init_0 9 rfl rfl)
theorem dX8_init_10 : decode cX8_init 10 = .ok (.aload_n 2, 1) := dk_44 (dk_at dksX8_init_0 10 rfl rfl)
theorem dX8_init_11 : decode cX8_init 11 = .ok (.arraylength, 1) := dk_190 (dk_at dksX8_init_0 11 rfl rfl)
theorem dX8_init_12 : decode cX8_init 12 = .ok (.putfield 13, 3) := dk_181 0 13 (dk_at dksX8_init_0 12 rfl rfl)
theorem dX8_init_15 : decode cX8_init 15 = .ok (.aload_n 0, 1) := dk_42 (dk_at dksX8_init_0 15 rfl rfl)
theorem dX8_init_16 : decode cX8_init 16 = .ok (.aload_n 2, 1) := dk_44 (dk_at dksX8_init_0 16 rfl rfl)
theorem dX8_init_17 : decode cX8_init 17 = .ok (.putfield 16, 3) := dk_181 0 16 (dk_at dksX8_init_0 17 rfl rfl)
theorem dX8_init_20 : decode cX8_init 20 = .ok (.return_, 1) := dk_177 (dk_at dksX8_init_0 20 rfl rfl)
abbrev cX8_mostTold : ByteArray := prog_4_method_3_code
def yX8_mostTold : MethodName := ⟨RX8, "mostTold", "(I)I"⟩
def dkwX8_mostTold_0 : List UInt8 := [27, 4, 100, 172]
abbrev dktX8_mostTold_0 : List UInt8 := dkwX8_mostTold_0 ++ []
theorem dksX8_mostTold_0 : cX8_mostTold.data.toList.drop 0 = dktX8_mostTold_0 := by decide +kernel
theorem dX8_mostTold_0 : decode cX8_mostTold 0 = .ok (.iload_n 1, 1) := dk_27 (dk_at dksX8_mostTold_0 0 rfl rfl)
theorem dX8_mostTold_1 : decode cX8_mostTold 1 = .ok (.iconst 1, 1) := dk_4 (dk_at dksX8_mostTold_0 1 rfl rfl)
theorem dX8_mostTold_2 : decode cX8_mostTold 2 = .ok (.isub, 1) := dk_100 (dk_at dksX8_mostTold_0 2 rfl rfl)
theorem dX8_mostTold_3 : decode cX8_mostTold 3 = .ok (.ireturn, 1) := dk_172 (dk_at dksX8_mostTold_0 3 rfl rfl)
abbrev cX8_daysOf : ByteArray := prog_4_method_4_code
def yX8_daysOf : MethodName := ⟨RX8, "daysOf", "(III)I"⟩
def dkwX8_daysOf_1 : List UInt8 := [51, 120, 167, 0, 4, 3, 172]
abbrev dktX8_daysOf_1 : List UInt8 := dkwX8_daysOf_1 ++ []
def dkwX8_daysOf_0 : List UInt8 := [27, 42, 180, 0, 13, 162, 0, 24, 42, 180, 0, 16, 27, 51, 29, 162, 0, 14, 4, 42, 180, 0, 16, 27]
abbrev dktX8_daysOf_0 : List UInt8 := dkwX8_daysOf_0 ++ dktX8_daysOf_1
theorem dksX8_daysOf_0 : cX8_daysOf.data.toList.drop 0 = dktX8_daysOf_0 := by decide +kernel
theorem dksX8_daysOf_1 : cX8_daysOf.data.toList.drop 24 = dktX8_daysOf_1 := dk_seg dksX8_daysOf_0 24 rfl rfl
theorem dX8_daysOf_0 : decode cX8_daysOf 0 = .ok (.iload_n 1, 1) := dk_27 (dk_at dksX8_daysOf_0 0 rfl rfl)
theorem dX8_daysOf_1 : decode cX8_daysOf 1 = .ok (.aload_n 0, 1) := dk_42 (dk_at dksX8_daysOf_0 1 rfl rfl)
theorem dX8_daysOf_2 : decode cX8_daysOf 2 = .ok (.getfield 13, 3) := dk_180 0 13 (dk_at dksX8_daysOf_0 2 rfl rfl)
theorem dX8_daysOf_5 : decode cX8_daysOf 5 = .ok (.if_icmp .ge 24, 3) := dk_162 0 24 (dk_at dksX8_daysOf_0 5 rfl rfl)
theorem dX8_daysOf_8 : decode cX8_daysOf 8 = .ok (.aload_n 0, 1) := dk_42 (dk_at dksX8_daysOf_0 8 rfl rfl)
theorem dX8_daysOf_9 : decode cX8_daysOf 9 = .ok (.getfield 16, 3) := dk_180 0 16 (dk_at dksX8_daysOf_0 9 rfl rfl)
theorem dX8_daysOf_12 : decode cX8_daysOf 12 = .ok (.iload_n 1, 1) := dk_27 (dk_at dksX8_daysOf_0 12 rfl rfl)
theorem dX8_daysOf_13 : decode cX8_daysOf 13 = .ok (.baload, 1) := dk_51 (dk_at dksX8_daysOf_0 13 rfl rfl)
theorem dX8_daysOf_14 : decode cX8_daysOf 14 = .ok (.iload_n 3, 1) := dk_29 (dk_at dksX8_daysOf_0 14 rfl rfl)
theorem dX8_daysOf_15 : decode cX8_daysOf 15 = .ok (.if_icmp .ge 14, 3) := dk_162 0 14 (dk_at dksX8_daysOf_0 15 rfl rfl)
theorem dX8_daysOf_18 : decode cX8_daysOf 18 = .ok (.iconst 1, 1) := dk_4 (dk_at dksX8_daysOf_0 18 rfl rfl)
theorem dX8_daysOf_19 : decode cX8_daysOf 19 = .ok (.aload_n 0, 1) := dk_42 (dk_at dksX8_daysOf_0 19 rfl rfl)
theorem dX8_daysOf_20 : decode cX8_daysOf 20 = .ok (.getfield 16, 3) := dk_180 0 16 (dk_at dksX8_daysOf_0 20 rfl rfl)
theorem dX8_daysOf_23 : decode cX8_daysOf 23 = .ok (.iload_n 1, 1) := dk_27 (dk_at dksX8_daysOf_0 23 rfl rfl)
theorem dX8_daysOf_24 : decode cX8_daysOf 24 = .ok (.baload, 1) := dk_51 (dk_at dksX8_daysOf_1 0 rfl rfl)
theorem dX8_daysOf_25 : decode cX8_daysOf 25 = .ok (.ishl, 1) := dk_120 (dk_at dksX8_daysOf_1 1 rfl rfl)
theorem dX8_daysOf_26 : decode cX8_daysOf 26 = .ok (.goto 4, 3) := dk_167 0 4 (dk_at dksX8_daysOf_1 2 rfl rfl)
theorem dX8_daysOf_29 : decode cX8_daysOf 29 = .ok (.iconst 0, 1) := dk_3 (dk_at dksX8_daysOf_1 5 rfl rfl)
theorem dX8_daysOf_30 : decode cX8_daysOf 30 = .ok (.ireturn, 1) := dk_172 (dk_at dksX8_daysOf_1 6 rfl rfl)
abbrev cX8_moves : ByteArray := prog_4_method_5_code
def yX8_moves : MethodName := ⟨RX8, "moves", "()Z"⟩
theorem dX8_moves_0 : decode cX8_moves 0 = .ok (.iconst 1, 1) := by decide +kernel
theorem dX8_moves_1 : decode cX8_moves 1 = .ok (.ireturn, 1) := by decide +kernel
abbrev cX8_worth : ByteArray := prog_4_method_6_code
def yX8_worth : MethodName := ⟨RX8, "worth", "(II)I"⟩
theorem dX8_worth_0 : decode cX8_worth 0 = .ok (.iload_n 1, 1) := by decide +kernel
theorem dX8_worth_1 : decode cX8_worth 1 = .ok (.ireturn, 1) := by decide +kernel
abbrev cX8_kind : ByteArray := prog_4_method_2_code
def yX8_kind : MethodName := ⟨RX8, "kind", "()I"⟩
theorem dX8_kind_0 : decode cX8_kind 0 = .ok (.iconst 0, 1) := by decide +kernel
theorem dX8_kind_1 : decode cX8_kind 1 = .ok (.ireturn, 1) := by decide +kernel
theorem q108 : (Jvm.Cond.initialized "MarketDays$Giving") ∈ lw_all := lw_g (lw_at lw_m1 26 rfl) rfl
theorem q910 : (Jvm.Cond.instantiable "MarketDays$Giving" (3 : Nat)) ∈ lw_all := lw_g (lw_at lw_m4 108 rfl) rfl
theorem q912 : (Jvm.Cond.instanceMethod ({ cls := "MarketDays$Giving", name := "<init>", desc := "(I[B)V" } : Jvm.MethodName)) ∈ lw_all := lw_g (lw_at lw_m4 110 rfl) rfl
theorem q913 : (Jvm.Cond.code ({ cls := "MarketDays$Giving", name := "<init>", desc := "(I[B)V" } : Jvm.MethodName) prog_4_method_1_code (3 : Nat) (Option.none : Option Jvm.ClassFile.FieldType)) ∈ lw_all := lw_g (lw_at lw_m4 111 rfl) rfl
theorem q914 : (Jvm.Cond.methodLink "MarketDays$Giving" (1 : Nat) ({ cls := "java/lang/Object", name := "<init>", desc := "()V" } : Jvm.MethodName)) ∈ lw_all := lw_g (lw_at lw_m4 112 rfl) rfl
theorem q915 : (Jvm.Cond.fieldLink "MarketDays$Giving" (7 : Nat) "MarketDays$Giving" "number" "I") ∈ lw_all := lw_g (lw_at lw_m4 113 rfl) rfl
theorem q917 : (Jvm.Cond.fieldLink "MarketDays$Giving" (13 : Nat) "MarketDays$Giving" "towns" "I") ∈ lw_all := lw_g (lw_at lw_m4 115 rfl) rfl
theorem q919 : (Jvm.Cond.fieldLink "MarketDays$Giving" (16 : Nat) "MarketDays$Giving" "day" "[B") ∈ lw_all := lw_g (lw_at lw_m4 117 rfl) rfl
theorem q925 : (Jvm.Cond.laysFinal "MarketDays$Giving" "MarketDays$Giving" "number" "I") ∈ lw_all := lw_g (lw_at lw_m4 123 rfl) rfl
theorem q926 : (Jvm.Cond.soleField "MarketDays$Giving" "number") ∈ lw_all := lw_g (lw_at lw_m4 124 rfl) rfl
theorem q927 : (Jvm.Cond.laysFinal "MarketDays$Giving" "MarketDays$Giving" "towns" "I") ∈ lw_all := lw_g (lw_at lw_m4 125 rfl) rfl
theorem q928 : (Jvm.Cond.soleField "MarketDays$Giving" "towns") ∈ lw_all := lw_g (lw_at lw_m4 126 rfl) rfl
theorem q929 : (Jvm.Cond.laysFinal "MarketDays$Giving" "MarketDays$Giving" "day" "[B") ∈ lw_all := lw_g (lw_at lw_m4 127 rfl) rfl
theorem q930 : (Jvm.Cond.soleField "MarketDays$Giving" "day") ∈ lw_all := lw_g (lw_at lw_m4 128 rfl) rfl
theorem q931 : (Jvm.Cond.superclass "MarketDays$Giving" "java/lang/Object") ∈ lw_all := lw_g (lw_at lw_m4 129 rfl) rfl
theorem q983 : (Jvm.Cond.instanceMethod ({ cls := "MarketDays$Giving", name := "mostTold", desc := "(I)I" } : Jvm.MethodName)) ∈ lw_all := lw_g (lw_at lw_m4 181 rfl) rfl
theorem q984 : (Jvm.Cond.selects "MarketDays$Giving" ({ cls := "MarketDays$Giving", name := "mostTold", desc := "(I)I" } : Jvm.MethodName) ({ cls := "MarketDays$Giving", name := "mostTold", desc := "(I)I" } : Jvm.MethodName)) ∈ lw_all := lw_g (lw_at lw_m4 182 rfl) rfl
theorem q985 : (Jvm.Cond.sameMethod "MarketDays$Giving" "MarketDays$Giving" "mostTold" "(I)I") ∈ lw_all := lw_g (lw_at lw_m4 183 rfl) rfl
theorem q993 : (Jvm.Cond.code ({ cls := "MarketDays$Giving", name := "mostTold", desc := "(I)I" } : Jvm.MethodName) prog_4_method_3_code (2 : Nat) (Option.some Jvm.ClassFile.FieldType.int)) ∈ lw_all := lw_g (lw_at lw_m4 191 rfl) rfl
theorem q1019 : (Jvm.Cond.selects "MarketDays$Giving" ({ cls := "java/lang/Object", name := "getClass", desc := "()Ljava/lang/Class;" } : Jvm.MethodName) ({ cls := "java/lang/Object", name := "getClass", desc := "()Ljava/lang/Class;" } : Jvm.MethodName)) ∈ lw_all := lw_g (lw_at lw_m4 217 rfl) rfl
theorem q1071 : (Jvm.Cond.instanceMethod ({ cls := "MarketDays$Giving", name := "daysOf", desc := "(III)I" } : Jvm.MethodName)) ∈ lw_all := lw_g (lw_at lw_m5 29 rfl) rfl
theorem q1072 : (Jvm.Cond.selects "MarketDays$Giving" ({ cls := "MarketDays$Giving", name := "daysOf", desc := "(III)I" } : Jvm.MethodName) ({ cls := "MarketDays$Giving", name := "daysOf", desc := "(III)I" } : Jvm.MethodName)) ∈ lw_all := lw_g (lw_at lw_m5 30 rfl) rfl
theorem q1073 : (Jvm.Cond.sameMethod "MarketDays$Giving" "MarketDays$Giving" "daysOf" "(III)I") ∈ lw_all := lw_g (lw_at lw_m5 31 rfl) rfl
theorem q1088 : (Jvm.Cond.code ({ cls := "MarketDays$Giving", name := "daysOf", desc := "(III)I" } : Jvm.MethodName) prog_4_method_4_code (4 : Nat) (Option.some Jvm.ClassFile.FieldType.int)) ∈ lw_all := lw_g (lw_at lw_m5 46 rfl) rfl
theorem q1090 : (Jvm.Cond.instanceMethod ({ cls := "MarketDays$Giving", name := "moves", desc := "()Z" } : Jvm.MethodName)) ∈ lw_all := lw_g (lw_at lw_m5 48 rfl) rfl
theorem q1091 : (Jvm.Cond.selects "MarketDays$Giving" ({ cls := "MarketDays$Giving", name := "moves", desc := "()Z" } : Jvm.MethodName) ({ cls := "MarketDays$Giving", name := "moves", desc := "()Z" } : Jvm.MethodName)) ∈ lw_all := lw_g (lw_at lw_m5 49 rfl) rfl
theorem q1092 : (Jvm.Cond.sameMethod "MarketDays$Giving" "MarketDays$Giving" "moves" "()Z") ∈ lw_all := lw_g (lw_at lw_m5 50 rfl) rfl
theorem q1100 : (Jvm.Cond.code ({ cls := "MarketDays$Giving", name := "moves", desc := "()Z" } : Jvm.MethodName) prog_4_method_5_code (1 : Nat) (Option.some Jvm.ClassFile.FieldType.boolean)) ∈ lw_all := lw_g (lw_at lw_m5 58 rfl) rfl
theorem q1142 : (Jvm.Cond.instanceMethod ({ cls := "MarketDays$Giving", name := "worth", desc := "(II)I" } : Jvm.MethodName)) ∈ lw_all := lw_g (lw_at lw_m5 100 rfl) rfl
theorem q1143 : (Jvm.Cond.selects "MarketDays$Giving" ({ cls := "MarketDays$Giving", name := "worth", desc := "(II)I" } : Jvm.MethodName) ({ cls := "MarketDays$Giving", name := "worth", desc := "(II)I" } : Jvm.MethodName)) ∈ lw_all := lw_g (lw_at lw_m5 101 rfl) rfl
theorem q1144 : (Jvm.Cond.sameMethod "MarketDays$Giving" "MarketDays$Giving" "worth" "(II)I") ∈ lw_all := lw_g (lw_at lw_m5 102 rfl) rfl
theorem q1162 : (Jvm.Cond.code ({ cls := "MarketDays$Giving", name := "worth", desc := "(II)I" } : Jvm.MethodName) prog_4_method_6_code (3 : Nat) (Option.some Jvm.ClassFile.FieldType.int)) ∈ lw_all := lw_g (lw_at lw_m5 120 rfl) rfl
theorem q1276 : (Jvm.Cond.instanceMethod ({ cls := "MarketDays$Giving", name := "kind", desc := "()I" } : Jvm.MethodName)) ∈ lw_all := lw_g (lw_at lw_m5 234 rfl) rfl
theorem q1277 : (Jvm.Cond.selects "MarketDays$Giving" ({ cls := "MarketDays$Giving", name := "kind", desc := "()I" } : Jvm.MethodName) ({ cls := "MarketDays$Giving", name := "kind", desc := "()I" } : Jvm.MethodName)) ∈ lw_all := lw_g (lw_at lw_m5 235 rfl) rfl
theorem q1278 : (Jvm.Cond.sameMethod "MarketDays$Giving" "MarketDays$Giving" "kind" "()I") ∈ lw_all := lw_g (lw_at lw_m5 236 rfl) rfl
theorem q1296 : (Jvm.Cond.code ({ cls := "MarketDays$Giving", name := "kind", desc := "()I" } : Jvm.MethodName) prog_4_method_2_code (1 : Nat) (Option.some Jvm.ClassFile.FieldType.int)) ∈ lw_all := lw_g (lw_at lw_m6 14 rfl) rfl
theorem q1966 : (Jvm.Cond.castable "MarketDays$Giving" "java/lang/Object") ∈ lw_tbl := lw_at lw_m8 204 rfl
theorem in_X8 : ∀ w ∈ wsX80, w ∈ lw_all := lw_in wsX80 [925, 927, 929] (by decide +kernel) (by decide +kernel)

/-! MarketDays$Part -/
set_option maxRecDepth 100000
def RX9 : String := "MarketDays$Part"
def TX9 : u_T := fun k => match k with
  | 0 => ("MarketDays$Giving", "number", "I", true)
  | 1 => ("MarketDays$Giving", "towns", "I", true)
  | _ => ("MarketDays$Giving", "day", "[B", true)
def tyX9 : Nat → FieldType := fun k => match k with
  | 0 => .int
  | 1 => .int
  | _ => .array .byte
abbrev wsX90 : List Cond := u_ws RX9 TX9 3
theorem nmX9 : ∀ a, a < 3 → ∀ b, b < 3 → a ≠ b → (TX9 a).2.1 ≠ (TX9 b).2.1 := by decide +kernel
theorem tyX9_ok : ∀ k, k < 3 → parseFieldDescriptor (TX9 k).2.2.1 = some (tyX9 k) := by decide +kernel
abbrev cX9_init : ByteArray := prog_9_method_1_code
def yX9_init : MethodName := ⟨RX9, "<init>", "(I[B)V"⟩
def dkwX9_init_0 : List UInt8 := [42, 27, 44, 183, 0, 3, 177]
abbrev dktX9_init_0 : List UInt8 := dkwX9_init_0 ++ []
theorem dksX9_init_0 : cX9_init.data.toList.drop 0 = dktX9_init_0 := by decide +kernel
theorem dX9_init_0 : decode cX9_init 0 = .ok (.aload_n 0, 1) := dk_42 (dk_at dksX9_init_0 0 rfl rfl)
theorem dX9_init_1 : decode cX9_init 1 = .ok (.iload_n 1, 1) := dk_27 (dk_at dksX9_init_0 1 rfl rfl)
theorem dX9_init_2 : decode cX9_init 2 = .ok (.aload_n 2, 1) := dk_44 (dk_at dksX9_init_0 2 rfl rfl)
theorem dX9_init_3 : decode cX9_init 3 = .ok (.invokespecial 3, 3) := dk_183 0 3 (dk_at dksX9_init_0 3 rfl rfl)
theorem dX9_init_6 : decode cX9_init 6 = .ok (.return_, 1) := dk_177 (dk_at dksX9_init_0 6 rfl rfl)
abbrev cX9_mostTold : ByteArray := prog_9_method_3_code
def yX9_mostTold : MethodName := ⟨RX9, "mostTold", "(I)I"⟩
theorem dX9_mostTold_0 : decode cX9_mostTold 0 = .ok (.bipush 7, 2) := by decide +kernel
theorem dX9_mostTold_2 : decode cX9_mostTold 2 = .ok (.ireturn, 1) := by decide +kernel
abbrev cX9_worth : ByteArray := prog_9_method_4_code
def yX9_worth : MethodName := ⟨RX9, "worth", "(II)I"⟩
def dkwX9_worth_0 : List UInt8 := [28, 154, 0, 7, 2, 167, 0, 9, 42, 27, 28, 183, 0, 9, 172]
abbrev dktX9_worth_0 : List UInt8 := dkwX9_worth_0 ++ []
theorem dksX9_worth_0 : cX9_worth.data.toList.drop 0 = dktX9_worth_0 := by decide +kernel
theorem dX9_worth_0 : decode cX9_worth 0 = .ok (.iload_n 2, 1) := dk_28 (dk_at dksX9_worth_0 0 rfl rfl)
theorem dX9_worth_1 : decode cX9_worth 1 = .ok (.ifCond .ne 7, 3) := dk_154 0 7 (dk_at dksX9_worth_0 1 rfl rfl)
theorem dX9_worth_4 : decode cX9_worth 4 = .ok (.iconst (-1), 1) := dk_2 (dk_at dksX9_worth_0 4 rfl rfl)
theorem dX9_worth_5 : decode cX9_worth 5 = .ok (.goto 9, 3) := dk_167 0 9 (dk_at dksX9_worth_0 5 rfl rfl)
theorem dX9_worth_8 : decode cX9_worth 8 = .ok (.aload_n 0, 1) := dk_42 (dk_at dksX9_worth_0 8 rfl rfl)
theorem dX9_worth_9 : decode cX9_worth 9 = .ok (.iload_n 1, 1) := dk_27 (dk_at dksX9_worth_0 9 rfl rfl)
theorem dX9_worth_10 : decode cX9_worth 10 = .ok (.iload_n 2, 1) := dk_28 (dk_at dksX9_worth_0 10 rfl rfl)
theorem dX9_worth_11 : decode cX9_worth 11 = .ok (.invokespecial 9, 3) := dk_183 0 9 (dk_at dksX9_worth_0 11 rfl rfl)
theorem dX9_worth_14 : decode cX9_worth 14 = .ok (.ireturn, 1) := dk_172 (dk_at dksX9_worth_0 14 rfl rfl)
abbrev cX9_kind : ByteArray := prog_9_method_2_code
def yX9_kind : MethodName := ⟨RX9, "kind", "()I"⟩
theorem dX9_kind_0 : decode cX9_kind 0 = .ok (.iconst 1, 1) := by decide +kernel
theorem dX9_kind_1 : decode cX9_kind 1 = .ok (.ireturn, 1) := by decide +kernel
theorem q109 : (Jvm.Cond.initialized "MarketDays$Part") ∈ lw_all := lw_g (lw_at lw_m1 27 rfl) rfl
theorem q933 : (Jvm.Cond.instantiable "MarketDays$Part" (3 : Nat)) ∈ lw_all := lw_g (lw_at lw_m4 131 rfl) rfl
theorem q935 : (Jvm.Cond.instanceMethod ({ cls := "MarketDays$Part", name := "<init>", desc := "(I[B)V" } : Jvm.MethodName)) ∈ lw_all := lw_g (lw_at lw_m4 133 rfl) rfl
theorem q936 : (Jvm.Cond.code ({ cls := "MarketDays$Part", name := "<init>", desc := "(I[B)V" } : Jvm.MethodName) prog_9_method_1_code (3 : Nat) (Option.none : Option Jvm.ClassFile.FieldType)) ∈ lw_all := lw_g (lw_at lw_m4 134 rfl) rfl
theorem q937 : (Jvm.Cond.methodLink "MarketDays$Part" (3 : Nat) ({ cls := "MarketDays$Giving", name := "<init>", desc := "(I[B)V" } : Jvm.MethodName)) ∈ lw_all := lw_g (lw_at lw_m4 135 rfl) rfl
theorem q938 : (Jvm.Cond.laysFinal "MarketDays$Part" "MarketDays$Giving" "number" "I") ∈ lw_all := lw_g (lw_at lw_m4 136 rfl) rfl
theorem q939 : (Jvm.Cond.laysFinal "MarketDays$Part" "MarketDays$Giving" "towns" "I") ∈ lw_all := lw_g (lw_at lw_m4 137 rfl) rfl
theorem q940 : (Jvm.Cond.laysFinal "MarketDays$Part" "MarketDays$Giving" "day" "[B") ∈ lw_all := lw_g (lw_at lw_m4 138 rfl) rfl
theorem q941 : (Jvm.Cond.superclass "MarketDays$Part" "MarketDays$Giving") ∈ lw_all := lw_g (lw_at lw_m4 139 rfl) rfl
theorem q986 : (Jvm.Cond.selects "MarketDays$Part" ({ cls := "MarketDays$Giving", name := "mostTold", desc := "(I)I" } : Jvm.MethodName) ({ cls := "MarketDays$Part", name := "mostTold", desc := "(I)I" } : Jvm.MethodName)) ∈ lw_all := lw_g (lw_at lw_m4 184 rfl) rfl
theorem q987 : (Jvm.Cond.instanceMethod ({ cls := "MarketDays$Part", name := "mostTold", desc := "(I)I" } : Jvm.MethodName)) ∈ lw_all := lw_g (lw_at lw_m4 185 rfl) rfl
theorem q988 : (Jvm.Cond.code ({ cls := "MarketDays$Part", name := "mostTold", desc := "(I)I" } : Jvm.MethodName) prog_9_method_3_code (2 : Nat) (Option.some Jvm.ClassFile.FieldType.int)) ∈ lw_all := lw_g (lw_at lw_m4 186 rfl) rfl
theorem q1023 : (Jvm.Cond.selects "MarketDays$Part" ({ cls := "java/lang/Object", name := "getClass", desc := "()Ljava/lang/Class;" } : Jvm.MethodName) ({ cls := "java/lang/Object", name := "getClass", desc := "()Ljava/lang/Class;" } : Jvm.MethodName)) ∈ lw_all := lw_g (lw_at lw_m4 221 rfl) rfl
theorem q1074 : (Jvm.Cond.selects "MarketDays$Part" ({ cls := "MarketDays$Giving", name := "daysOf", desc := "(III)I" } : Jvm.MethodName) ({ cls := "MarketDays$Giving", name := "daysOf", desc := "(III)I" } : Jvm.MethodName)) ∈ lw_all := lw_g (lw_at lw_m5 32 rfl) rfl
theorem q1093 : (Jvm.Cond.selects "MarketDays$Part" ({ cls := "MarketDays$Giving", name := "moves", desc := "()Z" } : Jvm.MethodName) ({ cls := "MarketDays$Giving", name := "moves", desc := "()Z" } : Jvm.MethodName)) ∈ lw_all := lw_g (lw_at lw_m5 51 rfl) rfl
theorem q1145 : (Jvm.Cond.selects "MarketDays$Part" ({ cls := "MarketDays$Giving", name := "worth", desc := "(II)I" } : Jvm.MethodName) ({ cls := "MarketDays$Part", name := "worth", desc := "(II)I" } : Jvm.MethodName)) ∈ lw_all := lw_g (lw_at lw_m5 103 rfl) rfl
theorem q1146 : (Jvm.Cond.instanceMethod ({ cls := "MarketDays$Part", name := "worth", desc := "(II)I" } : Jvm.MethodName)) ∈ lw_all := lw_g (lw_at lw_m5 104 rfl) rfl
theorem q1147 : (Jvm.Cond.code ({ cls := "MarketDays$Part", name := "worth", desc := "(II)I" } : Jvm.MethodName) prog_9_method_4_code (3 : Nat) (Option.some Jvm.ClassFile.FieldType.int)) ∈ lw_all := lw_g (lw_at lw_m5 105 rfl) rfl
theorem q1148 : (Jvm.Cond.methodLink "MarketDays$Part" (9 : Nat) ({ cls := "MarketDays$Giving", name := "worth", desc := "(II)I" } : Jvm.MethodName)) ∈ lw_all := lw_g (lw_at lw_m5 106 rfl) rfl
theorem q1279 : (Jvm.Cond.selects "MarketDays$Part" ({ cls := "MarketDays$Giving", name := "kind", desc := "()I" } : Jvm.MethodName) ({ cls := "MarketDays$Part", name := "kind", desc := "()I" } : Jvm.MethodName)) ∈ lw_all := lw_g (lw_at lw_m5 237 rfl) rfl
theorem q1280 : (Jvm.Cond.instanceMethod ({ cls := "MarketDays$Part", name := "kind", desc := "()I" } : Jvm.MethodName)) ∈ lw_all := lw_g (lw_at lw_m5 238 rfl) rfl
theorem q1281 : (Jvm.Cond.code ({ cls := "MarketDays$Part", name := "kind", desc := "()I" } : Jvm.MethodName) prog_9_method_2_code (1 : Nat) (Option.some Jvm.ClassFile.FieldType.int)) ∈ lw_all := lw_g (lw_at lw_m5 239 rfl) rfl
theorem q1944 : (Jvm.Cond.sameMethod "MarketDays$Part" "MarketDays$Part" "worth" "(II)I") ∈ lw_all := lw_g (lw_at lw_m8 182 rfl) rfl
theorem q1946 : (Jvm.Cond.sameMethod "MarketDays$Part" "MarketDays$Part" "kind" "()I") ∈ lw_all := lw_g (lw_at lw_m8 184 rfl) rfl
theorem q1947 : (Jvm.Cond.castable "MarketDays$Part" "MarketDays$Giving") ∈ lw_tbl := lw_at lw_m8 185 rfl
theorem q1967 : (Jvm.Cond.castable "MarketDays$Part" "java/lang/Object") ∈ lw_tbl := lw_at lw_m8 205 rfl
theorem in_X9 : ∀ w ∈ wsX90, w ∈ lw_all := lw_in wsX90 [938, 939, 940] (by decide +kernel) (by decide +kernel)

theorem q82 : (Jvm.Cond.initialized "MarketDaysLaw") ∈ lw_all := lw_g (lw_at lw_m1 0 rfl) rfl
set_option maxRecDepth 100000
theorem q120 : (Jvm.Cond.classLink "MarketDaysLaw" (7 : Nat) "MarketDays") ∈ lw_all := lw_g (lw_at lw_m1 38 rfl) rfl
theorem q122 : (Jvm.Cond.methodLink "MarketDaysLaw" (9 : Nat) ({ cls := "MarketDays", name := "<init>", desc := "()V" } : Jvm.MethodName)) ∈ lw_all := lw_g (lw_at lw_m1 40 rfl) rfl
theorem q796 : (Jvm.Cond.methodLink "MarketDaysLaw" (13 : Nat) ({ cls := "MarketDays", name := "town", desc := "(I)I" } : Jvm.MethodName)) ∈ lw_all := lw_g (lw_at lw_m3 234 rfl) rfl
theorem q807 : (Jvm.Cond.methodLink "MarketDaysLaw" (18 : Nat) ({ cls := "MarketDays", name := "road", desc := "(III)I" } : Jvm.MethodName)) ∈ lw_all := lw_g (lw_at lw_m4 5 rfl) rfl
theorem q816 : (Jvm.Cond.methodLink "MarketDaysLaw" (23 : Nat) ({ cls := "MarketDays", name := "hours", desc := "(II)I" } : Jvm.MethodName)) ∈ lw_all := lw_g (lw_at lw_m4 14 rfl) rfl
theorem q820 : (Jvm.Cond.methodLink "MarketDaysLaw" (28 : Nat) ({ cls := "MarketDays", name := "week", desc := "(I)I" } : Jvm.MethodName)) ∈ lw_all := lw_g (lw_at lw_m4 18 rfl) rfl
theorem q826 : (Jvm.Cond.methodLink "MarketDaysLaw" (32 : Nat) ({ cls := "MarketDays", name := "want", desc := "(III)I" } : Jvm.MethodName)) ∈ lw_all := lw_g (lw_at lw_m4 24 rfl) rfl
theorem q833 : (Jvm.Cond.methodLink "MarketDaysLaw" (36 : Nat) ({ cls := "MarketDays", name := "townTold", desc := "(II)I" } : Jvm.MethodName)) ∈ lw_all := lw_g (lw_at lw_m4 31 rfl) rfl
theorem q837 : (Jvm.Cond.methodLink "MarketDaysLaw" (40 : Nat) ({ cls := "MarketDays", name := "feast", desc := "(II)I" } : Jvm.MethodName)) ∈ lw_all := lw_g (lw_at lw_m4 35 rfl) rfl
theorem q845 : (Jvm.Cond.methodLink "MarketDaysLaw" (60 : Nat) ({ cls := "MarketDays", name := "says", desc := "(II)J" } : Jvm.MethodName)) ∈ lw_all := lw_g (lw_at lw_m4 43 rfl) rfl
theorem q880 : (Jvm.Cond.methodLink "MarketDaysLaw" (65 : Nat) ({ cls := "MarketDays", name := "worthOf", desc := "(IIII)J" } : Jvm.MethodName)) ∈ lw_all := lw_g (lw_at lw_m4 78 rfl) rfl
theorem q893 : (Jvm.Cond.methodLink "MarketDaysLaw" (70 : Nat) ({ cls := "MarketDays", name := "giving", desc := "(II)I" } : Jvm.MethodName)) ∈ lw_all := lw_g (lw_at lw_m4 91 rfl) rfl
theorem q1046 : (Jvm.Cond.methodLink "MarketDaysLaw" (74 : Nat) ({ cls := "MarketDays", name := "marketOf", desc := "(III)I" } : Jvm.MethodName)) ∈ lw_all := lw_g (lw_at lw_m5 4 rfl) rfl
theorem q1101 : (Jvm.Cond.methodLink "MarketDaysLaw" (78 : Nat) ({ cls := "MarketDays", name := "bar", desc := "(II)I" } : Jvm.MethodName)) ∈ lw_all := lw_g (lw_at lw_m5 59 rfl) rfl
theorem q1121 : (Jvm.Cond.methodLink "MarketDaysLaw" (82 : Nat) ({ cls := "MarketDays", name := "lawful", desc := "(II)I" } : Jvm.MethodName)) ∈ lw_all := lw_g (lw_at lw_m5 79 rfl) rfl
theorem q1125 : (Jvm.Cond.methodLink "MarketDaysLaw" (86 : Nat) ({ cls := "MarketDays", name := "judge", desc := "(III)J" } : Jvm.MethodName)) ∈ lw_all := lw_g (lw_at lw_m5 83 rfl) rfl
theorem q1163 : (Jvm.Cond.methodLink "MarketDaysLaw" (95 : Nat) ({ cls := "MarketDays", name := "can", desc := "()I" } : Jvm.MethodName)) ∈ lw_all := lw_g (lw_at lw_m5 121 rfl) rfl
theorem q1203 : (Jvm.Cond.methodLink "MarketDaysLaw" (99 : Nat) ({ cls := "MarketDays", name := "find", desc := "(II)J" } : Jvm.MethodName)) ∈ lw_all := lw_g (lw_at lw_m5 161 rfl) rfl
theorem q1212 : (Jvm.Cond.methodLink "MarketDaysLaw" (103 : Nat) ({ cls := "MarketDays", name := "foundDay", desc := "(I)I" } : Jvm.MethodName)) ∈ lw_all := lw_g (lw_at lw_m5 170 rfl) rfl
theorem q1216 : (Jvm.Cond.methodLink "MarketDaysLaw" (107 : Nat) ({ cls := "MarketDays", name := "least", desc := "()I" } : Jvm.MethodName)) ∈ lw_all := lw_g (lw_at lw_m5 174 rfl) rfl
theorem q1220 : (Jvm.Cond.methodLink "MarketDaysLaw" (111 : Nat) ({ cls := "MarketDays", name := "knot", desc := "()I" } : Jvm.MethodName)) ∈ lw_all := lw_g (lw_at lw_m5 178 rfl) rfl
theorem q1230 : (Jvm.Cond.methodLink "MarketDaysLaw" (115 : Nat) ({ cls := "MarketDays", name := "room", desc := "(III)I" } : Jvm.MethodName)) ∈ lw_all := lw_g (lw_at lw_m5 188 rfl) rfl
theorem q1234 : (Jvm.Cond.methodLink "MarketDaysLaw" (119 : Nat) ({ cls := "MarketDays", name := "hurt", desc := "(III)J" } : Jvm.MethodName)) ∈ lw_all := lw_g (lw_at lw_m5 192 rfl) rfl
theorem q1238 : (Jvm.Cond.methodLink "MarketDaysLaw" (123 : Nat) ({ cls := "MarketDays", name := "round", desc := "(IIIII)I" } : Jvm.MethodName)) ∈ lw_all := lw_g (lw_at lw_m5 196 rfl) rfl
theorem q1263 : (Jvm.Cond.methodLink "MarketDaysLaw" (128 : Nat) ({ cls := "MarketDays", name := "roundTold", desc := "(I)I" } : Jvm.MethodName)) ∈ lw_all := lw_g (lw_at lw_m5 221 rfl) rfl
theorem q1267 : (Jvm.Cond.methodLink "MarketDaysLaw" (132 : Nat) ({ cls := "MarketDays", name := "walk", desc := "(IIIII)I" } : Jvm.MethodName)) ∈ lw_all := lw_g (lw_at lw_m5 225 rfl) rfl
theorem q1271 : (Jvm.Cond.methodLink "MarketDaysLaw" (91 : Nat) ({ cls := "MarketDays", name := "givingTold", desc := "(II)I" } : Jvm.MethodName)) ∈ lw_all := lw_g (lw_at lw_m5 229 rfl) rfl
theorem q1297 : (Jvm.Cond.methodLink "MarketDaysLaw" (136 : Nat) ({ cls := "MarketDays", name := "count", desc := "(I)I" } : Jvm.MethodName)) ∈ lw_all := lw_g (lw_at lw_m6 15 rfl) rfl
theorem q1301 : (Jvm.Cond.methodLink "MarketDaysLaw" (140 : Nat) ({ cls := "MarketDays", name := "image", desc := "()I" } : Jvm.MethodName)) ∈ lw_all := lw_g (lw_at lw_m6 19 rfl) rfl
theorem q1305 : (Jvm.Cond.methodLink "MarketDaysLaw" (144 : Nat) ({ cls := "MarketDays", name := "back", desc := "()I" } : Jvm.MethodName)) ∈ lw_all := lw_g (lw_at lw_m6 23 rfl) rfl
theorem q1309 : (Jvm.Cond.methodLink "MarketDaysLaw" (46 : Nat) ({ cls := "MarketDays", name := "feed", desc := "(JI)I" } : Jvm.MethodName)) ∈ lw_all := lw_g (lw_at lw_m6 27 rfl) rfl
theorem q1314 : (Jvm.Cond.methodLink "MarketDaysLaw" (51 : Nat) ({ cls := "MarketDays", name := "text", desc := "()I" } : Jvm.MethodName)) ∈ lw_all := lw_g (lw_at lw_m6 32 rfl) rfl
theorem q1319 : (Jvm.Cond.methodLink "MarketDaysLaw" (56 : Nat) ({ cls := "MarketDays", name := "force", desc := "(I)I" } : Jvm.MethodName)) ∈ lw_all := lw_g (lw_at lw_m6 37 rfl) rfl
theorem q1323 : (Jvm.Cond.methodLink "MarketDaysLaw" (148 : Nat) ({ cls := "MarketDays", name := "sheet", desc := "(III)I" } : Jvm.MethodName)) ∈ lw_all := lw_g (lw_at lw_m6 41 rfl) rfl
theorem q1327 : (Jvm.Cond.methodLink "MarketDaysLaw" (152 : Nat) ({ cls := "MarketDays", name := "cell", desc := "(III)I" } : Jvm.MethodName)) ∈ lw_all := lw_g (lw_at lw_m6 45 rfl) rfl
theorem q1361 : (Jvm.Cond.methodLink "MarketDaysLaw" (156 : Nat) ({ cls := "MarketDays", name := "copy", desc := "(IIIII)I" } : Jvm.MethodName)) ∈ lw_all := lw_g (lw_at lw_m6 79 rfl) rfl
theorem q1365 : (Jvm.Cond.methodLink "MarketDaysLaw" (160 : Nat) ({ cls := "MarketDays", name := "roads", desc := "(IIII)I" } : Jvm.MethodName)) ∈ lw_all := lw_g (lw_at lw_m6 83 rfl) rfl
theorem q1371 : (Jvm.Cond.methodLink "MarketDaysLaw" (165 : Nat) ({ cls := "MarketDays", name := "taken", desc := "(II)I" } : Jvm.MethodName)) ∈ lw_all := lw_g (lw_at lw_m6 89 rfl) rfl
theorem q1425 : (Jvm.Cond.classLink "MarketDaysLaw" (10 : Nat) "MarketDaysModel") ∈ lw_all := lw_g (lw_at lw_m6 143 rfl) rfl
theorem q1427 : (Jvm.Cond.methodLink "MarketDaysLaw" (12 : Nat) ({ cls := "MarketDaysModel", name := "<init>", desc := "()V" } : Jvm.MethodName)) ∈ lw_all := lw_g (lw_at lw_m6 145 rfl) rfl
theorem q1621 : (Jvm.Cond.methodLink "MarketDaysLaw" (17 : Nat) ({ cls := "MarketDaysModel", name := "town", desc := "(I)I" } : Jvm.MethodName)) ∈ lw_all := lw_g (lw_at lw_m7 99 rfl) rfl
theorem q1628 : (Jvm.Cond.methodLink "MarketDaysLaw" (22 : Nat) ({ cls := "MarketDaysModel", name := "road", desc := "(III)I" } : Jvm.MethodName)) ∈ lw_all := lw_g (lw_at lw_m7 106 rfl) rfl
theorem q1636 : (Jvm.Cond.methodLink "MarketDaysLaw" (27 : Nat) ({ cls := "MarketDaysModel", name := "hours", desc := "(II)I" } : Jvm.MethodName)) ∈ lw_all := lw_g (lw_at lw_m7 114 rfl) rfl
theorem q1644 : (Jvm.Cond.methodLink "MarketDaysLaw" (31 : Nat) ({ cls := "MarketDaysModel", name := "week", desc := "(I)I" } : Jvm.MethodName)) ∈ lw_all := lw_g (lw_at lw_m7 122 rfl) rfl
theorem q1648 : (Jvm.Cond.methodLink "MarketDaysLaw" (35 : Nat) ({ cls := "MarketDaysModel", name := "want", desc := "(III)I" } : Jvm.MethodName)) ∈ lw_all := lw_g (lw_at lw_m7 126 rfl) rfl
theorem q1652 : (Jvm.Cond.methodLink "MarketDaysLaw" (39 : Nat) ({ cls := "MarketDaysModel", name := "townTold", desc := "(II)I" } : Jvm.MethodName)) ∈ lw_all := lw_g (lw_at lw_m7 130 rfl) rfl
theorem q1656 : (Jvm.Cond.methodLink "MarketDaysLaw" (43 : Nat) ({ cls := "MarketDaysModel", name := "feast", desc := "(II)I" } : Jvm.MethodName)) ∈ lw_all := lw_g (lw_at lw_m7 134 rfl) rfl
theorem q1663 : (Jvm.Cond.methodLink "MarketDaysLaw" (50 : Nat) ({ cls := "MarketDaysModel", name := "feed", desc := "(JI)I" } : Jvm.MethodName)) ∈ lw_all := lw_g (lw_at lw_m7 141 rfl) rfl
theorem q1668 : (Jvm.Cond.methodLink "MarketDaysLaw" (55 : Nat) ({ cls := "MarketDaysModel", name := "text", desc := "()I" } : Jvm.MethodName)) ∈ lw_all := lw_g (lw_at lw_m7 146 rfl) rfl
theorem q1712 : (Jvm.Cond.methodLink "MarketDaysLaw" (59 : Nat) ({ cls := "MarketDaysModel", name := "force", desc := "(I)I" } : Jvm.MethodName)) ∈ lw_all := lw_g (lw_at lw_m7 190 rfl) rfl
theorem q1716 : (Jvm.Cond.methodLink "MarketDaysLaw" (64 : Nat) ({ cls := "MarketDaysModel", name := "says", desc := "(II)J" } : Jvm.MethodName)) ∈ lw_all := lw_g (lw_at lw_m7 194 rfl) rfl
theorem q1736 : (Jvm.Cond.methodLink "MarketDaysLaw" (69 : Nat) ({ cls := "MarketDaysModel", name := "worthOf", desc := "(IIII)J" } : Jvm.MethodName)) ∈ lw_all := lw_g (lw_at lw_m7 214 rfl) rfl
theorem q1744 : (Jvm.Cond.methodLink "MarketDaysLaw" (73 : Nat) ({ cls := "MarketDaysModel", name := "giving", desc := "(II)I" } : Jvm.MethodName)) ∈ lw_all := lw_g (lw_at lw_m7 222 rfl) rfl
theorem q1752 : (Jvm.Cond.methodLink "MarketDaysLaw" (77 : Nat) ({ cls := "MarketDaysModel", name := "marketOf", desc := "(III)I" } : Jvm.MethodName)) ∈ lw_all := lw_g (lw_at lw_m7 230 rfl) rfl
theorem q1768 : (Jvm.Cond.methodLink "MarketDaysLaw" (81 : Nat) ({ cls := "MarketDaysModel", name := "bar", desc := "(II)I" } : Jvm.MethodName)) ∈ lw_all := lw_g (lw_at lw_m8 6 rfl) rfl
theorem q1792 : (Jvm.Cond.methodLink "MarketDaysLaw" (85 : Nat) ({ cls := "MarketDaysModel", name := "lawful", desc := "(II)I" } : Jvm.MethodName)) ∈ lw_all := lw_g (lw_at lw_m8 30 rfl) rfl
theorem q1796 : (Jvm.Cond.methodLink "MarketDaysLaw" (90 : Nat) ({ cls := "MarketDaysModel", name := "judge", desc := "(III)J" } : Jvm.MethodName)) ∈ lw_all := lw_g (lw_at lw_m8 34 rfl) rfl
theorem q1812 : (Jvm.Cond.methodLink "MarketDaysLaw" (94 : Nat) ({ cls := "MarketDaysModel", name := "givingTold", desc := "(II)I" } : Jvm.MethodName)) ∈ lw_all := lw_g (lw_at lw_m8 50 rfl) rfl
theorem q1816 : (Jvm.Cond.methodLink "MarketDaysLaw" (98 : Nat) ({ cls := "MarketDaysModel", name := "can", desc := "()I" } : Jvm.MethodName)) ∈ lw_all := lw_g (lw_at lw_m8 54 rfl) rfl
theorem q1832 : (Jvm.Cond.methodLink "MarketDaysLaw" (102 : Nat) ({ cls := "MarketDaysModel", name := "find", desc := "(II)J" } : Jvm.MethodName)) ∈ lw_all := lw_g (lw_at lw_m8 70 rfl) rfl
theorem q1856 : (Jvm.Cond.methodLink "MarketDaysLaw" (106 : Nat) ({ cls := "MarketDaysModel", name := "foundDay", desc := "(I)I" } : Jvm.MethodName)) ∈ lw_all := lw_g (lw_at lw_m8 94 rfl) rfl
theorem q1860 : (Jvm.Cond.methodLink "MarketDaysLaw" (110 : Nat) ({ cls := "MarketDaysModel", name := "least", desc := "()I" } : Jvm.MethodName)) ∈ lw_all := lw_g (lw_at lw_m8 98 rfl) rfl
theorem q1864 : (Jvm.Cond.methodLink "MarketDaysLaw" (114 : Nat) ({ cls := "MarketDaysModel", name := "knot", desc := "()I" } : Jvm.MethodName)) ∈ lw_all := lw_g (lw_at lw_m8 102 rfl) rfl
theorem q1871 : (Jvm.Cond.methodLink "MarketDaysLaw" (118 : Nat) ({ cls := "MarketDaysModel", name := "room", desc := "(III)I" } : Jvm.MethodName)) ∈ lw_all := lw_g (lw_at lw_m8 109 rfl) rfl
theorem q1875 : (Jvm.Cond.methodLink "MarketDaysLaw" (122 : Nat) ({ cls := "MarketDaysModel", name := "hurt", desc := "(III)J" } : Jvm.MethodName)) ∈ lw_all := lw_g (lw_at lw_m8 113 rfl) rfl
theorem q1879 : (Jvm.Cond.methodLink "MarketDaysLaw" (127 : Nat) ({ cls := "MarketDaysModel", name := "round", desc := "(IIIII)I" } : Jvm.MethodName)) ∈ lw_all := lw_g (lw_at lw_m8 117 rfl) rfl
theorem q1891 : (Jvm.Cond.methodLink "MarketDaysLaw" (131 : Nat) ({ cls := "MarketDaysModel", name := "roundTold", desc := "(I)I" } : Jvm.MethodName)) ∈ lw_all := lw_g (lw_at lw_m8 129 rfl) rfl
theorem q1895 : (Jvm.Cond.methodLink "MarketDaysLaw" (135 : Nat) ({ cls := "MarketDaysModel", name := "walk", desc := "(IIIII)I" } : Jvm.MethodName)) ∈ lw_all := lw_g (lw_at lw_m8 133 rfl) rfl
theorem q1899 : (Jvm.Cond.methodLink "MarketDaysLaw" (139 : Nat) ({ cls := "MarketDaysModel", name := "count", desc := "(I)I" } : Jvm.MethodName)) ∈ lw_all := lw_g (lw_at lw_m8 137 rfl) rfl
theorem q1903 : (Jvm.Cond.methodLink "MarketDaysLaw" (143 : Nat) ({ cls := "MarketDaysModel", name := "image", desc := "()I" } : Jvm.MethodName)) ∈ lw_all := lw_g (lw_at lw_m8 141 rfl) rfl
theorem q1907 : (Jvm.Cond.methodLink "MarketDaysLaw" (147 : Nat) ({ cls := "MarketDaysModel", name := "back", desc := "()I" } : Jvm.MethodName)) ∈ lw_all := lw_g (lw_at lw_m8 145 rfl) rfl
theorem q1911 : (Jvm.Cond.methodLink "MarketDaysLaw" (151 : Nat) ({ cls := "MarketDaysModel", name := "sheet", desc := "(III)I" } : Jvm.MethodName)) ∈ lw_all := lw_g (lw_at lw_m8 149 rfl) rfl
theorem q1915 : (Jvm.Cond.methodLink "MarketDaysLaw" (155 : Nat) ({ cls := "MarketDaysModel", name := "cell", desc := "(III)I" } : Jvm.MethodName)) ∈ lw_all := lw_g (lw_at lw_m8 153 rfl) rfl
theorem q1919 : (Jvm.Cond.methodLink "MarketDaysLaw" (159 : Nat) ({ cls := "MarketDaysModel", name := "copy", desc := "(IIIII)I" } : Jvm.MethodName)) ∈ lw_all := lw_g (lw_at lw_m8 157 rfl) rfl
theorem q1923 : (Jvm.Cond.methodLink "MarketDaysLaw" (164 : Nat) ({ cls := "MarketDaysModel", name := "roads", desc := "(IIII)I" } : Jvm.MethodName)) ∈ lw_all := lw_g (lw_at lw_m8 161 rfl) rfl
theorem q1928 : (Jvm.Cond.methodLink "MarketDaysLaw" (168 : Nat) ({ cls := "MarketDaysModel", name := "taken", desc := "(II)I" } : Jvm.MethodName)) ∈ lw_all := lw_g (lw_at lw_m8 166 rfl) rfl
theorem q1935 : (Jvm.Cond.constantLong "MarketDaysLaw" (44 : Nat) (4294967295 : Int64)) ∈ lw_all := lw_g (lw_at lw_m8 173 rfl) rfl

theorem q855 : (Jvm.Cond.interfaceMethod "MarketDays$Node" "MarketDays$Node" "worth" "([I)I") ∈ lw_tbl := lw_at lw_m4 53 rfl
set_option maxRecDepth 100000
theorem q856 : (Jvm.Cond.declares ({ cls := "MarketDays$Node", name := "worth", desc := "([I)I" } : Jvm.MethodName)) ∈ lw_tbl := lw_at lw_m4 54 rfl
theorem q1955 : (Jvm.Cond.castable "MarketDays$Node" "java/lang/Object") ∈ lw_tbl := lw_at lw_m8 193 rfl

theorem q349 : (Jvm.Cond.sameMethod "[B" "java/lang/Object" "clone" "()Ljava/lang/Object;") ∈ lw_all := lw_g (lw_at lw_m2 27 rfl) rfl
set_option maxRecDepth 100000
theorem q352 : (Jvm.Cond.selects "[B" ({ cls := "[B", name := "clone", desc := "()Ljava/lang/Object;" } : Jvm.MethodName) ({ cls := "java/lang/Object", name := "clone", desc := "()Ljava/lang/Object;" } : Jvm.MethodName)) ∈ lw_all := lw_g (lw_at lw_m2 30 rfl) rfl
theorem q353 : (Jvm.Cond.castable "[B" "java/lang/Cloneable") ∈ lw_tbl := lw_at lw_m2 31 rfl
theorem q1982 : (Jvm.Cond.castable "[B" "java/lang/Object") ∈ lw_tbl := lw_at lw_m8 220 rfl

theorem q1979 : (Jvm.Cond.castable "[I" "java/lang/Object") ∈ lw_tbl := lw_at lw_m8 217 rfl
set_option maxRecDepth 100000

theorem q1985 : (Jvm.Cond.castable "[J" "java/lang/Object") ∈ lw_tbl := lw_at lw_m8 223 rfl
set_option maxRecDepth 100000

theorem q1983 : (Jvm.Cond.castable "[LMarketDays$Node;" "java/lang/Object") ∈ lw_tbl := lw_at lw_m8 221 rfl
set_option maxRecDepth 100000

theorem q1981 : (Jvm.Cond.castable "[LMarketDays$Sheet;" "java/lang/Object") ∈ lw_tbl := lw_at lw_m8 219 rfl
set_option maxRecDepth 100000

theorem q1976 : (Jvm.Cond.sameMethod "[Ljava/lang/Object;" "java/lang/Object" "getClass" "()Ljava/lang/Class;") ∈ lw_all := lw_g (lw_at lw_m8 214 rfl) rfl
set_option maxRecDepth 100000
theorem q1977 : (Jvm.Cond.selects "[Ljava/lang/Object;" ({ cls := "java/lang/Object", name := "getClass", desc := "()Ljava/lang/Class;" } : Jvm.MethodName) ({ cls := "java/lang/Object", name := "getClass", desc := "()Ljava/lang/Class;" } : Jvm.MethodName)) ∈ lw_all := lw_g (lw_at lw_m8 215 rfl) rfl
theorem q1984 : (Jvm.Cond.castable "[Ljava/lang/Object;" "java/lang/Object") ∈ lw_tbl := lw_at lw_m8 222 rfl

theorem q1987 : (Jvm.Cond.castable "[Ljava/lang/String;" "java/lang/Object") ∈ lw_tbl := lw_at lw_m8 225 rfl
set_option maxRecDepth 100000

theorem q1986 : (Jvm.Cond.castable "[Z" "java/lang/Object") ∈ lw_tbl := lw_at lw_m8 224 rfl
set_option maxRecDepth 100000

theorem q1980 : (Jvm.Cond.castable "[[LMarketDays$Node;" "java/lang/Object") ∈ lw_tbl := lw_at lw_m8 218 rfl
set_option maxRecDepth 100000

theorem q119 : (Jvm.Cond.initialized "java/lang/Integer$IntegerCache") ∈ lw_all := lw_g (lw_at lw_m1 37 rfl) rfl
set_option maxRecDepth 100000
theorem q1382 : (Jvm.Cond.laysStatic "java/lang/Integer$IntegerCache" "high" "I") ∈ lw_tbl := lw_at lw_m6 100 rfl
theorem q1384 : (Jvm.Cond.laysStatic "java/lang/Integer$IntegerCache" "cache" "[Ljava/lang/Integer;") ∈ lw_tbl := lw_at lw_m6 102 rfl

theorem q98 : (Jvm.Cond.initialized "java/lang/System") ∈ lw_all := lw_g (lw_at lw_m1 16 rfl) rfl
set_option maxRecDepth 100000
theorem q359 : (Jvm.Cond.static ({ cls := "java/lang/System", name := "arraycopy", desc := "(Ljava/lang/Object;ILjava/lang/Object;II)V" } : Jvm.MethodName)) ∈ lw_all := lw_g (lw_at lw_m2 37 rfl) rfl
theorem q360 : (Jvm.Cond.native ({ cls := "java/lang/System", name := "arraycopy", desc := "(Ljava/lang/Object;ILjava/lang/Object;II)V" } : Jvm.MethodName)) ∈ lw_all := lw_g (lw_at lw_m2 38 rfl) rfl

theorem q154 : (Jvm.Cond.arrayClass Jvm.ClassFile.FieldType.int) ∈ lw_all := lw_g (lw_at lw_m1 72 rfl) rfl
set_option maxRecDepth 100000
theorem q156 : (Jvm.Cond.arrayOver (Jvm.ClassFile.FieldType.array (Jvm.ClassFile.FieldType.object "MarketDays$Node"))) ∈ lw_tbl := lw_at lw_m1 74 rfl
theorem q158 : (Jvm.Cond.arrayOver (Jvm.ClassFile.FieldType.object "MarketDays$Sheet")) ∈ lw_tbl := lw_at lw_m1 76 rfl
theorem q177 : (Jvm.Cond.arrayClass Jvm.ClassFile.FieldType.byte) ∈ lw_all := lw_g (lw_at lw_m1 95 rfl) rfl
theorem q268 : (Jvm.Cond.arrayOver (Jvm.ClassFile.FieldType.object "MarketDays$Node")) ∈ lw_tbl := lw_at lw_m1 186 rfl
theorem q1042 : (Jvm.Cond.arrayOver (Jvm.ClassFile.FieldType.object "java/lang/Object")) ∈ lw_tbl := lw_at lw_m5 0 rfl
theorem q1619 : (Jvm.Cond.arrayClass Jvm.ClassFile.FieldType.long) ∈ lw_all := lw_g (lw_at lw_m7 97 rfl) rfl
theorem q1620 : (Jvm.Cond.arrayClass Jvm.ClassFile.FieldType.boolean) ∈ lw_all := lw_g (lw_at lw_m7 98 rfl) rfl
theorem q1990 : (Jvm.Cond.arrayOver (Jvm.ClassFile.FieldType.object "java/lang/String")) ∈ lw_tbl := lw_at lw_m8 228 rfl
