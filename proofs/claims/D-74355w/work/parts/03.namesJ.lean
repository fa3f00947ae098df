/-! java/lang/Math -/
set_option maxRecDepth 100000
def RJ6 : String := "java/lang/Math"
abbrev cJ6_max : ByteArray := prog_25_method_65_code
def yJ6_max : MethodName := ⟨RJ6, "max", "(II)I"⟩
def dkwJ6_max_0 : List UInt8 := [26, 27, 161, 0, 7, 26, 167, 0, 4, 27, 172]
abbrev dktJ6_max_0 : List UInt8 := dkwJ6_max_0 ++ []
theorem dksJ6_max_0 : cJ6_max.data.toList.drop 0 = dktJ6_max_0 := by decide +kernel
theorem dJ6_max_0 : decode cJ6_max 0 = .ok (.iload_n 0, 1) := dk_26 (dk_at dksJ6_max_0 0 rfl rfl)
theorem dJ6_max_1 : decode cJ6_max 1 = .ok (.iload_n 1, 1) := dk_27 (dk_at dksJ6_max_0 1 rfl rfl)
theorem dJ6_max_2 : decode cJ6_max 2 = .ok (.if_icmp .lt 7, 3) := dk_161 0 7 (dk_at dksJ6_max_0 2 rfl rfl)
theorem dJ6_max_5 : decode cJ6_max 5 = .ok (.iload_n 0, 1) := dk_26 (dk_at dksJ6_max_0 5 rfl rfl)
theorem dJ6_max_6 : decode cJ6_max 6 = .ok (.goto 4, 3) := dk_167 0 4 (dk_at dksJ6_max_0 6 rfl rfl)
theorem dJ6_max_9 : decode cJ6_max 9 = .ok (.iload_n 1, 1) := dk_27 (dk_at dksJ6_max_0 9 rfl rfl)
theorem dJ6_max_10 : decode cJ6_max 10 = .ok (.ireturn, 1) := dk_172 (dk_at dksJ6_max_0 10 rfl rfl)
abbrev cJ6_min : ByteArray := prog_25_method_69_code
def yJ6_min : MethodName := ⟨RJ6, "min", "(II)I"⟩
def dkwJ6_min_0 : List UInt8 := [26, 27, 163, 0, 7, 26, 167, 0, 4, 27, 172]
abbrev dktJ6_min_0 : List UInt8 := dkwJ6_min_0 ++ []
theorem dksJ6_min_0 : cJ6_min.data.toList.drop 0 = dktJ6_min_0 := by decide +kernel
theorem dJ6_min_0 : decode cJ6_min 0 = .ok (.iload_n 0, 1) := dk_26 (dk_at dksJ6_min_0 0 rfl rfl)
theorem dJ6_min_1 : decode cJ6_min 1 = .ok (.iload_n 1, 1) := dk_27 (dk_at dksJ6_min_0 1 rfl rfl)
theorem dJ6_min_2 : decode cJ6_min 2 = .ok (.if_icmp .gt 7, 3) := dk_163 0 7 (dk_at dksJ6_min_0 2 rfl rfl)
theorem dJ6_min_5 : decode cJ6_min 5 = .ok (.iload_n 0, 1) := dk_26 (dk_at dksJ6_min_0 5 rfl rfl)
theorem dJ6_min_6 : decode cJ6_min 6 = .ok (.goto 4, 3) := dk_167 0 4 (dk_at dksJ6_min_0 6 rfl rfl)
theorem dJ6_min_9 : decode cJ6_min 9 = .ok (.iload_n 1, 1) := dk_27 (dk_at dksJ6_min_0 9 rfl rfl)
theorem dJ6_min_10 : decode cJ6_min 10 = .ok (.ireturn, 1) := dk_172 (dk_at dksJ6_min_0 10 rfl rfl)
theorem q184 : (Jvm.Cond.initialized "java/lang/Math") ∈ lw_all := lw_g (lw_at lw_m1 11 rfl) rfl
theorem q357 : (Jvm.Cond.static ({ cls := "java/lang/Math", name := "max", desc := "(II)I" } : Jvm.MethodName)) ∈ lw_all := lw_g (lw_at lw_m1 184 rfl) rfl
theorem q358 : (Jvm.Cond.code ({ cls := "java/lang/Math", name := "max", desc := "(II)I" } : Jvm.MethodName) prog_25_method_65_code (2 : Nat) (Option.some Jvm.ClassFile.FieldType.int)) ∈ lw_all := lw_g (lw_at lw_m1 185 rfl) rfl
theorem q714 : (Jvm.Cond.static ({ cls := "java/lang/Math", name := "min", desc := "(II)I" } : Jvm.MethodName)) ∈ lw_all := lw_g (lw_at lw_m3 61 rfl) rfl
theorem q715 : (Jvm.Cond.code ({ cls := "java/lang/Math", name := "min", desc := "(II)I" } : Jvm.MethodName) prog_25_method_69_code (2 : Nat) (Option.some Jvm.ClassFile.FieldType.int)) ∈ lw_all := lw_g (lw_at lw_m3 62 rfl) rfl

/-! java/lang/Integer -/
set_option maxRecDepth 100000
def RJ5 : String := "java/lang/Integer"
abbrev cJ5_bitCount : ByteArray := prog_23_method_49_code
def yJ5_bitCount : MethodName := ⟨RJ5, "bitCount", "(I)I"⟩
def dkwJ5_bitCount_2 : List UInt8 := [26, 16, 63, 126, 172]
abbrev dktJ5_bitCount_2 : List UInt8 := dkwJ5_bitCount_2 ++ []
def dkwJ5_bitCount_1 : List UInt8 := [26, 26, 7, 124, 96, 19, 1, 11, 126, 59, 26, 26, 16, 8, 124, 96, 59, 26, 26, 16, 16, 124, 96, 59]
abbrev dktJ5_bitCount_1 : List UInt8 := dkwJ5_bitCount_1 ++ dktJ5_bitCount_2
def dkwJ5_bitCount_0 : List UInt8 := [26, 26, 4, 124, 19, 1, 9, 126, 100, 59, 26, 19, 1, 10, 126, 26, 5, 124, 19, 1, 10, 126, 96, 59]
abbrev dktJ5_bitCount_0 : List UInt8 := dkwJ5_bitCount_0 ++ dktJ5_bitCount_1
theorem dksJ5_bitCount_0 : cJ5_bitCount.data.toList.drop 0 = dktJ5_bitCount_0 := by decide +kernel
theorem dksJ5_bitCount_1 : cJ5_bitCount.data.toList.drop 24 = dktJ5_bitCount_1 := dk_seg dksJ5_bitCount_0 24 rfl rfl
theorem dksJ5_bitCount_2 : cJ5_bitCount.data.toList.drop 48 = dktJ5_bitCount_2 := dk_seg dksJ5_bitCount_1 24 rfl rfl
theorem dJ5_bitCount_0 : decode cJ5_bitCount 0 = .ok (.iload_n 0, 1) := dk_26 (dk_at dksJ5_bitCount_0 0 rfl rfl)
theorem dJ5_bitCount_1 : decode cJ5_bitCount 1 = .ok (.iload_n 0, 1) := dk_26 (dk_at dksJ5_bitCount_0 1 rfl rfl)
theorem dJ5_bitCount_2 : decode cJ5_bitCount 2 = .ok (.iconst 1, 1) := dk_4 (dk_at dksJ5_bitCount_0 2 rfl rfl)
theorem dJ5_bitCount_3 : decode cJ5_bitCount 3 = .ok (.iushr, 1) := dk_124 (dk_at dksJ5_bitCount_0 3 rfl rfl)
theorem dJ5_bitCount_4 : decode cJ5_bitCount 4 = .ok (.ldc_w 265, 3) := dk_19 1 9 (dk_at dksJ5_bitCount_0 4 rfl rfl)
theorem dJ5_bitCount_7 : decode cJ5_bitCount 7 = .ok (.iand, 1) := dk_126 (dk_at dksJ5_bitCount_0 7 rfl rfl)
theorem dJ5_bitCount_8 : decode cJ5_bitCount 8 = .ok (.isub, 1) := dk_100 (dk_at dksJ5_bitCount_0 8 rfl rfl)
theorem dJ5_bitCount_9 : decode cJ5_bitCount 9 = .ok (.istore_n 0, 1) := dk_59 (dk_at dksJ5_bitCount_0 9 rfl rfl)
theorem dJ5_bitCount_10 : decode cJ5_bitCount 10 = .ok (.iload_n 0, 1) := dk_26 (dk_at dksJ5_bitCount_0 10 rfl rfl)
theorem dJ5_bitCount_11 : decode cJ5_bitCount 11 = .ok (.ldc_w 266, 3) := dk_19 1 10 (dk_at dksJ5_bitCount_0 11 rfl rfl)
theorem dJ5_bitCount_14 : decode cJ5_bitCount 14 = .ok (.iand, 1) := dk_126 (dk_at dksJ5_bitCount_0 14 rfl rfl)
theorem dJ5_bitCount_15 : decode cJ5_bitCount 15 = .ok (.iload_n 0, 1) := dk_26 (dk_at dksJ5_bitCount_0 15 rfl rfl)
theorem dJ5_bitCount_16 : decode cJ5_bitCount 16 = .ok (.iconst 2, 1) := dk_5 (dk_at dksJ5_bitCount_0 16 rfl rfl)
theorem dJ5_bitCount_17 : decode cJ5_bitCount 17 = .ok (.iushr, 1) := dk_124 (dk_at dksJ5_bitCount_0 17 rfl rfl)
theorem dJ5_bitCount_18 : decode cJ5_bitCount 18 = .ok (.ldc_w 266, 3) := dk_19 1 10 (dk_at dksJ5_bitCount_0 18 rfl rfl)
theorem dJ5_bitCount_21 : decode cJ5_bitCount 21 = .ok (.iand, 1) := dk_126 (dk_at dksJ5_bitCount_0 21 rfl rfl)
theorem dJ5_bitCount_22 : decode cJ5_bitCount 22 = .ok (.iadd, 1) := dk_96 (dk_at dksJ5_bitCount_0 22 rfl rfl)
theorem dJ5_bitCount_23 : decode cJ5_bitCount 23 = .ok (.istore_n 0, 1) := dk_59 (dk_at dksJ5_bitCount_0 23 rfl rfl)
theorem dJ5_bitCount_24 : decode cJ5_bitCount 24 = .ok (.iload_n 0, 1) := dk_26 (dk_at dksJ5_bitCount_1 0 rfl rfl)
theorem dJ5_bitCount_25 : decode cJ5_bitCount 25 = .ok (.iload_n 0, 1) := dk_26 (dk_at dksJ5_bitCount_1 1 rfl rfl)
theorem dJ5_bitCount_26 : decode cJ5_bitCount 26 = .ok (.iconst 4, 1) := dk_7 (dk_at dksJ5_bitCount_1 2 rfl rfl)
theorem dJ5_bitCount_27 : decode cJ5_bitCount 27 = .ok (.iushr, 1) := dk_124 (dk_at dksJ5_bitCount_1 3 rfl rfl)
theorem dJ5_bitCount_28 : decode cJ5_bitCount 28 = .ok (.iadd, 1) := dk_96 (dk_at dksJ5_bitCount_1 4 rfl rfl)
theorem dJ5_bitCount_29 : decode cJ5_bitCount 29 = .ok (.ldc_w 267, 3) := dk_19 1 11 (dk_at dksJ5_bitCount_1 5 rfl rfl)
theorem dJ5_bitCount_32 : decode cJ5_bitCount 32 = .ok (.iand, 1) := dk_126 (dk_at dksJ5_bitCount_1 8 rfl rfl)
theorem dJ5_bitCount_33 : decode cJ5_bitCount 33 = .ok (.istore_n 0, 1) := dk_59 (dk_at dksJ5_bitCount_1 9 rfl rfl)
theorem dJ5_bitCount_34 : decode cJ5_bitCount 34 = .ok (.iload_n 0, 1) := dk_26 (dk_at dksJ5_bitCount_1 10 rfl rfl)
theorem dJ5_bitCount_35 : decode cJ5_bitCount 35 = .ok (.iload_n 0, 1) := dk_26 (dk_at dksJ5_bitCount_1 11 rfl rfl)
theorem dJ5_bitCount_36 : decode cJ5_bitCount 36 = .ok (.bipush 8, 2) := dk_16 8 (dk_at dksJ5_bitCount_1 12 rfl rfl)
theorem dJ5_bitCount_38 : decode cJ5_bitCount 38 = .ok (.iushr, 1) := dk_124 (dk_at dksJ5_bitCount_1 14 rfl rfl)
theorem dJ5_bitCount_39 : decode cJ5_bitCount 39 = .ok (.iadd, 1) := dk_96 (dk_at dksJ5_bitCount_1 15 rfl rfl)
theorem dJ5_bitCount_40 : decode cJ5_bitCount 40 = .ok (.istore_n 0, 1) := dk_59 (dk_at dksJ5_bitCount_1 16 rfl rfl)
theorem dJ5_bitCount_41 : decode cJ5_bitCount 41 = .ok (.iload_n 0, 1) := dk_26 (dk_at dksJ5_bitCount_1 17 rfl rfl)
theorem dJ5_bitCount_42 : decode cJ5_bitCount 42 = .ok (.iload_n 0, 1) := dk_26 (dk_at dksJ5_bitCount_1 18 rfl rfl)
theorem dJ5_bitCount_43 : decode cJ5_bitCount 43 = .ok (.bipush 16, 2) := dk_16 16 (dk_at dksJ5_bitCount_1 19 rfl rfl)
theorem dJ5_bitCount_45 : decode cJ5_bitCount 45 = .ok (.iushr, 1) := dk_124 (dk_at dksJ5_bitCount_1 21 rfl rfl)
theorem dJ5_bitCount_46 : decode cJ5_bitCount 46 = .ok (.iadd, 1) := dk_96 (dk_at dksJ5_bitCount_1 22 rfl rfl)
theorem dJ5_bitCount_47 : decode cJ5_bitCount 47 = .ok (.istore_n 0, 1) := dk_59 (dk_at dksJ5_bitCount_1 23 rfl rfl)
theorem dJ5_bitCount_48 : decode cJ5_bitCount 48 = .ok (.iload_n 0, 1) := dk_26 (dk_at dksJ5_bitCount_2 0 rfl rfl)
theorem dJ5_bitCount_49 : decode cJ5_bitCount 49 = .ok (.bipush 63, 2) := dk_16 63 (dk_at dksJ5_bitCount_2 1 rfl rfl)
theorem dJ5_bitCount_51 : decode cJ5_bitCount 51 = .ok (.iand, 1) := dk_126 (dk_at dksJ5_bitCount_2 3 rfl rfl)
theorem dJ5_bitCount_52 : decode cJ5_bitCount 52 = .ok (.ireturn, 1) := dk_172 (dk_at dksJ5_bitCount_2 4 rfl rfl)
abbrev cJ5_numberOfTrailingZeros : ByteArray := prog_23_method_48_code
def yJ5_numberOfTrailingZeros : MethodName := ⟨RJ5, "numberOfTrailingZeros", "(I)I"⟩
def dkwJ5_numberOfTrailingZeros_3 : List UInt8 := [5, 124, 59, 27, 26, 4, 124, 96, 172]
abbrev dktJ5_numberOfTrailingZeros_3 : List UInt8 := dkwJ5_numberOfTrailingZeros_3 ++ []
def dkwJ5_numberOfTrailingZeros_2 : List UInt8 := [124, 59, 26, 16, 16, 164, 0, 10, 132, 1, 4, 26, 7, 124, 59, 26, 7, 164, 0, 10, 132, 1, 2, 26]
abbrev dktJ5_numberOfTrailingZeros_2 : List UInt8 := dkwJ5_numberOfTrailingZeros_2 ++ dktJ5_numberOfTrailingZeros_3
def dkwJ5_numberOfTrailingZeros_1 : List UInt8 := [164, 0, 11, 132, 1, 16, 26, 16, 16, 124, 59, 26, 17, 1, 0, 164, 0, 11, 132, 1, 8, 26, 16, 8]
abbrev dktJ5_numberOfTrailingZeros_1 : List UInt8 := dkwJ5_numberOfTrailingZeros_1 ++ dktJ5_numberOfTrailingZeros_2
def dkwJ5_numberOfTrailingZeros_0 : List UInt8 := [26, 2, 130, 26, 4, 100, 126, 59, 26, 157, 0, 8, 26, 16, 32, 126, 172, 4, 60, 26, 19, 1, 8]
abbrev dktJ5_numberOfTrailingZeros_0 : List UInt8 := dkwJ5_numberOfTrailingZeros_0 ++ dktJ5_numberOfTrailingZeros_1
theorem dksJ5_numberOfTrailingZeros_0 : cJ5_numberOfTrailingZeros.data.toList.drop 0 = dktJ5_numberOfTrailingZeros_0 := by decide +kernel
theorem dksJ5_numberOfTrailingZeros_1 : cJ5_numberOfTrailingZeros.data.toList.drop 23 = dktJ5_numberOfTrailingZeros_1 := dk_seg dksJ5_numberOfTrailingZeros_0 23 rfl rfl
theorem dksJ5_numberOfTrailingZeros_2 : cJ5_numberOfTrailingZeros.data.toList.drop 47 = dktJ5_numberOfTrailingZeros_2 := dk_seg dksJ5_numberOfTrailingZeros_1 24 rfl rfl
theorem dksJ5_numberOfTrailingZeros_3 : cJ5_numberOfTrailingZeros.data.toList.drop 71 = dktJ5_numberOfTrailingZeros_3 := dk_seg dksJ5_numberOfTrailingZeros_2 24 rfl rfl
theorem dJ5_numberOfTrailingZeros_0 : decode cJ5_numberOfTrailingZeros 0 = .ok (.iload_n 0, 1) := dk_26 (dk_at dksJ5_numberOfTrailingZeros_0 0 rfl rfl)
theorem dJ5_numberOfTrailingZeros_1 : decode cJ5_numberOfTrailingZeros 1 = .ok (.iconst (-1), 1) := dk_2 (dk_at dksJ5_numberOfTrailingZeros_0 1 rfl rfl)
theorem dJ5_numberOfTrailingZeros_2 : decode cJ5_numberOfTrailingZeros 2 = .ok (.ixor, 1) := dk_130 (dk_at dksJ5_numberOfTrailingZeros_0 2 rfl rfl)
theorem dJ5_numberOfTrailingZeros_3 : decode cJ5_numberOfTrailingZeros 3 = .ok (.iload_n 0, 1) := dk_26 (dk_at dksJ5_numberOfTrailingZeros_0 3 rfl rfl)
theorem dJ5_numberOfTrailingZeros_4 : decode cJ5_numberOfTrailingZeros 4 = .ok (.iconst 1, 1) := dk_4 (dk_at dksJ5_numberOfTrailingZeros_0 4 rfl rfl)
theorem dJ5_numberOfTrailingZeros_5 : decode cJ5_numberOfTrailingZeros 5 = .ok (.isub, 1) := dk_100 (dk_at dksJ5_numberOfTrailingZeros_0 5 rfl rfl)
theorem dJ5_numberOfTrailingZeros_6 : decode cJ5_numberOfTrailingZeros 6 = .ok (.iand, 1) := dk_126 (dk_at dksJ5_numberOfTrailingZeros_0 6 rfl rfl)
theorem dJ5_numberOfTrailingZeros_7 : decode cJ5_numberOfTrailingZeros 7 = .ok (.istore_n 0, 1) := dk_59 (dk_at dksJ5_numberOfTrailingZeros_0 7 rfl rfl)
theorem dJ5_numberOfTrailingZeros_8 : decode cJ5_numberOfTrailingZeros 8 = .ok (.iload_n 0, 1) := dk_26 (dk_at dksJ5_numberOfTrailingZeros_0 8 rfl rfl)
theorem dJ5_numberOfTrailingZeros_9 : decode cJ5_numberOfTrailingZeros 9 = .ok (.ifCond .gt 8, 3) := dk_157 0 8 (dk_at dksJ5_numberOfTrailingZeros_0 9 rfl rfl)
theorem dJ5_numberOfTrailingZeros_12 : decode cJ5_numberOfTrailingZeros 12 = .ok (.iload_n 0, 1) := dk_26 (dk_at dksJ5_numberOfTrailingZeros_0 12 rfl rfl)
theorem dJ5_numberOfTrailingZeros_13 : decode cJ5_numberOfTrailingZeros 13 = .ok (.bipush 32, 2) := dk_16 32 (dk_at dksJ5_numberOfTrailingZeros_0 13 rfl rfl)
theorem dJ5_numberOfTrailingZeros_15 : decode cJ5_numberOfTrailingZeros 15 = .ok (.iand, 1) := dk_126 (dk_at dksJ5_numberOfTrailingZeros_0 15 rfl rfl)
theorem dJ5_numberOfTrailingZeros_16 : decode cJ5_numberOfTrailingZeros 16 = .ok (.ireturn, 1) := dk_172 (dk_at dksJ5_numberOfTrailingZeros_0 16 rfl rfl)
theorem dJ5_numberOfTrailingZeros_17 : decode cJ5_numberOfTrailingZeros 17 = .ok (.iconst 1, 1) := dk_4 (dk_at dksJ5_numberOfTrailingZeros_0 17 rfl rfl)
theorem dJ5_numberOfTrailingZeros_18 : decode cJ5_numberOfTrailingZeros 18 = .ok (.istore_n 1, 1) := dk_60 (dk_at dksJ5_numberOfTrailingZeros_0 18 rfl rfl)
theorem dJ5_numberOfTrailingZeros_19 : decode cJ5_numberOfTrailingZeros 19 = .ok (.iload_n 0, 1) := dk_26 (dk_at dksJ5_numberOfTrailingZeros_0 19 rfl rfl)
theorem dJ5_numberOfTrailingZeros_20 : decode cJ5_numberOfTrailingZeros 20 = .ok (.ldc_w 264, 3) := dk_19 1 8 (dk_at dksJ5_numberOfTrailingZeros_0 20 rfl rfl)
theorem dJ5_numberOfTrailingZeros_23 : decode cJ5_numberOfTrailingZeros 23 = .ok (.if_icmp .le 11, 3) := dk_164 0 11 (dk_at dksJ5_numberOfTrailingZeros_1 0 rfl rfl)
theorem dJ5_numberOfTrailingZeros_26 : decode cJ5_numberOfTrailingZeros 26 = .ok (.iinc 1 16, 3) := dk_132 1 16 (dk_at dksJ5_numberOfTrailingZeros_1 3 rfl rfl)
theorem dJ5_numberOfTrailingZeros_29 : decode cJ5_numberOfTrailingZeros 29 = .ok (.iload_n 0, 1) := dk_26 (dk_at dksJ5_numberOfTrailingZeros_1 6 rfl rfl)
theorem dJ5_numberOfTrailingZeros_30 : decode cJ5_numberOfTrailingZeros 30 = .ok (.bipush 16, 2) := dk_16 16 (dk_at dksJ5_numberOfTrailingZeros_1 7 rfl rfl)
theorem dJ5_numberOfTrailingZeros_32 : decode cJ5_numberOfTrailingZeros 32 = .ok (.iushr, 1) := dk_124 (dk_at dksJ5_numberOfTrailingZeros_1 9 rfl rfl)
theorem dJ5_numberOfTrailingZeros_33 : decode cJ5_numberOfTrailingZeros 33 = .ok (.istore_n 0, 1) := dk_59 (dk_at dksJ5_numberOfTrailingZeros_1 10 rfl rfl)
theorem dJ5_numberOfTrailingZeros_34 : decode cJ5_numberOfTrailingZeros 34 = .ok (.iload_n 0, 1) := dk_26 (dk_at dksJ5_numberOfTrailingZeros_1 11 rfl rfl)
theorem dJ5_numberOfTrailingZeros_35 : decode cJ5_numberOfTrailingZeros 35 = .ok (.sipush 256, 3) := dk_17 1 0 (dk_at dksJ5_numberOfTrailingZeros_1 12 rfl rfl)
theorem dJ5_numberOfTrailingZeros_38 : decode cJ5_numberOfTrailingZeros 38 = .ok (.if_icmp .le 11, 3) := dk_164 0 11 (dk_at dksJ5_numberOfTrailingZeros_1 15 rfl rfl)
theorem dJ5_numberOfTrailingZeros_41 : decode cJ5_numberOfTrailingZeros 41 = .ok (.iinc 1 8, 3) := dk_132 1 8 (dk_at dksJ5_numberOfTrailingZeros_1 18 rfl rfl)
theorem dJ5_numberOfTrailingZeros_44 : decode cJ5_numberOfTrailingZeros 44 = .ok (.iload_n 0, 1) := dk_26 (dk_at dksJ5_numberOfTrailingZeros_1 21 rfl rfl)
theorem dJ5_numberOfTrailingZeros_45 : decode cJ5_numberOfTrailingZeros 45 = .ok (.bipush 8, 2) := dk_16 8 (dk_at dksJ5_numberOfTrailingZeros_1 22 rfl rfl)
theorem dJ5_numberOfTrailingZeros_47 : decode cJ5_numberOfTrailingZeros 47 = .ok (.iushr, 1) := dk_124 (dk_at dksJ5_numberOfTrailingZeros_2 0 rfl rfl)
theorem dJ5_numberOfTrailingZeros_48 : decode cJ5_numberOfTrailingZeros 48 = .ok (.istore_n 0, 1) := dk_59 (dk_at dksJ5_numberOfTrailingZeros_2 1 rfl rfl)
theorem dJ5_numberOfTrailingZeros_49 : decode cJ5_numberOfTrailingZeros 49 = .ok (.iload_n 0, 1) := dk_26 (dk_at dksJ5_numberOfTrailingZeros_2 2 rfl rfl)
theorem dJ5_numberOfTrailingZeros_50 : decode cJ5_numberOfTrailingZeros 50 = .ok (.bipush 16, 2) := dk_16 16 (dk_at dksJ5_numberOfTrailingZeros_2 3 rfl rfl)
theorem dJ5_numberOfTrailingZeros_52 : decode cJ5_numberOfTrailingZeros 52 = .ok (.if_icmp .le 10, 3) := dk_164 0 10 (dk_at dksJ5_numberOfTrailingZeros_2 5 rfl rfl)
theorem dJ5_numberOfTrailingZeros_55 : decode cJ5_numberOfTrailingZeros 55 = .ok (.iinc 1 4, 3) := dk_132 1 4 (dk_at dksJ5_numberOfTrailingZeros_2 8 rfl rfl)
theorem dJ5_numberOfTrailingZeros_58 : decode cJ5_numberOfTrailingZeros 58 = .ok (.iload_n 0, 1) := dk_26 (dk_at dksJ5_numberOfTrailingZeros_2 11 rfl rfl)
theorem dJ5_numberOfTrailingZeros_59 : decode cJ5_numberOfTrailingZeros 59 = .ok (.iconst 4, 1) := dk_7 (dk_at dksJ5_numberOfTrailingZeros_2 12 rfl rfl)
theorem dJ5_numberOfTrailingZeros_60 : decode cJ5_numberOfTrailingZeros 60 = .ok (.iushr, 1) := dk_124 (dk_at dksJ5_numberOfTrailingZeros_2 13 rfl rfl)
theorem dJ5_numberOfTrailingZeros_61 : decode cJ5_numberOfTrailingZeros 61 = .ok (.istore_n 0, 1) := dk_59 (dk_at dksJ5_numberOfTrailingZeros_2 14 rfl rfl)
theorem dJ5_numberOfTrailingZeros_62 : decode cJ5_numberOfTrailingZeros 62 = .ok (.iload_n 0, 1) := dk_26 (dk_at dksJ5_numberOfTrailingZeros_2 15 rfl rfl)
theorem dJ5_numberOfTrailingZeros_63 : decode cJ5_numberOfTrailingZeros 63 = .ok (.iconst 4, 1) := dk_7 (dk_at dksJ5_numberOfTrailingZeros_2 16 rfl rfl)
theorem dJ5_numberOfTrailingZeros_64 : decode cJ5_numberOfTrailingZeros 64 = .ok (.if_icmp .le 10, 3) := dk_164 0 10 (dk_at dksJ5_numberOfTrailingZeros_2 17 rfl rfl)
theorem dJ5_numberOfTrailingZeros_67 : decode cJ5_numberOfTrailingZeros 67 = .ok (.iinc 1 2, 3) := dk_132 1 2 (dk_at dksJ5_numberOfTrailingZeros_2 20 rfl rfl)
theorem dJ5_numberOfTrailingZeros_70 : decode cJ5_numberOfTrailingZeros 70 = .ok (.iload_n 0, 1) := dk_26 (dk_at dksJ5_numberOfTrailingZeros_2 23 rfl rfl)
theorem dJ5_numberOfTrailingZeros_71 : decode cJ5_numberOfTrailingZeros 71 = .ok (.iconst 2, 1) := dk_5 (dk_at dksJ5_numberOfTrailingZeros_3 0 rfl rfl)
theorem dJ5_numberOfTrailingZeros_72 : decode cJ5_numberOfTrailingZeros 72 = .ok (.iushr, 1) := dk_124 (dk_at dksJ5_numberOfTrailingZeros_3 1 rfl rfl)
theorem dJ5_numberOfTrailingZeros_73 : decode cJ5_numberOfTrailingZeros 73 = .ok (.istore_n 0, 1) := dk_59 (dk_at dksJ5_numberOfTrailingZeros_3 2 rfl rfl)
theorem dJ5_numberOfTrailingZeros_74 : decode cJ5_numberOfTrailingZeros 74 = .ok (.iload_n 1, 1) := dk_27 (dk_at dksJ5_numberOfTrailingZeros_3 3 rfl rfl)
theorem dJ5_numberOfTrailingZeros_75 : decode cJ5_numberOfTrailingZeros 75 = .ok (.iload_n 0, 1) := dk_26 (dk_at dksJ5_numberOfTrailingZeros_3 4 rfl rfl)
theorem dJ5_numberOfTrailingZeros_76 : decode cJ5_numberOfTrailingZeros 76 = .ok (.iconst 1, 1) := dk_4 (dk_at dksJ5_numberOfTrailingZeros_3 5 rfl rfl)
theorem dJ5_numberOfTrailingZeros_77 : decode cJ5_numberOfTrailingZeros 77 = .ok (.iushr, 1) := dk_124 (dk_at dksJ5_numberOfTrailingZeros_3 6 rfl rfl)
theorem dJ5_numberOfTrailingZeros_78 : decode cJ5_numberOfTrailingZeros 78 = .ok (.iadd, 1) := dk_96 (dk_at dksJ5_numberOfTrailingZeros_3 7 rfl rfl)
theorem dJ5_numberOfTrailingZeros_79 : decode cJ5_numberOfTrailingZeros 79 = .ok (.ireturn, 1) := dk_172 (dk_at dksJ5_numberOfTrailingZeros_3 8 rfl rfl)
abbrev cJ5_stringSize : ByteArray := prog_23_method_13_code
def yJ5_stringSize : MethodName := ⟨RJ5, "stringSize", "(I)I"⟩
def dkwJ5_stringSize_1 : List UInt8 := [164, 0, 7, 29, 27, 96, 172, 16, 10, 28, 104, 61, 132, 3, 1, 167, 255, 233, 16, 10, 27, 96, 172]
abbrev dktJ5_stringSize_1 : List UInt8 := dkwJ5_stringSize_1 ++ []
def dkwJ5_stringSize_0 : List UInt8 := [4, 60, 26, 155, 0, 8, 3, 60, 26, 116, 59, 16, 246, 61, 4, 62, 29, 16, 10, 162, 0, 23, 26, 28]
abbrev dktJ5_stringSize_0 : List UInt8 := dkwJ5_stringSize_0 ++ dktJ5_stringSize_1
theorem dksJ5_stringSize_0 : cJ5_stringSize.data.toList.drop 0 = dktJ5_stringSize_0 := by decide +kernel
theorem dksJ5_stringSize_1 : cJ5_stringSize.data.toList.drop 24 = dktJ5_stringSize_1 := dk_seg dksJ5_stringSize_0 24 rfl rfl
theorem dJ5_stringSize_0 : decode cJ5_stringSize 0 = .ok (.iconst 1, 1) := dk_4 (dk_at dksJ5_stringSize_0 0 rfl rfl)
theorem dJ5_stringSize_1 : decode cJ5_stringSize 1 = .ok (.istore_n 1, 1) := dk_60 (dk_at dksJ5_stringSize_0 1 rfl rfl)
theorem dJ5_stringSize_2 : decode cJ5_stringSize 2 = .ok (.iload_n 0, 1) := dk_26 (dk_at dksJ5_stringSize_0 2 rfl rfl)
theorem dJ5_stringSize_3 : decode cJ5_stringSize 3 = .ok (.ifCond .lt 8, 3) := dk_155 0 8 (dk_at dksJ5_stringSize_0 3 rfl rfl)
theorem dJ5_stringSize_6 : decode cJ5_stringSize 6 = .ok (.iconst 0, 1) := dk_3 (dk_at dksJ5_stringSize_0 6 rfl rfl)
theorem dJ5_stringSize_7 : decode cJ5_stringSize 7 = .ok (.istore_n 1, 1) := dk_60 (dk_at dksJ5_stringSize_0 7 rfl rfl)
theorem dJ5_stringSize_8 : decode cJ5_stringSize 8 = .ok (.iload_n 0, 1) := dk_26 (dk_at dksJ5_stringSize_0 8 rfl rfl)
theorem dJ5_stringSize_9 : decode cJ5_stringSize 9 = .ok (.ineg, 1) := dk_116 (dk_at dksJ5_stringSize_0 9 rfl rfl)
theorem dJ5_stringSize_10 : decode cJ5_stringSize 10 = .ok (.istore_n 0, 1) := dk_59 (dk_at dksJ5_stringSize_0 10 rfl rfl)
theorem dJ5_stringSize_11 : decode cJ5_stringSize 11 = .ok (.bipush (-10), 2) := dk_16 246 (dk_at dksJ5_stringSize_0 11 rfl rfl)
theorem dJ5_stringSize_13 : decode cJ5_stringSize 13 = .ok (.istore_n 2, 1) := dk_61 (dk_at dksJ5_stringSize_0 13 rfl rfl)
theorem dJ5_stringSize_14 : decode cJ5_stringSize 14 = .ok (.iconst 1, 1) := dk_4 (dk_at dksJ5_stringSize_0 14 rfl rfl)
theorem dJ5_stringSize_15 : decode cJ5_stringSize 15 = .ok (.istore_n 3, 1) := dk_62 (dk_at dksJ5_stringSize_0 15 rfl rfl)
theorem dJ5_stringSize_16 : decode cJ5_stringSize 16 = .ok (.iload_n 3, 1) := dk_29 (dk_at dksJ5_stringSize_0 16 rfl rfl)
theorem dJ5_stringSize_17 : decode cJ5_stringSize 17 = .ok (.bipush 10, 2) := dk_16 10 (dk_at dksJ5_stringSize_0 17 rfl rfl)
theorem dJ5_stringSize_19 : decode cJ5_stringSize 19 = .ok (.if_icmp .ge 23, 3) := dk_162 0 23 (dk_at dksJ5_stringSize_0 19 rfl rfl)
theorem dJ5_stringSize_22 : decode cJ5_stringSize 22 = .ok (.iload_n 0, 1) := dk_26 (dk_at dksJ5_stringSize_0 22 rfl rfl)
theorem dJ5_stringSize_23 : decode cJ5_stringSize 23 = .ok (.iload_n 2, 1) := dk_28 (dk_at dksJ5_stringSize_0 23 rfl rfl)
theorem dJ5_stringSize_24 : decode cJ5_stringSize 24 = .ok (.if_icmp .le 7, 3) := dk_164 0 7 (dk_at dksJ5_stringSize_1 0 rfl rfl)
theorem dJ5_stringSize_27 : decode cJ5_stringSize 27 = .ok (.iload_n 3, 1) := dk_29 (dk_at dksJ5_stringSize_1 3 rfl rfl)
theorem dJ5_stringSize_28 : decode cJ5_stringSize 28 = .ok (.iload_n 1, 1) := dk_27 (dk_at dksJ5_stringSize_1 4 rfl rfl)
theorem dJ5_stringSize_29 : decode cJ5_stringSize 29 = .ok (.iadd, 1) := dk_96 (dk_at dksJ5_stringSize_1 5 rfl rfl)
theorem dJ5_stringSize_30 : decode cJ5_stringSize 30 = .ok (.ireturn, 1) := dk_172 (dk_at dksJ5_stringSize_1 6 rfl rfl)
theorem dJ5_stringSize_31 : decode cJ5_stringSize 31 = .ok (.bipush 10, 2) := dk_16 10 (dk_at dksJ5_stringSize_1 7 rfl rfl)
theorem dJ5_stringSize_33 : decode cJ5_stringSize 33 = .ok (.iload_n 2, 1) := dk_28 (dk_at dksJ5_stringSize_1 9 rfl rfl)
theorem dJ5_stringSize_34 : decode cJ5_stringSize 34 = .ok (.imul, 1) := dk_104 (dk_at dksJ5_stringSize_1 10 rfl rfl)
theorem dJ5_stringSize_35 : decode cJ5_stringSize 35 = .ok (.istore_n 2, 1) := dk_61 (dk_at dksJ5_stringSize_1 11 rfl rfl)
theorem dJ5_stringSize_36 : decode cJ5_stringSize 36 = .ok (.iinc 3 1, 3) := dk_132 3 1 (dk_at dksJ5_stringSize_1 12 rfl rfl)
theorem dJ5_stringSize_39 : decode cJ5_stringSize 39 = .ok (.goto (-23), 3) := dk_167 255 233 (dk_at dksJ5_stringSize_1 15 rfl rfl)
theorem dJ5_stringSize_42 : decode cJ5_stringSize 42 = .ok (.bipush 10, 2) := dk_16 10 (dk_at dksJ5_stringSize_1 18 rfl rfl)
theorem dJ5_stringSize_44 : decode cJ5_stringSize 44 = .ok (.iload_n 1, 1) := dk_27 (dk_at dksJ5_stringSize_1 20 rfl rfl)
theorem dJ5_stringSize_45 : decode cJ5_stringSize 45 = .ok (.iadd, 1) := dk_96 (dk_at dksJ5_stringSize_1 21 rfl rfl)
theorem dJ5_stringSize_46 : decode cJ5_stringSize 46 = .ok (.ireturn, 1) := dk_172 (dk_at dksJ5_stringSize_1 22 rfl rfl)
abbrev cJ5_getChars : ByteArray := prog_23_method_12_code
def yJ5_getChars : MethodName := ⟨RJ5, "getChars", "(II[B)I"⟩
def dkwJ5_getChars_5 : List UInt8 := [16, 45, 84, 21, 5, 172]
abbrev dktJ5_getChars_5 : List UInt8 := dkwJ5_getChars_5 ++ []
def dkwJ5_getChars_4 : List UInt8 := [132, 5, 255, 21, 5, 178, 0, 87, 26, 116, 51, 84, 21, 6, 153, 0, 12, 44, 132, 5, 255, 21, 5]
abbrev dktJ5_getChars_4 : List UInt8 := dkwJ5_getChars_4 ++ dktJ5_getChars_5
def dkwJ5_getChars_3 : List UInt8 := [167, 255, 209, 44, 132, 5, 255, 21, 5, 178, 0, 83, 26, 116, 51, 84, 26, 16, 247, 162, 0, 16, 44]
abbrev dktJ5_getChars_3 : List UInt8 := dkwJ5_getChars_3 ++ dktJ5_getChars_4
def dkwJ5_getChars_2 : List UInt8 := [21, 5, 178, 0, 83, 21, 4, 51, 84, 44, 132, 5, 255, 21, 5, 178, 0, 87, 21, 4, 51, 84]
abbrev dktJ5_getChars_2 : List UInt8 := dkwJ5_getChars_2 ++ dktJ5_getChars_3
def dkwJ5_getChars_1 : List UInt8 := [16, 156, 163, 0, 47, 26, 16, 100, 108, 62, 29, 16, 100, 104, 26, 100, 54, 4, 29, 59, 44, 132, 5, 255]
abbrev dktJ5_getChars_1 : List UInt8 := dkwJ5_getChars_1 ++ dktJ5_getChars_2
def dkwJ5_getChars_0 : List UInt8 := [27, 54, 5, 26, 156, 0, 7, 4, 167, 0, 4, 3, 54, 6, 21, 6, 154, 0, 6, 26, 116, 59, 26]
abbrev dktJ5_getChars_0 : List UInt8 := dkwJ5_getChars_0 ++ dktJ5_getChars_1
theorem dksJ5_getChars_0 : cJ5_getChars.data.toList.drop 0 = dktJ5_getChars_0 := by decide +kernel
theorem dksJ5_getChars_1 : cJ5_getChars.data.toList.drop 23 = dktJ5_getChars_1 := dk_seg dksJ5_getChars_0 23 rfl rfl
theorem dksJ5_getChars_2 : cJ5_getChars.data.toList.drop 47 = dktJ5_getChars_2 := dk_seg dksJ5_getChars_1 24 rfl rfl
theorem dksJ5_getChars_3 : cJ5_getChars.data.toList.drop 69 = dktJ5_getChars_3 := dk_seg dksJ5_getChars_2 22 rfl rfl
theorem dksJ5_getChars_4 : cJ5_getChars.data.toList.drop 92 = dktJ5_getChars_4 := dk_seg dksJ5_getChars_3 23 rfl rfl
theorem dksJ5_getChars_5 : cJ5_getChars.data.toList.drop 115 = dktJ5_getChars_5 := dk_seg dksJ5_getChars_4 23 rfl rfl
theorem dJ5_getChars_0 : decode cJ5_getChars 0 = .ok (.iload_n 1, 1) := dk_27 (dk_at dksJ5_getChars_0 0 rfl rfl)
theorem dJ5_getChars_1 : decode cJ5_getChars 1 = .ok (.istore 5, 2) := dk_54 5 (dk_at dksJ5_getChars_0 1 rfl rfl)
theorem dJ5_getChars_3 : decode cJ5_getChars 3 = .ok (.iload_n 0, 1) := dk_26 (dk_at dksJ5_getChars_0 3 rfl rfl)
theorem dJ5_getChars_4 : decode cJ5_getChars 4 = .ok (.ifCond .ge 7, 3) := dk_156 0 7 (dk_at dksJ5_getChars_0 4 rfl rfl)
theorem dJ5_getChars_7 : decode cJ5_getChars 7 = .ok (.iconst 1, 1) := dk_4 (dk_at dksJ5_getChars_0 7 rfl rfl)
theorem dJ5_getChars_8 : decode cJ5_getChars 8 = .ok (.goto 4, 3) := dk_167 0 4 (dk_at dksJ5_getChars_0 8 rfl rfl)
theorem dJ5_getChars_11 : decode cJ5_getChars 11 = .ok (.iconst 0, 1) := dk_3 (dk_at dksJ5_getChars_0 11 rfl rfl)
theorem dJ5_getChars_12 : decode cJ5_getChars 12 = .ok (.istore 6, 2) := dk_54 6 (dk_at dksJ5_getChars_0 12 rfl rfl)
theorem dJ5_getChars_14 : decode cJ5_getChars 14 = .ok (.iload 6, 2) := dk_21 6 (dk_at dksJ5_getChars_0 14 rfl rfl)
theorem dJ5_getChars_16 : decode cJ5_getChars 16 = .ok (.ifCond .ne 6, 3) := dk_154 0 6 (dk_at dksJ5_getChars_0 16 rfl rfl)
theorem dJ5_getChars_19 : decode cJ5_getChars 19 = .ok (.iload_n 0, 1) := dk_26 (dk_at dksJ5_getChars_0 19 rfl rfl)
theorem dJ5_getChars_20 : decode cJ5_getChars 20 = .ok (.ineg, 1) := dk_116 (dk_at dksJ5_getChars_0 20 rfl rfl)
theorem dJ5_getChars_21 : decode cJ5_getChars 21 = .ok (.istore_n 0, 1) := dk_59 (dk_at dksJ5_getChars_0 21 rfl rfl)
theorem dJ5_getChars_22 : decode cJ5_getChars 22 = .ok (.iload_n 0, 1) := dk_26 (dk_at dksJ5_getChars_0 22 rfl rfl)
theorem dJ5_getChars_23 : decode cJ5_getChars 23 = .ok (.bipush (-100), 2) := dk_16 156 (dk_at dksJ5_getChars_1 0 rfl rfl)
theorem dJ5_getChars_25 : decode cJ5_getChars 25 = .ok (.if_icmp .gt 47, 3) := dk_163 0 47 (dk_at dksJ5_getChars_1 2 rfl rfl)
theorem dJ5_getChars_28 : decode cJ5_getChars 28 = .ok (.iload_n 0, 1) := dk_26 (dk_at dksJ5_getChars_1 5 rfl rfl)
theorem dJ5_getChars_29 : decode cJ5_getChars 29 = .ok (.bipush 100, 2) := dk_16 100 (dk_at dksJ5_getChars_1 6 rfl rfl)
theorem dJ5_getChars_31 : decode cJ5_getChars 31 = .ok (.idiv, 1) := dk_108 (dk_at dksJ5_getChars_1 8 rfl rfl)
theorem dJ5_getChars_32 : decode cJ5_getChars 32 = .ok (.istore_n 3, 1) := dk_62 (dk_at dksJ5_getChars_1 9 rfl rfl)
theorem dJ5_getChars_33 : decode cJ5_getChars 33 = .ok (.iload_n 3, 1) := dk_29 (dk_at dksJ5_getChars_1 10 rfl rfl)
theorem dJ5_getChars_34 : decode cJ5_getChars 34 = .ok (.bipush 100, 2) := dk_16 100 (dk_at dksJ5_getChars_1 11 rfl rfl)
theorem dJ5_getChars_36 : decode cJ5_getChars 36 = .ok (.imul, 1) := dk_104 (dk_at dksJ5_getChars_1 13 rfl rfl)
theorem dJ5_getChars_37 : decode cJ5_getChars 37 = .ok (.iload_n 0, 1) := dk_26 (dk_at dksJ5_getChars_1 14 rfl rfl)
theorem dJ5_getChars_38 : decode cJ5_getChars 38 = .ok (.isub, 1) := dk_100 (dk_at dksJ5_getChars_1 15 rfl rfl)
theorem dJ5_getChars_39 : decode cJ5_getChars 39 = .ok (.istore 4, 2) := dk_54 4 (dk_at dksJ5_getChars_1 16 rfl rfl)
theorem dJ5_getChars_41 : decode cJ5_getChars 41 = .ok (.iload_n 3, 1) := dk_29 (dk_at dksJ5_getChars_1 18 rfl rfl)
theorem dJ5_getChars_42 : decode cJ5_getChars 42 = .ok (.istore_n 0, 1) := dk_59 (dk_at dksJ5_getChars_1 19 rfl rfl)
theorem dJ5_getChars_43 : decode cJ5_getChars 43 = .ok (.aload_n 2, 1) := dk_44 (dk_at dksJ5_getChars_1 20 rfl rfl)
theorem dJ5_getChars_44 : decode cJ5_getChars 44 = .ok (.iinc 5 (-1), 3) := dk_132 5 255 (dk_at dksJ5_getChars_1 21 rfl rfl)
theorem dJ5_getChars_47 : decode cJ5_getChars 47 = .ok (.iload 5, 2) := dk_21 5 (dk_at dksJ5_getChars_2 0 rfl rfl)
theorem dJ5_getChars_49 : decode cJ5_getChars 49 = .ok (.getstatic 83, 3) := dk_178 0 83 (dk_at dksJ5_getChars_2 2 rfl rfl)
theorem dJ5_getChars_52 : decode cJ5_getChars 52 = .ok (.iload 4, 2) := dk_21 4 (dk_at dksJ5_getChars_2 5 rfl rfl)
theorem dJ5_getChars_54 : decode cJ5_getChars 54 = .ok (.baload, 1) := dk_51 (dk_at dksJ5_getChars_2 7 rfl rfl)
theorem dJ5_getChars_55 : decode cJ5_getChars 55 = .ok (.bastore, 1) := dk_84 (dk_at dksJ5_getChars_2 8 rfl rfl)
theorem dJ5_getChars_56 : decode cJ5_getChars 56 = .ok (.aload_n 2, 1) := dk_44 (dk_at dksJ5_getChars_2 9 rfl rfl)
theorem dJ5_getChars_57 : decode cJ5_getChars 57 = .ok (.iinc 5 (-1), 3) := dk_132 5 255 (dk_at dksJ5_getChars_2 10 rfl rfl)
theorem dJ5_getChars_60 : decode cJ5_getChars 60 = .ok (.iload 5, 2) := dk_21 5 (dk_at dksJ5_getChars_2 13 rfl rfl)
theorem dJ5_getChars_62 : decode cJ5_getChars 62 = .ok (.getstatic 87, 3) := dk_178 0 87 (dk_at dksJ5_getChars_2 15 rfl rfl)
theorem dJ5_getChars_65 : decode cJ5_getChars 65 = .ok (.iload 4, 2) := dk_21 4 (dk_at dksJ5_getChars_2 18 rfl rfl)
theorem dJ5_getChars_67 : decode cJ5_getChars 67 = .ok (.baload, 1) := dk_51 (dk_at dksJ5_getChars_2 20 rfl rfl)
theorem dJ5_getChars_68 : decode cJ5_getChars 68 = .ok (.bastore, 1) := dk_84 (dk_at dksJ5_getChars_2 21 rfl rfl)
theorem dJ5_getChars_69 : decode cJ5_getChars 69 = .ok (.goto (-47), 3) := dk_167 255 209 (dk_at dksJ5_getChars_3 0 rfl rfl)
theorem dJ5_getChars_72 : decode cJ5_getChars 72 = .ok (.aload_n 2, 1) := dk_44 (dk_at dksJ5_getChars_3 3 rfl rfl)
theorem dJ5_getChars_73 : decode cJ5_getChars 73 = .ok (.iinc 5 (-1), 3) := dk_132 5 255 (dk_at dksJ5_getChars_3 4 rfl rfl)
theorem dJ5_getChars_76 : decode cJ5_getChars 76 = .ok (.iload 5, 2) := dk_21 5 (dk_at dksJ5_getChars_3 7 rfl rfl)
theorem dJ5_getChars_78 : decode cJ5_getChars 78 = .ok (.getstatic 83, 3) := dk_178 0 83 (dk_at dksJ5_getChars_3 9 rfl rfl)
theorem dJ5_getChars_81 : decode cJ5_getChars 81 = .ok (.iload_n 0, 1) := dk_26 (dk_at dksJ5_getChars_3 12 rfl rfl)
theorem dJ5_getChars_82 : decode cJ5_getChars 82 = .ok (.ineg, 1) := dk_116 (dk_at dksJ5_getChars_3 13 rfl rfl)
theorem dJ5_getChars_83 : decode cJ5_getChars 83 = .ok (.baload, 1) := dk_51 (dk_at dksJ5_getChars_3 14 rfl rfl)
theorem dJ5_getChars_84 : decode cJ5_getChars 84 = .ok (.bastore, 1) := dk_84 (dk_at dksJ5_getChars_3 15 rfl rfl)
theorem dJ5_getChars_85 : decode cJ5_getChars 85 = .ok (.iload_n 0, 1) := dk_26 (dk_at dksJ5_getChars_3 16 rfl rfl)
theorem dJ5_getChars_86 : decode cJ5_getChars 86 = .ok (.bipush (-9), 2) := dk_16 247 (dk_at dksJ5_getChars_3 17 rfl rfl)
theorem dJ5_getChars_88 : decode cJ5_getChars 88 = .ok (.if_icmp .ge 16, 3) := dk_162 0 16 (dk_at dksJ5_getChars_3 19 rfl rfl)
theorem dJ5_getChars_91 : decode cJ5_getChars 91 = .ok (.aload_n 2, 1) := dk_44 (dk_at dksJ5_getChars_3 22 rfl rfl)
theorem dJ5_getChars_92 : decode cJ5_getChars 92 = .ok (.iinc 5 (-1), 3) := dk_132 5 255 (dk_at dksJ5_getChars_4 0 rfl rfl)
theorem dJ5_getChars_95 : decode cJ5_getChars 95 = .ok (.iload 5, 2) := dk_21 5 (dk_at dksJ5_getChars_4 3 rfl rfl)
theorem dJ5_getChars_97 : decode cJ5_getChars 97 = .ok (.getstatic 87, 3) := dk_178 0 87 (dk_at dksJ5_getChars_4 5 rfl rfl)
theorem dJ5_getChars_100 : decode cJ5_getChars 100 = .ok (.iload_n 0, 1) := dk_26 (dk_at dksJ5_getChars_4 8 rfl rfl)
theorem dJ5_getChars_101 : decode cJ5_getChars 101 = .ok (.ineg, 1) := dk_116 (dk_at dksJ5_getChars_4 9 rfl rfl)
theorem dJ5_getChars_102 : decode cJ5_getChars 102 = .ok (.baload, 1) := dk_51 (dk_at dksJ5_getChars_4 10 rfl rfl)
theorem dJ5_getChars_103 : decode cJ5_getChars 103 = .ok (.bastore, 1) := dk_84 (dk_at dksJ5_getChars_4 11 rfl rfl)
theorem dJ5_getChars_104 : decode cJ5_getChars 104 = .ok (.iload 6, 2) := dk_21 6 (dk_at dksJ5_getChars_4 12 rfl rfl)
theorem dJ5_getChars_106 : decode cJ5_getChars 106 = .ok (.ifCond .eq 12, 3) := dk_153 0 12 (dk_at dksJ5_getChars_4 14 rfl rfl)
theorem dJ5_getChars_109 : decode cJ5_getChars 109 = .ok (.aload_n 2, 1) := dk_44 (dk_at dksJ5_getChars_4 17 rfl rfl)
theorem dJ5_getChars_110 : decode cJ5_getChars 110 = .ok (.iinc 5 (-1), 3) := dk_132 5 255 (dk_at dksJ5_getChars_4 18 rfl rfl)
theorem dJ5_getChars_113 : decode cJ5_getChars 113 = .ok (.iload 5, 2) := dk_21 5 (dk_at dksJ5_getChars_4 21 rfl rfl)
theorem dJ5_getChars_115 : decode cJ5_getChars 115 = .ok (.bipush 45, 2) := dk_16 45 (dk_at dksJ5_getChars_5 0 rfl rfl)
theorem dJ5_getChars_117 : decode cJ5_getChars 117 = .ok (.bastore, 1) := dk_84 (dk_at dksJ5_getChars_5 2 rfl rfl)
theorem dJ5_getChars_118 : decode cJ5_getChars 118 = .ok (.iload 5, 2) := dk_21 5 (dk_at dksJ5_getChars_5 3 rfl rfl)
theorem dJ5_getChars_120 : decode cJ5_getChars 120 = .ok (.ireturn, 1) := dk_172 (dk_at dksJ5_getChars_5 5 rfl rfl)
theorem q183 : (Jvm.Cond.initialized "java/lang/Integer") ∈ lw_all := lw_g (lw_at lw_m1 10 rfl) rfl
theorem q325 : (Jvm.Cond.static ({ cls := "java/lang/Integer", name := "bitCount", desc := "(I)I" } : Jvm.MethodName)) ∈ lw_all := lw_g (lw_at lw_m1 152 rfl) rfl
theorem q326 : (Jvm.Cond.code ({ cls := "java/lang/Integer", name := "bitCount", desc := "(I)I" } : Jvm.MethodName) prog_23_method_49_code (1 : Nat) (Option.some Jvm.ClassFile.FieldType.int)) ∈ lw_all := lw_g (lw_at lw_m1 153 rfl) rfl
theorem q327 : (Jvm.Cond.constant "java/lang/Integer" (265 : Nat) (1431655765 : Int32)) ∈ lw_all := lw_g (lw_at lw_m1 154 rfl) rfl
theorem q328 : (Jvm.Cond.constant "java/lang/Integer" (266 : Nat) (858993459 : Int32)) ∈ lw_all := lw_g (lw_at lw_m1 155 rfl) rfl
theorem q329 : (Jvm.Cond.constant "java/lang/Integer" (267 : Nat) (252645135 : Int32)) ∈ lw_all := lw_g (lw_at lw_m1 156 rfl) rfl
theorem q1686 : (Jvm.Cond.static ({ cls := "java/lang/Integer", name := "numberOfTrailingZeros", desc := "(I)I" } : Jvm.MethodName)) ∈ lw_all := lw_g (lw_at lw_m7 73 rfl) rfl
theorem q1687 : (Jvm.Cond.code ({ cls := "java/lang/Integer", name := "numberOfTrailingZeros", desc := "(I)I" } : Jvm.MethodName) prog_23_method_48_code (2 : Nat) (Option.some Jvm.ClassFile.FieldType.int)) ∈ lw_all := lw_g (lw_at lw_m7 74 rfl) rfl
theorem q1688 : (Jvm.Cond.constant "java/lang/Integer" (264 : Nat) (65536 : Int32)) ∈ lw_all := lw_g (lw_at lw_m7 75 rfl) rfl
theorem q1936 : (Jvm.Cond.static ({ cls := "java/lang/Integer", name := "stringSize", desc := "(I)I" } : Jvm.MethodName)) ∈ lw_all := lw_g (lw_at lw_m8 83 rfl) rfl
theorem q1937 : (Jvm.Cond.code ({ cls := "java/lang/Integer", name := "stringSize", desc := "(I)I" } : Jvm.MethodName) prog_23_method_13_code (4 : Nat) (Option.some Jvm.ClassFile.FieldType.int)) ∈ lw_all := lw_g (lw_at lw_m8 84 rfl) rfl
theorem q1939 : (Jvm.Cond.static ({ cls := "java/lang/Integer", name := "getChars", desc := "(II[B)I" } : Jvm.MethodName)) ∈ lw_all := lw_g (lw_at lw_m8 86 rfl) rfl
theorem q1940 : (Jvm.Cond.code ({ cls := "java/lang/Integer", name := "getChars", desc := "(II[B)I" } : Jvm.MethodName) prog_23_method_12_code (7 : Nat) (Option.some Jvm.ClassFile.FieldType.int)) ∈ lw_all := lw_g (lw_at lw_m8 87 rfl) rfl
theorem q1941 : (Jvm.Cond.fieldLink "java/lang/Integer" (83 : Nat) "java/lang/Integer" "DigitOnes" "[B") ∈ lw_all := lw_g (lw_at lw_m8 88 rfl) rfl
theorem q1942 : (Jvm.Cond.laysStatic "java/lang/Integer" "DigitOnes" "[B") ∈ lw_tbl := lw_at lw_m8 89 rfl
theorem q1943 : (Jvm.Cond.fieldLink "java/lang/Integer" (87 : Nat) "java/lang/Integer" "DigitTens" "[B") ∈ lw_all := lw_g (lw_at lw_m8 90 rfl) rfl
theorem q1944 : (Jvm.Cond.laysStatic "java/lang/Integer" "DigitTens" "[B") ∈ lw_tbl := lw_at lw_m8 91 rfl

/-! java/lang/Object -/
set_option maxRecDepth 100000
def RJ19 : String := "java/lang/Object"
abbrev cJ19_init : ByteArray := object_method_1_code
def yJ19_init : MethodName := ⟨RJ19, "<init>", "()V"⟩
theorem dJ19_init_0 : decode cJ19_init 0 = .ok (.return_, 1) := by decide +kernel
theorem q212 : (Jvm.Cond.instanceMethod ({ cls := "java/lang/Object", name := "<init>", desc := "()V" } : Jvm.MethodName)) ∈ lw_all := lw_g (lw_at lw_m1 39 rfl) rfl
theorem q213 : (Jvm.Cond.code ({ cls := "java/lang/Object", name := "<init>", desc := "()V" } : Jvm.MethodName) object_method_1_code (1 : Nat) (Option.none : Option Jvm.ClassFile.FieldType)) ∈ lw_all := lw_g (lw_at lw_m1 40 rfl) rfl
theorem q708 : (Jvm.Cond.native ({ cls := "java/lang/Object", name := "clone", desc := "()Ljava/lang/Object;" } : Jvm.MethodName)) ∈ lw_all := lw_g (lw_at lw_m3 55 rfl) rfl
theorem q709 : (Jvm.Cond.instanceMethod ({ cls := "java/lang/Object", name := "clone", desc := "()Ljava/lang/Object;" } : Jvm.MethodName)) ∈ lw_all := lw_g (lw_at lw_m3 56 rfl) rfl
theorem q1101 : (Jvm.Cond.instanceMethod ({ cls := "java/lang/Object", name := "getClass", desc := "()Ljava/lang/Class;" } : Jvm.MethodName)) ∈ lw_all := lw_g (lw_at lw_m4 208 rfl) rfl
theorem q1102 : (Jvm.Cond.sameMethod "java/lang/Object" "java/lang/Object" "getClass" "()Ljava/lang/Class;") ∈ lw_all := lw_g (lw_at lw_m4 209 rfl) rfl
theorem q1119 : (Jvm.Cond.native ({ cls := "java/lang/Object", name := "getClass", desc := "()Ljava/lang/Class;" } : Jvm.MethodName)) ∈ lw_all := lw_g (lw_at lw_m4 226 rfl) rfl
theorem q2660 : (Jvm.Cond.initialized "java/lang/Object") ∈ lw_all := lw_g (lw_at lw_m11 87 rfl) rfl
theorem q2682 : (Jvm.Cond.declares ({ cls := "java/lang/Object", name := "getClass", desc := "()Ljava/lang/Class;" } : Jvm.MethodName)) ∈ lw_tbl := lw_at lw_m11 109 rfl
theorem q2692 : (Jvm.Cond.instantiable "java/lang/Object" (0 : Nat)) ∈ lw_all := lw_g (lw_at lw_m11 119 rfl) rfl

