/-! HomesQueue -/
set_option maxRecDepth 100000
def RX1 : String := "HomesQueue"
def TX1 : u_T := fun k => match k with
  | 0 => ("HomesQueue", "homes", "Ljava/util/ArrayList;", false)
  | 1 => ("HomesQueue", "houses", "Ljava/util/ArrayList;", false)
  | 2 => ("HomesQueue", "now", "LHomesQueue$Register;", false)
  | 3 => ("HomesQueue", "aside", "LHomesQueue$Register;", true)
  | 4 => ("HomesQueue", "past", "Ljava/util/ArrayList;", true)
  | 5 => ("HomesQueue", "status", "I", false)
  | 6 => ("HomesQueue", "faultKind", "I", false)
  | 7 => ("HomesQueue", "faultAt", "I", false)
  | 8 => ("HomesQueue", "kindNames", "[Ljava/lang/String;", true)
  | 9 => ("HomesQueue", "lineNames", "[Ljava/lang/String;", true)
  | 10 => ("HomesQueue", "tape", "[B", true)
  | 11 => ("HomesQueue", "taped", "I", false)
  | _ => ("HomesQueue", "out", "Ljava/lang/StringBuilder;", true)
def tyX1 : Nat → FieldType := fun k => match k with
  | 0 => .object "java/util/ArrayList"
  | 1 => .object "java/util/ArrayList"
  | 2 => .object "HomesQueue$Register"
  | 3 => .object "HomesQueue$Register"
  | 4 => .object "java/util/ArrayList"
  | 5 => .int
  | 6 => .int
  | 7 => .int
  | 8 => .array (.object "java/lang/String")
  | 9 => .array (.object "java/lang/String")
  | 10 => .array .byte
  | 11 => .int
  | _ => .object "java/lang/StringBuilder"
abbrev wsX10 : List Cond := u_ws RX1 TX1 13
set_option maxRecDepth 100000 in
theorem nmX1 : ∀ a, a < 13 → ∀ b, b < 13 → a ≠ b → (TX1 a).2.1 ≠ (TX1 b).2.1 := by decide +kernel
set_option maxRecDepth 100000 in
theorem tyX1_ok : ∀ k, k < 13 → parseFieldDescriptor (TX1 k).2.2.1 = some (tyX1 k) := by decide +kernel
abbrev cX1_init : ByteArray := prog_1_method_12_code
def yX1_init : MethodName := ⟨RX1, "<init>", "()V"⟩
def dkwX1_init_6 : List UInt8 := [17, 3, 132, 188, 8, 181, 0, 116, 42, 187, 0, 120, 89, 183, 0, 122, 181, 0, 123, 177]
abbrev dktX1_init_6 : List UInt8 := dkwX1_init_6 ++ []
def dkwX1_init_5 : List UInt8 := [89, 3, 18, 105, 83, 89, 4, 18, 107, 83, 89, 5, 18, 109, 83, 89, 6, 18, 111, 83, 181, 0, 113, 42]
abbrev dktX1_init_5 : List UInt8 := dkwX1_init_5 ++ dktX1_init_6
def dkwX1_init_4 : List UInt8 := [83, 89, 6, 18, 95, 83, 89, 7, 18, 97, 83, 89, 8, 18, 99, 83, 181, 0, 101, 42, 7, 189, 0, 87]
abbrev dktX1_init_4 : List UInt8 := dkwX1_init_4 ++ dktX1_init_5
def dkwX1_init_3 : List UInt8 := [2, 181, 0, 84, 42, 16, 6, 189, 0, 87, 89, 3, 18, 89, 83, 89, 4, 18, 91, 83, 89, 5, 18, 93]
abbrev dktX1_init_3 : List UInt8 := dkwX1_init_3 ++ dktX1_init_4
def dkwX1_init_2 : List UInt8 := [183, 0, 67, 181, 0, 74, 42, 187, 0, 44, 89, 5, 183, 0, 62, 181, 0, 77, 42, 2, 181, 0, 80, 42]
abbrev dktX1_init_2 : List UInt8 := dkwX1_init_2 ++ dktX1_init_3
def dkwX1_init_1 : List UInt8 := [183, 0, 62, 181, 0, 51, 42, 187, 0, 65, 89, 42, 183, 0, 67, 181, 0, 70, 42, 187, 0, 65, 89, 42]
abbrev dktX1_init_1 : List UInt8 := dkwX1_init_1 ++ dktX1_init_2
def dkwX1_init_0 : List UInt8 := [42, 183, 0, 56, 42, 187, 0, 44, 89, 5, 183, 0, 62, 181, 0, 39, 42, 187, 0, 44, 89, 5]
abbrev dktX1_init_0 : List UInt8 := dkwX1_init_0 ++ dktX1_init_1
theorem dksX1_init_0 : cX1_init.data.toList.drop 0 = dktX1_init_0 := by decide +kernel
theorem dksX1_init_1 : cX1_init.data.toList.drop 22 = dktX1_init_1 := dk_seg dksX1_init_0 22 rfl rfl
theorem dksX1_init_2 : cX1_init.data.toList.drop 46 = dktX1_init_2 := dk_seg dksX1_init_1 24 rfl rfl
theorem dksX1_init_3 : cX1_init.data.toList.drop 70 = dktX1_init_3 := dk_seg dksX1_init_2 24 rfl rfl
theorem dksX1_init_4 : cX1_init.data.toList.drop 94 = dktX1_init_4 := dk_seg dksX1_init_3 24 rfl rfl
theorem dksX1_init_5 : cX1_init.data.toList.drop 118 = dktX1_init_5 := dk_seg dksX1_init_4 24 rfl rfl
theorem dksX1_init_6 : cX1_init.data.toList.drop 142 = dktX1_init_6 := dk_seg dksX1_init_5 24 rfl rfl
theorem dX1_init_0 : decode cX1_init 0 = .ok (.aload_n 0, 1) := dk_42 (dk_at dksX1_init_0 0 rfl rfl)
theorem dX1_init_1 : decode cX1_init 1 = .ok (.invokespecial 56, 3) := dk_183 0 56 (dk_at dksX1_init_0 1 rfl rfl)
theorem dX1_init_4 : decode cX1_init 4 = .ok (.aload_n 0, 1) := dk_42 (dk_at dksX1_init_0 4 rfl rfl)
theorem dX1_init_5 : decode cX1_init 5 = .ok (.new 44, 3) := dk_187 0 44 (dk_at dksX1_init_0 5 rfl rfl)
theorem dX1_init_8 : decode cX1_init 8 = .ok (.dup, 1) := dk_89 (dk_at dksX1_init_0 8 rfl rfl)
theorem dX1_init_9 : decode cX1_init 9 = .ok (.iconst 2, 1) := dk_5 (dk_at dksX1_init_0 9 rfl rfl)
theorem dX1_init_10 : decode cX1_init 10 = .ok (.invokespecial 62, 3) := dk_183 0 62 (dk_at dksX1_init_0 10 rfl rfl)
theorem dX1_init_13 : decode cX1_init 13 = .ok (.putfield 39, 3) := dk_181 0 39 (dk_at dksX1_init_0 13 rfl rfl)
theorem dX1_init_16 : decode cX1_init 16 = .ok (.aload_n 0, 1) := dk_42 (dk_at dksX1_init_0 16 rfl rfl)
theorem dX1_init_17 : decode cX1_init 17 = .ok (.new 44, 3) := dk_187 0 44 (dk_at dksX1_init_0 17 rfl rfl)
theorem dX1_init_20 : decode cX1_init 20 = .ok (.dup, 1) := dk_89 (dk_at dksX1_init_0 20 rfl rfl)
theorem dX1_init_21 : decode cX1_init 21 = .ok (.iconst 2, 1) := dk_5 (dk_at dksX1_init_0 21 rfl rfl)
theorem dX1_init_22 : decode cX1_init 22 = .ok (.invokespecial 62, 3) := dk_183 0 62 (dk_at dksX1_init_1 0 rfl rfl)
theorem dX1_init_25 : decode cX1_init 25 = .ok (.putfield 51, 3) := dk_181 0 51 (dk_at dksX1_init_1 3 rfl rfl)
theorem dX1_init_28 : decode cX1_init 28 = .ok (.aload_n 0, 1) := dk_42 (dk_at dksX1_init_1 6 rfl rfl)
theorem dX1_init_29 : decode cX1_init 29 = .ok (.new 65, 3) := dk_187 0 65 (dk_at dksX1_init_1 7 rfl rfl)
theorem dX1_init_32 : decode cX1_init 32 = .ok (.dup, 1) := dk_89 (dk_at dksX1_init_1 10 rfl rfl)
theorem dX1_init_33 : decode cX1_init 33 = .ok (.aload_n 0, 1) := dk_42 (dk_at dksX1_init_1 11 rfl rfl)
theorem dX1_init_34 : decode cX1_init 34 = .ok (.invokespecial 67, 3) := dk_183 0 67 (dk_at dksX1_init_1 12 rfl rfl)
theorem dX1_init_37 : decode cX1_init 37 = .ok (.putfield 70, 3) := dk_181 0 70 (dk_at dksX1_init_1 15 rfl rfl)
theorem dX1_init_40 : decode cX1_init 40 = .ok (.aload_n 0, 1) := dk_42 (dk_at dksX1_init_1 18 rfl rfl)
theorem dX1_init_41 : decode cX1_init 41 = .ok (.new 65, 3) := dk_187 0 65 (dk_at dksX1_init_1 19 rfl rfl)
theorem dX1_init_44 : decode cX1_init 44 = .ok (.dup, 1) := dk_89 (dk_at dksX1_init_1 22 rfl rfl)
theorem dX1_init_45 : decode cX1_init 45 = .ok (.aload_n 0, 1) := dk_42 (dk_at dksX1_init_1 23 rfl rfl)
theorem dX1_init_46 : decode cX1_init 46 = .ok (.invokespecial 67, 3) := dk_183 0 67 (dk_at dksX1_init_2 0 rfl rfl)
theorem dX1_init_49 : decode cX1_init 49 = .ok (.putfield 74, 3) := dk_181 0 74 (dk_at dksX1_init_2 3 rfl rfl)
theorem dX1_init_52 : decode cX1_init 52 = .ok (.aload_n 0, 1) := dk_42 (dk_at dksX1_init_2 6 rfl rfl)
theorem dX1_init_53 : decode cX1_init 53 = .ok (.new 44, 3) := dk_187 0 44 (dk_at dksX1_init_2 7 rfl rfl)
theorem dX1_init_56 : decode cX1_init 56 = .ok (.dup, 1) := dk_89 (dk_at dksX1_init_2 10 rfl rfl)
theorem dX1_init_57 : decode cX1_init 57 = .ok (.iconst 2, 1) := dk_5 (dk_at dksX1_init_2 11 rfl rfl)
theorem dX1_init_58 : decode cX1_init 58 = .ok (.invokespecial 62, 3) := dk_183 0 62 (dk_at dksX1_init_2 12 rfl rfl)
theorem dX1_init_61 : decode cX1_init 61 = .ok (.putfield 77, 3) := dk_181 0 77 (dk_at dksX1_init_2 15 rfl rfl)
theorem dX1_init_64 : decode cX1_init 64 = .ok (.aload_n 0, 1) := dk_42 (dk_at dksX1_init_2 18 rfl rfl)
theorem dX1_init_65 : decode cX1_init 65 = .ok (.iconst (-1), 1) := dk_2 (dk_at dksX1_init_2 19 rfl rfl)
theorem dX1_init_66 : decode cX1_init 66 = .ok (.putfield 80, 3) := dk_181 0 80 (dk_at dksX1_init_2 20 rfl rfl)
theorem dX1_init_69 : decode cX1_init 69 = .ok (.aload_n 0, 1) := dk_42 (dk_at dksX1_init_2 23 rfl rfl)
theorem dX1_init_70 : decode cX1_init 70 = .ok (.iconst (-1), 1) := dk_2 (dk_at dksX1_init_3 0 rfl rfl)
theorem dX1_init_71 : decode cX1_init 71 = .ok (.putfield 84, 3) := dk_181 0 84 (dk_at dksX1_init_3 1 rfl rfl)
theorem dX1_init_74 : decode cX1_init 74 = .ok (.aload_n 0, 1) := dk_42 (dk_at dksX1_init_3 4 rfl rfl)
theorem dX1_init_75 : decode cX1_init 75 = .ok (.bipush 6, 2) := dk_16 6 (dk_at dksX1_init_3 5 rfl rfl)
theorem dX1_init_77 : decode cX1_init 77 = .ok (.anewarray 87, 3) := dk_189 0 87 (dk_at dksX1_init_3 7 rfl rfl)
theorem dX1_init_80 : decode cX1_init 80 = .ok (.dup, 1) := dk_89 (dk_at dksX1_init_3 10 rfl rfl)
theorem dX1_init_81 : decode cX1_init 81 = .ok (.iconst 0, 1) := dk_3 (dk_at dksX1_init_3 11 rfl rfl)
theorem dX1_init_82 : decode cX1_init 82 = .ok (.ldc 89, 2) := dk_18 89 (dk_at dksX1_init_3 12 rfl rfl)
theorem dX1_init_84 : decode cX1_init 84 = .ok (.aastore, 1) := dk_83 (dk_at dksX1_init_3 14 rfl rfl)
theorem dX1_init_85 : decode cX1_init 85 = .ok (.dup, 1) := dk_89 (dk_at dksX1_init_3 15 rfl rfl)
theorem dX1_init_86 : decode cX1_init 86 = .ok (.iconst 1, 1) := dk_4 (dk_at dksX1_init_3 16 rfl rfl)
theorem dX1_init_87 : decode cX1_init 87 = .ok (.ldc 91, 2) := dk_18 91 (dk_at dksX1_init_3 17 rfl rfl)
theorem dX1_init_89 : decode cX1_init 89 = .ok (.aastore, 1) := dk_83 (dk_at dksX1_init_3 19 rfl rfl)
theorem dX1_init_90 : decode cX1_init 90 = .ok (.dup, 1) := dk_89 (dk_at dksX1_init_3 20 rfl rfl)
theorem dX1_init_91 : decode cX1_init 91 = .ok (.iconst 2, 1) := dk_5 (dk_at dksX1_init_3 21 rfl rfl)
theorem dX1_init_92 : decode cX1_init 92 = .ok (.ldc 93, 2) := dk_18 93 (dk_at dksX1_init_3 22 rfl rfl)
theorem dX1_init_94 : decode cX1_init 94 = .ok (.aastore, 1) := dk_83 (dk_at dksX1_init_4 0 rfl rfl)
theorem dX1_init_95 : decode cX1_init 95 = .ok (.dup, 1) := dk_89 (dk_at dksX1_init_4 1 rfl rfl)
theorem dX1_init_96 : decode cX1_init 96 = .ok (.iconst 3, 1) := dk_6 (dk_at dksX1_init_4 2 rfl rfl)
theorem dX1_init_97 : decode cX1_init 97 = .ok (.ldc 95, 2) := dk_18 95 (dk_at dksX1_init_4 3 rfl rfl)
theorem dX1_init_99 : decode cX1_init 99 = .ok (.aastore, 1) := dk_83 (dk_at dksX1_init_4 5 rfl rfl)
theorem dX1_init_100 : decode cX1_init 100 = .ok (.dup, 1) := dk_89 (dk_at dksX1_init_4 6 rfl rfl)
theorem dX1_init_101 : decode cX1_init 101 = .ok (.iconst 4, 1) := dk_7 (dk_at dksX1_init_4 7 rfl rfl)
theorem dX1_init_102 : decode cX1_init 102 = .ok (.ldc 97, 2) := dk_18 97 (dk_at dksX1_init_4 8 rfl rfl)
theorem dX1_init_104 : decode cX1_init 104 = .ok (.aastore, 1) := dk_83 (dk_at dksX1_init_4 10 rfl rfl)
theorem dX1_init_105 : decode cX1_init 105 = .ok (.dup, 1) := dk_89 (dk_at dksX1_init_4 11 rfl rfl)
theorem dX1_init_106 : decode cX1_init 106 = .ok (.iconst 5, 1) := dk_8 (dk_at dksX1_init_4 12 rfl rfl)
theorem dX1_init_107 : decode cX1_init 107 = .ok (.ldc 99, 2) := dk_18 99 (dk_at dksX1_init_4 13 rfl rfl)
theorem dX1_init_109 : decode cX1_init 109 = .ok (.aastore, 1) := dk_83 (dk_at dksX1_init_4 15 rfl rfl)
theorem dX1_init_110 : decode cX1_init 110 = .ok (.putfield 101, 3) := dk_181 0 101 (dk_at dksX1_init_4 16 rfl rfl)
theorem dX1_init_113 : decode cX1_init 113 = .ok (.aload_n 0, 1) := dk_42 (dk_at dksX1_init_4 19 rfl rfl)
theorem dX1_init_114 : decode cX1_init 114 = .ok (.iconst 4, 1) := dk_7 (dk_at dksX1_init_4 20 rfl rfl)
theorem dX1_init_115 : decode cX1_init 115 = .ok (.anewarray 87, 3) := dk_189 0 87 (dk_at dksX1_init_4 21 rfl rfl)
theorem dX1_init_118 : decode cX1_init 118 = .ok (.dup, 1) := dk_89 (dk_at dksX1_init_5 0 rfl rfl)
theorem dX1_init_119 : decode cX1_init 119 = .ok (.iconst 0, 1) := dk_3 (dk_at dksX1_init_5 1 rfl rfl)
theorem dX1_init_120 : decode cX1_init 120 = .ok (.ldc 105, 2) := dk_18 105 (dk_at dksX1_init_5 2 rfl rfl)
theorem dX1_init_122 : decode cX1_init 122 = .ok (.aastore, 1) := dk_83 (dk_at dksX1_init_5 4 rfl rfl)
theorem dX1_init_123 : decode cX1_init 123 = .ok (.dup, 1) := dk_89 (dk_at dksX1_init_5 5 rfl rfl)
theorem dX1_init_124 : decode cX1_init 124 = .ok (.iconst 1, 1) := dk_4 (dk_at dksX1_init_5 6 rfl rfl)
theorem dX1_init_125 : decode cX1_init 125 = .ok (.ldc 107, 2) := dk_18 107 (dk_at dksX1_init_5 7 rfl rfl)
theorem dX1_init_127 : decode cX1_init 127 = .ok (.aastore, 1) := dk_83 (dk_at dksX1_init_5 9 rfl rfl)
theorem dX1_init_128 : decode cX1_init 128 = .ok (.dup, 1) := dk_89 (dk_at dksX1_init_5 10 rfl rfl)
theorem dX1_init_129 : decode cX1_init 129 = .ok (.iconst 2, 1) := dk_5 (dk_at dksX1_init_5 11 rfl rfl)
theorem dX1_init_130 : decode cX1_init 130 = .ok (.ldc 109, 2) := dk_18 109 (dk_at dksX1_init_5 12 rfl rfl)
theorem dX1_init_132 : decode cX1_init 132 = .ok (.aastore, 1) := dk_83 (dk_at dksX1_init_5 14 rfl rfl)
theorem dX1_init_133 : decode cX1_init 133 = .ok (.dup, 1) := dk_89 (dk_at dksX1_init_5 15 rfl rfl)
theorem dX1_init_134 : decode cX1_init 134 = .ok (.iconst 3, 1) := dk_6 (dk_at dksX1_init_5 16 rfl rfl)
theorem dX1_init_135 : decode cX1_init 135 = .ok (.ldc 111, 2) := dk_18 111 (dk_at dksX1_init_5 17 rfl rfl)
theorem dX1_init_137 : decode cX1_init 137 = .ok (.aastore, 1) := dk_83 (dk_at dksX1_init_5 19 rfl rfl)
theorem dX1_init_138 : decode cX1_init 138 = .ok (.putfield 113, 3) := dk_181 0 113 (dk_at dksX1_init_5 20 rfl rfl)
theorem dX1_init_141 : decode cX1_init 141 = .ok (.aload_n 0, 1) := dk_42 (dk_at dksX1_init_5 23 rfl rfl)
theorem dX1_init_142 : decode cX1_init 142 = .ok (.sipush 900, 3) := dk_17 3 132 (dk_at dksX1_init_6 0 rfl rfl)
theorem dX1_init_145 : decode cX1_init 145 = .ok (.newarray .byte, 2) := dk_188_8 (dk_at dksX1_init_6 3 rfl rfl)
theorem dX1_init_147 : decode cX1_init 147 = .ok (.putfield 116, 3) := dk_181 0 116 (dk_at dksX1_init_6 5 rfl rfl)
theorem dX1_init_150 : decode cX1_init 150 = .ok (.aload_n 0, 1) := dk_42 (dk_at dksX1_init_6 8 rfl rfl)
theorem dX1_init_151 : decode cX1_init 151 = .ok (.new 120, 3) := dk_187 0 120 (dk_at dksX1_init_6 9 rfl rfl)
theorem dX1_init_154 : decode cX1_init 154 = .ok (.dup, 1) := dk_89 (dk_at dksX1_init_6 12 rfl rfl)
theorem dX1_init_155 : decode cX1_init 155 = .ok (.invokespecial 122, 3) := dk_183 0 122 (dk_at dksX1_init_6 13 rfl rfl)
theorem dX1_init_158 : decode cX1_init 158 = .ok (.putfield 123, 3) := dk_181 0 123 (dk_at dksX1_init_6 16 rfl rfl)
theorem dX1_init_161 : decode cX1_init 161 = .ok (.return_, 1) := dk_177 (dk_at dksX1_init_6 19 rfl rfl)
abbrev cX1_homeAt : ByteArray := prog_1_method_10_code
def yX1_homeAt : MethodName := ⟨RX1, "homeAt", "(I)LHomesQueue$Home;"⟩
def dkwX1_homeAt_0 : List UInt8 := [42, 180, 0, 39, 27, 182, 0, 43, 192, 0, 49, 176]
abbrev dktX1_homeAt_0 : List UInt8 := dkwX1_homeAt_0 ++ []
theorem dksX1_homeAt_0 : cX1_homeAt.data.toList.drop 0 = dktX1_homeAt_0 := by decide +kernel
theorem dX1_homeAt_0 : decode cX1_homeAt 0 = .ok (.aload_n 0, 1) := dk_42 (dk_at dksX1_homeAt_0 0 rfl rfl)
theorem dX1_homeAt_1 : decode cX1_homeAt 1 = .ok (.getfield 39, 3) := dk_180 0 39 (dk_at dksX1_homeAt_0 1 rfl rfl)
theorem dX1_homeAt_4 : decode cX1_homeAt 4 = .ok (.iload_n 1, 1) := dk_27 (dk_at dksX1_homeAt_0 4 rfl rfl)
theorem dX1_homeAt_5 : decode cX1_homeAt 5 = .ok (.invokevirtual 43, 3) := dk_182 0 43 (dk_at dksX1_homeAt_0 5 rfl rfl)
theorem dX1_homeAt_8 : decode cX1_homeAt 8 = .ok (.checkcast 49, 3) := dk_192 0 49 (dk_at dksX1_homeAt_0 8 rfl rfl)
theorem dX1_homeAt_11 : decode cX1_homeAt 11 = .ok (.areturn, 1) := dk_176 (dk_at dksX1_homeAt_0 11 rfl rfl)
abbrev cX1_isIn : ByteArray := prog_1_method_1_code
def yX1_isIn : MethodName := ⟨RX1, "isIn", "(JJJ)Z"⟩
def dkwX1_isIn_0 : List UInt8 := [30, 32, 148, 155, 0, 14, 30, 22, 4, 148, 157, 0, 7, 4, 167, 0, 4, 3, 172]
abbrev dktX1_isIn_0 : List UInt8 := dkwX1_isIn_0 ++ []
theorem dksX1_isIn_0 : cX1_isIn.data.toList.drop 0 = dktX1_isIn_0 := by decide +kernel
theorem dX1_isIn_0 : decode cX1_isIn 0 = .ok (.lload_n 0, 1) := dk_30 (dk_at dksX1_isIn_0 0 rfl rfl)
theorem dX1_isIn_1 : decode cX1_isIn 1 = .ok (.lload_n 2, 1) := dk_32 (dk_at dksX1_isIn_0 1 rfl rfl)
theorem dX1_isIn_2 : decode cX1_isIn 2 = .ok (.lcmp, 1) := dk_148 (dk_at dksX1_isIn_0 2 rfl rfl)
theorem dX1_isIn_3 : decode cX1_isIn 3 = .ok (.ifCond .lt 14, 3) := dk_155 0 14 (dk_at dksX1_isIn_0 3 rfl rfl)
theorem dX1_isIn_6 : decode cX1_isIn 6 = .ok (.lload_n 0, 1) := dk_30 (dk_at dksX1_isIn_0 6 rfl rfl)
theorem dX1_isIn_7 : decode cX1_isIn 7 = .ok (.lload 4, 2) := dk_22 4 (dk_at dksX1_isIn_0 7 rfl rfl)
theorem dX1_isIn_9 : decode cX1_isIn 9 = .ok (.lcmp, 1) := dk_148 (dk_at dksX1_isIn_0 9 rfl rfl)
theorem dX1_isIn_10 : decode cX1_isIn 10 = .ok (.ifCond .gt 7, 3) := dk_157 0 7 (dk_at dksX1_isIn_0 10 rfl rfl)
theorem dX1_isIn_13 : decode cX1_isIn 13 = .ok (.iconst 1, 1) := dk_4 (dk_at dksX1_isIn_0 13 rfl rfl)
theorem dX1_isIn_14 : decode cX1_isIn 14 = .ok (.goto 4, 3) := dk_167 0 4 (dk_at dksX1_isIn_0 14 rfl rfl)
theorem dX1_isIn_17 : decode cX1_isIn 17 = .ok (.iconst 0, 1) := dk_3 (dk_at dksX1_isIn_0 17 rfl rfl)
theorem dX1_isIn_18 : decode cX1_isIn 18 = .ok (.ireturn, 1) := dk_172 (dk_at dksX1_isIn_0 18 rfl rfl)
abbrev cX1_houseAt : ByteArray := prog_1_method_11_code
def yX1_houseAt : MethodName := ⟨RX1, "houseAt", "(I)LHomesQueue$House;"⟩
def dkwX1_houseAt_0 : List UInt8 := [42, 180, 0, 51, 27, 182, 0, 43, 192, 0, 54, 176]
abbrev dktX1_houseAt_0 : List UInt8 := dkwX1_houseAt_0 ++ []
theorem dksX1_houseAt_0 : cX1_houseAt.data.toList.drop 0 = dktX1_houseAt_0 := by decide +kernel
theorem dX1_houseAt_0 : decode cX1_houseAt 0 = .ok (.aload_n 0, 1) := dk_42 (dk_at dksX1_houseAt_0 0 rfl rfl)
theorem dX1_houseAt_1 : decode cX1_houseAt 1 = .ok (.getfield 51, 3) := dk_180 0 51 (dk_at dksX1_houseAt_0 1 rfl rfl)
theorem dX1_houseAt_4 : decode cX1_houseAt 4 = .ok (.iload_n 1, 1) := dk_27 (dk_at dksX1_houseAt_0 4 rfl rfl)
theorem dX1_houseAt_5 : decode cX1_houseAt 5 = .ok (.invokevirtual 43, 3) := dk_182 0 43 (dk_at dksX1_houseAt_0 5 rfl rfl)
theorem dX1_houseAt_8 : decode cX1_houseAt 8 = .ok (.checkcast 54, 3) := dk_192 0 54 (dk_at dksX1_houseAt_0 8 rfl rfl)
theorem dX1_houseAt_11 : decode cX1_houseAt 11 = .ok (.areturn, 1) := dk_176 (dk_at dksX1_houseAt_0 11 rfl rfl)
abbrev cX1_rising : ByteArray := prog_1_method_8_code
def yX1_rising : MethodName := ⟨RX1, "rising", "(LHomesQueue$Number;)LHomesQueue$Step;"⟩
theorem dX1_rising_0 : decode cX1_rising 0 = .ok (.aload_n 0, 1) := by decide +kernel
theorem dX1_rising_1 : decode cX1_rising 1 = .ok (.invokedynamic 33, 5) := by decide +kernel
theorem dX1_rising_6 : decode cX1_rising 6 = .ok (.areturn, 1) := by decide +kernel
abbrev cX1_lambda_rising_1 : ByteArray := prog_1_method_113_code
def yX1_lambda_rising_1 : MethodName := ⟨RX1, "lambda$rising$1", "(LHomesQueue$Number;II)I"⟩
def dkwX1_lambda_rising_1_0 : List UInt8 := [42, 27, 185, 0, 13, 2, 0, 42, 28, 185, 0, 13, 2, 0, 100, 172]
abbrev dktX1_lambda_rising_1_0 : List UInt8 := dkwX1_lambda_rising_1_0 ++ []
theorem dksX1_lambda_rising_1_0 : cX1_lambda_rising_1.data.toList.drop 0 = dktX1_lambda_rising_1_0 := by decide +kernel
theorem dX1_lambda_rising_1_0 : decode cX1_lambda_rising_1 0 = .ok (.aload_n 0, 1) := dk_42 (dk_at dksX1_lambda_rising_1_0 0 rfl rfl)
theorem dX1_lambda_rising_1_1 : decode cX1_lambda_rising_1 1 = .ok (.iload_n 1, 1) := dk_27 (dk_at dksX1_lambda_rising_1_0 1 rfl rfl)
theorem dX1_lambda_rising_1_2 : decode cX1_lambda_rising_1 2 = .ok (.invokeinterface 13 2, 5) := by decide +kernel
theorem dX1_lambda_rising_1_7 : decode cX1_lambda_rising_1 7 = .ok (.aload_n 0, 1) := dk_42 (dk_at dksX1_lambda_rising_1_0 7 rfl rfl)
theorem dX1_lambda_rising_1_8 : decode cX1_lambda_rising_1 8 = .ok (.iload_n 2, 1) := dk_28 (dk_at dksX1_lambda_rising_1_0 8 rfl rfl)
theorem dX1_lambda_rising_1_9 : decode cX1_lambda_rising_1 9 = .ok (.invokeinterface 13 2, 5) := by decide +kernel
theorem dX1_lambda_rising_1_14 : decode cX1_lambda_rising_1 14 = .ok (.isub, 1) := dk_100 (dk_at dksX1_lambda_rising_1_0 14 rfl rfl)
theorem dX1_lambda_rising_1_15 : decode cX1_lambda_rising_1 15 = .ok (.ireturn, 1) := dk_172 (dk_at dksX1_lambda_rising_1_0 15 rfl rfl)
abbrev cX1_inTurn : ByteArray := prog_1_method_7_code
def yX1_inTurn : MethodName := ⟨RX1, "inTurn", "([LHomesQueue$Step;)LHomesQueue$Step;"⟩
theorem dX1_inTurn_0 : decode cX1_inTurn 0 = .ok (.aload_n 0, 1) := by decide +kernel
theorem dX1_inTurn_1 : decode cX1_inTurn 1 = .ok (.invokedynamic 30, 5) := by decide +kernel
theorem dX1_inTurn_6 : decode cX1_inTurn 6 = .ok (.areturn, 1) := by decide +kernel
abbrev cX1_lambda_inTurn_0 : ByteArray := prog_1_method_114_code
def yX1_lambda_inTurn_0 : MethodName := ⟨RX1, "lambda$inTurn$0", "([LHomesQueue$Step;II)I"⟩
def dkwX1_lambda_inTurn_0_2 : List UInt8 := [172]
abbrev dktX1_lambda_inTurn_0_2 : List UInt8 := dkwX1_lambda_inTurn_0_2 ++ []
def dkwX1_lambda_inTurn_0_1 : List UInt8 := [27, 28, 185, 0, 25, 3, 0, 54, 7, 21, 7, 153, 0, 6, 21, 7, 172, 132, 5, 1, 167, 255, 221, 3]
abbrev dktX1_lambda_inTurn_0_1 : List UInt8 := dkwX1_lambda_inTurn_0_1 ++ dktX1_lambda_inTurn_0_2
def dkwX1_lambda_inTurn_0_0 : List UInt8 := [42, 78, 45, 190, 54, 4, 3, 54, 5, 21, 5, 21, 4, 162, 0, 34, 45, 21, 5, 50, 58, 6, 25, 6]
abbrev dktX1_lambda_inTurn_0_0 : List UInt8 := dkwX1_lambda_inTurn_0_0 ++ dktX1_lambda_inTurn_0_1
theorem dksX1_lambda_inTurn_0_0 : cX1_lambda_inTurn_0.data.toList.drop 0 = dktX1_lambda_inTurn_0_0 := by decide +kernel
theorem dksX1_lambda_inTurn_0_1 : cX1_lambda_inTurn_0.data.toList.drop 24 = dktX1_lambda_inTurn_0_1 := dk_seg dksX1_lambda_inTurn_0_0 24 rfl rfl
theorem dksX1_lambda_inTurn_0_2 : cX1_lambda_inTurn_0.data.toList.drop 48 = dktX1_lambda_inTurn_0_2 := dk_seg dksX1_lambda_inTurn_0_1 24 rfl rfl
theorem dX1_lambda_inTurn_0_0 : decode cX1_lambda_inTurn_0 0 = .ok (.aload_n 0, 1) := dk_42 (dk_at dksX1_lambda_inTurn_0_0 0 rfl rfl)
theorem dX1_lambda_inTurn_0_1 : decode cX1_lambda_inTurn_0 1 = .ok (.astore_n 3, 1) := dk_78 (dk_at dksX1_lambda_inTurn_0_0 1 rfl rfl)
theorem dX1_lambda_inTurn_0_2 : decode cX1_lambda_inTurn_0 2 = .ok (.aload_n 3, 1) := dk_45 (dk_at dksX1_lambda_inTurn_0_0 2 rfl rfl)
theorem dX1_lambda_inTurn_0_3 : decode cX1_lambda_inTurn_0 3 = .ok (.arraylength, 1) := dk_190 (dk_at dksX1_lambda_inTurn_0_0 3 rfl rfl)
theorem dX1_lambda_inTurn_0_4 : decode cX1_lambda_inTurn_0 4 = .ok (.istore 4, 2) := dk_54 4 (dk_at dksX1_lambda_inTurn_0_0 4 rfl rfl)
theorem dX1_lambda_inTurn_0_6 : decode cX1_lambda_inTurn_0 6 = .ok (.iconst 0, 1) := dk_3 (dk_at dksX1_lambda_inTurn_0_0 6 rfl rfl)
theorem dX1_lambda_inTurn_0_7 : decode cX1_lambda_inTurn_0 7 = .ok (.istore 5, 2) := dk_54 5 (dk_at dksX1_lambda_inTurn_0_0 7 rfl rfl)
theorem dX1_lambda_inTurn_0_9 : decode cX1_lambda_inTurn_0 9 = .ok (.iload 5, 2) := dk_21 5 (dk_at dksX1_lambda_inTurn_0_0 9 rfl rfl)
theorem dX1_lambda_inTurn_0_11 : decode cX1_lambda_inTurn_0 11 = .ok (.iload 4, 2) := dk_21 4 (dk_at dksX1_lambda_inTurn_0_0 11 rfl rfl)
theorem dX1_lambda_inTurn_0_13 : decode cX1_lambda_inTurn_0 13 = .ok (.if_icmp .ge 34, 3) := dk_162 0 34 (dk_at dksX1_lambda_inTurn_0_0 13 rfl rfl)
theorem dX1_lambda_inTurn_0_16 : decode cX1_lambda_inTurn_0 16 = .ok (.aload_n 3, 1) := dk_45 (dk_at dksX1_lambda_inTurn_0_0 16 rfl rfl)
theorem dX1_lambda_inTurn_0_17 : decode cX1_lambda_inTurn_0 17 = .ok (.iload 5, 2) := dk_21 5 (dk_at dksX1_lambda_inTurn_0_0 17 rfl rfl)
theorem dX1_lambda_inTurn_0_19 : decode cX1_lambda_inTurn_0 19 = .ok (.aaload, 1) := dk_50 (dk_at dksX1_lambda_inTurn_0_0 19 rfl rfl)
theorem dX1_lambda_inTurn_0_20 : decode cX1_lambda_inTurn_0 20 = .ok (.astore 6, 2) := dk_58 6 (dk_at dksX1_lambda_inTurn_0_0 20 rfl rfl)
theorem dX1_lambda_inTurn_0_22 : decode cX1_lambda_inTurn_0 22 = .ok (.aload 6, 2) := dk_25 6 (dk_at dksX1_lambda_inTurn_0_0 22 rfl rfl)
theorem dX1_lambda_inTurn_0_24 : decode cX1_lambda_inTurn_0 24 = .ok (.iload_n 1, 1) := dk_27 (dk_at dksX1_lambda_inTurn_0_1 0 rfl rfl)
theorem dX1_lambda_inTurn_0_25 : decode cX1_lambda_inTurn_0 25 = .ok (.iload_n 2, 1) := dk_28 (dk_at dksX1_lambda_inTurn_0_1 1 rfl rfl)
theorem dX1_lambda_inTurn_0_26 : decode cX1_lambda_inTurn_0 26 = .ok (.invokeinterface 25 3, 5) := by decide +kernel
theorem dX1_lambda_inTurn_0_31 : decode cX1_lambda_inTurn_0 31 = .ok (.istore 7, 2) := dk_54 7 (dk_at dksX1_lambda_inTurn_0_1 7 rfl rfl)
theorem dX1_lambda_inTurn_0_33 : decode cX1_lambda_inTurn_0 33 = .ok (.iload 7, 2) := dk_21 7 (dk_at dksX1_lambda_inTurn_0_1 9 rfl rfl)
theorem dX1_lambda_inTurn_0_35 : decode cX1_lambda_inTurn_0 35 = .ok (.ifCond .eq 6, 3) := dk_153 0 6 (dk_at dksX1_lambda_inTurn_0_1 11 rfl rfl)
theorem dX1_lambda_inTurn_0_38 : decode cX1_lambda_inTurn_0 38 = .ok (.iload 7, 2) := dk_21 7 (dk_at dksX1_lambda_inTurn_0_1 14 rfl rfl)
theorem dX1_lambda_inTurn_0_40 : decode cX1_lambda_inTurn_0 40 = .ok (.ireturn, 1) := dk_172 (dk_at dksX1_lambda_inTurn_0_1 16 rfl rfl)
theorem dX1_lambda_inTurn_0_41 : decode cX1_lambda_inTurn_0 41 = .ok (.iinc 5 1, 3) := dk_132 5 1 (dk_at dksX1_lambda_inTurn_0_1 17 rfl rfl)
theorem dX1_lambda_inTurn_0_44 : decode cX1_lambda_inTurn_0 44 = .ok (.goto (-35), 3) := dk_167 255 221 (dk_at dksX1_lambda_inTurn_0_1 20 rfl rfl)
theorem dX1_lambda_inTurn_0_47 : decode cX1_lambda_inTurn_0 47 = .ok (.iconst 0, 1) := dk_3 (dk_at dksX1_lambda_inTurn_0_1 23 rfl rfl)
theorem dX1_lambda_inTurn_0_48 : decode cX1_lambda_inTurn_0 48 = .ok (.ireturn, 1) := dk_172 (dk_at dksX1_lambda_inTurn_0_2 0 rfl rfl)
abbrev cX1_one : ByteArray := prog_1_method_2_code
def yX1_one : MethodName := ⟨RX1, "one", "(Z)I"⟩
def dkwX1_one_0 : List UInt8 := [26, 153, 0, 7, 4, 167, 0, 4, 3, 172]
abbrev dktX1_one_0 : List UInt8 := dkwX1_one_0 ++ []
theorem dksX1_one_0 : cX1_one.data.toList.drop 0 = dktX1_one_0 := by decide +kernel
theorem dX1_one_0 : decode cX1_one 0 = .ok (.iload_n 0, 1) := dk_26 (dk_at dksX1_one_0 0 rfl rfl)
theorem dX1_one_1 : decode cX1_one 1 = .ok (.ifCond .eq 7, 3) := dk_153 0 7 (dk_at dksX1_one_0 1 rfl rfl)
theorem dX1_one_4 : decode cX1_one 4 = .ok (.iconst 1, 1) := dk_4 (dk_at dksX1_one_0 4 rfl rfl)
theorem dX1_one_5 : decode cX1_one 5 = .ok (.goto 4, 3) := dk_167 0 4 (dk_at dksX1_one_0 5 rfl rfl)
theorem dX1_one_8 : decode cX1_one 8 = .ok (.iconst 0, 1) := dk_3 (dk_at dksX1_one_0 8 rfl rfl)
theorem dX1_one_9 : decode cX1_one 9 = .ok (.ireturn, 1) := dk_172 (dk_at dksX1_one_0 9 rfl rfl)
abbrev cX1_sooner : ByteArray := prog_1_method_9_code
def yX1_sooner : MethodName := ⟨RX1, "sooner", "(LHomesQueue$Check;)LHomesQueue$Step;"⟩
theorem dX1_sooner_0 : decode cX1_sooner 0 = .ok (.aload_n 0, 1) := by decide +kernel
theorem dX1_sooner_1 : decode cX1_sooner 1 = .ok (.invokedynamic 36, 5) := by decide +kernel
theorem dX1_sooner_6 : decode cX1_sooner 6 = .ok (.areturn, 1) := by decide +kernel
abbrev cX1_lambda_sooner_2 : ByteArray := prog_1_method_112_code
def yX1_lambda_sooner_2 : MethodName := ⟨RX1, "lambda$sooner$2", "(LHomesQueue$Check;II)I"⟩
def dkwX1_lambda_sooner_2_0 : List UInt8 := [42, 28, 185, 0, 1, 2, 0, 184, 0, 7, 42, 27, 185, 0, 1, 2, 0, 184, 0, 7, 100, 172]
abbrev dktX1_lambda_sooner_2_0 : List UInt8 := dkwX1_lambda_sooner_2_0 ++ []
theorem dksX1_lambda_sooner_2_0 : cX1_lambda_sooner_2.data.toList.drop 0 = dktX1_lambda_sooner_2_0 := by decide +kernel
theorem dX1_lambda_sooner_2_0 : decode cX1_lambda_sooner_2 0 = .ok (.aload_n 0, 1) := dk_42 (dk_at dksX1_lambda_sooner_2_0 0 rfl rfl)
theorem dX1_lambda_sooner_2_1 : decode cX1_lambda_sooner_2 1 = .ok (.iload_n 2, 1) := dk_28 (dk_at dksX1_lambda_sooner_2_0 1 rfl rfl)
theorem dX1_lambda_sooner_2_2 : decode cX1_lambda_sooner_2 2 = .ok (.invokeinterface 1 2, 5) := by decide +kernel
theorem dX1_lambda_sooner_2_7 : decode cX1_lambda_sooner_2 7 = .ok (.invokestatic 7, 3) := dk_184 0 7 (dk_at dksX1_lambda_sooner_2_0 7 rfl rfl)
theorem dX1_lambda_sooner_2_10 : decode cX1_lambda_sooner_2 10 = .ok (.aload_n 0, 1) := dk_42 (dk_at dksX1_lambda_sooner_2_0 10 rfl rfl)
theorem dX1_lambda_sooner_2_11 : decode cX1_lambda_sooner_2 11 = .ok (.iload_n 1, 1) := dk_27 (dk_at dksX1_lambda_sooner_2_0 11 rfl rfl)
theorem dX1_lambda_sooner_2_12 : decode cX1_lambda_sooner_2 12 = .ok (.invokeinterface 1 2, 5) := by decide +kernel
theorem dX1_lambda_sooner_2_17 : decode cX1_lambda_sooner_2 17 = .ok (.invokestatic 7, 3) := dk_184 0 7 (dk_at dksX1_lambda_sooner_2_0 17 rfl rfl)
theorem dX1_lambda_sooner_2_20 : decode cX1_lambda_sooner_2 20 = .ok (.isub, 1) := dk_100 (dk_at dksX1_lambda_sooner_2_0 20 rfl rfl)
theorem dX1_lambda_sooner_2_21 : decode cX1_lambda_sooner_2 21 = .ok (.ireturn, 1) := dk_172 (dk_at dksX1_lambda_sooner_2_0 21 rfl rfl)
abbrev cX1_status : ByteArray := prog_1_method_13_code
def yX1_status : MethodName := ⟨RX1, "status", "()I"⟩
theorem dX1_status_0 : decode cX1_status 0 = .ok (.aload_n 0, 1) := by decide +kernel
theorem dX1_status_1 : decode cX1_status 1 = .ok (.getfield 127, 3) := by decide +kernel
theorem dX1_status_4 : decode cX1_status 4 = .ok (.ireturn, 1) := by decide +kernel
abbrev cX1_feed : ByteArray := prog_1_method_20_code
def yX1_feed : MethodName := ⟨RX1, "feed", "(IIIII)I"⟩
def dkwX1_feed_1 : List UInt8 := [79, 89, 4, 28, 79, 89, 5, 29, 79, 89, 6, 21, 4, 79, 89, 7, 21, 5, 79, 182, 0, 151, 172]
abbrev dktX1_feed_1 : List UInt8 := dkwX1_feed_1 ++ []
def dkwX1_feed_0 : List UInt8 := [42, 180, 0, 148, 16, 20, 96, 17, 3, 132, 164, 0, 7, 2, 167, 0, 32, 42, 8, 188, 10, 89, 3, 27]
abbrev dktX1_feed_0 : List UInt8 := dkwX1_feed_0 ++ dktX1_feed_1
theorem dksX1_feed_0 : cX1_feed.data.toList.drop 0 = dktX1_feed_0 := by decide +kernel
theorem dksX1_feed_1 : cX1_feed.data.toList.drop 24 = dktX1_feed_1 := dk_seg dksX1_feed_0 24 rfl rfl
theorem dX1_feed_0 : decode cX1_feed 0 = .ok (.aload_n 0, 1) := dk_42 (dk_at dksX1_feed_0 0 rfl rfl)
theorem dX1_feed_1 : decode cX1_feed 1 = .ok (.getfield 148, 3) := dk_180 0 148 (dk_at dksX1_feed_0 1 rfl rfl)
theorem dX1_feed_4 : decode cX1_feed 4 = .ok (.bipush 20, 2) := dk_16 20 (dk_at dksX1_feed_0 4 rfl rfl)
theorem dX1_feed_6 : decode cX1_feed 6 = .ok (.iadd, 1) := dk_96 (dk_at dksX1_feed_0 6 rfl rfl)
theorem dX1_feed_7 : decode cX1_feed 7 = .ok (.sipush 900, 3) := dk_17 3 132 (dk_at dksX1_feed_0 7 rfl rfl)
theorem dX1_feed_10 : decode cX1_feed 10 = .ok (.if_icmp .le 7, 3) := dk_164 0 7 (dk_at dksX1_feed_0 10 rfl rfl)
theorem dX1_feed_13 : decode cX1_feed 13 = .ok (.iconst (-1), 1) := dk_2 (dk_at dksX1_feed_0 13 rfl rfl)
theorem dX1_feed_14 : decode cX1_feed 14 = .ok (.goto 32, 3) := dk_167 0 32 (dk_at dksX1_feed_0 14 rfl rfl)
theorem dX1_feed_17 : decode cX1_feed 17 = .ok (.aload_n 0, 1) := dk_42 (dk_at dksX1_feed_0 17 rfl rfl)
theorem dX1_feed_18 : decode cX1_feed 18 = .ok (.iconst 5, 1) := dk_8 (dk_at dksX1_feed_0 18 rfl rfl)
theorem dX1_feed_19 : decode cX1_feed 19 = .ok (.newarray .int, 2) := dk_188_10 (dk_at dksX1_feed_0 19 rfl rfl)
theorem dX1_feed_21 : decode cX1_feed 21 = .ok (.dup, 1) := dk_89 (dk_at dksX1_feed_0 21 rfl rfl)
theorem dX1_feed_22 : decode cX1_feed 22 = .ok (.iconst 0, 1) := dk_3 (dk_at dksX1_feed_0 22 rfl rfl)
theorem dX1_feed_23 : decode cX1_feed 23 = .ok (.iload_n 1, 1) := dk_27 (dk_at dksX1_feed_0 23 rfl rfl)
theorem dX1_feed_24 : decode cX1_feed 24 = .ok (.iastore, 1) := dk_79 (dk_at dksX1_feed_1 0 rfl rfl)
theorem dX1_feed_25 : decode cX1_feed 25 = .ok (.dup, 1) := dk_89 (dk_at dksX1_feed_1 1 rfl rfl)
theorem dX1_feed_26 : decode cX1_feed 26 = .ok (.iconst 1, 1) := dk_4 (dk_at dksX1_feed_1 2 rfl rfl)
theorem dX1_feed_27 : decode cX1_feed 27 = .ok (.iload_n 2, 1) := dk_28 (dk_at dksX1_feed_1 3 rfl rfl)
theorem dX1_feed_28 : decode cX1_feed 28 = .ok (.iastore, 1) := dk_79 (dk_at dksX1_feed_1 4 rfl rfl)
theorem dX1_feed_29 : decode cX1_feed 29 = .ok (.dup, 1) := dk_89 (dk_at dksX1_feed_1 5 rfl rfl)
theorem dX1_feed_30 : decode cX1_feed 30 = .ok (.iconst 2, 1) := dk_5 (dk_at dksX1_feed_1 6 rfl rfl)
theorem dX1_feed_31 : decode cX1_feed 31 = .ok (.iload_n 3, 1) := dk_29 (dk_at dksX1_feed_1 7 rfl rfl)
theorem dX1_feed_32 : decode cX1_feed 32 = .ok (.iastore, 1) := dk_79 (dk_at dksX1_feed_1 8 rfl rfl)
theorem dX1_feed_33 : decode cX1_feed 33 = .ok (.dup, 1) := dk_89 (dk_at dksX1_feed_1 9 rfl rfl)
theorem dX1_feed_34 : decode cX1_feed 34 = .ok (.iconst 3, 1) := dk_6 (dk_at dksX1_feed_1 10 rfl rfl)
theorem dX1_feed_35 : decode cX1_feed 35 = .ok (.iload 4, 2) := dk_21 4 (dk_at dksX1_feed_1 11 rfl rfl)
theorem dX1_feed_37 : decode cX1_feed 37 = .ok (.iastore, 1) := dk_79 (dk_at dksX1_feed_1 13 rfl rfl)
theorem dX1_feed_38 : decode cX1_feed 38 = .ok (.dup, 1) := dk_89 (dk_at dksX1_feed_1 14 rfl rfl)
theorem dX1_feed_39 : decode cX1_feed 39 = .ok (.iconst 4, 1) := dk_7 (dk_at dksX1_feed_1 15 rfl rfl)
theorem dX1_feed_40 : decode cX1_feed 40 = .ok (.iload 5, 2) := dk_21 5 (dk_at dksX1_feed_1 16 rfl rfl)
theorem dX1_feed_42 : decode cX1_feed 42 = .ok (.iastore, 1) := dk_79 (dk_at dksX1_feed_1 18 rfl rfl)
theorem dX1_feed_43 : decode cX1_feed 43 = .ok (.invokevirtual 151, 3) := dk_182 0 151 (dk_at dksX1_feed_1 19 rfl rfl)
theorem dX1_feed_46 : decode cX1_feed 46 = .ok (.ireturn, 1) := dk_172 (dk_at dksX1_feed_1 22 rfl rfl)
abbrev cX1_feeds : ByteArray := prog_1_method_21_code
def yX1_feeds : MethodName := ⟨RX1, "feeds", "([I)I"⟩
def dkwX1_feeds_3 : List UInt8 := [172]
abbrev dktX1_feeds_3 : List UInt8 := dkwX1_feeds_3 ++ []
def dkwX1_feeds_2 : List UInt8 := [180, 0, 148, 4, 96, 181, 0, 148, 132, 6, 248, 167, 255, 223, 132, 4, 1, 167, 255, 201, 42, 180, 0, 148]
abbrev dktX1_feeds_2 : List UInt8 := dkwX1_feeds_2 ++ dktX1_feeds_3
def dkwX1_feeds_1 : List UInt8 := [21, 6, 155, 0, 34, 42, 180, 0, 116, 42, 180, 0, 148, 21, 5, 21, 6, 122, 145, 84, 42, 89]
abbrev dktX1_feeds_1 : List UInt8 := dkwX1_feeds_1 ++ dktX1_feeds_2
def dkwX1_feeds_0 : List UInt8 := [43, 77, 44, 190, 62, 3, 54, 4, 21, 4, 29, 162, 0, 55, 44, 21, 4, 46, 54, 5, 16, 24, 54, 6]
abbrev dktX1_feeds_0 : List UInt8 := dkwX1_feeds_0 ++ dktX1_feeds_1
theorem dksX1_feeds_0 : cX1_feeds.data.toList.drop 0 = dktX1_feeds_0 := by decide +kernel
theorem dksX1_feeds_1 : cX1_feeds.data.toList.drop 24 = dktX1_feeds_1 := dk_seg dksX1_feeds_0 24 rfl rfl
theorem dksX1_feeds_2 : cX1_feeds.data.toList.drop 46 = dktX1_feeds_2 := dk_seg dksX1_feeds_1 22 rfl rfl
theorem dksX1_feeds_3 : cX1_feeds.data.toList.drop 70 = dktX1_feeds_3 := dk_seg dksX1_feeds_2 24 rfl rfl
theorem dX1_feeds_0 : decode cX1_feeds 0 = .ok (.aload_n 1, 1) := dk_43 (dk_at dksX1_feeds_0 0 rfl rfl)
theorem dX1_feeds_1 : decode cX1_feeds 1 = .ok (.astore_n 2, 1) := dk_77 (dk_at dksX1_feeds_0 1 rfl rfl)
theorem dX1_feeds_2 : decode cX1_feeds 2 = .ok (.aload_n 2, 1) := dk_44 (dk_at dksX1_feeds_0 2 rfl rfl)
theorem dX1_feeds_3 : decode cX1_feeds 3 = .ok (.arraylength, 1) := dk_190 (dk_at dksX1_feeds_0 3 rfl rfl)
theorem dX1_feeds_4 : decode cX1_feeds 4 = .ok (.istore_n 3, 1) := dk_62 (dk_at dksX1_feeds_0 4 rfl rfl)
theorem dX1_feeds_5 : decode cX1_feeds 5 = .ok (.iconst 0, 1) := dk_3 (dk_at dksX1_feeds_0 5 rfl rfl)
theorem dX1_feeds_6 : decode cX1_feeds 6 = .ok (.istore 4, 2) := dk_54 4 (dk_at dksX1_feeds_0 6 rfl rfl)
theorem dX1_feeds_8 : decode cX1_feeds 8 = .ok (.iload 4, 2) := dk_21 4 (dk_at dksX1_feeds_0 8 rfl rfl)
theorem dX1_feeds_10 : decode cX1_feeds 10 = .ok (.iload_n 3, 1) := dk_29 (dk_at dksX1_feeds_0 10 rfl rfl)
theorem dX1_feeds_11 : decode cX1_feeds 11 = .ok (.if_icmp .ge 55, 3) := dk_162 0 55 (dk_at dksX1_feeds_0 11 rfl rfl)
theorem dX1_feeds_14 : decode cX1_feeds 14 = .ok (.aload_n 2, 1) := dk_44 (dk_at dksX1_feeds_0 14 rfl rfl)
theorem dX1_feeds_15 : decode cX1_feeds 15 = .ok (.iload 4, 2) := dk_21 4 (dk_at dksX1_feeds_0 15 rfl rfl)
theorem dX1_feeds_17 : decode cX1_feeds 17 = .ok (.iaload, 1) := dk_46 (dk_at dksX1_feeds_0 17 rfl rfl)
theorem dX1_feeds_18 : decode cX1_feeds 18 = .ok (.istore 5, 2) := dk_54 5 (dk_at dksX1_feeds_0 18 rfl rfl)
theorem dX1_feeds_20 : decode cX1_feeds 20 = .ok (.bipush 24, 2) := dk_16 24 (dk_at dksX1_feeds_0 20 rfl rfl)
theorem dX1_feeds_22 : decode cX1_feeds 22 = .ok (.istore 6, 2) := dk_54 6 (dk_at dksX1_feeds_0 22 rfl rfl)
theorem dX1_feeds_24 : decode cX1_feeds 24 = .ok (.iload 6, 2) := dk_21 6 (dk_at dksX1_feeds_1 0 rfl rfl)
theorem dX1_feeds_26 : decode cX1_feeds 26 = .ok (.ifCond .lt 34, 3) := dk_155 0 34 (dk_at dksX1_feeds_1 2 rfl rfl)
theorem dX1_feeds_29 : decode cX1_feeds 29 = .ok (.aload_n 0, 1) := dk_42 (dk_at dksX1_feeds_1 5 rfl rfl)
theorem dX1_feeds_30 : decode cX1_feeds 30 = .ok (.getfield 116, 3) := dk_180 0 116 (dk_at dksX1_feeds_1 6 rfl rfl)
theorem dX1_feeds_33 : decode cX1_feeds 33 = .ok (.aload_n 0, 1) := dk_42 (dk_at dksX1_feeds_1 9 rfl rfl)
theorem dX1_feeds_34 : decode cX1_feeds 34 = .ok (.getfield 148, 3) := dk_180 0 148 (dk_at dksX1_feeds_1 10 rfl rfl)
theorem dX1_feeds_37 : decode cX1_feeds 37 = .ok (.iload 5, 2) := dk_21 5 (dk_at dksX1_feeds_1 13 rfl rfl)
theorem dX1_feeds_39 : decode cX1_feeds 39 = .ok (.iload 6, 2) := dk_21 6 (dk_at dksX1_feeds_1 15 rfl rfl)
theorem dX1_feeds_41 : decode cX1_feeds 41 = .ok (.ishr, 1) := dk_122 (dk_at dksX1_feeds_1 17 rfl rfl)
theorem dX1_feeds_42 : decode cX1_feeds 42 = .ok (.i2b, 1) := dk_145 (dk_at dksX1_feeds_1 18 rfl rfl)
theorem dX1_feeds_43 : decode cX1_feeds 43 = .ok (.bastore, 1) := dk_84 (dk_at dksX1_feeds_1 19 rfl rfl)
theorem dX1_feeds_44 : decode cX1_feeds 44 = .ok (.aload_n 0, 1) := dk_42 (dk_at dksX1_feeds_1 20 rfl rfl)
theorem dX1_feeds_45 : decode cX1_feeds 45 = .ok (.dup, 1) := dk_89 (dk_at dksX1_feeds_1 21 rfl rfl)
theorem dX1_feeds_46 : decode cX1_feeds 46 = .ok (.getfield 148, 3) := dk_180 0 148 (dk_at dksX1_feeds_2 0 rfl rfl)
theorem dX1_feeds_49 : decode cX1_feeds 49 = .ok (.iconst 1, 1) := dk_4 (dk_at dksX1_feeds_2 3 rfl rfl)
theorem dX1_feeds_50 : decode cX1_feeds 50 = .ok (.iadd, 1) := dk_96 (dk_at dksX1_feeds_2 4 rfl rfl)
theorem dX1_feeds_51 : decode cX1_feeds 51 = .ok (.putfield 148, 3) := dk_181 0 148 (dk_at dksX1_feeds_2 5 rfl rfl)
theorem dX1_feeds_54 : decode cX1_feeds 54 = .ok (.iinc 6 (-8), 3) := dk_132 6 248 (dk_at dksX1_feeds_2 8 rfl rfl)
theorem dX1_feeds_57 : decode cX1_feeds 57 = .ok (.goto (-33), 3) := dk_167 255 223 (dk_at dksX1_feeds_2 11 rfl rfl)
theorem dX1_feeds_60 : decode cX1_feeds 60 = .ok (.iinc 4 1, 3) := dk_132 4 1 (dk_at dksX1_feeds_2 14 rfl rfl)
theorem dX1_feeds_63 : decode cX1_feeds 63 = .ok (.goto (-55), 3) := dk_167 255 201 (dk_at dksX1_feeds_2 17 rfl rfl)
theorem dX1_feeds_66 : decode cX1_feeds 66 = .ok (.aload_n 0, 1) := dk_42 (dk_at dksX1_feeds_2 20 rfl rfl)
theorem dX1_feeds_67 : decode cX1_feeds 67 = .ok (.getfield 148, 3) := dk_180 0 148 (dk_at dksX1_feeds_2 21 rfl rfl)
theorem dX1_feeds_70 : decode cX1_feeds 70 = .ok (.ireturn, 1) := dk_172 (dk_at dksX1_feeds_3 0 rfl rfl)
abbrev cX1_load : ByteArray := prog_1_method_22_code
def yX1_load : MethodName := ⟨RX1, "load", "(I)I"⟩
def dkwX1_load_5 : List UInt8 := [180, 0, 51, 182, 0, 130, 172]
abbrev dktX1_load_5 : List UInt8 := dkwX1_load_5 ++ []
def dkwX1_load_4 : List UInt8 := [180, 0, 180, 181, 0, 51, 42, 44, 180, 0, 183, 181, 0, 70, 42, 180, 0, 77, 182, 0, 186, 42]
abbrev dktX1_load_4 : List UInt8 := dkwX1_load_4 ++ dktX1_load_5
def dkwX1_load_3 : List UInt8 := [180, 0, 171, 181, 0, 84, 42, 16, 9, 182, 0, 174, 172, 42, 44, 180, 0, 177, 181, 0, 39, 42, 44]
abbrev dktX1_load_3 : List UInt8 := dkwX1_load_3 ++ dktX1_load_4
def dkwX1_load_2 : List UInt8 := [42, 27, 183, 0, 160, 77, 44, 182, 0, 163, 167, 0, 27, 78, 42, 45, 180, 0, 168, 181, 0, 80, 42, 45]
abbrev dktX1_load_2 : List UInt8 := dkwX1_load_2 ++ dktX1_load_3
def dkwX1_load_1 : List UInt8 := [154, 0, 5, 2, 172, 42, 3, 181, 0, 148, 42, 3, 181, 0, 80, 42, 2, 181, 0, 84, 187, 0, 158, 89]
abbrev dktX1_load_1 : List UInt8 := dkwX1_load_1 ++ dktX1_load_2
def dkwX1_load_0 : List UInt8 := [42, 27, 133, 9, 42, 180, 0, 148, 133, 184, 0, 134, 153, 0, 7, 3, 167, 0, 4, 4, 182, 0, 155]
abbrev dktX1_load_0 : List UInt8 := dkwX1_load_0 ++ dktX1_load_1
theorem dksX1_load_0 : cX1_load.data.toList.drop 0 = dktX1_load_0 := by decide +kernel
theorem dksX1_load_1 : cX1_load.data.toList.drop 23 = dktX1_load_1 := dk_seg dksX1_load_0 23 rfl rfl
theorem dksX1_load_2 : cX1_load.data.toList.drop 47 = dktX1_load_2 := dk_seg dksX1_load_1 24 rfl rfl
theorem dksX1_load_3 : cX1_load.data.toList.drop 71 = dktX1_load_3 := dk_seg dksX1_load_2 24 rfl rfl
theorem dksX1_load_4 : cX1_load.data.toList.drop 94 = dktX1_load_4 := dk_seg dksX1_load_3 23 rfl rfl
theorem dksX1_load_5 : cX1_load.data.toList.drop 116 = dktX1_load_5 := dk_seg dksX1_load_4 22 rfl rfl
theorem dX1_load_0 : decode cX1_load 0 = .ok (.aload_n 0, 1) := dk_42 (dk_at dksX1_load_0 0 rfl rfl)
theorem dX1_load_1 : decode cX1_load 1 = .ok (.iload_n 1, 1) := dk_27 (dk_at dksX1_load_0 1 rfl rfl)
theorem dX1_load_2 : decode cX1_load 2 = .ok (.i2l, 1) := dk_133 (dk_at dksX1_load_0 2 rfl rfl)
theorem dX1_load_3 : decode cX1_load 3 = .ok (.lconst 0, 1) := dk_9 (dk_at dksX1_load_0 3 rfl rfl)
theorem dX1_load_4 : decode cX1_load 4 = .ok (.aload_n 0, 1) := dk_42 (dk_at dksX1_load_0 4 rfl rfl)
theorem dX1_load_5 : decode cX1_load 5 = .ok (.getfield 148, 3) := dk_180 0 148 (dk_at dksX1_load_0 5 rfl rfl)
theorem dX1_load_8 : decode cX1_load 8 = .ok (.i2l, 1) := dk_133 (dk_at dksX1_load_0 8 rfl rfl)
theorem dX1_load_9 : decode cX1_load 9 = .ok (.invokestatic 134, 3) := dk_184 0 134 (dk_at dksX1_load_0 9 rfl rfl)
theorem dX1_load_12 : decode cX1_load 12 = .ok (.ifCond .eq 7, 3) := dk_153 0 7 (dk_at dksX1_load_0 12 rfl rfl)
theorem dX1_load_15 : decode cX1_load 15 = .ok (.iconst 0, 1) := dk_3 (dk_at dksX1_load_0 15 rfl rfl)
theorem dX1_load_16 : decode cX1_load 16 = .ok (.goto 4, 3) := dk_167 0 4 (dk_at dksX1_load_0 16 rfl rfl)
theorem dX1_load_19 : decode cX1_load 19 = .ok (.iconst 1, 1) := dk_4 (dk_at dksX1_load_0 19 rfl rfl)
theorem dX1_load_20 : decode cX1_load 20 = .ok (.invokevirtual 155, 3) := dk_182 0 155 (dk_at dksX1_load_0 20 rfl rfl)
theorem dX1_load_23 : decode cX1_load 23 = .ok (.ifCond .ne 5, 3) := dk_154 0 5 (dk_at dksX1_load_1 0 rfl rfl)
theorem dX1_load_26 : decode cX1_load 26 = .ok (.iconst (-1), 1) := dk_2 (dk_at dksX1_load_1 3 rfl rfl)
theorem dX1_load_27 : decode cX1_load 27 = .ok (.ireturn, 1) := dk_172 (dk_at dksX1_load_1 4 rfl rfl)
theorem dX1_load_28 : decode cX1_load 28 = .ok (.aload_n 0, 1) := dk_42 (dk_at dksX1_load_1 5 rfl rfl)
theorem dX1_load_29 : decode cX1_load 29 = .ok (.iconst 0, 1) := dk_3 (dk_at dksX1_load_1 6 rfl rfl)
theorem dX1_load_30 : decode cX1_load 30 = .ok (.putfield 148, 3) := dk_181 0 148 (dk_at dksX1_load_1 7 rfl rfl)
theorem dX1_load_33 : decode cX1_load 33 = .ok (.aload_n 0, 1) := dk_42 (dk_at dksX1_load_1 10 rfl rfl)
theorem dX1_load_34 : decode cX1_load 34 = .ok (.iconst 0, 1) := dk_3 (dk_at dksX1_load_1 11 rfl rfl)
theorem dX1_load_35 : decode cX1_load 35 = .ok (.putfield 80, 3) := dk_181 0 80 (dk_at dksX1_load_1 12 rfl rfl)
theorem dX1_load_38 : decode cX1_load 38 = .ok (.aload_n 0, 1) := dk_42 (dk_at dksX1_load_1 15 rfl rfl)
theorem dX1_load_39 : decode cX1_load 39 = .ok (.iconst (-1), 1) := dk_2 (dk_at dksX1_load_1 16 rfl rfl)
theorem dX1_load_40 : decode cX1_load 40 = .ok (.putfield 84, 3) := dk_181 0 84 (dk_at dksX1_load_1 17 rfl rfl)
theorem dX1_load_43 : decode cX1_load 43 = .ok (.new 158, 3) := dk_187 0 158 (dk_at dksX1_load_1 20 rfl rfl)
theorem dX1_load_46 : decode cX1_load 46 = .ok (.dup, 1) := dk_89 (dk_at dksX1_load_1 23 rfl rfl)
theorem dX1_load_47 : decode cX1_load 47 = .ok (.aload_n 0, 1) := dk_42 (dk_at dksX1_load_2 0 rfl rfl)
theorem dX1_load_48 : decode cX1_load 48 = .ok (.iload_n 1, 1) := dk_27 (dk_at dksX1_load_2 1 rfl rfl)
theorem dX1_load_49 : decode cX1_load 49 = .ok (.invokespecial 160, 3) := dk_183 0 160 (dk_at dksX1_load_2 2 rfl rfl)
theorem dX1_load_52 : decode cX1_load 52 = .ok (.astore_n 2, 1) := dk_77 (dk_at dksX1_load_2 5 rfl rfl)
theorem dX1_load_53 : decode cX1_load 53 = .ok (.aload_n 2, 1) := dk_44 (dk_at dksX1_load_2 6 rfl rfl)
theorem dX1_load_54 : decode cX1_load 54 = .ok (.invokevirtual 163, 3) := dk_182 0 163 (dk_at dksX1_load_2 7 rfl rfl)
theorem dX1_load_57 : decode cX1_load 57 = .ok (.goto 27, 3) := dk_167 0 27 (dk_at dksX1_load_2 10 rfl rfl)
theorem dX1_load_60 : decode cX1_load 60 = .ok (.astore_n 3, 1) := dk_78 (dk_at dksX1_load_2 13 rfl rfl)
theorem dX1_load_61 : decode cX1_load 61 = .ok (.aload_n 0, 1) := dk_42 (dk_at dksX1_load_2 14 rfl rfl)
theorem dX1_load_62 : decode cX1_load 62 = .ok (.aload_n 3, 1) := dk_45 (dk_at dksX1_load_2 15 rfl rfl)
theorem dX1_load_63 : decode cX1_load 63 = .ok (.getfield 168, 3) := dk_180 0 168 (dk_at dksX1_load_2 16 rfl rfl)
theorem dX1_load_66 : decode cX1_load 66 = .ok (.putfield 80, 3) := dk_181 0 80 (dk_at dksX1_load_2 19 rfl rfl)
theorem dX1_load_69 : decode cX1_load 69 = .ok (.aload_n 0, 1) := dk_42 (dk_at dksX1_load_2 22 rfl rfl)
theorem dX1_load_70 : decode cX1_load 70 = .ok (.aload_n 3, 1) := dk_45 (dk_at dksX1_load_2 23 rfl rfl)
theorem dX1_load_71 : decode cX1_load 71 = .ok (.getfield 171, 3) := dk_180 0 171 (dk_at dksX1_load_3 0 rfl rfl)
theorem dX1_load_74 : decode cX1_load 74 = .ok (.putfield 84, 3) := dk_181 0 84 (dk_at dksX1_load_3 3 rfl rfl)
theorem dX1_load_77 : decode cX1_load 77 = .ok (.aload_n 0, 1) := dk_42 (dk_at dksX1_load_3 6 rfl rfl)
theorem dX1_load_78 : decode cX1_load 78 = .ok (.bipush 9, 2) := dk_16 9 (dk_at dksX1_load_3 7 rfl rfl)
theorem dX1_load_80 : decode cX1_load 80 = .ok (.invokevirtual 174, 3) := dk_182 0 174 (dk_at dksX1_load_3 9 rfl rfl)
theorem dX1_load_83 : decode cX1_load 83 = .ok (.ireturn, 1) := dk_172 (dk_at dksX1_load_3 12 rfl rfl)
theorem dX1_load_84 : decode cX1_load 84 = .ok (.aload_n 0, 1) := dk_42 (dk_at dksX1_load_3 13 rfl rfl)
theorem dX1_load_85 : decode cX1_load 85 = .ok (.aload_n 2, 1) := dk_44 (dk_at dksX1_load_3 14 rfl rfl)
theorem dX1_load_86 : decode cX1_load 86 = .ok (.getfield 177, 3) := dk_180 0 177 (dk_at dksX1_load_3 15 rfl rfl)
theorem dX1_load_89 : decode cX1_load 89 = .ok (.putfield 39, 3) := dk_181 0 39 (dk_at dksX1_load_3 18 rfl rfl)
theorem dX1_load_92 : decode cX1_load 92 = .ok (.aload_n 0, 1) := dk_42 (dk_at dksX1_load_3 21 rfl rfl)
theorem dX1_load_93 : decode cX1_load 93 = .ok (.aload_n 2, 1) := dk_44 (dk_at dksX1_load_3 22 rfl rfl)
theorem dX1_load_94 : decode cX1_load 94 = .ok (.getfield 180, 3) := dk_180 0 180 (dk_at dksX1_load_4 0 rfl rfl)
theorem dX1_load_97 : decode cX1_load 97 = .ok (.putfield 51, 3) := dk_181 0 51 (dk_at dksX1_load_4 3 rfl rfl)
theorem dX1_load_100 : decode cX1_load 100 = .ok (.aload_n 0, 1) := dk_42 (dk_at dksX1_load_4 6 rfl rfl)
theorem dX1_load_101 : decode cX1_load 101 = .ok (.aload_n 2, 1) := dk_44 (dk_at dksX1_load_4 7 rfl rfl)
theorem dX1_load_102 : decode cX1_load 102 = .ok (.getfield 183, 3) := dk_180 0 183 (dk_at dksX1_load_4 8 rfl rfl)
theorem dX1_load_105 : decode cX1_load 105 = .ok (.putfield 70, 3) := dk_181 0 70 (dk_at dksX1_load_4 11 rfl rfl)
theorem dX1_load_108 : decode cX1_load 108 = .ok (.aload_n 0, 1) := dk_42 (dk_at dksX1_load_4 14 rfl rfl)
theorem dX1_load_109 : decode cX1_load 109 = .ok (.getfield 77, 3) := dk_180 0 77 (dk_at dksX1_load_4 15 rfl rfl)
theorem dX1_load_112 : decode cX1_load 112 = .ok (.invokevirtual 186, 3) := dk_182 0 186 (dk_at dksX1_load_4 18 rfl rfl)
theorem dX1_load_115 : decode cX1_load 115 = .ok (.aload_n 0, 1) := dk_42 (dk_at dksX1_load_4 21 rfl rfl)
theorem dX1_load_116 : decode cX1_load 116 = .ok (.getfield 51, 3) := dk_180 0 51 (dk_at dksX1_load_5 0 rfl rfl)
theorem dX1_load_119 : decode cX1_load 119 = .ok (.invokevirtual 130, 3) := dk_182 0 130 (dk_at dksX1_load_5 3 rfl rfl)
theorem dX1_load_122 : decode cX1_load 122 = .ok (.ireturn, 1) := dk_172 (dk_at dksX1_load_5 6 rfl rfl)
abbrev cX1_can : ByteArray := prog_1_method_14_code
def yX1_can : MethodName := ⟨RX1, "can", "(I)Z"⟩
def dkwX1_can_0 : List UInt8 := [42, 27, 181, 0, 127, 27, 154, 0, 7, 4, 167, 0, 4, 3, 172]
abbrev dktX1_can_0 : List UInt8 := dkwX1_can_0 ++ []
theorem dksX1_can_0 : cX1_can.data.toList.drop 0 = dktX1_can_0 := by decide +kernel
theorem dX1_can_0 : decode cX1_can 0 = .ok (.aload_n 0, 1) := dk_42 (dk_at dksX1_can_0 0 rfl rfl)
theorem dX1_can_1 : decode cX1_can 1 = .ok (.iload_n 1, 1) := dk_27 (dk_at dksX1_can_0 1 rfl rfl)
theorem dX1_can_2 : decode cX1_can 2 = .ok (.putfield 127, 3) := dk_181 0 127 (dk_at dksX1_can_0 2 rfl rfl)
theorem dX1_can_5 : decode cX1_can 5 = .ok (.iload_n 1, 1) := dk_27 (dk_at dksX1_can_0 5 rfl rfl)
theorem dX1_can_6 : decode cX1_can 6 = .ok (.ifCond .ne 7, 3) := dk_154 0 7 (dk_at dksX1_can_0 6 rfl rfl)
theorem dX1_can_9 : decode cX1_can 9 = .ok (.iconst 1, 1) := dk_4 (dk_at dksX1_can_0 9 rfl rfl)
theorem dX1_can_10 : decode cX1_can 10 = .ok (.goto 4, 3) := dk_167 0 4 (dk_at dksX1_can_0 10 rfl rfl)
theorem dX1_can_13 : decode cX1_can 13 = .ok (.iconst 0, 1) := dk_3 (dk_at dksX1_can_0 13 rfl rfl)
theorem dX1_can_14 : decode cX1_can 14 = .ok (.ireturn, 1) := dk_172 (dk_at dksX1_can_0 14 rfl rfl)
abbrev cX1_place : ByteArray := prog_1_method_19_code
def yX1_place : MethodName := ⟨RX1, "place", "(Ljava/lang/String;[Ljava/lang/String;)I"⟩
def dkwX1_place_1 : List UInt8 := [167, 255, 235, 2, 172]
abbrev dktX1_place_1 : List UInt8 := dkwX1_place_1 ++ []
def dkwX1_place_0 : List UInt8 := [3, 61, 28, 43, 190, 162, 0, 21, 43, 28, 50, 42, 182, 0, 144, 153, 0, 5, 28, 172, 132, 2, 1]
abbrev dktX1_place_0 : List UInt8 := dkwX1_place_0 ++ dktX1_place_1
theorem dksX1_place_0 : cX1_place.data.toList.drop 0 = dktX1_place_0 := by decide +kernel
theorem dksX1_place_1 : cX1_place.data.toList.drop 23 = dktX1_place_1 := dk_seg dksX1_place_0 23 rfl rfl
theorem dX1_place_0 : decode cX1_place 0 = .ok (.iconst 0, 1) := dk_3 (dk_at dksX1_place_0 0 rfl rfl)
theorem dX1_place_1 : decode cX1_place 1 = .ok (.istore_n 2, 1) := dk_61 (dk_at dksX1_place_0 1 rfl rfl)
theorem dX1_place_2 : decode cX1_place 2 = .ok (.iload_n 2, 1) := dk_28 (dk_at dksX1_place_0 2 rfl rfl)
theorem dX1_place_3 : decode cX1_place 3 = .ok (.aload_n 1, 1) := dk_43 (dk_at dksX1_place_0 3 rfl rfl)
theorem dX1_place_4 : decode cX1_place 4 = .ok (.arraylength, 1) := dk_190 (dk_at dksX1_place_0 4 rfl rfl)
theorem dX1_place_5 : decode cX1_place 5 = .ok (.if_icmp .ge 21, 3) := dk_162 0 21 (dk_at dksX1_place_0 5 rfl rfl)
theorem dX1_place_8 : decode cX1_place 8 = .ok (.aload_n 1, 1) := dk_43 (dk_at dksX1_place_0 8 rfl rfl)
theorem dX1_place_9 : decode cX1_place 9 = .ok (.iload_n 2, 1) := dk_28 (dk_at dksX1_place_0 9 rfl rfl)
theorem dX1_place_10 : decode cX1_place 10 = .ok (.aaload, 1) := dk_50 (dk_at dksX1_place_0 10 rfl rfl)
theorem dX1_place_11 : decode cX1_place 11 = .ok (.aload_n 0, 1) := dk_42 (dk_at dksX1_place_0 11 rfl rfl)
theorem dX1_place_12 : decode cX1_place 12 = .ok (.invokevirtual 144, 3) := dk_182 0 144 (dk_at dksX1_place_0 12 rfl rfl)
theorem dX1_place_15 : decode cX1_place 15 = .ok (.ifCond .eq 5, 3) := dk_153 0 5 (dk_at dksX1_place_0 15 rfl rfl)
theorem dX1_place_18 : decode cX1_place 18 = .ok (.iload_n 2, 1) := dk_28 (dk_at dksX1_place_0 18 rfl rfl)
theorem dX1_place_19 : decode cX1_place 19 = .ok (.ireturn, 1) := dk_172 (dk_at dksX1_place_0 19 rfl rfl)
theorem dX1_place_20 : decode cX1_place 20 = .ok (.iinc 2 1, 3) := dk_132 2 1 (dk_at dksX1_place_0 20 rfl rfl)
theorem dX1_place_23 : decode cX1_place 23 = .ok (.goto (-21), 3) := dk_167 255 235 (dk_at dksX1_place_1 0 rfl rfl)
theorem dX1_place_26 : decode cX1_place 26 = .ok (.iconst (-1), 1) := dk_2 (dk_at dksX1_place_1 3 rfl rfl)
theorem dX1_place_27 : decode cX1_place 27 = .ok (.ireturn, 1) := dk_172 (dk_at dksX1_place_1 4 rfl rfl)
abbrev cX1_none : ByteArray := prog_1_method_15_code
def yX1_none : MethodName := ⟨RX1, "none", "(I)I"⟩
def dkwX1_none_0 : List UInt8 := [42, 27, 181, 0, 127, 2, 172]
abbrev dktX1_none_0 : List UInt8 := dkwX1_none_0 ++ []
theorem dksX1_none_0 : cX1_none.data.toList.drop 0 = dktX1_none_0 := by decide +kernel
theorem dX1_none_0 : decode cX1_none 0 = .ok (.aload_n 0, 1) := dk_42 (dk_at dksX1_none_0 0 rfl rfl)
theorem dX1_none_1 : decode cX1_none 1 = .ok (.iload_n 1, 1) := dk_27 (dk_at dksX1_none_0 1 rfl rfl)
theorem dX1_none_2 : decode cX1_none 2 = .ok (.putfield 127, 3) := dk_181 0 127 (dk_at dksX1_none_0 2 rfl rfl)
theorem dX1_none_5 : decode cX1_none 5 = .ok (.iconst (-1), 1) := dk_2 (dk_at dksX1_none_0 5 rfl rfl)
theorem dX1_none_6 : decode cX1_none 6 = .ok (.ireturn, 1) := dk_172 (dk_at dksX1_none_0 6 rfl rfl)
abbrev cX1_fault : ByteArray := prog_1_method_23_code
def yX1_fault : MethodName := ⟨RX1, "fault", "(I)I"⟩
def dkwX1_fault_1 : List UInt8 := [172]
abbrev dktX1_fault_1 : List UInt8 := dkwX1_fault_1 ++ []
def dkwX1_fault_0 : List UInt8 := [27, 154, 0, 10, 42, 180, 0, 80, 167, 0, 16, 27, 4, 160, 0, 10, 42, 180, 0, 84, 167, 0, 4, 2]
abbrev dktX1_fault_0 : List UInt8 := dkwX1_fault_0 ++ dktX1_fault_1
theorem dksX1_fault_0 : cX1_fault.data.toList.drop 0 = dktX1_fault_0 := by decide +kernel
theorem dksX1_fault_1 : cX1_fault.data.toList.drop 24 = dktX1_fault_1 := dk_seg dksX1_fault_0 24 rfl rfl
theorem dX1_fault_0 : decode cX1_fault 0 = .ok (.iload_n 1, 1) := dk_27 (dk_at dksX1_fault_0 0 rfl rfl)
theorem dX1_fault_1 : decode cX1_fault 1 = .ok (.ifCond .ne 10, 3) := dk_154 0 10 (dk_at dksX1_fault_0 1 rfl rfl)
theorem dX1_fault_4 : decode cX1_fault 4 = .ok (.aload_n 0, 1) := dk_42 (dk_at dksX1_fault_0 4 rfl rfl)
theorem dX1_fault_5 : decode cX1_fault 5 = .ok (.getfield 80, 3) := dk_180 0 80 (dk_at dksX1_fault_0 5 rfl rfl)
theorem dX1_fault_8 : decode cX1_fault 8 = .ok (.goto 16, 3) := dk_167 0 16 (dk_at dksX1_fault_0 8 rfl rfl)
theorem dX1_fault_11 : decode cX1_fault 11 = .ok (.iload_n 1, 1) := dk_27 (dk_at dksX1_fault_0 11 rfl rfl)
theorem dX1_fault_12 : decode cX1_fault 12 = .ok (.iconst 1, 1) := dk_4 (dk_at dksX1_fault_0 12 rfl rfl)
theorem dX1_fault_13 : decode cX1_fault 13 = .ok (.if_icmp .ne 10, 3) := dk_160 0 10 (dk_at dksX1_fault_0 13 rfl rfl)
theorem dX1_fault_16 : decode cX1_fault 16 = .ok (.aload_n 0, 1) := dk_42 (dk_at dksX1_fault_0 16 rfl rfl)
theorem dX1_fault_17 : decode cX1_fault 17 = .ok (.getfield 84, 3) := dk_180 0 84 (dk_at dksX1_fault_0 17 rfl rfl)
theorem dX1_fault_20 : decode cX1_fault 20 = .ok (.goto 4, 3) := dk_167 0 4 (dk_at dksX1_fault_0 20 rfl rfl)
theorem dX1_fault_23 : decode cX1_fault 23 = .ok (.iconst (-1), 1) := dk_2 (dk_at dksX1_fault_0 23 rfl rfl)
theorem dX1_fault_24 : decode cX1_fault 24 = .ok (.ireturn, 1) := dk_172 (dk_at dksX1_fault_1 0 rfl rfl)
abbrev cX1_many : ByteArray := prog_1_method_28_code
def yX1_many : MethodName := ⟨RX1, "many", "(I)I"⟩
def dkwX1_many_7 : List UInt8 := [182, 0, 130, 172]
abbrev dktX1_many_7 : List UInt8 := dkwX1_many_7 ++ []
def dkwX1_many_6 : List UInt8 := [180, 0, 77, 182, 0, 130, 172, 42, 180, 0, 70, 180, 0, 226, 172, 42, 180, 0, 70, 180, 0, 229]
abbrev dktX1_many_6 : List UInt8 := dkwX1_many_6 ++ dktX1_many_7
def dkwX1_many_5 : List UInt8 := [184, 0, 200, 172, 42, 42, 180, 0, 70, 182, 0, 219, 172, 42, 42, 180, 0, 70, 182, 0, 223, 172, 42]
abbrev dktX1_many_5 : List UInt8 := dkwX1_many_5 ++ dktX1_many_6
def dkwX1_many_4 : List UInt8 := [42, 180, 0, 70, 180, 0, 204, 182, 0, 130, 172, 42, 180, 0, 51, 182, 0, 130, 42, 186, 0, 216, 0, 0]
abbrev dktX1_many_4 : List UInt8 := dkwX1_many_4 ++ dktX1_many_5
def dkwX1_many_3 : List UInt8 := [42, 180, 0, 39, 182, 0, 130, 172, 42, 180, 0, 51, 182, 0, 130, 172, 42, 180, 0, 70, 180, 0, 213, 172]
abbrev dktX1_many_3 : List UInt8 := dkwX1_many_3 ++ dktX1_many_4
def dkwX1_many_2 : List UInt8 := [170, 0, 0, 0, 135, 0, 0, 0, 0, 0, 0, 0, 8, 0, 0, 0, 49, 0, 0, 0, 57, 0, 0, 0, 65, 0, 0, 0, 73, 0, 0, 0, 84, 0, 0, 0, 101, 0, 0, 0, 110, 0, 0, 0, 119, 0, 0, 0, 127]
abbrev dktX1_many_2 : List UInt8 := dkwX1_many_2 ++ dktX1_many_3
def dkwX1_many_1 : List UInt8 := [2, 172, 27]
abbrev dktX1_many_1 : List UInt8 := dkwX1_many_1 ++ dktX1_many_2
def dkwX1_many_0 : List UInt8 := [42, 27, 133, 9, 20, 0, 211, 184, 0, 134, 153, 0, 7, 3, 167, 0, 4, 4, 182, 0, 155, 154, 0, 5]
abbrev dktX1_many_0 : List UInt8 := dkwX1_many_0 ++ dktX1_many_1
theorem dksX1_many_0 : cX1_many.data.toList.drop 0 = dktX1_many_0 := by decide +kernel
theorem dksX1_many_1 : cX1_many.data.toList.drop 24 = dktX1_many_1 := dk_seg dksX1_many_0 24 rfl rfl
theorem dksX1_many_2 : cX1_many.data.toList.drop 27 = dktX1_many_2 := dk_seg dksX1_many_1 3 rfl rfl
theorem dksX1_many_3 : cX1_many.data.toList.drop 76 = dktX1_many_3 := dk_seg dksX1_many_2 49 rfl rfl
theorem dksX1_many_4 : cX1_many.data.toList.drop 100 = dktX1_many_4 := dk_seg dksX1_many_3 24 rfl rfl
theorem dksX1_many_5 : cX1_many.data.toList.drop 124 = dktX1_many_5 := dk_seg dksX1_many_4 24 rfl rfl
theorem dksX1_many_6 : cX1_many.data.toList.drop 147 = dktX1_many_6 := dk_seg dksX1_many_5 23 rfl rfl
theorem dksX1_many_7 : cX1_many.data.toList.drop 169 = dktX1_many_7 := dk_seg dksX1_many_6 22 rfl rfl
theorem dX1_many_0 : decode cX1_many 0 = .ok (.aload_n 0, 1) := dk_42 (dk_at dksX1_many_0 0 rfl rfl)
theorem dX1_many_1 : decode cX1_many 1 = .ok (.iload_n 1, 1) := dk_27 (dk_at dksX1_many_0 1 rfl rfl)
theorem dX1_many_2 : decode cX1_many 2 = .ok (.i2l, 1) := dk_133 (dk_at dksX1_many_0 2 rfl rfl)
theorem dX1_many_3 : decode cX1_many 3 = .ok (.lconst 0, 1) := dk_9 (dk_at dksX1_many_0 3 rfl rfl)
theorem dX1_many_4 : decode cX1_many 4 = .ok (.ldc2_w 211, 3) := dk_20 0 211 (dk_at dksX1_many_0 4 rfl rfl)
theorem dX1_many_7 : decode cX1_many 7 = .ok (.invokestatic 134, 3) := dk_184 0 134 (dk_at dksX1_many_0 7 rfl rfl)
theorem dX1_many_10 : decode cX1_many 10 = .ok (.ifCond .eq 7, 3) := dk_153 0 7 (dk_at dksX1_many_0 10 rfl rfl)
theorem dX1_many_13 : decode cX1_many 13 = .ok (.iconst 0, 1) := dk_3 (dk_at dksX1_many_0 13 rfl rfl)
theorem dX1_many_14 : decode cX1_many 14 = .ok (.goto 4, 3) := dk_167 0 4 (dk_at dksX1_many_0 14 rfl rfl)
theorem dX1_many_17 : decode cX1_many 17 = .ok (.iconst 1, 1) := dk_4 (dk_at dksX1_many_0 17 rfl rfl)
theorem dX1_many_18 : decode cX1_many 18 = .ok (.invokevirtual 155, 3) := dk_182 0 155 (dk_at dksX1_many_0 18 rfl rfl)
theorem dX1_many_21 : decode cX1_many 21 = .ok (.ifCond .ne 5, 3) := dk_154 0 5 (dk_at dksX1_many_0 21 rfl rfl)
theorem dX1_many_24 : decode cX1_many 24 = .ok (.iconst (-1), 1) := dk_2 (dk_at dksX1_many_1 0 rfl rfl)
theorem dX1_many_25 : decode cX1_many 25 = .ok (.ireturn, 1) := dk_172 (dk_at dksX1_many_1 1 rfl rfl)
theorem dX1_many_26 : decode cX1_many 26 = .ok (.iload_n 1, 1) := dk_27 (dk_at dksX1_many_1 2 rfl rfl)
theorem dX1_many_27 : decode cX1_many 27 = .ok (.tableswitch 135 0 8 #[49, 57, 65, 73, 84, 101, 110, 119, 127], 49) := by decide +kernel
theorem dX1_many_76 : decode cX1_many 76 = .ok (.aload_n 0, 1) := dk_42 (dk_at dksX1_many_3 0 rfl rfl)
theorem dX1_many_77 : decode cX1_many 77 = .ok (.getfield 39, 3) := dk_180 0 39 (dk_at dksX1_many_3 1 rfl rfl)
theorem dX1_many_80 : decode cX1_many 80 = .ok (.invokevirtual 130, 3) := dk_182 0 130 (dk_at dksX1_many_3 4 rfl rfl)
theorem dX1_many_83 : decode cX1_many 83 = .ok (.ireturn, 1) := dk_172 (dk_at dksX1_many_3 7 rfl rfl)
theorem dX1_many_84 : decode cX1_many 84 = .ok (.aload_n 0, 1) := dk_42 (dk_at dksX1_many_3 8 rfl rfl)
theorem dX1_many_85 : decode cX1_many 85 = .ok (.getfield 51, 3) := dk_180 0 51 (dk_at dksX1_many_3 9 rfl rfl)
theorem dX1_many_88 : decode cX1_many 88 = .ok (.invokevirtual 130, 3) := dk_182 0 130 (dk_at dksX1_many_3 12 rfl rfl)
theorem dX1_many_91 : decode cX1_many 91 = .ok (.ireturn, 1) := dk_172 (dk_at dksX1_many_3 15 rfl rfl)
theorem dX1_many_92 : decode cX1_many 92 = .ok (.aload_n 0, 1) := dk_42 (dk_at dksX1_many_3 16 rfl rfl)
theorem dX1_many_93 : decode cX1_many 93 = .ok (.getfield 70, 3) := dk_180 0 70 (dk_at dksX1_many_3 17 rfl rfl)
theorem dX1_many_96 : decode cX1_many 96 = .ok (.getfield 213, 3) := dk_180 0 213 (dk_at dksX1_many_3 20 rfl rfl)
theorem dX1_many_99 : decode cX1_many 99 = .ok (.ireturn, 1) := dk_172 (dk_at dksX1_many_3 23 rfl rfl)
theorem dX1_many_100 : decode cX1_many 100 = .ok (.aload_n 0, 1) := dk_42 (dk_at dksX1_many_4 0 rfl rfl)
theorem dX1_many_101 : decode cX1_many 101 = .ok (.getfield 70, 3) := dk_180 0 70 (dk_at dksX1_many_4 1 rfl rfl)
theorem dX1_many_104 : decode cX1_many 104 = .ok (.getfield 204, 3) := dk_180 0 204 (dk_at dksX1_many_4 4 rfl rfl)
theorem dX1_many_107 : decode cX1_many 107 = .ok (.invokevirtual 130, 3) := dk_182 0 130 (dk_at dksX1_many_4 7 rfl rfl)
theorem dX1_many_110 : decode cX1_many 110 = .ok (.ireturn, 1) := dk_172 (dk_at dksX1_many_4 10 rfl rfl)
theorem dX1_many_111 : decode cX1_many 111 = .ok (.aload_n 0, 1) := dk_42 (dk_at dksX1_many_4 11 rfl rfl)
theorem dX1_many_112 : decode cX1_many 112 = .ok (.getfield 51, 3) := dk_180 0 51 (dk_at dksX1_many_4 12 rfl rfl)
theorem dX1_many_115 : decode cX1_many 115 = .ok (.invokevirtual 130, 3) := dk_182 0 130 (dk_at dksX1_many_4 15 rfl rfl)
theorem dX1_many_118 : decode cX1_many 118 = .ok (.aload_n 0, 1) := dk_42 (dk_at dksX1_many_4 18 rfl rfl)
theorem dX1_many_119 : decode cX1_many 119 = .ok (.invokedynamic 216, 5) := by decide +kernel
theorem dX1_many_124 : decode cX1_many 124 = .ok (.invokestatic 200, 3) := dk_184 0 200 (dk_at dksX1_many_5 0 rfl rfl)
theorem dX1_many_127 : decode cX1_many 127 = .ok (.ireturn, 1) := dk_172 (dk_at dksX1_many_5 3 rfl rfl)
theorem dX1_many_128 : decode cX1_many 128 = .ok (.aload_n 0, 1) := dk_42 (dk_at dksX1_many_5 4 rfl rfl)
theorem dX1_many_129 : decode cX1_many 129 = .ok (.aload_n 0, 1) := dk_42 (dk_at dksX1_many_5 5 rfl rfl)
theorem dX1_many_130 : decode cX1_many 130 = .ok (.getfield 70, 3) := dk_180 0 70 (dk_at dksX1_many_5 6 rfl rfl)
theorem dX1_many_133 : decode cX1_many 133 = .ok (.invokevirtual 219, 3) := dk_182 0 219 (dk_at dksX1_many_5 9 rfl rfl)
theorem dX1_many_136 : decode cX1_many 136 = .ok (.ireturn, 1) := dk_172 (dk_at dksX1_many_5 12 rfl rfl)
theorem dX1_many_137 : decode cX1_many 137 = .ok (.aload_n 0, 1) := dk_42 (dk_at dksX1_many_5 13 rfl rfl)
theorem dX1_many_138 : decode cX1_many 138 = .ok (.aload_n 0, 1) := dk_42 (dk_at dksX1_many_5 14 rfl rfl)
theorem dX1_many_139 : decode cX1_many 139 = .ok (.getfield 70, 3) := dk_180 0 70 (dk_at dksX1_many_5 15 rfl rfl)
theorem dX1_many_142 : decode cX1_many 142 = .ok (.invokevirtual 223, 3) := dk_182 0 223 (dk_at dksX1_many_5 18 rfl rfl)
theorem dX1_many_145 : decode cX1_many 145 = .ok (.ireturn, 1) := dk_172 (dk_at dksX1_many_5 21 rfl rfl)
theorem dX1_many_146 : decode cX1_many 146 = .ok (.aload_n 0, 1) := dk_42 (dk_at dksX1_many_5 22 rfl rfl)
theorem dX1_many_147 : decode cX1_many 147 = .ok (.getfield 77, 3) := dk_180 0 77 (dk_at dksX1_many_6 0 rfl rfl)
theorem dX1_many_150 : decode cX1_many 150 = .ok (.invokevirtual 130, 3) := dk_182 0 130 (dk_at dksX1_many_6 3 rfl rfl)
theorem dX1_many_153 : decode cX1_many 153 = .ok (.ireturn, 1) := dk_172 (dk_at dksX1_many_6 6 rfl rfl)
theorem dX1_many_154 : decode cX1_many 154 = .ok (.aload_n 0, 1) := dk_42 (dk_at dksX1_many_6 7 rfl rfl)
theorem dX1_many_155 : decode cX1_many 155 = .ok (.getfield 70, 3) := dk_180 0 70 (dk_at dksX1_many_6 8 rfl rfl)
theorem dX1_many_158 : decode cX1_many 158 = .ok (.getfield 226, 3) := dk_180 0 226 (dk_at dksX1_many_6 11 rfl rfl)
theorem dX1_many_161 : decode cX1_many 161 = .ok (.ireturn, 1) := dk_172 (dk_at dksX1_many_6 14 rfl rfl)
theorem dX1_many_162 : decode cX1_many 162 = .ok (.aload_n 0, 1) := dk_42 (dk_at dksX1_many_6 15 rfl rfl)
theorem dX1_many_163 : decode cX1_many 163 = .ok (.getfield 70, 3) := dk_180 0 70 (dk_at dksX1_many_6 16 rfl rfl)
theorem dX1_many_166 : decode cX1_many 166 = .ok (.getfield 229, 3) := dk_180 0 229 (dk_at dksX1_many_6 19 rfl rfl)
theorem dX1_many_169 : decode cX1_many 169 = .ok (.invokevirtual 130, 3) := dk_182 0 130 (dk_at dksX1_many_7 0 rfl rfl)
theorem dX1_many_172 : decode cX1_many 172 = .ok (.ireturn, 1) := dk_172 (dk_at dksX1_many_7 3 rfl rfl)
abbrev cX1_lambda_many_7 : ByteArray := prog_1_method_107_code
def yX1_lambda_many_7 : MethodName := ⟨RX1, "lambda$many$7", "(I)I"⟩
def dkwX1_lambda_many_7_0 : List UInt8 := [42, 180, 0, 70, 27, 182, 1, 52, 172]
abbrev dktX1_lambda_many_7_0 : List UInt8 := dkwX1_lambda_many_7_0 ++ []
theorem dksX1_lambda_many_7_0 : cX1_lambda_many_7.data.toList.drop 0 = dktX1_lambda_many_7_0 := by decide +kernel
theorem dX1_lambda_many_7_0 : decode cX1_lambda_many_7 0 = .ok (.aload_n 0, 1) := dk_42 (dk_at dksX1_lambda_many_7_0 0 rfl rfl)
theorem dX1_lambda_many_7_1 : decode cX1_lambda_many_7 1 = .ok (.getfield 70, 3) := dk_180 0 70 (dk_at dksX1_lambda_many_7_0 1 rfl rfl)
theorem dX1_lambda_many_7_4 : decode cX1_lambda_many_7 4 = .ok (.iload_n 1, 1) := dk_27 (dk_at dksX1_lambda_many_7_0 4 rfl rfl)
theorem dX1_lambda_many_7_5 : decode cX1_lambda_many_7 5 = .ok (.invokevirtual 308, 3) := dk_182 1 52 (dk_at dksX1_lambda_many_7_0 5 rfl rfl)
theorem dX1_lambda_many_7_8 : decode cX1_lambda_many_7 8 = .ok (.ireturn, 1) := dk_172 (dk_at dksX1_lambda_many_7_0 8 rfl rfl)
abbrev cX1_sum : ByteArray := prog_1_method_4_code
def yX1_sum : MethodName := ⟨RX1, "sum", "(ILHomesQueue$Number;)I"⟩
def dkwX1_sum_1 : List UInt8 := [167, 255, 238, 28, 172]
abbrev dktX1_sum_1 : List UInt8 := dkwX1_sum_1 ++ []
def dkwX1_sum_0 : List UInt8 := [3, 61, 3, 62, 29, 26, 162, 0, 19, 28, 43, 29, 185, 0, 13, 2, 0, 96, 61, 132, 3, 1]
abbrev dktX1_sum_0 : List UInt8 := dkwX1_sum_0 ++ dktX1_sum_1
theorem dksX1_sum_0 : cX1_sum.data.toList.drop 0 = dktX1_sum_0 := by decide +kernel
theorem dksX1_sum_1 : cX1_sum.data.toList.drop 22 = dktX1_sum_1 := dk_seg dksX1_sum_0 22 rfl rfl
theorem dX1_sum_0 : decode cX1_sum 0 = .ok (.iconst 0, 1) := dk_3 (dk_at dksX1_sum_0 0 rfl rfl)
theorem dX1_sum_1 : decode cX1_sum 1 = .ok (.istore_n 2, 1) := dk_61 (dk_at dksX1_sum_0 1 rfl rfl)
theorem dX1_sum_2 : decode cX1_sum 2 = .ok (.iconst 0, 1) := dk_3 (dk_at dksX1_sum_0 2 rfl rfl)
theorem dX1_sum_3 : decode cX1_sum 3 = .ok (.istore_n 3, 1) := dk_62 (dk_at dksX1_sum_0 3 rfl rfl)
theorem dX1_sum_4 : decode cX1_sum 4 = .ok (.iload_n 3, 1) := dk_29 (dk_at dksX1_sum_0 4 rfl rfl)
theorem dX1_sum_5 : decode cX1_sum 5 = .ok (.iload_n 0, 1) := dk_26 (dk_at dksX1_sum_0 5 rfl rfl)
theorem dX1_sum_6 : decode cX1_sum 6 = .ok (.if_icmp .ge 19, 3) := dk_162 0 19 (dk_at dksX1_sum_0 6 rfl rfl)
theorem dX1_sum_9 : decode cX1_sum 9 = .ok (.iload_n 2, 1) := dk_28 (dk_at dksX1_sum_0 9 rfl rfl)
theorem dX1_sum_10 : decode cX1_sum 10 = .ok (.aload_n 1, 1) := dk_43 (dk_at dksX1_sum_0 10 rfl rfl)
theorem dX1_sum_11 : decode cX1_sum 11 = .ok (.iload_n 3, 1) := dk_29 (dk_at dksX1_sum_0 11 rfl rfl)
theorem dX1_sum_12 : decode cX1_sum 12 = .ok (.invokeinterface 13 2, 5) := by decide +kernel
theorem dX1_sum_17 : decode cX1_sum 17 = .ok (.iadd, 1) := dk_96 (dk_at dksX1_sum_0 17 rfl rfl)
theorem dX1_sum_18 : decode cX1_sum 18 = .ok (.istore_n 2, 1) := dk_61 (dk_at dksX1_sum_0 18 rfl rfl)
theorem dX1_sum_19 : decode cX1_sum 19 = .ok (.iinc 3 1, 3) := dk_132 3 1 (dk_at dksX1_sum_0 19 rfl rfl)
theorem dX1_sum_22 : decode cX1_sum 22 = .ok (.goto (-18), 3) := dk_167 255 238 (dk_at dksX1_sum_1 0 rfl rfl)
theorem dX1_sum_25 : decode cX1_sum 25 = .ok (.iload_n 2, 1) := dk_28 (dk_at dksX1_sum_1 3 rfl rfl)
theorem dX1_sum_26 : decode cX1_sum 26 = .ok (.ireturn, 1) := dk_172 (dk_at dksX1_sum_1 4 rfl rfl)
abbrev cX1_freeHomes : ByteArray := prog_1_method_24_code
def yX1_freeHomes : MethodName := ⟨RX1, "freeHomes", "(LHomesQueue$Register;)I"⟩
def dkwX1_freeHomes_0 : List UInt8 := [42, 180, 0, 39, 182, 0, 130, 43, 186, 0, 189, 0, 0, 184, 0, 192, 172]
abbrev dktX1_freeHomes_0 : List UInt8 := dkwX1_freeHomes_0 ++ []
theorem dksX1_freeHomes_0 : cX1_freeHomes.data.toList.drop 0 = dktX1_freeHomes_0 := by decide +kernel
theorem dX1_freeHomes_0 : decode cX1_freeHomes 0 = .ok (.aload_n 0, 1) := dk_42 (dk_at dksX1_freeHomes_0 0 rfl rfl)
theorem dX1_freeHomes_1 : decode cX1_freeHomes 1 = .ok (.getfield 39, 3) := dk_180 0 39 (dk_at dksX1_freeHomes_0 1 rfl rfl)
theorem dX1_freeHomes_4 : decode cX1_freeHomes 4 = .ok (.invokevirtual 130, 3) := dk_182 0 130 (dk_at dksX1_freeHomes_0 4 rfl rfl)
theorem dX1_freeHomes_7 : decode cX1_freeHomes 7 = .ok (.aload_n 1, 1) := dk_43 (dk_at dksX1_freeHomes_0 7 rfl rfl)
theorem dX1_freeHomes_8 : decode cX1_freeHomes 8 = .ok (.invokedynamic 189, 5) := by decide +kernel
theorem dX1_freeHomes_13 : decode cX1_freeHomes 13 = .ok (.invokestatic 192, 3) := dk_184 0 192 (dk_at dksX1_freeHomes_0 13 rfl rfl)
theorem dX1_freeHomes_16 : decode cX1_freeHomes 16 = .ok (.ireturn, 1) := dk_172 (dk_at dksX1_freeHomes_0 16 rfl rfl)
abbrev cX1_lambda_freeHomes_3 : ByteArray := prog_1_method_111_code
def yX1_lambda_freeHomes_3 : MethodName := ⟨RX1, "lambda$freeHomes$3", "(LHomesQueue$Register;I)Z"⟩
def dkwX1_lambda_freeHomes_3_0 : List UInt8 := [42, 27, 182, 0, 250, 172]
abbrev dktX1_lambda_freeHomes_3_0 : List UInt8 := dkwX1_lambda_freeHomes_3_0 ++ []
theorem dksX1_lambda_freeHomes_3_0 : cX1_lambda_freeHomes_3.data.toList.drop 0 = dktX1_lambda_freeHomes_3_0 := by decide +kernel
theorem dX1_lambda_freeHomes_3_0 : decode cX1_lambda_freeHomes_3 0 = .ok (.aload_n 0, 1) := dk_42 (dk_at dksX1_lambda_freeHomes_3_0 0 rfl rfl)
theorem dX1_lambda_freeHomes_3_1 : decode cX1_lambda_freeHomes_3 1 = .ok (.iload_n 1, 1) := dk_27 (dk_at dksX1_lambda_freeHomes_3_0 1 rfl rfl)
theorem dX1_lambda_freeHomes_3_2 : decode cX1_lambda_freeHomes_3 2 = .ok (.invokevirtual 250, 3) := dk_182 0 250 (dk_at dksX1_lambda_freeHomes_3_0 2 rfl rfl)
theorem dX1_lambda_freeHomes_3_5 : decode cX1_lambda_freeHomes_3 5 = .ok (.ireturn, 1) := dk_172 (dk_at dksX1_lambda_freeHomes_3_0 5 rfl rfl)
abbrev cX1_count : ByteArray := prog_1_method_3_code
def yX1_count : MethodName := ⟨RX1, "count", "(ILHomesQueue$Check;)I"⟩
def dkwX1_count_1 : List UInt8 := [132, 3, 1, 167, 255, 235, 28, 172]
abbrev dktX1_count_1 : List UInt8 := dkwX1_count_1 ++ []
def dkwX1_count_0 : List UInt8 := [3, 61, 3, 62, 29, 26, 162, 0, 22, 28, 43, 29, 185, 0, 1, 2, 0, 184, 0, 7, 96, 61]
abbrev dktX1_count_0 : List UInt8 := dkwX1_count_0 ++ dktX1_count_1
theorem dksX1_count_0 : cX1_count.data.toList.drop 0 = dktX1_count_0 := by decide +kernel
theorem dksX1_count_1 : cX1_count.data.toList.drop 22 = dktX1_count_1 := dk_seg dksX1_count_0 22 rfl rfl
theorem dX1_count_0 : decode cX1_count 0 = .ok (.iconst 0, 1) := dk_3 (dk_at dksX1_count_0 0 rfl rfl)
theorem dX1_count_1 : decode cX1_count 1 = .ok (.istore_n 2, 1) := dk_61 (dk_at dksX1_count_0 1 rfl rfl)
theorem dX1_count_2 : decode cX1_count 2 = .ok (.iconst 0, 1) := dk_3 (dk_at dksX1_count_0 2 rfl rfl)
theorem dX1_count_3 : decode cX1_count 3 = .ok (.istore_n 3, 1) := dk_62 (dk_at dksX1_count_0 3 rfl rfl)
theorem dX1_count_4 : decode cX1_count 4 = .ok (.iload_n 3, 1) := dk_29 (dk_at dksX1_count_0 4 rfl rfl)
theorem dX1_count_5 : decode cX1_count 5 = .ok (.iload_n 0, 1) := dk_26 (dk_at dksX1_count_0 5 rfl rfl)
theorem dX1_count_6 : decode cX1_count 6 = .ok (.if_icmp .ge 22, 3) := dk_162 0 22 (dk_at dksX1_count_0 6 rfl rfl)
theorem dX1_count_9 : decode cX1_count 9 = .ok (.iload_n 2, 1) := dk_28 (dk_at dksX1_count_0 9 rfl rfl)
theorem dX1_count_10 : decode cX1_count 10 = .ok (.aload_n 1, 1) := dk_43 (dk_at dksX1_count_0 10 rfl rfl)
theorem dX1_count_11 : decode cX1_count 11 = .ok (.iload_n 3, 1) := dk_29 (dk_at dksX1_count_0 11 rfl rfl)
theorem dX1_count_12 : decode cX1_count 12 = .ok (.invokeinterface 1 2, 5) := by decide +kernel
theorem dX1_count_17 : decode cX1_count 17 = .ok (.invokestatic 7, 3) := dk_184 0 7 (dk_at dksX1_count_0 17 rfl rfl)
theorem dX1_count_20 : decode cX1_count 20 = .ok (.iadd, 1) := dk_96 (dk_at dksX1_count_0 20 rfl rfl)
theorem dX1_count_21 : decode cX1_count 21 = .ok (.istore_n 2, 1) := dk_61 (dk_at dksX1_count_0 21 rfl rfl)
theorem dX1_count_22 : decode cX1_count 22 = .ok (.iinc 3 1, 3) := dk_132 3 1 (dk_at dksX1_count_1 0 rfl rfl)
theorem dX1_count_25 : decode cX1_count 25 = .ok (.goto (-21), 3) := dk_167 255 235 (dk_at dksX1_count_1 3 rfl rfl)
theorem dX1_count_28 : decode cX1_count 28 = .ok (.iload_n 2, 1) := dk_28 (dk_at dksX1_count_1 6 rfl rfl)
theorem dX1_count_29 : decode cX1_count 29 = .ok (.ireturn, 1) := dk_172 (dk_at dksX1_count_1 7 rfl rfl)
abbrev cX1_inQueue : ByteArray := prog_1_method_25_code
def yX1_inQueue : MethodName := ⟨RX1, "inQueue", "(LHomesQueue$Register;)I"⟩
def dkwX1_inQueue_0 : List UInt8 := [42, 180, 0, 51, 182, 0, 130, 43, 186, 0, 196, 0, 0, 184, 0, 192, 172]
abbrev dktX1_inQueue_0 : List UInt8 := dkwX1_inQueue_0 ++ []
theorem dksX1_inQueue_0 : cX1_inQueue.data.toList.drop 0 = dktX1_inQueue_0 := by decide +kernel
theorem dX1_inQueue_0 : decode cX1_inQueue 0 = .ok (.aload_n 0, 1) := dk_42 (dk_at dksX1_inQueue_0 0 rfl rfl)
theorem dX1_inQueue_1 : decode cX1_inQueue 1 = .ok (.getfield 51, 3) := dk_180 0 51 (dk_at dksX1_inQueue_0 1 rfl rfl)
theorem dX1_inQueue_4 : decode cX1_inQueue 4 = .ok (.invokevirtual 130, 3) := dk_182 0 130 (dk_at dksX1_inQueue_0 4 rfl rfl)
theorem dX1_inQueue_7 : decode cX1_inQueue 7 = .ok (.aload_n 1, 1) := dk_43 (dk_at dksX1_inQueue_0 7 rfl rfl)
theorem dX1_inQueue_8 : decode cX1_inQueue 8 = .ok (.invokedynamic 196, 5) := by decide +kernel
theorem dX1_inQueue_13 : decode cX1_inQueue 13 = .ok (.invokestatic 192, 3) := dk_184 0 192 (dk_at dksX1_inQueue_0 13 rfl rfl)
theorem dX1_inQueue_16 : decode cX1_inQueue 16 = .ok (.ireturn, 1) := dk_172 (dk_at dksX1_inQueue_0 16 rfl rfl)
abbrev cX1_lambda_inQueue_4 : ByteArray := prog_1_method_110_code
def yX1_lambda_inQueue_4 : MethodName := ⟨RX1, "lambda$inQueue$4", "(LHomesQueue$Register;I)Z"⟩
def dkwX1_lambda_inQueue_4_0 : List UInt8 := [42, 180, 1, 49, 27, 51, 154, 0, 7, 4, 167, 0, 4, 3, 172]
abbrev dktX1_lambda_inQueue_4_0 : List UInt8 := dkwX1_lambda_inQueue_4_0 ++ []
theorem dksX1_lambda_inQueue_4_0 : cX1_lambda_inQueue_4.data.toList.drop 0 = dktX1_lambda_inQueue_4_0 := by decide +kernel
theorem dX1_lambda_inQueue_4_0 : decode cX1_lambda_inQueue_4 0 = .ok (.aload_n 0, 1) := dk_42 (dk_at dksX1_lambda_inQueue_4_0 0 rfl rfl)
theorem dX1_lambda_inQueue_4_1 : decode cX1_lambda_inQueue_4 1 = .ok (.getfield 305, 3) := dk_180 1 49 (dk_at dksX1_lambda_inQueue_4_0 1 rfl rfl)
theorem dX1_lambda_inQueue_4_4 : decode cX1_lambda_inQueue_4 4 = .ok (.iload_n 1, 1) := dk_27 (dk_at dksX1_lambda_inQueue_4_0 4 rfl rfl)
theorem dX1_lambda_inQueue_4_5 : decode cX1_lambda_inQueue_4 5 = .ok (.baload, 1) := dk_51 (dk_at dksX1_lambda_inQueue_4_0 5 rfl rfl)
theorem dX1_lambda_inQueue_4_6 : decode cX1_lambda_inQueue_4 6 = .ok (.ifCond .ne 7, 3) := dk_154 0 7 (dk_at dksX1_lambda_inQueue_4_0 6 rfl rfl)
theorem dX1_lambda_inQueue_4_9 : decode cX1_lambda_inQueue_4 9 = .ok (.iconst 1, 1) := dk_4 (dk_at dksX1_lambda_inQueue_4_0 9 rfl rfl)
theorem dX1_lambda_inQueue_4_10 : decode cX1_lambda_inQueue_4 10 = .ok (.goto 4, 3) := dk_167 0 4 (dk_at dksX1_lambda_inQueue_4_0 10 rfl rfl)
theorem dX1_lambda_inQueue_4_13 : decode cX1_lambda_inQueue_4 13 = .ok (.iconst 0, 1) := dk_3 (dk_at dksX1_lambda_inQueue_4_0 13 rfl rfl)
theorem dX1_lambda_inQueue_4_14 : decode cX1_lambda_inQueue_4 14 = .ok (.ireturn, 1) := dk_172 (dk_at dksX1_lambda_inQueue_4_0 14 rfl rfl)
abbrev cX1_home : ByteArray := prog_1_method_30_code
def yX1_home : MethodName := ⟨RX1, "home", "(II)I"⟩
def dkwX1_home_7 : List UInt8 := [42, 180, 0, 70, 180, 1, 5, 27, 46, 172]
abbrev dktX1_home_7 : List UInt8 := dkwX1_home_7 ++ []
def dkwX1_home_6 : List UInt8 := [42, 27, 186, 1, 0, 0, 0, 184, 0, 192, 172, 42, 180, 0, 70, 180, 1, 1, 27, 51, 184, 0, 7, 172]
abbrev dktX1_home_6 : List UInt8 := dkwX1_home_6 ++ dktX1_home_7
def dkwX1_home_5 : List UInt8 := [182, 0, 130, 42, 27, 186, 0, 253, 0, 0, 184, 0, 192, 172, 42, 180, 0, 70, 180, 0, 204, 182, 0, 130]
abbrev dktX1_home_5 : List UInt8 := dkwX1_home_5 ++ dktX1_home_6
def dkwX1_home_4 : List UInt8 := [182, 0, 244, 182, 0, 247, 172, 42, 180, 0, 70, 27, 182, 0, 250, 184, 0, 7, 172, 42, 180, 0, 51]
abbrev dktX1_home_4 : List UInt8 := dkwX1_home_4 ++ dktX1_home_5
def dkwX1_home_3 : List UInt8 := [42, 27, 182, 0, 234, 180, 0, 238, 172, 42, 27, 182, 0, 234, 180, 0, 241, 172, 42, 42, 180, 0, 70, 27]
abbrev dktX1_home_3 : List UInt8 := dkwX1_home_3 ++ dktX1_home_4
def dkwX1_home_2 : List UInt8 := [170, 0, 0, 0, 136, 0, 0, 0, 0, 0, 0, 0, 6, 0, 0, 0, 41, 0, 0, 0, 50, 0, 0, 0, 59, 0, 0, 0, 72, 0, 0, 0, 84, 0, 0, 0, 102, 0, 0, 0, 123]
abbrev dktX1_home_2 : List UInt8 := dkwX1_home_2 ++ dktX1_home_3
def dkwX1_home_1 : List UInt8 := [153, 0, 7, 3, 167, 0, 4, 5, 182, 0, 155, 154, 0, 5, 2, 172, 28]
abbrev dktX1_home_1 : List UInt8 := dkwX1_home_1 ++ dktX1_home_2
def dkwX1_home_0 : List UInt8 := [42, 28, 133, 9, 20, 0, 232, 184, 0, 134, 154, 0, 7, 4, 167, 0, 16, 42, 27, 182, 0, 141]
abbrev dktX1_home_0 : List UInt8 := dkwX1_home_0 ++ dktX1_home_1
theorem dksX1_home_0 : cX1_home.data.toList.drop 0 = dktX1_home_0 := by decide +kernel
theorem dksX1_home_1 : cX1_home.data.toList.drop 22 = dktX1_home_1 := dk_seg dksX1_home_0 22 rfl rfl
theorem dksX1_home_2 : cX1_home.data.toList.drop 39 = dktX1_home_2 := dk_seg dksX1_home_1 17 rfl rfl
theorem dksX1_home_3 : cX1_home.data.toList.drop 80 = dktX1_home_3 := dk_seg dksX1_home_2 41 rfl rfl
theorem dksX1_home_4 : cX1_home.data.toList.drop 104 = dktX1_home_4 := dk_seg dksX1_home_3 24 rfl rfl
theorem dksX1_home_5 : cX1_home.data.toList.drop 127 = dktX1_home_5 := dk_seg dksX1_home_4 23 rfl rfl
theorem dksX1_home_6 : cX1_home.data.toList.drop 151 = dktX1_home_6 := dk_seg dksX1_home_5 24 rfl rfl
theorem dksX1_home_7 : cX1_home.data.toList.drop 175 = dktX1_home_7 := dk_seg dksX1_home_6 24 rfl rfl
theorem dX1_home_0 : decode cX1_home 0 = .ok (.aload_n 0, 1) := dk_42 (dk_at dksX1_home_0 0 rfl rfl)
theorem dX1_home_1 : decode cX1_home 1 = .ok (.iload_n 2, 1) := dk_28 (dk_at dksX1_home_0 1 rfl rfl)
theorem dX1_home_2 : decode cX1_home 2 = .ok (.i2l, 1) := dk_133 (dk_at dksX1_home_0 2 rfl rfl)
theorem dX1_home_3 : decode cX1_home 3 = .ok (.lconst 0, 1) := dk_9 (dk_at dksX1_home_0 3 rfl rfl)
theorem dX1_home_4 : decode cX1_home 4 = .ok (.ldc2_w 232, 3) := dk_20 0 232 (dk_at dksX1_home_0 4 rfl rfl)
theorem dX1_home_7 : decode cX1_home 7 = .ok (.invokestatic 134, 3) := dk_184 0 134 (dk_at dksX1_home_0 7 rfl rfl)
theorem dX1_home_10 : decode cX1_home 10 = .ok (.ifCond .ne 7, 3) := dk_154 0 7 (dk_at dksX1_home_0 10 rfl rfl)
theorem dX1_home_13 : decode cX1_home 13 = .ok (.iconst 1, 1) := dk_4 (dk_at dksX1_home_0 13 rfl rfl)
theorem dX1_home_14 : decode cX1_home 14 = .ok (.goto 16, 3) := dk_167 0 16 (dk_at dksX1_home_0 14 rfl rfl)
theorem dX1_home_17 : decode cX1_home 17 = .ok (.aload_n 0, 1) := dk_42 (dk_at dksX1_home_0 17 rfl rfl)
theorem dX1_home_18 : decode cX1_home 18 = .ok (.iload_n 1, 1) := dk_27 (dk_at dksX1_home_0 18 rfl rfl)
theorem dX1_home_19 : decode cX1_home 19 = .ok (.invokevirtual 141, 3) := dk_182 0 141 (dk_at dksX1_home_0 19 rfl rfl)
theorem dX1_home_22 : decode cX1_home 22 = .ok (.ifCond .eq 7, 3) := dk_153 0 7 (dk_at dksX1_home_1 0 rfl rfl)
theorem dX1_home_25 : decode cX1_home 25 = .ok (.iconst 0, 1) := dk_3 (dk_at dksX1_home_1 3 rfl rfl)
theorem dX1_home_26 : decode cX1_home 26 = .ok (.goto 4, 3) := dk_167 0 4 (dk_at dksX1_home_1 4 rfl rfl)
theorem dX1_home_29 : decode cX1_home 29 = .ok (.iconst 2, 1) := dk_5 (dk_at dksX1_home_1 7 rfl rfl)
theorem dX1_home_30 : decode cX1_home 30 = .ok (.invokevirtual 155, 3) := dk_182 0 155 (dk_at dksX1_home_1 8 rfl rfl)
theorem dX1_home_33 : decode cX1_home 33 = .ok (.ifCond .ne 5, 3) := dk_154 0 5 (dk_at dksX1_home_1 11 rfl rfl)
theorem dX1_home_36 : decode cX1_home 36 = .ok (.iconst (-1), 1) := dk_2 (dk_at dksX1_home_1 14 rfl rfl)
theorem dX1_home_37 : decode cX1_home 37 = .ok (.ireturn, 1) := dk_172 (dk_at dksX1_home_1 15 rfl rfl)
theorem dX1_home_38 : decode cX1_home 38 = .ok (.iload_n 2, 1) := dk_28 (dk_at dksX1_home_1 16 rfl rfl)
theorem dX1_home_39 : decode cX1_home 39 = .ok (.tableswitch 136 0 6 #[41, 50, 59, 72, 84, 102, 123], 41) := by decide +kernel
theorem dX1_home_80 : decode cX1_home 80 = .ok (.aload_n 0, 1) := dk_42 (dk_at dksX1_home_3 0 rfl rfl)
theorem dX1_home_81 : decode cX1_home 81 = .ok (.iload_n 1, 1) := dk_27 (dk_at dksX1_home_3 1 rfl rfl)
theorem dX1_home_82 : decode cX1_home 82 = .ok (.invokevirtual 234, 3) := dk_182 0 234 (dk_at dksX1_home_3 2 rfl rfl)
theorem dX1_home_85 : decode cX1_home 85 = .ok (.getfield 238, 3) := dk_180 0 238 (dk_at dksX1_home_3 5 rfl rfl)
theorem dX1_home_88 : decode cX1_home 88 = .ok (.ireturn, 1) := dk_172 (dk_at dksX1_home_3 8 rfl rfl)
theorem dX1_home_89 : decode cX1_home 89 = .ok (.aload_n 0, 1) := dk_42 (dk_at dksX1_home_3 9 rfl rfl)
theorem dX1_home_90 : decode cX1_home 90 = .ok (.iload_n 1, 1) := dk_27 (dk_at dksX1_home_3 10 rfl rfl)
theorem dX1_home_91 : decode cX1_home 91 = .ok (.invokevirtual 234, 3) := dk_182 0 234 (dk_at dksX1_home_3 11 rfl rfl)
theorem dX1_home_94 : decode cX1_home 94 = .ok (.getfield 241, 3) := dk_180 0 241 (dk_at dksX1_home_3 14 rfl rfl)
theorem dX1_home_97 : decode cX1_home 97 = .ok (.ireturn, 1) := dk_172 (dk_at dksX1_home_3 17 rfl rfl)
theorem dX1_home_98 : decode cX1_home 98 = .ok (.aload_n 0, 1) := dk_42 (dk_at dksX1_home_3 18 rfl rfl)
theorem dX1_home_99 : decode cX1_home 99 = .ok (.aload_n 0, 1) := dk_42 (dk_at dksX1_home_3 19 rfl rfl)
theorem dX1_home_100 : decode cX1_home 100 = .ok (.getfield 70, 3) := dk_180 0 70 (dk_at dksX1_home_3 20 rfl rfl)
theorem dX1_home_103 : decode cX1_home 103 = .ok (.iload_n 1, 1) := dk_27 (dk_at dksX1_home_3 23 rfl rfl)
theorem dX1_home_104 : decode cX1_home 104 = .ok (.invokevirtual 244, 3) := dk_182 0 244 (dk_at dksX1_home_4 0 rfl rfl)
theorem dX1_home_107 : decode cX1_home 107 = .ok (.invokevirtual 247, 3) := dk_182 0 247 (dk_at dksX1_home_4 3 rfl rfl)
theorem dX1_home_110 : decode cX1_home 110 = .ok (.ireturn, 1) := dk_172 (dk_at dksX1_home_4 6 rfl rfl)
theorem dX1_home_111 : decode cX1_home 111 = .ok (.aload_n 0, 1) := dk_42 (dk_at dksX1_home_4 7 rfl rfl)
theorem dX1_home_112 : decode cX1_home 112 = .ok (.getfield 70, 3) := dk_180 0 70 (dk_at dksX1_home_4 8 rfl rfl)
theorem dX1_home_115 : decode cX1_home 115 = .ok (.iload_n 1, 1) := dk_27 (dk_at dksX1_home_4 11 rfl rfl)
theorem dX1_home_116 : decode cX1_home 116 = .ok (.invokevirtual 250, 3) := dk_182 0 250 (dk_at dksX1_home_4 12 rfl rfl)
theorem dX1_home_119 : decode cX1_home 119 = .ok (.invokestatic 7, 3) := dk_184 0 7 (dk_at dksX1_home_4 15 rfl rfl)
theorem dX1_home_122 : decode cX1_home 122 = .ok (.ireturn, 1) := dk_172 (dk_at dksX1_home_4 18 rfl rfl)
theorem dX1_home_123 : decode cX1_home 123 = .ok (.aload_n 0, 1) := dk_42 (dk_at dksX1_home_4 19 rfl rfl)
theorem dX1_home_124 : decode cX1_home 124 = .ok (.getfield 51, 3) := dk_180 0 51 (dk_at dksX1_home_4 20 rfl rfl)
theorem dX1_home_127 : decode cX1_home 127 = .ok (.invokevirtual 130, 3) := dk_182 0 130 (dk_at dksX1_home_5 0 rfl rfl)
theorem dX1_home_130 : decode cX1_home 130 = .ok (.aload_n 0, 1) := dk_42 (dk_at dksX1_home_5 3 rfl rfl)
theorem dX1_home_131 : decode cX1_home 131 = .ok (.iload_n 1, 1) := dk_27 (dk_at dksX1_home_5 4 rfl rfl)
theorem dX1_home_132 : decode cX1_home 132 = .ok (.invokedynamic 253, 5) := by decide +kernel
theorem dX1_home_137 : decode cX1_home 137 = .ok (.invokestatic 192, 3) := dk_184 0 192 (dk_at dksX1_home_5 10 rfl rfl)
theorem dX1_home_140 : decode cX1_home 140 = .ok (.ireturn, 1) := dk_172 (dk_at dksX1_home_5 13 rfl rfl)
theorem dX1_home_141 : decode cX1_home 141 = .ok (.aload_n 0, 1) := dk_42 (dk_at dksX1_home_5 14 rfl rfl)
theorem dX1_home_142 : decode cX1_home 142 = .ok (.getfield 70, 3) := dk_180 0 70 (dk_at dksX1_home_5 15 rfl rfl)
theorem dX1_home_145 : decode cX1_home 145 = .ok (.getfield 204, 3) := dk_180 0 204 (dk_at dksX1_home_5 18 rfl rfl)
theorem dX1_home_148 : decode cX1_home 148 = .ok (.invokevirtual 130, 3) := dk_182 0 130 (dk_at dksX1_home_5 21 rfl rfl)
theorem dX1_home_151 : decode cX1_home 151 = .ok (.aload_n 0, 1) := dk_42 (dk_at dksX1_home_6 0 rfl rfl)
theorem dX1_home_152 : decode cX1_home 152 = .ok (.iload_n 1, 1) := dk_27 (dk_at dksX1_home_6 1 rfl rfl)
theorem dX1_home_153 : decode cX1_home 153 = .ok (.invokedynamic 256, 5) := by decide +kernel
theorem dX1_home_158 : decode cX1_home 158 = .ok (.invokestatic 192, 3) := dk_184 0 192 (dk_at dksX1_home_6 7 rfl rfl)
theorem dX1_home_161 : decode cX1_home 161 = .ok (.ireturn, 1) := dk_172 (dk_at dksX1_home_6 10 rfl rfl)
theorem dX1_home_162 : decode cX1_home 162 = .ok (.aload_n 0, 1) := dk_42 (dk_at dksX1_home_6 11 rfl rfl)
theorem dX1_home_163 : decode cX1_home 163 = .ok (.getfield 70, 3) := dk_180 0 70 (dk_at dksX1_home_6 12 rfl rfl)
theorem dX1_home_166 : decode cX1_home 166 = .ok (.getfield 257, 3) := dk_180 1 1 (dk_at dksX1_home_6 15 rfl rfl)
theorem dX1_home_169 : decode cX1_home 169 = .ok (.iload_n 1, 1) := dk_27 (dk_at dksX1_home_6 18 rfl rfl)
theorem dX1_home_170 : decode cX1_home 170 = .ok (.baload, 1) := dk_51 (dk_at dksX1_home_6 19 rfl rfl)
theorem dX1_home_171 : decode cX1_home 171 = .ok (.invokestatic 7, 3) := dk_184 0 7 (dk_at dksX1_home_6 20 rfl rfl)
theorem dX1_home_174 : decode cX1_home 174 = .ok (.ireturn, 1) := dk_172 (dk_at dksX1_home_6 23 rfl rfl)
theorem dX1_home_175 : decode cX1_home 175 = .ok (.aload_n 0, 1) := dk_42 (dk_at dksX1_home_7 0 rfl rfl)
theorem dX1_home_176 : decode cX1_home 176 = .ok (.getfield 70, 3) := dk_180 0 70 (dk_at dksX1_home_7 1 rfl rfl)
theorem dX1_home_179 : decode cX1_home 179 = .ok (.getfield 261, 3) := dk_180 1 5 (dk_at dksX1_home_7 4 rfl rfl)
theorem dX1_home_182 : decode cX1_home 182 = .ok (.iload_n 1, 1) := dk_27 (dk_at dksX1_home_7 7 rfl rfl)
theorem dX1_home_183 : decode cX1_home 183 = .ok (.iaload, 1) := dk_46 (dk_at dksX1_home_7 8 rfl rfl)
theorem dX1_home_184 : decode cX1_home 184 = .ok (.ireturn, 1) := dk_172 (dk_at dksX1_home_7 9 rfl rfl)
abbrev cX1_isHome : ByteArray := prog_1_method_16_code
def yX1_isHome : MethodName := ⟨RX1, "isHome", "(I)Z"⟩
def dkwX1_isHome_0 : List UInt8 := [27, 133, 9, 42, 180, 0, 39, 182, 0, 130, 4, 100, 133, 184, 0, 134, 172]
abbrev dktX1_isHome_0 : List UInt8 := dkwX1_isHome_0 ++ []
theorem dksX1_isHome_0 : cX1_isHome.data.toList.drop 0 = dktX1_isHome_0 := by decide +kernel
theorem dX1_isHome_0 : decode cX1_isHome 0 = .ok (.iload_n 1, 1) := dk_27 (dk_at dksX1_isHome_0 0 rfl rfl)
theorem dX1_isHome_1 : decode cX1_isHome 1 = .ok (.i2l, 1) := dk_133 (dk_at dksX1_isHome_0 1 rfl rfl)
theorem dX1_isHome_2 : decode cX1_isHome 2 = .ok (.lconst 0, 1) := dk_9 (dk_at dksX1_isHome_0 2 rfl rfl)
theorem dX1_isHome_3 : decode cX1_isHome 3 = .ok (.aload_n 0, 1) := dk_42 (dk_at dksX1_isHome_0 3 rfl rfl)
theorem dX1_isHome_4 : decode cX1_isHome 4 = .ok (.getfield 39, 3) := dk_180 0 39 (dk_at dksX1_isHome_0 4 rfl rfl)
theorem dX1_isHome_7 : decode cX1_isHome 7 = .ok (.invokevirtual 130, 3) := dk_182 0 130 (dk_at dksX1_isHome_0 7 rfl rfl)
theorem dX1_isHome_10 : decode cX1_isHome 10 = .ok (.iconst 1, 1) := dk_4 (dk_at dksX1_isHome_0 10 rfl rfl)
theorem dX1_isHome_11 : decode cX1_isHome 11 = .ok (.isub, 1) := dk_100 (dk_at dksX1_isHome_0 11 rfl rfl)
theorem dX1_isHome_12 : decode cX1_isHome 12 = .ok (.i2l, 1) := dk_133 (dk_at dksX1_isHome_0 12 rfl rfl)
theorem dX1_isHome_13 : decode cX1_isHome 13 = .ok (.invokestatic 134, 3) := dk_184 0 134 (dk_at dksX1_isHome_0 13 rfl rfl)
theorem dX1_isHome_16 : decode cX1_isHome 16 = .ok (.ireturn, 1) := dk_172 (dk_at dksX1_isHome_0 16 rfl rfl)
abbrev cX1_toldOr : ByteArray := prog_1_method_29_code
def yX1_toldOr : MethodName := ⟨RX1, "toldOr", "(I)I"⟩
def dkwX1_toldOr_0 : List UInt8 := [27, 156, 0, 11, 42, 8, 182, 0, 174, 167, 0, 4, 27, 172]
abbrev dktX1_toldOr_0 : List UInt8 := dkwX1_toldOr_0 ++ []
theorem dksX1_toldOr_0 : cX1_toldOr.data.toList.drop 0 = dktX1_toldOr_0 := by decide +kernel
theorem dX1_toldOr_0 : decode cX1_toldOr 0 = .ok (.iload_n 1, 1) := dk_27 (dk_at dksX1_toldOr_0 0 rfl rfl)
theorem dX1_toldOr_1 : decode cX1_toldOr 1 = .ok (.ifCond .ge 11, 3) := dk_156 0 11 (dk_at dksX1_toldOr_0 1 rfl rfl)
theorem dX1_toldOr_4 : decode cX1_toldOr 4 = .ok (.aload_n 0, 1) := dk_42 (dk_at dksX1_toldOr_0 4 rfl rfl)
theorem dX1_toldOr_5 : decode cX1_toldOr 5 = .ok (.iconst 5, 1) := dk_8 (dk_at dksX1_toldOr_0 5 rfl rfl)
theorem dX1_toldOr_6 : decode cX1_toldOr 6 = .ok (.invokevirtual 174, 3) := dk_182 0 174 (dk_at dksX1_toldOr_0 6 rfl rfl)
theorem dX1_toldOr_9 : decode cX1_toldOr 9 = .ok (.goto 4, 3) := dk_167 0 4 (dk_at dksX1_toldOr_0 9 rfl rfl)
theorem dX1_toldOr_12 : decode cX1_toldOr 12 = .ok (.iload_n 1, 1) := dk_27 (dk_at dksX1_toldOr_0 12 rfl rfl)
theorem dX1_toldOr_13 : decode cX1_toldOr 13 = .ok (.ireturn, 1) := dk_172 (dk_at dksX1_toldOr_0 13 rfl rfl)
abbrev cX1_lambda_home_8 : ByteArray := prog_1_method_106_code
def yX1_lambda_home_8 : MethodName := ⟨RX1, "lambda$home$8", "(II)Z"⟩
def dkwX1_lambda_home_8_0 : List UInt8 := [42, 180, 0, 70, 28, 27, 182, 1, 69, 172]
abbrev dktX1_lambda_home_8_0 : List UInt8 := dkwX1_lambda_home_8_0 ++ []
theorem dksX1_lambda_home_8_0 : cX1_lambda_home_8.data.toList.drop 0 = dktX1_lambda_home_8_0 := by decide +kernel
theorem dX1_lambda_home_8_0 : decode cX1_lambda_home_8 0 = .ok (.aload_n 0, 1) := dk_42 (dk_at dksX1_lambda_home_8_0 0 rfl rfl)
theorem dX1_lambda_home_8_1 : decode cX1_lambda_home_8 1 = .ok (.getfield 70, 3) := dk_180 0 70 (dk_at dksX1_lambda_home_8_0 1 rfl rfl)
theorem dX1_lambda_home_8_4 : decode cX1_lambda_home_8 4 = .ok (.iload_n 2, 1) := dk_28 (dk_at dksX1_lambda_home_8_0 4 rfl rfl)
theorem dX1_lambda_home_8_5 : decode cX1_lambda_home_8 5 = .ok (.iload_n 1, 1) := dk_27 (dk_at dksX1_lambda_home_8_0 5 rfl rfl)
theorem dX1_lambda_home_8_6 : decode cX1_lambda_home_8 6 = .ok (.invokevirtual 325, 3) := dk_182 1 69 (dk_at dksX1_lambda_home_8_0 6 rfl rfl)
theorem dX1_lambda_home_8_9 : decode cX1_lambda_home_8 9 = .ok (.ireturn, 1) := dk_172 (dk_at dksX1_lambda_home_8_0 9 rfl rfl)
abbrev cX1_lambda_home_9 : ByteArray := prog_1_method_105_code
def yX1_lambda_home_9 : MethodName := ⟨RX1, "lambda$home$9", "(II)Z"⟩
def dkwX1_lambda_home_9_1 : List UInt8 := [167, 0, 4, 3, 172]
abbrev dktX1_lambda_home_9_1 : List UInt8 := dkwX1_lambda_home_9_1 ++ []
def dkwX1_lambda_home_9_0 : List UInt8 := [42, 180, 0, 70, 180, 0, 204, 28, 182, 0, 43, 192, 1, 98, 180, 1, 102, 27, 160, 0, 7, 4]
abbrev dktX1_lambda_home_9_0 : List UInt8 := dkwX1_lambda_home_9_0 ++ dktX1_lambda_home_9_1
theorem dksX1_lambda_home_9_0 : cX1_lambda_home_9.data.toList.drop 0 = dktX1_lambda_home_9_0 := by decide +kernel
theorem dksX1_lambda_home_9_1 : cX1_lambda_home_9.data.toList.drop 22 = dktX1_lambda_home_9_1 := dk_seg dksX1_lambda_home_9_0 22 rfl rfl
theorem dX1_lambda_home_9_0 : decode cX1_lambda_home_9 0 = .ok (.aload_n 0, 1) := dk_42 (dk_at dksX1_lambda_home_9_0 0 rfl rfl)
theorem dX1_lambda_home_9_1 : decode cX1_lambda_home_9 1 = .ok (.getfield 70, 3) := dk_180 0 70 (dk_at dksX1_lambda_home_9_0 1 rfl rfl)
theorem dX1_lambda_home_9_4 : decode cX1_lambda_home_9 4 = .ok (.getfield 204, 3) := dk_180 0 204 (dk_at dksX1_lambda_home_9_0 4 rfl rfl)
theorem dX1_lambda_home_9_7 : decode cX1_lambda_home_9 7 = .ok (.iload_n 2, 1) := dk_28 (dk_at dksX1_lambda_home_9_0 7 rfl rfl)
theorem dX1_lambda_home_9_8 : decode cX1_lambda_home_9 8 = .ok (.invokevirtual 43, 3) := dk_182 0 43 (dk_at dksX1_lambda_home_9_0 8 rfl rfl)
theorem dX1_lambda_home_9_11 : decode cX1_lambda_home_9 11 = .ok (.checkcast 354, 3) := dk_192 1 98 (dk_at dksX1_lambda_home_9_0 11 rfl rfl)
theorem dX1_lambda_home_9_14 : decode cX1_lambda_home_9 14 = .ok (.getfield 358, 3) := dk_180 1 102 (dk_at dksX1_lambda_home_9_0 14 rfl rfl)
theorem dX1_lambda_home_9_17 : decode cX1_lambda_home_9 17 = .ok (.iload_n 1, 1) := dk_27 (dk_at dksX1_lambda_home_9_0 17 rfl rfl)
theorem dX1_lambda_home_9_18 : decode cX1_lambda_home_9 18 = .ok (.if_icmp .ne 7, 3) := dk_160 0 7 (dk_at dksX1_lambda_home_9_0 18 rfl rfl)
theorem dX1_lambda_home_9_21 : decode cX1_lambda_home_9 21 = .ok (.iconst 1, 1) := dk_4 (dk_at dksX1_lambda_home_9_0 21 rfl rfl)
theorem dX1_lambda_home_9_22 : decode cX1_lambda_home_9 22 = .ok (.goto 4, 3) := dk_167 0 4 (dk_at dksX1_lambda_home_9_1 0 rfl rfl)
theorem dX1_lambda_home_9_25 : decode cX1_lambda_home_9 25 = .ok (.iconst 0, 1) := dk_3 (dk_at dksX1_lambda_home_9_1 3 rfl rfl)
theorem dX1_lambda_home_9_26 : decode cX1_lambda_home_9 26 = .ok (.ireturn, 1) := dk_172 (dk_at dksX1_lambda_home_9_1 4 rfl rfl)
abbrev cX1_house : ByteArray := prog_1_method_31_code
def yX1_house : MethodName := ⟨RX1, "house", "(II)I"⟩
def dkwX1_house_10 : List UInt8 := [180, 0, 70, 180, 1, 15, 27, 46, 172, 42, 180, 0, 70, 180, 1, 55, 27, 46, 172]
abbrev dktX1_house_10 : List UInt8 := dkwX1_house_10 ++ []
def dkwX1_house_9 : List UInt8 := [42, 180, 0, 70, 180, 1, 49, 27, 51, 184, 0, 7, 172, 42, 180, 0, 70, 27, 182, 1, 52, 172, 42]
abbrev dktX1_house_9 : List UInt8 := dkwX1_house_9 ++ dktX1_house_10
def dkwX1_house_8 : List UInt8 := [182, 0, 247, 172, 42, 180, 0, 70, 180, 1, 43, 27, 46, 172, 42, 180, 0, 70, 180, 1, 46, 27, 46, 172]
abbrev dktX1_house_8 : List UInt8 := dkwX1_house_8 ++ dktX1_house_9
def dkwX1_house_7 : List UInt8 := [172, 25, 4, 182, 1, 34, 172, 25, 4, 182, 1, 37, 172, 42, 42, 180, 0, 70, 180, 1, 40, 27, 46]
abbrev dktX1_house_7 : List UInt8 := dkwX1_house_7 ++ dktX1_house_8
def dkwX1_house_6 : List UInt8 := [25, 4, 182, 1, 25, 172, 42, 180, 0, 70, 27, 182, 1, 28, 172, 42, 180, 0, 70, 180, 1, 31, 27, 46]
abbrev dktX1_house_6 : List UInt8 := dkwX1_house_6 ++ dktX1_house_7
def dkwX1_house_5 : List UInt8 := [170, 0, 0, 0, 160, 0, 0, 0, 0, 0, 0, 0, 10, 0, 0, 0, 57, 0, 0, 0, 63, 0, 0, 0, 72, 0, 0, 0, 82, 0, 0, 0, 88, 0, 0, 0, 94, 0, 0, 0, 108, 0, 0, 0, 118, 0, 0, 0, 128, 0, 0, 0, 141, 0, 0, 0, 150]
abbrev dktX1_house_5 : List UInt8 := dkwX1_house_5 ++ dktX1_house_6
def dkwX1_house_4 : List UInt8 := [172, 42, 27, 182, 1, 21, 58, 4, 28]
abbrev dktX1_house_4 : List UInt8 := dkwX1_house_4 ++ dktX1_house_5
def dkwX1_house_3 : List UInt8 := [27, 46, 162, 0, 18, 42, 180, 0, 70, 27, 28, 16, 20, 100, 182, 1, 18, 167, 0, 4, 2, 182, 0, 247]
abbrev dktX1_house_3 : List UInt8 := dkwX1_house_3 ++ dktX1_house_4
def dkwX1_house_2 : List UInt8 := [182, 0, 155, 154, 0, 5, 2, 172, 29, 153, 0, 40, 42, 28, 16, 20, 100, 42, 180, 0, 70, 180, 1, 15]
abbrev dktX1_house_2 : List UInt8 := dkwX1_house_2 ++ dktX1_house_3
def dkwX1_house_1 : List UInt8 := [154, 0, 11, 29, 154, 0, 7, 4, 167, 0, 16, 42, 27, 182, 0, 138, 153, 0, 7, 3, 167, 0, 4, 5]
abbrev dktX1_house_1 : List UInt8 := dkwX1_house_1 ++ dktX1_house_2
def dkwX1_house_0 : List UInt8 := [28, 133, 20, 1, 9, 20, 1, 11, 184, 0, 134, 62, 42, 28, 133, 9, 20, 1, 13, 184, 0, 134]
abbrev dktX1_house_0 : List UInt8 := dkwX1_house_0 ++ dktX1_house_1
theorem dksX1_house_0 : cX1_house.data.toList.drop 0 = dktX1_house_0 := by decide +kernel
theorem dksX1_house_1 : cX1_house.data.toList.drop 22 = dktX1_house_1 := dk_seg dksX1_house_0 22 rfl rfl
theorem dksX1_house_2 : cX1_house.data.toList.drop 46 = dktX1_house_2 := dk_seg dksX1_house_1 24 rfl rfl
theorem dksX1_house_3 : cX1_house.data.toList.drop 70 = dktX1_house_3 := dk_seg dksX1_house_2 24 rfl rfl
theorem dksX1_house_4 : cX1_house.data.toList.drop 94 = dktX1_house_4 := dk_seg dksX1_house_3 24 rfl rfl
theorem dksX1_house_5 : cX1_house.data.toList.drop 103 = dktX1_house_5 := dk_seg dksX1_house_4 9 rfl rfl
theorem dksX1_house_6 : cX1_house.data.toList.drop 160 = dktX1_house_6 := dk_seg dksX1_house_5 57 rfl rfl
theorem dksX1_house_7 : cX1_house.data.toList.drop 184 = dktX1_house_7 := dk_seg dksX1_house_6 24 rfl rfl
theorem dksX1_house_8 : cX1_house.data.toList.drop 207 = dktX1_house_8 := dk_seg dksX1_house_7 23 rfl rfl
theorem dksX1_house_9 : cX1_house.data.toList.drop 231 = dktX1_house_9 := dk_seg dksX1_house_8 24 rfl rfl
theorem dksX1_house_10 : cX1_house.data.toList.drop 254 = dktX1_house_10 := dk_seg dksX1_house_9 23 rfl rfl
theorem dX1_house_0 : decode cX1_house 0 = .ok (.iload_n 2, 1) := dk_28 (dk_at dksX1_house_0 0 rfl rfl)
theorem dX1_house_1 : decode cX1_house 1 = .ok (.i2l, 1) := dk_133 (dk_at dksX1_house_0 1 rfl rfl)
theorem dX1_house_2 : decode cX1_house 2 = .ok (.ldc2_w 265, 3) := dk_20 1 9 (dk_at dksX1_house_0 2 rfl rfl)
theorem dX1_house_5 : decode cX1_house 5 = .ok (.ldc2_w 267, 3) := dk_20 1 11 (dk_at dksX1_house_0 5 rfl rfl)
theorem dX1_house_8 : decode cX1_house 8 = .ok (.invokestatic 134, 3) := dk_184 0 134 (dk_at dksX1_house_0 8 rfl rfl)
theorem dX1_house_11 : decode cX1_house 11 = .ok (.istore_n 3, 1) := dk_62 (dk_at dksX1_house_0 11 rfl rfl)
theorem dX1_house_12 : decode cX1_house 12 = .ok (.aload_n 0, 1) := dk_42 (dk_at dksX1_house_0 12 rfl rfl)
theorem dX1_house_13 : decode cX1_house 13 = .ok (.iload_n 2, 1) := dk_28 (dk_at dksX1_house_0 13 rfl rfl)
theorem dX1_house_14 : decode cX1_house 14 = .ok (.i2l, 1) := dk_133 (dk_at dksX1_house_0 14 rfl rfl)
theorem dX1_house_15 : decode cX1_house 15 = .ok (.lconst 0, 1) := dk_9 (dk_at dksX1_house_0 15 rfl rfl)
theorem dX1_house_16 : decode cX1_house 16 = .ok (.ldc2_w 269, 3) := dk_20 1 13 (dk_at dksX1_house_0 16 rfl rfl)
theorem dX1_house_19 : decode cX1_house 19 = .ok (.invokestatic 134, 3) := dk_184 0 134 (dk_at dksX1_house_0 19 rfl rfl)
theorem dX1_house_22 : decode cX1_house 22 = .ok (.ifCond .ne 11, 3) := dk_154 0 11 (dk_at dksX1_house_1 0 rfl rfl)
theorem dX1_house_25 : decode cX1_house 25 = .ok (.iload_n 3, 1) := dk_29 (dk_at dksX1_house_1 3 rfl rfl)
theorem dX1_house_26 : decode cX1_house 26 = .ok (.ifCond .ne 7, 3) := dk_154 0 7 (dk_at dksX1_house_1 4 rfl rfl)
theorem dX1_house_29 : decode cX1_house 29 = .ok (.iconst 1, 1) := dk_4 (dk_at dksX1_house_1 7 rfl rfl)
theorem dX1_house_30 : decode cX1_house 30 = .ok (.goto 16, 3) := dk_167 0 16 (dk_at dksX1_house_1 8 rfl rfl)
theorem dX1_house_33 : decode cX1_house 33 = .ok (.aload_n 0, 1) := dk_42 (dk_at dksX1_house_1 11 rfl rfl)
theorem dX1_house_34 : decode cX1_house 34 = .ok (.iload_n 1, 1) := dk_27 (dk_at dksX1_house_1 12 rfl rfl)
theorem dX1_house_35 : decode cX1_house 35 = .ok (.invokevirtual 138, 3) := dk_182 0 138 (dk_at dksX1_house_1 13 rfl rfl)
theorem dX1_house_38 : decode cX1_house 38 = .ok (.ifCond .eq 7, 3) := dk_153 0 7 (dk_at dksX1_house_1 16 rfl rfl)
theorem dX1_house_41 : decode cX1_house 41 = .ok (.iconst 0, 1) := dk_3 (dk_at dksX1_house_1 19 rfl rfl)
theorem dX1_house_42 : decode cX1_house 42 = .ok (.goto 4, 3) := dk_167 0 4 (dk_at dksX1_house_1 20 rfl rfl)
theorem dX1_house_45 : decode cX1_house 45 = .ok (.iconst 2, 1) := dk_5 (dk_at dksX1_house_1 23 rfl rfl)
theorem dX1_house_46 : decode cX1_house 46 = .ok (.invokevirtual 155, 3) := dk_182 0 155 (dk_at dksX1_house_2 0 rfl rfl)
theorem dX1_house_49 : decode cX1_house 49 = .ok (.ifCond .ne 5, 3) := dk_154 0 5 (dk_at dksX1_house_2 3 rfl rfl)
theorem dX1_house_52 : decode cX1_house 52 = .ok (.iconst (-1), 1) := dk_2 (dk_at dksX1_house_2 6 rfl rfl)
theorem dX1_house_53 : decode cX1_house 53 = .ok (.ireturn, 1) := dk_172 (dk_at dksX1_house_2 7 rfl rfl)
theorem dX1_house_54 : decode cX1_house 54 = .ok (.iload_n 3, 1) := dk_29 (dk_at dksX1_house_2 8 rfl rfl)
theorem dX1_house_55 : decode cX1_house 55 = .ok (.ifCond .eq 40, 3) := dk_153 0 40 (dk_at dksX1_house_2 9 rfl rfl)
theorem dX1_house_58 : decode cX1_house 58 = .ok (.aload_n 0, 1) := dk_42 (dk_at dksX1_house_2 12 rfl rfl)
theorem dX1_house_59 : decode cX1_house 59 = .ok (.iload_n 2, 1) := dk_28 (dk_at dksX1_house_2 13 rfl rfl)
theorem dX1_house_60 : decode cX1_house 60 = .ok (.bipush 20, 2) := dk_16 20 (dk_at dksX1_house_2 14 rfl rfl)
theorem dX1_house_62 : decode cX1_house 62 = .ok (.isub, 1) := dk_100 (dk_at dksX1_house_2 16 rfl rfl)
theorem dX1_house_63 : decode cX1_house 63 = .ok (.aload_n 0, 1) := dk_42 (dk_at dksX1_house_2 17 rfl rfl)
theorem dX1_house_64 : decode cX1_house 64 = .ok (.getfield 70, 3) := dk_180 0 70 (dk_at dksX1_house_2 18 rfl rfl)
theorem dX1_house_67 : decode cX1_house 67 = .ok (.getfield 271, 3) := dk_180 1 15 (dk_at dksX1_house_2 21 rfl rfl)
theorem dX1_house_70 : decode cX1_house 70 = .ok (.iload_n 1, 1) := dk_27 (dk_at dksX1_house_3 0 rfl rfl)
theorem dX1_house_71 : decode cX1_house 71 = .ok (.iaload, 1) := dk_46 (dk_at dksX1_house_3 1 rfl rfl)
theorem dX1_house_72 : decode cX1_house 72 = .ok (.if_icmp .ge 18, 3) := dk_162 0 18 (dk_at dksX1_house_3 2 rfl rfl)
theorem dX1_house_75 : decode cX1_house 75 = .ok (.aload_n 0, 1) := dk_42 (dk_at dksX1_house_3 5 rfl rfl)
theorem dX1_house_76 : decode cX1_house 76 = .ok (.getfield 70, 3) := dk_180 0 70 (dk_at dksX1_house_3 6 rfl rfl)
theorem dX1_house_79 : decode cX1_house 79 = .ok (.iload_n 1, 1) := dk_27 (dk_at dksX1_house_3 9 rfl rfl)
theorem dX1_house_80 : decode cX1_house 80 = .ok (.iload_n 2, 1) := dk_28 (dk_at dksX1_house_3 10 rfl rfl)
theorem dX1_house_81 : decode cX1_house 81 = .ok (.bipush 20, 2) := dk_16 20 (dk_at dksX1_house_3 11 rfl rfl)
theorem dX1_house_83 : decode cX1_house 83 = .ok (.isub, 1) := dk_100 (dk_at dksX1_house_3 13 rfl rfl)
theorem dX1_house_84 : decode cX1_house 84 = .ok (.invokevirtual 274, 3) := dk_182 1 18 (dk_at dksX1_house_3 14 rfl rfl)
theorem dX1_house_87 : decode cX1_house 87 = .ok (.goto 4, 3) := dk_167 0 4 (dk_at dksX1_house_3 17 rfl rfl)
theorem dX1_house_90 : decode cX1_house 90 = .ok (.iconst (-1), 1) := dk_2 (dk_at dksX1_house_3 20 rfl rfl)
theorem dX1_house_91 : decode cX1_house 91 = .ok (.invokevirtual 247, 3) := dk_182 0 247 (dk_at dksX1_house_3 21 rfl rfl)
theorem dX1_house_94 : decode cX1_house 94 = .ok (.ireturn, 1) := dk_172 (dk_at dksX1_house_4 0 rfl rfl)
theorem dX1_house_95 : decode cX1_house 95 = .ok (.aload_n 0, 1) := dk_42 (dk_at dksX1_house_4 1 rfl rfl)
theorem dX1_house_96 : decode cX1_house 96 = .ok (.iload_n 1, 1) := dk_27 (dk_at dksX1_house_4 2 rfl rfl)
theorem dX1_house_97 : decode cX1_house 97 = .ok (.invokevirtual 277, 3) := dk_182 1 21 (dk_at dksX1_house_4 3 rfl rfl)
theorem dX1_house_100 : decode cX1_house 100 = .ok (.astore 4, 2) := dk_58 4 (dk_at dksX1_house_4 6 rfl rfl)
theorem dX1_house_102 : decode cX1_house 102 = .ok (.iload_n 2, 1) := dk_28 (dk_at dksX1_house_4 8 rfl rfl)
theorem dX1_house_103 : decode cX1_house 103 = .ok (.tableswitch 160 0 10 #[57, 63, 72, 82, 88, 94, 108, 118, 128, 141, 150], 57) := by decide +kernel
theorem dX1_house_160 : decode cX1_house 160 = .ok (.aload 4, 2) := dk_25 4 (dk_at dksX1_house_6 0 rfl rfl)
theorem dX1_house_162 : decode cX1_house 162 = .ok (.invokevirtual 281, 3) := dk_182 1 25 (dk_at dksX1_house_6 2 rfl rfl)
theorem dX1_house_165 : decode cX1_house 165 = .ok (.ireturn, 1) := dk_172 (dk_at dksX1_house_6 5 rfl rfl)
theorem dX1_house_166 : decode cX1_house 166 = .ok (.aload_n 0, 1) := dk_42 (dk_at dksX1_house_6 6 rfl rfl)
theorem dX1_house_167 : decode cX1_house 167 = .ok (.getfield 70, 3) := dk_180 0 70 (dk_at dksX1_house_6 7 rfl rfl)
theorem dX1_house_170 : decode cX1_house 170 = .ok (.iload_n 1, 1) := dk_27 (dk_at dksX1_house_6 10 rfl rfl)
theorem dX1_house_171 : decode cX1_house 171 = .ok (.invokevirtual 284, 3) := dk_182 1 28 (dk_at dksX1_house_6 11 rfl rfl)
theorem dX1_house_174 : decode cX1_house 174 = .ok (.ireturn, 1) := dk_172 (dk_at dksX1_house_6 14 rfl rfl)
theorem dX1_house_175 : decode cX1_house 175 = .ok (.aload_n 0, 1) := dk_42 (dk_at dksX1_house_6 15 rfl rfl)
theorem dX1_house_176 : decode cX1_house 176 = .ok (.getfield 70, 3) := dk_180 0 70 (dk_at dksX1_house_6 16 rfl rfl)
theorem dX1_house_179 : decode cX1_house 179 = .ok (.getfield 287, 3) := dk_180 1 31 (dk_at dksX1_house_6 19 rfl rfl)
theorem dX1_house_182 : decode cX1_house 182 = .ok (.iload_n 1, 1) := dk_27 (dk_at dksX1_house_6 22 rfl rfl)
theorem dX1_house_183 : decode cX1_house 183 = .ok (.iaload, 1) := dk_46 (dk_at dksX1_house_6 23 rfl rfl)
theorem dX1_house_184 : decode cX1_house 184 = .ok (.ireturn, 1) := dk_172 (dk_at dksX1_house_7 0 rfl rfl)
theorem dX1_house_185 : decode cX1_house 185 = .ok (.aload 4, 2) := dk_25 4 (dk_at dksX1_house_7 1 rfl rfl)
theorem dX1_house_187 : decode cX1_house 187 = .ok (.invokevirtual 290, 3) := dk_182 1 34 (dk_at dksX1_house_7 3 rfl rfl)
theorem dX1_house_190 : decode cX1_house 190 = .ok (.ireturn, 1) := dk_172 (dk_at dksX1_house_7 6 rfl rfl)
theorem dX1_house_191 : decode cX1_house 191 = .ok (.aload 4, 2) := dk_25 4 (dk_at dksX1_house_7 7 rfl rfl)
theorem dX1_house_193 : decode cX1_house 193 = .ok (.invokevirtual 293, 3) := dk_182 1 37 (dk_at dksX1_house_7 9 rfl rfl)
theorem dX1_house_196 : decode cX1_house 196 = .ok (.ireturn, 1) := dk_172 (dk_at dksX1_house_7 12 rfl rfl)
theorem dX1_house_197 : decode cX1_house 197 = .ok (.aload_n 0, 1) := dk_42 (dk_at dksX1_house_7 13 rfl rfl)
theorem dX1_house_198 : decode cX1_house 198 = .ok (.aload_n 0, 1) := dk_42 (dk_at dksX1_house_7 14 rfl rfl)
theorem dX1_house_199 : decode cX1_house 199 = .ok (.getfield 70, 3) := dk_180 0 70 (dk_at dksX1_house_7 15 rfl rfl)
theorem dX1_house_202 : decode cX1_house 202 = .ok (.getfield 296, 3) := dk_180 1 40 (dk_at dksX1_house_7 18 rfl rfl)
theorem dX1_house_205 : decode cX1_house 205 = .ok (.iload_n 1, 1) := dk_27 (dk_at dksX1_house_7 21 rfl rfl)
theorem dX1_house_206 : decode cX1_house 206 = .ok (.iaload, 1) := dk_46 (dk_at dksX1_house_7 22 rfl rfl)
theorem dX1_house_207 : decode cX1_house 207 = .ok (.invokevirtual 247, 3) := dk_182 0 247 (dk_at dksX1_house_8 0 rfl rfl)
theorem dX1_house_210 : decode cX1_house 210 = .ok (.ireturn, 1) := dk_172 (dk_at dksX1_house_8 3 rfl rfl)
theorem dX1_house_211 : decode cX1_house 211 = .ok (.aload_n 0, 1) := dk_42 (dk_at dksX1_house_8 4 rfl rfl)
theorem dX1_house_212 : decode cX1_house 212 = .ok (.getfield 70, 3) := dk_180 0 70 (dk_at dksX1_house_8 5 rfl rfl)
theorem dX1_house_215 : decode cX1_house 215 = .ok (.getfield 299, 3) := dk_180 1 43 (dk_at dksX1_house_8 8 rfl rfl)
theorem dX1_house_218 : decode cX1_house 218 = .ok (.iload_n 1, 1) := dk_27 (dk_at dksX1_house_8 11 rfl rfl)
theorem dX1_house_219 : decode cX1_house 219 = .ok (.iaload, 1) := dk_46 (dk_at dksX1_house_8 12 rfl rfl)
theorem dX1_house_220 : decode cX1_house 220 = .ok (.ireturn, 1) := dk_172 (dk_at dksX1_house_8 13 rfl rfl)
theorem dX1_house_221 : decode cX1_house 221 = .ok (.aload_n 0, 1) := dk_42 (dk_at dksX1_house_8 14 rfl rfl)
theorem dX1_house_222 : decode cX1_house 222 = .ok (.getfield 70, 3) := dk_180 0 70 (dk_at dksX1_house_8 15 rfl rfl)
theorem dX1_house_225 : decode cX1_house 225 = .ok (.getfield 302, 3) := dk_180 1 46 (dk_at dksX1_house_8 18 rfl rfl)
theorem dX1_house_228 : decode cX1_house 228 = .ok (.iload_n 1, 1) := dk_27 (dk_at dksX1_house_8 21 rfl rfl)
theorem dX1_house_229 : decode cX1_house 229 = .ok (.iaload, 1) := dk_46 (dk_at dksX1_house_8 22 rfl rfl)
theorem dX1_house_230 : decode cX1_house 230 = .ok (.ireturn, 1) := dk_172 (dk_at dksX1_house_8 23 rfl rfl)
theorem dX1_house_231 : decode cX1_house 231 = .ok (.aload_n 0, 1) := dk_42 (dk_at dksX1_house_9 0 rfl rfl)
theorem dX1_house_232 : decode cX1_house 232 = .ok (.getfield 70, 3) := dk_180 0 70 (dk_at dksX1_house_9 1 rfl rfl)
theorem dX1_house_235 : decode cX1_house 235 = .ok (.getfield 305, 3) := dk_180 1 49 (dk_at dksX1_house_9 4 rfl rfl)
theorem dX1_house_238 : decode cX1_house 238 = .ok (.iload_n 1, 1) := dk_27 (dk_at dksX1_house_9 7 rfl rfl)
theorem dX1_house_239 : decode cX1_house 239 = .ok (.baload, 1) := dk_51 (dk_at dksX1_house_9 8 rfl rfl)
theorem dX1_house_240 : decode cX1_house 240 = .ok (.invokestatic 7, 3) := dk_184 0 7 (dk_at dksX1_house_9 9 rfl rfl)
theorem dX1_house_243 : decode cX1_house 243 = .ok (.ireturn, 1) := dk_172 (dk_at dksX1_house_9 12 rfl rfl)
theorem dX1_house_244 : decode cX1_house 244 = .ok (.aload_n 0, 1) := dk_42 (dk_at dksX1_house_9 13 rfl rfl)
theorem dX1_house_245 : decode cX1_house 245 = .ok (.getfield 70, 3) := dk_180 0 70 (dk_at dksX1_house_9 14 rfl rfl)
theorem dX1_house_248 : decode cX1_house 248 = .ok (.iload_n 1, 1) := dk_27 (dk_at dksX1_house_9 17 rfl rfl)
theorem dX1_house_249 : decode cX1_house 249 = .ok (.invokevirtual 308, 3) := dk_182 1 52 (dk_at dksX1_house_9 18 rfl rfl)
theorem dX1_house_252 : decode cX1_house 252 = .ok (.ireturn, 1) := dk_172 (dk_at dksX1_house_9 21 rfl rfl)
theorem dX1_house_253 : decode cX1_house 253 = .ok (.aload_n 0, 1) := dk_42 (dk_at dksX1_house_9 22 rfl rfl)
theorem dX1_house_254 : decode cX1_house 254 = .ok (.getfield 70, 3) := dk_180 0 70 (dk_at dksX1_house_10 0 rfl rfl)
theorem dX1_house_257 : decode cX1_house 257 = .ok (.getfield 271, 3) := dk_180 1 15 (dk_at dksX1_house_10 3 rfl rfl)
theorem dX1_house_260 : decode cX1_house 260 = .ok (.iload_n 1, 1) := dk_27 (dk_at dksX1_house_10 6 rfl rfl)
theorem dX1_house_261 : decode cX1_house 261 = .ok (.iaload, 1) := dk_46 (dk_at dksX1_house_10 7 rfl rfl)
theorem dX1_house_262 : decode cX1_house 262 = .ok (.ireturn, 1) := dk_172 (dk_at dksX1_house_10 8 rfl rfl)
theorem dX1_house_263 : decode cX1_house 263 = .ok (.aload_n 0, 1) := dk_42 (dk_at dksX1_house_10 9 rfl rfl)
theorem dX1_house_264 : decode cX1_house 264 = .ok (.getfield 70, 3) := dk_180 0 70 (dk_at dksX1_house_10 10 rfl rfl)
theorem dX1_house_267 : decode cX1_house 267 = .ok (.getfield 311, 3) := dk_180 1 55 (dk_at dksX1_house_10 13 rfl rfl)
theorem dX1_house_270 : decode cX1_house 270 = .ok (.iload_n 1, 1) := dk_27 (dk_at dksX1_house_10 16 rfl rfl)
theorem dX1_house_271 : decode cX1_house 271 = .ok (.iaload, 1) := dk_46 (dk_at dksX1_house_10 17 rfl rfl)
theorem dX1_house_272 : decode cX1_house 272 = .ok (.ireturn, 1) := dk_172 (dk_at dksX1_house_10 18 rfl rfl)
abbrev cX1_isHouse : ByteArray := prog_1_method_17_code
def yX1_isHouse : MethodName := ⟨RX1, "isHouse", "(I)Z"⟩
def dkwX1_isHouse_0 : List UInt8 := [27, 133, 9, 42, 180, 0, 51, 182, 0, 130, 4, 100, 133, 184, 0, 134, 172]
abbrev dktX1_isHouse_0 : List UInt8 := dkwX1_isHouse_0 ++ []
theorem dksX1_isHouse_0 : cX1_isHouse.data.toList.drop 0 = dktX1_isHouse_0 := by decide +kernel
theorem dX1_isHouse_0 : decode cX1_isHouse 0 = .ok (.iload_n 1, 1) := dk_27 (dk_at dksX1_isHouse_0 0 rfl rfl)
theorem dX1_isHouse_1 : decode cX1_isHouse 1 = .ok (.i2l, 1) := dk_133 (dk_at dksX1_isHouse_0 1 rfl rfl)
theorem dX1_isHouse_2 : decode cX1_isHouse 2 = .ok (.lconst 0, 1) := dk_9 (dk_at dksX1_isHouse_0 2 rfl rfl)
theorem dX1_isHouse_3 : decode cX1_isHouse 3 = .ok (.aload_n 0, 1) := dk_42 (dk_at dksX1_isHouse_0 3 rfl rfl)
theorem dX1_isHouse_4 : decode cX1_isHouse 4 = .ok (.getfield 51, 3) := dk_180 0 51 (dk_at dksX1_isHouse_0 4 rfl rfl)
theorem dX1_isHouse_7 : decode cX1_isHouse 7 = .ok (.invokevirtual 130, 3) := dk_182 0 130 (dk_at dksX1_isHouse_0 7 rfl rfl)
theorem dX1_isHouse_10 : decode cX1_isHouse 10 = .ok (.iconst 1, 1) := dk_4 (dk_at dksX1_isHouse_0 10 rfl rfl)
theorem dX1_isHouse_11 : decode cX1_isHouse 11 = .ok (.isub, 1) := dk_100 (dk_at dksX1_isHouse_0 11 rfl rfl)
theorem dX1_isHouse_12 : decode cX1_isHouse 12 = .ok (.i2l, 1) := dk_133 (dk_at dksX1_isHouse_0 12 rfl rfl)
theorem dX1_isHouse_13 : decode cX1_isHouse 13 = .ok (.invokestatic 134, 3) := dk_184 0 134 (dk_at dksX1_isHouse_0 13 rfl rfl)
theorem dX1_isHouse_16 : decode cX1_isHouse 16 = .ok (.ireturn, 1) := dk_172 (dk_at dksX1_isHouse_0 16 rfl rfl)
abbrev cX1_rule : ByteArray := prog_1_method_32_code
def yX1_rule : MethodName := ⟨RX1, "rule", "(I)I"⟩
def dkwX1_rule_1 : List UInt8 := [42, 180, 0, 70, 180, 1, 60, 27, 46, 167, 0, 4, 2, 172]
abbrev dktX1_rule_1 : List UInt8 := dkwX1_rule_1 ++ []
def dkwX1_rule_0 : List UInt8 := [42, 27, 133, 9, 20, 1, 58, 184, 0, 134, 153, 0, 7, 3, 167, 0, 4, 4, 182, 0, 155, 153, 0, 15]
abbrev dktX1_rule_0 : List UInt8 := dkwX1_rule_0 ++ dktX1_rule_1
theorem dksX1_rule_0 : cX1_rule.data.toList.drop 0 = dktX1_rule_0 := by decide +kernel
theorem dksX1_rule_1 : cX1_rule.data.toList.drop 24 = dktX1_rule_1 := dk_seg dksX1_rule_0 24 rfl rfl
theorem dX1_rule_0 : decode cX1_rule 0 = .ok (.aload_n 0, 1) := dk_42 (dk_at dksX1_rule_0 0 rfl rfl)
theorem dX1_rule_1 : decode cX1_rule 1 = .ok (.iload_n 1, 1) := dk_27 (dk_at dksX1_rule_0 1 rfl rfl)
theorem dX1_rule_2 : decode cX1_rule 2 = .ok (.i2l, 1) := dk_133 (dk_at dksX1_rule_0 2 rfl rfl)
theorem dX1_rule_3 : decode cX1_rule 3 = .ok (.lconst 0, 1) := dk_9 (dk_at dksX1_rule_0 3 rfl rfl)
theorem dX1_rule_4 : decode cX1_rule 4 = .ok (.ldc2_w 314, 3) := dk_20 1 58 (dk_at dksX1_rule_0 4 rfl rfl)
theorem dX1_rule_7 : decode cX1_rule 7 = .ok (.invokestatic 134, 3) := dk_184 0 134 (dk_at dksX1_rule_0 7 rfl rfl)
theorem dX1_rule_10 : decode cX1_rule 10 = .ok (.ifCond .eq 7, 3) := dk_153 0 7 (dk_at dksX1_rule_0 10 rfl rfl)
theorem dX1_rule_13 : decode cX1_rule 13 = .ok (.iconst 0, 1) := dk_3 (dk_at dksX1_rule_0 13 rfl rfl)
theorem dX1_rule_14 : decode cX1_rule 14 = .ok (.goto 4, 3) := dk_167 0 4 (dk_at dksX1_rule_0 14 rfl rfl)
theorem dX1_rule_17 : decode cX1_rule 17 = .ok (.iconst 1, 1) := dk_4 (dk_at dksX1_rule_0 17 rfl rfl)
theorem dX1_rule_18 : decode cX1_rule 18 = .ok (.invokevirtual 155, 3) := dk_182 0 155 (dk_at dksX1_rule_0 18 rfl rfl)
theorem dX1_rule_21 : decode cX1_rule 21 = .ok (.ifCond .eq 15, 3) := dk_153 0 15 (dk_at dksX1_rule_0 21 rfl rfl)
theorem dX1_rule_24 : decode cX1_rule 24 = .ok (.aload_n 0, 1) := dk_42 (dk_at dksX1_rule_1 0 rfl rfl)
theorem dX1_rule_25 : decode cX1_rule 25 = .ok (.getfield 70, 3) := dk_180 0 70 (dk_at dksX1_rule_1 1 rfl rfl)
theorem dX1_rule_28 : decode cX1_rule 28 = .ok (.getfield 316, 3) := dk_180 1 60 (dk_at dksX1_rule_1 4 rfl rfl)
theorem dX1_rule_31 : decode cX1_rule 31 = .ok (.iload_n 1, 1) := dk_27 (dk_at dksX1_rule_1 7 rfl rfl)
theorem dX1_rule_32 : decode cX1_rule 32 = .ok (.iaload, 1) := dk_46 (dk_at dksX1_rule_1 8 rfl rfl)
theorem dX1_rule_33 : decode cX1_rule 33 = .ok (.goto 4, 3) := dk_167 0 4 (dk_at dksX1_rule_1 9 rfl rfl)
theorem dX1_rule_36 : decode cX1_rule 36 = .ok (.iconst (-1), 1) := dk_2 (dk_at dksX1_rule_1 12 rfl rfl)
theorem dX1_rule_37 : decode cX1_rule 37 = .ok (.ireturn, 1) := dk_172 (dk_at dksX1_rule_1 13 rfl rfl)
abbrev cX1_why : ByteArray := prog_1_method_33_code
def yX1_why : MethodName := ⟨RX1, "why", "(II)I"⟩
def dkwX1_why_1 : List UInt8 := [167, 0, 4, 2, 172]
abbrev dktX1_why_1 : List UInt8 := dkwX1_why_1 ++ []
def dkwX1_why_0 : List UInt8 := [42, 42, 27, 28, 182, 1, 63, 182, 0, 155, 153, 0, 15, 42, 180, 0, 70, 27, 28, 182, 1, 66]
abbrev dktX1_why_0 : List UInt8 := dkwX1_why_0 ++ dktX1_why_1
theorem dksX1_why_0 : cX1_why.data.toList.drop 0 = dktX1_why_0 := by decide +kernel
theorem dksX1_why_1 : cX1_why.data.toList.drop 22 = dktX1_why_1 := dk_seg dksX1_why_0 22 rfl rfl
theorem dX1_why_0 : decode cX1_why 0 = .ok (.aload_n 0, 1) := dk_42 (dk_at dksX1_why_0 0 rfl rfl)
theorem dX1_why_1 : decode cX1_why 1 = .ok (.aload_n 0, 1) := dk_42 (dk_at dksX1_why_0 1 rfl rfl)
theorem dX1_why_2 : decode cX1_why 2 = .ok (.iload_n 1, 1) := dk_27 (dk_at dksX1_why_0 2 rfl rfl)
theorem dX1_why_3 : decode cX1_why 3 = .ok (.iload_n 2, 1) := dk_28 (dk_at dksX1_why_0 3 rfl rfl)
theorem dX1_why_4 : decode cX1_why 4 = .ok (.invokevirtual 319, 3) := dk_182 1 63 (dk_at dksX1_why_0 4 rfl rfl)
theorem dX1_why_7 : decode cX1_why 7 = .ok (.invokevirtual 155, 3) := dk_182 0 155 (dk_at dksX1_why_0 7 rfl rfl)
theorem dX1_why_10 : decode cX1_why 10 = .ok (.ifCond .eq 15, 3) := dk_153 0 15 (dk_at dksX1_why_0 10 rfl rfl)
theorem dX1_why_13 : decode cX1_why 13 = .ok (.aload_n 0, 1) := dk_42 (dk_at dksX1_why_0 13 rfl rfl)
theorem dX1_why_14 : decode cX1_why 14 = .ok (.getfield 70, 3) := dk_180 0 70 (dk_at dksX1_why_0 14 rfl rfl)
theorem dX1_why_17 : decode cX1_why 17 = .ok (.iload_n 1, 1) := dk_27 (dk_at dksX1_why_0 17 rfl rfl)
theorem dX1_why_18 : decode cX1_why 18 = .ok (.iload_n 2, 1) := dk_28 (dk_at dksX1_why_0 18 rfl rfl)
theorem dX1_why_19 : decode cX1_why 19 = .ok (.invokevirtual 322, 3) := dk_182 1 66 (dk_at dksX1_why_0 19 rfl rfl)
theorem dX1_why_22 : decode cX1_why 22 = .ok (.goto 4, 3) := dk_167 0 4 (dk_at dksX1_why_1 0 rfl rfl)
theorem dX1_why_25 : decode cX1_why 25 = .ok (.iconst (-1), 1) := dk_2 (dk_at dksX1_why_1 3 rfl rfl)
theorem dX1_why_26 : decode cX1_why 26 = .ok (.ireturn, 1) := dk_172 (dk_at dksX1_why_1 4 rfl rfl)
abbrev cX1_whyBoth : ByteArray := prog_1_method_18_code
def yX1_whyBoth : MethodName := ⟨RX1, "whyBoth", "(II)I"⟩
def dkwX1_whyBoth_0 : List UInt8 := [42, 27, 182, 0, 138, 153, 0, 15, 42, 28, 182, 0, 141, 153, 0, 7, 3, 167, 0, 4, 5, 172]
abbrev dktX1_whyBoth_0 : List UInt8 := dkwX1_whyBoth_0 ++ []
theorem dksX1_whyBoth_0 : cX1_whyBoth.data.toList.drop 0 = dktX1_whyBoth_0 := by decide +kernel
theorem dX1_whyBoth_0 : decode cX1_whyBoth 0 = .ok (.aload_n 0, 1) := dk_42 (dk_at dksX1_whyBoth_0 0 rfl rfl)
theorem dX1_whyBoth_1 : decode cX1_whyBoth 1 = .ok (.iload_n 1, 1) := dk_27 (dk_at dksX1_whyBoth_0 1 rfl rfl)
theorem dX1_whyBoth_2 : decode cX1_whyBoth 2 = .ok (.invokevirtual 138, 3) := dk_182 0 138 (dk_at dksX1_whyBoth_0 2 rfl rfl)
theorem dX1_whyBoth_5 : decode cX1_whyBoth 5 = .ok (.ifCond .eq 15, 3) := dk_153 0 15 (dk_at dksX1_whyBoth_0 5 rfl rfl)
theorem dX1_whyBoth_8 : decode cX1_whyBoth 8 = .ok (.aload_n 0, 1) := dk_42 (dk_at dksX1_whyBoth_0 8 rfl rfl)
theorem dX1_whyBoth_9 : decode cX1_whyBoth 9 = .ok (.iload_n 2, 1) := dk_28 (dk_at dksX1_whyBoth_0 9 rfl rfl)
theorem dX1_whyBoth_10 : decode cX1_whyBoth 10 = .ok (.invokevirtual 141, 3) := dk_182 0 141 (dk_at dksX1_whyBoth_0 10 rfl rfl)
theorem dX1_whyBoth_13 : decode cX1_whyBoth 13 = .ok (.ifCond .eq 7, 3) := dk_153 0 7 (dk_at dksX1_whyBoth_0 13 rfl rfl)
theorem dX1_whyBoth_16 : decode cX1_whyBoth 16 = .ok (.iconst 0, 1) := dk_3 (dk_at dksX1_whyBoth_0 16 rfl rfl)
theorem dX1_whyBoth_17 : decode cX1_whyBoth 17 = .ok (.goto 4, 3) := dk_167 0 4 (dk_at dksX1_whyBoth_0 17 rfl rfl)
theorem dX1_whyBoth_20 : decode cX1_whyBoth 20 = .ok (.iconst 2, 1) := dk_5 (dk_at dksX1_whyBoth_0 20 rfl rfl)
theorem dX1_whyBoth_21 : decode cX1_whyBoth 21 = .ok (.ireturn, 1) := dk_172 (dk_at dksX1_whyBoth_0 21 rfl rfl)
abbrev cX1_bids : ByteArray := prog_1_method_34_code
def yX1_bids : MethodName := ⟨RX1, "bids", "(II)I"⟩
def dkwX1_bids_1 : List UInt8 := [184, 0, 7, 167, 0, 4, 2, 172]
abbrev dktX1_bids_1 : List UInt8 := dkwX1_bids_1 ++ []
def dkwX1_bids_0 : List UInt8 := [42, 42, 27, 28, 182, 1, 63, 182, 0, 155, 153, 0, 18, 42, 180, 0, 70, 27, 28, 182, 1, 69]
abbrev dktX1_bids_0 : List UInt8 := dkwX1_bids_0 ++ dktX1_bids_1
theorem dksX1_bids_0 : cX1_bids.data.toList.drop 0 = dktX1_bids_0 := by decide +kernel
theorem dksX1_bids_1 : cX1_bids.data.toList.drop 22 = dktX1_bids_1 := dk_seg dksX1_bids_0 22 rfl rfl
theorem dX1_bids_0 : decode cX1_bids 0 = .ok (.aload_n 0, 1) := dk_42 (dk_at dksX1_bids_0 0 rfl rfl)
theorem dX1_bids_1 : decode cX1_bids 1 = .ok (.aload_n 0, 1) := dk_42 (dk_at dksX1_bids_0 1 rfl rfl)
theorem dX1_bids_2 : decode cX1_bids 2 = .ok (.iload_n 1, 1) := dk_27 (dk_at dksX1_bids_0 2 rfl rfl)
theorem dX1_bids_3 : decode cX1_bids 3 = .ok (.iload_n 2, 1) := dk_28 (dk_at dksX1_bids_0 3 rfl rfl)
theorem dX1_bids_4 : decode cX1_bids 4 = .ok (.invokevirtual 319, 3) := dk_182 1 63 (dk_at dksX1_bids_0 4 rfl rfl)
theorem dX1_bids_7 : decode cX1_bids 7 = .ok (.invokevirtual 155, 3) := dk_182 0 155 (dk_at dksX1_bids_0 7 rfl rfl)
theorem dX1_bids_10 : decode cX1_bids 10 = .ok (.ifCond .eq 18, 3) := dk_153 0 18 (dk_at dksX1_bids_0 10 rfl rfl)
theorem dX1_bids_13 : decode cX1_bids 13 = .ok (.aload_n 0, 1) := dk_42 (dk_at dksX1_bids_0 13 rfl rfl)
theorem dX1_bids_14 : decode cX1_bids 14 = .ok (.getfield 70, 3) := dk_180 0 70 (dk_at dksX1_bids_0 14 rfl rfl)
theorem dX1_bids_17 : decode cX1_bids 17 = .ok (.iload_n 1, 1) := dk_27 (dk_at dksX1_bids_0 17 rfl rfl)
theorem dX1_bids_18 : decode cX1_bids 18 = .ok (.iload_n 2, 1) := dk_28 (dk_at dksX1_bids_0 18 rfl rfl)
theorem dX1_bids_19 : decode cX1_bids 19 = .ok (.invokevirtual 325, 3) := dk_182 1 69 (dk_at dksX1_bids_0 19 rfl rfl)
theorem dX1_bids_22 : decode cX1_bids 22 = .ok (.invokestatic 7, 3) := dk_184 0 7 (dk_at dksX1_bids_1 0 rfl rfl)
theorem dX1_bids_25 : decode cX1_bids 25 = .ok (.goto 4, 3) := dk_167 0 4 (dk_at dksX1_bids_1 3 rfl rfl)
theorem dX1_bids_28 : decode cX1_bids 28 = .ok (.iconst (-1), 1) := dk_2 (dk_at dksX1_bids_1 6 rfl rfl)
theorem dX1_bids_29 : decode cX1_bids 29 = .ok (.ireturn, 1) := dk_172 (dk_at dksX1_bids_1 7 rfl rfl)
abbrev cX1_order : ByteArray := prog_1_method_35_code
def yX1_order : MethodName := ⟨RX1, "order", "(II)I"⟩
def dkwX1_order_3 : List UInt8 := [8, 182, 0, 174, 172, 45, 3, 92, 46, 4, 21, 4, 120, 128, 79, 132, 5, 1, 167, 255, 208, 21, 4, 172]
abbrev dktX1_order_3 : List UInt8 := dkwX1_order_3 ++ []
def dkwX1_order_2 : List UInt8 := [42, 180, 0, 70, 27, 42, 27, 45, 186, 1, 73, 0, 0, 182, 1, 76, 54, 4, 21, 4, 156, 0, 9, 42]
abbrev dktX1_order_2 : List UInt8 := dkwX1_order_2 ++ dktX1_order_3
def dkwX1_order_1 : List UInt8 := [182, 0, 155, 154, 0, 5, 2, 172, 4, 188, 10, 78, 2, 54, 4, 3, 54, 5, 21, 5, 28, 163, 0, 48]
abbrev dktX1_order_1 : List UInt8 := dkwX1_order_1 ++ dktX1_order_2
def dkwX1_order_0 : List UInt8 := [42, 28, 156, 0, 7, 4, 167, 0, 16, 42, 27, 182, 0, 141, 153, 0, 7, 3, 167, 0, 4, 5]
abbrev dktX1_order_0 : List UInt8 := dkwX1_order_0 ++ dktX1_order_1
theorem dksX1_order_0 : cX1_order.data.toList.drop 0 = dktX1_order_0 := by decide +kernel
theorem dksX1_order_1 : cX1_order.data.toList.drop 22 = dktX1_order_1 := dk_seg dksX1_order_0 22 rfl rfl
theorem dksX1_order_2 : cX1_order.data.toList.drop 46 = dktX1_order_2 := dk_seg dksX1_order_1 24 rfl rfl
theorem dksX1_order_3 : cX1_order.data.toList.drop 70 = dktX1_order_3 := dk_seg dksX1_order_2 24 rfl rfl
theorem dX1_order_0 : decode cX1_order 0 = .ok (.aload_n 0, 1) := dk_42 (dk_at dksX1_order_0 0 rfl rfl)
theorem dX1_order_1 : decode cX1_order 1 = .ok (.iload_n 2, 1) := dk_28 (dk_at dksX1_order_0 1 rfl rfl)
theorem dX1_order_2 : decode cX1_order 2 = .ok (.ifCond .ge 7, 3) := dk_156 0 7 (dk_at dksX1_order_0 2 rfl rfl)
theorem dX1_order_5 : decode cX1_order 5 = .ok (.iconst 1, 1) := dk_4 (dk_at dksX1_order_0 5 rfl rfl)
theorem dX1_order_6 : decode cX1_order 6 = .ok (.goto 16, 3) := dk_167 0 16 (dk_at dksX1_order_0 6 rfl rfl)
theorem dX1_order_9 : decode cX1_order 9 = .ok (.aload_n 0, 1) := dk_42 (dk_at dksX1_order_0 9 rfl rfl)
theorem dX1_order_10 : decode cX1_order 10 = .ok (.iload_n 1, 1) := dk_27 (dk_at dksX1_order_0 10 rfl rfl)
theorem dX1_order_11 : decode cX1_order 11 = .ok (.invokevirtual 141, 3) := dk_182 0 141 (dk_at dksX1_order_0 11 rfl rfl)
theorem dX1_order_14 : decode cX1_order 14 = .ok (.ifCond .eq 7, 3) := dk_153 0 7 (dk_at dksX1_order_0 14 rfl rfl)
theorem dX1_order_17 : decode cX1_order 17 = .ok (.iconst 0, 1) := dk_3 (dk_at dksX1_order_0 17 rfl rfl)
theorem dX1_order_18 : decode cX1_order 18 = .ok (.goto 4, 3) := dk_167 0 4 (dk_at dksX1_order_0 18 rfl rfl)
theorem dX1_order_21 : decode cX1_order 21 = .ok (.iconst 2, 1) := dk_5 (dk_at dksX1_order_0 21 rfl rfl)
theorem dX1_order_22 : decode cX1_order 22 = .ok (.invokevirtual 155, 3) := dk_182 0 155 (dk_at dksX1_order_1 0 rfl rfl)
theorem dX1_order_25 : decode cX1_order 25 = .ok (.ifCond .ne 5, 3) := dk_154 0 5 (dk_at dksX1_order_1 3 rfl rfl)
theorem dX1_order_28 : decode cX1_order 28 = .ok (.iconst (-1), 1) := dk_2 (dk_at dksX1_order_1 6 rfl rfl)
theorem dX1_order_29 : decode cX1_order 29 = .ok (.ireturn, 1) := dk_172 (dk_at dksX1_order_1 7 rfl rfl)
theorem dX1_order_30 : decode cX1_order 30 = .ok (.iconst 1, 1) := dk_4 (dk_at dksX1_order_1 8 rfl rfl)
theorem dX1_order_31 : decode cX1_order 31 = .ok (.newarray .int, 2) := dk_188_10 (dk_at dksX1_order_1 9 rfl rfl)
theorem dX1_order_33 : decode cX1_order 33 = .ok (.astore_n 3, 1) := dk_78 (dk_at dksX1_order_1 11 rfl rfl)
theorem dX1_order_34 : decode cX1_order 34 = .ok (.iconst (-1), 1) := dk_2 (dk_at dksX1_order_1 12 rfl rfl)
theorem dX1_order_35 : decode cX1_order 35 = .ok (.istore 4, 2) := dk_54 4 (dk_at dksX1_order_1 13 rfl rfl)
theorem dX1_order_37 : decode cX1_order 37 = .ok (.iconst 0, 1) := dk_3 (dk_at dksX1_order_1 15 rfl rfl)
theorem dX1_order_38 : decode cX1_order 38 = .ok (.istore 5, 2) := dk_54 5 (dk_at dksX1_order_1 16 rfl rfl)
theorem dX1_order_40 : decode cX1_order 40 = .ok (.iload 5, 2) := dk_21 5 (dk_at dksX1_order_1 18 rfl rfl)
theorem dX1_order_42 : decode cX1_order 42 = .ok (.iload_n 2, 1) := dk_28 (dk_at dksX1_order_1 20 rfl rfl)
theorem dX1_order_43 : decode cX1_order 43 = .ok (.if_icmp .gt 48, 3) := dk_163 0 48 (dk_at dksX1_order_1 21 rfl rfl)
theorem dX1_order_46 : decode cX1_order 46 = .ok (.aload_n 0, 1) := dk_42 (dk_at dksX1_order_2 0 rfl rfl)
theorem dX1_order_47 : decode cX1_order 47 = .ok (.getfield 70, 3) := dk_180 0 70 (dk_at dksX1_order_2 1 rfl rfl)
theorem dX1_order_50 : decode cX1_order 50 = .ok (.iload_n 1, 1) := dk_27 (dk_at dksX1_order_2 4 rfl rfl)
theorem dX1_order_51 : decode cX1_order 51 = .ok (.aload_n 0, 1) := dk_42 (dk_at dksX1_order_2 5 rfl rfl)
theorem dX1_order_52 : decode cX1_order 52 = .ok (.iload_n 1, 1) := dk_27 (dk_at dksX1_order_2 6 rfl rfl)
theorem dX1_order_53 : decode cX1_order 53 = .ok (.aload_n 3, 1) := dk_45 (dk_at dksX1_order_2 7 rfl rfl)
theorem dX1_order_54 : decode cX1_order 54 = .ok (.invokedynamic 329, 5) := by decide +kernel
theorem dX1_order_59 : decode cX1_order 59 = .ok (.invokevirtual 332, 3) := dk_182 1 76 (dk_at dksX1_order_2 13 rfl rfl)
theorem dX1_order_62 : decode cX1_order 62 = .ok (.istore 4, 2) := dk_54 4 (dk_at dksX1_order_2 16 rfl rfl)
theorem dX1_order_64 : decode cX1_order 64 = .ok (.iload 4, 2) := dk_21 4 (dk_at dksX1_order_2 18 rfl rfl)
theorem dX1_order_66 : decode cX1_order 66 = .ok (.ifCond .ge 9, 3) := dk_156 0 9 (dk_at dksX1_order_2 20 rfl rfl)
theorem dX1_order_69 : decode cX1_order 69 = .ok (.aload_n 0, 1) := dk_42 (dk_at dksX1_order_2 23 rfl rfl)
theorem dX1_order_70 : decode cX1_order 70 = .ok (.iconst 5, 1) := dk_8 (dk_at dksX1_order_3 0 rfl rfl)
theorem dX1_order_71 : decode cX1_order 71 = .ok (.invokevirtual 174, 3) := dk_182 0 174 (dk_at dksX1_order_3 1 rfl rfl)
theorem dX1_order_74 : decode cX1_order 74 = .ok (.ireturn, 1) := dk_172 (dk_at dksX1_order_3 4 rfl rfl)
theorem dX1_order_75 : decode cX1_order 75 = .ok (.aload_n 3, 1) := dk_45 (dk_at dksX1_order_3 5 rfl rfl)
theorem dX1_order_76 : decode cX1_order 76 = .ok (.iconst 0, 1) := dk_3 (dk_at dksX1_order_3 6 rfl rfl)
theorem dX1_order_77 : decode cX1_order 77 = .ok (.dup2, 1) := dk_92 (dk_at dksX1_order_3 7 rfl rfl)
theorem dX1_order_78 : decode cX1_order 78 = .ok (.iaload, 1) := dk_46 (dk_at dksX1_order_3 8 rfl rfl)
theorem dX1_order_79 : decode cX1_order 79 = .ok (.iconst 1, 1) := dk_4 (dk_at dksX1_order_3 9 rfl rfl)
theorem dX1_order_80 : decode cX1_order 80 = .ok (.iload 4, 2) := dk_21 4 (dk_at dksX1_order_3 10 rfl rfl)
theorem dX1_order_82 : decode cX1_order 82 = .ok (.ishl, 1) := dk_120 (dk_at dksX1_order_3 12 rfl rfl)
theorem dX1_order_83 : decode cX1_order 83 = .ok (.ior, 1) := dk_128 (dk_at dksX1_order_3 13 rfl rfl)
theorem dX1_order_84 : decode cX1_order 84 = .ok (.iastore, 1) := dk_79 (dk_at dksX1_order_3 14 rfl rfl)
theorem dX1_order_85 : decode cX1_order 85 = .ok (.iinc 5 1, 3) := dk_132 5 1 (dk_at dksX1_order_3 15 rfl rfl)
theorem dX1_order_88 : decode cX1_order 88 = .ok (.goto (-48), 3) := dk_167 255 208 (dk_at dksX1_order_3 18 rfl rfl)
theorem dX1_order_91 : decode cX1_order 91 = .ok (.iload 4, 2) := dk_21 4 (dk_at dksX1_order_3 21 rfl rfl)
theorem dX1_order_93 : decode cX1_order 93 = .ok (.ireturn, 1) := dk_172 (dk_at dksX1_order_3 23 rfl rfl)
abbrev cX1_lambda_order_10 : ByteArray := prog_1_method_104_code
def yX1_lambda_order_10 : MethodName := ⟨RX1, "lambda$order$10", "(I[II)Z"⟩
def dkwX1_lambda_order_10_1 : List UInt8 := [167, 0, 4, 3, 172]
abbrev dktX1_lambda_order_10_1 : List UInt8 := dkwX1_lambda_order_10_1 ++ []
def dkwX1_lambda_order_10_0 : List UInt8 := [42, 180, 0, 70, 29, 27, 182, 1, 69, 153, 0, 17, 44, 3, 46, 29, 122, 4, 126, 154, 0, 7, 4]
abbrev dktX1_lambda_order_10_0 : List UInt8 := dkwX1_lambda_order_10_0 ++ dktX1_lambda_order_10_1
theorem dksX1_lambda_order_10_0 : cX1_lambda_order_10.data.toList.drop 0 = dktX1_lambda_order_10_0 := by decide +kernel
theorem dksX1_lambda_order_10_1 : cX1_lambda_order_10.data.toList.drop 23 = dktX1_lambda_order_10_1 := dk_seg dksX1_lambda_order_10_0 23 rfl rfl
theorem dX1_lambda_order_10_0 : decode cX1_lambda_order_10 0 = .ok (.aload_n 0, 1) := dk_42 (dk_at dksX1_lambda_order_10_0 0 rfl rfl)
theorem dX1_lambda_order_10_1 : decode cX1_lambda_order_10 1 = .ok (.getfield 70, 3) := dk_180 0 70 (dk_at dksX1_lambda_order_10_0 1 rfl rfl)
theorem dX1_lambda_order_10_4 : decode cX1_lambda_order_10 4 = .ok (.iload_n 3, 1) := dk_29 (dk_at dksX1_lambda_order_10_0 4 rfl rfl)
theorem dX1_lambda_order_10_5 : decode cX1_lambda_order_10 5 = .ok (.iload_n 1, 1) := dk_27 (dk_at dksX1_lambda_order_10_0 5 rfl rfl)
theorem dX1_lambda_order_10_6 : decode cX1_lambda_order_10 6 = .ok (.invokevirtual 325, 3) := dk_182 1 69 (dk_at dksX1_lambda_order_10_0 6 rfl rfl)
theorem dX1_lambda_order_10_9 : decode cX1_lambda_order_10 9 = .ok (.ifCond .eq 17, 3) := dk_153 0 17 (dk_at dksX1_lambda_order_10_0 9 rfl rfl)
theorem dX1_lambda_order_10_12 : decode cX1_lambda_order_10 12 = .ok (.aload_n 2, 1) := dk_44 (dk_at dksX1_lambda_order_10_0 12 rfl rfl)
theorem dX1_lambda_order_10_13 : decode cX1_lambda_order_10 13 = .ok (.iconst 0, 1) := dk_3 (dk_at dksX1_lambda_order_10_0 13 rfl rfl)
theorem dX1_lambda_order_10_14 : decode cX1_lambda_order_10 14 = .ok (.iaload, 1) := dk_46 (dk_at dksX1_lambda_order_10_0 14 rfl rfl)
theorem dX1_lambda_order_10_15 : decode cX1_lambda_order_10 15 = .ok (.iload_n 3, 1) := dk_29 (dk_at dksX1_lambda_order_10_0 15 rfl rfl)
theorem dX1_lambda_order_10_16 : decode cX1_lambda_order_10 16 = .ok (.ishr, 1) := dk_122 (dk_at dksX1_lambda_order_10_0 16 rfl rfl)
theorem dX1_lambda_order_10_17 : decode cX1_lambda_order_10 17 = .ok (.iconst 1, 1) := dk_4 (dk_at dksX1_lambda_order_10_0 17 rfl rfl)
theorem dX1_lambda_order_10_18 : decode cX1_lambda_order_10 18 = .ok (.iand, 1) := dk_126 (dk_at dksX1_lambda_order_10_0 18 rfl rfl)
theorem dX1_lambda_order_10_19 : decode cX1_lambda_order_10 19 = .ok (.ifCond .ne 7, 3) := dk_154 0 7 (dk_at dksX1_lambda_order_10_0 19 rfl rfl)
theorem dX1_lambda_order_10_22 : decode cX1_lambda_order_10 22 = .ok (.iconst 1, 1) := dk_4 (dk_at dksX1_lambda_order_10_0 22 rfl rfl)
theorem dX1_lambda_order_10_23 : decode cX1_lambda_order_10 23 = .ok (.goto 4, 3) := dk_167 0 4 (dk_at dksX1_lambda_order_10_1 0 rfl rfl)
theorem dX1_lambda_order_10_26 : decode cX1_lambda_order_10 26 = .ok (.iconst 0, 1) := dk_3 (dk_at dksX1_lambda_order_10_1 3 rfl rfl)
theorem dX1_lambda_order_10_27 : decode cX1_lambda_order_10 27 = .ok (.ireturn, 1) := dk_172 (dk_at dksX1_lambda_order_10_1 4 rfl rfl)
abbrev cX1_first : ByteArray := prog_1_method_6_code
def yX1_first : MethodName := ⟨RX1, "first", "(ILHomesQueue$Check;LHomesQueue$Step;)I"⟩
def dkwX1_first_2 : List UInt8 := [29, 172]
abbrev dktX1_first_2 : List UInt8 := dkwX1_first_2 ++ []
def dkwX1_first_1 : List UInt8 := [155, 0, 15, 44, 21, 4, 29, 185, 0, 25, 3, 0, 156, 0, 6, 21, 4, 62, 132, 4, 1, 167, 255, 217]
abbrev dktX1_first_1 : List UInt8 := dkwX1_first_1 ++ dktX1_first_2
def dkwX1_first_0 : List UInt8 := [2, 62, 3, 54, 4, 21, 4, 26, 162, 0, 39, 43, 21, 4, 185, 0, 1, 2, 0, 153, 0, 22, 29]
abbrev dktX1_first_0 : List UInt8 := dkwX1_first_0 ++ dktX1_first_1
theorem dksX1_first_0 : cX1_first.data.toList.drop 0 = dktX1_first_0 := by decide +kernel
theorem dksX1_first_1 : cX1_first.data.toList.drop 23 = dktX1_first_1 := dk_seg dksX1_first_0 23 rfl rfl
theorem dksX1_first_2 : cX1_first.data.toList.drop 47 = dktX1_first_2 := dk_seg dksX1_first_1 24 rfl rfl
theorem dX1_first_0 : decode cX1_first 0 = .ok (.iconst (-1), 1) := dk_2 (dk_at dksX1_first_0 0 rfl rfl)
theorem dX1_first_1 : decode cX1_first 1 = .ok (.istore_n 3, 1) := dk_62 (dk_at dksX1_first_0 1 rfl rfl)
theorem dX1_first_2 : decode cX1_first 2 = .ok (.iconst 0, 1) := dk_3 (dk_at dksX1_first_0 2 rfl rfl)
theorem dX1_first_3 : decode cX1_first 3 = .ok (.istore 4, 2) := dk_54 4 (dk_at dksX1_first_0 3 rfl rfl)
theorem dX1_first_5 : decode cX1_first 5 = .ok (.iload 4, 2) := dk_21 4 (dk_at dksX1_first_0 5 rfl rfl)
theorem dX1_first_7 : decode cX1_first 7 = .ok (.iload_n 0, 1) := dk_26 (dk_at dksX1_first_0 7 rfl rfl)
theorem dX1_first_8 : decode cX1_first 8 = .ok (.if_icmp .ge 39, 3) := dk_162 0 39 (dk_at dksX1_first_0 8 rfl rfl)
theorem dX1_first_11 : decode cX1_first 11 = .ok (.aload_n 1, 1) := dk_43 (dk_at dksX1_first_0 11 rfl rfl)
theorem dX1_first_12 : decode cX1_first 12 = .ok (.iload 4, 2) := dk_21 4 (dk_at dksX1_first_0 12 rfl rfl)
theorem dX1_first_14 : decode cX1_first 14 = .ok (.invokeinterface 1 2, 5) := by decide +kernel
theorem dX1_first_19 : decode cX1_first 19 = .ok (.ifCond .eq 22, 3) := dk_153 0 22 (dk_at dksX1_first_0 19 rfl rfl)
theorem dX1_first_22 : decode cX1_first 22 = .ok (.iload_n 3, 1) := dk_29 (dk_at dksX1_first_0 22 rfl rfl)
theorem dX1_first_23 : decode cX1_first 23 = .ok (.ifCond .lt 15, 3) := dk_155 0 15 (dk_at dksX1_first_1 0 rfl rfl)
theorem dX1_first_26 : decode cX1_first 26 = .ok (.aload_n 2, 1) := dk_44 (dk_at dksX1_first_1 3 rfl rfl)
theorem dX1_first_27 : decode cX1_first 27 = .ok (.iload 4, 2) := dk_21 4 (dk_at dksX1_first_1 4 rfl rfl)
theorem dX1_first_29 : decode cX1_first 29 = .ok (.iload_n 3, 1) := dk_29 (dk_at dksX1_first_1 6 rfl rfl)
theorem dX1_first_30 : decode cX1_first 30 = .ok (.invokeinterface 25 3, 5) := by decide +kernel
theorem dX1_first_35 : decode cX1_first 35 = .ok (.ifCond .ge 6, 3) := dk_156 0 6 (dk_at dksX1_first_1 12 rfl rfl)
theorem dX1_first_38 : decode cX1_first 38 = .ok (.iload 4, 2) := dk_21 4 (dk_at dksX1_first_1 15 rfl rfl)
theorem dX1_first_40 : decode cX1_first 40 = .ok (.istore_n 3, 1) := dk_62 (dk_at dksX1_first_1 17 rfl rfl)
theorem dX1_first_41 : decode cX1_first 41 = .ok (.iinc 4 1, 3) := dk_132 4 1 (dk_at dksX1_first_1 18 rfl rfl)
theorem dX1_first_44 : decode cX1_first 44 = .ok (.goto (-39), 3) := dk_167 255 217 (dk_at dksX1_first_1 21 rfl rfl)
theorem dX1_first_47 : decode cX1_first 47 = .ok (.iload_n 3, 1) := dk_29 (dk_at dksX1_first_2 0 rfl rfl)
theorem dX1_first_48 : decode cX1_first 48 = .ok (.ireturn, 1) := dk_172 (dk_at dksX1_first_2 1 rfl rfl)
abbrev cX1_ahead : ByteArray := prog_1_method_37_code
def yX1_ahead : MethodName := ⟨RX1, "ahead", "(II)I"⟩
def dkwX1_ahead_2 : List UInt8 := [186, 1, 88, 0, 0, 184, 0, 192, 172]
abbrev dktX1_ahead_2 : List UInt8 := dkwX1_ahead_2 ++ []
def dkwX1_ahead_1 : List UInt8 := [167, 0, 4, 29, 182, 0, 155, 154, 0, 5, 2, 172, 42, 180, 0, 51, 182, 0, 130, 42, 27, 28]
abbrev dktX1_ahead_1 : List UInt8 := dkwX1_ahead_1 ++ dktX1_ahead_2
def dkwX1_ahead_0 : List UInt8 := [42, 27, 28, 182, 1, 63, 62, 42, 29, 154, 0, 16, 42, 27, 28, 182, 1, 85, 154, 0, 7, 8]
abbrev dktX1_ahead_0 : List UInt8 := dkwX1_ahead_0 ++ dktX1_ahead_1
theorem dksX1_ahead_0 : cX1_ahead.data.toList.drop 0 = dktX1_ahead_0 := by decide +kernel
theorem dksX1_ahead_1 : cX1_ahead.data.toList.drop 22 = dktX1_ahead_1 := dk_seg dksX1_ahead_0 22 rfl rfl
theorem dksX1_ahead_2 : cX1_ahead.data.toList.drop 44 = dktX1_ahead_2 := dk_seg dksX1_ahead_1 22 rfl rfl
theorem dX1_ahead_0 : decode cX1_ahead 0 = .ok (.aload_n 0, 1) := dk_42 (dk_at dksX1_ahead_0 0 rfl rfl)
theorem dX1_ahead_1 : decode cX1_ahead 1 = .ok (.iload_n 1, 1) := dk_27 (dk_at dksX1_ahead_0 1 rfl rfl)
theorem dX1_ahead_2 : decode cX1_ahead 2 = .ok (.iload_n 2, 1) := dk_28 (dk_at dksX1_ahead_0 2 rfl rfl)
theorem dX1_ahead_3 : decode cX1_ahead 3 = .ok (.invokevirtual 319, 3) := dk_182 1 63 (dk_at dksX1_ahead_0 3 rfl rfl)
theorem dX1_ahead_6 : decode cX1_ahead 6 = .ok (.istore_n 3, 1) := dk_62 (dk_at dksX1_ahead_0 6 rfl rfl)
theorem dX1_ahead_7 : decode cX1_ahead 7 = .ok (.aload_n 0, 1) := dk_42 (dk_at dksX1_ahead_0 7 rfl rfl)
theorem dX1_ahead_8 : decode cX1_ahead 8 = .ok (.iload_n 3, 1) := dk_29 (dk_at dksX1_ahead_0 8 rfl rfl)
theorem dX1_ahead_9 : decode cX1_ahead 9 = .ok (.ifCond .ne 16, 3) := dk_154 0 16 (dk_at dksX1_ahead_0 9 rfl rfl)
theorem dX1_ahead_12 : decode cX1_ahead 12 = .ok (.aload_n 0, 1) := dk_42 (dk_at dksX1_ahead_0 12 rfl rfl)
theorem dX1_ahead_13 : decode cX1_ahead 13 = .ok (.iload_n 1, 1) := dk_27 (dk_at dksX1_ahead_0 13 rfl rfl)
theorem dX1_ahead_14 : decode cX1_ahead 14 = .ok (.iload_n 2, 1) := dk_28 (dk_at dksX1_ahead_0 14 rfl rfl)
theorem dX1_ahead_15 : decode cX1_ahead 15 = .ok (.invokevirtual 341, 3) := dk_182 1 85 (dk_at dksX1_ahead_0 15 rfl rfl)
theorem dX1_ahead_18 : decode cX1_ahead 18 = .ok (.ifCond .ne 7, 3) := dk_154 0 7 (dk_at dksX1_ahead_0 18 rfl rfl)
theorem dX1_ahead_21 : decode cX1_ahead 21 = .ok (.iconst 5, 1) := dk_8 (dk_at dksX1_ahead_0 21 rfl rfl)
theorem dX1_ahead_22 : decode cX1_ahead 22 = .ok (.goto 4, 3) := dk_167 0 4 (dk_at dksX1_ahead_1 0 rfl rfl)
theorem dX1_ahead_25 : decode cX1_ahead 25 = .ok (.iload_n 3, 1) := dk_29 (dk_at dksX1_ahead_1 3 rfl rfl)
theorem dX1_ahead_26 : decode cX1_ahead 26 = .ok (.invokevirtual 155, 3) := dk_182 0 155 (dk_at dksX1_ahead_1 4 rfl rfl)
theorem dX1_ahead_29 : decode cX1_ahead 29 = .ok (.ifCond .ne 5, 3) := dk_154 0 5 (dk_at dksX1_ahead_1 7 rfl rfl)
theorem dX1_ahead_32 : decode cX1_ahead 32 = .ok (.iconst (-1), 1) := dk_2 (dk_at dksX1_ahead_1 10 rfl rfl)
theorem dX1_ahead_33 : decode cX1_ahead 33 = .ok (.ireturn, 1) := dk_172 (dk_at dksX1_ahead_1 11 rfl rfl)
theorem dX1_ahead_34 : decode cX1_ahead 34 = .ok (.aload_n 0, 1) := dk_42 (dk_at dksX1_ahead_1 12 rfl rfl)
theorem dX1_ahead_35 : decode cX1_ahead 35 = .ok (.getfield 51, 3) := dk_180 0 51 (dk_at dksX1_ahead_1 13 rfl rfl)
theorem dX1_ahead_38 : decode cX1_ahead 38 = .ok (.invokevirtual 130, 3) := dk_182 0 130 (dk_at dksX1_ahead_1 16 rfl rfl)
theorem dX1_ahead_41 : decode cX1_ahead 41 = .ok (.aload_n 0, 1) := dk_42 (dk_at dksX1_ahead_1 19 rfl rfl)
theorem dX1_ahead_42 : decode cX1_ahead 42 = .ok (.iload_n 1, 1) := dk_27 (dk_at dksX1_ahead_1 20 rfl rfl)
theorem dX1_ahead_43 : decode cX1_ahead 43 = .ok (.iload_n 2, 1) := dk_28 (dk_at dksX1_ahead_1 21 rfl rfl)
theorem dX1_ahead_44 : decode cX1_ahead 44 = .ok (.invokedynamic 344, 5) := by decide +kernel
theorem dX1_ahead_49 : decode cX1_ahead 49 = .ok (.invokestatic 192, 3) := dk_184 0 192 (dk_at dksX1_ahead_2 5 rfl rfl)
theorem dX1_ahead_52 : decode cX1_ahead 52 = .ok (.ireturn, 1) := dk_172 (dk_at dksX1_ahead_2 8 rfl rfl)
abbrev cX1_isAsking : ByteArray := prog_1_method_36_code
def yX1_isAsking : MethodName := ⟨RX1, "isAsking", "(II)Z"⟩
def dkwX1_isAsking_1 : List UInt8 := [167, 0, 4, 3, 172]
abbrev dktX1_isAsking_1 : List UInt8 := dkwX1_isAsking_1 ++ []
def dkwX1_isAsking_0 : List UInt8 := [42, 180, 0, 70, 27, 182, 1, 79, 153, 0, 19, 42, 180, 0, 70, 27, 28, 182, 1, 82, 153, 0, 7, 4]
abbrev dktX1_isAsking_0 : List UInt8 := dkwX1_isAsking_0 ++ dktX1_isAsking_1
theorem dksX1_isAsking_0 : cX1_isAsking.data.toList.drop 0 = dktX1_isAsking_0 := by decide +kernel
theorem dksX1_isAsking_1 : cX1_isAsking.data.toList.drop 24 = dktX1_isAsking_1 := dk_seg dksX1_isAsking_0 24 rfl rfl
theorem dX1_isAsking_0 : decode cX1_isAsking 0 = .ok (.aload_n 0, 1) := dk_42 (dk_at dksX1_isAsking_0 0 rfl rfl)
theorem dX1_isAsking_1 : decode cX1_isAsking 1 = .ok (.getfield 70, 3) := dk_180 0 70 (dk_at dksX1_isAsking_0 1 rfl rfl)
theorem dX1_isAsking_4 : decode cX1_isAsking 4 = .ok (.iload_n 1, 1) := dk_27 (dk_at dksX1_isAsking_0 4 rfl rfl)
theorem dX1_isAsking_5 : decode cX1_isAsking 5 = .ok (.invokevirtual 335, 3) := dk_182 1 79 (dk_at dksX1_isAsking_0 5 rfl rfl)
theorem dX1_isAsking_8 : decode cX1_isAsking 8 = .ok (.ifCond .eq 19, 3) := dk_153 0 19 (dk_at dksX1_isAsking_0 8 rfl rfl)
theorem dX1_isAsking_11 : decode cX1_isAsking 11 = .ok (.aload_n 0, 1) := dk_42 (dk_at dksX1_isAsking_0 11 rfl rfl)
theorem dX1_isAsking_12 : decode cX1_isAsking 12 = .ok (.getfield 70, 3) := dk_180 0 70 (dk_at dksX1_isAsking_0 12 rfl rfl)
theorem dX1_isAsking_15 : decode cX1_isAsking 15 = .ok (.iload_n 1, 1) := dk_27 (dk_at dksX1_isAsking_0 15 rfl rfl)
theorem dX1_isAsking_16 : decode cX1_isAsking 16 = .ok (.iload_n 2, 1) := dk_28 (dk_at dksX1_isAsking_0 16 rfl rfl)
theorem dX1_isAsking_17 : decode cX1_isAsking 17 = .ok (.invokevirtual 338, 3) := dk_182 1 82 (dk_at dksX1_isAsking_0 17 rfl rfl)
theorem dX1_isAsking_20 : decode cX1_isAsking 20 = .ok (.ifCond .eq 7, 3) := dk_153 0 7 (dk_at dksX1_isAsking_0 20 rfl rfl)
theorem dX1_isAsking_23 : decode cX1_isAsking 23 = .ok (.iconst 1, 1) := dk_4 (dk_at dksX1_isAsking_0 23 rfl rfl)
theorem dX1_isAsking_24 : decode cX1_isAsking 24 = .ok (.goto 4, 3) := dk_167 0 4 (dk_at dksX1_isAsking_1 0 rfl rfl)
theorem dX1_isAsking_27 : decode cX1_isAsking 27 = .ok (.iconst 0, 1) := dk_3 (dk_at dksX1_isAsking_1 3 rfl rfl)
theorem dX1_isAsking_28 : decode cX1_isAsking 28 = .ok (.ireturn, 1) := dk_172 (dk_at dksX1_isAsking_1 4 rfl rfl)
abbrev cX1_lambda_ahead_11 : ByteArray := prog_1_method_103_code
def yX1_lambda_ahead_11 : MethodName := ⟨RX1, "lambda$ahead$11", "(III)Z"⟩
def dkwX1_lambda_ahead_11_1 : List UInt8 := [156, 0, 7, 4, 167, 0, 4, 3, 172]
abbrev dktX1_lambda_ahead_11_1 : List UInt8 := dkwX1_lambda_ahead_11_1 ++ []
def dkwX1_lambda_ahead_11_0 : List UInt8 := [29, 27, 159, 0, 29, 42, 29, 28, 182, 1, 85, 153, 0, 20, 42, 180, 0, 70, 28, 29, 27, 182, 2, 116]
abbrev dktX1_lambda_ahead_11_0 : List UInt8 := dkwX1_lambda_ahead_11_0 ++ dktX1_lambda_ahead_11_1
theorem dksX1_lambda_ahead_11_0 : cX1_lambda_ahead_11.data.toList.drop 0 = dktX1_lambda_ahead_11_0 := by decide +kernel
theorem dksX1_lambda_ahead_11_1 : cX1_lambda_ahead_11.data.toList.drop 24 = dktX1_lambda_ahead_11_1 := dk_seg dksX1_lambda_ahead_11_0 24 rfl rfl
theorem dX1_lambda_ahead_11_0 : decode cX1_lambda_ahead_11 0 = .ok (.iload_n 3, 1) := dk_29 (dk_at dksX1_lambda_ahead_11_0 0 rfl rfl)
theorem dX1_lambda_ahead_11_1 : decode cX1_lambda_ahead_11 1 = .ok (.iload_n 1, 1) := dk_27 (dk_at dksX1_lambda_ahead_11_0 1 rfl rfl)
theorem dX1_lambda_ahead_11_2 : decode cX1_lambda_ahead_11 2 = .ok (.if_icmp .eq 29, 3) := dk_159 0 29 (dk_at dksX1_lambda_ahead_11_0 2 rfl rfl)
theorem dX1_lambda_ahead_11_5 : decode cX1_lambda_ahead_11 5 = .ok (.aload_n 0, 1) := dk_42 (dk_at dksX1_lambda_ahead_11_0 5 rfl rfl)
theorem dX1_lambda_ahead_11_6 : decode cX1_lambda_ahead_11 6 = .ok (.iload_n 3, 1) := dk_29 (dk_at dksX1_lambda_ahead_11_0 6 rfl rfl)
theorem dX1_lambda_ahead_11_7 : decode cX1_lambda_ahead_11 7 = .ok (.iload_n 2, 1) := dk_28 (dk_at dksX1_lambda_ahead_11_0 7 rfl rfl)
theorem dX1_lambda_ahead_11_8 : decode cX1_lambda_ahead_11 8 = .ok (.invokevirtual 341, 3) := dk_182 1 85 (dk_at dksX1_lambda_ahead_11_0 8 rfl rfl)
theorem dX1_lambda_ahead_11_11 : decode cX1_lambda_ahead_11 11 = .ok (.ifCond .eq 20, 3) := dk_153 0 20 (dk_at dksX1_lambda_ahead_11_0 11 rfl rfl)
theorem dX1_lambda_ahead_11_14 : decode cX1_lambda_ahead_11 14 = .ok (.aload_n 0, 1) := dk_42 (dk_at dksX1_lambda_ahead_11_0 14 rfl rfl)
theorem dX1_lambda_ahead_11_15 : decode cX1_lambda_ahead_11 15 = .ok (.getfield 70, 3) := dk_180 0 70 (dk_at dksX1_lambda_ahead_11_0 15 rfl rfl)
theorem dX1_lambda_ahead_11_18 : decode cX1_lambda_ahead_11 18 = .ok (.iload_n 2, 1) := dk_28 (dk_at dksX1_lambda_ahead_11_0 18 rfl rfl)
theorem dX1_lambda_ahead_11_19 : decode cX1_lambda_ahead_11 19 = .ok (.iload_n 3, 1) := dk_29 (dk_at dksX1_lambda_ahead_11_0 19 rfl rfl)
theorem dX1_lambda_ahead_11_20 : decode cX1_lambda_ahead_11 20 = .ok (.iload_n 1, 1) := dk_27 (dk_at dksX1_lambda_ahead_11_0 20 rfl rfl)
theorem dX1_lambda_ahead_11_21 : decode cX1_lambda_ahead_11 21 = .ok (.invokevirtual 628, 3) := dk_182 2 116 (dk_at dksX1_lambda_ahead_11_0 21 rfl rfl)
theorem dX1_lambda_ahead_11_24 : decode cX1_lambda_ahead_11 24 = .ok (.ifCond .ge 7, 3) := dk_156 0 7 (dk_at dksX1_lambda_ahead_11_1 0 rfl rfl)
theorem dX1_lambda_ahead_11_27 : decode cX1_lambda_ahead_11 27 = .ok (.iconst 1, 1) := dk_4 (dk_at dksX1_lambda_ahead_11_1 3 rfl rfl)
theorem dX1_lambda_ahead_11_28 : decode cX1_lambda_ahead_11 28 = .ok (.goto 4, 3) := dk_167 0 4 (dk_at dksX1_lambda_ahead_11_1 4 rfl rfl)
theorem dX1_lambda_ahead_11_31 : decode cX1_lambda_ahead_11 31 = .ok (.iconst 0, 1) := dk_3 (dk_at dksX1_lambda_ahead_11_1 7 rfl rfl)
theorem dX1_lambda_ahead_11_32 : decode cX1_lambda_ahead_11 32 = .ok (.ireturn, 1) := dk_172 (dk_at dksX1_lambda_ahead_11_1 8 rfl rfl)
abbrev cX1_turn : ByteArray := prog_1_method_38_code
def yX1_turn : MethodName := ⟨RX1, "turn", "(II)I"⟩
def dkwX1_turn_2 : List UInt8 := [167, 0, 10, 42, 180, 0, 70, 182, 1, 94, 184, 0, 7, 172]
abbrev dktX1_turn_2 : List UInt8 := dkwX1_turn_2 ++ []
def dkwX1_turn_1 : List UInt8 := [167, 0, 4, 5, 182, 0, 155, 154, 0, 5, 2, 172, 28, 154, 0, 14, 42, 180, 0, 70, 27, 182, 1, 91]
abbrev dktX1_turn_1 : List UInt8 := dkwX1_turn_1 ++ dktX1_turn_2
def dkwX1_turn_0 : List UInt8 := [42, 28, 133, 9, 10, 184, 0, 134, 154, 0, 7, 4, 167, 0, 16, 42, 27, 182, 0, 141, 153, 0, 7, 3]
abbrev dktX1_turn_0 : List UInt8 := dkwX1_turn_0 ++ dktX1_turn_1
theorem dksX1_turn_0 : cX1_turn.data.toList.drop 0 = dktX1_turn_0 := by decide +kernel
theorem dksX1_turn_1 : cX1_turn.data.toList.drop 24 = dktX1_turn_1 := dk_seg dksX1_turn_0 24 rfl rfl
theorem dksX1_turn_2 : cX1_turn.data.toList.drop 48 = dktX1_turn_2 := dk_seg dksX1_turn_1 24 rfl rfl
theorem dX1_turn_0 : decode cX1_turn 0 = .ok (.aload_n 0, 1) := dk_42 (dk_at dksX1_turn_0 0 rfl rfl)
theorem dX1_turn_1 : decode cX1_turn 1 = .ok (.iload_n 2, 1) := dk_28 (dk_at dksX1_turn_0 1 rfl rfl)
theorem dX1_turn_2 : decode cX1_turn 2 = .ok (.i2l, 1) := dk_133 (dk_at dksX1_turn_0 2 rfl rfl)
theorem dX1_turn_3 : decode cX1_turn 3 = .ok (.lconst 0, 1) := dk_9 (dk_at dksX1_turn_0 3 rfl rfl)
theorem dX1_turn_4 : decode cX1_turn 4 = .ok (.lconst 1, 1) := dk_10 (dk_at dksX1_turn_0 4 rfl rfl)
theorem dX1_turn_5 : decode cX1_turn 5 = .ok (.invokestatic 134, 3) := dk_184 0 134 (dk_at dksX1_turn_0 5 rfl rfl)
theorem dX1_turn_8 : decode cX1_turn 8 = .ok (.ifCond .ne 7, 3) := dk_154 0 7 (dk_at dksX1_turn_0 8 rfl rfl)
theorem dX1_turn_11 : decode cX1_turn 11 = .ok (.iconst 1, 1) := dk_4 (dk_at dksX1_turn_0 11 rfl rfl)
theorem dX1_turn_12 : decode cX1_turn 12 = .ok (.goto 16, 3) := dk_167 0 16 (dk_at dksX1_turn_0 12 rfl rfl)
theorem dX1_turn_15 : decode cX1_turn 15 = .ok (.aload_n 0, 1) := dk_42 (dk_at dksX1_turn_0 15 rfl rfl)
theorem dX1_turn_16 : decode cX1_turn 16 = .ok (.iload_n 1, 1) := dk_27 (dk_at dksX1_turn_0 16 rfl rfl)
theorem dX1_turn_17 : decode cX1_turn 17 = .ok (.invokevirtual 141, 3) := dk_182 0 141 (dk_at dksX1_turn_0 17 rfl rfl)
theorem dX1_turn_20 : decode cX1_turn 20 = .ok (.ifCond .eq 7, 3) := dk_153 0 7 (dk_at dksX1_turn_0 20 rfl rfl)
theorem dX1_turn_23 : decode cX1_turn 23 = .ok (.iconst 0, 1) := dk_3 (dk_at dksX1_turn_0 23 rfl rfl)
theorem dX1_turn_24 : decode cX1_turn 24 = .ok (.goto 4, 3) := dk_167 0 4 (dk_at dksX1_turn_1 0 rfl rfl)
theorem dX1_turn_27 : decode cX1_turn 27 = .ok (.iconst 2, 1) := dk_5 (dk_at dksX1_turn_1 3 rfl rfl)
theorem dX1_turn_28 : decode cX1_turn 28 = .ok (.invokevirtual 155, 3) := dk_182 0 155 (dk_at dksX1_turn_1 4 rfl rfl)
theorem dX1_turn_31 : decode cX1_turn 31 = .ok (.ifCond .ne 5, 3) := dk_154 0 5 (dk_at dksX1_turn_1 7 rfl rfl)
theorem dX1_turn_34 : decode cX1_turn 34 = .ok (.iconst (-1), 1) := dk_2 (dk_at dksX1_turn_1 10 rfl rfl)
theorem dX1_turn_35 : decode cX1_turn 35 = .ok (.ireturn, 1) := dk_172 (dk_at dksX1_turn_1 11 rfl rfl)
theorem dX1_turn_36 : decode cX1_turn 36 = .ok (.iload_n 2, 1) := dk_28 (dk_at dksX1_turn_1 12 rfl rfl)
theorem dX1_turn_37 : decode cX1_turn 37 = .ok (.ifCond .ne 14, 3) := dk_154 0 14 (dk_at dksX1_turn_1 13 rfl rfl)
theorem dX1_turn_40 : decode cX1_turn 40 = .ok (.aload_n 0, 1) := dk_42 (dk_at dksX1_turn_1 16 rfl rfl)
theorem dX1_turn_41 : decode cX1_turn 41 = .ok (.getfield 70, 3) := dk_180 0 70 (dk_at dksX1_turn_1 17 rfl rfl)
theorem dX1_turn_44 : decode cX1_turn 44 = .ok (.iload_n 1, 1) := dk_27 (dk_at dksX1_turn_1 20 rfl rfl)
theorem dX1_turn_45 : decode cX1_turn 45 = .ok (.invokevirtual 347, 3) := dk_182 1 91 (dk_at dksX1_turn_1 21 rfl rfl)
theorem dX1_turn_48 : decode cX1_turn 48 = .ok (.goto 10, 3) := dk_167 0 10 (dk_at dksX1_turn_2 0 rfl rfl)
theorem dX1_turn_51 : decode cX1_turn 51 = .ok (.aload_n 0, 1) := dk_42 (dk_at dksX1_turn_2 3 rfl rfl)
theorem dX1_turn_52 : decode cX1_turn 52 = .ok (.getfield 70, 3) := dk_180 0 70 (dk_at dksX1_turn_2 4 rfl rfl)
theorem dX1_turn_55 : decode cX1_turn 55 = .ok (.invokevirtual 350, 3) := dk_182 1 94 (dk_at dksX1_turn_2 7 rfl rfl)
theorem dX1_turn_58 : decode cX1_turn 58 = .ok (.invokestatic 7, 3) := dk_184 0 7 (dk_at dksX1_turn_2 10 rfl rfl)
theorem dX1_turn_61 : decode cX1_turn 61 = .ok (.ireturn, 1) := dk_172 (dk_at dksX1_turn_2 13 rfl rfl)
abbrev cX1_let : ByteArray := prog_1_method_39_code
def yX1_let : MethodName := ⟨RX1, "let", "(II)I"⟩
def dkwX1_let_5 : List UInt8 := [184, 0, 7, 172, 45, 180, 1, 111, 184, 0, 7, 172, 45, 180, 1, 113, 172, 45, 180, 1, 116, 172]
abbrev dktX1_let_5 : List UInt8 := dkwX1_let_5 ++ []
def dkwX1_let_4 : List UInt8 := [45, 180, 1, 100, 172, 45, 180, 1, 102, 172, 45, 180, 1, 104, 172, 45, 180, 1, 105, 172, 45, 180, 1, 108]
abbrev dktX1_let_4 : List UInt8 := dkwX1_let_4 ++ dktX1_let_5
def dkwX1_let_3 : List UInt8 := [170, 0, 0, 0, 0, 0, 0, 85, 0, 0, 0, 0, 0, 0, 0, 6, 0, 0, 0, 44, 0, 0, 0, 49, 0, 0, 0, 54, 0, 0, 0, 59, 0, 0, 0, 64, 0, 0, 0, 72, 0, 0, 0, 80]
abbrev dktX1_let_3 : List UInt8 := dkwX1_let_3 ++ dktX1_let_4
def dkwX1_let_2 : List UInt8 := [154, 0, 5, 2, 172, 42, 180, 0, 70, 180, 0, 204, 27, 182, 0, 43, 192, 1, 98, 78, 28]
abbrev dktX1_let_2 : List UInt8 := dkwX1_let_2 ++ dktX1_let_3
def dkwX1_let_1 : List UInt8 := [180, 0, 204, 182, 0, 130, 4, 100, 133, 184, 0, 134, 153, 0, 7, 3, 167, 0, 4, 5, 182, 0, 155]
abbrev dktX1_let_1 : List UInt8 := dkwX1_let_1 ++ dktX1_let_2
def dkwX1_let_0 : List UInt8 := [42, 28, 133, 9, 20, 0, 232, 184, 0, 134, 154, 0, 7, 4, 167, 0, 30, 27, 133, 9, 42, 180, 0, 70]
abbrev dktX1_let_0 : List UInt8 := dkwX1_let_0 ++ dktX1_let_1
theorem dksX1_let_0 : cX1_let.data.toList.drop 0 = dktX1_let_0 := by decide +kernel
theorem dksX1_let_1 : cX1_let.data.toList.drop 24 = dktX1_let_1 := dk_seg dksX1_let_0 24 rfl rfl
theorem dksX1_let_2 : cX1_let.data.toList.drop 47 = dktX1_let_2 := dk_seg dksX1_let_1 23 rfl rfl
theorem dksX1_let_3 : cX1_let.data.toList.drop 68 = dktX1_let_3 := dk_seg dksX1_let_2 21 rfl rfl
theorem dksX1_let_4 : cX1_let.data.toList.drop 112 = dktX1_let_4 := dk_seg dksX1_let_3 44 rfl rfl
theorem dksX1_let_5 : cX1_let.data.toList.drop 136 = dktX1_let_5 := dk_seg dksX1_let_4 24 rfl rfl
theorem dX1_let_0 : decode cX1_let 0 = .ok (.aload_n 0, 1) := dk_42 (dk_at dksX1_let_0 0 rfl rfl)
theorem dX1_let_1 : decode cX1_let 1 = .ok (.iload_n 2, 1) := dk_28 (dk_at dksX1_let_0 1 rfl rfl)
theorem dX1_let_2 : decode cX1_let 2 = .ok (.i2l, 1) := dk_133 (dk_at dksX1_let_0 2 rfl rfl)
theorem dX1_let_3 : decode cX1_let 3 = .ok (.lconst 0, 1) := dk_9 (dk_at dksX1_let_0 3 rfl rfl)
theorem dX1_let_4 : decode cX1_let 4 = .ok (.ldc2_w 232, 3) := dk_20 0 232 (dk_at dksX1_let_0 4 rfl rfl)
theorem dX1_let_7 : decode cX1_let 7 = .ok (.invokestatic 134, 3) := dk_184 0 134 (dk_at dksX1_let_0 7 rfl rfl)
theorem dX1_let_10 : decode cX1_let 10 = .ok (.ifCond .ne 7, 3) := dk_154 0 7 (dk_at dksX1_let_0 10 rfl rfl)
theorem dX1_let_13 : decode cX1_let 13 = .ok (.iconst 1, 1) := dk_4 (dk_at dksX1_let_0 13 rfl rfl)
theorem dX1_let_14 : decode cX1_let 14 = .ok (.goto 30, 3) := dk_167 0 30 (dk_at dksX1_let_0 14 rfl rfl)
theorem dX1_let_17 : decode cX1_let 17 = .ok (.iload_n 1, 1) := dk_27 (dk_at dksX1_let_0 17 rfl rfl)
theorem dX1_let_18 : decode cX1_let 18 = .ok (.i2l, 1) := dk_133 (dk_at dksX1_let_0 18 rfl rfl)
theorem dX1_let_19 : decode cX1_let 19 = .ok (.lconst 0, 1) := dk_9 (dk_at dksX1_let_0 19 rfl rfl)
theorem dX1_let_20 : decode cX1_let 20 = .ok (.aload_n 0, 1) := dk_42 (dk_at dksX1_let_0 20 rfl rfl)
theorem dX1_let_21 : decode cX1_let 21 = .ok (.getfield 70, 3) := dk_180 0 70 (dk_at dksX1_let_0 21 rfl rfl)
theorem dX1_let_24 : decode cX1_let 24 = .ok (.getfield 204, 3) := dk_180 0 204 (dk_at dksX1_let_1 0 rfl rfl)
theorem dX1_let_27 : decode cX1_let 27 = .ok (.invokevirtual 130, 3) := dk_182 0 130 (dk_at dksX1_let_1 3 rfl rfl)
theorem dX1_let_30 : decode cX1_let 30 = .ok (.iconst 1, 1) := dk_4 (dk_at dksX1_let_1 6 rfl rfl)
theorem dX1_let_31 : decode cX1_let 31 = .ok (.isub, 1) := dk_100 (dk_at dksX1_let_1 7 rfl rfl)
theorem dX1_let_32 : decode cX1_let 32 = .ok (.i2l, 1) := dk_133 (dk_at dksX1_let_1 8 rfl rfl)
theorem dX1_let_33 : decode cX1_let 33 = .ok (.invokestatic 134, 3) := dk_184 0 134 (dk_at dksX1_let_1 9 rfl rfl)
theorem dX1_let_36 : decode cX1_let 36 = .ok (.ifCond .eq 7, 3) := dk_153 0 7 (dk_at dksX1_let_1 12 rfl rfl)
theorem dX1_let_39 : decode cX1_let 39 = .ok (.iconst 0, 1) := dk_3 (dk_at dksX1_let_1 15 rfl rfl)
theorem dX1_let_40 : decode cX1_let 40 = .ok (.goto 4, 3) := dk_167 0 4 (dk_at dksX1_let_1 16 rfl rfl)
theorem dX1_let_43 : decode cX1_let 43 = .ok (.iconst 2, 1) := dk_5 (dk_at dksX1_let_1 19 rfl rfl)
theorem dX1_let_44 : decode cX1_let 44 = .ok (.invokevirtual 155, 3) := dk_182 0 155 (dk_at dksX1_let_1 20 rfl rfl)
theorem dX1_let_47 : decode cX1_let 47 = .ok (.ifCond .ne 5, 3) := dk_154 0 5 (dk_at dksX1_let_2 0 rfl rfl)
theorem dX1_let_50 : decode cX1_let 50 = .ok (.iconst (-1), 1) := dk_2 (dk_at dksX1_let_2 3 rfl rfl)
theorem dX1_let_51 : decode cX1_let 51 = .ok (.ireturn, 1) := dk_172 (dk_at dksX1_let_2 4 rfl rfl)
theorem dX1_let_52 : decode cX1_let 52 = .ok (.aload_n 0, 1) := dk_42 (dk_at dksX1_let_2 5 rfl rfl)
theorem dX1_let_53 : decode cX1_let 53 = .ok (.getfield 70, 3) := dk_180 0 70 (dk_at dksX1_let_2 6 rfl rfl)
theorem dX1_let_56 : decode cX1_let 56 = .ok (.getfield 204, 3) := dk_180 0 204 (dk_at dksX1_let_2 9 rfl rfl)
theorem dX1_let_59 : decode cX1_let 59 = .ok (.iload_n 1, 1) := dk_27 (dk_at dksX1_let_2 12 rfl rfl)
theorem dX1_let_60 : decode cX1_let 60 = .ok (.invokevirtual 43, 3) := dk_182 0 43 (dk_at dksX1_let_2 13 rfl rfl)
theorem dX1_let_63 : decode cX1_let 63 = .ok (.checkcast 354, 3) := dk_192 1 98 (dk_at dksX1_let_2 16 rfl rfl)
theorem dX1_let_66 : decode cX1_let 66 = .ok (.astore_n 3, 1) := dk_78 (dk_at dksX1_let_2 19 rfl rfl)
theorem dX1_let_67 : decode cX1_let 67 = .ok (.iload_n 2, 1) := dk_28 (dk_at dksX1_let_2 20 rfl rfl)
theorem dX1_let_68 : decode cX1_let 68 = .ok (.tableswitch 85 0 6 #[44, 49, 54, 59, 64, 72, 80], 44) := by decide +kernel
theorem dX1_let_112 : decode cX1_let 112 = .ok (.aload_n 3, 1) := dk_45 (dk_at dksX1_let_4 0 rfl rfl)
theorem dX1_let_113 : decode cX1_let 113 = .ok (.getfield 356, 3) := dk_180 1 100 (dk_at dksX1_let_4 1 rfl rfl)
theorem dX1_let_116 : decode cX1_let 116 = .ok (.ireturn, 1) := dk_172 (dk_at dksX1_let_4 4 rfl rfl)
theorem dX1_let_117 : decode cX1_let 117 = .ok (.aload_n 3, 1) := dk_45 (dk_at dksX1_let_4 5 rfl rfl)
theorem dX1_let_118 : decode cX1_let 118 = .ok (.getfield 358, 3) := dk_180 1 102 (dk_at dksX1_let_4 6 rfl rfl)
theorem dX1_let_121 : decode cX1_let 121 = .ok (.ireturn, 1) := dk_172 (dk_at dksX1_let_4 9 rfl rfl)
theorem dX1_let_122 : decode cX1_let 122 = .ok (.aload_n 3, 1) := dk_45 (dk_at dksX1_let_4 10 rfl rfl)
theorem dX1_let_123 : decode cX1_let 123 = .ok (.getfield 360, 3) := dk_180 1 104 (dk_at dksX1_let_4 11 rfl rfl)
theorem dX1_let_126 : decode cX1_let 126 = .ok (.ireturn, 1) := dk_172 (dk_at dksX1_let_4 14 rfl rfl)
theorem dX1_let_127 : decode cX1_let 127 = .ok (.aload_n 3, 1) := dk_45 (dk_at dksX1_let_4 15 rfl rfl)
theorem dX1_let_128 : decode cX1_let 128 = .ok (.getfield 361, 3) := dk_180 1 105 (dk_at dksX1_let_4 16 rfl rfl)
theorem dX1_let_131 : decode cX1_let 131 = .ok (.ireturn, 1) := dk_172 (dk_at dksX1_let_4 19 rfl rfl)
theorem dX1_let_132 : decode cX1_let 132 = .ok (.aload_n 3, 1) := dk_45 (dk_at dksX1_let_4 20 rfl rfl)
theorem dX1_let_133 : decode cX1_let 133 = .ok (.getfield 364, 3) := dk_180 1 108 (dk_at dksX1_let_4 21 rfl rfl)
theorem dX1_let_136 : decode cX1_let 136 = .ok (.invokestatic 7, 3) := dk_184 0 7 (dk_at dksX1_let_5 0 rfl rfl)
theorem dX1_let_139 : decode cX1_let 139 = .ok (.ireturn, 1) := dk_172 (dk_at dksX1_let_5 3 rfl rfl)
theorem dX1_let_140 : decode cX1_let 140 = .ok (.aload_n 3, 1) := dk_45 (dk_at dksX1_let_5 4 rfl rfl)
theorem dX1_let_141 : decode cX1_let 141 = .ok (.getfield 367, 3) := dk_180 1 111 (dk_at dksX1_let_5 5 rfl rfl)
theorem dX1_let_144 : decode cX1_let 144 = .ok (.invokestatic 7, 3) := dk_184 0 7 (dk_at dksX1_let_5 8 rfl rfl)
theorem dX1_let_147 : decode cX1_let 147 = .ok (.ireturn, 1) := dk_172 (dk_at dksX1_let_5 11 rfl rfl)
theorem dX1_let_148 : decode cX1_let 148 = .ok (.aload_n 3, 1) := dk_45 (dk_at dksX1_let_5 12 rfl rfl)
theorem dX1_let_149 : decode cX1_let 149 = .ok (.getfield 369, 3) := dk_180 1 113 (dk_at dksX1_let_5 13 rfl rfl)
theorem dX1_let_152 : decode cX1_let 152 = .ok (.ireturn, 1) := dk_172 (dk_at dksX1_let_5 16 rfl rfl)
theorem dX1_let_153 : decode cX1_let 153 = .ok (.aload_n 3, 1) := dk_45 (dk_at dksX1_let_5 17 rfl rfl)
theorem dX1_let_154 : decode cX1_let 154 = .ok (.getfield 372, 3) := dk_180 1 116 (dk_at dksX1_let_5 18 rfl rfl)
theorem dX1_let_157 : decode cX1_let 157 = .ok (.ireturn, 1) := dk_172 (dk_at dksX1_let_5 21 rfl rfl)
abbrev cX1_offer : ByteArray := prog_1_method_40_code
def yX1_offer : MethodName := ⟨RX1, "offer", "(II)I"⟩
def dkwX1_offer_2 : List UInt8 := [154, 0, 5, 2, 172, 42, 180, 0, 70, 180, 0, 229, 27, 182, 0, 43, 192, 1, 120, 28, 46, 172]
abbrev dktX1_offer_2 : List UInt8 := dkwX1_offer_2 ++ []
def dkwX1_offer_1 : List UInt8 := [180, 0, 229, 182, 0, 130, 4, 100, 133, 184, 0, 134, 153, 0, 7, 3, 167, 0, 4, 5, 182, 0, 155]
abbrev dktX1_offer_1 : List UInt8 := dkwX1_offer_1 ++ dktX1_offer_2
def dkwX1_offer_0 : List UInt8 := [42, 28, 133, 9, 20, 1, 118, 184, 0, 134, 154, 0, 7, 4, 167, 0, 30, 27, 133, 9, 42, 180, 0, 70]
abbrev dktX1_offer_0 : List UInt8 := dkwX1_offer_0 ++ dktX1_offer_1
theorem dksX1_offer_0 : cX1_offer.data.toList.drop 0 = dktX1_offer_0 := by decide +kernel
theorem dksX1_offer_1 : cX1_offer.data.toList.drop 24 = dktX1_offer_1 := dk_seg dksX1_offer_0 24 rfl rfl
theorem dksX1_offer_2 : cX1_offer.data.toList.drop 47 = dktX1_offer_2 := dk_seg dksX1_offer_1 23 rfl rfl
theorem dX1_offer_0 : decode cX1_offer 0 = .ok (.aload_n 0, 1) := dk_42 (dk_at dksX1_offer_0 0 rfl rfl)
theorem dX1_offer_1 : decode cX1_offer 1 = .ok (.iload_n 2, 1) := dk_28 (dk_at dksX1_offer_0 1 rfl rfl)
theorem dX1_offer_2 : decode cX1_offer 2 = .ok (.i2l, 1) := dk_133 (dk_at dksX1_offer_0 2 rfl rfl)
theorem dX1_offer_3 : decode cX1_offer 3 = .ok (.lconst 0, 1) := dk_9 (dk_at dksX1_offer_0 3 rfl rfl)
theorem dX1_offer_4 : decode cX1_offer 4 = .ok (.ldc2_w 374, 3) := dk_20 1 118 (dk_at dksX1_offer_0 4 rfl rfl)
theorem dX1_offer_7 : decode cX1_offer 7 = .ok (.invokestatic 134, 3) := dk_184 0 134 (dk_at dksX1_offer_0 7 rfl rfl)
theorem dX1_offer_10 : decode cX1_offer 10 = .ok (.ifCond .ne 7, 3) := dk_154 0 7 (dk_at dksX1_offer_0 10 rfl rfl)
theorem dX1_offer_13 : decode cX1_offer 13 = .ok (.iconst 1, 1) := dk_4 (dk_at dksX1_offer_0 13 rfl rfl)
theorem dX1_offer_14 : decode cX1_offer 14 = .ok (.goto 30, 3) := dk_167 0 30 (dk_at dksX1_offer_0 14 rfl rfl)
theorem dX1_offer_17 : decode cX1_offer 17 = .ok (.iload_n 1, 1) := dk_27 (dk_at dksX1_offer_0 17 rfl rfl)
theorem dX1_offer_18 : decode cX1_offer 18 = .ok (.i2l, 1) := dk_133 (dk_at dksX1_offer_0 18 rfl rfl)
theorem dX1_offer_19 : decode cX1_offer 19 = .ok (.lconst 0, 1) := dk_9 (dk_at dksX1_offer_0 19 rfl rfl)
theorem dX1_offer_20 : decode cX1_offer 20 = .ok (.aload_n 0, 1) := dk_42 (dk_at dksX1_offer_0 20 rfl rfl)
theorem dX1_offer_21 : decode cX1_offer 21 = .ok (.getfield 70, 3) := dk_180 0 70 (dk_at dksX1_offer_0 21 rfl rfl)
theorem dX1_offer_24 : decode cX1_offer 24 = .ok (.getfield 229, 3) := dk_180 0 229 (dk_at dksX1_offer_1 0 rfl rfl)
theorem dX1_offer_27 : decode cX1_offer 27 = .ok (.invokevirtual 130, 3) := dk_182 0 130 (dk_at dksX1_offer_1 3 rfl rfl)
theorem dX1_offer_30 : decode cX1_offer 30 = .ok (.iconst 1, 1) := dk_4 (dk_at dksX1_offer_1 6 rfl rfl)
theorem dX1_offer_31 : decode cX1_offer 31 = .ok (.isub, 1) := dk_100 (dk_at dksX1_offer_1 7 rfl rfl)
theorem dX1_offer_32 : decode cX1_offer 32 = .ok (.i2l, 1) := dk_133 (dk_at dksX1_offer_1 8 rfl rfl)
theorem dX1_offer_33 : decode cX1_offer 33 = .ok (.invokestatic 134, 3) := dk_184 0 134 (dk_at dksX1_offer_1 9 rfl rfl)
theorem dX1_offer_36 : decode cX1_offer 36 = .ok (.ifCond .eq 7, 3) := dk_153 0 7 (dk_at dksX1_offer_1 12 rfl rfl)
theorem dX1_offer_39 : decode cX1_offer 39 = .ok (.iconst 0, 1) := dk_3 (dk_at dksX1_offer_1 15 rfl rfl)
theorem dX1_offer_40 : decode cX1_offer 40 = .ok (.goto 4, 3) := dk_167 0 4 (dk_at dksX1_offer_1 16 rfl rfl)
theorem dX1_offer_43 : decode cX1_offer 43 = .ok (.iconst 2, 1) := dk_5 (dk_at dksX1_offer_1 19 rfl rfl)
theorem dX1_offer_44 : decode cX1_offer 44 = .ok (.invokevirtual 155, 3) := dk_182 0 155 (dk_at dksX1_offer_1 20 rfl rfl)
theorem dX1_offer_47 : decode cX1_offer 47 = .ok (.ifCond .ne 5, 3) := dk_154 0 5 (dk_at dksX1_offer_2 0 rfl rfl)
theorem dX1_offer_50 : decode cX1_offer 50 = .ok (.iconst (-1), 1) := dk_2 (dk_at dksX1_offer_2 3 rfl rfl)
theorem dX1_offer_51 : decode cX1_offer 51 = .ok (.ireturn, 1) := dk_172 (dk_at dksX1_offer_2 4 rfl rfl)
theorem dX1_offer_52 : decode cX1_offer 52 = .ok (.aload_n 0, 1) := dk_42 (dk_at dksX1_offer_2 5 rfl rfl)
theorem dX1_offer_53 : decode cX1_offer 53 = .ok (.getfield 70, 3) := dk_180 0 70 (dk_at dksX1_offer_2 6 rfl rfl)
theorem dX1_offer_56 : decode cX1_offer 56 = .ok (.getfield 229, 3) := dk_180 0 229 (dk_at dksX1_offer_2 9 rfl rfl)
theorem dX1_offer_59 : decode cX1_offer 59 = .ok (.iload_n 1, 1) := dk_27 (dk_at dksX1_offer_2 12 rfl rfl)
theorem dX1_offer_60 : decode cX1_offer 60 = .ok (.invokevirtual 43, 3) := dk_182 0 43 (dk_at dksX1_offer_2 13 rfl rfl)
theorem dX1_offer_63 : decode cX1_offer 63 = .ok (.checkcast 376, 3) := dk_192 1 120 (dk_at dksX1_offer_2 16 rfl rfl)
theorem dX1_offer_66 : decode cX1_offer 66 = .ok (.iload_n 2, 1) := dk_28 (dk_at dksX1_offer_2 19 rfl rfl)
theorem dX1_offer_67 : decode cX1_offer 67 = .ok (.iaload, 1) := dk_46 (dk_at dksX1_offer_2 20 rfl rfl)
theorem dX1_offer_68 : decode cX1_offer 68 = .ok (.ireturn, 1) := dk_172 (dk_at dksX1_offer_2 21 rfl rfl)
abbrev cX1_tally : ByteArray := prog_1_method_41_code
def yX1_tally : MethodName := ⟨RX1, "tally", "(I)I"⟩
def dkwX1_tally_5 : List UInt8 := [180, 0, 70, 182, 1, 133, 172]
abbrev dktX1_tally_5 : List UInt8 := dkwX1_tally_5 ++ []
def dkwX1_tally_4 : List UInt8 := [180, 0, 70, 182, 1, 129, 172, 44, 182, 0, 130, 44, 186, 1, 132, 0, 0, 184, 0, 192, 172, 42, 42]
abbrev dktX1_tally_4 : List UInt8 := dkwX1_tally_4 ++ dktX1_tally_5
def dkwX1_tally_3 : List UInt8 := [42, 42, 180, 0, 70, 182, 1, 123, 172, 44, 182, 0, 130, 44, 186, 1, 126, 0, 0, 184, 0, 192, 172, 42]
abbrev dktX1_tally_3 : List UInt8 := dkwX1_tally_3 ++ dktX1_tally_4
def dkwX1_tally_2 : List UInt8 := [170, 0, 0, 0, 74, 0, 0, 0, 0, 0, 0, 0, 3, 0, 0, 0, 29, 0, 0, 0, 38, 0, 0, 0, 52, 0, 0, 0, 60]
abbrev dktX1_tally_2 : List UInt8 := dkwX1_tally_2 ++ dktX1_tally_3
def dkwX1_tally_1 : List UInt8 := [2, 172, 42, 180, 0, 70, 180, 0, 204, 77, 27]
abbrev dktX1_tally_1 : List UInt8 := dkwX1_tally_1 ++ dktX1_tally_2
def dkwX1_tally_0 : List UInt8 := [42, 27, 133, 9, 20, 1, 121, 184, 0, 134, 153, 0, 7, 3, 167, 0, 4, 4, 182, 0, 155, 154, 0, 5]
abbrev dktX1_tally_0 : List UInt8 := dkwX1_tally_0 ++ dktX1_tally_1
theorem dksX1_tally_0 : cX1_tally.data.toList.drop 0 = dktX1_tally_0 := by decide +kernel
theorem dksX1_tally_1 : cX1_tally.data.toList.drop 24 = dktX1_tally_1 := dk_seg dksX1_tally_0 24 rfl rfl
theorem dksX1_tally_2 : cX1_tally.data.toList.drop 35 = dktX1_tally_2 := dk_seg dksX1_tally_1 11 rfl rfl
theorem dksX1_tally_3 : cX1_tally.data.toList.drop 64 = dktX1_tally_3 := dk_seg dksX1_tally_2 29 rfl rfl
theorem dksX1_tally_4 : cX1_tally.data.toList.drop 88 = dktX1_tally_4 := dk_seg dksX1_tally_3 24 rfl rfl
theorem dksX1_tally_5 : cX1_tally.data.toList.drop 111 = dktX1_tally_5 := dk_seg dksX1_tally_4 23 rfl rfl
theorem dX1_tally_0 : decode cX1_tally 0 = .ok (.aload_n 0, 1) := dk_42 (dk_at dksX1_tally_0 0 rfl rfl)
theorem dX1_tally_1 : decode cX1_tally 1 = .ok (.iload_n 1, 1) := dk_27 (dk_at dksX1_tally_0 1 rfl rfl)
theorem dX1_tally_2 : decode cX1_tally 2 = .ok (.i2l, 1) := dk_133 (dk_at dksX1_tally_0 2 rfl rfl)
theorem dX1_tally_3 : decode cX1_tally 3 = .ok (.lconst 0, 1) := dk_9 (dk_at dksX1_tally_0 3 rfl rfl)
theorem dX1_tally_4 : decode cX1_tally 4 = .ok (.ldc2_w 377, 3) := dk_20 1 121 (dk_at dksX1_tally_0 4 rfl rfl)
theorem dX1_tally_7 : decode cX1_tally 7 = .ok (.invokestatic 134, 3) := dk_184 0 134 (dk_at dksX1_tally_0 7 rfl rfl)
theorem dX1_tally_10 : decode cX1_tally 10 = .ok (.ifCond .eq 7, 3) := dk_153 0 7 (dk_at dksX1_tally_0 10 rfl rfl)
theorem dX1_tally_13 : decode cX1_tally 13 = .ok (.iconst 0, 1) := dk_3 (dk_at dksX1_tally_0 13 rfl rfl)
theorem dX1_tally_14 : decode cX1_tally 14 = .ok (.goto 4, 3) := dk_167 0 4 (dk_at dksX1_tally_0 14 rfl rfl)
theorem dX1_tally_17 : decode cX1_tally 17 = .ok (.iconst 1, 1) := dk_4 (dk_at dksX1_tally_0 17 rfl rfl)
theorem dX1_tally_18 : decode cX1_tally 18 = .ok (.invokevirtual 155, 3) := dk_182 0 155 (dk_at dksX1_tally_0 18 rfl rfl)
theorem dX1_tally_21 : decode cX1_tally 21 = .ok (.ifCond .ne 5, 3) := dk_154 0 5 (dk_at dksX1_tally_0 21 rfl rfl)
theorem dX1_tally_24 : decode cX1_tally 24 = .ok (.iconst (-1), 1) := dk_2 (dk_at dksX1_tally_1 0 rfl rfl)
theorem dX1_tally_25 : decode cX1_tally 25 = .ok (.ireturn, 1) := dk_172 (dk_at dksX1_tally_1 1 rfl rfl)
theorem dX1_tally_26 : decode cX1_tally 26 = .ok (.aload_n 0, 1) := dk_42 (dk_at dksX1_tally_1 2 rfl rfl)
theorem dX1_tally_27 : decode cX1_tally 27 = .ok (.getfield 70, 3) := dk_180 0 70 (dk_at dksX1_tally_1 3 rfl rfl)
theorem dX1_tally_30 : decode cX1_tally 30 = .ok (.getfield 204, 3) := dk_180 0 204 (dk_at dksX1_tally_1 6 rfl rfl)
theorem dX1_tally_33 : decode cX1_tally 33 = .ok (.astore_n 2, 1) := dk_77 (dk_at dksX1_tally_1 9 rfl rfl)
theorem dX1_tally_34 : decode cX1_tally 34 = .ok (.iload_n 1, 1) := dk_27 (dk_at dksX1_tally_1 10 rfl rfl)
theorem dX1_tally_35 : decode cX1_tally 35 = .ok (.tableswitch 74 0 3 #[29, 38, 52, 60], 29) := by decide +kernel
theorem dX1_tally_64 : decode cX1_tally 64 = .ok (.aload_n 0, 1) := dk_42 (dk_at dksX1_tally_3 0 rfl rfl)
theorem dX1_tally_65 : decode cX1_tally 65 = .ok (.aload_n 0, 1) := dk_42 (dk_at dksX1_tally_3 1 rfl rfl)
theorem dX1_tally_66 : decode cX1_tally 66 = .ok (.getfield 70, 3) := dk_180 0 70 (dk_at dksX1_tally_3 2 rfl rfl)
theorem dX1_tally_69 : decode cX1_tally 69 = .ok (.invokevirtual 379, 3) := dk_182 1 123 (dk_at dksX1_tally_3 5 rfl rfl)
theorem dX1_tally_72 : decode cX1_tally 72 = .ok (.ireturn, 1) := dk_172 (dk_at dksX1_tally_3 8 rfl rfl)
theorem dX1_tally_73 : decode cX1_tally 73 = .ok (.aload_n 2, 1) := dk_44 (dk_at dksX1_tally_3 9 rfl rfl)
theorem dX1_tally_74 : decode cX1_tally 74 = .ok (.invokevirtual 130, 3) := dk_182 0 130 (dk_at dksX1_tally_3 10 rfl rfl)
theorem dX1_tally_77 : decode cX1_tally 77 = .ok (.aload_n 2, 1) := dk_44 (dk_at dksX1_tally_3 13 rfl rfl)
theorem dX1_tally_78 : decode cX1_tally 78 = .ok (.invokedynamic 382, 5) := by decide +kernel
theorem dX1_tally_83 : decode cX1_tally 83 = .ok (.invokestatic 192, 3) := dk_184 0 192 (dk_at dksX1_tally_3 19 rfl rfl)
theorem dX1_tally_86 : decode cX1_tally 86 = .ok (.ireturn, 1) := dk_172 (dk_at dksX1_tally_3 22 rfl rfl)
theorem dX1_tally_87 : decode cX1_tally 87 = .ok (.aload_n 0, 1) := dk_42 (dk_at dksX1_tally_3 23 rfl rfl)
theorem dX1_tally_88 : decode cX1_tally 88 = .ok (.getfield 70, 3) := dk_180 0 70 (dk_at dksX1_tally_4 0 rfl rfl)
theorem dX1_tally_91 : decode cX1_tally 91 = .ok (.invokevirtual 385, 3) := dk_182 1 129 (dk_at dksX1_tally_4 3 rfl rfl)
theorem dX1_tally_94 : decode cX1_tally 94 = .ok (.ireturn, 1) := dk_172 (dk_at dksX1_tally_4 6 rfl rfl)
theorem dX1_tally_95 : decode cX1_tally 95 = .ok (.aload_n 2, 1) := dk_44 (dk_at dksX1_tally_4 7 rfl rfl)
theorem dX1_tally_96 : decode cX1_tally 96 = .ok (.invokevirtual 130, 3) := dk_182 0 130 (dk_at dksX1_tally_4 8 rfl rfl)
theorem dX1_tally_99 : decode cX1_tally 99 = .ok (.aload_n 2, 1) := dk_44 (dk_at dksX1_tally_4 11 rfl rfl)
theorem dX1_tally_100 : decode cX1_tally 100 = .ok (.invokedynamic 388, 5) := by decide +kernel
theorem dX1_tally_105 : decode cX1_tally 105 = .ok (.invokestatic 192, 3) := dk_184 0 192 (dk_at dksX1_tally_4 17 rfl rfl)
theorem dX1_tally_108 : decode cX1_tally 108 = .ok (.ireturn, 1) := dk_172 (dk_at dksX1_tally_4 20 rfl rfl)
theorem dX1_tally_109 : decode cX1_tally 109 = .ok (.aload_n 0, 1) := dk_42 (dk_at dksX1_tally_4 21 rfl rfl)
theorem dX1_tally_110 : decode cX1_tally 110 = .ok (.aload_n 0, 1) := dk_42 (dk_at dksX1_tally_4 22 rfl rfl)
theorem dX1_tally_111 : decode cX1_tally 111 = .ok (.getfield 70, 3) := dk_180 0 70 (dk_at dksX1_tally_5 0 rfl rfl)
theorem dX1_tally_114 : decode cX1_tally 114 = .ok (.invokevirtual 389, 3) := dk_182 1 133 (dk_at dksX1_tally_5 3 rfl rfl)
theorem dX1_tally_117 : decode cX1_tally 117 = .ok (.ireturn, 1) := dk_172 (dk_at dksX1_tally_5 6 rfl rfl)
abbrev cX1_greatestChain : ByteArray := prog_1_method_27_code
def yX1_greatestChain : MethodName := ⟨RX1, "greatestChain", "(LHomesQueue$Register;)I"⟩
def dkwX1_greatestChain_0 : List UInt8 := [43, 180, 0, 204, 182, 0, 130, 43, 186, 0, 207, 0, 0, 184, 0, 208, 172]
abbrev dktX1_greatestChain_0 : List UInt8 := dkwX1_greatestChain_0 ++ []
theorem dksX1_greatestChain_0 : cX1_greatestChain.data.toList.drop 0 = dktX1_greatestChain_0 := by decide +kernel
theorem dX1_greatestChain_0 : decode cX1_greatestChain 0 = .ok (.aload_n 1, 1) := dk_43 (dk_at dksX1_greatestChain_0 0 rfl rfl)
theorem dX1_greatestChain_1 : decode cX1_greatestChain 1 = .ok (.getfield 204, 3) := dk_180 0 204 (dk_at dksX1_greatestChain_0 1 rfl rfl)
theorem dX1_greatestChain_4 : decode cX1_greatestChain 4 = .ok (.invokevirtual 130, 3) := dk_182 0 130 (dk_at dksX1_greatestChain_0 4 rfl rfl)
theorem dX1_greatestChain_7 : decode cX1_greatestChain 7 = .ok (.aload_n 1, 1) := dk_43 (dk_at dksX1_greatestChain_0 7 rfl rfl)
theorem dX1_greatestChain_8 : decode cX1_greatestChain 8 = .ok (.invokedynamic 207, 5) := by decide +kernel
theorem dX1_greatestChain_13 : decode cX1_greatestChain 13 = .ok (.invokestatic 208, 3) := dk_184 0 208 (dk_at dksX1_greatestChain_0 13 rfl rfl)
theorem dX1_greatestChain_16 : decode cX1_greatestChain 16 = .ok (.ireturn, 1) := dk_172 (dk_at dksX1_greatestChain_0 16 rfl rfl)
abbrev cX1_lambda_greatestChain_6 : ByteArray := prog_1_method_108_code
def yX1_lambda_greatestChain_6 : MethodName := ⟨RX1, "lambda$greatestChain$6", "(LHomesQueue$Register;I)I"⟩
def dkwX1_lambda_greatestChain_6_0 : List UInt8 := [42, 27, 182, 2, 122, 172]
abbrev dktX1_lambda_greatestChain_6_0 : List UInt8 := dkwX1_lambda_greatestChain_6_0 ++ []
theorem dksX1_lambda_greatestChain_6_0 : cX1_lambda_greatestChain_6.data.toList.drop 0 = dktX1_lambda_greatestChain_6_0 := by decide +kernel
theorem dX1_lambda_greatestChain_6_0 : decode cX1_lambda_greatestChain_6 0 = .ok (.aload_n 0, 1) := dk_42 (dk_at dksX1_lambda_greatestChain_6_0 0 rfl rfl)
theorem dX1_lambda_greatestChain_6_1 : decode cX1_lambda_greatestChain_6 1 = .ok (.iload_n 1, 1) := dk_27 (dk_at dksX1_lambda_greatestChain_6_0 1 rfl rfl)
theorem dX1_lambda_greatestChain_6_2 : decode cX1_lambda_greatestChain_6 2 = .ok (.invokevirtual 634, 3) := dk_182 2 122 (dk_at dksX1_lambda_greatestChain_6_0 2 rfl rfl)
theorem dX1_lambda_greatestChain_6_5 : decode cX1_lambda_greatestChain_6 5 = .ok (.ireturn, 1) := dk_172 (dk_at dksX1_lambda_greatestChain_6_0 5 rfl rfl)
abbrev cX1_greatest : ByteArray := prog_1_method_5_code
def yX1_greatest : MethodName := ⟨RX1, "greatest", "(ILHomesQueue$Number;)I"⟩
def dkwX1_greatest_1 : List UInt8 := [167, 255, 236, 28, 172]
abbrev dktX1_greatest_1 : List UInt8 := dkwX1_greatest_1 ++ []
def dkwX1_greatest_0 : List UInt8 := [3, 61, 3, 62, 29, 26, 162, 0, 21, 28, 43, 29, 185, 0, 13, 2, 0, 184, 0, 19, 61, 132, 3, 1]
abbrev dktX1_greatest_0 : List UInt8 := dkwX1_greatest_0 ++ dktX1_greatest_1
theorem dksX1_greatest_0 : cX1_greatest.data.toList.drop 0 = dktX1_greatest_0 := by decide +kernel
theorem dksX1_greatest_1 : cX1_greatest.data.toList.drop 24 = dktX1_greatest_1 := dk_seg dksX1_greatest_0 24 rfl rfl
theorem dX1_greatest_0 : decode cX1_greatest 0 = .ok (.iconst 0, 1) := dk_3 (dk_at dksX1_greatest_0 0 rfl rfl)
theorem dX1_greatest_1 : decode cX1_greatest 1 = .ok (.istore_n 2, 1) := dk_61 (dk_at dksX1_greatest_0 1 rfl rfl)
theorem dX1_greatest_2 : decode cX1_greatest 2 = .ok (.iconst 0, 1) := dk_3 (dk_at dksX1_greatest_0 2 rfl rfl)
theorem dX1_greatest_3 : decode cX1_greatest 3 = .ok (.istore_n 3, 1) := dk_62 (dk_at dksX1_greatest_0 3 rfl rfl)
theorem dX1_greatest_4 : decode cX1_greatest 4 = .ok (.iload_n 3, 1) := dk_29 (dk_at dksX1_greatest_0 4 rfl rfl)
theorem dX1_greatest_5 : decode cX1_greatest 5 = .ok (.iload_n 0, 1) := dk_26 (dk_at dksX1_greatest_0 5 rfl rfl)
theorem dX1_greatest_6 : decode cX1_greatest 6 = .ok (.if_icmp .ge 21, 3) := dk_162 0 21 (dk_at dksX1_greatest_0 6 rfl rfl)
theorem dX1_greatest_9 : decode cX1_greatest 9 = .ok (.iload_n 2, 1) := dk_28 (dk_at dksX1_greatest_0 9 rfl rfl)
theorem dX1_greatest_10 : decode cX1_greatest 10 = .ok (.aload_n 1, 1) := dk_43 (dk_at dksX1_greatest_0 10 rfl rfl)
theorem dX1_greatest_11 : decode cX1_greatest 11 = .ok (.iload_n 3, 1) := dk_29 (dk_at dksX1_greatest_0 11 rfl rfl)
theorem dX1_greatest_12 : decode cX1_greatest 12 = .ok (.invokeinterface 13 2, 5) := by decide +kernel
theorem dX1_greatest_17 : decode cX1_greatest 17 = .ok (.invokestatic 19, 3) := dk_184 0 19 (dk_at dksX1_greatest_0 17 rfl rfl)
theorem dX1_greatest_20 : decode cX1_greatest 20 = .ok (.istore_n 2, 1) := dk_61 (dk_at dksX1_greatest_0 20 rfl rfl)
theorem dX1_greatest_21 : decode cX1_greatest 21 = .ok (.iinc 3 1, 3) := dk_132 3 1 (dk_at dksX1_greatest_0 21 rfl rfl)
theorem dX1_greatest_24 : decode cX1_greatest 24 = .ok (.goto (-20), 3) := dk_167 255 236 (dk_at dksX1_greatest_1 0 rfl rfl)
theorem dX1_greatest_27 : decode cX1_greatest 27 = .ok (.iload_n 2, 1) := dk_28 (dk_at dksX1_greatest_1 3 rfl rfl)
theorem dX1_greatest_28 : decode cX1_greatest 28 = .ok (.ireturn, 1) := dk_172 (dk_at dksX1_greatest_1 4 rfl rfl)
abbrev cX1_lambda_tally_12 : ByteArray := prog_1_method_102_code
def yX1_lambda_tally_12 : MethodName := ⟨RX1, "lambda$tally$12", "(Ljava/util/ArrayList;I)Z"⟩
def dkwX1_lambda_tally_12_0 : List UInt8 := [42, 27, 182, 0, 43, 192, 1, 98, 180, 1, 105, 4, 160, 0, 7, 4, 167, 0, 4, 3, 172]
abbrev dktX1_lambda_tally_12_0 : List UInt8 := dkwX1_lambda_tally_12_0 ++ []
theorem dksX1_lambda_tally_12_0 : cX1_lambda_tally_12.data.toList.drop 0 = dktX1_lambda_tally_12_0 := by decide +kernel
theorem dX1_lambda_tally_12_0 : decode cX1_lambda_tally_12 0 = .ok (.aload_n 0, 1) := dk_42 (dk_at dksX1_lambda_tally_12_0 0 rfl rfl)
theorem dX1_lambda_tally_12_1 : decode cX1_lambda_tally_12 1 = .ok (.iload_n 1, 1) := dk_27 (dk_at dksX1_lambda_tally_12_0 1 rfl rfl)
theorem dX1_lambda_tally_12_2 : decode cX1_lambda_tally_12 2 = .ok (.invokevirtual 43, 3) := dk_182 0 43 (dk_at dksX1_lambda_tally_12_0 2 rfl rfl)
theorem dX1_lambda_tally_12_5 : decode cX1_lambda_tally_12 5 = .ok (.checkcast 354, 3) := dk_192 1 98 (dk_at dksX1_lambda_tally_12_0 5 rfl rfl)
theorem dX1_lambda_tally_12_8 : decode cX1_lambda_tally_12 8 = .ok (.getfield 361, 3) := dk_180 1 105 (dk_at dksX1_lambda_tally_12_0 8 rfl rfl)
theorem dX1_lambda_tally_12_11 : decode cX1_lambda_tally_12 11 = .ok (.iconst 1, 1) := dk_4 (dk_at dksX1_lambda_tally_12_0 11 rfl rfl)
theorem dX1_lambda_tally_12_12 : decode cX1_lambda_tally_12 12 = .ok (.if_icmp .ne 7, 3) := dk_160 0 7 (dk_at dksX1_lambda_tally_12_0 12 rfl rfl)
theorem dX1_lambda_tally_12_15 : decode cX1_lambda_tally_12 15 = .ok (.iconst 1, 1) := dk_4 (dk_at dksX1_lambda_tally_12_0 15 rfl rfl)
theorem dX1_lambda_tally_12_16 : decode cX1_lambda_tally_12 16 = .ok (.goto 4, 3) := dk_167 0 4 (dk_at dksX1_lambda_tally_12_0 16 rfl rfl)
theorem dX1_lambda_tally_12_19 : decode cX1_lambda_tally_12 19 = .ok (.iconst 0, 1) := dk_3 (dk_at dksX1_lambda_tally_12_0 19 rfl rfl)
theorem dX1_lambda_tally_12_20 : decode cX1_lambda_tally_12 20 = .ok (.ireturn, 1) := dk_172 (dk_at dksX1_lambda_tally_12_0 20 rfl rfl)
abbrev cX1_lambda_tally_13 : ByteArray := prog_1_method_101_code
def yX1_lambda_tally_13 : MethodName := ⟨RX1, "lambda$tally$13", "(Ljava/util/ArrayList;I)Z"⟩
def dkwX1_lambda_tally_13_0 : List UInt8 := [42, 27, 182, 0, 43, 192, 1, 98, 180, 2, 119, 172]
abbrev dktX1_lambda_tally_13_0 : List UInt8 := dkwX1_lambda_tally_13_0 ++ []
theorem dksX1_lambda_tally_13_0 : cX1_lambda_tally_13.data.toList.drop 0 = dktX1_lambda_tally_13_0 := by decide +kernel
theorem dX1_lambda_tally_13_0 : decode cX1_lambda_tally_13 0 = .ok (.aload_n 0, 1) := dk_42 (dk_at dksX1_lambda_tally_13_0 0 rfl rfl)
theorem dX1_lambda_tally_13_1 : decode cX1_lambda_tally_13 1 = .ok (.iload_n 1, 1) := dk_27 (dk_at dksX1_lambda_tally_13_0 1 rfl rfl)
theorem dX1_lambda_tally_13_2 : decode cX1_lambda_tally_13 2 = .ok (.invokevirtual 43, 3) := dk_182 0 43 (dk_at dksX1_lambda_tally_13_0 2 rfl rfl)
theorem dX1_lambda_tally_13_5 : decode cX1_lambda_tally_13 5 = .ok (.checkcast 354, 3) := dk_192 1 98 (dk_at dksX1_lambda_tally_13_0 5 rfl rfl)
theorem dX1_lambda_tally_13_8 : decode cX1_lambda_tally_13 8 = .ok (.getfield 631, 3) := dk_180 2 119 (dk_at dksX1_lambda_tally_13_0 8 rfl rfl)
theorem dX1_lambda_tally_13_11 : decode cX1_lambda_tally_13 11 = .ok (.ireturn, 1) := dk_172 (dk_at dksX1_lambda_tally_13_0 11 rfl rfl)
abbrev cX1_passedBy : ByteArray := prog_1_method_26_code
def yX1_passedBy : MethodName := ⟨RX1, "passedBy", "(LHomesQueue$Register;)I"⟩
def dkwX1_passedBy_0 : List UInt8 := [42, 180, 0, 51, 182, 0, 130, 43, 186, 0, 197, 0, 0, 184, 0, 200, 172]
abbrev dktX1_passedBy_0 : List UInt8 := dkwX1_passedBy_0 ++ []
theorem dksX1_passedBy_0 : cX1_passedBy.data.toList.drop 0 = dktX1_passedBy_0 := by decide +kernel
theorem dX1_passedBy_0 : decode cX1_passedBy 0 = .ok (.aload_n 0, 1) := dk_42 (dk_at dksX1_passedBy_0 0 rfl rfl)
theorem dX1_passedBy_1 : decode cX1_passedBy 1 = .ok (.getfield 51, 3) := dk_180 0 51 (dk_at dksX1_passedBy_0 1 rfl rfl)
theorem dX1_passedBy_4 : decode cX1_passedBy 4 = .ok (.invokevirtual 130, 3) := dk_182 0 130 (dk_at dksX1_passedBy_0 4 rfl rfl)
theorem dX1_passedBy_7 : decode cX1_passedBy 7 = .ok (.aload_n 1, 1) := dk_43 (dk_at dksX1_passedBy_0 7 rfl rfl)
theorem dX1_passedBy_8 : decode cX1_passedBy 8 = .ok (.invokedynamic 197, 5) := by decide +kernel
theorem dX1_passedBy_13 : decode cX1_passedBy 13 = .ok (.invokestatic 200, 3) := dk_184 0 200 (dk_at dksX1_passedBy_0 13 rfl rfl)
theorem dX1_passedBy_16 : decode cX1_passedBy 16 = .ok (.ireturn, 1) := dk_172 (dk_at dksX1_passedBy_0 16 rfl rfl)
abbrev cX1_lambda_passedBy_5 : ByteArray := prog_1_method_109_code
def yX1_lambda_passedBy_5 : MethodName := ⟨RX1, "lambda$passedBy$5", "(LHomesQueue$Register;I)I"⟩
def dkwX1_lambda_passedBy_5_0 : List UInt8 := [42, 180, 1, 55, 27, 46, 172]
abbrev dktX1_lambda_passedBy_5_0 : List UInt8 := dkwX1_lambda_passedBy_5_0 ++ []
theorem dksX1_lambda_passedBy_5_0 : cX1_lambda_passedBy_5.data.toList.drop 0 = dktX1_lambda_passedBy_5_0 := by decide +kernel
theorem dX1_lambda_passedBy_5_0 : decode cX1_lambda_passedBy_5 0 = .ok (.aload_n 0, 1) := dk_42 (dk_at dksX1_lambda_passedBy_5_0 0 rfl rfl)
theorem dX1_lambda_passedBy_5_1 : decode cX1_lambda_passedBy_5 1 = .ok (.getfield 311, 3) := dk_180 1 55 (dk_at dksX1_lambda_passedBy_5_0 1 rfl rfl)
theorem dX1_lambda_passedBy_5_4 : decode cX1_lambda_passedBy_5 4 = .ok (.iload_n 1, 1) := dk_27 (dk_at dksX1_lambda_passedBy_5_0 4 rfl rfl)
theorem dX1_lambda_passedBy_5_5 : decode cX1_lambda_passedBy_5 5 = .ok (.iaload, 1) := dk_46 (dk_at dksX1_lambda_passedBy_5_0 5 rfl rfl)
theorem dX1_lambda_passedBy_5_6 : decode cX1_lambda_passedBy_5 6 = .ok (.ireturn, 1) := dk_172 (dk_at dksX1_lambda_passedBy_5_0 6 rfl rfl)
abbrev cX1_lack : ByteArray := prog_1_method_42_code
def yX1_lack : MethodName := ⟨RX1, "lack", "(I)I"⟩
def dkwX1_lack_2 : List UInt8 := [182, 0, 130, 42, 27, 186, 1, 137, 0, 0, 184, 0, 192, 100, 172]
abbrev dktX1_lack_2 : List UInt8 := dkwX1_lack_2 ++ []
def dkwX1_lack_1 : List UInt8 := [2, 172, 42, 180, 0, 51, 182, 0, 130, 42, 27, 186, 1, 136, 0, 0, 184, 0, 192, 42, 180, 0, 39]
abbrev dktX1_lack_1 : List UInt8 := dkwX1_lack_1 ++ dktX1_lack_2
def dkwX1_lack_0 : List UInt8 := [42, 27, 133, 10, 20, 1, 121, 184, 0, 134, 153, 0, 7, 3, 167, 0, 4, 4, 182, 0, 155, 154, 0, 5]
abbrev dktX1_lack_0 : List UInt8 := dkwX1_lack_0 ++ dktX1_lack_1
theorem dksX1_lack_0 : cX1_lack.data.toList.drop 0 = dktX1_lack_0 := by decide +kernel
theorem dksX1_lack_1 : cX1_lack.data.toList.drop 24 = dktX1_lack_1 := dk_seg dksX1_lack_0 24 rfl rfl
theorem dksX1_lack_2 : cX1_lack.data.toList.drop 47 = dktX1_lack_2 := dk_seg dksX1_lack_1 23 rfl rfl
theorem dX1_lack_0 : decode cX1_lack 0 = .ok (.aload_n 0, 1) := dk_42 (dk_at dksX1_lack_0 0 rfl rfl)
theorem dX1_lack_1 : decode cX1_lack 1 = .ok (.iload_n 1, 1) := dk_27 (dk_at dksX1_lack_0 1 rfl rfl)
theorem dX1_lack_2 : decode cX1_lack 2 = .ok (.i2l, 1) := dk_133 (dk_at dksX1_lack_0 2 rfl rfl)
theorem dX1_lack_3 : decode cX1_lack 3 = .ok (.lconst 1, 1) := dk_10 (dk_at dksX1_lack_0 3 rfl rfl)
theorem dX1_lack_4 : decode cX1_lack 4 = .ok (.ldc2_w 377, 3) := dk_20 1 121 (dk_at dksX1_lack_0 4 rfl rfl)
theorem dX1_lack_7 : decode cX1_lack 7 = .ok (.invokestatic 134, 3) := dk_184 0 134 (dk_at dksX1_lack_0 7 rfl rfl)
theorem dX1_lack_10 : decode cX1_lack 10 = .ok (.ifCond .eq 7, 3) := dk_153 0 7 (dk_at dksX1_lack_0 10 rfl rfl)
theorem dX1_lack_13 : decode cX1_lack 13 = .ok (.iconst 0, 1) := dk_3 (dk_at dksX1_lack_0 13 rfl rfl)
theorem dX1_lack_14 : decode cX1_lack 14 = .ok (.goto 4, 3) := dk_167 0 4 (dk_at dksX1_lack_0 14 rfl rfl)
theorem dX1_lack_17 : decode cX1_lack 17 = .ok (.iconst 1, 1) := dk_4 (dk_at dksX1_lack_0 17 rfl rfl)
theorem dX1_lack_18 : decode cX1_lack 18 = .ok (.invokevirtual 155, 3) := dk_182 0 155 (dk_at dksX1_lack_0 18 rfl rfl)
theorem dX1_lack_21 : decode cX1_lack 21 = .ok (.ifCond .ne 5, 3) := dk_154 0 5 (dk_at dksX1_lack_0 21 rfl rfl)
theorem dX1_lack_24 : decode cX1_lack 24 = .ok (.iconst (-1), 1) := dk_2 (dk_at dksX1_lack_1 0 rfl rfl)
theorem dX1_lack_25 : decode cX1_lack 25 = .ok (.ireturn, 1) := dk_172 (dk_at dksX1_lack_1 1 rfl rfl)
theorem dX1_lack_26 : decode cX1_lack 26 = .ok (.aload_n 0, 1) := dk_42 (dk_at dksX1_lack_1 2 rfl rfl)
theorem dX1_lack_27 : decode cX1_lack 27 = .ok (.getfield 51, 3) := dk_180 0 51 (dk_at dksX1_lack_1 3 rfl rfl)
theorem dX1_lack_30 : decode cX1_lack 30 = .ok (.invokevirtual 130, 3) := dk_182 0 130 (dk_at dksX1_lack_1 6 rfl rfl)
theorem dX1_lack_33 : decode cX1_lack 33 = .ok (.aload_n 0, 1) := dk_42 (dk_at dksX1_lack_1 9 rfl rfl)
theorem dX1_lack_34 : decode cX1_lack 34 = .ok (.iload_n 1, 1) := dk_27 (dk_at dksX1_lack_1 10 rfl rfl)
theorem dX1_lack_35 : decode cX1_lack 35 = .ok (.invokedynamic 392, 5) := by decide +kernel
theorem dX1_lack_40 : decode cX1_lack 40 = .ok (.invokestatic 192, 3) := dk_184 0 192 (dk_at dksX1_lack_1 16 rfl rfl)
theorem dX1_lack_43 : decode cX1_lack 43 = .ok (.aload_n 0, 1) := dk_42 (dk_at dksX1_lack_1 19 rfl rfl)
theorem dX1_lack_44 : decode cX1_lack 44 = .ok (.getfield 39, 3) := dk_180 0 39 (dk_at dksX1_lack_1 20 rfl rfl)
theorem dX1_lack_47 : decode cX1_lack 47 = .ok (.invokevirtual 130, 3) := dk_182 0 130 (dk_at dksX1_lack_2 0 rfl rfl)
theorem dX1_lack_50 : decode cX1_lack 50 = .ok (.aload_n 0, 1) := dk_42 (dk_at dksX1_lack_2 3 rfl rfl)
theorem dX1_lack_51 : decode cX1_lack 51 = .ok (.iload_n 1, 1) := dk_27 (dk_at dksX1_lack_2 4 rfl rfl)
theorem dX1_lack_52 : decode cX1_lack 52 = .ok (.invokedynamic 393, 5) := by decide +kernel
theorem dX1_lack_57 : decode cX1_lack 57 = .ok (.invokestatic 192, 3) := dk_184 0 192 (dk_at dksX1_lack_2 10 rfl rfl)
theorem dX1_lack_60 : decode cX1_lack 60 = .ok (.isub, 1) := dk_100 (dk_at dksX1_lack_2 13 rfl rfl)
theorem dX1_lack_61 : decode cX1_lack 61 = .ok (.ireturn, 1) := dk_172 (dk_at dksX1_lack_2 14 rfl rfl)
abbrev cX1_lambda_lack_14 : ByteArray := prog_1_method_100_code
def yX1_lambda_lack_14 : MethodName := ⟨RX1, "lambda$lack$14", "(II)Z"⟩
def dkwX1_lambda_lack_14_1 : List UInt8 := [160, 0, 7, 4, 167, 0, 4, 3, 172]
abbrev dktX1_lambda_lack_14_1 : List UInt8 := dkwX1_lambda_lack_14_1 ++ []
def dkwX1_lambda_lack_14_0 : List UInt8 := [42, 180, 0, 70, 180, 1, 49, 28, 51, 154, 0, 20, 42, 180, 0, 70, 180, 1, 31, 28, 46, 27]
abbrev dktX1_lambda_lack_14_0 : List UInt8 := dkwX1_lambda_lack_14_0 ++ dktX1_lambda_lack_14_1
theorem dksX1_lambda_lack_14_0 : cX1_lambda_lack_14.data.toList.drop 0 = dktX1_lambda_lack_14_0 := by decide +kernel
theorem dksX1_lambda_lack_14_1 : cX1_lambda_lack_14.data.toList.drop 22 = dktX1_lambda_lack_14_1 := dk_seg dksX1_lambda_lack_14_0 22 rfl rfl
theorem dX1_lambda_lack_14_0 : decode cX1_lambda_lack_14 0 = .ok (.aload_n 0, 1) := dk_42 (dk_at dksX1_lambda_lack_14_0 0 rfl rfl)
theorem dX1_lambda_lack_14_1 : decode cX1_lambda_lack_14 1 = .ok (.getfield 70, 3) := dk_180 0 70 (dk_at dksX1_lambda_lack_14_0 1 rfl rfl)
theorem dX1_lambda_lack_14_4 : decode cX1_lambda_lack_14 4 = .ok (.getfield 305, 3) := dk_180 1 49 (dk_at dksX1_lambda_lack_14_0 4 rfl rfl)
theorem dX1_lambda_lack_14_7 : decode cX1_lambda_lack_14 7 = .ok (.iload_n 2, 1) := dk_28 (dk_at dksX1_lambda_lack_14_0 7 rfl rfl)
theorem dX1_lambda_lack_14_8 : decode cX1_lambda_lack_14 8 = .ok (.baload, 1) := dk_51 (dk_at dksX1_lambda_lack_14_0 8 rfl rfl)
theorem dX1_lambda_lack_14_9 : decode cX1_lambda_lack_14 9 = .ok (.ifCond .ne 20, 3) := dk_154 0 20 (dk_at dksX1_lambda_lack_14_0 9 rfl rfl)
theorem dX1_lambda_lack_14_12 : decode cX1_lambda_lack_14 12 = .ok (.aload_n 0, 1) := dk_42 (dk_at dksX1_lambda_lack_14_0 12 rfl rfl)
theorem dX1_lambda_lack_14_13 : decode cX1_lambda_lack_14 13 = .ok (.getfield 70, 3) := dk_180 0 70 (dk_at dksX1_lambda_lack_14_0 13 rfl rfl)
theorem dX1_lambda_lack_14_16 : decode cX1_lambda_lack_14 16 = .ok (.getfield 287, 3) := dk_180 1 31 (dk_at dksX1_lambda_lack_14_0 16 rfl rfl)
theorem dX1_lambda_lack_14_19 : decode cX1_lambda_lack_14 19 = .ok (.iload_n 2, 1) := dk_28 (dk_at dksX1_lambda_lack_14_0 19 rfl rfl)
theorem dX1_lambda_lack_14_20 : decode cX1_lambda_lack_14 20 = .ok (.iaload, 1) := dk_46 (dk_at dksX1_lambda_lack_14_0 20 rfl rfl)
theorem dX1_lambda_lack_14_21 : decode cX1_lambda_lack_14 21 = .ok (.iload_n 1, 1) := dk_27 (dk_at dksX1_lambda_lack_14_0 21 rfl rfl)
theorem dX1_lambda_lack_14_22 : decode cX1_lambda_lack_14 22 = .ok (.if_icmp .ne 7, 3) := dk_160 0 7 (dk_at dksX1_lambda_lack_14_1 0 rfl rfl)
theorem dX1_lambda_lack_14_25 : decode cX1_lambda_lack_14 25 = .ok (.iconst 1, 1) := dk_4 (dk_at dksX1_lambda_lack_14_1 3 rfl rfl)
theorem dX1_lambda_lack_14_26 : decode cX1_lambda_lack_14 26 = .ok (.goto 4, 3) := dk_167 0 4 (dk_at dksX1_lambda_lack_14_1 4 rfl rfl)
theorem dX1_lambda_lack_14_29 : decode cX1_lambda_lack_14 29 = .ok (.iconst 0, 1) := dk_3 (dk_at dksX1_lambda_lack_14_1 7 rfl rfl)
theorem dX1_lambda_lack_14_30 : decode cX1_lambda_lack_14 30 = .ok (.ireturn, 1) := dk_172 (dk_at dksX1_lambda_lack_14_1 8 rfl rfl)
abbrev cX1_lambda_lack_15 : ByteArray := prog_1_method_99_code
def yX1_lambda_lack_15 : MethodName := ⟨RX1, "lambda$lack$15", "(II)Z"⟩
def dkwX1_lambda_lack_15_1 : List UInt8 := [167, 0, 4, 3, 172]
abbrev dktX1_lambda_lack_15_1 : List UInt8 := dkwX1_lambda_lack_15_1 ++ []
def dkwX1_lambda_lack_15_0 : List UInt8 := [42, 180, 0, 70, 28, 182, 0, 250, 153, 0, 19, 42, 28, 182, 0, 234, 180, 0, 238, 27, 160, 0, 7, 4]
abbrev dktX1_lambda_lack_15_0 : List UInt8 := dkwX1_lambda_lack_15_0 ++ dktX1_lambda_lack_15_1
theorem dksX1_lambda_lack_15_0 : cX1_lambda_lack_15.data.toList.drop 0 = dktX1_lambda_lack_15_0 := by decide +kernel
theorem dksX1_lambda_lack_15_1 : cX1_lambda_lack_15.data.toList.drop 24 = dktX1_lambda_lack_15_1 := dk_seg dksX1_lambda_lack_15_0 24 rfl rfl
theorem dX1_lambda_lack_15_0 : decode cX1_lambda_lack_15 0 = .ok (.aload_n 0, 1) := dk_42 (dk_at dksX1_lambda_lack_15_0 0 rfl rfl)
theorem dX1_lambda_lack_15_1 : decode cX1_lambda_lack_15 1 = .ok (.getfield 70, 3) := dk_180 0 70 (dk_at dksX1_lambda_lack_15_0 1 rfl rfl)
theorem dX1_lambda_lack_15_4 : decode cX1_lambda_lack_15 4 = .ok (.iload_n 2, 1) := dk_28 (dk_at dksX1_lambda_lack_15_0 4 rfl rfl)
theorem dX1_lambda_lack_15_5 : decode cX1_lambda_lack_15 5 = .ok (.invokevirtual 250, 3) := dk_182 0 250 (dk_at dksX1_lambda_lack_15_0 5 rfl rfl)
theorem dX1_lambda_lack_15_8 : decode cX1_lambda_lack_15 8 = .ok (.ifCond .eq 19, 3) := dk_153 0 19 (dk_at dksX1_lambda_lack_15_0 8 rfl rfl)
theorem dX1_lambda_lack_15_11 : decode cX1_lambda_lack_15 11 = .ok (.aload_n 0, 1) := dk_42 (dk_at dksX1_lambda_lack_15_0 11 rfl rfl)
theorem dX1_lambda_lack_15_12 : decode cX1_lambda_lack_15 12 = .ok (.iload_n 2, 1) := dk_28 (dk_at dksX1_lambda_lack_15_0 12 rfl rfl)
theorem dX1_lambda_lack_15_13 : decode cX1_lambda_lack_15 13 = .ok (.invokevirtual 234, 3) := dk_182 0 234 (dk_at dksX1_lambda_lack_15_0 13 rfl rfl)
theorem dX1_lambda_lack_15_16 : decode cX1_lambda_lack_15 16 = .ok (.getfield 238, 3) := dk_180 0 238 (dk_at dksX1_lambda_lack_15_0 16 rfl rfl)
theorem dX1_lambda_lack_15_19 : decode cX1_lambda_lack_15 19 = .ok (.iload_n 1, 1) := dk_27 (dk_at dksX1_lambda_lack_15_0 19 rfl rfl)
theorem dX1_lambda_lack_15_20 : decode cX1_lambda_lack_15 20 = .ok (.if_icmp .ne 7, 3) := dk_160 0 7 (dk_at dksX1_lambda_lack_15_0 20 rfl rfl)
theorem dX1_lambda_lack_15_23 : decode cX1_lambda_lack_15 23 = .ok (.iconst 1, 1) := dk_4 (dk_at dksX1_lambda_lack_15_0 23 rfl rfl)
theorem dX1_lambda_lack_15_24 : decode cX1_lambda_lack_15 24 = .ok (.goto 4, 3) := dk_167 0 4 (dk_at dksX1_lambda_lack_15_1 0 rfl rfl)
theorem dX1_lambda_lack_15_27 : decode cX1_lambda_lack_15 27 = .ok (.iconst 0, 1) := dk_3 (dk_at dksX1_lambda_lack_15_1 3 rfl rfl)
theorem dX1_lambda_lack_15_28 : decode cX1_lambda_lack_15 28 = .ok (.ireturn, 1) := dk_172 (dk_at dksX1_lambda_lack_15_1 4 rfl rfl)
abbrev cX1_weeks : ByteArray := prog_1_method_43_code
def yX1_weeks : MethodName := ⟨RX1, "weeks", "(II)I"⟩
def dkwX1_weeks_7 : List UInt8 := [182, 1, 133, 42, 42, 180, 0, 70, 182, 1, 133, 100, 172]
abbrev dktX1_weeks_7 : List UInt8 := dkwX1_weeks_7 ++ []
def dkwX1_weeks_6 : List UInt8 := [42, 42, 180, 0, 74, 182, 0, 223, 172, 42, 42, 180, 0, 74, 182, 1, 123, 172, 42, 42, 180, 0, 74]
abbrev dktX1_weeks_6 : List UInt8 := dkwX1_weeks_6 ++ dktX1_weeks_7
def dkwX1_weeks_5 : List UInt8 := [180, 0, 74, 180, 0, 226, 42, 180, 0, 70, 180, 0, 226, 100, 172, 42, 42, 180, 0, 74, 182, 0, 219, 172]
abbrev dktX1_weeks_5 : List UInt8 := dkwX1_weeks_5 ++ dktX1_weeks_6
def dkwX1_weeks_4 : List UInt8 := [42, 180, 0, 74, 180, 0, 204, 182, 0, 130, 42, 180, 0, 70, 180, 0, 204, 182, 0, 130, 100, 172, 42]
abbrev dktX1_weeks_4 : List UInt8 := dkwX1_weeks_4 ++ dktX1_weeks_5
def dkwX1_weeks_3 : List UInt8 := [170, 0, 0, 0, 0, 99, 0, 0, 0, 0, 0, 0, 0, 4, 0, 0, 0, 34, 0, 0, 0, 56, 0, 0, 0, 72, 0, 0, 0, 81, 0, 0, 0, 90]
abbrev dktX1_weeks_3 : List UInt8 := dkwX1_weeks_3 ++ dktX1_weeks_4
def dkwX1_weeks_2 : List UInt8 := [182, 1, 140, 42, 180, 0, 74, 27, 182, 1, 144, 28]
abbrev dktX1_weeks_2 : List UInt8 := dkwX1_weeks_2 ++ dktX1_weeks_3
def dkwX1_weeks_1 : List UInt8 := [154, 0, 7, 4, 167, 0, 4, 3, 182, 0, 155, 154, 0, 5, 2, 172, 42, 180, 0, 74, 42, 180, 0, 70]
abbrev dktX1_weeks_1 : List UInt8 := dkwX1_weeks_1 ++ dktX1_weeks_2
def dkwX1_weeks_0 : List UInt8 := [42, 27, 133, 9, 20, 1, 138, 184, 0, 134, 153, 0, 15, 28, 133, 9, 20, 1, 58, 184, 0, 134]
abbrev dktX1_weeks_0 : List UInt8 := dkwX1_weeks_0 ++ dktX1_weeks_1
theorem dksX1_weeks_0 : cX1_weeks.data.toList.drop 0 = dktX1_weeks_0 := by decide +kernel
theorem dksX1_weeks_1 : cX1_weeks.data.toList.drop 22 = dktX1_weeks_1 := dk_seg dksX1_weeks_0 22 rfl rfl
theorem dksX1_weeks_2 : cX1_weeks.data.toList.drop 46 = dktX1_weeks_2 := dk_seg dksX1_weeks_1 24 rfl rfl
theorem dksX1_weeks_3 : cX1_weeks.data.toList.drop 58 = dktX1_weeks_3 := dk_seg dksX1_weeks_2 12 rfl rfl
theorem dksX1_weeks_4 : cX1_weeks.data.toList.drop 92 = dktX1_weeks_4 := dk_seg dksX1_weeks_3 34 rfl rfl
theorem dksX1_weeks_5 : cX1_weeks.data.toList.drop 115 = dktX1_weeks_5 := dk_seg dksX1_weeks_4 23 rfl rfl
theorem dksX1_weeks_6 : cX1_weeks.data.toList.drop 139 = dktX1_weeks_6 := dk_seg dksX1_weeks_5 24 rfl rfl
theorem dksX1_weeks_7 : cX1_weeks.data.toList.drop 162 = dktX1_weeks_7 := dk_seg dksX1_weeks_6 23 rfl rfl
theorem dX1_weeks_0 : decode cX1_weeks 0 = .ok (.aload_n 0, 1) := dk_42 (dk_at dksX1_weeks_0 0 rfl rfl)
theorem dX1_weeks_1 : decode cX1_weeks 1 = .ok (.iload_n 1, 1) := dk_27 (dk_at dksX1_weeks_0 1 rfl rfl)
theorem dX1_weeks_2 : decode cX1_weeks 2 = .ok (.i2l, 1) := dk_133 (dk_at dksX1_weeks_0 2 rfl rfl)
theorem dX1_weeks_3 : decode cX1_weeks 3 = .ok (.lconst 0, 1) := dk_9 (dk_at dksX1_weeks_0 3 rfl rfl)
theorem dX1_weeks_4 : decode cX1_weeks 4 = .ok (.ldc2_w 394, 3) := dk_20 1 138 (dk_at dksX1_weeks_0 4 rfl rfl)
theorem dX1_weeks_7 : decode cX1_weeks 7 = .ok (.invokestatic 134, 3) := dk_184 0 134 (dk_at dksX1_weeks_0 7 rfl rfl)
theorem dX1_weeks_10 : decode cX1_weeks 10 = .ok (.ifCond .eq 15, 3) := dk_153 0 15 (dk_at dksX1_weeks_0 10 rfl rfl)
theorem dX1_weeks_13 : decode cX1_weeks 13 = .ok (.iload_n 2, 1) := dk_28 (dk_at dksX1_weeks_0 13 rfl rfl)
theorem dX1_weeks_14 : decode cX1_weeks 14 = .ok (.i2l, 1) := dk_133 (dk_at dksX1_weeks_0 14 rfl rfl)
theorem dX1_weeks_15 : decode cX1_weeks 15 = .ok (.lconst 0, 1) := dk_9 (dk_at dksX1_weeks_0 15 rfl rfl)
theorem dX1_weeks_16 : decode cX1_weeks 16 = .ok (.ldc2_w 314, 3) := dk_20 1 58 (dk_at dksX1_weeks_0 16 rfl rfl)
theorem dX1_weeks_19 : decode cX1_weeks 19 = .ok (.invokestatic 134, 3) := dk_184 0 134 (dk_at dksX1_weeks_0 19 rfl rfl)
theorem dX1_weeks_22 : decode cX1_weeks 22 = .ok (.ifCond .ne 7, 3) := dk_154 0 7 (dk_at dksX1_weeks_1 0 rfl rfl)
theorem dX1_weeks_25 : decode cX1_weeks 25 = .ok (.iconst 1, 1) := dk_4 (dk_at dksX1_weeks_1 3 rfl rfl)
theorem dX1_weeks_26 : decode cX1_weeks 26 = .ok (.goto 4, 3) := dk_167 0 4 (dk_at dksX1_weeks_1 4 rfl rfl)
theorem dX1_weeks_29 : decode cX1_weeks 29 = .ok (.iconst 0, 1) := dk_3 (dk_at dksX1_weeks_1 7 rfl rfl)
theorem dX1_weeks_30 : decode cX1_weeks 30 = .ok (.invokevirtual 155, 3) := dk_182 0 155 (dk_at dksX1_weeks_1 8 rfl rfl)
theorem dX1_weeks_33 : decode cX1_weeks 33 = .ok (.ifCond .ne 5, 3) := dk_154 0 5 (dk_at dksX1_weeks_1 11 rfl rfl)
theorem dX1_weeks_36 : decode cX1_weeks 36 = .ok (.iconst (-1), 1) := dk_2 (dk_at dksX1_weeks_1 14 rfl rfl)
theorem dX1_weeks_37 : decode cX1_weeks 37 = .ok (.ireturn, 1) := dk_172 (dk_at dksX1_weeks_1 15 rfl rfl)
theorem dX1_weeks_38 : decode cX1_weeks 38 = .ok (.aload_n 0, 1) := dk_42 (dk_at dksX1_weeks_1 16 rfl rfl)
theorem dX1_weeks_39 : decode cX1_weeks 39 = .ok (.getfield 74, 3) := dk_180 0 74 (dk_at dksX1_weeks_1 17 rfl rfl)
theorem dX1_weeks_42 : decode cX1_weeks 42 = .ok (.aload_n 0, 1) := dk_42 (dk_at dksX1_weeks_1 20 rfl rfl)
theorem dX1_weeks_43 : decode cX1_weeks 43 = .ok (.getfield 70, 3) := dk_180 0 70 (dk_at dksX1_weeks_1 21 rfl rfl)
theorem dX1_weeks_46 : decode cX1_weeks 46 = .ok (.invokevirtual 396, 3) := dk_182 1 140 (dk_at dksX1_weeks_2 0 rfl rfl)
theorem dX1_weeks_49 : decode cX1_weeks 49 = .ok (.aload_n 0, 1) := dk_42 (dk_at dksX1_weeks_2 3 rfl rfl)
theorem dX1_weeks_50 : decode cX1_weeks 50 = .ok (.getfield 74, 3) := dk_180 0 74 (dk_at dksX1_weeks_2 4 rfl rfl)
theorem dX1_weeks_53 : decode cX1_weeks 53 = .ok (.iload_n 1, 1) := dk_27 (dk_at dksX1_weeks_2 7 rfl rfl)
theorem dX1_weeks_54 : decode cX1_weeks 54 = .ok (.invokevirtual 400, 3) := dk_182 1 144 (dk_at dksX1_weeks_2 8 rfl rfl)
theorem dX1_weeks_57 : decode cX1_weeks 57 = .ok (.iload_n 2, 1) := dk_28 (dk_at dksX1_weeks_2 11 rfl rfl)
theorem dX1_weeks_58 : decode cX1_weeks 58 = .ok (.tableswitch 99 0 4 #[34, 56, 72, 81, 90], 34) := by decide +kernel
theorem dX1_weeks_92 : decode cX1_weeks 92 = .ok (.aload_n 0, 1) := dk_42 (dk_at dksX1_weeks_4 0 rfl rfl)
theorem dX1_weeks_93 : decode cX1_weeks 93 = .ok (.getfield 74, 3) := dk_180 0 74 (dk_at dksX1_weeks_4 1 rfl rfl)
theorem dX1_weeks_96 : decode cX1_weeks 96 = .ok (.getfield 204, 3) := dk_180 0 204 (dk_at dksX1_weeks_4 4 rfl rfl)
theorem dX1_weeks_99 : decode cX1_weeks 99 = .ok (.invokevirtual 130, 3) := dk_182 0 130 (dk_at dksX1_weeks_4 7 rfl rfl)
theorem dX1_weeks_102 : decode cX1_weeks 102 = .ok (.aload_n 0, 1) := dk_42 (dk_at dksX1_weeks_4 10 rfl rfl)
theorem dX1_weeks_103 : decode cX1_weeks 103 = .ok (.getfield 70, 3) := dk_180 0 70 (dk_at dksX1_weeks_4 11 rfl rfl)
theorem dX1_weeks_106 : decode cX1_weeks 106 = .ok (.getfield 204, 3) := dk_180 0 204 (dk_at dksX1_weeks_4 14 rfl rfl)
theorem dX1_weeks_109 : decode cX1_weeks 109 = .ok (.invokevirtual 130, 3) := dk_182 0 130 (dk_at dksX1_weeks_4 17 rfl rfl)
theorem dX1_weeks_112 : decode cX1_weeks 112 = .ok (.isub, 1) := dk_100 (dk_at dksX1_weeks_4 20 rfl rfl)
theorem dX1_weeks_113 : decode cX1_weeks 113 = .ok (.ireturn, 1) := dk_172 (dk_at dksX1_weeks_4 21 rfl rfl)
theorem dX1_weeks_114 : decode cX1_weeks 114 = .ok (.aload_n 0, 1) := dk_42 (dk_at dksX1_weeks_4 22 rfl rfl)
theorem dX1_weeks_115 : decode cX1_weeks 115 = .ok (.getfield 74, 3) := dk_180 0 74 (dk_at dksX1_weeks_5 0 rfl rfl)
theorem dX1_weeks_118 : decode cX1_weeks 118 = .ok (.getfield 226, 3) := dk_180 0 226 (dk_at dksX1_weeks_5 3 rfl rfl)
theorem dX1_weeks_121 : decode cX1_weeks 121 = .ok (.aload_n 0, 1) := dk_42 (dk_at dksX1_weeks_5 6 rfl rfl)
theorem dX1_weeks_122 : decode cX1_weeks 122 = .ok (.getfield 70, 3) := dk_180 0 70 (dk_at dksX1_weeks_5 7 rfl rfl)
theorem dX1_weeks_125 : decode cX1_weeks 125 = .ok (.getfield 226, 3) := dk_180 0 226 (dk_at dksX1_weeks_5 10 rfl rfl)
theorem dX1_weeks_128 : decode cX1_weeks 128 = .ok (.isub, 1) := dk_100 (dk_at dksX1_weeks_5 13 rfl rfl)
theorem dX1_weeks_129 : decode cX1_weeks 129 = .ok (.ireturn, 1) := dk_172 (dk_at dksX1_weeks_5 14 rfl rfl)
theorem dX1_weeks_130 : decode cX1_weeks 130 = .ok (.aload_n 0, 1) := dk_42 (dk_at dksX1_weeks_5 15 rfl rfl)
theorem dX1_weeks_131 : decode cX1_weeks 131 = .ok (.aload_n 0, 1) := dk_42 (dk_at dksX1_weeks_5 16 rfl rfl)
theorem dX1_weeks_132 : decode cX1_weeks 132 = .ok (.getfield 74, 3) := dk_180 0 74 (dk_at dksX1_weeks_5 17 rfl rfl)
theorem dX1_weeks_135 : decode cX1_weeks 135 = .ok (.invokevirtual 219, 3) := dk_182 0 219 (dk_at dksX1_weeks_5 20 rfl rfl)
theorem dX1_weeks_138 : decode cX1_weeks 138 = .ok (.ireturn, 1) := dk_172 (dk_at dksX1_weeks_5 23 rfl rfl)
theorem dX1_weeks_139 : decode cX1_weeks 139 = .ok (.aload_n 0, 1) := dk_42 (dk_at dksX1_weeks_6 0 rfl rfl)
theorem dX1_weeks_140 : decode cX1_weeks 140 = .ok (.aload_n 0, 1) := dk_42 (dk_at dksX1_weeks_6 1 rfl rfl)
theorem dX1_weeks_141 : decode cX1_weeks 141 = .ok (.getfield 74, 3) := dk_180 0 74 (dk_at dksX1_weeks_6 2 rfl rfl)
theorem dX1_weeks_144 : decode cX1_weeks 144 = .ok (.invokevirtual 223, 3) := dk_182 0 223 (dk_at dksX1_weeks_6 5 rfl rfl)
theorem dX1_weeks_147 : decode cX1_weeks 147 = .ok (.ireturn, 1) := dk_172 (dk_at dksX1_weeks_6 8 rfl rfl)
theorem dX1_weeks_148 : decode cX1_weeks 148 = .ok (.aload_n 0, 1) := dk_42 (dk_at dksX1_weeks_6 9 rfl rfl)
theorem dX1_weeks_149 : decode cX1_weeks 149 = .ok (.aload_n 0, 1) := dk_42 (dk_at dksX1_weeks_6 10 rfl rfl)
theorem dX1_weeks_150 : decode cX1_weeks 150 = .ok (.getfield 74, 3) := dk_180 0 74 (dk_at dksX1_weeks_6 11 rfl rfl)
theorem dX1_weeks_153 : decode cX1_weeks 153 = .ok (.invokevirtual 379, 3) := dk_182 1 123 (dk_at dksX1_weeks_6 14 rfl rfl)
theorem dX1_weeks_156 : decode cX1_weeks 156 = .ok (.ireturn, 1) := dk_172 (dk_at dksX1_weeks_6 17 rfl rfl)
theorem dX1_weeks_157 : decode cX1_weeks 157 = .ok (.aload_n 0, 1) := dk_42 (dk_at dksX1_weeks_6 18 rfl rfl)
theorem dX1_weeks_158 : decode cX1_weeks 158 = .ok (.aload_n 0, 1) := dk_42 (dk_at dksX1_weeks_6 19 rfl rfl)
theorem dX1_weeks_159 : decode cX1_weeks 159 = .ok (.getfield 74, 3) := dk_180 0 74 (dk_at dksX1_weeks_6 20 rfl rfl)
theorem dX1_weeks_162 : decode cX1_weeks 162 = .ok (.invokevirtual 389, 3) := dk_182 1 133 (dk_at dksX1_weeks_7 0 rfl rfl)
theorem dX1_weeks_165 : decode cX1_weeks 165 = .ok (.aload_n 0, 1) := dk_42 (dk_at dksX1_weeks_7 3 rfl rfl)
theorem dX1_weeks_166 : decode cX1_weeks 166 = .ok (.aload_n 0, 1) := dk_42 (dk_at dksX1_weeks_7 4 rfl rfl)
theorem dX1_weeks_167 : decode cX1_weeks 167 = .ok (.getfield 70, 3) := dk_180 0 70 (dk_at dksX1_weeks_7 5 rfl rfl)
theorem dX1_weeks_170 : decode cX1_weeks 170 = .ok (.invokevirtual 389, 3) := dk_182 1 133 (dk_at dksX1_weeks_7 8 rfl rfl)
theorem dX1_weeks_173 : decode cX1_weeks 173 = .ok (.isub, 1) := dk_100 (dk_at dksX1_weeks_7 11 rfl rfl)
theorem dX1_weeks_174 : decode cX1_weeks 174 = .ok (.ireturn, 1) := dk_172 (dk_at dksX1_weeks_7 12 rfl rfl)
abbrev cX1_when : ByteArray := prog_1_method_44_code
def yX1_when : MethodName := ⟨RX1, "when", "(IIZ)I"⟩
def dkwX1_when_6 : List UInt8 := [182, 0, 174, 172]
abbrev dktX1_when_6 : List UInt8 := dkwX1_when_6 ++ []
def dkwX1_when_5 : List UInt8 := [29, 153, 0, 11, 25, 5, 180, 1, 102, 167, 0, 8, 25, 5, 180, 1, 104, 172, 167, 255, 207, 42, 8]
abbrev dktX1_when_5 : List UInt8 := dkwX1_when_5 ++ dktX1_when_6
def dkwX1_when_4 : List UInt8 := [153, 0, 45, 25, 4, 185, 1, 156, 1, 0, 192, 1, 98, 58, 5, 25, 5, 180, 1, 100, 27, 160, 0, 21]
abbrev dktX1_when_4 : List UInt8 := dkwX1_when_4 ++ dktX1_when_5
def dkwX1_when_3 : List UInt8 := [182, 1, 144, 42, 180, 0, 74, 180, 0, 204, 182, 1, 147, 58, 4, 25, 4, 185, 1, 151, 1, 0]
abbrev dktX1_when_3 : List UInt8 := dkwX1_when_3 ++ dktX1_when_4
def dkwX1_when_2 : List UInt8 := [182, 0, 155, 154, 0, 5, 2, 172, 42, 180, 0, 74, 42, 180, 0, 70, 182, 1, 140, 42, 180, 0, 74, 28]
abbrev dktX1_when_2 : List UInt8 := dkwX1_when_2 ++ dktX1_when_3
def dkwX1_when_1 : List UInt8 := [154, 0, 7, 5, 167, 0, 20, 42, 180, 0, 70, 180, 1, 49, 27, 51, 153, 0, 7, 7, 167, 0, 4, 3]
abbrev dktX1_when_1 : List UInt8 := dkwX1_when_1 ++ dktX1_when_2
def dkwX1_when_0 : List UInt8 := [42, 28, 133, 10, 20, 1, 138, 184, 0, 134, 154, 0, 7, 4, 167, 0, 32, 42, 27, 182, 0, 138]
abbrev dktX1_when_0 : List UInt8 := dkwX1_when_0 ++ dktX1_when_1
theorem dksX1_when_0 : cX1_when.data.toList.drop 0 = dktX1_when_0 := by decide +kernel
theorem dksX1_when_1 : cX1_when.data.toList.drop 22 = dktX1_when_1 := dk_seg dksX1_when_0 22 rfl rfl
theorem dksX1_when_2 : cX1_when.data.toList.drop 46 = dktX1_when_2 := dk_seg dksX1_when_1 24 rfl rfl
theorem dksX1_when_3 : cX1_when.data.toList.drop 70 = dktX1_when_3 := dk_seg dksX1_when_2 24 rfl rfl
theorem dksX1_when_4 : cX1_when.data.toList.drop 92 = dktX1_when_4 := dk_seg dksX1_when_3 22 rfl rfl
theorem dksX1_when_5 : cX1_when.data.toList.drop 116 = dktX1_when_5 := dk_seg dksX1_when_4 24 rfl rfl
theorem dksX1_when_6 : cX1_when.data.toList.drop 139 = dktX1_when_6 := dk_seg dksX1_when_5 23 rfl rfl
theorem dX1_when_0 : decode cX1_when 0 = .ok (.aload_n 0, 1) := dk_42 (dk_at dksX1_when_0 0 rfl rfl)
theorem dX1_when_1 : decode cX1_when 1 = .ok (.iload_n 2, 1) := dk_28 (dk_at dksX1_when_0 1 rfl rfl)
theorem dX1_when_2 : decode cX1_when 2 = .ok (.i2l, 1) := dk_133 (dk_at dksX1_when_0 2 rfl rfl)
theorem dX1_when_3 : decode cX1_when 3 = .ok (.lconst 1, 1) := dk_10 (dk_at dksX1_when_0 3 rfl rfl)
theorem dX1_when_4 : decode cX1_when 4 = .ok (.ldc2_w 394, 3) := dk_20 1 138 (dk_at dksX1_when_0 4 rfl rfl)
theorem dX1_when_7 : decode cX1_when 7 = .ok (.invokestatic 134, 3) := dk_184 0 134 (dk_at dksX1_when_0 7 rfl rfl)
theorem dX1_when_10 : decode cX1_when 10 = .ok (.ifCond .ne 7, 3) := dk_154 0 7 (dk_at dksX1_when_0 10 rfl rfl)
theorem dX1_when_13 : decode cX1_when 13 = .ok (.iconst 1, 1) := dk_4 (dk_at dksX1_when_0 13 rfl rfl)
theorem dX1_when_14 : decode cX1_when 14 = .ok (.goto 32, 3) := dk_167 0 32 (dk_at dksX1_when_0 14 rfl rfl)
theorem dX1_when_17 : decode cX1_when 17 = .ok (.aload_n 0, 1) := dk_42 (dk_at dksX1_when_0 17 rfl rfl)
theorem dX1_when_18 : decode cX1_when 18 = .ok (.iload_n 1, 1) := dk_27 (dk_at dksX1_when_0 18 rfl rfl)
theorem dX1_when_19 : decode cX1_when 19 = .ok (.invokevirtual 138, 3) := dk_182 0 138 (dk_at dksX1_when_0 19 rfl rfl)
theorem dX1_when_22 : decode cX1_when 22 = .ok (.ifCond .ne 7, 3) := dk_154 0 7 (dk_at dksX1_when_1 0 rfl rfl)
theorem dX1_when_25 : decode cX1_when 25 = .ok (.iconst 2, 1) := dk_5 (dk_at dksX1_when_1 3 rfl rfl)
theorem dX1_when_26 : decode cX1_when 26 = .ok (.goto 20, 3) := dk_167 0 20 (dk_at dksX1_when_1 4 rfl rfl)
theorem dX1_when_29 : decode cX1_when 29 = .ok (.aload_n 0, 1) := dk_42 (dk_at dksX1_when_1 7 rfl rfl)
theorem dX1_when_30 : decode cX1_when 30 = .ok (.getfield 70, 3) := dk_180 0 70 (dk_at dksX1_when_1 8 rfl rfl)
theorem dX1_when_33 : decode cX1_when 33 = .ok (.getfield 305, 3) := dk_180 1 49 (dk_at dksX1_when_1 11 rfl rfl)
theorem dX1_when_36 : decode cX1_when 36 = .ok (.iload_n 1, 1) := dk_27 (dk_at dksX1_when_1 14 rfl rfl)
theorem dX1_when_37 : decode cX1_when 37 = .ok (.baload, 1) := dk_51 (dk_at dksX1_when_1 15 rfl rfl)
theorem dX1_when_38 : decode cX1_when 38 = .ok (.ifCond .eq 7, 3) := dk_153 0 7 (dk_at dksX1_when_1 16 rfl rfl)
theorem dX1_when_41 : decode cX1_when 41 = .ok (.iconst 4, 1) := dk_7 (dk_at dksX1_when_1 19 rfl rfl)
theorem dX1_when_42 : decode cX1_when 42 = .ok (.goto 4, 3) := dk_167 0 4 (dk_at dksX1_when_1 20 rfl rfl)
theorem dX1_when_45 : decode cX1_when 45 = .ok (.iconst 0, 1) := dk_3 (dk_at dksX1_when_1 23 rfl rfl)
theorem dX1_when_46 : decode cX1_when 46 = .ok (.invokevirtual 155, 3) := dk_182 0 155 (dk_at dksX1_when_2 0 rfl rfl)
theorem dX1_when_49 : decode cX1_when 49 = .ok (.ifCond .ne 5, 3) := dk_154 0 5 (dk_at dksX1_when_2 3 rfl rfl)
theorem dX1_when_52 : decode cX1_when 52 = .ok (.iconst (-1), 1) := dk_2 (dk_at dksX1_when_2 6 rfl rfl)
theorem dX1_when_53 : decode cX1_when 53 = .ok (.ireturn, 1) := dk_172 (dk_at dksX1_when_2 7 rfl rfl)
theorem dX1_when_54 : decode cX1_when 54 = .ok (.aload_n 0, 1) := dk_42 (dk_at dksX1_when_2 8 rfl rfl)
theorem dX1_when_55 : decode cX1_when 55 = .ok (.getfield 74, 3) := dk_180 0 74 (dk_at dksX1_when_2 9 rfl rfl)
theorem dX1_when_58 : decode cX1_when 58 = .ok (.aload_n 0, 1) := dk_42 (dk_at dksX1_when_2 12 rfl rfl)
theorem dX1_when_59 : decode cX1_when 59 = .ok (.getfield 70, 3) := dk_180 0 70 (dk_at dksX1_when_2 13 rfl rfl)
theorem dX1_when_62 : decode cX1_when 62 = .ok (.invokevirtual 396, 3) := dk_182 1 140 (dk_at dksX1_when_2 16 rfl rfl)
theorem dX1_when_65 : decode cX1_when 65 = .ok (.aload_n 0, 1) := dk_42 (dk_at dksX1_when_2 19 rfl rfl)
theorem dX1_when_66 : decode cX1_when 66 = .ok (.getfield 74, 3) := dk_180 0 74 (dk_at dksX1_when_2 20 rfl rfl)
theorem dX1_when_69 : decode cX1_when 69 = .ok (.iload_n 2, 1) := dk_28 (dk_at dksX1_when_2 23 rfl rfl)
theorem dX1_when_70 : decode cX1_when 70 = .ok (.invokevirtual 400, 3) := dk_182 1 144 (dk_at dksX1_when_3 0 rfl rfl)
theorem dX1_when_73 : decode cX1_when 73 = .ok (.aload_n 0, 1) := dk_42 (dk_at dksX1_when_3 3 rfl rfl)
theorem dX1_when_74 : decode cX1_when 74 = .ok (.getfield 74, 3) := dk_180 0 74 (dk_at dksX1_when_3 4 rfl rfl)
theorem dX1_when_77 : decode cX1_when 77 = .ok (.getfield 204, 3) := dk_180 0 204 (dk_at dksX1_when_3 7 rfl rfl)
theorem dX1_when_80 : decode cX1_when 80 = .ok (.invokevirtual 403, 3) := dk_182 1 147 (dk_at dksX1_when_3 10 rfl rfl)
theorem dX1_when_83 : decode cX1_when 83 = .ok (.astore 4, 2) := dk_58 4 (dk_at dksX1_when_3 13 rfl rfl)
theorem dX1_when_85 : decode cX1_when 85 = .ok (.aload 4, 2) := dk_25 4 (dk_at dksX1_when_3 15 rfl rfl)
theorem dX1_when_87 : decode cX1_when 87 = .ok (.invokeinterface 407 1, 5) := by decide +kernel
theorem dX1_when_92 : decode cX1_when 92 = .ok (.ifCond .eq 45, 3) := dk_153 0 45 (dk_at dksX1_when_4 0 rfl rfl)
theorem dX1_when_95 : decode cX1_when 95 = .ok (.aload 4, 2) := dk_25 4 (dk_at dksX1_when_4 3 rfl rfl)
theorem dX1_when_97 : decode cX1_when 97 = .ok (.invokeinterface 412 1, 5) := by decide +kernel
theorem dX1_when_102 : decode cX1_when 102 = .ok (.checkcast 354, 3) := dk_192 1 98 (dk_at dksX1_when_4 10 rfl rfl)
theorem dX1_when_105 : decode cX1_when 105 = .ok (.astore 5, 2) := dk_58 5 (dk_at dksX1_when_4 13 rfl rfl)
theorem dX1_when_107 : decode cX1_when 107 = .ok (.aload 5, 2) := dk_25 5 (dk_at dksX1_when_4 15 rfl rfl)
theorem dX1_when_109 : decode cX1_when 109 = .ok (.getfield 356, 3) := dk_180 1 100 (dk_at dksX1_when_4 17 rfl rfl)
theorem dX1_when_112 : decode cX1_when 112 = .ok (.iload_n 1, 1) := dk_27 (dk_at dksX1_when_4 20 rfl rfl)
theorem dX1_when_113 : decode cX1_when 113 = .ok (.if_icmp .ne 21, 3) := dk_160 0 21 (dk_at dksX1_when_4 21 rfl rfl)
theorem dX1_when_116 : decode cX1_when 116 = .ok (.iload_n 3, 1) := dk_29 (dk_at dksX1_when_5 0 rfl rfl)
theorem dX1_when_117 : decode cX1_when 117 = .ok (.ifCond .eq 11, 3) := dk_153 0 11 (dk_at dksX1_when_5 1 rfl rfl)
theorem dX1_when_120 : decode cX1_when 120 = .ok (.aload 5, 2) := dk_25 5 (dk_at dksX1_when_5 4 rfl rfl)
theorem dX1_when_122 : decode cX1_when 122 = .ok (.getfield 358, 3) := dk_180 1 102 (dk_at dksX1_when_5 6 rfl rfl)
theorem dX1_when_125 : decode cX1_when 125 = .ok (.goto 8, 3) := dk_167 0 8 (dk_at dksX1_when_5 9 rfl rfl)
theorem dX1_when_128 : decode cX1_when 128 = .ok (.aload 5, 2) := dk_25 5 (dk_at dksX1_when_5 12 rfl rfl)
theorem dX1_when_130 : decode cX1_when 130 = .ok (.getfield 360, 3) := dk_180 1 104 (dk_at dksX1_when_5 14 rfl rfl)
theorem dX1_when_133 : decode cX1_when 133 = .ok (.ireturn, 1) := dk_172 (dk_at dksX1_when_5 17 rfl rfl)
theorem dX1_when_134 : decode cX1_when 134 = .ok (.goto (-49), 3) := dk_167 255 207 (dk_at dksX1_when_5 18 rfl rfl)
theorem dX1_when_137 : decode cX1_when 137 = .ok (.aload_n 0, 1) := dk_42 (dk_at dksX1_when_5 21 rfl rfl)
theorem dX1_when_138 : decode cX1_when 138 = .ok (.iconst 5, 1) := dk_8 (dk_at dksX1_when_5 22 rfl rfl)
theorem dX1_when_139 : decode cX1_when 139 = .ok (.invokevirtual 174, 3) := dk_182 0 174 (dk_at dksX1_when_6 0 rfl rfl)
theorem dX1_when_142 : decode cX1_when 142 = .ok (.ireturn, 1) := dk_172 (dk_at dksX1_when_6 3 rfl rfl)
abbrev cX1_tip : ByteArray := prog_1_method_47_code
def yX1_tip : MethodName := ⟨RX1, "tip", "(I)I"⟩
def dkwX1_tip_3 : List UInt8 := [184, 1, 169, 184, 1, 172, 182, 0, 247, 172]
abbrev dktX1_tip_3 : List UInt8 := dkwX1_tip_3 ++ []
def dkwX1_tip_2 : List UInt8 := [186, 1, 162, 0, 0, 184, 1, 165, 83, 89, 4, 42, 27, 186, 1, 168, 0, 0, 184, 1, 165, 83]
abbrev dktX1_tip_2 : List UInt8 := dkwX1_tip_2 ++ dktX1_tip_3
def dkwX1_tip_1 : List UInt8 := [186, 1, 161, 0, 0, 77, 42, 42, 180, 0, 39, 182, 0, 130, 44, 5, 189, 0, 26, 89, 3, 42, 27]
abbrev dktX1_tip_1 : List UInt8 := dkwX1_tip_1 ++ dktX1_tip_2
def dkwX1_tip_0 : List UInt8 := [42, 42, 27, 182, 0, 138, 153, 0, 7, 3, 167, 0, 4, 5, 182, 0, 155, 154, 0, 5, 2, 172, 42, 27]
abbrev dktX1_tip_0 : List UInt8 := dkwX1_tip_0 ++ dktX1_tip_1
theorem dksX1_tip_0 : cX1_tip.data.toList.drop 0 = dktX1_tip_0 := by decide +kernel
theorem dksX1_tip_1 : cX1_tip.data.toList.drop 24 = dktX1_tip_1 := dk_seg dksX1_tip_0 24 rfl rfl
theorem dksX1_tip_2 : cX1_tip.data.toList.drop 47 = dktX1_tip_2 := dk_seg dksX1_tip_1 23 rfl rfl
theorem dksX1_tip_3 : cX1_tip.data.toList.drop 69 = dktX1_tip_3 := dk_seg dksX1_tip_2 22 rfl rfl
theorem dX1_tip_0 : decode cX1_tip 0 = .ok (.aload_n 0, 1) := dk_42 (dk_at dksX1_tip_0 0 rfl rfl)
theorem dX1_tip_1 : decode cX1_tip 1 = .ok (.aload_n 0, 1) := dk_42 (dk_at dksX1_tip_0 1 rfl rfl)
theorem dX1_tip_2 : decode cX1_tip 2 = .ok (.iload_n 1, 1) := dk_27 (dk_at dksX1_tip_0 2 rfl rfl)
theorem dX1_tip_3 : decode cX1_tip 3 = .ok (.invokevirtual 138, 3) := dk_182 0 138 (dk_at dksX1_tip_0 3 rfl rfl)
theorem dX1_tip_6 : decode cX1_tip 6 = .ok (.ifCond .eq 7, 3) := dk_153 0 7 (dk_at dksX1_tip_0 6 rfl rfl)
theorem dX1_tip_9 : decode cX1_tip 9 = .ok (.iconst 0, 1) := dk_3 (dk_at dksX1_tip_0 9 rfl rfl)
theorem dX1_tip_10 : decode cX1_tip 10 = .ok (.goto 4, 3) := dk_167 0 4 (dk_at dksX1_tip_0 10 rfl rfl)
theorem dX1_tip_13 : decode cX1_tip 13 = .ok (.iconst 2, 1) := dk_5 (dk_at dksX1_tip_0 13 rfl rfl)
theorem dX1_tip_14 : decode cX1_tip 14 = .ok (.invokevirtual 155, 3) := dk_182 0 155 (dk_at dksX1_tip_0 14 rfl rfl)
theorem dX1_tip_17 : decode cX1_tip 17 = .ok (.ifCond .ne 5, 3) := dk_154 0 5 (dk_at dksX1_tip_0 17 rfl rfl)
theorem dX1_tip_20 : decode cX1_tip 20 = .ok (.iconst (-1), 1) := dk_2 (dk_at dksX1_tip_0 20 rfl rfl)
theorem dX1_tip_21 : decode cX1_tip 21 = .ok (.ireturn, 1) := dk_172 (dk_at dksX1_tip_0 21 rfl rfl)
theorem dX1_tip_22 : decode cX1_tip 22 = .ok (.aload_n 0, 1) := dk_42 (dk_at dksX1_tip_0 22 rfl rfl)
theorem dX1_tip_23 : decode cX1_tip 23 = .ok (.iload_n 1, 1) := dk_27 (dk_at dksX1_tip_0 23 rfl rfl)
theorem dX1_tip_24 : decode cX1_tip 24 = .ok (.invokedynamic 417, 5) := by decide +kernel
theorem dX1_tip_29 : decode cX1_tip 29 = .ok (.astore_n 2, 1) := dk_77 (dk_at dksX1_tip_1 5 rfl rfl)
theorem dX1_tip_30 : decode cX1_tip 30 = .ok (.aload_n 0, 1) := dk_42 (dk_at dksX1_tip_1 6 rfl rfl)
theorem dX1_tip_31 : decode cX1_tip 31 = .ok (.aload_n 0, 1) := dk_42 (dk_at dksX1_tip_1 7 rfl rfl)
theorem dX1_tip_32 : decode cX1_tip 32 = .ok (.getfield 39, 3) := dk_180 0 39 (dk_at dksX1_tip_1 8 rfl rfl)
theorem dX1_tip_35 : decode cX1_tip 35 = .ok (.invokevirtual 130, 3) := dk_182 0 130 (dk_at dksX1_tip_1 11 rfl rfl)
theorem dX1_tip_38 : decode cX1_tip 38 = .ok (.aload_n 2, 1) := dk_44 (dk_at dksX1_tip_1 14 rfl rfl)
theorem dX1_tip_39 : decode cX1_tip 39 = .ok (.iconst 2, 1) := dk_5 (dk_at dksX1_tip_1 15 rfl rfl)
theorem dX1_tip_40 : decode cX1_tip 40 = .ok (.anewarray 26, 3) := dk_189 0 26 (dk_at dksX1_tip_1 16 rfl rfl)
theorem dX1_tip_43 : decode cX1_tip 43 = .ok (.dup, 1) := dk_89 (dk_at dksX1_tip_1 19 rfl rfl)
theorem dX1_tip_44 : decode cX1_tip 44 = .ok (.iconst 0, 1) := dk_3 (dk_at dksX1_tip_1 20 rfl rfl)
theorem dX1_tip_45 : decode cX1_tip 45 = .ok (.aload_n 0, 1) := dk_42 (dk_at dksX1_tip_1 21 rfl rfl)
theorem dX1_tip_46 : decode cX1_tip 46 = .ok (.iload_n 1, 1) := dk_27 (dk_at dksX1_tip_1 22 rfl rfl)
theorem dX1_tip_47 : decode cX1_tip 47 = .ok (.invokedynamic 418, 5) := by decide +kernel
theorem dX1_tip_52 : decode cX1_tip 52 = .ok (.invokestatic 421, 3) := dk_184 1 165 (dk_at dksX1_tip_2 5 rfl rfl)
theorem dX1_tip_55 : decode cX1_tip 55 = .ok (.aastore, 1) := dk_83 (dk_at dksX1_tip_2 8 rfl rfl)
theorem dX1_tip_56 : decode cX1_tip 56 = .ok (.dup, 1) := dk_89 (dk_at dksX1_tip_2 9 rfl rfl)
theorem dX1_tip_57 : decode cX1_tip 57 = .ok (.iconst 1, 1) := dk_4 (dk_at dksX1_tip_2 10 rfl rfl)
theorem dX1_tip_58 : decode cX1_tip 58 = .ok (.aload_n 0, 1) := dk_42 (dk_at dksX1_tip_2 11 rfl rfl)
theorem dX1_tip_59 : decode cX1_tip 59 = .ok (.iload_n 1, 1) := dk_27 (dk_at dksX1_tip_2 12 rfl rfl)
theorem dX1_tip_60 : decode cX1_tip 60 = .ok (.invokedynamic 424, 5) := by decide +kernel
theorem dX1_tip_65 : decode cX1_tip 65 = .ok (.invokestatic 421, 3) := dk_184 1 165 (dk_at dksX1_tip_2 18 rfl rfl)
theorem dX1_tip_68 : decode cX1_tip 68 = .ok (.aastore, 1) := dk_83 (dk_at dksX1_tip_2 21 rfl rfl)
theorem dX1_tip_69 : decode cX1_tip 69 = .ok (.invokestatic 425, 3) := dk_184 1 169 (dk_at dksX1_tip_3 0 rfl rfl)
theorem dX1_tip_72 : decode cX1_tip 72 = .ok (.invokestatic 428, 3) := dk_184 1 172 (dk_at dksX1_tip_3 3 rfl rfl)
theorem dX1_tip_75 : decode cX1_tip 75 = .ok (.invokevirtual 247, 3) := dk_182 0 247 (dk_at dksX1_tip_3 6 rfl rfl)
theorem dX1_tip_78 : decode cX1_tip 78 = .ok (.ireturn, 1) := dk_172 (dk_at dksX1_tip_3 9 rfl rfl)
abbrev cX1_lambda_tip_17 : ByteArray := prog_1_method_97_code
def yX1_lambda_tip_17 : MethodName := ⟨RX1, "lambda$tip$17", "(II)Z"⟩
def dkwX1_lambda_tip_17_1 : List UInt8 := [42, 180, 0, 70, 27, 28, 182, 1, 66, 154, 0, 7, 4, 167, 0, 4, 3, 172]
abbrev dktX1_lambda_tip_17_1 : List UInt8 := dkwX1_lambda_tip_17_1 ++ []
def dkwX1_lambda_tip_17_0 : List UInt8 := [42, 180, 0, 70, 27, 28, 182, 1, 183, 153, 0, 31, 42, 180, 0, 70, 27, 28, 182, 1, 69, 154, 0, 15]
abbrev dktX1_lambda_tip_17_0 : List UInt8 := dkwX1_lambda_tip_17_0 ++ dktX1_lambda_tip_17_1
theorem dksX1_lambda_tip_17_0 : cX1_lambda_tip_17.data.toList.drop 0 = dktX1_lambda_tip_17_0 := by decide +kernel
theorem dksX1_lambda_tip_17_1 : cX1_lambda_tip_17.data.toList.drop 24 = dktX1_lambda_tip_17_1 := dk_seg dksX1_lambda_tip_17_0 24 rfl rfl
theorem dX1_lambda_tip_17_0 : decode cX1_lambda_tip_17 0 = .ok (.aload_n 0, 1) := dk_42 (dk_at dksX1_lambda_tip_17_0 0 rfl rfl)
theorem dX1_lambda_tip_17_1 : decode cX1_lambda_tip_17 1 = .ok (.getfield 70, 3) := dk_180 0 70 (dk_at dksX1_lambda_tip_17_0 1 rfl rfl)
theorem dX1_lambda_tip_17_4 : decode cX1_lambda_tip_17 4 = .ok (.iload_n 1, 1) := dk_27 (dk_at dksX1_lambda_tip_17_0 4 rfl rfl)
theorem dX1_lambda_tip_17_5 : decode cX1_lambda_tip_17 5 = .ok (.iload_n 2, 1) := dk_28 (dk_at dksX1_lambda_tip_17_0 5 rfl rfl)
theorem dX1_lambda_tip_17_6 : decode cX1_lambda_tip_17 6 = .ok (.invokevirtual 439, 3) := dk_182 1 183 (dk_at dksX1_lambda_tip_17_0 6 rfl rfl)
theorem dX1_lambda_tip_17_9 : decode cX1_lambda_tip_17 9 = .ok (.ifCond .eq 31, 3) := dk_153 0 31 (dk_at dksX1_lambda_tip_17_0 9 rfl rfl)
theorem dX1_lambda_tip_17_12 : decode cX1_lambda_tip_17 12 = .ok (.aload_n 0, 1) := dk_42 (dk_at dksX1_lambda_tip_17_0 12 rfl rfl)
theorem dX1_lambda_tip_17_13 : decode cX1_lambda_tip_17 13 = .ok (.getfield 70, 3) := dk_180 0 70 (dk_at dksX1_lambda_tip_17_0 13 rfl rfl)
theorem dX1_lambda_tip_17_16 : decode cX1_lambda_tip_17 16 = .ok (.iload_n 1, 1) := dk_27 (dk_at dksX1_lambda_tip_17_0 16 rfl rfl)
theorem dX1_lambda_tip_17_17 : decode cX1_lambda_tip_17 17 = .ok (.iload_n 2, 1) := dk_28 (dk_at dksX1_lambda_tip_17_0 17 rfl rfl)
theorem dX1_lambda_tip_17_18 : decode cX1_lambda_tip_17 18 = .ok (.invokevirtual 325, 3) := dk_182 1 69 (dk_at dksX1_lambda_tip_17_0 18 rfl rfl)
theorem dX1_lambda_tip_17_21 : decode cX1_lambda_tip_17 21 = .ok (.ifCond .ne 15, 3) := dk_154 0 15 (dk_at dksX1_lambda_tip_17_0 21 rfl rfl)
theorem dX1_lambda_tip_17_24 : decode cX1_lambda_tip_17 24 = .ok (.aload_n 0, 1) := dk_42 (dk_at dksX1_lambda_tip_17_1 0 rfl rfl)
theorem dX1_lambda_tip_17_25 : decode cX1_lambda_tip_17 25 = .ok (.getfield 70, 3) := dk_180 0 70 (dk_at dksX1_lambda_tip_17_1 1 rfl rfl)
theorem dX1_lambda_tip_17_28 : decode cX1_lambda_tip_17 28 = .ok (.iload_n 1, 1) := dk_27 (dk_at dksX1_lambda_tip_17_1 4 rfl rfl)
theorem dX1_lambda_tip_17_29 : decode cX1_lambda_tip_17 29 = .ok (.iload_n 2, 1) := dk_28 (dk_at dksX1_lambda_tip_17_1 5 rfl rfl)
theorem dX1_lambda_tip_17_30 : decode cX1_lambda_tip_17 30 = .ok (.invokevirtual 322, 3) := dk_182 1 66 (dk_at dksX1_lambda_tip_17_1 6 rfl rfl)
theorem dX1_lambda_tip_17_33 : decode cX1_lambda_tip_17 33 = .ok (.ifCond .ne 7, 3) := dk_154 0 7 (dk_at dksX1_lambda_tip_17_1 9 rfl rfl)
theorem dX1_lambda_tip_17_36 : decode cX1_lambda_tip_17 36 = .ok (.iconst 1, 1) := dk_4 (dk_at dksX1_lambda_tip_17_1 12 rfl rfl)
theorem dX1_lambda_tip_17_37 : decode cX1_lambda_tip_17 37 = .ok (.goto 4, 3) := dk_167 0 4 (dk_at dksX1_lambda_tip_17_1 13 rfl rfl)
theorem dX1_lambda_tip_17_40 : decode cX1_lambda_tip_17 40 = .ok (.iconst 0, 1) := dk_3 (dk_at dksX1_lambda_tip_17_1 16 rfl rfl)
theorem dX1_lambda_tip_17_41 : decode cX1_lambda_tip_17 41 = .ok (.ireturn, 1) := dk_172 (dk_at dksX1_lambda_tip_17_1 17 rfl rfl)
abbrev cX1_lambda_tip_18 : ByteArray := prog_1_method_96_code
def yX1_lambda_tip_18 : MethodName := ⟨RX1, "lambda$tip$18", "(II)I"⟩
def dkwX1_lambda_tip_18_0 : List UInt8 := [42, 27, 28, 182, 2, 113, 172]
abbrev dktX1_lambda_tip_18_0 : List UInt8 := dkwX1_lambda_tip_18_0 ++ []
theorem dksX1_lambda_tip_18_0 : cX1_lambda_tip_18.data.toList.drop 0 = dktX1_lambda_tip_18_0 := by decide +kernel
theorem dX1_lambda_tip_18_0 : decode cX1_lambda_tip_18 0 = .ok (.aload_n 0, 1) := dk_42 (dk_at dksX1_lambda_tip_18_0 0 rfl rfl)
theorem dX1_lambda_tip_18_1 : decode cX1_lambda_tip_18 1 = .ok (.iload_n 1, 1) := dk_27 (dk_at dksX1_lambda_tip_18_0 1 rfl rfl)
theorem dX1_lambda_tip_18_2 : decode cX1_lambda_tip_18 2 = .ok (.iload_n 2, 1) := dk_28 (dk_at dksX1_lambda_tip_18_0 2 rfl rfl)
theorem dX1_lambda_tip_18_3 : decode cX1_lambda_tip_18 3 = .ok (.invokevirtual 625, 3) := dk_182 2 113 (dk_at dksX1_lambda_tip_18_0 3 rfl rfl)
theorem dX1_lambda_tip_18_6 : decode cX1_lambda_tip_18 6 = .ok (.ireturn, 1) := dk_172 (dk_at dksX1_lambda_tip_18_0 6 rfl rfl)
abbrev cX1_aheadOf : ByteArray := prog_1_method_45_code
def yX1_aheadOf : MethodName := ⟨RX1, "aheadOf", "(II)I"⟩
def dkwX1_aheadOf_0 : List UInt8 := [42, 180, 0, 51, 182, 0, 130, 42, 27, 28, 186, 1, 160, 0, 0, 184, 0, 192, 172]
abbrev dktX1_aheadOf_0 : List UInt8 := dkwX1_aheadOf_0 ++ []
theorem dksX1_aheadOf_0 : cX1_aheadOf.data.toList.drop 0 = dktX1_aheadOf_0 := by decide +kernel
theorem dX1_aheadOf_0 : decode cX1_aheadOf 0 = .ok (.aload_n 0, 1) := dk_42 (dk_at dksX1_aheadOf_0 0 rfl rfl)
theorem dX1_aheadOf_1 : decode cX1_aheadOf 1 = .ok (.getfield 51, 3) := dk_180 0 51 (dk_at dksX1_aheadOf_0 1 rfl rfl)
theorem dX1_aheadOf_4 : decode cX1_aheadOf 4 = .ok (.invokevirtual 130, 3) := dk_182 0 130 (dk_at dksX1_aheadOf_0 4 rfl rfl)
theorem dX1_aheadOf_7 : decode cX1_aheadOf 7 = .ok (.aload_n 0, 1) := dk_42 (dk_at dksX1_aheadOf_0 7 rfl rfl)
theorem dX1_aheadOf_8 : decode cX1_aheadOf 8 = .ok (.iload_n 1, 1) := dk_27 (dk_at dksX1_aheadOf_0 8 rfl rfl)
theorem dX1_aheadOf_9 : decode cX1_aheadOf 9 = .ok (.iload_n 2, 1) := dk_28 (dk_at dksX1_aheadOf_0 9 rfl rfl)
theorem dX1_aheadOf_10 : decode cX1_aheadOf 10 = .ok (.invokedynamic 416, 5) := by decide +kernel
theorem dX1_aheadOf_15 : decode cX1_aheadOf 15 = .ok (.invokestatic 192, 3) := dk_184 0 192 (dk_at dksX1_aheadOf_0 15 rfl rfl)
theorem dX1_aheadOf_18 : decode cX1_aheadOf 18 = .ok (.ireturn, 1) := dk_172 (dk_at dksX1_aheadOf_0 18 rfl rfl)
abbrev cX1_lambda_aheadOf_16 : ByteArray := prog_1_method_98_code
def yX1_lambda_aheadOf_16 : MethodName := ⟨RX1, "lambda$aheadOf$16", "(III)Z"⟩
def dkwX1_lambda_aheadOf_16_1 : List UInt8 := [182, 2, 116, 156, 0, 7, 4, 167, 0, 4, 3, 172]
abbrev dktX1_lambda_aheadOf_16_1 : List UInt8 := dkwX1_lambda_aheadOf_16_1 ++ []
def dkwX1_lambda_aheadOf_16_0 : List UInt8 := [29, 27, 159, 0, 32, 42, 180, 0, 70, 29, 28, 182, 1, 69, 153, 0, 20, 42, 180, 0, 70, 28, 29, 27]
abbrev dktX1_lambda_aheadOf_16_0 : List UInt8 := dkwX1_lambda_aheadOf_16_0 ++ dktX1_lambda_aheadOf_16_1
theorem dksX1_lambda_aheadOf_16_0 : cX1_lambda_aheadOf_16.data.toList.drop 0 = dktX1_lambda_aheadOf_16_0 := by decide +kernel
theorem dksX1_lambda_aheadOf_16_1 : cX1_lambda_aheadOf_16.data.toList.drop 24 = dktX1_lambda_aheadOf_16_1 := dk_seg dksX1_lambda_aheadOf_16_0 24 rfl rfl
theorem dX1_lambda_aheadOf_16_0 : decode cX1_lambda_aheadOf_16 0 = .ok (.iload_n 3, 1) := dk_29 (dk_at dksX1_lambda_aheadOf_16_0 0 rfl rfl)
theorem dX1_lambda_aheadOf_16_1 : decode cX1_lambda_aheadOf_16 1 = .ok (.iload_n 1, 1) := dk_27 (dk_at dksX1_lambda_aheadOf_16_0 1 rfl rfl)
theorem dX1_lambda_aheadOf_16_2 : decode cX1_lambda_aheadOf_16 2 = .ok (.if_icmp .eq 32, 3) := dk_159 0 32 (dk_at dksX1_lambda_aheadOf_16_0 2 rfl rfl)
theorem dX1_lambda_aheadOf_16_5 : decode cX1_lambda_aheadOf_16 5 = .ok (.aload_n 0, 1) := dk_42 (dk_at dksX1_lambda_aheadOf_16_0 5 rfl rfl)
theorem dX1_lambda_aheadOf_16_6 : decode cX1_lambda_aheadOf_16 6 = .ok (.getfield 70, 3) := dk_180 0 70 (dk_at dksX1_lambda_aheadOf_16_0 6 rfl rfl)
theorem dX1_lambda_aheadOf_16_9 : decode cX1_lambda_aheadOf_16 9 = .ok (.iload_n 3, 1) := dk_29 (dk_at dksX1_lambda_aheadOf_16_0 9 rfl rfl)
theorem dX1_lambda_aheadOf_16_10 : decode cX1_lambda_aheadOf_16 10 = .ok (.iload_n 2, 1) := dk_28 (dk_at dksX1_lambda_aheadOf_16_0 10 rfl rfl)
theorem dX1_lambda_aheadOf_16_11 : decode cX1_lambda_aheadOf_16 11 = .ok (.invokevirtual 325, 3) := dk_182 1 69 (dk_at dksX1_lambda_aheadOf_16_0 11 rfl rfl)
theorem dX1_lambda_aheadOf_16_14 : decode cX1_lambda_aheadOf_16 14 = .ok (.ifCond .eq 20, 3) := dk_153 0 20 (dk_at dksX1_lambda_aheadOf_16_0 14 rfl rfl)
theorem dX1_lambda_aheadOf_16_17 : decode cX1_lambda_aheadOf_16 17 = .ok (.aload_n 0, 1) := dk_42 (dk_at dksX1_lambda_aheadOf_16_0 17 rfl rfl)
theorem dX1_lambda_aheadOf_16_18 : decode cX1_lambda_aheadOf_16 18 = .ok (.getfield 70, 3) := dk_180 0 70 (dk_at dksX1_lambda_aheadOf_16_0 18 rfl rfl)
theorem dX1_lambda_aheadOf_16_21 : decode cX1_lambda_aheadOf_16 21 = .ok (.iload_n 2, 1) := dk_28 (dk_at dksX1_lambda_aheadOf_16_0 21 rfl rfl)
theorem dX1_lambda_aheadOf_16_22 : decode cX1_lambda_aheadOf_16 22 = .ok (.iload_n 3, 1) := dk_29 (dk_at dksX1_lambda_aheadOf_16_0 22 rfl rfl)
theorem dX1_lambda_aheadOf_16_23 : decode cX1_lambda_aheadOf_16 23 = .ok (.iload_n 1, 1) := dk_27 (dk_at dksX1_lambda_aheadOf_16_0 23 rfl rfl)
theorem dX1_lambda_aheadOf_16_24 : decode cX1_lambda_aheadOf_16 24 = .ok (.invokevirtual 628, 3) := dk_182 2 116 (dk_at dksX1_lambda_aheadOf_16_1 0 rfl rfl)
theorem dX1_lambda_aheadOf_16_27 : decode cX1_lambda_aheadOf_16 27 = .ok (.ifCond .ge 7, 3) := dk_156 0 7 (dk_at dksX1_lambda_aheadOf_16_1 3 rfl rfl)
theorem dX1_lambda_aheadOf_16_30 : decode cX1_lambda_aheadOf_16 30 = .ok (.iconst 1, 1) := dk_4 (dk_at dksX1_lambda_aheadOf_16_1 6 rfl rfl)
theorem dX1_lambda_aheadOf_16_31 : decode cX1_lambda_aheadOf_16 31 = .ok (.goto 4, 3) := dk_167 0 4 (dk_at dksX1_lambda_aheadOf_16_1 7 rfl rfl)
theorem dX1_lambda_aheadOf_16_34 : decode cX1_lambda_aheadOf_16 34 = .ok (.iconst 0, 1) := dk_3 (dk_at dksX1_lambda_aheadOf_16_1 10 rfl rfl)
theorem dX1_lambda_aheadOf_16_35 : decode cX1_lambda_aheadOf_16 35 = .ok (.ireturn, 1) := dk_172 (dk_at dksX1_lambda_aheadOf_16_1 11 rfl rfl)
abbrev cX1_lambda_tip_19 : ByteArray := prog_1_method_95_code
def yX1_lambda_tip_19 : MethodName := ⟨RX1, "lambda$tip$19", "(II)I"⟩
def dkwX1_lambda_tip_19_0 : List UInt8 := [42, 27, 28, 182, 1, 216, 172]
abbrev dktX1_lambda_tip_19_0 : List UInt8 := dkwX1_lambda_tip_19_0 ++ []
theorem dksX1_lambda_tip_19_0 : cX1_lambda_tip_19.data.toList.drop 0 = dktX1_lambda_tip_19_0 := by decide +kernel
theorem dX1_lambda_tip_19_0 : decode cX1_lambda_tip_19 0 = .ok (.aload_n 0, 1) := dk_42 (dk_at dksX1_lambda_tip_19_0 0 rfl rfl)
theorem dX1_lambda_tip_19_1 : decode cX1_lambda_tip_19 1 = .ok (.iload_n 1, 1) := dk_27 (dk_at dksX1_lambda_tip_19_0 1 rfl rfl)
theorem dX1_lambda_tip_19_2 : decode cX1_lambda_tip_19 2 = .ok (.iload_n 2, 1) := dk_28 (dk_at dksX1_lambda_tip_19_0 2 rfl rfl)
theorem dX1_lambda_tip_19_3 : decode cX1_lambda_tip_19 3 = .ok (.invokevirtual 472, 3) := dk_182 1 216 (dk_at dksX1_lambda_tip_19_0 3 rfl rfl)
theorem dX1_lambda_tip_19_6 : decode cX1_lambda_tip_19 6 = .ok (.ireturn, 1) := dk_172 (dk_at dksX1_lambda_tip_19_0 6 rfl rfl)
abbrev cX1_dearness : ByteArray := prog_1_method_46_code
def yX1_dearness : MethodName := ⟨RX1, "dearness", "(II)I"⟩
def dkwX1_dearness_1 : List UInt8 := [28, 160, 0, 5, 29, 172, 132, 3, 1, 167, 255, 225, 28, 172]
abbrev dktX1_dearness_1 : List UInt8 := dkwX1_dearness_1 ++ []
def dkwX1_dearness_0 : List UInt8 := [3, 62, 29, 42, 180, 0, 70, 180, 1, 15, 27, 46, 162, 0, 24, 42, 180, 0, 70, 27, 29, 182, 1, 18]
abbrev dktX1_dearness_0 : List UInt8 := dkwX1_dearness_0 ++ dktX1_dearness_1
theorem dksX1_dearness_0 : cX1_dearness.data.toList.drop 0 = dktX1_dearness_0 := by decide +kernel
theorem dksX1_dearness_1 : cX1_dearness.data.toList.drop 24 = dktX1_dearness_1 := dk_seg dksX1_dearness_0 24 rfl rfl
theorem dX1_dearness_0 : decode cX1_dearness 0 = .ok (.iconst 0, 1) := dk_3 (dk_at dksX1_dearness_0 0 rfl rfl)
theorem dX1_dearness_1 : decode cX1_dearness 1 = .ok (.istore_n 3, 1) := dk_62 (dk_at dksX1_dearness_0 1 rfl rfl)
theorem dX1_dearness_2 : decode cX1_dearness 2 = .ok (.iload_n 3, 1) := dk_29 (dk_at dksX1_dearness_0 2 rfl rfl)
theorem dX1_dearness_3 : decode cX1_dearness 3 = .ok (.aload_n 0, 1) := dk_42 (dk_at dksX1_dearness_0 3 rfl rfl)
theorem dX1_dearness_4 : decode cX1_dearness 4 = .ok (.getfield 70, 3) := dk_180 0 70 (dk_at dksX1_dearness_0 4 rfl rfl)
theorem dX1_dearness_7 : decode cX1_dearness 7 = .ok (.getfield 271, 3) := dk_180 1 15 (dk_at dksX1_dearness_0 7 rfl rfl)
theorem dX1_dearness_10 : decode cX1_dearness 10 = .ok (.iload_n 1, 1) := dk_27 (dk_at dksX1_dearness_0 10 rfl rfl)
theorem dX1_dearness_11 : decode cX1_dearness 11 = .ok (.iaload, 1) := dk_46 (dk_at dksX1_dearness_0 11 rfl rfl)
theorem dX1_dearness_12 : decode cX1_dearness 12 = .ok (.if_icmp .ge 24, 3) := dk_162 0 24 (dk_at dksX1_dearness_0 12 rfl rfl)
theorem dX1_dearness_15 : decode cX1_dearness 15 = .ok (.aload_n 0, 1) := dk_42 (dk_at dksX1_dearness_0 15 rfl rfl)
theorem dX1_dearness_16 : decode cX1_dearness 16 = .ok (.getfield 70, 3) := dk_180 0 70 (dk_at dksX1_dearness_0 16 rfl rfl)
theorem dX1_dearness_19 : decode cX1_dearness 19 = .ok (.iload_n 1, 1) := dk_27 (dk_at dksX1_dearness_0 19 rfl rfl)
theorem dX1_dearness_20 : decode cX1_dearness 20 = .ok (.iload_n 3, 1) := dk_29 (dk_at dksX1_dearness_0 20 rfl rfl)
theorem dX1_dearness_21 : decode cX1_dearness 21 = .ok (.invokevirtual 274, 3) := dk_182 1 18 (dk_at dksX1_dearness_0 21 rfl rfl)
theorem dX1_dearness_24 : decode cX1_dearness 24 = .ok (.iload_n 2, 1) := dk_28 (dk_at dksX1_dearness_1 0 rfl rfl)
theorem dX1_dearness_25 : decode cX1_dearness 25 = .ok (.if_icmp .ne 5, 3) := dk_160 0 5 (dk_at dksX1_dearness_1 1 rfl rfl)
theorem dX1_dearness_28 : decode cX1_dearness 28 = .ok (.iload_n 3, 1) := dk_29 (dk_at dksX1_dearness_1 4 rfl rfl)
theorem dX1_dearness_29 : decode cX1_dearness 29 = .ok (.ireturn, 1) := dk_172 (dk_at dksX1_dearness_1 5 rfl rfl)
theorem dX1_dearness_30 : decode cX1_dearness 30 = .ok (.iinc 3 1, 3) := dk_132 3 1 (dk_at dksX1_dearness_1 6 rfl rfl)
theorem dX1_dearness_33 : decode cX1_dearness 33 = .ok (.goto (-31), 3) := dk_167 255 225 (dk_at dksX1_dearness_1 9 rfl rfl)
theorem dX1_dearness_36 : decode cX1_dearness 36 = .ok (.iload_n 2, 1) := dk_28 (dk_at dksX1_dearness_1 12 rfl rfl)
theorem dX1_dearness_37 : decode cX1_dearness 37 = .ok (.ireturn, 1) := dk_172 (dk_at dksX1_dearness_1 13 rfl rfl)
abbrev cX1_would : ByteArray := prog_1_method_48_code
def yX1_would : MethodName := ⟨RX1, "would", "(II)I"⟩
def dkwX1_would_5 : List UInt8 := [27, 160, 0, 18, 25, 5, 4, 46, 28, 160, 0, 10, 5, 25, 5, 5, 46, 100, 172, 167, 255, 211, 3, 172]
abbrev dktX1_would_5 : List UInt8 := dkwX1_would_5 ++ []
def dkwX1_would_4 : List UInt8 := [185, 1, 151, 1, 0, 153, 0, 41, 25, 4, 185, 1, 156, 1, 0, 192, 1, 120, 58, 5, 25, 5, 3, 46]
abbrev dktX1_would_4 : List UInt8 := dkwX1_would_4 ++ dktX1_would_5
def dkwX1_would_3 : List UInt8 := [180, 0, 74, 182, 1, 179, 87, 42, 180, 0, 74, 180, 0, 229, 182, 1, 147, 58, 4, 25, 4]
abbrev dktX1_would_3 : List UInt8 := dkwX1_would_3 ++ dktX1_would_4
def dkwX1_would_2 : List UInt8 := [180, 0, 74, 42, 180, 0, 70, 182, 1, 140, 42, 180, 0, 74, 180, 1, 176, 27, 4, 28, 120, 79, 42]
abbrev dktX1_would_2 : List UInt8 := dkwX1_would_2 ++ dktX1_would_3
def dkwX1_would_1 : List UInt8 := [180, 0, 70, 28, 182, 0, 250, 154, 0, 7, 8, 167, 0, 4, 29, 182, 0, 155, 154, 0, 5, 2, 172, 42]
abbrev dktX1_would_1 : List UInt8 := dkwX1_would_1 ++ dktX1_would_2
def dkwX1_would_0 : List UInt8 := [42, 27, 28, 182, 1, 63, 62, 42, 29, 154, 0, 27, 42, 27, 28, 182, 1, 85, 153, 0, 14, 42]
abbrev dktX1_would_0 : List UInt8 := dkwX1_would_0 ++ dktX1_would_1
theorem dksX1_would_0 : cX1_would.data.toList.drop 0 = dktX1_would_0 := by decide +kernel
theorem dksX1_would_1 : cX1_would.data.toList.drop 22 = dktX1_would_1 := dk_seg dksX1_would_0 22 rfl rfl
theorem dksX1_would_2 : cX1_would.data.toList.drop 46 = dktX1_would_2 := dk_seg dksX1_would_1 24 rfl rfl
theorem dksX1_would_3 : cX1_would.data.toList.drop 69 = dktX1_would_3 := dk_seg dksX1_would_2 23 rfl rfl
theorem dksX1_would_4 : cX1_would.data.toList.drop 90 = dktX1_would_4 := dk_seg dksX1_would_3 21 rfl rfl
theorem dksX1_would_5 : cX1_would.data.toList.drop 114 = dktX1_would_5 := dk_seg dksX1_would_4 24 rfl rfl
theorem dX1_would_0 : decode cX1_would 0 = .ok (.aload_n 0, 1) := dk_42 (dk_at dksX1_would_0 0 rfl rfl)
theorem dX1_would_1 : decode cX1_would 1 = .ok (.iload_n 1, 1) := dk_27 (dk_at dksX1_would_0 1 rfl rfl)
theorem dX1_would_2 : decode cX1_would 2 = .ok (.iload_n 2, 1) := dk_28 (dk_at dksX1_would_0 2 rfl rfl)
theorem dX1_would_3 : decode cX1_would 3 = .ok (.invokevirtual 319, 3) := dk_182 1 63 (dk_at dksX1_would_0 3 rfl rfl)
theorem dX1_would_6 : decode cX1_would 6 = .ok (.istore_n 3, 1) := dk_62 (dk_at dksX1_would_0 6 rfl rfl)
theorem dX1_would_7 : decode cX1_would 7 = .ok (.aload_n 0, 1) := dk_42 (dk_at dksX1_would_0 7 rfl rfl)
theorem dX1_would_8 : decode cX1_would 8 = .ok (.iload_n 3, 1) := dk_29 (dk_at dksX1_would_0 8 rfl rfl)
theorem dX1_would_9 : decode cX1_would 9 = .ok (.ifCond .ne 27, 3) := dk_154 0 27 (dk_at dksX1_would_0 9 rfl rfl)
theorem dX1_would_12 : decode cX1_would 12 = .ok (.aload_n 0, 1) := dk_42 (dk_at dksX1_would_0 12 rfl rfl)
theorem dX1_would_13 : decode cX1_would 13 = .ok (.iload_n 1, 1) := dk_27 (dk_at dksX1_would_0 13 rfl rfl)
theorem dX1_would_14 : decode cX1_would 14 = .ok (.iload_n 2, 1) := dk_28 (dk_at dksX1_would_0 14 rfl rfl)
theorem dX1_would_15 : decode cX1_would 15 = .ok (.invokevirtual 341, 3) := dk_182 1 85 (dk_at dksX1_would_0 15 rfl rfl)
theorem dX1_would_18 : decode cX1_would 18 = .ok (.ifCond .eq 14, 3) := dk_153 0 14 (dk_at dksX1_would_0 18 rfl rfl)
theorem dX1_would_21 : decode cX1_would 21 = .ok (.aload_n 0, 1) := dk_42 (dk_at dksX1_would_0 21 rfl rfl)
theorem dX1_would_22 : decode cX1_would 22 = .ok (.getfield 70, 3) := dk_180 0 70 (dk_at dksX1_would_1 0 rfl rfl)
theorem dX1_would_25 : decode cX1_would 25 = .ok (.iload_n 2, 1) := dk_28 (dk_at dksX1_would_1 3 rfl rfl)
theorem dX1_would_26 : decode cX1_would 26 = .ok (.invokevirtual 250, 3) := dk_182 0 250 (dk_at dksX1_would_1 4 rfl rfl)
theorem dX1_would_29 : decode cX1_would 29 = .ok (.ifCond .ne 7, 3) := dk_154 0 7 (dk_at dksX1_would_1 7 rfl rfl)
theorem dX1_would_32 : decode cX1_would 32 = .ok (.iconst 5, 1) := dk_8 (dk_at dksX1_would_1 10 rfl rfl)
theorem dX1_would_33 : decode cX1_would 33 = .ok (.goto 4, 3) := dk_167 0 4 (dk_at dksX1_would_1 11 rfl rfl)
theorem dX1_would_36 : decode cX1_would 36 = .ok (.iload_n 3, 1) := dk_29 (dk_at dksX1_would_1 14 rfl rfl)
theorem dX1_would_37 : decode cX1_would 37 = .ok (.invokevirtual 155, 3) := dk_182 0 155 (dk_at dksX1_would_1 15 rfl rfl)
theorem dX1_would_40 : decode cX1_would 40 = .ok (.ifCond .ne 5, 3) := dk_154 0 5 (dk_at dksX1_would_1 18 rfl rfl)
theorem dX1_would_43 : decode cX1_would 43 = .ok (.iconst (-1), 1) := dk_2 (dk_at dksX1_would_1 21 rfl rfl)
theorem dX1_would_44 : decode cX1_would 44 = .ok (.ireturn, 1) := dk_172 (dk_at dksX1_would_1 22 rfl rfl)
theorem dX1_would_45 : decode cX1_would 45 = .ok (.aload_n 0, 1) := dk_42 (dk_at dksX1_would_1 23 rfl rfl)
theorem dX1_would_46 : decode cX1_would 46 = .ok (.getfield 74, 3) := dk_180 0 74 (dk_at dksX1_would_2 0 rfl rfl)
theorem dX1_would_49 : decode cX1_would 49 = .ok (.aload_n 0, 1) := dk_42 (dk_at dksX1_would_2 3 rfl rfl)
theorem dX1_would_50 : decode cX1_would 50 = .ok (.getfield 70, 3) := dk_180 0 70 (dk_at dksX1_would_2 4 rfl rfl)
theorem dX1_would_53 : decode cX1_would 53 = .ok (.invokevirtual 396, 3) := dk_182 1 140 (dk_at dksX1_would_2 7 rfl rfl)
theorem dX1_would_56 : decode cX1_would 56 = .ok (.aload_n 0, 1) := dk_42 (dk_at dksX1_would_2 10 rfl rfl)
theorem dX1_would_57 : decode cX1_would 57 = .ok (.getfield 74, 3) := dk_180 0 74 (dk_at dksX1_would_2 11 rfl rfl)
theorem dX1_would_60 : decode cX1_would 60 = .ok (.getfield 432, 3) := dk_180 1 176 (dk_at dksX1_would_2 14 rfl rfl)
theorem dX1_would_63 : decode cX1_would 63 = .ok (.iload_n 1, 1) := dk_27 (dk_at dksX1_would_2 17 rfl rfl)
theorem dX1_would_64 : decode cX1_would 64 = .ok (.iconst 1, 1) := dk_4 (dk_at dksX1_would_2 18 rfl rfl)
theorem dX1_would_65 : decode cX1_would 65 = .ok (.iload_n 2, 1) := dk_28 (dk_at dksX1_would_2 19 rfl rfl)
theorem dX1_would_66 : decode cX1_would 66 = .ok (.ishl, 1) := dk_120 (dk_at dksX1_would_2 20 rfl rfl)
theorem dX1_would_67 : decode cX1_would 67 = .ok (.iastore, 1) := dk_79 (dk_at dksX1_would_2 21 rfl rfl)
theorem dX1_would_68 : decode cX1_would 68 = .ok (.aload_n 0, 1) := dk_42 (dk_at dksX1_would_2 22 rfl rfl)
theorem dX1_would_69 : decode cX1_would 69 = .ok (.getfield 74, 3) := dk_180 0 74 (dk_at dksX1_would_3 0 rfl rfl)
theorem dX1_would_72 : decode cX1_would 72 = .ok (.invokevirtual 435, 3) := dk_182 1 179 (dk_at dksX1_would_3 3 rfl rfl)
theorem dX1_would_75 : decode cX1_would 75 = .ok (.pop, 1) := dk_87 (dk_at dksX1_would_3 6 rfl rfl)
theorem dX1_would_76 : decode cX1_would 76 = .ok (.aload_n 0, 1) := dk_42 (dk_at dksX1_would_3 7 rfl rfl)
theorem dX1_would_77 : decode cX1_would 77 = .ok (.getfield 74, 3) := dk_180 0 74 (dk_at dksX1_would_3 8 rfl rfl)
theorem dX1_would_80 : decode cX1_would 80 = .ok (.getfield 229, 3) := dk_180 0 229 (dk_at dksX1_would_3 11 rfl rfl)
theorem dX1_would_83 : decode cX1_would 83 = .ok (.invokevirtual 403, 3) := dk_182 1 147 (dk_at dksX1_would_3 14 rfl rfl)
theorem dX1_would_86 : decode cX1_would 86 = .ok (.astore 4, 2) := dk_58 4 (dk_at dksX1_would_3 17 rfl rfl)
theorem dX1_would_88 : decode cX1_would 88 = .ok (.aload 4, 2) := dk_25 4 (dk_at dksX1_would_3 19 rfl rfl)
theorem dX1_would_90 : decode cX1_would 90 = .ok (.invokeinterface 407 1, 5) := by decide +kernel
theorem dX1_would_95 : decode cX1_would 95 = .ok (.ifCond .eq 41, 3) := dk_153 0 41 (dk_at dksX1_would_4 5 rfl rfl)
theorem dX1_would_98 : decode cX1_would 98 = .ok (.aload 4, 2) := dk_25 4 (dk_at dksX1_would_4 8 rfl rfl)
theorem dX1_would_100 : decode cX1_would 100 = .ok (.invokeinterface 412 1, 5) := by decide +kernel
theorem dX1_would_105 : decode cX1_would 105 = .ok (.checkcast 376, 3) := dk_192 1 120 (dk_at dksX1_would_4 15 rfl rfl)
theorem dX1_would_108 : decode cX1_would 108 = .ok (.astore 5, 2) := dk_58 5 (dk_at dksX1_would_4 18 rfl rfl)
theorem dX1_would_110 : decode cX1_would 110 = .ok (.aload 5, 2) := dk_25 5 (dk_at dksX1_would_4 20 rfl rfl)
theorem dX1_would_112 : decode cX1_would 112 = .ok (.iconst 0, 1) := dk_3 (dk_at dksX1_would_4 22 rfl rfl)
theorem dX1_would_113 : decode cX1_would 113 = .ok (.iaload, 1) := dk_46 (dk_at dksX1_would_4 23 rfl rfl)
theorem dX1_would_114 : decode cX1_would 114 = .ok (.iload_n 1, 1) := dk_27 (dk_at dksX1_would_5 0 rfl rfl)
theorem dX1_would_115 : decode cX1_would 115 = .ok (.if_icmp .ne 18, 3) := dk_160 0 18 (dk_at dksX1_would_5 1 rfl rfl)
theorem dX1_would_118 : decode cX1_would 118 = .ok (.aload 5, 2) := dk_25 5 (dk_at dksX1_would_5 4 rfl rfl)
theorem dX1_would_120 : decode cX1_would 120 = .ok (.iconst 1, 1) := dk_4 (dk_at dksX1_would_5 6 rfl rfl)
theorem dX1_would_121 : decode cX1_would 121 = .ok (.iaload, 1) := dk_46 (dk_at dksX1_would_5 7 rfl rfl)
theorem dX1_would_122 : decode cX1_would 122 = .ok (.iload_n 2, 1) := dk_28 (dk_at dksX1_would_5 8 rfl rfl)
theorem dX1_would_123 : decode cX1_would 123 = .ok (.if_icmp .ne 10, 3) := dk_160 0 10 (dk_at dksX1_would_5 9 rfl rfl)
theorem dX1_would_126 : decode cX1_would 126 = .ok (.iconst 2, 1) := dk_5 (dk_at dksX1_would_5 12 rfl rfl)
theorem dX1_would_127 : decode cX1_would 127 = .ok (.aload 5, 2) := dk_25 5 (dk_at dksX1_would_5 13 rfl rfl)
theorem dX1_would_129 : decode cX1_would 129 = .ok (.iconst 2, 1) := dk_5 (dk_at dksX1_would_5 15 rfl rfl)
theorem dX1_would_130 : decode cX1_would 130 = .ok (.iaload, 1) := dk_46 (dk_at dksX1_would_5 16 rfl rfl)
theorem dX1_would_131 : decode cX1_would 131 = .ok (.isub, 1) := dk_100 (dk_at dksX1_would_5 17 rfl rfl)
theorem dX1_would_132 : decode cX1_would 132 = .ok (.ireturn, 1) := dk_172 (dk_at dksX1_would_5 18 rfl rfl)
theorem dX1_would_133 : decode cX1_would 133 = .ok (.goto (-45), 3) := dk_167 255 211 (dk_at dksX1_would_5 19 rfl rfl)
theorem dX1_would_136 : decode cX1_would 136 = .ok (.iconst 0, 1) := dk_3 (dk_at dksX1_would_5 22 rfl rfl)
theorem dX1_would_137 : decode cX1_would 137 = .ok (.ireturn, 1) := dk_172 (dk_at dksX1_would_5 23 rfl rfl)
abbrev cX1_top : ByteArray := prog_1_method_49_code
def yX1_top : MethodName := ⟨RX1, "top", "(I)I"⟩
def dkwX1_top_1 : List UInt8 := [180, 0, 70, 27, 42, 27, 186, 1, 182, 0, 0, 182, 1, 76, 182, 0, 247, 167, 0, 4, 2, 172]
abbrev dktX1_top_1 : List UInt8 := dkwX1_top_1 ++ []
def dkwX1_top_0 : List UInt8 := [42, 42, 27, 182, 0, 141, 153, 0, 7, 3, 167, 0, 4, 5, 182, 0, 155, 153, 0, 25, 42, 42]
abbrev dktX1_top_0 : List UInt8 := dkwX1_top_0 ++ dktX1_top_1
theorem dksX1_top_0 : cX1_top.data.toList.drop 0 = dktX1_top_0 := by decide +kernel
theorem dksX1_top_1 : cX1_top.data.toList.drop 22 = dktX1_top_1 := dk_seg dksX1_top_0 22 rfl rfl
theorem dX1_top_0 : decode cX1_top 0 = .ok (.aload_n 0, 1) := dk_42 (dk_at dksX1_top_0 0 rfl rfl)
theorem dX1_top_1 : decode cX1_top 1 = .ok (.aload_n 0, 1) := dk_42 (dk_at dksX1_top_0 1 rfl rfl)
theorem dX1_top_2 : decode cX1_top 2 = .ok (.iload_n 1, 1) := dk_27 (dk_at dksX1_top_0 2 rfl rfl)
theorem dX1_top_3 : decode cX1_top 3 = .ok (.invokevirtual 141, 3) := dk_182 0 141 (dk_at dksX1_top_0 3 rfl rfl)
theorem dX1_top_6 : decode cX1_top 6 = .ok (.ifCond .eq 7, 3) := dk_153 0 7 (dk_at dksX1_top_0 6 rfl rfl)
theorem dX1_top_9 : decode cX1_top 9 = .ok (.iconst 0, 1) := dk_3 (dk_at dksX1_top_0 9 rfl rfl)
theorem dX1_top_10 : decode cX1_top 10 = .ok (.goto 4, 3) := dk_167 0 4 (dk_at dksX1_top_0 10 rfl rfl)
theorem dX1_top_13 : decode cX1_top 13 = .ok (.iconst 2, 1) := dk_5 (dk_at dksX1_top_0 13 rfl rfl)
theorem dX1_top_14 : decode cX1_top 14 = .ok (.invokevirtual 155, 3) := dk_182 0 155 (dk_at dksX1_top_0 14 rfl rfl)
theorem dX1_top_17 : decode cX1_top 17 = .ok (.ifCond .eq 25, 3) := dk_153 0 25 (dk_at dksX1_top_0 17 rfl rfl)
theorem dX1_top_20 : decode cX1_top 20 = .ok (.aload_n 0, 1) := dk_42 (dk_at dksX1_top_0 20 rfl rfl)
theorem dX1_top_21 : decode cX1_top 21 = .ok (.aload_n 0, 1) := dk_42 (dk_at dksX1_top_0 21 rfl rfl)
theorem dX1_top_22 : decode cX1_top 22 = .ok (.getfield 70, 3) := dk_180 0 70 (dk_at dksX1_top_1 0 rfl rfl)
theorem dX1_top_25 : decode cX1_top 25 = .ok (.iload_n 1, 1) := dk_27 (dk_at dksX1_top_1 3 rfl rfl)
theorem dX1_top_26 : decode cX1_top 26 = .ok (.aload_n 0, 1) := dk_42 (dk_at dksX1_top_1 4 rfl rfl)
theorem dX1_top_27 : decode cX1_top 27 = .ok (.iload_n 1, 1) := dk_27 (dk_at dksX1_top_1 5 rfl rfl)
theorem dX1_top_28 : decode cX1_top 28 = .ok (.invokedynamic 438, 5) := by decide +kernel
theorem dX1_top_33 : decode cX1_top 33 = .ok (.invokevirtual 332, 3) := dk_182 1 76 (dk_at dksX1_top_1 11 rfl rfl)
theorem dX1_top_36 : decode cX1_top 36 = .ok (.invokevirtual 247, 3) := dk_182 0 247 (dk_at dksX1_top_1 14 rfl rfl)
theorem dX1_top_39 : decode cX1_top 39 = .ok (.goto 4, 3) := dk_167 0 4 (dk_at dksX1_top_1 17 rfl rfl)
theorem dX1_top_42 : decode cX1_top 42 = .ok (.iconst (-1), 1) := dk_2 (dk_at dksX1_top_1 20 rfl rfl)
theorem dX1_top_43 : decode cX1_top 43 = .ok (.ireturn, 1) := dk_172 (dk_at dksX1_top_1 21 rfl rfl)
abbrev cX1_lambda_top_20 : ByteArray := prog_1_method_94_code
def yX1_lambda_top_20 : MethodName := ⟨RX1, "lambda$top$20", "(II)Z"⟩
def dkwX1_lambda_top_20_0 : List UInt8 := [42, 180, 0, 70, 28, 27, 182, 1, 183, 172]
abbrev dktX1_lambda_top_20_0 : List UInt8 := dkwX1_lambda_top_20_0 ++ []
theorem dksX1_lambda_top_20_0 : cX1_lambda_top_20.data.toList.drop 0 = dktX1_lambda_top_20_0 := by decide +kernel
theorem dX1_lambda_top_20_0 : decode cX1_lambda_top_20 0 = .ok (.aload_n 0, 1) := dk_42 (dk_at dksX1_lambda_top_20_0 0 rfl rfl)
theorem dX1_lambda_top_20_1 : decode cX1_lambda_top_20 1 = .ok (.getfield 70, 3) := dk_180 0 70 (dk_at dksX1_lambda_top_20_0 1 rfl rfl)
theorem dX1_lambda_top_20_4 : decode cX1_lambda_top_20 4 = .ok (.iload_n 2, 1) := dk_28 (dk_at dksX1_lambda_top_20_0 4 rfl rfl)
theorem dX1_lambda_top_20_5 : decode cX1_lambda_top_20 5 = .ok (.iload_n 1, 1) := dk_27 (dk_at dksX1_lambda_top_20_0 5 rfl rfl)
theorem dX1_lambda_top_20_6 : decode cX1_lambda_top_20 6 = .ok (.invokevirtual 439, 3) := dk_182 1 183 (dk_at dksX1_lambda_top_20_0 6 rfl rfl)
theorem dX1_lambda_top_20_9 : decode cX1_lambda_top_20 9 = .ok (.ireturn, 1) := dk_172 (dk_at dksX1_lambda_top_20_0 9 rfl rfl)
abbrev cX1_lot : ByteArray := prog_1_method_51_code
def yX1_lot : MethodName := ⟨RX1, "lot", "(II)I"⟩
def dkwX1_lot_5 : List UInt8 := [167, 255, 229, 21, 5, 172]
abbrev dktX1_lot_5 : List UInt8 := dkwX1_lot_5 ++ []
def dkwX1_lot_4 : List UInt8 := [27, 182, 1, 198, 161, 0, 21, 21, 4, 42, 21, 5, 27, 182, 1, 198, 100, 54, 4, 132, 5, 1]
abbrev dktX1_lot_4 : List UInt8 := dkwX1_lot_4 ++ dktX1_lot_5
def dkwX1_lot_3 : List UInt8 := [133, 105, 20, 1, 194, 97, 20, 1, 196, 113, 29, 133, 113, 136, 54, 4, 3, 54, 5, 21, 4, 42, 21, 5]
abbrev dktX1_lot_3 : List UInt8 := dkwX1_lot_3 ++ dktX1_lot_4
def dkwX1_lot_2 : List UInt8 := [27, 186, 1, 191, 0, 0, 184, 0, 200, 62, 29, 154, 0, 9, 42, 8, 182, 0, 174, 172, 20, 1, 192, 28]
abbrev dktX1_lot_2 : List UInt8 := dkwX1_lot_2 ++ dktX1_lot_3
def dkwX1_lot_1 : List UInt8 := [153, 0, 7, 3, 167, 0, 4, 5, 182, 0, 155, 154, 0, 5, 2, 172, 42, 180, 0, 51, 182, 0, 130, 42]
abbrev dktX1_lot_1 : List UInt8 := dkwX1_lot_1 ++ dktX1_lot_2
def dkwX1_lot_0 : List UInt8 := [42, 28, 133, 9, 20, 1, 189, 184, 0, 134, 154, 0, 7, 4, 167, 0, 16, 42, 27, 182, 0, 141]
abbrev dktX1_lot_0 : List UInt8 := dkwX1_lot_0 ++ dktX1_lot_1
theorem dksX1_lot_0 : cX1_lot.data.toList.drop 0 = dktX1_lot_0 := by decide +kernel
theorem dksX1_lot_1 : cX1_lot.data.toList.drop 22 = dktX1_lot_1 := dk_seg dksX1_lot_0 22 rfl rfl
theorem dksX1_lot_2 : cX1_lot.data.toList.drop 46 = dktX1_lot_2 := dk_seg dksX1_lot_1 24 rfl rfl
theorem dksX1_lot_3 : cX1_lot.data.toList.drop 70 = dktX1_lot_3 := dk_seg dksX1_lot_2 24 rfl rfl
theorem dksX1_lot_4 : cX1_lot.data.toList.drop 94 = dktX1_lot_4 := dk_seg dksX1_lot_3 24 rfl rfl
theorem dksX1_lot_5 : cX1_lot.data.toList.drop 116 = dktX1_lot_5 := dk_seg dksX1_lot_4 22 rfl rfl
theorem dX1_lot_0 : decode cX1_lot 0 = .ok (.aload_n 0, 1) := dk_42 (dk_at dksX1_lot_0 0 rfl rfl)
theorem dX1_lot_1 : decode cX1_lot 1 = .ok (.iload_n 2, 1) := dk_28 (dk_at dksX1_lot_0 1 rfl rfl)
theorem dX1_lot_2 : decode cX1_lot 2 = .ok (.i2l, 1) := dk_133 (dk_at dksX1_lot_0 2 rfl rfl)
theorem dX1_lot_3 : decode cX1_lot 3 = .ok (.lconst 0, 1) := dk_9 (dk_at dksX1_lot_0 3 rfl rfl)
theorem dX1_lot_4 : decode cX1_lot 4 = .ok (.ldc2_w 445, 3) := dk_20 1 189 (dk_at dksX1_lot_0 4 rfl rfl)
theorem dX1_lot_7 : decode cX1_lot 7 = .ok (.invokestatic 134, 3) := dk_184 0 134 (dk_at dksX1_lot_0 7 rfl rfl)
theorem dX1_lot_10 : decode cX1_lot 10 = .ok (.ifCond .ne 7, 3) := dk_154 0 7 (dk_at dksX1_lot_0 10 rfl rfl)
theorem dX1_lot_13 : decode cX1_lot 13 = .ok (.iconst 1, 1) := dk_4 (dk_at dksX1_lot_0 13 rfl rfl)
theorem dX1_lot_14 : decode cX1_lot 14 = .ok (.goto 16, 3) := dk_167 0 16 (dk_at dksX1_lot_0 14 rfl rfl)
theorem dX1_lot_17 : decode cX1_lot 17 = .ok (.aload_n 0, 1) := dk_42 (dk_at dksX1_lot_0 17 rfl rfl)
theorem dX1_lot_18 : decode cX1_lot 18 = .ok (.iload_n 1, 1) := dk_27 (dk_at dksX1_lot_0 18 rfl rfl)
theorem dX1_lot_19 : decode cX1_lot 19 = .ok (.invokevirtual 141, 3) := dk_182 0 141 (dk_at dksX1_lot_0 19 rfl rfl)
theorem dX1_lot_22 : decode cX1_lot 22 = .ok (.ifCond .eq 7, 3) := dk_153 0 7 (dk_at dksX1_lot_1 0 rfl rfl)
theorem dX1_lot_25 : decode cX1_lot 25 = .ok (.iconst 0, 1) := dk_3 (dk_at dksX1_lot_1 3 rfl rfl)
theorem dX1_lot_26 : decode cX1_lot 26 = .ok (.goto 4, 3) := dk_167 0 4 (dk_at dksX1_lot_1 4 rfl rfl)
theorem dX1_lot_29 : decode cX1_lot 29 = .ok (.iconst 2, 1) := dk_5 (dk_at dksX1_lot_1 7 rfl rfl)
theorem dX1_lot_30 : decode cX1_lot 30 = .ok (.invokevirtual 155, 3) := dk_182 0 155 (dk_at dksX1_lot_1 8 rfl rfl)
theorem dX1_lot_33 : decode cX1_lot 33 = .ok (.ifCond .ne 5, 3) := dk_154 0 5 (dk_at dksX1_lot_1 11 rfl rfl)
theorem dX1_lot_36 : decode cX1_lot 36 = .ok (.iconst (-1), 1) := dk_2 (dk_at dksX1_lot_1 14 rfl rfl)
theorem dX1_lot_37 : decode cX1_lot 37 = .ok (.ireturn, 1) := dk_172 (dk_at dksX1_lot_1 15 rfl rfl)
theorem dX1_lot_38 : decode cX1_lot 38 = .ok (.aload_n 0, 1) := dk_42 (dk_at dksX1_lot_1 16 rfl rfl)
theorem dX1_lot_39 : decode cX1_lot 39 = .ok (.getfield 51, 3) := dk_180 0 51 (dk_at dksX1_lot_1 17 rfl rfl)
theorem dX1_lot_42 : decode cX1_lot 42 = .ok (.invokevirtual 130, 3) := dk_182 0 130 (dk_at dksX1_lot_1 20 rfl rfl)
theorem dX1_lot_45 : decode cX1_lot 45 = .ok (.aload_n 0, 1) := dk_42 (dk_at dksX1_lot_1 23 rfl rfl)
theorem dX1_lot_46 : decode cX1_lot 46 = .ok (.iload_n 1, 1) := dk_27 (dk_at dksX1_lot_2 0 rfl rfl)
theorem dX1_lot_47 : decode cX1_lot 47 = .ok (.invokedynamic 447, 5) := by decide +kernel
theorem dX1_lot_52 : decode cX1_lot 52 = .ok (.invokestatic 200, 3) := dk_184 0 200 (dk_at dksX1_lot_2 6 rfl rfl)
theorem dX1_lot_55 : decode cX1_lot 55 = .ok (.istore_n 3, 1) := dk_62 (dk_at dksX1_lot_2 9 rfl rfl)
theorem dX1_lot_56 : decode cX1_lot 56 = .ok (.iload_n 3, 1) := dk_29 (dk_at dksX1_lot_2 10 rfl rfl)
theorem dX1_lot_57 : decode cX1_lot 57 = .ok (.ifCond .ne 9, 3) := dk_154 0 9 (dk_at dksX1_lot_2 11 rfl rfl)
theorem dX1_lot_60 : decode cX1_lot 60 = .ok (.aload_n 0, 1) := dk_42 (dk_at dksX1_lot_2 14 rfl rfl)
theorem dX1_lot_61 : decode cX1_lot 61 = .ok (.iconst 5, 1) := dk_8 (dk_at dksX1_lot_2 15 rfl rfl)
theorem dX1_lot_62 : decode cX1_lot 62 = .ok (.invokevirtual 174, 3) := dk_182 0 174 (dk_at dksX1_lot_2 16 rfl rfl)
theorem dX1_lot_65 : decode cX1_lot 65 = .ok (.ireturn, 1) := dk_172 (dk_at dksX1_lot_2 19 rfl rfl)
theorem dX1_lot_66 : decode cX1_lot 66 = .ok (.ldc2_w 448, 3) := dk_20 1 192 (dk_at dksX1_lot_2 20 rfl rfl)
theorem dX1_lot_69 : decode cX1_lot 69 = .ok (.iload_n 2, 1) := dk_28 (dk_at dksX1_lot_2 23 rfl rfl)
theorem dX1_lot_70 : decode cX1_lot 70 = .ok (.i2l, 1) := dk_133 (dk_at dksX1_lot_3 0 rfl rfl)
theorem dX1_lot_71 : decode cX1_lot 71 = .ok (.lmul, 1) := dk_105 (dk_at dksX1_lot_3 1 rfl rfl)
theorem dX1_lot_72 : decode cX1_lot 72 = .ok (.ldc2_w 450, 3) := dk_20 1 194 (dk_at dksX1_lot_3 2 rfl rfl)
theorem dX1_lot_75 : decode cX1_lot 75 = .ok (.ladd, 1) := dk_97 (dk_at dksX1_lot_3 5 rfl rfl)
theorem dX1_lot_76 : decode cX1_lot 76 = .ok (.ldc2_w 452, 3) := dk_20 1 196 (dk_at dksX1_lot_3 6 rfl rfl)
theorem dX1_lot_79 : decode cX1_lot 79 = .ok (.lrem, 1) := dk_113 (dk_at dksX1_lot_3 9 rfl rfl)
theorem dX1_lot_80 : decode cX1_lot 80 = .ok (.iload_n 3, 1) := dk_29 (dk_at dksX1_lot_3 10 rfl rfl)
theorem dX1_lot_81 : decode cX1_lot 81 = .ok (.i2l, 1) := dk_133 (dk_at dksX1_lot_3 11 rfl rfl)
theorem dX1_lot_82 : decode cX1_lot 82 = .ok (.lrem, 1) := dk_113 (dk_at dksX1_lot_3 12 rfl rfl)
theorem dX1_lot_83 : decode cX1_lot 83 = .ok (.l2i, 1) := dk_136 (dk_at dksX1_lot_3 13 rfl rfl)
theorem dX1_lot_84 : decode cX1_lot 84 = .ok (.istore 4, 2) := dk_54 4 (dk_at dksX1_lot_3 14 rfl rfl)
theorem dX1_lot_86 : decode cX1_lot 86 = .ok (.iconst 0, 1) := dk_3 (dk_at dksX1_lot_3 16 rfl rfl)
theorem dX1_lot_87 : decode cX1_lot 87 = .ok (.istore 5, 2) := dk_54 5 (dk_at dksX1_lot_3 17 rfl rfl)
theorem dX1_lot_89 : decode cX1_lot 89 = .ok (.iload 4, 2) := dk_21 4 (dk_at dksX1_lot_3 19 rfl rfl)
theorem dX1_lot_91 : decode cX1_lot 91 = .ok (.aload_n 0, 1) := dk_42 (dk_at dksX1_lot_3 21 rfl rfl)
theorem dX1_lot_92 : decode cX1_lot 92 = .ok (.iload 5, 2) := dk_21 5 (dk_at dksX1_lot_3 22 rfl rfl)
theorem dX1_lot_94 : decode cX1_lot 94 = .ok (.iload_n 1, 1) := dk_27 (dk_at dksX1_lot_4 0 rfl rfl)
theorem dX1_lot_95 : decode cX1_lot 95 = .ok (.invokevirtual 454, 3) := dk_182 1 198 (dk_at dksX1_lot_4 1 rfl rfl)
theorem dX1_lot_98 : decode cX1_lot 98 = .ok (.if_icmp .lt 21, 3) := dk_161 0 21 (dk_at dksX1_lot_4 4 rfl rfl)
theorem dX1_lot_101 : decode cX1_lot 101 = .ok (.iload 4, 2) := dk_21 4 (dk_at dksX1_lot_4 7 rfl rfl)
theorem dX1_lot_103 : decode cX1_lot 103 = .ok (.aload_n 0, 1) := dk_42 (dk_at dksX1_lot_4 9 rfl rfl)
theorem dX1_lot_104 : decode cX1_lot 104 = .ok (.iload 5, 2) := dk_21 5 (dk_at dksX1_lot_4 10 rfl rfl)
theorem dX1_lot_106 : decode cX1_lot 106 = .ok (.iload_n 1, 1) := dk_27 (dk_at dksX1_lot_4 12 rfl rfl)
theorem dX1_lot_107 : decode cX1_lot 107 = .ok (.invokevirtual 454, 3) := dk_182 1 198 (dk_at dksX1_lot_4 13 rfl rfl)
theorem dX1_lot_110 : decode cX1_lot 110 = .ok (.isub, 1) := dk_100 (dk_at dksX1_lot_4 16 rfl rfl)
theorem dX1_lot_111 : decode cX1_lot 111 = .ok (.istore 4, 2) := dk_54 4 (dk_at dksX1_lot_4 17 rfl rfl)
theorem dX1_lot_113 : decode cX1_lot 113 = .ok (.iinc 5 1, 3) := dk_132 5 1 (dk_at dksX1_lot_4 19 rfl rfl)
theorem dX1_lot_116 : decode cX1_lot 116 = .ok (.goto (-27), 3) := dk_167 255 229 (dk_at dksX1_lot_5 0 rfl rfl)
theorem dX1_lot_119 : decode cX1_lot 119 = .ok (.iload 5, 2) := dk_21 5 (dk_at dksX1_lot_5 3 rfl rfl)
theorem dX1_lot_121 : decode cX1_lot 121 = .ok (.ireturn, 1) := dk_172 (dk_at dksX1_lot_5 5 rfl rfl)
abbrev cX1_lambda_lot_21 : ByteArray := prog_1_method_93_code
def yX1_lambda_lot_21 : MethodName := ⟨RX1, "lambda$lot$21", "(II)I"⟩
def dkwX1_lambda_lot_21_0 : List UInt8 := [42, 28, 27, 182, 1, 198, 172]
abbrev dktX1_lambda_lot_21_0 : List UInt8 := dkwX1_lambda_lot_21_0 ++ []
theorem dksX1_lambda_lot_21_0 : cX1_lambda_lot_21.data.toList.drop 0 = dktX1_lambda_lot_21_0 := by decide +kernel
theorem dX1_lambda_lot_21_0 : decode cX1_lambda_lot_21 0 = .ok (.aload_n 0, 1) := dk_42 (dk_at dksX1_lambda_lot_21_0 0 rfl rfl)
theorem dX1_lambda_lot_21_1 : decode cX1_lambda_lot_21 1 = .ok (.iload_n 2, 1) := dk_28 (dk_at dksX1_lambda_lot_21_0 1 rfl rfl)
theorem dX1_lambda_lot_21_2 : decode cX1_lambda_lot_21 2 = .ok (.iload_n 1, 1) := dk_27 (dk_at dksX1_lambda_lot_21_0 2 rfl rfl)
theorem dX1_lambda_lot_21_3 : decode cX1_lambda_lot_21 3 = .ok (.invokevirtual 454, 3) := dk_182 1 198 (dk_at dksX1_lambda_lot_21_0 3 rfl rfl)
theorem dX1_lambda_lot_21_6 : decode cX1_lambda_lot_21 6 = .ok (.ireturn, 1) := dk_172 (dk_at dksX1_lambda_lot_21_0 6 rfl rfl)
abbrev cX1_lotsOf : ByteArray := prog_1_method_50_code
def yX1_lotsOf : MethodName := ⟨RX1, "lotsOf", "(II)I"⟩
def dkwX1_lotsOf_1 : List UInt8 := [184, 0, 19, 167, 0, 4, 3, 172]
abbrev dktX1_lotsOf_1 : List UInt8 := dkwX1_lotsOf_1 ++ []
def dkwX1_lotsOf_0 : List UInt8 := [42, 180, 0, 70, 27, 28, 182, 1, 183, 153, 0, 21, 4, 42, 180, 0, 70, 27, 182, 1, 186, 16, 7, 108]
abbrev dktX1_lotsOf_0 : List UInt8 := dkwX1_lotsOf_0 ++ dktX1_lotsOf_1
theorem dksX1_lotsOf_0 : cX1_lotsOf.data.toList.drop 0 = dktX1_lotsOf_0 := by decide +kernel
theorem dksX1_lotsOf_1 : cX1_lotsOf.data.toList.drop 24 = dktX1_lotsOf_1 := dk_seg dksX1_lotsOf_0 24 rfl rfl
theorem dX1_lotsOf_0 : decode cX1_lotsOf 0 = .ok (.aload_n 0, 1) := dk_42 (dk_at dksX1_lotsOf_0 0 rfl rfl)
theorem dX1_lotsOf_1 : decode cX1_lotsOf 1 = .ok (.getfield 70, 3) := dk_180 0 70 (dk_at dksX1_lotsOf_0 1 rfl rfl)
theorem dX1_lotsOf_4 : decode cX1_lotsOf 4 = .ok (.iload_n 1, 1) := dk_27 (dk_at dksX1_lotsOf_0 4 rfl rfl)
theorem dX1_lotsOf_5 : decode cX1_lotsOf 5 = .ok (.iload_n 2, 1) := dk_28 (dk_at dksX1_lotsOf_0 5 rfl rfl)
theorem dX1_lotsOf_6 : decode cX1_lotsOf 6 = .ok (.invokevirtual 439, 3) := dk_182 1 183 (dk_at dksX1_lotsOf_0 6 rfl rfl)
theorem dX1_lotsOf_9 : decode cX1_lotsOf 9 = .ok (.ifCond .eq 21, 3) := dk_153 0 21 (dk_at dksX1_lotsOf_0 9 rfl rfl)
theorem dX1_lotsOf_12 : decode cX1_lotsOf 12 = .ok (.iconst 1, 1) := dk_4 (dk_at dksX1_lotsOf_0 12 rfl rfl)
theorem dX1_lotsOf_13 : decode cX1_lotsOf 13 = .ok (.aload_n 0, 1) := dk_42 (dk_at dksX1_lotsOf_0 13 rfl rfl)
theorem dX1_lotsOf_14 : decode cX1_lotsOf 14 = .ok (.getfield 70, 3) := dk_180 0 70 (dk_at dksX1_lotsOf_0 14 rfl rfl)
theorem dX1_lotsOf_17 : decode cX1_lotsOf 17 = .ok (.iload_n 1, 1) := dk_27 (dk_at dksX1_lotsOf_0 17 rfl rfl)
theorem dX1_lotsOf_18 : decode cX1_lotsOf 18 = .ok (.invokevirtual 442, 3) := dk_182 1 186 (dk_at dksX1_lotsOf_0 18 rfl rfl)
theorem dX1_lotsOf_21 : decode cX1_lotsOf 21 = .ok (.bipush 7, 2) := dk_16 7 (dk_at dksX1_lotsOf_0 21 rfl rfl)
theorem dX1_lotsOf_23 : decode cX1_lotsOf 23 = .ok (.idiv, 1) := dk_108 (dk_at dksX1_lotsOf_0 23 rfl rfl)
theorem dX1_lotsOf_24 : decode cX1_lotsOf 24 = .ok (.invokestatic 19, 3) := dk_184 0 19 (dk_at dksX1_lotsOf_1 0 rfl rfl)
theorem dX1_lotsOf_27 : decode cX1_lotsOf 27 = .ok (.goto 4, 3) := dk_167 0 4 (dk_at dksX1_lotsOf_1 3 rfl rfl)
theorem dX1_lotsOf_30 : decode cX1_lotsOf 30 = .ok (.iconst 0, 1) := dk_3 (dk_at dksX1_lotsOf_1 6 rfl rfl)
theorem dX1_lotsOf_31 : decode cX1_lotsOf 31 = .ok (.ireturn, 1) := dk_172 (dk_at dksX1_lotsOf_1 7 rfl rfl)
abbrev cX1_fits : ByteArray := prog_1_method_52_code
def yX1_fits : MethodName := ⟨RX1, "fits", "(II)I"⟩
def dkwX1_fits_2 : List UInt8 := [27, 28, 186, 1, 201, 0, 0, 184, 0, 200, 172]
abbrev dktX1_fits_2 : List UInt8 := dkwX1_fits_2 ++ []
def dkwX1_fits_1 : List UInt8 := [153, 0, 7, 3, 167, 0, 4, 5, 182, 0, 155, 154, 0, 5, 2, 172, 42, 180, 0, 39, 182, 0, 130, 42]
abbrev dktX1_fits_1 : List UInt8 := dkwX1_fits_1 ++ dktX1_fits_2
def dkwX1_fits_0 : List UInt8 := [42, 28, 133, 9, 20, 1, 118, 184, 0, 134, 154, 0, 7, 4, 167, 0, 16, 42, 27, 182, 0, 138]
abbrev dktX1_fits_0 : List UInt8 := dkwX1_fits_0 ++ dktX1_fits_1
theorem dksX1_fits_0 : cX1_fits.data.toList.drop 0 = dktX1_fits_0 := by decide +kernel
theorem dksX1_fits_1 : cX1_fits.data.toList.drop 22 = dktX1_fits_1 := dk_seg dksX1_fits_0 22 rfl rfl
theorem dksX1_fits_2 : cX1_fits.data.toList.drop 46 = dktX1_fits_2 := dk_seg dksX1_fits_1 24 rfl rfl
theorem dX1_fits_0 : decode cX1_fits 0 = .ok (.aload_n 0, 1) := dk_42 (dk_at dksX1_fits_0 0 rfl rfl)
theorem dX1_fits_1 : decode cX1_fits 1 = .ok (.iload_n 2, 1) := dk_28 (dk_at dksX1_fits_0 1 rfl rfl)
theorem dX1_fits_2 : decode cX1_fits 2 = .ok (.i2l, 1) := dk_133 (dk_at dksX1_fits_0 2 rfl rfl)
theorem dX1_fits_3 : decode cX1_fits 3 = .ok (.lconst 0, 1) := dk_9 (dk_at dksX1_fits_0 3 rfl rfl)
theorem dX1_fits_4 : decode cX1_fits 4 = .ok (.ldc2_w 374, 3) := dk_20 1 118 (dk_at dksX1_fits_0 4 rfl rfl)
theorem dX1_fits_7 : decode cX1_fits 7 = .ok (.invokestatic 134, 3) := dk_184 0 134 (dk_at dksX1_fits_0 7 rfl rfl)
theorem dX1_fits_10 : decode cX1_fits 10 = .ok (.ifCond .ne 7, 3) := dk_154 0 7 (dk_at dksX1_fits_0 10 rfl rfl)
theorem dX1_fits_13 : decode cX1_fits 13 = .ok (.iconst 1, 1) := dk_4 (dk_at dksX1_fits_0 13 rfl rfl)
theorem dX1_fits_14 : decode cX1_fits 14 = .ok (.goto 16, 3) := dk_167 0 16 (dk_at dksX1_fits_0 14 rfl rfl)
theorem dX1_fits_17 : decode cX1_fits 17 = .ok (.aload_n 0, 1) := dk_42 (dk_at dksX1_fits_0 17 rfl rfl)
theorem dX1_fits_18 : decode cX1_fits 18 = .ok (.iload_n 1, 1) := dk_27 (dk_at dksX1_fits_0 18 rfl rfl)
theorem dX1_fits_19 : decode cX1_fits 19 = .ok (.invokevirtual 138, 3) := dk_182 0 138 (dk_at dksX1_fits_0 19 rfl rfl)
theorem dX1_fits_22 : decode cX1_fits 22 = .ok (.ifCond .eq 7, 3) := dk_153 0 7 (dk_at dksX1_fits_1 0 rfl rfl)
theorem dX1_fits_25 : decode cX1_fits 25 = .ok (.iconst 0, 1) := dk_3 (dk_at dksX1_fits_1 3 rfl rfl)
theorem dX1_fits_26 : decode cX1_fits 26 = .ok (.goto 4, 3) := dk_167 0 4 (dk_at dksX1_fits_1 4 rfl rfl)
theorem dX1_fits_29 : decode cX1_fits 29 = .ok (.iconst 2, 1) := dk_5 (dk_at dksX1_fits_1 7 rfl rfl)
theorem dX1_fits_30 : decode cX1_fits 30 = .ok (.invokevirtual 155, 3) := dk_182 0 155 (dk_at dksX1_fits_1 8 rfl rfl)
theorem dX1_fits_33 : decode cX1_fits 33 = .ok (.ifCond .ne 5, 3) := dk_154 0 5 (dk_at dksX1_fits_1 11 rfl rfl)
theorem dX1_fits_36 : decode cX1_fits 36 = .ok (.iconst (-1), 1) := dk_2 (dk_at dksX1_fits_1 14 rfl rfl)
theorem dX1_fits_37 : decode cX1_fits 37 = .ok (.ireturn, 1) := dk_172 (dk_at dksX1_fits_1 15 rfl rfl)
theorem dX1_fits_38 : decode cX1_fits 38 = .ok (.aload_n 0, 1) := dk_42 (dk_at dksX1_fits_1 16 rfl rfl)
theorem dX1_fits_39 : decode cX1_fits 39 = .ok (.getfield 39, 3) := dk_180 0 39 (dk_at dksX1_fits_1 17 rfl rfl)
theorem dX1_fits_42 : decode cX1_fits 42 = .ok (.invokevirtual 130, 3) := dk_182 0 130 (dk_at dksX1_fits_1 20 rfl rfl)
theorem dX1_fits_45 : decode cX1_fits 45 = .ok (.aload_n 0, 1) := dk_42 (dk_at dksX1_fits_1 23 rfl rfl)
theorem dX1_fits_46 : decode cX1_fits 46 = .ok (.iload_n 1, 1) := dk_27 (dk_at dksX1_fits_2 0 rfl rfl)
theorem dX1_fits_47 : decode cX1_fits 47 = .ok (.iload_n 2, 1) := dk_28 (dk_at dksX1_fits_2 1 rfl rfl)
theorem dX1_fits_48 : decode cX1_fits 48 = .ok (.invokedynamic 457, 5) := by decide +kernel
theorem dX1_fits_53 : decode cX1_fits 53 = .ok (.invokestatic 200, 3) := dk_184 0 200 (dk_at dksX1_fits_2 7 rfl rfl)
theorem dX1_fits_56 : decode cX1_fits 56 = .ok (.ireturn, 1) := dk_172 (dk_at dksX1_fits_2 10 rfl rfl)
abbrev cX1_lambda_fits_22 : ByteArray := prog_1_method_92_code
def yX1_lambda_fits_22 : MethodName := ⟨RX1, "lambda$fits$22", "(III)I"⟩
def dkwX1_lambda_fits_22_2 : List UInt8 := [153, 0, 9, 4, 29, 120, 167, 0, 4, 3, 172]
abbrev dktX1_lambda_fits_22_2 : List UInt8 := dkwX1_lambda_fits_22_2 ++ []
def dkwX1_lambda_fits_22_1 : List UInt8 := [180, 0, 70, 29, 182, 0, 250, 153, 0, 24, 167, 0, 15, 42, 180, 0, 70, 27, 29, 182, 2, 110]
abbrev dktX1_lambda_fits_22_1 : List UInt8 := dkwX1_lambda_fits_22_1 ++ dktX1_lambda_fits_22_2
def dkwX1_lambda_fits_22_0 : List UInt8 := [42, 180, 0, 70, 27, 29, 182, 1, 82, 153, 0, 44, 28, 153, 0, 34, 28, 4, 160, 0, 17, 42]
abbrev dktX1_lambda_fits_22_0 : List UInt8 := dkwX1_lambda_fits_22_0 ++ dktX1_lambda_fits_22_1
theorem dksX1_lambda_fits_22_0 : cX1_lambda_fits_22.data.toList.drop 0 = dktX1_lambda_fits_22_0 := by decide +kernel
theorem dksX1_lambda_fits_22_1 : cX1_lambda_fits_22.data.toList.drop 22 = dktX1_lambda_fits_22_1 := dk_seg dksX1_lambda_fits_22_0 22 rfl rfl
theorem dksX1_lambda_fits_22_2 : cX1_lambda_fits_22.data.toList.drop 44 = dktX1_lambda_fits_22_2 := dk_seg dksX1_lambda_fits_22_1 22 rfl rfl
theorem dX1_lambda_fits_22_0 : decode cX1_lambda_fits_22 0 = .ok (.aload_n 0, 1) := dk_42 (dk_at dksX1_lambda_fits_22_0 0 rfl rfl)
theorem dX1_lambda_fits_22_1 : decode cX1_lambda_fits_22 1 = .ok (.getfield 70, 3) := dk_180 0 70 (dk_at dksX1_lambda_fits_22_0 1 rfl rfl)
theorem dX1_lambda_fits_22_4 : decode cX1_lambda_fits_22 4 = .ok (.iload_n 1, 1) := dk_27 (dk_at dksX1_lambda_fits_22_0 4 rfl rfl)
theorem dX1_lambda_fits_22_5 : decode cX1_lambda_fits_22 5 = .ok (.iload_n 3, 1) := dk_29 (dk_at dksX1_lambda_fits_22_0 5 rfl rfl)
theorem dX1_lambda_fits_22_6 : decode cX1_lambda_fits_22 6 = .ok (.invokevirtual 338, 3) := dk_182 1 82 (dk_at dksX1_lambda_fits_22_0 6 rfl rfl)
theorem dX1_lambda_fits_22_9 : decode cX1_lambda_fits_22 9 = .ok (.ifCond .eq 44, 3) := dk_153 0 44 (dk_at dksX1_lambda_fits_22_0 9 rfl rfl)
theorem dX1_lambda_fits_22_12 : decode cX1_lambda_fits_22 12 = .ok (.iload_n 2, 1) := dk_28 (dk_at dksX1_lambda_fits_22_0 12 rfl rfl)
theorem dX1_lambda_fits_22_13 : decode cX1_lambda_fits_22 13 = .ok (.ifCond .eq 34, 3) := dk_153 0 34 (dk_at dksX1_lambda_fits_22_0 13 rfl rfl)
theorem dX1_lambda_fits_22_16 : decode cX1_lambda_fits_22 16 = .ok (.iload_n 2, 1) := dk_28 (dk_at dksX1_lambda_fits_22_0 16 rfl rfl)
theorem dX1_lambda_fits_22_17 : decode cX1_lambda_fits_22 17 = .ok (.iconst 1, 1) := dk_4 (dk_at dksX1_lambda_fits_22_0 17 rfl rfl)
theorem dX1_lambda_fits_22_18 : decode cX1_lambda_fits_22 18 = .ok (.if_icmp .ne 17, 3) := dk_160 0 17 (dk_at dksX1_lambda_fits_22_0 18 rfl rfl)
theorem dX1_lambda_fits_22_21 : decode cX1_lambda_fits_22 21 = .ok (.aload_n 0, 1) := dk_42 (dk_at dksX1_lambda_fits_22_0 21 rfl rfl)
theorem dX1_lambda_fits_22_22 : decode cX1_lambda_fits_22 22 = .ok (.getfield 70, 3) := dk_180 0 70 (dk_at dksX1_lambda_fits_22_1 0 rfl rfl)
theorem dX1_lambda_fits_22_25 : decode cX1_lambda_fits_22 25 = .ok (.iload_n 3, 1) := dk_29 (dk_at dksX1_lambda_fits_22_1 3 rfl rfl)
theorem dX1_lambda_fits_22_26 : decode cX1_lambda_fits_22 26 = .ok (.invokevirtual 250, 3) := dk_182 0 250 (dk_at dksX1_lambda_fits_22_1 4 rfl rfl)
theorem dX1_lambda_fits_22_29 : decode cX1_lambda_fits_22 29 = .ok (.ifCond .eq 24, 3) := dk_153 0 24 (dk_at dksX1_lambda_fits_22_1 7 rfl rfl)
theorem dX1_lambda_fits_22_32 : decode cX1_lambda_fits_22 32 = .ok (.goto 15, 3) := dk_167 0 15 (dk_at dksX1_lambda_fits_22_1 10 rfl rfl)
theorem dX1_lambda_fits_22_35 : decode cX1_lambda_fits_22 35 = .ok (.aload_n 0, 1) := dk_42 (dk_at dksX1_lambda_fits_22_1 13 rfl rfl)
theorem dX1_lambda_fits_22_36 : decode cX1_lambda_fits_22 36 = .ok (.getfield 70, 3) := dk_180 0 70 (dk_at dksX1_lambda_fits_22_1 14 rfl rfl)
theorem dX1_lambda_fits_22_39 : decode cX1_lambda_fits_22 39 = .ok (.iload_n 1, 1) := dk_27 (dk_at dksX1_lambda_fits_22_1 17 rfl rfl)
theorem dX1_lambda_fits_22_40 : decode cX1_lambda_fits_22 40 = .ok (.iload_n 3, 1) := dk_29 (dk_at dksX1_lambda_fits_22_1 18 rfl rfl)
theorem dX1_lambda_fits_22_41 : decode cX1_lambda_fits_22 41 = .ok (.invokevirtual 622, 3) := dk_182 2 110 (dk_at dksX1_lambda_fits_22_1 19 rfl rfl)
theorem dX1_lambda_fits_22_44 : decode cX1_lambda_fits_22 44 = .ok (.ifCond .eq 9, 3) := dk_153 0 9 (dk_at dksX1_lambda_fits_22_2 0 rfl rfl)
theorem dX1_lambda_fits_22_47 : decode cX1_lambda_fits_22 47 = .ok (.iconst 1, 1) := dk_4 (dk_at dksX1_lambda_fits_22_2 3 rfl rfl)
theorem dX1_lambda_fits_22_48 : decode cX1_lambda_fits_22 48 = .ok (.iload_n 3, 1) := dk_29 (dk_at dksX1_lambda_fits_22_2 4 rfl rfl)
theorem dX1_lambda_fits_22_49 : decode cX1_lambda_fits_22 49 = .ok (.ishl, 1) := dk_120 (dk_at dksX1_lambda_fits_22_2 5 rfl rfl)
theorem dX1_lambda_fits_22_50 : decode cX1_lambda_fits_22 50 = .ok (.goto 4, 3) := dk_167 0 4 (dk_at dksX1_lambda_fits_22_2 6 rfl rfl)
theorem dX1_lambda_fits_22_53 : decode cX1_lambda_fits_22 53 = .ok (.iconst 0, 1) := dk_3 (dk_at dksX1_lambda_fits_22_2 9 rfl rfl)
theorem dX1_lambda_fits_22_54 : decode cX1_lambda_fits_22 54 = .ok (.ireturn, 1) := dk_172 (dk_at dksX1_lambda_fits_22_2 10 rfl rfl)
abbrev cX1_ward : ByteArray := prog_1_method_54_code
def yX1_ward : MethodName := ⟨RX1, "ward", "(Z)I"⟩
def dkwX1_ward_2 : List UInt8 := [182, 1, 210, 167, 0, 4, 28, 172]
abbrev dktX1_ward_2 : List UInt8 := dkwX1_ward_2 ++ []
def dkwX1_ward_1 : List UInt8 := [156, 0, 7, 8, 167, 0, 4, 3, 182, 0, 155, 154, 0, 5, 2, 172, 27, 153, 0, 11, 42, 28]
abbrev dktX1_ward_1 : List UInt8 := dkwX1_ward_1 ++ dktX1_ward_2
def dkwX1_ward_0 : List UInt8 := [16, 8, 42, 186, 1, 206, 0, 0, 42, 186, 1, 209, 0, 0, 184, 1, 165, 184, 1, 172, 61, 42, 28]
abbrev dktX1_ward_0 : List UInt8 := dkwX1_ward_0 ++ dktX1_ward_1
theorem dksX1_ward_0 : cX1_ward.data.toList.drop 0 = dktX1_ward_0 := by decide +kernel
theorem dksX1_ward_1 : cX1_ward.data.toList.drop 23 = dktX1_ward_1 := dk_seg dksX1_ward_0 23 rfl rfl
theorem dksX1_ward_2 : cX1_ward.data.toList.drop 45 = dktX1_ward_2 := dk_seg dksX1_ward_1 22 rfl rfl
theorem dX1_ward_0 : decode cX1_ward 0 = .ok (.bipush 8, 2) := dk_16 8 (dk_at dksX1_ward_0 0 rfl rfl)
theorem dX1_ward_2 : decode cX1_ward 2 = .ok (.aload_n 0, 1) := dk_42 (dk_at dksX1_ward_0 2 rfl rfl)
theorem dX1_ward_3 : decode cX1_ward 3 = .ok (.invokedynamic 462, 5) := by decide +kernel
theorem dX1_ward_8 : decode cX1_ward 8 = .ok (.aload_n 0, 1) := dk_42 (dk_at dksX1_ward_0 8 rfl rfl)
theorem dX1_ward_9 : decode cX1_ward 9 = .ok (.invokedynamic 465, 5) := by decide +kernel
theorem dX1_ward_14 : decode cX1_ward 14 = .ok (.invokestatic 421, 3) := dk_184 1 165 (dk_at dksX1_ward_0 14 rfl rfl)
theorem dX1_ward_17 : decode cX1_ward 17 = .ok (.invokestatic 428, 3) := dk_184 1 172 (dk_at dksX1_ward_0 17 rfl rfl)
theorem dX1_ward_20 : decode cX1_ward 20 = .ok (.istore_n 2, 1) := dk_61 (dk_at dksX1_ward_0 20 rfl rfl)
theorem dX1_ward_21 : decode cX1_ward 21 = .ok (.aload_n 0, 1) := dk_42 (dk_at dksX1_ward_0 21 rfl rfl)
theorem dX1_ward_22 : decode cX1_ward 22 = .ok (.iload_n 2, 1) := dk_28 (dk_at dksX1_ward_0 22 rfl rfl)
theorem dX1_ward_23 : decode cX1_ward 23 = .ok (.ifCond .ge 7, 3) := dk_156 0 7 (dk_at dksX1_ward_1 0 rfl rfl)
theorem dX1_ward_26 : decode cX1_ward 26 = .ok (.iconst 5, 1) := dk_8 (dk_at dksX1_ward_1 3 rfl rfl)
theorem dX1_ward_27 : decode cX1_ward 27 = .ok (.goto 4, 3) := dk_167 0 4 (dk_at dksX1_ward_1 4 rfl rfl)
theorem dX1_ward_30 : decode cX1_ward 30 = .ok (.iconst 0, 1) := dk_3 (dk_at dksX1_ward_1 7 rfl rfl)
theorem dX1_ward_31 : decode cX1_ward 31 = .ok (.invokevirtual 155, 3) := dk_182 0 155 (dk_at dksX1_ward_1 8 rfl rfl)
theorem dX1_ward_34 : decode cX1_ward 34 = .ok (.ifCond .ne 5, 3) := dk_154 0 5 (dk_at dksX1_ward_1 11 rfl rfl)
theorem dX1_ward_37 : decode cX1_ward 37 = .ok (.iconst (-1), 1) := dk_2 (dk_at dksX1_ward_1 14 rfl rfl)
theorem dX1_ward_38 : decode cX1_ward 38 = .ok (.ireturn, 1) := dk_172 (dk_at dksX1_ward_1 15 rfl rfl)
theorem dX1_ward_39 : decode cX1_ward 39 = .ok (.iload_n 1, 1) := dk_27 (dk_at dksX1_ward_1 16 rfl rfl)
theorem dX1_ward_40 : decode cX1_ward 40 = .ok (.ifCond .eq 11, 3) := dk_153 0 11 (dk_at dksX1_ward_1 17 rfl rfl)
theorem dX1_ward_43 : decode cX1_ward 43 = .ok (.aload_n 0, 1) := dk_42 (dk_at dksX1_ward_1 20 rfl rfl)
theorem dX1_ward_44 : decode cX1_ward 44 = .ok (.iload_n 2, 1) := dk_28 (dk_at dksX1_ward_1 21 rfl rfl)
theorem dX1_ward_45 : decode cX1_ward 45 = .ok (.invokevirtual 466, 3) := dk_182 1 210 (dk_at dksX1_ward_2 0 rfl rfl)
theorem dX1_ward_48 : decode cX1_ward 48 = .ok (.goto 4, 3) := dk_167 0 4 (dk_at dksX1_ward_2 3 rfl rfl)
theorem dX1_ward_51 : decode cX1_ward 51 = .ok (.iload_n 2, 1) := dk_28 (dk_at dksX1_ward_2 6 rfl rfl)
theorem dX1_ward_52 : decode cX1_ward 52 = .ok (.ireturn, 1) := dk_172 (dk_at dksX1_ward_2 7 rfl rfl)
abbrev cX1_lambda_ward_26 : ByteArray := prog_1_method_88_code
def yX1_lambda_ward_26 : MethodName := ⟨RX1, "lambda$ward$26", "(I)Z"⟩
def dkwX1_lambda_ward_26_1 : List UInt8 := [3, 172]
abbrev dktX1_lambda_ward_26_1 : List UInt8 := dkwX1_lambda_ward_26_1 ++ []
def dkwX1_lambda_ward_26_0 : List UInt8 := [42, 180, 0, 39, 182, 0, 130, 42, 27, 186, 2, 109, 0, 0, 184, 0, 192, 158, 0, 7, 4, 167, 0, 4]
abbrev dktX1_lambda_ward_26_0 : List UInt8 := dkwX1_lambda_ward_26_0 ++ dktX1_lambda_ward_26_1
theorem dksX1_lambda_ward_26_0 : cX1_lambda_ward_26.data.toList.drop 0 = dktX1_lambda_ward_26_0 := by decide +kernel
theorem dksX1_lambda_ward_26_1 : cX1_lambda_ward_26.data.toList.drop 24 = dktX1_lambda_ward_26_1 := dk_seg dksX1_lambda_ward_26_0 24 rfl rfl
theorem dX1_lambda_ward_26_0 : decode cX1_lambda_ward_26 0 = .ok (.aload_n 0, 1) := dk_42 (dk_at dksX1_lambda_ward_26_0 0 rfl rfl)
theorem dX1_lambda_ward_26_1 : decode cX1_lambda_ward_26 1 = .ok (.getfield 39, 3) := dk_180 0 39 (dk_at dksX1_lambda_ward_26_0 1 rfl rfl)
theorem dX1_lambda_ward_26_4 : decode cX1_lambda_ward_26 4 = .ok (.invokevirtual 130, 3) := dk_182 0 130 (dk_at dksX1_lambda_ward_26_0 4 rfl rfl)
theorem dX1_lambda_ward_26_7 : decode cX1_lambda_ward_26 7 = .ok (.aload_n 0, 1) := dk_42 (dk_at dksX1_lambda_ward_26_0 7 rfl rfl)
theorem dX1_lambda_ward_26_8 : decode cX1_lambda_ward_26 8 = .ok (.iload_n 1, 1) := dk_27 (dk_at dksX1_lambda_ward_26_0 8 rfl rfl)
theorem dX1_lambda_ward_26_9 : decode cX1_lambda_ward_26 9 = .ok (.invokedynamic 621, 5) := by decide +kernel
theorem dX1_lambda_ward_26_14 : decode cX1_lambda_ward_26 14 = .ok (.invokestatic 192, 3) := dk_184 0 192 (dk_at dksX1_lambda_ward_26_0 14 rfl rfl)
theorem dX1_lambda_ward_26_17 : decode cX1_lambda_ward_26 17 = .ok (.ifCond .le 7, 3) := dk_158 0 7 (dk_at dksX1_lambda_ward_26_0 17 rfl rfl)
theorem dX1_lambda_ward_26_20 : decode cX1_lambda_ward_26 20 = .ok (.iconst 1, 1) := dk_4 (dk_at dksX1_lambda_ward_26_0 20 rfl rfl)
theorem dX1_lambda_ward_26_21 : decode cX1_lambda_ward_26 21 = .ok (.goto 4, 3) := dk_167 0 4 (dk_at dksX1_lambda_ward_26_0 21 rfl rfl)
theorem dX1_lambda_ward_26_24 : decode cX1_lambda_ward_26 24 = .ok (.iconst 0, 1) := dk_3 (dk_at dksX1_lambda_ward_26_1 0 rfl rfl)
theorem dX1_lambda_ward_26_25 : decode cX1_lambda_ward_26 25 = .ok (.ireturn, 1) := dk_172 (dk_at dksX1_lambda_ward_26_1 1 rfl rfl)
abbrev cX1_lambda_ward_25 : ByteArray := prog_1_method_89_code
def yX1_lambda_ward_25 : MethodName := ⟨RX1, "lambda$ward$25", "(II)Z"⟩
def dkwX1_lambda_ward_25_0 : List UInt8 := [42, 28, 182, 0, 234, 180, 0, 241, 27, 160, 0, 7, 4, 167, 0, 4, 3, 172]
abbrev dktX1_lambda_ward_25_0 : List UInt8 := dkwX1_lambda_ward_25_0 ++ []
theorem dksX1_lambda_ward_25_0 : cX1_lambda_ward_25.data.toList.drop 0 = dktX1_lambda_ward_25_0 := by decide +kernel
theorem dX1_lambda_ward_25_0 : decode cX1_lambda_ward_25 0 = .ok (.aload_n 0, 1) := dk_42 (dk_at dksX1_lambda_ward_25_0 0 rfl rfl)
theorem dX1_lambda_ward_25_1 : decode cX1_lambda_ward_25 1 = .ok (.iload_n 2, 1) := dk_28 (dk_at dksX1_lambda_ward_25_0 1 rfl rfl)
theorem dX1_lambda_ward_25_2 : decode cX1_lambda_ward_25 2 = .ok (.invokevirtual 234, 3) := dk_182 0 234 (dk_at dksX1_lambda_ward_25_0 2 rfl rfl)
theorem dX1_lambda_ward_25_5 : decode cX1_lambda_ward_25 5 = .ok (.getfield 241, 3) := dk_180 0 241 (dk_at dksX1_lambda_ward_25_0 5 rfl rfl)
theorem dX1_lambda_ward_25_8 : decode cX1_lambda_ward_25 8 = .ok (.iload_n 1, 1) := dk_27 (dk_at dksX1_lambda_ward_25_0 8 rfl rfl)
theorem dX1_lambda_ward_25_9 : decode cX1_lambda_ward_25 9 = .ok (.if_icmp .ne 7, 3) := dk_160 0 7 (dk_at dksX1_lambda_ward_25_0 9 rfl rfl)
theorem dX1_lambda_ward_25_12 : decode cX1_lambda_ward_25 12 = .ok (.iconst 1, 1) := dk_4 (dk_at dksX1_lambda_ward_25_0 12 rfl rfl)
theorem dX1_lambda_ward_25_13 : decode cX1_lambda_ward_25 13 = .ok (.goto 4, 3) := dk_167 0 4 (dk_at dksX1_lambda_ward_25_0 13 rfl rfl)
theorem dX1_lambda_ward_25_16 : decode cX1_lambda_ward_25 16 = .ok (.iconst 0, 1) := dk_3 (dk_at dksX1_lambda_ward_25_0 16 rfl rfl)
theorem dX1_lambda_ward_25_17 : decode cX1_lambda_ward_25 17 = .ok (.ireturn, 1) := dk_172 (dk_at dksX1_lambda_ward_25_0 17 rfl rfl)
abbrev cX1_lambda_ward_27 : ByteArray := prog_1_method_87_code
def yX1_lambda_ward_27 : MethodName := ⟨RX1, "lambda$ward$27", "(I)I"⟩
def dkwX1_lambda_ward_27_0 : List UInt8 := [42, 27, 182, 1, 210, 116, 172]
abbrev dktX1_lambda_ward_27_0 : List UInt8 := dkwX1_lambda_ward_27_0 ++ []
theorem dksX1_lambda_ward_27_0 : cX1_lambda_ward_27.data.toList.drop 0 = dktX1_lambda_ward_27_0 := by decide +kernel
theorem dX1_lambda_ward_27_0 : decode cX1_lambda_ward_27 0 = .ok (.aload_n 0, 1) := dk_42 (dk_at dksX1_lambda_ward_27_0 0 rfl rfl)
theorem dX1_lambda_ward_27_1 : decode cX1_lambda_ward_27 1 = .ok (.iload_n 1, 1) := dk_27 (dk_at dksX1_lambda_ward_27_0 1 rfl rfl)
theorem dX1_lambda_ward_27_2 : decode cX1_lambda_ward_27 2 = .ok (.invokevirtual 466, 3) := dk_182 1 210 (dk_at dksX1_lambda_ward_27_0 2 rfl rfl)
theorem dX1_lambda_ward_27_5 : decode cX1_lambda_ward_27 5 = .ok (.ineg, 1) := dk_116 (dk_at dksX1_lambda_ward_27_0 5 rfl rfl)
theorem dX1_lambda_ward_27_6 : decode cX1_lambda_ward_27 6 = .ok (.ireturn, 1) := dk_172 (dk_at dksX1_lambda_ward_27_0 6 rfl rfl)
abbrev cX1_muchOf : ByteArray := prog_1_method_53_code
def yX1_muchOf : MethodName := ⟨RX1, "muchOf", "(I)I"⟩
def dkwX1_muchOf_1 : List UInt8 := [42, 27, 186, 1, 205, 0, 0, 184, 0, 192, 100, 172]
abbrev dktX1_muchOf_1 : List UInt8 := dkwX1_muchOf_1 ++ []
def dkwX1_muchOf_0 : List UInt8 := [42, 180, 0, 51, 182, 0, 130, 42, 27, 186, 1, 204, 0, 0, 184, 0, 192, 42, 180, 0, 39, 182, 0, 130]
abbrev dktX1_muchOf_0 : List UInt8 := dkwX1_muchOf_0 ++ dktX1_muchOf_1
theorem dksX1_muchOf_0 : cX1_muchOf.data.toList.drop 0 = dktX1_muchOf_0 := by decide +kernel
theorem dksX1_muchOf_1 : cX1_muchOf.data.toList.drop 24 = dktX1_muchOf_1 := dk_seg dksX1_muchOf_0 24 rfl rfl
theorem dX1_muchOf_0 : decode cX1_muchOf 0 = .ok (.aload_n 0, 1) := dk_42 (dk_at dksX1_muchOf_0 0 rfl rfl)
theorem dX1_muchOf_1 : decode cX1_muchOf 1 = .ok (.getfield 51, 3) := dk_180 0 51 (dk_at dksX1_muchOf_0 1 rfl rfl)
theorem dX1_muchOf_4 : decode cX1_muchOf 4 = .ok (.invokevirtual 130, 3) := dk_182 0 130 (dk_at dksX1_muchOf_0 4 rfl rfl)
theorem dX1_muchOf_7 : decode cX1_muchOf 7 = .ok (.aload_n 0, 1) := dk_42 (dk_at dksX1_muchOf_0 7 rfl rfl)
theorem dX1_muchOf_8 : decode cX1_muchOf 8 = .ok (.iload_n 1, 1) := dk_27 (dk_at dksX1_muchOf_0 8 rfl rfl)
theorem dX1_muchOf_9 : decode cX1_muchOf 9 = .ok (.invokedynamic 460, 5) := by decide +kernel
theorem dX1_muchOf_14 : decode cX1_muchOf 14 = .ok (.invokestatic 192, 3) := dk_184 0 192 (dk_at dksX1_muchOf_0 14 rfl rfl)
theorem dX1_muchOf_17 : decode cX1_muchOf 17 = .ok (.aload_n 0, 1) := dk_42 (dk_at dksX1_muchOf_0 17 rfl rfl)
theorem dX1_muchOf_18 : decode cX1_muchOf 18 = .ok (.getfield 39, 3) := dk_180 0 39 (dk_at dksX1_muchOf_0 18 rfl rfl)
theorem dX1_muchOf_21 : decode cX1_muchOf 21 = .ok (.invokevirtual 130, 3) := dk_182 0 130 (dk_at dksX1_muchOf_0 21 rfl rfl)
theorem dX1_muchOf_24 : decode cX1_muchOf 24 = .ok (.aload_n 0, 1) := dk_42 (dk_at dksX1_muchOf_1 0 rfl rfl)
theorem dX1_muchOf_25 : decode cX1_muchOf 25 = .ok (.iload_n 1, 1) := dk_27 (dk_at dksX1_muchOf_1 1 rfl rfl)
theorem dX1_muchOf_26 : decode cX1_muchOf 26 = .ok (.invokedynamic 461, 5) := by decide +kernel
theorem dX1_muchOf_31 : decode cX1_muchOf 31 = .ok (.invokestatic 192, 3) := dk_184 0 192 (dk_at dksX1_muchOf_1 7 rfl rfl)
theorem dX1_muchOf_34 : decode cX1_muchOf 34 = .ok (.isub, 1) := dk_100 (dk_at dksX1_muchOf_1 10 rfl rfl)
theorem dX1_muchOf_35 : decode cX1_muchOf 35 = .ok (.ireturn, 1) := dk_172 (dk_at dksX1_muchOf_1 11 rfl rfl)
abbrev cX1_lambda_muchOf_23 : ByteArray := prog_1_method_91_code
def yX1_lambda_muchOf_23 : MethodName := ⟨RX1, "lambda$muchOf$23", "(II)Z"⟩
def dkwX1_lambda_muchOf_23_1 : List UInt8 := [4, 167, 0, 4, 3, 172]
abbrev dktX1_lambda_muchOf_23_1 : List UInt8 := dkwX1_lambda_muchOf_23_1 ++ []
def dkwX1_lambda_muchOf_23_0 : List UInt8 := [42, 180, 0, 70, 180, 1, 49, 28, 51, 154, 0, 19, 42, 28, 182, 1, 21, 182, 1, 34, 27, 160, 0, 7]
abbrev dktX1_lambda_muchOf_23_0 : List UInt8 := dkwX1_lambda_muchOf_23_0 ++ dktX1_lambda_muchOf_23_1
theorem dksX1_lambda_muchOf_23_0 : cX1_lambda_muchOf_23.data.toList.drop 0 = dktX1_lambda_muchOf_23_0 := by decide +kernel
theorem dksX1_lambda_muchOf_23_1 : cX1_lambda_muchOf_23.data.toList.drop 24 = dktX1_lambda_muchOf_23_1 := dk_seg dksX1_lambda_muchOf_23_0 24 rfl rfl
theorem dX1_lambda_muchOf_23_0 : decode cX1_lambda_muchOf_23 0 = .ok (.aload_n 0, 1) := dk_42 (dk_at dksX1_lambda_muchOf_23_0 0 rfl rfl)
theorem dX1_lambda_muchOf_23_1 : decode cX1_lambda_muchOf_23 1 = .ok (.getfield 70, 3) := dk_180 0 70 (dk_at dksX1_lambda_muchOf_23_0 1 rfl rfl)
theorem dX1_lambda_muchOf_23_4 : decode cX1_lambda_muchOf_23 4 = .ok (.getfield 305, 3) := dk_180 1 49 (dk_at dksX1_lambda_muchOf_23_0 4 rfl rfl)
theorem dX1_lambda_muchOf_23_7 : decode cX1_lambda_muchOf_23 7 = .ok (.iload_n 2, 1) := dk_28 (dk_at dksX1_lambda_muchOf_23_0 7 rfl rfl)
theorem dX1_lambda_muchOf_23_8 : decode cX1_lambda_muchOf_23 8 = .ok (.baload, 1) := dk_51 (dk_at dksX1_lambda_muchOf_23_0 8 rfl rfl)
theorem dX1_lambda_muchOf_23_9 : decode cX1_lambda_muchOf_23 9 = .ok (.ifCond .ne 19, 3) := dk_154 0 19 (dk_at dksX1_lambda_muchOf_23_0 9 rfl rfl)
theorem dX1_lambda_muchOf_23_12 : decode cX1_lambda_muchOf_23 12 = .ok (.aload_n 0, 1) := dk_42 (dk_at dksX1_lambda_muchOf_23_0 12 rfl rfl)
theorem dX1_lambda_muchOf_23_13 : decode cX1_lambda_muchOf_23 13 = .ok (.iload_n 2, 1) := dk_28 (dk_at dksX1_lambda_muchOf_23_0 13 rfl rfl)
theorem dX1_lambda_muchOf_23_14 : decode cX1_lambda_muchOf_23 14 = .ok (.invokevirtual 277, 3) := dk_182 1 21 (dk_at dksX1_lambda_muchOf_23_0 14 rfl rfl)
theorem dX1_lambda_muchOf_23_17 : decode cX1_lambda_muchOf_23 17 = .ok (.invokevirtual 290, 3) := dk_182 1 34 (dk_at dksX1_lambda_muchOf_23_0 17 rfl rfl)
theorem dX1_lambda_muchOf_23_20 : decode cX1_lambda_muchOf_23 20 = .ok (.iload_n 1, 1) := dk_27 (dk_at dksX1_lambda_muchOf_23_0 20 rfl rfl)
theorem dX1_lambda_muchOf_23_21 : decode cX1_lambda_muchOf_23 21 = .ok (.if_icmp .ne 7, 3) := dk_160 0 7 (dk_at dksX1_lambda_muchOf_23_0 21 rfl rfl)
theorem dX1_lambda_muchOf_23_24 : decode cX1_lambda_muchOf_23 24 = .ok (.iconst 1, 1) := dk_4 (dk_at dksX1_lambda_muchOf_23_1 0 rfl rfl)
theorem dX1_lambda_muchOf_23_25 : decode cX1_lambda_muchOf_23 25 = .ok (.goto 4, 3) := dk_167 0 4 (dk_at dksX1_lambda_muchOf_23_1 1 rfl rfl)
theorem dX1_lambda_muchOf_23_28 : decode cX1_lambda_muchOf_23 28 = .ok (.iconst 0, 1) := dk_3 (dk_at dksX1_lambda_muchOf_23_1 4 rfl rfl)
theorem dX1_lambda_muchOf_23_29 : decode cX1_lambda_muchOf_23 29 = .ok (.ireturn, 1) := dk_172 (dk_at dksX1_lambda_muchOf_23_1 5 rfl rfl)
abbrev cX1_lambda_muchOf_24 : ByteArray := prog_1_method_90_code
def yX1_lambda_muchOf_24 : MethodName := ⟨RX1, "lambda$muchOf$24", "(II)Z"⟩
def dkwX1_lambda_muchOf_24_1 : List UInt8 := [167, 0, 4, 3, 172]
abbrev dktX1_lambda_muchOf_24_1 : List UInt8 := dkwX1_lambda_muchOf_24_1 ++ []
def dkwX1_lambda_muchOf_24_0 : List UInt8 := [42, 180, 0, 70, 28, 182, 0, 250, 153, 0, 19, 42, 28, 182, 0, 234, 180, 0, 241, 27, 160, 0, 7, 4]
abbrev dktX1_lambda_muchOf_24_0 : List UInt8 := dkwX1_lambda_muchOf_24_0 ++ dktX1_lambda_muchOf_24_1
theorem dksX1_lambda_muchOf_24_0 : cX1_lambda_muchOf_24.data.toList.drop 0 = dktX1_lambda_muchOf_24_0 := by decide +kernel
theorem dksX1_lambda_muchOf_24_1 : cX1_lambda_muchOf_24.data.toList.drop 24 = dktX1_lambda_muchOf_24_1 := dk_seg dksX1_lambda_muchOf_24_0 24 rfl rfl
theorem dX1_lambda_muchOf_24_0 : decode cX1_lambda_muchOf_24 0 = .ok (.aload_n 0, 1) := dk_42 (dk_at dksX1_lambda_muchOf_24_0 0 rfl rfl)
theorem dX1_lambda_muchOf_24_1 : decode cX1_lambda_muchOf_24 1 = .ok (.getfield 70, 3) := dk_180 0 70 (dk_at dksX1_lambda_muchOf_24_0 1 rfl rfl)
theorem dX1_lambda_muchOf_24_4 : decode cX1_lambda_muchOf_24 4 = .ok (.iload_n 2, 1) := dk_28 (dk_at dksX1_lambda_muchOf_24_0 4 rfl rfl)
theorem dX1_lambda_muchOf_24_5 : decode cX1_lambda_muchOf_24 5 = .ok (.invokevirtual 250, 3) := dk_182 0 250 (dk_at dksX1_lambda_muchOf_24_0 5 rfl rfl)
theorem dX1_lambda_muchOf_24_8 : decode cX1_lambda_muchOf_24 8 = .ok (.ifCond .eq 19, 3) := dk_153 0 19 (dk_at dksX1_lambda_muchOf_24_0 8 rfl rfl)
theorem dX1_lambda_muchOf_24_11 : decode cX1_lambda_muchOf_24 11 = .ok (.aload_n 0, 1) := dk_42 (dk_at dksX1_lambda_muchOf_24_0 11 rfl rfl)
theorem dX1_lambda_muchOf_24_12 : decode cX1_lambda_muchOf_24 12 = .ok (.iload_n 2, 1) := dk_28 (dk_at dksX1_lambda_muchOf_24_0 12 rfl rfl)
theorem dX1_lambda_muchOf_24_13 : decode cX1_lambda_muchOf_24 13 = .ok (.invokevirtual 234, 3) := dk_182 0 234 (dk_at dksX1_lambda_muchOf_24_0 13 rfl rfl)
theorem dX1_lambda_muchOf_24_16 : decode cX1_lambda_muchOf_24 16 = .ok (.getfield 241, 3) := dk_180 0 241 (dk_at dksX1_lambda_muchOf_24_0 16 rfl rfl)
theorem dX1_lambda_muchOf_24_19 : decode cX1_lambda_muchOf_24 19 = .ok (.iload_n 1, 1) := dk_27 (dk_at dksX1_lambda_muchOf_24_0 19 rfl rfl)
theorem dX1_lambda_muchOf_24_20 : decode cX1_lambda_muchOf_24 20 = .ok (.if_icmp .ne 7, 3) := dk_160 0 7 (dk_at dksX1_lambda_muchOf_24_0 20 rfl rfl)
theorem dX1_lambda_muchOf_24_23 : decode cX1_lambda_muchOf_24 23 = .ok (.iconst 1, 1) := dk_4 (dk_at dksX1_lambda_muchOf_24_0 23 rfl rfl)
theorem dX1_lambda_muchOf_24_24 : decode cX1_lambda_muchOf_24 24 = .ok (.goto 4, 3) := dk_167 0 4 (dk_at dksX1_lambda_muchOf_24_1 0 rfl rfl)
theorem dX1_lambda_muchOf_24_27 : decode cX1_lambda_muchOf_24 27 = .ok (.iconst 0, 1) := dk_3 (dk_at dksX1_lambda_muchOf_24_1 3 rfl rfl)
theorem dX1_lambda_muchOf_24_28 : decode cX1_lambda_muchOf_24 28 = .ok (.ireturn, 1) := dk_172 (dk_at dksX1_lambda_muchOf_24_1 4 rfl rfl)
abbrev cX1_envy : ByteArray := prog_1_method_57_code
def yX1_envy : MethodName := ⟨RX1, "envy", "(I)I"⟩
def dkwX1_envy_6 : List UInt8 := [4, 160, 0, 10, 29, 16, 8, 108, 167, 0, 7, 29, 16, 8, 112, 172]
abbrev dktX1_envy_6 : List UInt8 := dkwX1_envy_6 ++ []
def dkwX1_envy_5 : List UInt8 := [167, 255, 172, 27, 154, 0, 7, 28, 167, 0, 31, 28, 154, 0, 11, 42, 8, 182, 0, 174, 167, 0, 19, 27]
abbrev dktX1_envy_5 : List UInt8 := dkwX1_envy_5 ++ dktX1_envy_6
def dkwX1_envy_4 : List UInt8 := [21, 4, 104, 21, 5, 96, 167, 0, 4, 29, 62, 132, 2, 1, 132, 5, 1, 167, 255, 196, 132, 4, 1]
abbrev dktX1_envy_4 : List UInt8 := dkwX1_envy_4 ++ dktX1_envy_5
def dkwX1_envy_3 : List UInt8 := [153, 0, 37, 42, 21, 5, 21, 4, 182, 1, 222, 154, 0, 6, 167, 0, 23, 28, 154, 0, 14, 16, 8]
abbrev dktX1_envy_3 : List UInt8 := dkwX1_envy_3 ++ dktX1_envy_4
def dkwX1_envy_2 : List UInt8 := [96, 54, 5, 21, 5, 42, 180, 0, 51, 182, 0, 130, 162, 0, 54, 42, 21, 4, 21, 5, 182, 1, 222]
abbrev dktX1_envy_2 : List UInt8 := dkwX1_envy_2 ++ dktX1_envy_3
def dkwX1_envy_1 : List UInt8 := [2, 172, 3, 61, 2, 62, 3, 54, 4, 21, 4, 42, 180, 0, 51, 182, 0, 130, 162, 0, 78, 21, 4, 4]
abbrev dktX1_envy_1 : List UInt8 := dkwX1_envy_1 ++ dktX1_envy_2
def dkwX1_envy_0 : List UInt8 := [42, 27, 133, 9, 20, 1, 118, 184, 0, 134, 153, 0, 7, 3, 167, 0, 4, 4, 182, 0, 155, 154, 0, 5]
abbrev dktX1_envy_0 : List UInt8 := dkwX1_envy_0 ++ dktX1_envy_1
theorem dksX1_envy_0 : cX1_envy.data.toList.drop 0 = dktX1_envy_0 := by decide +kernel
theorem dksX1_envy_1 : cX1_envy.data.toList.drop 24 = dktX1_envy_1 := dk_seg dksX1_envy_0 24 rfl rfl
theorem dksX1_envy_2 : cX1_envy.data.toList.drop 48 = dktX1_envy_2 := dk_seg dksX1_envy_1 24 rfl rfl
theorem dksX1_envy_3 : cX1_envy.data.toList.drop 71 = dktX1_envy_3 := dk_seg dksX1_envy_2 23 rfl rfl
theorem dksX1_envy_4 : cX1_envy.data.toList.drop 94 = dktX1_envy_4 := dk_seg dksX1_envy_3 23 rfl rfl
theorem dksX1_envy_5 : cX1_envy.data.toList.drop 117 = dktX1_envy_5 := dk_seg dksX1_envy_4 23 rfl rfl
theorem dksX1_envy_6 : cX1_envy.data.toList.drop 141 = dktX1_envy_6 := dk_seg dksX1_envy_5 24 rfl rfl
theorem dX1_envy_0 : decode cX1_envy 0 = .ok (.aload_n 0, 1) := dk_42 (dk_at dksX1_envy_0 0 rfl rfl)
theorem dX1_envy_1 : decode cX1_envy 1 = .ok (.iload_n 1, 1) := dk_27 (dk_at dksX1_envy_0 1 rfl rfl)
theorem dX1_envy_2 : decode cX1_envy 2 = .ok (.i2l, 1) := dk_133 (dk_at dksX1_envy_0 2 rfl rfl)
theorem dX1_envy_3 : decode cX1_envy 3 = .ok (.lconst 0, 1) := dk_9 (dk_at dksX1_envy_0 3 rfl rfl)
theorem dX1_envy_4 : decode cX1_envy 4 = .ok (.ldc2_w 374, 3) := dk_20 1 118 (dk_at dksX1_envy_0 4 rfl rfl)
theorem dX1_envy_7 : decode cX1_envy 7 = .ok (.invokestatic 134, 3) := dk_184 0 134 (dk_at dksX1_envy_0 7 rfl rfl)
theorem dX1_envy_10 : decode cX1_envy 10 = .ok (.ifCond .eq 7, 3) := dk_153 0 7 (dk_at dksX1_envy_0 10 rfl rfl)
theorem dX1_envy_13 : decode cX1_envy 13 = .ok (.iconst 0, 1) := dk_3 (dk_at dksX1_envy_0 13 rfl rfl)
theorem dX1_envy_14 : decode cX1_envy 14 = .ok (.goto 4, 3) := dk_167 0 4 (dk_at dksX1_envy_0 14 rfl rfl)
theorem dX1_envy_17 : decode cX1_envy 17 = .ok (.iconst 1, 1) := dk_4 (dk_at dksX1_envy_0 17 rfl rfl)
theorem dX1_envy_18 : decode cX1_envy 18 = .ok (.invokevirtual 155, 3) := dk_182 0 155 (dk_at dksX1_envy_0 18 rfl rfl)
theorem dX1_envy_21 : decode cX1_envy 21 = .ok (.ifCond .ne 5, 3) := dk_154 0 5 (dk_at dksX1_envy_0 21 rfl rfl)
theorem dX1_envy_24 : decode cX1_envy 24 = .ok (.iconst (-1), 1) := dk_2 (dk_at dksX1_envy_1 0 rfl rfl)
theorem dX1_envy_25 : decode cX1_envy 25 = .ok (.ireturn, 1) := dk_172 (dk_at dksX1_envy_1 1 rfl rfl)
theorem dX1_envy_26 : decode cX1_envy 26 = .ok (.iconst 0, 1) := dk_3 (dk_at dksX1_envy_1 2 rfl rfl)
theorem dX1_envy_27 : decode cX1_envy 27 = .ok (.istore_n 2, 1) := dk_61 (dk_at dksX1_envy_1 3 rfl rfl)
theorem dX1_envy_28 : decode cX1_envy 28 = .ok (.iconst (-1), 1) := dk_2 (dk_at dksX1_envy_1 4 rfl rfl)
theorem dX1_envy_29 : decode cX1_envy 29 = .ok (.istore_n 3, 1) := dk_62 (dk_at dksX1_envy_1 5 rfl rfl)
theorem dX1_envy_30 : decode cX1_envy 30 = .ok (.iconst 0, 1) := dk_3 (dk_at dksX1_envy_1 6 rfl rfl)
theorem dX1_envy_31 : decode cX1_envy 31 = .ok (.istore 4, 2) := dk_54 4 (dk_at dksX1_envy_1 7 rfl rfl)
theorem dX1_envy_33 : decode cX1_envy 33 = .ok (.iload 4, 2) := dk_21 4 (dk_at dksX1_envy_1 9 rfl rfl)
theorem dX1_envy_35 : decode cX1_envy 35 = .ok (.aload_n 0, 1) := dk_42 (dk_at dksX1_envy_1 11 rfl rfl)
theorem dX1_envy_36 : decode cX1_envy 36 = .ok (.getfield 51, 3) := dk_180 0 51 (dk_at dksX1_envy_1 12 rfl rfl)
theorem dX1_envy_39 : decode cX1_envy 39 = .ok (.invokevirtual 130, 3) := dk_182 0 130 (dk_at dksX1_envy_1 15 rfl rfl)
theorem dX1_envy_42 : decode cX1_envy 42 = .ok (.if_icmp .ge 78, 3) := dk_162 0 78 (dk_at dksX1_envy_1 18 rfl rfl)
theorem dX1_envy_45 : decode cX1_envy 45 = .ok (.iload 4, 2) := dk_21 4 (dk_at dksX1_envy_1 21 rfl rfl)
theorem dX1_envy_47 : decode cX1_envy 47 = .ok (.iconst 1, 1) := dk_4 (dk_at dksX1_envy_1 23 rfl rfl)
theorem dX1_envy_48 : decode cX1_envy 48 = .ok (.iadd, 1) := dk_96 (dk_at dksX1_envy_2 0 rfl rfl)
theorem dX1_envy_49 : decode cX1_envy 49 = .ok (.istore 5, 2) := dk_54 5 (dk_at dksX1_envy_2 1 rfl rfl)
theorem dX1_envy_51 : decode cX1_envy 51 = .ok (.iload 5, 2) := dk_21 5 (dk_at dksX1_envy_2 3 rfl rfl)
theorem dX1_envy_53 : decode cX1_envy 53 = .ok (.aload_n 0, 1) := dk_42 (dk_at dksX1_envy_2 5 rfl rfl)
theorem dX1_envy_54 : decode cX1_envy 54 = .ok (.getfield 51, 3) := dk_180 0 51 (dk_at dksX1_envy_2 6 rfl rfl)
theorem dX1_envy_57 : decode cX1_envy 57 = .ok (.invokevirtual 130, 3) := dk_182 0 130 (dk_at dksX1_envy_2 9 rfl rfl)
theorem dX1_envy_60 : decode cX1_envy 60 = .ok (.if_icmp .ge 54, 3) := dk_162 0 54 (dk_at dksX1_envy_2 12 rfl rfl)
theorem dX1_envy_63 : decode cX1_envy 63 = .ok (.aload_n 0, 1) := dk_42 (dk_at dksX1_envy_2 15 rfl rfl)
theorem dX1_envy_64 : decode cX1_envy 64 = .ok (.iload 4, 2) := dk_21 4 (dk_at dksX1_envy_2 16 rfl rfl)
theorem dX1_envy_66 : decode cX1_envy 66 = .ok (.iload 5, 2) := dk_21 5 (dk_at dksX1_envy_2 18 rfl rfl)
theorem dX1_envy_68 : decode cX1_envy 68 = .ok (.invokevirtual 478, 3) := dk_182 1 222 (dk_at dksX1_envy_2 20 rfl rfl)
theorem dX1_envy_71 : decode cX1_envy 71 = .ok (.ifCond .eq 37, 3) := dk_153 0 37 (dk_at dksX1_envy_3 0 rfl rfl)
theorem dX1_envy_74 : decode cX1_envy 74 = .ok (.aload_n 0, 1) := dk_42 (dk_at dksX1_envy_3 3 rfl rfl)
theorem dX1_envy_75 : decode cX1_envy 75 = .ok (.iload 5, 2) := dk_21 5 (dk_at dksX1_envy_3 4 rfl rfl)
theorem dX1_envy_77 : decode cX1_envy 77 = .ok (.iload 4, 2) := dk_21 4 (dk_at dksX1_envy_3 6 rfl rfl)
theorem dX1_envy_79 : decode cX1_envy 79 = .ok (.invokevirtual 478, 3) := dk_182 1 222 (dk_at dksX1_envy_3 8 rfl rfl)
theorem dX1_envy_82 : decode cX1_envy 82 = .ok (.ifCond .ne 6, 3) := dk_154 0 6 (dk_at dksX1_envy_3 11 rfl rfl)
theorem dX1_envy_85 : decode cX1_envy 85 = .ok (.goto 23, 3) := dk_167 0 23 (dk_at dksX1_envy_3 14 rfl rfl)
theorem dX1_envy_88 : decode cX1_envy 88 = .ok (.iload_n 2, 1) := dk_28 (dk_at dksX1_envy_3 17 rfl rfl)
theorem dX1_envy_89 : decode cX1_envy 89 = .ok (.ifCond .ne 14, 3) := dk_154 0 14 (dk_at dksX1_envy_3 18 rfl rfl)
theorem dX1_envy_92 : decode cX1_envy 92 = .ok (.bipush 8, 2) := dk_16 8 (dk_at dksX1_envy_3 21 rfl rfl)
theorem dX1_envy_94 : decode cX1_envy 94 = .ok (.iload 4, 2) := dk_21 4 (dk_at dksX1_envy_4 0 rfl rfl)
theorem dX1_envy_96 : decode cX1_envy 96 = .ok (.imul, 1) := dk_104 (dk_at dksX1_envy_4 2 rfl rfl)
theorem dX1_envy_97 : decode cX1_envy 97 = .ok (.iload 5, 2) := dk_21 5 (dk_at dksX1_envy_4 3 rfl rfl)
theorem dX1_envy_99 : decode cX1_envy 99 = .ok (.iadd, 1) := dk_96 (dk_at dksX1_envy_4 5 rfl rfl)
theorem dX1_envy_100 : decode cX1_envy 100 = .ok (.goto 4, 3) := dk_167 0 4 (dk_at dksX1_envy_4 6 rfl rfl)
theorem dX1_envy_103 : decode cX1_envy 103 = .ok (.iload_n 3, 1) := dk_29 (dk_at dksX1_envy_4 9 rfl rfl)
theorem dX1_envy_104 : decode cX1_envy 104 = .ok (.istore_n 3, 1) := dk_62 (dk_at dksX1_envy_4 10 rfl rfl)
theorem dX1_envy_105 : decode cX1_envy 105 = .ok (.iinc 2 1, 3) := dk_132 2 1 (dk_at dksX1_envy_4 11 rfl rfl)
theorem dX1_envy_108 : decode cX1_envy 108 = .ok (.iinc 5 1, 3) := dk_132 5 1 (dk_at dksX1_envy_4 14 rfl rfl)
theorem dX1_envy_111 : decode cX1_envy 111 = .ok (.goto (-60), 3) := dk_167 255 196 (dk_at dksX1_envy_4 17 rfl rfl)
theorem dX1_envy_114 : decode cX1_envy 114 = .ok (.iinc 4 1, 3) := dk_132 4 1 (dk_at dksX1_envy_4 20 rfl rfl)
theorem dX1_envy_117 : decode cX1_envy 117 = .ok (.goto (-84), 3) := dk_167 255 172 (dk_at dksX1_envy_5 0 rfl rfl)
theorem dX1_envy_120 : decode cX1_envy 120 = .ok (.iload_n 1, 1) := dk_27 (dk_at dksX1_envy_5 3 rfl rfl)
theorem dX1_envy_121 : decode cX1_envy 121 = .ok (.ifCond .ne 7, 3) := dk_154 0 7 (dk_at dksX1_envy_5 4 rfl rfl)
theorem dX1_envy_124 : decode cX1_envy 124 = .ok (.iload_n 2, 1) := dk_28 (dk_at dksX1_envy_5 7 rfl rfl)
theorem dX1_envy_125 : decode cX1_envy 125 = .ok (.goto 31, 3) := dk_167 0 31 (dk_at dksX1_envy_5 8 rfl rfl)
theorem dX1_envy_128 : decode cX1_envy 128 = .ok (.iload_n 2, 1) := dk_28 (dk_at dksX1_envy_5 11 rfl rfl)
theorem dX1_envy_129 : decode cX1_envy 129 = .ok (.ifCond .ne 11, 3) := dk_154 0 11 (dk_at dksX1_envy_5 12 rfl rfl)
theorem dX1_envy_132 : decode cX1_envy 132 = .ok (.aload_n 0, 1) := dk_42 (dk_at dksX1_envy_5 15 rfl rfl)
theorem dX1_envy_133 : decode cX1_envy 133 = .ok (.iconst 5, 1) := dk_8 (dk_at dksX1_envy_5 16 rfl rfl)
theorem dX1_envy_134 : decode cX1_envy 134 = .ok (.invokevirtual 174, 3) := dk_182 0 174 (dk_at dksX1_envy_5 17 rfl rfl)
theorem dX1_envy_137 : decode cX1_envy 137 = .ok (.goto 19, 3) := dk_167 0 19 (dk_at dksX1_envy_5 20 rfl rfl)
theorem dX1_envy_140 : decode cX1_envy 140 = .ok (.iload_n 1, 1) := dk_27 (dk_at dksX1_envy_5 23 rfl rfl)
theorem dX1_envy_141 : decode cX1_envy 141 = .ok (.iconst 1, 1) := dk_4 (dk_at dksX1_envy_6 0 rfl rfl)
theorem dX1_envy_142 : decode cX1_envy 142 = .ok (.if_icmp .ne 10, 3) := dk_160 0 10 (dk_at dksX1_envy_6 1 rfl rfl)
theorem dX1_envy_145 : decode cX1_envy 145 = .ok (.iload_n 3, 1) := dk_29 (dk_at dksX1_envy_6 4 rfl rfl)
theorem dX1_envy_146 : decode cX1_envy 146 = .ok (.bipush 8, 2) := dk_16 8 (dk_at dksX1_envy_6 5 rfl rfl)
theorem dX1_envy_148 : decode cX1_envy 148 = .ok (.idiv, 1) := dk_108 (dk_at dksX1_envy_6 7 rfl rfl)
theorem dX1_envy_149 : decode cX1_envy 149 = .ok (.goto 7, 3) := dk_167 0 7 (dk_at dksX1_envy_6 8 rfl rfl)
theorem dX1_envy_152 : decode cX1_envy 152 = .ok (.iload_n 3, 1) := dk_29 (dk_at dksX1_envy_6 11 rfl rfl)
theorem dX1_envy_153 : decode cX1_envy 153 = .ok (.bipush 8, 2) := dk_16 8 (dk_at dksX1_envy_6 12 rfl rfl)
theorem dX1_envy_155 : decode cX1_envy 155 = .ok (.irem, 1) := dk_112 (dk_at dksX1_envy_6 14 rfl rfl)
theorem dX1_envy_156 : decode cX1_envy 156 = .ok (.ireturn, 1) := dk_172 (dk_at dksX1_envy_6 15 rfl rfl)
abbrev cX1_wouldRather : ByteArray := prog_1_method_56_code
def yX1_wouldRather : MethodName := ⟨RX1, "wouldRather", "(II)Z"⟩
def dkwX1_wouldRather_2 : List UInt8 := [21, 4, 182, 1, 219, 42, 27, 29, 182, 1, 219, 162, 0, 7, 4, 167, 0, 4, 3, 172]
abbrev dktX1_wouldRather_2 : List UInt8 := dkwX1_wouldRather_2 ++ []
def dkwX1_wouldRather_1 : List UInt8 := [155, 0, 41, 21, 4, 155, 0, 36, 42, 180, 0, 70, 27, 21, 4, 182, 1, 82, 153, 0, 23, 42, 27]
abbrev dktX1_wouldRather_1 : List UInt8 := dkwX1_wouldRather_1 ++ dktX1_wouldRather_2
def dkwX1_wouldRather_0 : List UInt8 := [42, 180, 0, 70, 180, 1, 40, 27, 46, 62, 42, 180, 0, 70, 180, 1, 40, 28, 46, 54, 4, 29]
abbrev dktX1_wouldRather_0 : List UInt8 := dkwX1_wouldRather_0 ++ dktX1_wouldRather_1
theorem dksX1_wouldRather_0 : cX1_wouldRather.data.toList.drop 0 = dktX1_wouldRather_0 := by decide +kernel
theorem dksX1_wouldRather_1 : cX1_wouldRather.data.toList.drop 22 = dktX1_wouldRather_1 := dk_seg dksX1_wouldRather_0 22 rfl rfl
theorem dksX1_wouldRather_2 : cX1_wouldRather.data.toList.drop 45 = dktX1_wouldRather_2 := dk_seg dksX1_wouldRather_1 23 rfl rfl
theorem dX1_wouldRather_0 : decode cX1_wouldRather 0 = .ok (.aload_n 0, 1) := dk_42 (dk_at dksX1_wouldRather_0 0 rfl rfl)
theorem dX1_wouldRather_1 : decode cX1_wouldRather 1 = .ok (.getfield 70, 3) := dk_180 0 70 (dk_at dksX1_wouldRather_0 1 rfl rfl)
theorem dX1_wouldRather_4 : decode cX1_wouldRather 4 = .ok (.getfield 296, 3) := dk_180 1 40 (dk_at dksX1_wouldRather_0 4 rfl rfl)
theorem dX1_wouldRather_7 : decode cX1_wouldRather 7 = .ok (.iload_n 1, 1) := dk_27 (dk_at dksX1_wouldRather_0 7 rfl rfl)
theorem dX1_wouldRather_8 : decode cX1_wouldRather 8 = .ok (.iaload, 1) := dk_46 (dk_at dksX1_wouldRather_0 8 rfl rfl)
theorem dX1_wouldRather_9 : decode cX1_wouldRather 9 = .ok (.istore_n 3, 1) := dk_62 (dk_at dksX1_wouldRather_0 9 rfl rfl)
theorem dX1_wouldRather_10 : decode cX1_wouldRather 10 = .ok (.aload_n 0, 1) := dk_42 (dk_at dksX1_wouldRather_0 10 rfl rfl)
theorem dX1_wouldRather_11 : decode cX1_wouldRather 11 = .ok (.getfield 70, 3) := dk_180 0 70 (dk_at dksX1_wouldRather_0 11 rfl rfl)
theorem dX1_wouldRather_14 : decode cX1_wouldRather 14 = .ok (.getfield 296, 3) := dk_180 1 40 (dk_at dksX1_wouldRather_0 14 rfl rfl)
theorem dX1_wouldRather_17 : decode cX1_wouldRather 17 = .ok (.iload_n 2, 1) := dk_28 (dk_at dksX1_wouldRather_0 17 rfl rfl)
theorem dX1_wouldRather_18 : decode cX1_wouldRather 18 = .ok (.iaload, 1) := dk_46 (dk_at dksX1_wouldRather_0 18 rfl rfl)
theorem dX1_wouldRather_19 : decode cX1_wouldRather 19 = .ok (.istore 4, 2) := dk_54 4 (dk_at dksX1_wouldRather_0 19 rfl rfl)
theorem dX1_wouldRather_21 : decode cX1_wouldRather 21 = .ok (.iload_n 3, 1) := dk_29 (dk_at dksX1_wouldRather_0 21 rfl rfl)
theorem dX1_wouldRather_22 : decode cX1_wouldRather 22 = .ok (.ifCond .lt 41, 3) := dk_155 0 41 (dk_at dksX1_wouldRather_1 0 rfl rfl)
theorem dX1_wouldRather_25 : decode cX1_wouldRather 25 = .ok (.iload 4, 2) := dk_21 4 (dk_at dksX1_wouldRather_1 3 rfl rfl)
theorem dX1_wouldRather_27 : decode cX1_wouldRather 27 = .ok (.ifCond .lt 36, 3) := dk_155 0 36 (dk_at dksX1_wouldRather_1 5 rfl rfl)
theorem dX1_wouldRather_30 : decode cX1_wouldRather 30 = .ok (.aload_n 0, 1) := dk_42 (dk_at dksX1_wouldRather_1 8 rfl rfl)
theorem dX1_wouldRather_31 : decode cX1_wouldRather 31 = .ok (.getfield 70, 3) := dk_180 0 70 (dk_at dksX1_wouldRather_1 9 rfl rfl)
theorem dX1_wouldRather_34 : decode cX1_wouldRather 34 = .ok (.iload_n 1, 1) := dk_27 (dk_at dksX1_wouldRather_1 12 rfl rfl)
theorem dX1_wouldRather_35 : decode cX1_wouldRather 35 = .ok (.iload 4, 2) := dk_21 4 (dk_at dksX1_wouldRather_1 13 rfl rfl)
theorem dX1_wouldRather_37 : decode cX1_wouldRather 37 = .ok (.invokevirtual 338, 3) := dk_182 1 82 (dk_at dksX1_wouldRather_1 15 rfl rfl)
theorem dX1_wouldRather_40 : decode cX1_wouldRather 40 = .ok (.ifCond .eq 23, 3) := dk_153 0 23 (dk_at dksX1_wouldRather_1 18 rfl rfl)
theorem dX1_wouldRather_43 : decode cX1_wouldRather 43 = .ok (.aload_n 0, 1) := dk_42 (dk_at dksX1_wouldRather_1 21 rfl rfl)
theorem dX1_wouldRather_44 : decode cX1_wouldRather 44 = .ok (.iload_n 1, 1) := dk_27 (dk_at dksX1_wouldRather_1 22 rfl rfl)
theorem dX1_wouldRather_45 : decode cX1_wouldRather 45 = .ok (.iload 4, 2) := dk_21 4 (dk_at dksX1_wouldRather_2 0 rfl rfl)
theorem dX1_wouldRather_47 : decode cX1_wouldRather 47 = .ok (.invokevirtual 475, 3) := dk_182 1 219 (dk_at dksX1_wouldRather_2 2 rfl rfl)
theorem dX1_wouldRather_50 : decode cX1_wouldRather 50 = .ok (.aload_n 0, 1) := dk_42 (dk_at dksX1_wouldRather_2 5 rfl rfl)
theorem dX1_wouldRather_51 : decode cX1_wouldRather 51 = .ok (.iload_n 1, 1) := dk_27 (dk_at dksX1_wouldRather_2 6 rfl rfl)
theorem dX1_wouldRather_52 : decode cX1_wouldRather 52 = .ok (.iload_n 3, 1) := dk_29 (dk_at dksX1_wouldRather_2 7 rfl rfl)
theorem dX1_wouldRather_53 : decode cX1_wouldRather 53 = .ok (.invokevirtual 475, 3) := dk_182 1 219 (dk_at dksX1_wouldRather_2 8 rfl rfl)
theorem dX1_wouldRather_56 : decode cX1_wouldRather 56 = .ok (.if_icmp .ge 7, 3) := dk_162 0 7 (dk_at dksX1_wouldRather_2 11 rfl rfl)
theorem dX1_wouldRather_59 : decode cX1_wouldRather 59 = .ok (.iconst 1, 1) := dk_4 (dk_at dksX1_wouldRather_2 14 rfl rfl)
theorem dX1_wouldRather_60 : decode cX1_wouldRather 60 = .ok (.goto 4, 3) := dk_167 0 4 (dk_at dksX1_wouldRather_2 15 rfl rfl)
theorem dX1_wouldRather_63 : decode cX1_wouldRather 63 = .ok (.iconst 0, 1) := dk_3 (dk_at dksX1_wouldRather_2 18 rfl rfl)
theorem dX1_wouldRather_64 : decode cX1_wouldRather 64 = .ok (.ireturn, 1) := dk_172 (dk_at dksX1_wouldRather_2 19 rfl rfl)
abbrev cX1_wishOf : ByteArray := prog_1_method_55_code
def yX1_wishOf : MethodName := ⟨RX1, "wishOf", "(II)I"⟩
def dkwX1_wishOf_0 : List UInt8 := [42, 180, 0, 70, 27, 28, 182, 1, 213, 153, 0, 12, 42, 27, 28, 182, 1, 216, 167, 0, 5, 16, 6, 172]
abbrev dktX1_wishOf_0 : List UInt8 := dkwX1_wishOf_0 ++ []
theorem dksX1_wishOf_0 : cX1_wishOf.data.toList.drop 0 = dktX1_wishOf_0 := by decide +kernel
theorem dX1_wishOf_0 : decode cX1_wishOf 0 = .ok (.aload_n 0, 1) := dk_42 (dk_at dksX1_wishOf_0 0 rfl rfl)
theorem dX1_wishOf_1 : decode cX1_wishOf 1 = .ok (.getfield 70, 3) := dk_180 0 70 (dk_at dksX1_wishOf_0 1 rfl rfl)
theorem dX1_wishOf_4 : decode cX1_wishOf 4 = .ok (.iload_n 1, 1) := dk_27 (dk_at dksX1_wishOf_0 4 rfl rfl)
theorem dX1_wishOf_5 : decode cX1_wishOf 5 = .ok (.iload_n 2, 1) := dk_28 (dk_at dksX1_wishOf_0 5 rfl rfl)
theorem dX1_wishOf_6 : decode cX1_wishOf 6 = .ok (.invokevirtual 469, 3) := dk_182 1 213 (dk_at dksX1_wishOf_0 6 rfl rfl)
theorem dX1_wishOf_9 : decode cX1_wishOf 9 = .ok (.ifCond .eq 12, 3) := dk_153 0 12 (dk_at dksX1_wishOf_0 9 rfl rfl)
theorem dX1_wishOf_12 : decode cX1_wishOf 12 = .ok (.aload_n 0, 1) := dk_42 (dk_at dksX1_wishOf_0 12 rfl rfl)
theorem dX1_wishOf_13 : decode cX1_wishOf 13 = .ok (.iload_n 1, 1) := dk_27 (dk_at dksX1_wishOf_0 13 rfl rfl)
theorem dX1_wishOf_14 : decode cX1_wishOf 14 = .ok (.iload_n 2, 1) := dk_28 (dk_at dksX1_wishOf_0 14 rfl rfl)
theorem dX1_wishOf_15 : decode cX1_wishOf 15 = .ok (.invokevirtual 472, 3) := dk_182 1 216 (dk_at dksX1_wishOf_0 15 rfl rfl)
theorem dX1_wishOf_18 : decode cX1_wishOf 18 = .ok (.goto 5, 3) := dk_167 0 5 (dk_at dksX1_wishOf_0 18 rfl rfl)
theorem dX1_wishOf_21 : decode cX1_wishOf 21 = .ok (.bipush 6, 2) := dk_16 6 (dk_at dksX1_wishOf_0 21 rfl rfl)
theorem dX1_wishOf_23 : decode cX1_wishOf 23 = .ok (.ireturn, 1) := dk_172 (dk_at dksX1_wishOf_0 23 rfl rfl)
abbrev cX1_lever : ByteArray := prog_1_method_59_code
def yX1_lever : MethodName := ⟨RX1, "lever", "(II)I"⟩
def dkwX1_lever_7 : List UInt8 := [167, 0, 5, 21, 5, 172]
abbrev dktX1_lever_7 : List UInt8 := dkwX1_lever_7 ++ []
def dkwX1_lever_6 : List UInt8 := [167, 255, 175, 132, 6, 1, 167, 255, 159, 28, 154, 0, 7, 29, 167, 0, 15, 28, 4, 160, 0, 8, 21, 4]
abbrev dktX1_lever_6 : List UInt8 := dkwX1_lever_6 ++ dktX1_lever_7
def dkwX1_lever_5 : List UInt8 := [21, 9, 29, 163, 0, 6, 167, 0, 14, 21, 9, 62, 21, 6, 54, 4, 21, 8, 54, 5, 132, 7, 2]
abbrev dktX1_lever_5 : List UInt8 := dkwX1_lever_5 ++ dktX1_lever_6
def dkwX1_lever_4 : List UInt8 := [21, 6, 46, 133, 184, 0, 134, 154, 0, 6, 167, 0, 34, 42, 27, 21, 6, 21, 8, 182, 1, 231, 54, 9]
abbrev dktX1_lever_4 : List UInt8 := dkwX1_lever_4 ++ dktX1_lever_5
def dkwX1_lever_3 : List UInt8 := [180, 1, 60, 21, 6, 46, 21, 7, 96, 54, 8, 21, 8, 133, 178, 1, 225, 21, 6, 46, 133, 178, 1, 228]
abbrev dktX1_lever_3 : List UInt8 := dkwX1_lever_3 ++ dktX1_lever_4
def dkwX1_lever_2 : List UInt8 := [3, 54, 6, 21, 6, 16, 6, 162, 0, 96, 2, 54, 7, 21, 7, 5, 162, 0, 81, 42, 180, 0, 70]
abbrev dktX1_lever_2 : List UInt8 := dkwX1_lever_2 ++ dktX1_lever_3
def dkwX1_lever_1 : List UInt8 := [154, 0, 7, 4, 167, 0, 4, 3, 182, 0, 155, 154, 0, 5, 2, 172, 2, 62, 3, 54, 4, 3, 54, 5]
abbrev dktX1_lever_1 : List UInt8 := dkwX1_lever_1 ++ dktX1_lever_2
def dkwX1_lever_0 : List UInt8 := [42, 27, 133, 10, 20, 1, 138, 184, 0, 134, 153, 0, 15, 28, 133, 9, 20, 1, 118, 184, 0, 134]
abbrev dktX1_lever_0 : List UInt8 := dkwX1_lever_0 ++ dktX1_lever_1
theorem dksX1_lever_0 : cX1_lever.data.toList.drop 0 = dktX1_lever_0 := by decide +kernel
theorem dksX1_lever_1 : cX1_lever.data.toList.drop 22 = dktX1_lever_1 := dk_seg dksX1_lever_0 22 rfl rfl
theorem dksX1_lever_2 : cX1_lever.data.toList.drop 46 = dktX1_lever_2 := dk_seg dksX1_lever_1 24 rfl rfl
theorem dksX1_lever_3 : cX1_lever.data.toList.drop 69 = dktX1_lever_3 := dk_seg dksX1_lever_2 23 rfl rfl
theorem dksX1_lever_4 : cX1_lever.data.toList.drop 93 = dktX1_lever_4 := dk_seg dksX1_lever_3 24 rfl rfl
theorem dksX1_lever_5 : cX1_lever.data.toList.drop 117 = dktX1_lever_5 := dk_seg dksX1_lever_4 24 rfl rfl
theorem dksX1_lever_6 : cX1_lever.data.toList.drop 140 = dktX1_lever_6 := dk_seg dksX1_lever_5 23 rfl rfl
theorem dksX1_lever_7 : cX1_lever.data.toList.drop 164 = dktX1_lever_7 := dk_seg dksX1_lever_6 24 rfl rfl
theorem dX1_lever_0 : decode cX1_lever 0 = .ok (.aload_n 0, 1) := dk_42 (dk_at dksX1_lever_0 0 rfl rfl)
theorem dX1_lever_1 : decode cX1_lever 1 = .ok (.iload_n 1, 1) := dk_27 (dk_at dksX1_lever_0 1 rfl rfl)
theorem dX1_lever_2 : decode cX1_lever 2 = .ok (.i2l, 1) := dk_133 (dk_at dksX1_lever_0 2 rfl rfl)
theorem dX1_lever_3 : decode cX1_lever 3 = .ok (.lconst 1, 1) := dk_10 (dk_at dksX1_lever_0 3 rfl rfl)
theorem dX1_lever_4 : decode cX1_lever 4 = .ok (.ldc2_w 394, 3) := dk_20 1 138 (dk_at dksX1_lever_0 4 rfl rfl)
theorem dX1_lever_7 : decode cX1_lever 7 = .ok (.invokestatic 134, 3) := dk_184 0 134 (dk_at dksX1_lever_0 7 rfl rfl)
theorem dX1_lever_10 : decode cX1_lever 10 = .ok (.ifCond .eq 15, 3) := dk_153 0 15 (dk_at dksX1_lever_0 10 rfl rfl)
theorem dX1_lever_13 : decode cX1_lever 13 = .ok (.iload_n 2, 1) := dk_28 (dk_at dksX1_lever_0 13 rfl rfl)
theorem dX1_lever_14 : decode cX1_lever 14 = .ok (.i2l, 1) := dk_133 (dk_at dksX1_lever_0 14 rfl rfl)
theorem dX1_lever_15 : decode cX1_lever 15 = .ok (.lconst 0, 1) := dk_9 (dk_at dksX1_lever_0 15 rfl rfl)
theorem dX1_lever_16 : decode cX1_lever 16 = .ok (.ldc2_w 374, 3) := dk_20 1 118 (dk_at dksX1_lever_0 16 rfl rfl)
theorem dX1_lever_19 : decode cX1_lever 19 = .ok (.invokestatic 134, 3) := dk_184 0 134 (dk_at dksX1_lever_0 19 rfl rfl)
theorem dX1_lever_22 : decode cX1_lever 22 = .ok (.ifCond .ne 7, 3) := dk_154 0 7 (dk_at dksX1_lever_1 0 rfl rfl)
theorem dX1_lever_25 : decode cX1_lever 25 = .ok (.iconst 1, 1) := dk_4 (dk_at dksX1_lever_1 3 rfl rfl)
theorem dX1_lever_26 : decode cX1_lever 26 = .ok (.goto 4, 3) := dk_167 0 4 (dk_at dksX1_lever_1 4 rfl rfl)
theorem dX1_lever_29 : decode cX1_lever 29 = .ok (.iconst 0, 1) := dk_3 (dk_at dksX1_lever_1 7 rfl rfl)
theorem dX1_lever_30 : decode cX1_lever 30 = .ok (.invokevirtual 155, 3) := dk_182 0 155 (dk_at dksX1_lever_1 8 rfl rfl)
theorem dX1_lever_33 : decode cX1_lever 33 = .ok (.ifCond .ne 5, 3) := dk_154 0 5 (dk_at dksX1_lever_1 11 rfl rfl)
theorem dX1_lever_36 : decode cX1_lever 36 = .ok (.iconst (-1), 1) := dk_2 (dk_at dksX1_lever_1 14 rfl rfl)
theorem dX1_lever_37 : decode cX1_lever 37 = .ok (.ireturn, 1) := dk_172 (dk_at dksX1_lever_1 15 rfl rfl)
theorem dX1_lever_38 : decode cX1_lever 38 = .ok (.iconst (-1), 1) := dk_2 (dk_at dksX1_lever_1 16 rfl rfl)
theorem dX1_lever_39 : decode cX1_lever 39 = .ok (.istore_n 3, 1) := dk_62 (dk_at dksX1_lever_1 17 rfl rfl)
theorem dX1_lever_40 : decode cX1_lever 40 = .ok (.iconst 0, 1) := dk_3 (dk_at dksX1_lever_1 18 rfl rfl)
theorem dX1_lever_41 : decode cX1_lever 41 = .ok (.istore 4, 2) := dk_54 4 (dk_at dksX1_lever_1 19 rfl rfl)
theorem dX1_lever_43 : decode cX1_lever 43 = .ok (.iconst 0, 1) := dk_3 (dk_at dksX1_lever_1 21 rfl rfl)
theorem dX1_lever_44 : decode cX1_lever 44 = .ok (.istore 5, 2) := dk_54 5 (dk_at dksX1_lever_1 22 rfl rfl)
theorem dX1_lever_46 : decode cX1_lever 46 = .ok (.iconst 0, 1) := dk_3 (dk_at dksX1_lever_2 0 rfl rfl)
theorem dX1_lever_47 : decode cX1_lever 47 = .ok (.istore 6, 2) := dk_54 6 (dk_at dksX1_lever_2 1 rfl rfl)
theorem dX1_lever_49 : decode cX1_lever 49 = .ok (.iload 6, 2) := dk_21 6 (dk_at dksX1_lever_2 3 rfl rfl)
theorem dX1_lever_51 : decode cX1_lever 51 = .ok (.bipush 6, 2) := dk_16 6 (dk_at dksX1_lever_2 5 rfl rfl)
theorem dX1_lever_53 : decode cX1_lever 53 = .ok (.if_icmp .ge 96, 3) := dk_162 0 96 (dk_at dksX1_lever_2 7 rfl rfl)
theorem dX1_lever_56 : decode cX1_lever 56 = .ok (.iconst (-1), 1) := dk_2 (dk_at dksX1_lever_2 10 rfl rfl)
theorem dX1_lever_57 : decode cX1_lever 57 = .ok (.istore 7, 2) := dk_54 7 (dk_at dksX1_lever_2 11 rfl rfl)
theorem dX1_lever_59 : decode cX1_lever 59 = .ok (.iload 7, 2) := dk_21 7 (dk_at dksX1_lever_2 13 rfl rfl)
theorem dX1_lever_61 : decode cX1_lever 61 = .ok (.iconst 2, 1) := dk_5 (dk_at dksX1_lever_2 15 rfl rfl)
theorem dX1_lever_62 : decode cX1_lever 62 = .ok (.if_icmp .ge 81, 3) := dk_162 0 81 (dk_at dksX1_lever_2 16 rfl rfl)
theorem dX1_lever_65 : decode cX1_lever 65 = .ok (.aload_n 0, 1) := dk_42 (dk_at dksX1_lever_2 19 rfl rfl)
theorem dX1_lever_66 : decode cX1_lever 66 = .ok (.getfield 70, 3) := dk_180 0 70 (dk_at dksX1_lever_2 20 rfl rfl)
theorem dX1_lever_69 : decode cX1_lever 69 = .ok (.getfield 316, 3) := dk_180 1 60 (dk_at dksX1_lever_3 0 rfl rfl)
theorem dX1_lever_72 : decode cX1_lever 72 = .ok (.iload 6, 2) := dk_21 6 (dk_at dksX1_lever_3 3 rfl rfl)
theorem dX1_lever_74 : decode cX1_lever 74 = .ok (.iaload, 1) := dk_46 (dk_at dksX1_lever_3 5 rfl rfl)
theorem dX1_lever_75 : decode cX1_lever 75 = .ok (.iload 7, 2) := dk_21 7 (dk_at dksX1_lever_3 6 rfl rfl)
theorem dX1_lever_77 : decode cX1_lever 77 = .ok (.iadd, 1) := dk_96 (dk_at dksX1_lever_3 8 rfl rfl)
theorem dX1_lever_78 : decode cX1_lever 78 = .ok (.istore 8, 2) := dk_54 8 (dk_at dksX1_lever_3 9 rfl rfl)
theorem dX1_lever_80 : decode cX1_lever 80 = .ok (.iload 8, 2) := dk_21 8 (dk_at dksX1_lever_3 11 rfl rfl)
theorem dX1_lever_82 : decode cX1_lever 82 = .ok (.i2l, 1) := dk_133 (dk_at dksX1_lever_3 13 rfl rfl)
theorem dX1_lever_83 : decode cX1_lever 83 = .ok (.getstatic 481, 3) := dk_178 1 225 (dk_at dksX1_lever_3 14 rfl rfl)
theorem dX1_lever_86 : decode cX1_lever 86 = .ok (.iload 6, 2) := dk_21 6 (dk_at dksX1_lever_3 17 rfl rfl)
theorem dX1_lever_88 : decode cX1_lever 88 = .ok (.iaload, 1) := dk_46 (dk_at dksX1_lever_3 19 rfl rfl)
theorem dX1_lever_89 : decode cX1_lever 89 = .ok (.i2l, 1) := dk_133 (dk_at dksX1_lever_3 20 rfl rfl)
theorem dX1_lever_90 : decode cX1_lever 90 = .ok (.getstatic 484, 3) := dk_178 1 228 (dk_at dksX1_lever_3 21 rfl rfl)
theorem dX1_lever_93 : decode cX1_lever 93 = .ok (.iload 6, 2) := dk_21 6 (dk_at dksX1_lever_4 0 rfl rfl)
theorem dX1_lever_95 : decode cX1_lever 95 = .ok (.iaload, 1) := dk_46 (dk_at dksX1_lever_4 2 rfl rfl)
theorem dX1_lever_96 : decode cX1_lever 96 = .ok (.i2l, 1) := dk_133 (dk_at dksX1_lever_4 3 rfl rfl)
theorem dX1_lever_97 : decode cX1_lever 97 = .ok (.invokestatic 134, 3) := dk_184 0 134 (dk_at dksX1_lever_4 4 rfl rfl)
theorem dX1_lever_100 : decode cX1_lever 100 = .ok (.ifCond .ne 6, 3) := dk_154 0 6 (dk_at dksX1_lever_4 7 rfl rfl)
theorem dX1_lever_103 : decode cX1_lever 103 = .ok (.goto 34, 3) := dk_167 0 34 (dk_at dksX1_lever_4 10 rfl rfl)
theorem dX1_lever_106 : decode cX1_lever 106 = .ok (.aload_n 0, 1) := dk_42 (dk_at dksX1_lever_4 13 rfl rfl)
theorem dX1_lever_107 : decode cX1_lever 107 = .ok (.iload_n 1, 1) := dk_27 (dk_at dksX1_lever_4 14 rfl rfl)
theorem dX1_lever_108 : decode cX1_lever 108 = .ok (.iload 6, 2) := dk_21 6 (dk_at dksX1_lever_4 15 rfl rfl)
theorem dX1_lever_110 : decode cX1_lever 110 = .ok (.iload 8, 2) := dk_21 8 (dk_at dksX1_lever_4 17 rfl rfl)
theorem dX1_lever_112 : decode cX1_lever 112 = .ok (.invokevirtual 487, 3) := dk_182 1 231 (dk_at dksX1_lever_4 19 rfl rfl)
theorem dX1_lever_115 : decode cX1_lever 115 = .ok (.istore 9, 2) := dk_54 9 (dk_at dksX1_lever_4 22 rfl rfl)
theorem dX1_lever_117 : decode cX1_lever 117 = .ok (.iload 9, 2) := dk_21 9 (dk_at dksX1_lever_5 0 rfl rfl)
theorem dX1_lever_119 : decode cX1_lever 119 = .ok (.iload_n 3, 1) := dk_29 (dk_at dksX1_lever_5 2 rfl rfl)
theorem dX1_lever_120 : decode cX1_lever 120 = .ok (.if_icmp .gt 6, 3) := dk_163 0 6 (dk_at dksX1_lever_5 3 rfl rfl)
theorem dX1_lever_123 : decode cX1_lever 123 = .ok (.goto 14, 3) := dk_167 0 14 (dk_at dksX1_lever_5 6 rfl rfl)
theorem dX1_lever_126 : decode cX1_lever 126 = .ok (.iload 9, 2) := dk_21 9 (dk_at dksX1_lever_5 9 rfl rfl)
theorem dX1_lever_128 : decode cX1_lever 128 = .ok (.istore_n 3, 1) := dk_62 (dk_at dksX1_lever_5 11 rfl rfl)
theorem dX1_lever_129 : decode cX1_lever 129 = .ok (.iload 6, 2) := dk_21 6 (dk_at dksX1_lever_5 12 rfl rfl)
theorem dX1_lever_131 : decode cX1_lever 131 = .ok (.istore 4, 2) := dk_54 4 (dk_at dksX1_lever_5 14 rfl rfl)
theorem dX1_lever_133 : decode cX1_lever 133 = .ok (.iload 8, 2) := dk_21 8 (dk_at dksX1_lever_5 16 rfl rfl)
theorem dX1_lever_135 : decode cX1_lever 135 = .ok (.istore 5, 2) := dk_54 5 (dk_at dksX1_lever_5 18 rfl rfl)
theorem dX1_lever_137 : decode cX1_lever 137 = .ok (.iinc 7 2, 3) := dk_132 7 2 (dk_at dksX1_lever_5 20 rfl rfl)
theorem dX1_lever_140 : decode cX1_lever 140 = .ok (.goto (-81), 3) := dk_167 255 175 (dk_at dksX1_lever_6 0 rfl rfl)
theorem dX1_lever_143 : decode cX1_lever 143 = .ok (.iinc 6 1, 3) := dk_132 6 1 (dk_at dksX1_lever_6 3 rfl rfl)
theorem dX1_lever_146 : decode cX1_lever 146 = .ok (.goto (-97), 3) := dk_167 255 159 (dk_at dksX1_lever_6 6 rfl rfl)
theorem dX1_lever_149 : decode cX1_lever 149 = .ok (.iload_n 2, 1) := dk_28 (dk_at dksX1_lever_6 9 rfl rfl)
theorem dX1_lever_150 : decode cX1_lever 150 = .ok (.ifCond .ne 7, 3) := dk_154 0 7 (dk_at dksX1_lever_6 10 rfl rfl)
theorem dX1_lever_153 : decode cX1_lever 153 = .ok (.iload_n 3, 1) := dk_29 (dk_at dksX1_lever_6 13 rfl rfl)
theorem dX1_lever_154 : decode cX1_lever 154 = .ok (.goto 15, 3) := dk_167 0 15 (dk_at dksX1_lever_6 14 rfl rfl)
theorem dX1_lever_157 : decode cX1_lever 157 = .ok (.iload_n 2, 1) := dk_28 (dk_at dksX1_lever_6 17 rfl rfl)
theorem dX1_lever_158 : decode cX1_lever 158 = .ok (.iconst 1, 1) := dk_4 (dk_at dksX1_lever_6 18 rfl rfl)
theorem dX1_lever_159 : decode cX1_lever 159 = .ok (.if_icmp .ne 8, 3) := dk_160 0 8 (dk_at dksX1_lever_6 19 rfl rfl)
theorem dX1_lever_162 : decode cX1_lever 162 = .ok (.iload 4, 2) := dk_21 4 (dk_at dksX1_lever_6 22 rfl rfl)
theorem dX1_lever_164 : decode cX1_lever 164 = .ok (.goto 5, 3) := dk_167 0 5 (dk_at dksX1_lever_7 0 rfl rfl)
theorem dX1_lever_167 : decode cX1_lever 167 = .ok (.iload 5, 2) := dk_21 5 (dk_at dksX1_lever_7 3 rfl rfl)
theorem dX1_lever_169 : decode cX1_lever 169 = .ok (.ireturn, 1) := dk_172 (dk_at dksX1_lever_7 5 rfl rfl)
abbrev cX1_letsBy : ByteArray := prog_1_method_58_code
def yX1_letsBy : MethodName := ⟨RX1, "letsBy", "(III)I"⟩
def dkwX1_letsBy_2 : List UInt8 := [182, 0, 130, 100, 172]
abbrev dktX1_letsBy_2 : List UInt8 := dkwX1_letsBy_2 ++ []
def dkwX1_letsBy_1 : List UInt8 := [180, 0, 74, 27, 182, 1, 144, 42, 180, 0, 74, 180, 0, 204, 182, 0, 130, 42, 180, 0, 70, 180, 0, 204]
abbrev dktX1_letsBy_1 : List UInt8 := dkwX1_letsBy_1 ++ dktX1_letsBy_2
def dkwX1_letsBy_0 : List UInt8 := [42, 180, 0, 74, 42, 180, 0, 70, 182, 1, 140, 42, 180, 0, 74, 180, 1, 60, 28, 29, 79, 42]
abbrev dktX1_letsBy_0 : List UInt8 := dkwX1_letsBy_0 ++ dktX1_letsBy_1
theorem dksX1_letsBy_0 : cX1_letsBy.data.toList.drop 0 = dktX1_letsBy_0 := by decide +kernel
theorem dksX1_letsBy_1 : cX1_letsBy.data.toList.drop 22 = dktX1_letsBy_1 := dk_seg dksX1_letsBy_0 22 rfl rfl
theorem dksX1_letsBy_2 : cX1_letsBy.data.toList.drop 46 = dktX1_letsBy_2 := dk_seg dksX1_letsBy_1 24 rfl rfl
theorem dX1_letsBy_0 : decode cX1_letsBy 0 = .ok (.aload_n 0, 1) := dk_42 (dk_at dksX1_letsBy_0 0 rfl rfl)
theorem dX1_letsBy_1 : decode cX1_letsBy 1 = .ok (.getfield 74, 3) := dk_180 0 74 (dk_at dksX1_letsBy_0 1 rfl rfl)
theorem dX1_letsBy_4 : decode cX1_letsBy 4 = .ok (.aload_n 0, 1) := dk_42 (dk_at dksX1_letsBy_0 4 rfl rfl)
theorem dX1_letsBy_5 : decode cX1_letsBy 5 = .ok (.getfield 70, 3) := dk_180 0 70 (dk_at dksX1_letsBy_0 5 rfl rfl)
theorem dX1_letsBy_8 : decode cX1_letsBy 8 = .ok (.invokevirtual 396, 3) := dk_182 1 140 (dk_at dksX1_letsBy_0 8 rfl rfl)
theorem dX1_letsBy_11 : decode cX1_letsBy 11 = .ok (.aload_n 0, 1) := dk_42 (dk_at dksX1_letsBy_0 11 rfl rfl)
theorem dX1_letsBy_12 : decode cX1_letsBy 12 = .ok (.getfield 74, 3) := dk_180 0 74 (dk_at dksX1_letsBy_0 12 rfl rfl)
theorem dX1_letsBy_15 : decode cX1_letsBy 15 = .ok (.getfield 316, 3) := dk_180 1 60 (dk_at dksX1_letsBy_0 15 rfl rfl)
theorem dX1_letsBy_18 : decode cX1_letsBy 18 = .ok (.iload_n 2, 1) := dk_28 (dk_at dksX1_letsBy_0 18 rfl rfl)
theorem dX1_letsBy_19 : decode cX1_letsBy 19 = .ok (.iload_n 3, 1) := dk_29 (dk_at dksX1_letsBy_0 19 rfl rfl)
theorem dX1_letsBy_20 : decode cX1_letsBy 20 = .ok (.iastore, 1) := dk_79 (dk_at dksX1_letsBy_0 20 rfl rfl)
theorem dX1_letsBy_21 : decode cX1_letsBy 21 = .ok (.aload_n 0, 1) := dk_42 (dk_at dksX1_letsBy_0 21 rfl rfl)
theorem dX1_letsBy_22 : decode cX1_letsBy 22 = .ok (.getfield 74, 3) := dk_180 0 74 (dk_at dksX1_letsBy_1 0 rfl rfl)
theorem dX1_letsBy_25 : decode cX1_letsBy 25 = .ok (.iload_n 1, 1) := dk_27 (dk_at dksX1_letsBy_1 3 rfl rfl)
theorem dX1_letsBy_26 : decode cX1_letsBy 26 = .ok (.invokevirtual 400, 3) := dk_182 1 144 (dk_at dksX1_letsBy_1 4 rfl rfl)
theorem dX1_letsBy_29 : decode cX1_letsBy 29 = .ok (.aload_n 0, 1) := dk_42 (dk_at dksX1_letsBy_1 7 rfl rfl)
theorem dX1_letsBy_30 : decode cX1_letsBy 30 = .ok (.getfield 74, 3) := dk_180 0 74 (dk_at dksX1_letsBy_1 8 rfl rfl)
theorem dX1_letsBy_33 : decode cX1_letsBy 33 = .ok (.getfield 204, 3) := dk_180 0 204 (dk_at dksX1_letsBy_1 11 rfl rfl)
theorem dX1_letsBy_36 : decode cX1_letsBy 36 = .ok (.invokevirtual 130, 3) := dk_182 0 130 (dk_at dksX1_letsBy_1 14 rfl rfl)
theorem dX1_letsBy_39 : decode cX1_letsBy 39 = .ok (.aload_n 0, 1) := dk_42 (dk_at dksX1_letsBy_1 17 rfl rfl)
theorem dX1_letsBy_40 : decode cX1_letsBy 40 = .ok (.getfield 70, 3) := dk_180 0 70 (dk_at dksX1_letsBy_1 18 rfl rfl)
theorem dX1_letsBy_43 : decode cX1_letsBy 43 = .ok (.getfield 204, 3) := dk_180 0 204 (dk_at dksX1_letsBy_1 21 rfl rfl)
theorem dX1_letsBy_46 : decode cX1_letsBy 46 = .ok (.invokevirtual 130, 3) := dk_182 0 130 (dk_at dksX1_letsBy_2 0 rfl rfl)
theorem dX1_letsBy_49 : decode cX1_letsBy 49 = .ok (.isub, 1) := dk_100 (dk_at dksX1_letsBy_2 3 rfl rfl)
theorem dX1_letsBy_50 : decode cX1_letsBy 50 = .ok (.ireturn, 1) := dk_172 (dk_at dksX1_letsBy_2 4 rfl rfl)
abbrev cX1_queue : ByteArray := prog_1_method_60_code
def yX1_queue : MethodName := ⟨RX1, "queue", "(I)I"⟩
def dkwX1_queue_3 : List UInt8 := [4, 29, 120, 128, 79, 132, 4, 1, 167, 255, 203, 29, 172]
abbrev dktX1_queue_3 : List UInt8 := dkwX1_queue_3 ++ []
def dkwX1_queue_2 : List UInt8 := [180, 0, 70, 180, 1, 238, 184, 1, 172, 62, 29, 156, 0, 9, 42, 8, 182, 0, 174, 172, 44, 3, 92, 46]
abbrev dktX1_queue_2 : List UInt8 := dkwX1_queue_2 ++ dktX1_queue_3
def dkwX1_queue_1 : List UInt8 := [3, 54, 4, 21, 4, 27, 163, 0, 53, 42, 180, 0, 51, 182, 0, 130, 42, 44, 186, 1, 235, 0, 0, 42]
abbrev dktX1_queue_1 : List UInt8 := dkwX1_queue_1 ++ dktX1_queue_2
def dkwX1_queue_0 : List UInt8 := [42, 27, 156, 0, 7, 4, 167, 0, 4, 3, 182, 0, 155, 154, 0, 5, 2, 172, 4, 188, 10, 77, 2, 62]
abbrev dktX1_queue_0 : List UInt8 := dkwX1_queue_0 ++ dktX1_queue_1
theorem dksX1_queue_0 : cX1_queue.data.toList.drop 0 = dktX1_queue_0 := by decide +kernel
theorem dksX1_queue_1 : cX1_queue.data.toList.drop 24 = dktX1_queue_1 := dk_seg dksX1_queue_0 24 rfl rfl
theorem dksX1_queue_2 : cX1_queue.data.toList.drop 48 = dktX1_queue_2 := dk_seg dksX1_queue_1 24 rfl rfl
theorem dksX1_queue_3 : cX1_queue.data.toList.drop 72 = dktX1_queue_3 := dk_seg dksX1_queue_2 24 rfl rfl
theorem dX1_queue_0 : decode cX1_queue 0 = .ok (.aload_n 0, 1) := dk_42 (dk_at dksX1_queue_0 0 rfl rfl)
theorem dX1_queue_1 : decode cX1_queue 1 = .ok (.iload_n 1, 1) := dk_27 (dk_at dksX1_queue_0 1 rfl rfl)
theorem dX1_queue_2 : decode cX1_queue 2 = .ok (.ifCond .ge 7, 3) := dk_156 0 7 (dk_at dksX1_queue_0 2 rfl rfl)
theorem dX1_queue_5 : decode cX1_queue 5 = .ok (.iconst 1, 1) := dk_4 (dk_at dksX1_queue_0 5 rfl rfl)
theorem dX1_queue_6 : decode cX1_queue 6 = .ok (.goto 4, 3) := dk_167 0 4 (dk_at dksX1_queue_0 6 rfl rfl)
theorem dX1_queue_9 : decode cX1_queue 9 = .ok (.iconst 0, 1) := dk_3 (dk_at dksX1_queue_0 9 rfl rfl)
theorem dX1_queue_10 : decode cX1_queue 10 = .ok (.invokevirtual 155, 3) := dk_182 0 155 (dk_at dksX1_queue_0 10 rfl rfl)
theorem dX1_queue_13 : decode cX1_queue 13 = .ok (.ifCond .ne 5, 3) := dk_154 0 5 (dk_at dksX1_queue_0 13 rfl rfl)
theorem dX1_queue_16 : decode cX1_queue 16 = .ok (.iconst (-1), 1) := dk_2 (dk_at dksX1_queue_0 16 rfl rfl)
theorem dX1_queue_17 : decode cX1_queue 17 = .ok (.ireturn, 1) := dk_172 (dk_at dksX1_queue_0 17 rfl rfl)
theorem dX1_queue_18 : decode cX1_queue 18 = .ok (.iconst 1, 1) := dk_4 (dk_at dksX1_queue_0 18 rfl rfl)
theorem dX1_queue_19 : decode cX1_queue 19 = .ok (.newarray .int, 2) := dk_188_10 (dk_at dksX1_queue_0 19 rfl rfl)
theorem dX1_queue_21 : decode cX1_queue 21 = .ok (.astore_n 2, 1) := dk_77 (dk_at dksX1_queue_0 21 rfl rfl)
theorem dX1_queue_22 : decode cX1_queue 22 = .ok (.iconst (-1), 1) := dk_2 (dk_at dksX1_queue_0 22 rfl rfl)
theorem dX1_queue_23 : decode cX1_queue 23 = .ok (.istore_n 3, 1) := dk_62 (dk_at dksX1_queue_0 23 rfl rfl)
theorem dX1_queue_24 : decode cX1_queue 24 = .ok (.iconst 0, 1) := dk_3 (dk_at dksX1_queue_1 0 rfl rfl)
theorem dX1_queue_25 : decode cX1_queue 25 = .ok (.istore 4, 2) := dk_54 4 (dk_at dksX1_queue_1 1 rfl rfl)
theorem dX1_queue_27 : decode cX1_queue 27 = .ok (.iload 4, 2) := dk_21 4 (dk_at dksX1_queue_1 3 rfl rfl)
theorem dX1_queue_29 : decode cX1_queue 29 = .ok (.iload_n 1, 1) := dk_27 (dk_at dksX1_queue_1 5 rfl rfl)
theorem dX1_queue_30 : decode cX1_queue 30 = .ok (.if_icmp .gt 53, 3) := dk_163 0 53 (dk_at dksX1_queue_1 6 rfl rfl)
theorem dX1_queue_33 : decode cX1_queue 33 = .ok (.aload_n 0, 1) := dk_42 (dk_at dksX1_queue_1 9 rfl rfl)
theorem dX1_queue_34 : decode cX1_queue 34 = .ok (.getfield 51, 3) := dk_180 0 51 (dk_at dksX1_queue_1 10 rfl rfl)
theorem dX1_queue_37 : decode cX1_queue 37 = .ok (.invokevirtual 130, 3) := dk_182 0 130 (dk_at dksX1_queue_1 13 rfl rfl)
theorem dX1_queue_40 : decode cX1_queue 40 = .ok (.aload_n 0, 1) := dk_42 (dk_at dksX1_queue_1 16 rfl rfl)
theorem dX1_queue_41 : decode cX1_queue 41 = .ok (.aload_n 2, 1) := dk_44 (dk_at dksX1_queue_1 17 rfl rfl)
theorem dX1_queue_42 : decode cX1_queue 42 = .ok (.invokedynamic 491, 5) := by decide +kernel
theorem dX1_queue_47 : decode cX1_queue 47 = .ok (.aload_n 0, 1) := dk_42 (dk_at dksX1_queue_1 23 rfl rfl)
theorem dX1_queue_48 : decode cX1_queue 48 = .ok (.getfield 70, 3) := dk_180 0 70 (dk_at dksX1_queue_2 0 rfl rfl)
theorem dX1_queue_51 : decode cX1_queue 51 = .ok (.getfield 494, 3) := dk_180 1 238 (dk_at dksX1_queue_2 3 rfl rfl)
theorem dX1_queue_54 : decode cX1_queue 54 = .ok (.invokestatic 428, 3) := dk_184 1 172 (dk_at dksX1_queue_2 6 rfl rfl)
theorem dX1_queue_57 : decode cX1_queue 57 = .ok (.istore_n 3, 1) := dk_62 (dk_at dksX1_queue_2 9 rfl rfl)
theorem dX1_queue_58 : decode cX1_queue 58 = .ok (.iload_n 3, 1) := dk_29 (dk_at dksX1_queue_2 10 rfl rfl)
theorem dX1_queue_59 : decode cX1_queue 59 = .ok (.ifCond .ge 9, 3) := dk_156 0 9 (dk_at dksX1_queue_2 11 rfl rfl)
theorem dX1_queue_62 : decode cX1_queue 62 = .ok (.aload_n 0, 1) := dk_42 (dk_at dksX1_queue_2 14 rfl rfl)
theorem dX1_queue_63 : decode cX1_queue 63 = .ok (.iconst 5, 1) := dk_8 (dk_at dksX1_queue_2 15 rfl rfl)
theorem dX1_queue_64 : decode cX1_queue 64 = .ok (.invokevirtual 174, 3) := dk_182 0 174 (dk_at dksX1_queue_2 16 rfl rfl)
theorem dX1_queue_67 : decode cX1_queue 67 = .ok (.ireturn, 1) := dk_172 (dk_at dksX1_queue_2 19 rfl rfl)
theorem dX1_queue_68 : decode cX1_queue 68 = .ok (.aload_n 2, 1) := dk_44 (dk_at dksX1_queue_2 20 rfl rfl)
theorem dX1_queue_69 : decode cX1_queue 69 = .ok (.iconst 0, 1) := dk_3 (dk_at dksX1_queue_2 21 rfl rfl)
theorem dX1_queue_70 : decode cX1_queue 70 = .ok (.dup2, 1) := dk_92 (dk_at dksX1_queue_2 22 rfl rfl)
theorem dX1_queue_71 : decode cX1_queue 71 = .ok (.iaload, 1) := dk_46 (dk_at dksX1_queue_2 23 rfl rfl)
theorem dX1_queue_72 : decode cX1_queue 72 = .ok (.iconst 1, 1) := dk_4 (dk_at dksX1_queue_3 0 rfl rfl)
theorem dX1_queue_73 : decode cX1_queue 73 = .ok (.iload_n 3, 1) := dk_29 (dk_at dksX1_queue_3 1 rfl rfl)
theorem dX1_queue_74 : decode cX1_queue 74 = .ok (.ishl, 1) := dk_120 (dk_at dksX1_queue_3 2 rfl rfl)
theorem dX1_queue_75 : decode cX1_queue 75 = .ok (.ior, 1) := dk_128 (dk_at dksX1_queue_3 3 rfl rfl)
theorem dX1_queue_76 : decode cX1_queue 76 = .ok (.iastore, 1) := dk_79 (dk_at dksX1_queue_3 4 rfl rfl)
theorem dX1_queue_77 : decode cX1_queue 77 = .ok (.iinc 4 1, 3) := dk_132 4 1 (dk_at dksX1_queue_3 5 rfl rfl)
theorem dX1_queue_80 : decode cX1_queue 80 = .ok (.goto (-53), 3) := dk_167 255 203 (dk_at dksX1_queue_3 8 rfl rfl)
theorem dX1_queue_83 : decode cX1_queue 83 = .ok (.iload_n 3, 1) := dk_29 (dk_at dksX1_queue_3 11 rfl rfl)
theorem dX1_queue_84 : decode cX1_queue 84 = .ok (.ireturn, 1) := dk_172 (dk_at dksX1_queue_3 12 rfl rfl)
abbrev cX1_lambda_queue_28 : ByteArray := prog_1_method_86_code
def yX1_lambda_queue_28 : MethodName := ⟨RX1, "lambda$queue$28", "([II)Z"⟩
def dkwX1_lambda_queue_28_1 : List UInt8 := [167, 0, 4, 3, 172]
abbrev dktX1_lambda_queue_28_1 : List UInt8 := dkwX1_lambda_queue_28_1 ++ []
def dkwX1_lambda_queue_28_0 : List UInt8 := [42, 180, 0, 70, 180, 1, 49, 28, 51, 154, 0, 17, 43, 3, 46, 28, 122, 4, 126, 154, 0, 7, 4]
abbrev dktX1_lambda_queue_28_0 : List UInt8 := dkwX1_lambda_queue_28_0 ++ dktX1_lambda_queue_28_1
theorem dksX1_lambda_queue_28_0 : cX1_lambda_queue_28.data.toList.drop 0 = dktX1_lambda_queue_28_0 := by decide +kernel
theorem dksX1_lambda_queue_28_1 : cX1_lambda_queue_28.data.toList.drop 23 = dktX1_lambda_queue_28_1 := dk_seg dksX1_lambda_queue_28_0 23 rfl rfl
theorem dX1_lambda_queue_28_0 : decode cX1_lambda_queue_28 0 = .ok (.aload_n 0, 1) := dk_42 (dk_at dksX1_lambda_queue_28_0 0 rfl rfl)
theorem dX1_lambda_queue_28_1 : decode cX1_lambda_queue_28 1 = .ok (.getfield 70, 3) := dk_180 0 70 (dk_at dksX1_lambda_queue_28_0 1 rfl rfl)
theorem dX1_lambda_queue_28_4 : decode cX1_lambda_queue_28 4 = .ok (.getfield 305, 3) := dk_180 1 49 (dk_at dksX1_lambda_queue_28_0 4 rfl rfl)
theorem dX1_lambda_queue_28_7 : decode cX1_lambda_queue_28 7 = .ok (.iload_n 2, 1) := dk_28 (dk_at dksX1_lambda_queue_28_0 7 rfl rfl)
theorem dX1_lambda_queue_28_8 : decode cX1_lambda_queue_28 8 = .ok (.baload, 1) := dk_51 (dk_at dksX1_lambda_queue_28_0 8 rfl rfl)
theorem dX1_lambda_queue_28_9 : decode cX1_lambda_queue_28 9 = .ok (.ifCond .ne 17, 3) := dk_154 0 17 (dk_at dksX1_lambda_queue_28_0 9 rfl rfl)
theorem dX1_lambda_queue_28_12 : decode cX1_lambda_queue_28 12 = .ok (.aload_n 1, 1) := dk_43 (dk_at dksX1_lambda_queue_28_0 12 rfl rfl)
theorem dX1_lambda_queue_28_13 : decode cX1_lambda_queue_28 13 = .ok (.iconst 0, 1) := dk_3 (dk_at dksX1_lambda_queue_28_0 13 rfl rfl)
theorem dX1_lambda_queue_28_14 : decode cX1_lambda_queue_28 14 = .ok (.iaload, 1) := dk_46 (dk_at dksX1_lambda_queue_28_0 14 rfl rfl)
theorem dX1_lambda_queue_28_15 : decode cX1_lambda_queue_28 15 = .ok (.iload_n 2, 1) := dk_28 (dk_at dksX1_lambda_queue_28_0 15 rfl rfl)
theorem dX1_lambda_queue_28_16 : decode cX1_lambda_queue_28 16 = .ok (.ishr, 1) := dk_122 (dk_at dksX1_lambda_queue_28_0 16 rfl rfl)
theorem dX1_lambda_queue_28_17 : decode cX1_lambda_queue_28 17 = .ok (.iconst 1, 1) := dk_4 (dk_at dksX1_lambda_queue_28_0 17 rfl rfl)
theorem dX1_lambda_queue_28_18 : decode cX1_lambda_queue_28 18 = .ok (.iand, 1) := dk_126 (dk_at dksX1_lambda_queue_28_0 18 rfl rfl)
theorem dX1_lambda_queue_28_19 : decode cX1_lambda_queue_28 19 = .ok (.ifCond .ne 7, 3) := dk_154 0 7 (dk_at dksX1_lambda_queue_28_0 19 rfl rfl)
theorem dX1_lambda_queue_28_22 : decode cX1_lambda_queue_28 22 = .ok (.iconst 1, 1) := dk_4 (dk_at dksX1_lambda_queue_28_0 22 rfl rfl)
theorem dX1_lambda_queue_28_23 : decode cX1_lambda_queue_28 23 = .ok (.goto 4, 3) := dk_167 0 4 (dk_at dksX1_lambda_queue_28_1 0 rfl rfl)
theorem dX1_lambda_queue_28_26 : decode cX1_lambda_queue_28 26 = .ok (.iconst 0, 1) := dk_3 (dk_at dksX1_lambda_queue_28_1 3 rfl rfl)
theorem dX1_lambda_queue_28_27 : decode cX1_lambda_queue_28 27 = .ok (.ireturn, 1) := dk_172 (dk_at dksX1_lambda_queue_28_1 4 rfl rfl)
abbrev cX1_most : ByteArray := prog_1_method_61_code
def yX1_most : MethodName := ⟨RX1, "most", "()I"⟩
def dkwX1_most_0 : List UInt8 := [42, 3, 182, 0, 155, 153, 0, 17, 187, 1, 242, 89, 42, 183, 1, 244, 180, 1, 245, 167, 0, 4, 2, 172]
abbrev dktX1_most_0 : List UInt8 := dkwX1_most_0 ++ []
theorem dksX1_most_0 : cX1_most.data.toList.drop 0 = dktX1_most_0 := by decide +kernel
theorem dX1_most_0 : decode cX1_most 0 = .ok (.aload_n 0, 1) := dk_42 (dk_at dksX1_most_0 0 rfl rfl)
theorem dX1_most_1 : decode cX1_most 1 = .ok (.iconst 0, 1) := dk_3 (dk_at dksX1_most_0 1 rfl rfl)
theorem dX1_most_2 : decode cX1_most 2 = .ok (.invokevirtual 155, 3) := dk_182 0 155 (dk_at dksX1_most_0 2 rfl rfl)
theorem dX1_most_5 : decode cX1_most 5 = .ok (.ifCond .eq 17, 3) := dk_153 0 17 (dk_at dksX1_most_0 5 rfl rfl)
theorem dX1_most_8 : decode cX1_most 8 = .ok (.new 498, 3) := dk_187 1 242 (dk_at dksX1_most_0 8 rfl rfl)
theorem dX1_most_11 : decode cX1_most 11 = .ok (.dup, 1) := dk_89 (dk_at dksX1_most_0 11 rfl rfl)
theorem dX1_most_12 : decode cX1_most 12 = .ok (.aload_n 0, 1) := dk_42 (dk_at dksX1_most_0 12 rfl rfl)
theorem dX1_most_13 : decode cX1_most 13 = .ok (.invokespecial 500, 3) := dk_183 1 244 (dk_at dksX1_most_0 13 rfl rfl)
theorem dX1_most_16 : decode cX1_most 16 = .ok (.getfield 501, 3) := dk_180 1 245 (dk_at dksX1_most_0 16 rfl rfl)
theorem dX1_most_19 : decode cX1_most 19 = .ok (.goto 4, 3) := dk_167 0 4 (dk_at dksX1_most_0 19 rfl rfl)
theorem dX1_most_22 : decode cX1_most 22 = .ok (.iconst (-1), 1) := dk_2 (dk_at dksX1_most_0 22 rfl rfl)
theorem dX1_most_23 : decode cX1_most 23 = .ok (.ireturn, 1) := dk_172 (dk_at dksX1_most_0 23 rfl rfl)
abbrev cX1_gift : ByteArray := prog_1_method_62_code
def yX1_gift : MethodName := ⟨RX1, "gift", "(I)I"⟩
def dkwX1_gift_1 : List UInt8 := [89, 42, 183, 1, 244, 180, 1, 248, 27, 46, 182, 0, 247, 167, 0, 4, 2, 172]
abbrev dktX1_gift_1 : List UInt8 := dkwX1_gift_1 ++ []
def dkwX1_gift_0 : List UInt8 := [42, 42, 27, 182, 0, 138, 153, 0, 7, 3, 167, 0, 4, 5, 182, 0, 155, 153, 0, 23, 42, 187, 1, 242]
abbrev dktX1_gift_0 : List UInt8 := dkwX1_gift_0 ++ dktX1_gift_1
theorem dksX1_gift_0 : cX1_gift.data.toList.drop 0 = dktX1_gift_0 := by decide +kernel
theorem dksX1_gift_1 : cX1_gift.data.toList.drop 24 = dktX1_gift_1 := dk_seg dksX1_gift_0 24 rfl rfl
theorem dX1_gift_0 : decode cX1_gift 0 = .ok (.aload_n 0, 1) := dk_42 (dk_at dksX1_gift_0 0 rfl rfl)
theorem dX1_gift_1 : decode cX1_gift 1 = .ok (.aload_n 0, 1) := dk_42 (dk_at dksX1_gift_0 1 rfl rfl)
theorem dX1_gift_2 : decode cX1_gift 2 = .ok (.iload_n 1, 1) := dk_27 (dk_at dksX1_gift_0 2 rfl rfl)
theorem dX1_gift_3 : decode cX1_gift 3 = .ok (.invokevirtual 138, 3) := dk_182 0 138 (dk_at dksX1_gift_0 3 rfl rfl)
theorem dX1_gift_6 : decode cX1_gift 6 = .ok (.ifCond .eq 7, 3) := dk_153 0 7 (dk_at dksX1_gift_0 6 rfl rfl)
theorem dX1_gift_9 : decode cX1_gift 9 = .ok (.iconst 0, 1) := dk_3 (dk_at dksX1_gift_0 9 rfl rfl)
theorem dX1_gift_10 : decode cX1_gift 10 = .ok (.goto 4, 3) := dk_167 0 4 (dk_at dksX1_gift_0 10 rfl rfl)
theorem dX1_gift_13 : decode cX1_gift 13 = .ok (.iconst 2, 1) := dk_5 (dk_at dksX1_gift_0 13 rfl rfl)
theorem dX1_gift_14 : decode cX1_gift 14 = .ok (.invokevirtual 155, 3) := dk_182 0 155 (dk_at dksX1_gift_0 14 rfl rfl)
theorem dX1_gift_17 : decode cX1_gift 17 = .ok (.ifCond .eq 23, 3) := dk_153 0 23 (dk_at dksX1_gift_0 17 rfl rfl)
theorem dX1_gift_20 : decode cX1_gift 20 = .ok (.aload_n 0, 1) := dk_42 (dk_at dksX1_gift_0 20 rfl rfl)
theorem dX1_gift_21 : decode cX1_gift 21 = .ok (.new 498, 3) := dk_187 1 242 (dk_at dksX1_gift_0 21 rfl rfl)
theorem dX1_gift_24 : decode cX1_gift 24 = .ok (.dup, 1) := dk_89 (dk_at dksX1_gift_1 0 rfl rfl)
theorem dX1_gift_25 : decode cX1_gift 25 = .ok (.aload_n 0, 1) := dk_42 (dk_at dksX1_gift_1 1 rfl rfl)
theorem dX1_gift_26 : decode cX1_gift 26 = .ok (.invokespecial 500, 3) := dk_183 1 244 (dk_at dksX1_gift_1 2 rfl rfl)
theorem dX1_gift_29 : decode cX1_gift 29 = .ok (.getfield 504, 3) := dk_180 1 248 (dk_at dksX1_gift_1 5 rfl rfl)
theorem dX1_gift_32 : decode cX1_gift 32 = .ok (.iload_n 1, 1) := dk_27 (dk_at dksX1_gift_1 8 rfl rfl)
theorem dX1_gift_33 : decode cX1_gift 33 = .ok (.iaload, 1) := dk_46 (dk_at dksX1_gift_1 9 rfl rfl)
theorem dX1_gift_34 : decode cX1_gift 34 = .ok (.invokevirtual 247, 3) := dk_182 0 247 (dk_at dksX1_gift_1 10 rfl rfl)
theorem dX1_gift_37 : decode cX1_gift 37 = .ok (.goto 4, 3) := dk_167 0 4 (dk_at dksX1_gift_1 13 rfl rfl)
theorem dX1_gift_40 : decode cX1_gift 40 = .ok (.iconst (-1), 1) := dk_2 (dk_at dksX1_gift_1 16 rfl rfl)
theorem dX1_gift_41 : decode cX1_gift 41 = .ok (.ireturn, 1) := dk_172 (dk_at dksX1_gift_1 17 rfl rfl)
abbrev cX1_trade : ByteArray := prog_1_method_63_code
def yX1_trade : MethodName := ⟨RX1, "trade", "(I)I"⟩
def dkwX1_trade_1 : List UInt8 := [89, 42, 183, 1, 253, 180, 1, 254, 27, 46, 182, 0, 247, 167, 0, 4, 2, 172]
abbrev dktX1_trade_1 : List UInt8 := dkwX1_trade_1 ++ []
def dkwX1_trade_0 : List UInt8 := [42, 42, 27, 182, 0, 138, 153, 0, 7, 3, 167, 0, 4, 5, 182, 0, 155, 153, 0, 23, 42, 187, 1, 251]
abbrev dktX1_trade_0 : List UInt8 := dkwX1_trade_0 ++ dktX1_trade_1
theorem dksX1_trade_0 : cX1_trade.data.toList.drop 0 = dktX1_trade_0 := by decide +kernel
theorem dksX1_trade_1 : cX1_trade.data.toList.drop 24 = dktX1_trade_1 := dk_seg dksX1_trade_0 24 rfl rfl
theorem dX1_trade_0 : decode cX1_trade 0 = .ok (.aload_n 0, 1) := dk_42 (dk_at dksX1_trade_0 0 rfl rfl)
theorem dX1_trade_1 : decode cX1_trade 1 = .ok (.aload_n 0, 1) := dk_42 (dk_at dksX1_trade_0 1 rfl rfl)
theorem dX1_trade_2 : decode cX1_trade 2 = .ok (.iload_n 1, 1) := dk_27 (dk_at dksX1_trade_0 2 rfl rfl)
theorem dX1_trade_3 : decode cX1_trade 3 = .ok (.invokevirtual 138, 3) := dk_182 0 138 (dk_at dksX1_trade_0 3 rfl rfl)
theorem dX1_trade_6 : decode cX1_trade 6 = .ok (.ifCond .eq 7, 3) := dk_153 0 7 (dk_at dksX1_trade_0 6 rfl rfl)
theorem dX1_trade_9 : decode cX1_trade 9 = .ok (.iconst 0, 1) := dk_3 (dk_at dksX1_trade_0 9 rfl rfl)
theorem dX1_trade_10 : decode cX1_trade 10 = .ok (.goto 4, 3) := dk_167 0 4 (dk_at dksX1_trade_0 10 rfl rfl)
theorem dX1_trade_13 : decode cX1_trade 13 = .ok (.iconst 2, 1) := dk_5 (dk_at dksX1_trade_0 13 rfl rfl)
theorem dX1_trade_14 : decode cX1_trade 14 = .ok (.invokevirtual 155, 3) := dk_182 0 155 (dk_at dksX1_trade_0 14 rfl rfl)
theorem dX1_trade_17 : decode cX1_trade 17 = .ok (.ifCond .eq 23, 3) := dk_153 0 23 (dk_at dksX1_trade_0 17 rfl rfl)
theorem dX1_trade_20 : decode cX1_trade 20 = .ok (.aload_n 0, 1) := dk_42 (dk_at dksX1_trade_0 20 rfl rfl)
theorem dX1_trade_21 : decode cX1_trade 21 = .ok (.new 507, 3) := dk_187 1 251 (dk_at dksX1_trade_0 21 rfl rfl)
theorem dX1_trade_24 : decode cX1_trade 24 = .ok (.dup, 1) := dk_89 (dk_at dksX1_trade_1 0 rfl rfl)
theorem dX1_trade_25 : decode cX1_trade 25 = .ok (.aload_n 0, 1) := dk_42 (dk_at dksX1_trade_1 1 rfl rfl)
theorem dX1_trade_26 : decode cX1_trade 26 = .ok (.invokespecial 509, 3) := dk_183 1 253 (dk_at dksX1_trade_1 2 rfl rfl)
theorem dX1_trade_29 : decode cX1_trade 29 = .ok (.getfield 510, 3) := dk_180 1 254 (dk_at dksX1_trade_1 5 rfl rfl)
theorem dX1_trade_32 : decode cX1_trade 32 = .ok (.iload_n 1, 1) := dk_27 (dk_at dksX1_trade_1 8 rfl rfl)
theorem dX1_trade_33 : decode cX1_trade 33 = .ok (.iaload, 1) := dk_46 (dk_at dksX1_trade_1 9 rfl rfl)
theorem dX1_trade_34 : decode cX1_trade 34 = .ok (.invokevirtual 247, 3) := dk_182 0 247 (dk_at dksX1_trade_1 10 rfl rfl)
theorem dX1_trade_37 : decode cX1_trade 37 = .ok (.goto 4, 3) := dk_167 0 4 (dk_at dksX1_trade_1 13 rfl rfl)
theorem dX1_trade_40 : decode cX1_trade 40 = .ok (.iconst (-1), 1) := dk_2 (dk_at dksX1_trade_1 16 rfl rfl)
theorem dX1_trade_41 : decode cX1_trade 41 = .ok (.ireturn, 1) := dk_172 (dk_at dksX1_trade_1 17 rfl rfl)
abbrev cX1_trades : ByteArray := prog_1_method_64_code
def yX1_trades : MethodName := ⟨RX1, "trades", "(I)I"⟩
def dkwX1_trades_3 : List UInt8 := [180, 2, 7, 172]
abbrev dktX1_trades_3 : List UInt8 := dkwX1_trades_3 ++ []
def dkwX1_trades_2 : List UInt8 := [186, 2, 1, 0, 0, 184, 0, 192, 167, 0, 19, 27, 4, 160, 0, 10, 44, 180, 2, 4, 167, 0, 7, 44]
abbrev dktX1_trades_2 : List UInt8 := dkwX1_trades_2 ++ dktX1_trades_3
def dkwX1_trades_1 : List UInt8 := [2, 172, 187, 1, 251, 89, 42, 183, 1, 253, 77, 27, 154, 0, 23, 42, 180, 0, 51, 182, 0, 130, 42, 44]
abbrev dktX1_trades_1 : List UInt8 := dkwX1_trades_1 ++ dktX1_trades_2
def dkwX1_trades_0 : List UInt8 := [42, 27, 133, 9, 20, 1, 118, 184, 0, 134, 153, 0, 7, 3, 167, 0, 4, 4, 182, 0, 155, 154, 0, 5]
abbrev dktX1_trades_0 : List UInt8 := dkwX1_trades_0 ++ dktX1_trades_1
theorem dksX1_trades_0 : cX1_trades.data.toList.drop 0 = dktX1_trades_0 := by decide +kernel
theorem dksX1_trades_1 : cX1_trades.data.toList.drop 24 = dktX1_trades_1 := dk_seg dksX1_trades_0 24 rfl rfl
theorem dksX1_trades_2 : cX1_trades.data.toList.drop 48 = dktX1_trades_2 := dk_seg dksX1_trades_1 24 rfl rfl
theorem dksX1_trades_3 : cX1_trades.data.toList.drop 72 = dktX1_trades_3 := dk_seg dksX1_trades_2 24 rfl rfl
theorem dX1_trades_0 : decode cX1_trades 0 = .ok (.aload_n 0, 1) := dk_42 (dk_at dksX1_trades_0 0 rfl rfl)
theorem dX1_trades_1 : decode cX1_trades 1 = .ok (.iload_n 1, 1) := dk_27 (dk_at dksX1_trades_0 1 rfl rfl)
theorem dX1_trades_2 : decode cX1_trades 2 = .ok (.i2l, 1) := dk_133 (dk_at dksX1_trades_0 2 rfl rfl)
theorem dX1_trades_3 : decode cX1_trades 3 = .ok (.lconst 0, 1) := dk_9 (dk_at dksX1_trades_0 3 rfl rfl)
theorem dX1_trades_4 : decode cX1_trades 4 = .ok (.ldc2_w 374, 3) := dk_20 1 118 (dk_at dksX1_trades_0 4 rfl rfl)
theorem dX1_trades_7 : decode cX1_trades 7 = .ok (.invokestatic 134, 3) := dk_184 0 134 (dk_at dksX1_trades_0 7 rfl rfl)
theorem dX1_trades_10 : decode cX1_trades 10 = .ok (.ifCond .eq 7, 3) := dk_153 0 7 (dk_at dksX1_trades_0 10 rfl rfl)
theorem dX1_trades_13 : decode cX1_trades 13 = .ok (.iconst 0, 1) := dk_3 (dk_at dksX1_trades_0 13 rfl rfl)
theorem dX1_trades_14 : decode cX1_trades 14 = .ok (.goto 4, 3) := dk_167 0 4 (dk_at dksX1_trades_0 14 rfl rfl)
theorem dX1_trades_17 : decode cX1_trades 17 = .ok (.iconst 1, 1) := dk_4 (dk_at dksX1_trades_0 17 rfl rfl)
theorem dX1_trades_18 : decode cX1_trades 18 = .ok (.invokevirtual 155, 3) := dk_182 0 155 (dk_at dksX1_trades_0 18 rfl rfl)
theorem dX1_trades_21 : decode cX1_trades 21 = .ok (.ifCond .ne 5, 3) := dk_154 0 5 (dk_at dksX1_trades_0 21 rfl rfl)
theorem dX1_trades_24 : decode cX1_trades 24 = .ok (.iconst (-1), 1) := dk_2 (dk_at dksX1_trades_1 0 rfl rfl)
theorem dX1_trades_25 : decode cX1_trades 25 = .ok (.ireturn, 1) := dk_172 (dk_at dksX1_trades_1 1 rfl rfl)
theorem dX1_trades_26 : decode cX1_trades 26 = .ok (.new 507, 3) := dk_187 1 251 (dk_at dksX1_trades_1 2 rfl rfl)
theorem dX1_trades_29 : decode cX1_trades 29 = .ok (.dup, 1) := dk_89 (dk_at dksX1_trades_1 5 rfl rfl)
theorem dX1_trades_30 : decode cX1_trades 30 = .ok (.aload_n 0, 1) := dk_42 (dk_at dksX1_trades_1 6 rfl rfl)
theorem dX1_trades_31 : decode cX1_trades 31 = .ok (.invokespecial 509, 3) := dk_183 1 253 (dk_at dksX1_trades_1 7 rfl rfl)
theorem dX1_trades_34 : decode cX1_trades 34 = .ok (.astore_n 2, 1) := dk_77 (dk_at dksX1_trades_1 10 rfl rfl)
theorem dX1_trades_35 : decode cX1_trades 35 = .ok (.iload_n 1, 1) := dk_27 (dk_at dksX1_trades_1 11 rfl rfl)
theorem dX1_trades_36 : decode cX1_trades 36 = .ok (.ifCond .ne 23, 3) := dk_154 0 23 (dk_at dksX1_trades_1 12 rfl rfl)
theorem dX1_trades_39 : decode cX1_trades 39 = .ok (.aload_n 0, 1) := dk_42 (dk_at dksX1_trades_1 15 rfl rfl)
theorem dX1_trades_40 : decode cX1_trades 40 = .ok (.getfield 51, 3) := dk_180 0 51 (dk_at dksX1_trades_1 16 rfl rfl)
theorem dX1_trades_43 : decode cX1_trades 43 = .ok (.invokevirtual 130, 3) := dk_182 0 130 (dk_at dksX1_trades_1 19 rfl rfl)
theorem dX1_trades_46 : decode cX1_trades 46 = .ok (.aload_n 0, 1) := dk_42 (dk_at dksX1_trades_1 22 rfl rfl)
theorem dX1_trades_47 : decode cX1_trades 47 = .ok (.aload_n 2, 1) := dk_44 (dk_at dksX1_trades_1 23 rfl rfl)
theorem dX1_trades_48 : decode cX1_trades 48 = .ok (.invokedynamic 513, 5) := by decide +kernel
theorem dX1_trades_53 : decode cX1_trades 53 = .ok (.invokestatic 192, 3) := dk_184 0 192 (dk_at dksX1_trades_2 5 rfl rfl)
theorem dX1_trades_56 : decode cX1_trades 56 = .ok (.goto 19, 3) := dk_167 0 19 (dk_at dksX1_trades_2 8 rfl rfl)
theorem dX1_trades_59 : decode cX1_trades 59 = .ok (.iload_n 1, 1) := dk_27 (dk_at dksX1_trades_2 11 rfl rfl)
theorem dX1_trades_60 : decode cX1_trades 60 = .ok (.iconst 1, 1) := dk_4 (dk_at dksX1_trades_2 12 rfl rfl)
theorem dX1_trades_61 : decode cX1_trades 61 = .ok (.if_icmp .ne 10, 3) := dk_160 0 10 (dk_at dksX1_trades_2 13 rfl rfl)
theorem dX1_trades_64 : decode cX1_trades 64 = .ok (.aload_n 2, 1) := dk_44 (dk_at dksX1_trades_2 16 rfl rfl)
theorem dX1_trades_65 : decode cX1_trades 65 = .ok (.getfield 516, 3) := dk_180 2 4 (dk_at dksX1_trades_2 17 rfl rfl)
theorem dX1_trades_68 : decode cX1_trades 68 = .ok (.goto 7, 3) := dk_167 0 7 (dk_at dksX1_trades_2 20 rfl rfl)
theorem dX1_trades_71 : decode cX1_trades 71 = .ok (.aload_n 2, 1) := dk_44 (dk_at dksX1_trades_2 23 rfl rfl)
theorem dX1_trades_72 : decode cX1_trades 72 = .ok (.getfield 519, 3) := dk_180 2 7 (dk_at dksX1_trades_3 0 rfl rfl)
theorem dX1_trades_75 : decode cX1_trades 75 = .ok (.ireturn, 1) := dk_172 (dk_at dksX1_trades_3 3 rfl rfl)
abbrev cX1_lambda_trades_29 : ByteArray := prog_1_method_85_code
def yX1_lambda_trades_29 : MethodName := ⟨RX1, "lambda$trades$29", "(LHomesQueue$Trading;I)Z"⟩
def dkwX1_lambda_trades_29_0 : List UInt8 := [43, 180, 1, 254, 28, 46, 42, 180, 0, 70, 180, 1, 40, 28, 46, 159, 0, 7, 4, 167, 0, 4, 3, 172]
abbrev dktX1_lambda_trades_29_0 : List UInt8 := dkwX1_lambda_trades_29_0 ++ []
theorem dksX1_lambda_trades_29_0 : cX1_lambda_trades_29.data.toList.drop 0 = dktX1_lambda_trades_29_0 := by decide +kernel
theorem dX1_lambda_trades_29_0 : decode cX1_lambda_trades_29 0 = .ok (.aload_n 1, 1) := dk_43 (dk_at dksX1_lambda_trades_29_0 0 rfl rfl)
theorem dX1_lambda_trades_29_1 : decode cX1_lambda_trades_29 1 = .ok (.getfield 510, 3) := dk_180 1 254 (dk_at dksX1_lambda_trades_29_0 1 rfl rfl)
theorem dX1_lambda_trades_29_4 : decode cX1_lambda_trades_29 4 = .ok (.iload_n 2, 1) := dk_28 (dk_at dksX1_lambda_trades_29_0 4 rfl rfl)
theorem dX1_lambda_trades_29_5 : decode cX1_lambda_trades_29 5 = .ok (.iaload, 1) := dk_46 (dk_at dksX1_lambda_trades_29_0 5 rfl rfl)
theorem dX1_lambda_trades_29_6 : decode cX1_lambda_trades_29 6 = .ok (.aload_n 0, 1) := dk_42 (dk_at dksX1_lambda_trades_29_0 6 rfl rfl)
theorem dX1_lambda_trades_29_7 : decode cX1_lambda_trades_29 7 = .ok (.getfield 70, 3) := dk_180 0 70 (dk_at dksX1_lambda_trades_29_0 7 rfl rfl)
theorem dX1_lambda_trades_29_10 : decode cX1_lambda_trades_29 10 = .ok (.getfield 296, 3) := dk_180 1 40 (dk_at dksX1_lambda_trades_29_0 10 rfl rfl)
theorem dX1_lambda_trades_29_13 : decode cX1_lambda_trades_29 13 = .ok (.iload_n 2, 1) := dk_28 (dk_at dksX1_lambda_trades_29_0 13 rfl rfl)
theorem dX1_lambda_trades_29_14 : decode cX1_lambda_trades_29 14 = .ok (.iaload, 1) := dk_46 (dk_at dksX1_lambda_trades_29_0 14 rfl rfl)
theorem dX1_lambda_trades_29_15 : decode cX1_lambda_trades_29 15 = .ok (.if_icmp .eq 7, 3) := dk_159 0 7 (dk_at dksX1_lambda_trades_29_0 15 rfl rfl)
theorem dX1_lambda_trades_29_18 : decode cX1_lambda_trades_29 18 = .ok (.iconst 1, 1) := dk_4 (dk_at dksX1_lambda_trades_29_0 18 rfl rfl)
theorem dX1_lambda_trades_29_19 : decode cX1_lambda_trades_29 19 = .ok (.goto 4, 3) := dk_167 0 4 (dk_at dksX1_lambda_trades_29_0 19 rfl rfl)
theorem dX1_lambda_trades_29_22 : decode cX1_lambda_trades_29 22 = .ok (.iconst 0, 1) := dk_3 (dk_at dksX1_lambda_trades_29_0 22 rfl rfl)
theorem dX1_lambda_trades_29_23 : decode cX1_lambda_trades_29 23 = .ok (.ireturn, 1) := dk_172 (dk_at dksX1_lambda_trades_29_0 23 rfl rfl)
abbrev cX1_longest : ByteArray := prog_1_method_65_code
def yX1_longest : MethodName := ⟨RX1, "longest", "(IZ)I"⟩
def dkwX1_longest_3 : List UInt8 := [172]
abbrev dktX1_longest_3 : List UInt8 := dkwX1_longest_3 ++ []
def dkwX1_longest_2 : List UInt8 := [182, 0, 174, 167, 0, 21, 28, 153, 0, 11, 45, 27, 182, 2, 16, 167, 0, 9, 45, 180, 2, 19, 27, 46]
abbrev dktX1_longest_2 : List UInt8 := dkwX1_longest_2 ++ dktX1_longest_3
def dkwX1_longest_1 : List UInt8 := [183, 2, 12, 78, 27, 2, 160, 0, 8, 45, 180, 2, 13, 172, 27, 45, 180, 2, 13, 161, 0, 11, 42, 8]
abbrev dktX1_longest_1 : List UInt8 := dkwX1_longest_1 ++ dktX1_longest_2
def dkwX1_longest_0 : List UInt8 := [42, 27, 2, 162, 0, 7, 4, 167, 0, 4, 3, 182, 0, 155, 154, 0, 5, 2, 172, 187, 2, 10, 89, 42]
abbrev dktX1_longest_0 : List UInt8 := dkwX1_longest_0 ++ dktX1_longest_1
theorem dksX1_longest_0 : cX1_longest.data.toList.drop 0 = dktX1_longest_0 := by decide +kernel
theorem dksX1_longest_1 : cX1_longest.data.toList.drop 24 = dktX1_longest_1 := dk_seg dksX1_longest_0 24 rfl rfl
theorem dksX1_longest_2 : cX1_longest.data.toList.drop 48 = dktX1_longest_2 := dk_seg dksX1_longest_1 24 rfl rfl
theorem dksX1_longest_3 : cX1_longest.data.toList.drop 72 = dktX1_longest_3 := dk_seg dksX1_longest_2 24 rfl rfl
theorem dX1_longest_0 : decode cX1_longest 0 = .ok (.aload_n 0, 1) := dk_42 (dk_at dksX1_longest_0 0 rfl rfl)
theorem dX1_longest_1 : decode cX1_longest 1 = .ok (.iload_n 1, 1) := dk_27 (dk_at dksX1_longest_0 1 rfl rfl)
theorem dX1_longest_2 : decode cX1_longest 2 = .ok (.iconst (-1), 1) := dk_2 (dk_at dksX1_longest_0 2 rfl rfl)
theorem dX1_longest_3 : decode cX1_longest 3 = .ok (.if_icmp .ge 7, 3) := dk_162 0 7 (dk_at dksX1_longest_0 3 rfl rfl)
theorem dX1_longest_6 : decode cX1_longest 6 = .ok (.iconst 1, 1) := dk_4 (dk_at dksX1_longest_0 6 rfl rfl)
theorem dX1_longest_7 : decode cX1_longest 7 = .ok (.goto 4, 3) := dk_167 0 4 (dk_at dksX1_longest_0 7 rfl rfl)
theorem dX1_longest_10 : decode cX1_longest 10 = .ok (.iconst 0, 1) := dk_3 (dk_at dksX1_longest_0 10 rfl rfl)
theorem dX1_longest_11 : decode cX1_longest 11 = .ok (.invokevirtual 155, 3) := dk_182 0 155 (dk_at dksX1_longest_0 11 rfl rfl)
theorem dX1_longest_14 : decode cX1_longest 14 = .ok (.ifCond .ne 5, 3) := dk_154 0 5 (dk_at dksX1_longest_0 14 rfl rfl)
theorem dX1_longest_17 : decode cX1_longest 17 = .ok (.iconst (-1), 1) := dk_2 (dk_at dksX1_longest_0 17 rfl rfl)
theorem dX1_longest_18 : decode cX1_longest 18 = .ok (.ireturn, 1) := dk_172 (dk_at dksX1_longest_0 18 rfl rfl)
theorem dX1_longest_19 : decode cX1_longest 19 = .ok (.new 522, 3) := dk_187 2 10 (dk_at dksX1_longest_0 19 rfl rfl)
theorem dX1_longest_22 : decode cX1_longest 22 = .ok (.dup, 1) := dk_89 (dk_at dksX1_longest_0 22 rfl rfl)
theorem dX1_longest_23 : decode cX1_longest 23 = .ok (.aload_n 0, 1) := dk_42 (dk_at dksX1_longest_0 23 rfl rfl)
theorem dX1_longest_24 : decode cX1_longest 24 = .ok (.invokespecial 524, 3) := dk_183 2 12 (dk_at dksX1_longest_1 0 rfl rfl)
theorem dX1_longest_27 : decode cX1_longest 27 = .ok (.astore_n 3, 1) := dk_78 (dk_at dksX1_longest_1 3 rfl rfl)
theorem dX1_longest_28 : decode cX1_longest 28 = .ok (.iload_n 1, 1) := dk_27 (dk_at dksX1_longest_1 4 rfl rfl)
theorem dX1_longest_29 : decode cX1_longest 29 = .ok (.iconst (-1), 1) := dk_2 (dk_at dksX1_longest_1 5 rfl rfl)
theorem dX1_longest_30 : decode cX1_longest 30 = .ok (.if_icmp .ne 8, 3) := dk_160 0 8 (dk_at dksX1_longest_1 6 rfl rfl)
theorem dX1_longest_33 : decode cX1_longest 33 = .ok (.aload_n 3, 1) := dk_45 (dk_at dksX1_longest_1 9 rfl rfl)
theorem dX1_longest_34 : decode cX1_longest 34 = .ok (.getfield 525, 3) := dk_180 2 13 (dk_at dksX1_longest_1 10 rfl rfl)
theorem dX1_longest_37 : decode cX1_longest 37 = .ok (.ireturn, 1) := dk_172 (dk_at dksX1_longest_1 13 rfl rfl)
theorem dX1_longest_38 : decode cX1_longest 38 = .ok (.iload_n 1, 1) := dk_27 (dk_at dksX1_longest_1 14 rfl rfl)
theorem dX1_longest_39 : decode cX1_longest 39 = .ok (.aload_n 3, 1) := dk_45 (dk_at dksX1_longest_1 15 rfl rfl)
theorem dX1_longest_40 : decode cX1_longest 40 = .ok (.getfield 525, 3) := dk_180 2 13 (dk_at dksX1_longest_1 16 rfl rfl)
theorem dX1_longest_43 : decode cX1_longest 43 = .ok (.if_icmp .lt 11, 3) := dk_161 0 11 (dk_at dksX1_longest_1 19 rfl rfl)
theorem dX1_longest_46 : decode cX1_longest 46 = .ok (.aload_n 0, 1) := dk_42 (dk_at dksX1_longest_1 22 rfl rfl)
theorem dX1_longest_47 : decode cX1_longest 47 = .ok (.iconst 5, 1) := dk_8 (dk_at dksX1_longest_1 23 rfl rfl)
theorem dX1_longest_48 : decode cX1_longest 48 = .ok (.invokevirtual 174, 3) := dk_182 0 174 (dk_at dksX1_longest_2 0 rfl rfl)
theorem dX1_longest_51 : decode cX1_longest 51 = .ok (.goto 21, 3) := dk_167 0 21 (dk_at dksX1_longest_2 3 rfl rfl)
theorem dX1_longest_54 : decode cX1_longest 54 = .ok (.iload_n 2, 1) := dk_28 (dk_at dksX1_longest_2 6 rfl rfl)
theorem dX1_longest_55 : decode cX1_longest 55 = .ok (.ifCond .eq 11, 3) := dk_153 0 11 (dk_at dksX1_longest_2 7 rfl rfl)
theorem dX1_longest_58 : decode cX1_longest 58 = .ok (.aload_n 3, 1) := dk_45 (dk_at dksX1_longest_2 10 rfl rfl)
theorem dX1_longest_59 : decode cX1_longest 59 = .ok (.iload_n 1, 1) := dk_27 (dk_at dksX1_longest_2 11 rfl rfl)
theorem dX1_longest_60 : decode cX1_longest 60 = .ok (.invokevirtual 528, 3) := dk_182 2 16 (dk_at dksX1_longest_2 12 rfl rfl)
theorem dX1_longest_63 : decode cX1_longest 63 = .ok (.goto 9, 3) := dk_167 0 9 (dk_at dksX1_longest_2 15 rfl rfl)
theorem dX1_longest_66 : decode cX1_longest 66 = .ok (.aload_n 3, 1) := dk_45 (dk_at dksX1_longest_2 18 rfl rfl)
theorem dX1_longest_67 : decode cX1_longest 67 = .ok (.getfield 531, 3) := dk_180 2 19 (dk_at dksX1_longest_2 19 rfl rfl)
theorem dX1_longest_70 : decode cX1_longest 70 = .ok (.iload_n 1, 1) := dk_27 (dk_at dksX1_longest_2 22 rfl rfl)
theorem dX1_longest_71 : decode cX1_longest 71 = .ok (.iaload, 1) := dk_46 (dk_at dksX1_longest_2 23 rfl rfl)
theorem dX1_longest_72 : decode cX1_longest 72 = .ok (.ireturn, 1) := dk_172 (dk_at dksX1_longest_3 0 rfl rfl)
abbrev cX1_gap : ByteArray := prog_1_method_67_code
def yX1_gap : MethodName := ⟨RX1, "gap", "(II)I"⟩
def dkwX1_gap_3 : List UInt8 := [167, 255, 226, 42, 8, 182, 0, 174, 172]
abbrev dktX1_gap_3 : List UInt8 := dkwX1_gap_3 ++ []
def dkwX1_gap_2 : List UInt8 := [182, 1, 28, 162, 0, 23, 42, 27, 28, 21, 4, 182, 2, 26, 153, 0, 6, 21, 4, 172, 132, 4, 1]
abbrev dktX1_gap_2 : List UInt8 := dkwX1_gap_2 ++ dktX1_gap_3
def dkwX1_gap_1 : List UInt8 := [167, 0, 4, 29, 182, 0, 155, 154, 0, 5, 2, 172, 3, 54, 4, 21, 4, 42, 180, 0, 70, 27]
abbrev dktX1_gap_1 : List UInt8 := dkwX1_gap_1 ++ dktX1_gap_2
def dkwX1_gap_0 : List UInt8 := [42, 27, 28, 182, 1, 63, 62, 42, 29, 154, 0, 16, 42, 27, 28, 182, 1, 85, 154, 0, 7, 8]
abbrev dktX1_gap_0 : List UInt8 := dkwX1_gap_0 ++ dktX1_gap_1
theorem dksX1_gap_0 : cX1_gap.data.toList.drop 0 = dktX1_gap_0 := by decide +kernel
theorem dksX1_gap_1 : cX1_gap.data.toList.drop 22 = dktX1_gap_1 := dk_seg dksX1_gap_0 22 rfl rfl
theorem dksX1_gap_2 : cX1_gap.data.toList.drop 44 = dktX1_gap_2 := dk_seg dksX1_gap_1 22 rfl rfl
theorem dksX1_gap_3 : cX1_gap.data.toList.drop 67 = dktX1_gap_3 := dk_seg dksX1_gap_2 23 rfl rfl
theorem dX1_gap_0 : decode cX1_gap 0 = .ok (.aload_n 0, 1) := dk_42 (dk_at dksX1_gap_0 0 rfl rfl)
theorem dX1_gap_1 : decode cX1_gap 1 = .ok (.iload_n 1, 1) := dk_27 (dk_at dksX1_gap_0 1 rfl rfl)
theorem dX1_gap_2 : decode cX1_gap 2 = .ok (.iload_n 2, 1) := dk_28 (dk_at dksX1_gap_0 2 rfl rfl)
theorem dX1_gap_3 : decode cX1_gap 3 = .ok (.invokevirtual 319, 3) := dk_182 1 63 (dk_at dksX1_gap_0 3 rfl rfl)
theorem dX1_gap_6 : decode cX1_gap 6 = .ok (.istore_n 3, 1) := dk_62 (dk_at dksX1_gap_0 6 rfl rfl)
theorem dX1_gap_7 : decode cX1_gap 7 = .ok (.aload_n 0, 1) := dk_42 (dk_at dksX1_gap_0 7 rfl rfl)
theorem dX1_gap_8 : decode cX1_gap 8 = .ok (.iload_n 3, 1) := dk_29 (dk_at dksX1_gap_0 8 rfl rfl)
theorem dX1_gap_9 : decode cX1_gap 9 = .ok (.ifCond .ne 16, 3) := dk_154 0 16 (dk_at dksX1_gap_0 9 rfl rfl)
theorem dX1_gap_12 : decode cX1_gap 12 = .ok (.aload_n 0, 1) := dk_42 (dk_at dksX1_gap_0 12 rfl rfl)
theorem dX1_gap_13 : decode cX1_gap 13 = .ok (.iload_n 1, 1) := dk_27 (dk_at dksX1_gap_0 13 rfl rfl)
theorem dX1_gap_14 : decode cX1_gap 14 = .ok (.iload_n 2, 1) := dk_28 (dk_at dksX1_gap_0 14 rfl rfl)
theorem dX1_gap_15 : decode cX1_gap 15 = .ok (.invokevirtual 341, 3) := dk_182 1 85 (dk_at dksX1_gap_0 15 rfl rfl)
theorem dX1_gap_18 : decode cX1_gap 18 = .ok (.ifCond .ne 7, 3) := dk_154 0 7 (dk_at dksX1_gap_0 18 rfl rfl)
theorem dX1_gap_21 : decode cX1_gap 21 = .ok (.iconst 5, 1) := dk_8 (dk_at dksX1_gap_0 21 rfl rfl)
theorem dX1_gap_22 : decode cX1_gap 22 = .ok (.goto 4, 3) := dk_167 0 4 (dk_at dksX1_gap_1 0 rfl rfl)
theorem dX1_gap_25 : decode cX1_gap 25 = .ok (.iload_n 3, 1) := dk_29 (dk_at dksX1_gap_1 3 rfl rfl)
theorem dX1_gap_26 : decode cX1_gap 26 = .ok (.invokevirtual 155, 3) := dk_182 0 155 (dk_at dksX1_gap_1 4 rfl rfl)
theorem dX1_gap_29 : decode cX1_gap 29 = .ok (.ifCond .ne 5, 3) := dk_154 0 5 (dk_at dksX1_gap_1 7 rfl rfl)
theorem dX1_gap_32 : decode cX1_gap 32 = .ok (.iconst (-1), 1) := dk_2 (dk_at dksX1_gap_1 10 rfl rfl)
theorem dX1_gap_33 : decode cX1_gap 33 = .ok (.ireturn, 1) := dk_172 (dk_at dksX1_gap_1 11 rfl rfl)
theorem dX1_gap_34 : decode cX1_gap 34 = .ok (.iconst 0, 1) := dk_3 (dk_at dksX1_gap_1 12 rfl rfl)
theorem dX1_gap_35 : decode cX1_gap 35 = .ok (.istore 4, 2) := dk_54 4 (dk_at dksX1_gap_1 13 rfl rfl)
theorem dX1_gap_37 : decode cX1_gap 37 = .ok (.iload 4, 2) := dk_21 4 (dk_at dksX1_gap_1 15 rfl rfl)
theorem dX1_gap_39 : decode cX1_gap 39 = .ok (.aload_n 0, 1) := dk_42 (dk_at dksX1_gap_1 17 rfl rfl)
theorem dX1_gap_40 : decode cX1_gap 40 = .ok (.getfield 70, 3) := dk_180 0 70 (dk_at dksX1_gap_1 18 rfl rfl)
theorem dX1_gap_43 : decode cX1_gap 43 = .ok (.iload_n 1, 1) := dk_27 (dk_at dksX1_gap_1 21 rfl rfl)
theorem dX1_gap_44 : decode cX1_gap 44 = .ok (.invokevirtual 284, 3) := dk_182 1 28 (dk_at dksX1_gap_2 0 rfl rfl)
theorem dX1_gap_47 : decode cX1_gap 47 = .ok (.if_icmp .ge 23, 3) := dk_162 0 23 (dk_at dksX1_gap_2 3 rfl rfl)
theorem dX1_gap_50 : decode cX1_gap 50 = .ok (.aload_n 0, 1) := dk_42 (dk_at dksX1_gap_2 6 rfl rfl)
theorem dX1_gap_51 : decode cX1_gap 51 = .ok (.iload_n 1, 1) := dk_27 (dk_at dksX1_gap_2 7 rfl rfl)
theorem dX1_gap_52 : decode cX1_gap 52 = .ok (.iload_n 2, 1) := dk_28 (dk_at dksX1_gap_2 8 rfl rfl)
theorem dX1_gap_53 : decode cX1_gap 53 = .ok (.iload 4, 2) := dk_21 4 (dk_at dksX1_gap_2 9 rfl rfl)
theorem dX1_gap_55 : decode cX1_gap 55 = .ok (.invokevirtual 538, 3) := dk_182 2 26 (dk_at dksX1_gap_2 11 rfl rfl)
theorem dX1_gap_58 : decode cX1_gap 58 = .ok (.ifCond .eq 6, 3) := dk_153 0 6 (dk_at dksX1_gap_2 14 rfl rfl)
theorem dX1_gap_61 : decode cX1_gap 61 = .ok (.iload 4, 2) := dk_21 4 (dk_at dksX1_gap_2 17 rfl rfl)
theorem dX1_gap_63 : decode cX1_gap 63 = .ok (.ireturn, 1) := dk_172 (dk_at dksX1_gap_2 19 rfl rfl)
theorem dX1_gap_64 : decode cX1_gap 64 = .ok (.iinc 4 1, 3) := dk_132 4 1 (dk_at dksX1_gap_2 20 rfl rfl)
theorem dX1_gap_67 : decode cX1_gap 67 = .ok (.goto (-30), 3) := dk_167 255 226 (dk_at dksX1_gap_3 0 rfl rfl)
theorem dX1_gap_70 : decode cX1_gap 70 = .ok (.aload_n 0, 1) := dk_42 (dk_at dksX1_gap_3 3 rfl rfl)
theorem dX1_gap_71 : decode cX1_gap 71 = .ok (.iconst 5, 1) := dk_8 (dk_at dksX1_gap_3 4 rfl rfl)
theorem dX1_gap_72 : decode cX1_gap 72 = .ok (.invokevirtual 174, 3) := dk_182 0 174 (dk_at dksX1_gap_3 5 rfl rfl)
theorem dX1_gap_75 : decode cX1_gap 75 = .ok (.ireturn, 1) := dk_172 (dk_at dksX1_gap_3 8 rfl rfl)
abbrev cX1_isFirstBy : ByteArray := prog_1_method_66_code
def yX1_isFirstBy : MethodName := ⟨RX1, "isFirstBy", "(III)Z"⟩
def dkwX1_isFirstBy_2 : List UInt8 := [182, 2, 22, 158, 0, 5, 3, 172, 132, 4, 1, 167, 255, 202, 4, 172]
abbrev dktX1_isFirstBy_2 : List UInt8 := dkwX1_isFirstBy_2 ++ []
def dkwX1_isFirstBy_1 : List UInt8 := [180, 0, 70, 21, 4, 28, 182, 1, 69, 154, 0, 6, 167, 0, 20, 42, 180, 0, 70, 28, 27, 29, 21, 4]
abbrev dktX1_isFirstBy_1 : List UInt8 := dkwX1_isFirstBy_1 ++ dktX1_isFirstBy_2
def dkwX1_isFirstBy_0 : List UInt8 := [3, 54, 4, 21, 4, 42, 180, 0, 51, 182, 0, 130, 162, 0, 48, 21, 4, 27, 159, 0, 36, 42]
abbrev dktX1_isFirstBy_0 : List UInt8 := dkwX1_isFirstBy_0 ++ dktX1_isFirstBy_1
theorem dksX1_isFirstBy_0 : cX1_isFirstBy.data.toList.drop 0 = dktX1_isFirstBy_0 := by decide +kernel
theorem dksX1_isFirstBy_1 : cX1_isFirstBy.data.toList.drop 22 = dktX1_isFirstBy_1 := dk_seg dksX1_isFirstBy_0 22 rfl rfl
theorem dksX1_isFirstBy_2 : cX1_isFirstBy.data.toList.drop 46 = dktX1_isFirstBy_2 := dk_seg dksX1_isFirstBy_1 24 rfl rfl
theorem dX1_isFirstBy_0 : decode cX1_isFirstBy 0 = .ok (.iconst 0, 1) := dk_3 (dk_at dksX1_isFirstBy_0 0 rfl rfl)
theorem dX1_isFirstBy_1 : decode cX1_isFirstBy 1 = .ok (.istore 4, 2) := dk_54 4 (dk_at dksX1_isFirstBy_0 1 rfl rfl)
theorem dX1_isFirstBy_3 : decode cX1_isFirstBy 3 = .ok (.iload 4, 2) := dk_21 4 (dk_at dksX1_isFirstBy_0 3 rfl rfl)
theorem dX1_isFirstBy_5 : decode cX1_isFirstBy 5 = .ok (.aload_n 0, 1) := dk_42 (dk_at dksX1_isFirstBy_0 5 rfl rfl)
theorem dX1_isFirstBy_6 : decode cX1_isFirstBy 6 = .ok (.getfield 51, 3) := dk_180 0 51 (dk_at dksX1_isFirstBy_0 6 rfl rfl)
theorem dX1_isFirstBy_9 : decode cX1_isFirstBy 9 = .ok (.invokevirtual 130, 3) := dk_182 0 130 (dk_at dksX1_isFirstBy_0 9 rfl rfl)
theorem dX1_isFirstBy_12 : decode cX1_isFirstBy 12 = .ok (.if_icmp .ge 48, 3) := dk_162 0 48 (dk_at dksX1_isFirstBy_0 12 rfl rfl)
theorem dX1_isFirstBy_15 : decode cX1_isFirstBy 15 = .ok (.iload 4, 2) := dk_21 4 (dk_at dksX1_isFirstBy_0 15 rfl rfl)
theorem dX1_isFirstBy_17 : decode cX1_isFirstBy 17 = .ok (.iload_n 1, 1) := dk_27 (dk_at dksX1_isFirstBy_0 17 rfl rfl)
theorem dX1_isFirstBy_18 : decode cX1_isFirstBy 18 = .ok (.if_icmp .eq 36, 3) := dk_159 0 36 (dk_at dksX1_isFirstBy_0 18 rfl rfl)
theorem dX1_isFirstBy_21 : decode cX1_isFirstBy 21 = .ok (.aload_n 0, 1) := dk_42 (dk_at dksX1_isFirstBy_0 21 rfl rfl)
theorem dX1_isFirstBy_22 : decode cX1_isFirstBy 22 = .ok (.getfield 70, 3) := dk_180 0 70 (dk_at dksX1_isFirstBy_1 0 rfl rfl)
theorem dX1_isFirstBy_25 : decode cX1_isFirstBy 25 = .ok (.iload 4, 2) := dk_21 4 (dk_at dksX1_isFirstBy_1 3 rfl rfl)
theorem dX1_isFirstBy_27 : decode cX1_isFirstBy 27 = .ok (.iload_n 2, 1) := dk_28 (dk_at dksX1_isFirstBy_1 5 rfl rfl)
theorem dX1_isFirstBy_28 : decode cX1_isFirstBy 28 = .ok (.invokevirtual 325, 3) := dk_182 1 69 (dk_at dksX1_isFirstBy_1 6 rfl rfl)
theorem dX1_isFirstBy_31 : decode cX1_isFirstBy 31 = .ok (.ifCond .ne 6, 3) := dk_154 0 6 (dk_at dksX1_isFirstBy_1 9 rfl rfl)
theorem dX1_isFirstBy_34 : decode cX1_isFirstBy 34 = .ok (.goto 20, 3) := dk_167 0 20 (dk_at dksX1_isFirstBy_1 12 rfl rfl)
theorem dX1_isFirstBy_37 : decode cX1_isFirstBy 37 = .ok (.aload_n 0, 1) := dk_42 (dk_at dksX1_isFirstBy_1 15 rfl rfl)
theorem dX1_isFirstBy_38 : decode cX1_isFirstBy 38 = .ok (.getfield 70, 3) := dk_180 0 70 (dk_at dksX1_isFirstBy_1 16 rfl rfl)
theorem dX1_isFirstBy_41 : decode cX1_isFirstBy 41 = .ok (.iload_n 2, 1) := dk_28 (dk_at dksX1_isFirstBy_1 19 rfl rfl)
theorem dX1_isFirstBy_42 : decode cX1_isFirstBy 42 = .ok (.iload_n 1, 1) := dk_27 (dk_at dksX1_isFirstBy_1 20 rfl rfl)
theorem dX1_isFirstBy_43 : decode cX1_isFirstBy 43 = .ok (.iload_n 3, 1) := dk_29 (dk_at dksX1_isFirstBy_1 21 rfl rfl)
theorem dX1_isFirstBy_44 : decode cX1_isFirstBy 44 = .ok (.iload 4, 2) := dk_21 4 (dk_at dksX1_isFirstBy_1 22 rfl rfl)
theorem dX1_isFirstBy_46 : decode cX1_isFirstBy 46 = .ok (.invokevirtual 534, 3) := dk_182 2 22 (dk_at dksX1_isFirstBy_2 0 rfl rfl)
theorem dX1_isFirstBy_49 : decode cX1_isFirstBy 49 = .ok (.ifCond .le 5, 3) := dk_158 0 5 (dk_at dksX1_isFirstBy_2 3 rfl rfl)
theorem dX1_isFirstBy_52 : decode cX1_isFirstBy 52 = .ok (.iconst 0, 1) := dk_3 (dk_at dksX1_isFirstBy_2 6 rfl rfl)
theorem dX1_isFirstBy_53 : decode cX1_isFirstBy 53 = .ok (.ireturn, 1) := dk_172 (dk_at dksX1_isFirstBy_2 7 rfl rfl)
theorem dX1_isFirstBy_54 : decode cX1_isFirstBy 54 = .ok (.iinc 4 1, 3) := dk_132 4 1 (dk_at dksX1_isFirstBy_2 8 rfl rfl)
theorem dX1_isFirstBy_57 : decode cX1_isFirstBy 57 = .ok (.goto (-54), 3) := dk_167 255 202 (dk_at dksX1_isFirstBy_2 11 rfl rfl)
theorem dX1_isFirstBy_60 : decode cX1_isFirstBy 60 = .ok (.iconst 1, 1) := dk_4 (dk_at dksX1_isFirstBy_2 14 rfl rfl)
theorem dX1_isFirstBy_61 : decode cX1_isFirstBy 61 = .ok (.ireturn, 1) := dk_172 (dk_at dksX1_isFirstBy_2 15 rfl rfl)
abbrev cX1_bid : ByteArray := prog_1_method_69_code
def yX1_bid : MethodName := ⟨RX1, "bid", "(II)I"⟩
def dkwX1_bid_2 : List UInt8 := [182, 2, 39, 42, 180, 0, 70, 27, 182, 1, 52, 172]
abbrev dktX1_bid_2 : List UInt8 := dkwX1_bid_2 ++ []
def dkwX1_bid_1 : List UInt8 := [16, 7, 167, 0, 4, 29, 182, 0, 155, 154, 0, 5, 2, 172, 42, 182, 2, 36, 42, 180, 0, 70, 27, 28]
abbrev dktX1_bid_1 : List UInt8 := dkwX1_bid_1 ++ dktX1_bid_2
def dkwX1_bid_0 : List UInt8 := [42, 27, 28, 182, 1, 63, 62, 42, 29, 154, 0, 20, 42, 180, 0, 70, 27, 28, 182, 1, 66, 158, 0, 8]
abbrev dktX1_bid_0 : List UInt8 := dkwX1_bid_0 ++ dktX1_bid_1
theorem dksX1_bid_0 : cX1_bid.data.toList.drop 0 = dktX1_bid_0 := by decide +kernel
theorem dksX1_bid_1 : cX1_bid.data.toList.drop 24 = dktX1_bid_1 := dk_seg dksX1_bid_0 24 rfl rfl
theorem dksX1_bid_2 : cX1_bid.data.toList.drop 48 = dktX1_bid_2 := dk_seg dksX1_bid_1 24 rfl rfl
theorem dX1_bid_0 : decode cX1_bid 0 = .ok (.aload_n 0, 1) := dk_42 (dk_at dksX1_bid_0 0 rfl rfl)
theorem dX1_bid_1 : decode cX1_bid 1 = .ok (.iload_n 1, 1) := dk_27 (dk_at dksX1_bid_0 1 rfl rfl)
theorem dX1_bid_2 : decode cX1_bid 2 = .ok (.iload_n 2, 1) := dk_28 (dk_at dksX1_bid_0 2 rfl rfl)
theorem dX1_bid_3 : decode cX1_bid 3 = .ok (.invokevirtual 319, 3) := dk_182 1 63 (dk_at dksX1_bid_0 3 rfl rfl)
theorem dX1_bid_6 : decode cX1_bid 6 = .ok (.istore_n 3, 1) := dk_62 (dk_at dksX1_bid_0 6 rfl rfl)
theorem dX1_bid_7 : decode cX1_bid 7 = .ok (.aload_n 0, 1) := dk_42 (dk_at dksX1_bid_0 7 rfl rfl)
theorem dX1_bid_8 : decode cX1_bid 8 = .ok (.iload_n 3, 1) := dk_29 (dk_at dksX1_bid_0 8 rfl rfl)
theorem dX1_bid_9 : decode cX1_bid 9 = .ok (.ifCond .ne 20, 3) := dk_154 0 20 (dk_at dksX1_bid_0 9 rfl rfl)
theorem dX1_bid_12 : decode cX1_bid 12 = .ok (.aload_n 0, 1) := dk_42 (dk_at dksX1_bid_0 12 rfl rfl)
theorem dX1_bid_13 : decode cX1_bid 13 = .ok (.getfield 70, 3) := dk_180 0 70 (dk_at dksX1_bid_0 13 rfl rfl)
theorem dX1_bid_16 : decode cX1_bid 16 = .ok (.iload_n 1, 1) := dk_27 (dk_at dksX1_bid_0 16 rfl rfl)
theorem dX1_bid_17 : decode cX1_bid 17 = .ok (.iload_n 2, 1) := dk_28 (dk_at dksX1_bid_0 17 rfl rfl)
theorem dX1_bid_18 : decode cX1_bid 18 = .ok (.invokevirtual 322, 3) := dk_182 1 66 (dk_at dksX1_bid_0 18 rfl rfl)
theorem dX1_bid_21 : decode cX1_bid 21 = .ok (.ifCond .le 8, 3) := dk_158 0 8 (dk_at dksX1_bid_0 21 rfl rfl)
theorem dX1_bid_24 : decode cX1_bid 24 = .ok (.bipush 7, 2) := dk_16 7 (dk_at dksX1_bid_1 0 rfl rfl)
theorem dX1_bid_26 : decode cX1_bid 26 = .ok (.goto 4, 3) := dk_167 0 4 (dk_at dksX1_bid_1 2 rfl rfl)
theorem dX1_bid_29 : decode cX1_bid 29 = .ok (.iload_n 3, 1) := dk_29 (dk_at dksX1_bid_1 5 rfl rfl)
theorem dX1_bid_30 : decode cX1_bid 30 = .ok (.invokevirtual 155, 3) := dk_182 0 155 (dk_at dksX1_bid_1 6 rfl rfl)
theorem dX1_bid_33 : decode cX1_bid 33 = .ok (.ifCond .ne 5, 3) := dk_154 0 5 (dk_at dksX1_bid_1 9 rfl rfl)
theorem dX1_bid_36 : decode cX1_bid 36 = .ok (.iconst (-1), 1) := dk_2 (dk_at dksX1_bid_1 12 rfl rfl)
theorem dX1_bid_37 : decode cX1_bid 37 = .ok (.ireturn, 1) := dk_172 (dk_at dksX1_bid_1 13 rfl rfl)
theorem dX1_bid_38 : decode cX1_bid 38 = .ok (.aload_n 0, 1) := dk_42 (dk_at dksX1_bid_1 14 rfl rfl)
theorem dX1_bid_39 : decode cX1_bid 39 = .ok (.invokevirtual 548, 3) := dk_182 2 36 (dk_at dksX1_bid_1 15 rfl rfl)
theorem dX1_bid_42 : decode cX1_bid 42 = .ok (.aload_n 0, 1) := dk_42 (dk_at dksX1_bid_1 18 rfl rfl)
theorem dX1_bid_43 : decode cX1_bid 43 = .ok (.getfield 70, 3) := dk_180 0 70 (dk_at dksX1_bid_1 19 rfl rfl)
theorem dX1_bid_46 : decode cX1_bid 46 = .ok (.iload_n 1, 1) := dk_27 (dk_at dksX1_bid_1 22 rfl rfl)
theorem dX1_bid_47 : decode cX1_bid 47 = .ok (.iload_n 2, 1) := dk_28 (dk_at dksX1_bid_1 23 rfl rfl)
theorem dX1_bid_48 : decode cX1_bid 48 = .ok (.invokevirtual 551, 3) := dk_182 2 39 (dk_at dksX1_bid_2 0 rfl rfl)
theorem dX1_bid_51 : decode cX1_bid 51 = .ok (.aload_n 0, 1) := dk_42 (dk_at dksX1_bid_2 3 rfl rfl)
theorem dX1_bid_52 : decode cX1_bid 52 = .ok (.getfield 70, 3) := dk_180 0 70 (dk_at dksX1_bid_2 4 rfl rfl)
theorem dX1_bid_55 : decode cX1_bid 55 = .ok (.iload_n 1, 1) := dk_27 (dk_at dksX1_bid_2 7 rfl rfl)
theorem dX1_bid_56 : decode cX1_bid 56 = .ok (.invokevirtual 308, 3) := dk_182 1 52 (dk_at dksX1_bid_2 8 rfl rfl)
theorem dX1_bid_59 : decode cX1_bid 59 = .ok (.ireturn, 1) := dk_172 (dk_at dksX1_bid_2 11 rfl rfl)
abbrev cX1_remembers : ByteArray := prog_1_method_68_code
def yX1_remembers : MethodName := ⟨RX1, "remembers", "()V"⟩
def dkwX1_remembers_1 : List UInt8 := [16, 12, 160, 0, 12, 42, 180, 0, 77, 3, 182, 2, 30, 87, 42, 180, 0, 77, 43, 182, 2, 33, 87, 177]
abbrev dktX1_remembers_1 : List UInt8 := dkwX1_remembers_1 ++ []
def dkwX1_remembers_0 : List UInt8 := [187, 0, 65, 89, 42, 183, 0, 67, 76, 43, 42, 180, 0, 70, 182, 1, 140, 42, 180, 0, 77, 182, 0, 130]
abbrev dktX1_remembers_0 : List UInt8 := dkwX1_remembers_0 ++ dktX1_remembers_1
theorem dksX1_remembers_0 : cX1_remembers.data.toList.drop 0 = dktX1_remembers_0 := by decide +kernel
theorem dksX1_remembers_1 : cX1_remembers.data.toList.drop 24 = dktX1_remembers_1 := dk_seg dksX1_remembers_0 24 rfl rfl
theorem dX1_remembers_0 : decode cX1_remembers 0 = .ok (.new 65, 3) := dk_187 0 65 (dk_at dksX1_remembers_0 0 rfl rfl)
theorem dX1_remembers_3 : decode cX1_remembers 3 = .ok (.dup, 1) := dk_89 (dk_at dksX1_remembers_0 3 rfl rfl)
theorem dX1_remembers_4 : decode cX1_remembers 4 = .ok (.aload_n 0, 1) := dk_42 (dk_at dksX1_remembers_0 4 rfl rfl)
theorem dX1_remembers_5 : decode cX1_remembers 5 = .ok (.invokespecial 67, 3) := dk_183 0 67 (dk_at dksX1_remembers_0 5 rfl rfl)
theorem dX1_remembers_8 : decode cX1_remembers 8 = .ok (.astore_n 1, 1) := dk_76 (dk_at dksX1_remembers_0 8 rfl rfl)
theorem dX1_remembers_9 : decode cX1_remembers 9 = .ok (.aload_n 1, 1) := dk_43 (dk_at dksX1_remembers_0 9 rfl rfl)
theorem dX1_remembers_10 : decode cX1_remembers 10 = .ok (.aload_n 0, 1) := dk_42 (dk_at dksX1_remembers_0 10 rfl rfl)
theorem dX1_remembers_11 : decode cX1_remembers 11 = .ok (.getfield 70, 3) := dk_180 0 70 (dk_at dksX1_remembers_0 11 rfl rfl)
theorem dX1_remembers_14 : decode cX1_remembers 14 = .ok (.invokevirtual 396, 3) := dk_182 1 140 (dk_at dksX1_remembers_0 14 rfl rfl)
theorem dX1_remembers_17 : decode cX1_remembers 17 = .ok (.aload_n 0, 1) := dk_42 (dk_at dksX1_remembers_0 17 rfl rfl)
theorem dX1_remembers_18 : decode cX1_remembers 18 = .ok (.getfield 77, 3) := dk_180 0 77 (dk_at dksX1_remembers_0 18 rfl rfl)
theorem dX1_remembers_21 : decode cX1_remembers 21 = .ok (.invokevirtual 130, 3) := dk_182 0 130 (dk_at dksX1_remembers_0 21 rfl rfl)
theorem dX1_remembers_24 : decode cX1_remembers 24 = .ok (.bipush 12, 2) := dk_16 12 (dk_at dksX1_remembers_1 0 rfl rfl)
theorem dX1_remembers_26 : decode cX1_remembers 26 = .ok (.if_icmp .ne 12, 3) := dk_160 0 12 (dk_at dksX1_remembers_1 2 rfl rfl)
theorem dX1_remembers_29 : decode cX1_remembers 29 = .ok (.aload_n 0, 1) := dk_42 (dk_at dksX1_remembers_1 5 rfl rfl)
theorem dX1_remembers_30 : decode cX1_remembers 30 = .ok (.getfield 77, 3) := dk_180 0 77 (dk_at dksX1_remembers_1 6 rfl rfl)
theorem dX1_remembers_33 : decode cX1_remembers 33 = .ok (.iconst 0, 1) := dk_3 (dk_at dksX1_remembers_1 9 rfl rfl)
theorem dX1_remembers_34 : decode cX1_remembers 34 = .ok (.invokevirtual 542, 3) := dk_182 2 30 (dk_at dksX1_remembers_1 10 rfl rfl)
theorem dX1_remembers_37 : decode cX1_remembers 37 = .ok (.pop, 1) := dk_87 (dk_at dksX1_remembers_1 13 rfl rfl)
theorem dX1_remembers_38 : decode cX1_remembers 38 = .ok (.aload_n 0, 1) := dk_42 (dk_at dksX1_remembers_1 14 rfl rfl)
theorem dX1_remembers_39 : decode cX1_remembers 39 = .ok (.getfield 77, 3) := dk_180 0 77 (dk_at dksX1_remembers_1 15 rfl rfl)
theorem dX1_remembers_42 : decode cX1_remembers 42 = .ok (.aload_n 1, 1) := dk_43 (dk_at dksX1_remembers_1 18 rfl rfl)
theorem dX1_remembers_43 : decode cX1_remembers 43 = .ok (.invokevirtual 545, 3) := dk_182 2 33 (dk_at dksX1_remembers_1 19 rfl rfl)
theorem dX1_remembers_46 : decode cX1_remembers 46 = .ok (.pop, 1) := dk_87 (dk_at dksX1_remembers_1 22 rfl rfl)
theorem dX1_remembers_47 : decode cX1_remembers 47 = .ok (.return_, 1) := dk_177 (dk_at dksX1_remembers_1 23 rfl rfl)
abbrev cX1_unbid : ByteArray := prog_1_method_70_code
def yX1_unbid : MethodName := ⟨RX1, "unbid", "(II)I"⟩
def dkwX1_unbid_2 : List UInt8 := [27, 92, 46, 4, 28, 120, 2, 130, 126, 79, 42, 180, 0, 70, 27, 182, 1, 52, 172]
abbrev dktX1_unbid_2 : List UInt8 := dkwX1_unbid_2 ++ []
def dkwX1_unbid_1 : List UInt8 := [8, 167, 0, 4, 29, 182, 0, 155, 154, 0, 5, 2, 172, 42, 182, 2, 36, 42, 180, 0, 70, 180, 1, 176]
abbrev dktX1_unbid_1 : List UInt8 := dkwX1_unbid_1 ++ dktX1_unbid_2
def dkwX1_unbid_0 : List UInt8 := [42, 27, 28, 182, 1, 63, 62, 42, 29, 154, 0, 19, 42, 180, 0, 70, 27, 28, 182, 1, 69, 154, 0, 7]
abbrev dktX1_unbid_0 : List UInt8 := dkwX1_unbid_0 ++ dktX1_unbid_1
theorem dksX1_unbid_0 : cX1_unbid.data.toList.drop 0 = dktX1_unbid_0 := by decide +kernel
theorem dksX1_unbid_1 : cX1_unbid.data.toList.drop 24 = dktX1_unbid_1 := dk_seg dksX1_unbid_0 24 rfl rfl
theorem dksX1_unbid_2 : cX1_unbid.data.toList.drop 48 = dktX1_unbid_2 := dk_seg dksX1_unbid_1 24 rfl rfl
theorem dX1_unbid_0 : decode cX1_unbid 0 = .ok (.aload_n 0, 1) := dk_42 (dk_at dksX1_unbid_0 0 rfl rfl)
theorem dX1_unbid_1 : decode cX1_unbid 1 = .ok (.iload_n 1, 1) := dk_27 (dk_at dksX1_unbid_0 1 rfl rfl)
theorem dX1_unbid_2 : decode cX1_unbid 2 = .ok (.iload_n 2, 1) := dk_28 (dk_at dksX1_unbid_0 2 rfl rfl)
theorem dX1_unbid_3 : decode cX1_unbid 3 = .ok (.invokevirtual 319, 3) := dk_182 1 63 (dk_at dksX1_unbid_0 3 rfl rfl)
theorem dX1_unbid_6 : decode cX1_unbid 6 = .ok (.istore_n 3, 1) := dk_62 (dk_at dksX1_unbid_0 6 rfl rfl)
theorem dX1_unbid_7 : decode cX1_unbid 7 = .ok (.aload_n 0, 1) := dk_42 (dk_at dksX1_unbid_0 7 rfl rfl)
theorem dX1_unbid_8 : decode cX1_unbid 8 = .ok (.iload_n 3, 1) := dk_29 (dk_at dksX1_unbid_0 8 rfl rfl)
theorem dX1_unbid_9 : decode cX1_unbid 9 = .ok (.ifCond .ne 19, 3) := dk_154 0 19 (dk_at dksX1_unbid_0 9 rfl rfl)
theorem dX1_unbid_12 : decode cX1_unbid 12 = .ok (.aload_n 0, 1) := dk_42 (dk_at dksX1_unbid_0 12 rfl rfl)
theorem dX1_unbid_13 : decode cX1_unbid 13 = .ok (.getfield 70, 3) := dk_180 0 70 (dk_at dksX1_unbid_0 13 rfl rfl)
theorem dX1_unbid_16 : decode cX1_unbid 16 = .ok (.iload_n 1, 1) := dk_27 (dk_at dksX1_unbid_0 16 rfl rfl)
theorem dX1_unbid_17 : decode cX1_unbid 17 = .ok (.iload_n 2, 1) := dk_28 (dk_at dksX1_unbid_0 17 rfl rfl)
theorem dX1_unbid_18 : decode cX1_unbid 18 = .ok (.invokevirtual 325, 3) := dk_182 1 69 (dk_at dksX1_unbid_0 18 rfl rfl)
theorem dX1_unbid_21 : decode cX1_unbid 21 = .ok (.ifCond .ne 7, 3) := dk_154 0 7 (dk_at dksX1_unbid_0 21 rfl rfl)
theorem dX1_unbid_24 : decode cX1_unbid 24 = .ok (.iconst 5, 1) := dk_8 (dk_at dksX1_unbid_1 0 rfl rfl)
theorem dX1_unbid_25 : decode cX1_unbid 25 = .ok (.goto 4, 3) := dk_167 0 4 (dk_at dksX1_unbid_1 1 rfl rfl)
theorem dX1_unbid_28 : decode cX1_unbid 28 = .ok (.iload_n 3, 1) := dk_29 (dk_at dksX1_unbid_1 4 rfl rfl)
theorem dX1_unbid_29 : decode cX1_unbid 29 = .ok (.invokevirtual 155, 3) := dk_182 0 155 (dk_at dksX1_unbid_1 5 rfl rfl)
theorem dX1_unbid_32 : decode cX1_unbid 32 = .ok (.ifCond .ne 5, 3) := dk_154 0 5 (dk_at dksX1_unbid_1 8 rfl rfl)
theorem dX1_unbid_35 : decode cX1_unbid 35 = .ok (.iconst (-1), 1) := dk_2 (dk_at dksX1_unbid_1 11 rfl rfl)
theorem dX1_unbid_36 : decode cX1_unbid 36 = .ok (.ireturn, 1) := dk_172 (dk_at dksX1_unbid_1 12 rfl rfl)
theorem dX1_unbid_37 : decode cX1_unbid 37 = .ok (.aload_n 0, 1) := dk_42 (dk_at dksX1_unbid_1 13 rfl rfl)
theorem dX1_unbid_38 : decode cX1_unbid 38 = .ok (.invokevirtual 548, 3) := dk_182 2 36 (dk_at dksX1_unbid_1 14 rfl rfl)
theorem dX1_unbid_41 : decode cX1_unbid 41 = .ok (.aload_n 0, 1) := dk_42 (dk_at dksX1_unbid_1 17 rfl rfl)
theorem dX1_unbid_42 : decode cX1_unbid 42 = .ok (.getfield 70, 3) := dk_180 0 70 (dk_at dksX1_unbid_1 18 rfl rfl)
theorem dX1_unbid_45 : decode cX1_unbid 45 = .ok (.getfield 432, 3) := dk_180 1 176 (dk_at dksX1_unbid_1 21 rfl rfl)
theorem dX1_unbid_48 : decode cX1_unbid 48 = .ok (.iload_n 1, 1) := dk_27 (dk_at dksX1_unbid_2 0 rfl rfl)
theorem dX1_unbid_49 : decode cX1_unbid 49 = .ok (.dup2, 1) := dk_92 (dk_at dksX1_unbid_2 1 rfl rfl)
theorem dX1_unbid_50 : decode cX1_unbid 50 = .ok (.iaload, 1) := dk_46 (dk_at dksX1_unbid_2 2 rfl rfl)
theorem dX1_unbid_51 : decode cX1_unbid 51 = .ok (.iconst 1, 1) := dk_4 (dk_at dksX1_unbid_2 3 rfl rfl)
theorem dX1_unbid_52 : decode cX1_unbid 52 = .ok (.iload_n 2, 1) := dk_28 (dk_at dksX1_unbid_2 4 rfl rfl)
theorem dX1_unbid_53 : decode cX1_unbid 53 = .ok (.ishl, 1) := dk_120 (dk_at dksX1_unbid_2 5 rfl rfl)
theorem dX1_unbid_54 : decode cX1_unbid 54 = .ok (.iconst (-1), 1) := dk_2 (dk_at dksX1_unbid_2 6 rfl rfl)
theorem dX1_unbid_55 : decode cX1_unbid 55 = .ok (.ixor, 1) := dk_130 (dk_at dksX1_unbid_2 7 rfl rfl)
theorem dX1_unbid_56 : decode cX1_unbid 56 = .ok (.iand, 1) := dk_126 (dk_at dksX1_unbid_2 8 rfl rfl)
theorem dX1_unbid_57 : decode cX1_unbid 57 = .ok (.iastore, 1) := dk_79 (dk_at dksX1_unbid_2 9 rfl rfl)
theorem dX1_unbid_58 : decode cX1_unbid 58 = .ok (.aload_n 0, 1) := dk_42 (dk_at dksX1_unbid_2 10 rfl rfl)
theorem dX1_unbid_59 : decode cX1_unbid 59 = .ok (.getfield 70, 3) := dk_180 0 70 (dk_at dksX1_unbid_2 11 rfl rfl)
theorem dX1_unbid_62 : decode cX1_unbid 62 = .ok (.iload_n 1, 1) := dk_27 (dk_at dksX1_unbid_2 14 rfl rfl)
theorem dX1_unbid_63 : decode cX1_unbid 63 = .ok (.invokevirtual 308, 3) := dk_182 1 52 (dk_at dksX1_unbid_2 15 rfl rfl)
theorem dX1_unbid_66 : decode cX1_unbid 66 = .ok (.ireturn, 1) := dk_172 (dk_at dksX1_unbid_2 18 rfl rfl)
abbrev cX1_auto : ByteArray := prog_1_method_71_code
def yX1_auto : MethodName := ⟨RX1, "auto", "()I"⟩
def dkwX1_auto_1 : List UInt8 := [167, 0, 4, 3, 182, 0, 155, 154, 0, 5, 2, 172, 42, 182, 2, 36, 42, 180, 0, 70, 182, 2, 43, 172]
abbrev dktX1_auto_1 : List UInt8 := dkwX1_auto_1 ++ []
def dkwX1_auto_0 : List UInt8 := [42, 180, 0, 74, 42, 180, 0, 70, 182, 1, 140, 42, 42, 180, 0, 74, 182, 2, 43, 154, 0, 7, 7]
abbrev dktX1_auto_0 : List UInt8 := dkwX1_auto_0 ++ dktX1_auto_1
theorem dksX1_auto_0 : cX1_auto.data.toList.drop 0 = dktX1_auto_0 := by decide +kernel
theorem dksX1_auto_1 : cX1_auto.data.toList.drop 23 = dktX1_auto_1 := dk_seg dksX1_auto_0 23 rfl rfl
theorem dX1_auto_0 : decode cX1_auto 0 = .ok (.aload_n 0, 1) := dk_42 (dk_at dksX1_auto_0 0 rfl rfl)
theorem dX1_auto_1 : decode cX1_auto 1 = .ok (.getfield 74, 3) := dk_180 0 74 (dk_at dksX1_auto_0 1 rfl rfl)
theorem dX1_auto_4 : decode cX1_auto 4 = .ok (.aload_n 0, 1) := dk_42 (dk_at dksX1_auto_0 4 rfl rfl)
theorem dX1_auto_5 : decode cX1_auto 5 = .ok (.getfield 70, 3) := dk_180 0 70 (dk_at dksX1_auto_0 5 rfl rfl)
theorem dX1_auto_8 : decode cX1_auto 8 = .ok (.invokevirtual 396, 3) := dk_182 1 140 (dk_at dksX1_auto_0 8 rfl rfl)
theorem dX1_auto_11 : decode cX1_auto 11 = .ok (.aload_n 0, 1) := dk_42 (dk_at dksX1_auto_0 11 rfl rfl)
theorem dX1_auto_12 : decode cX1_auto 12 = .ok (.aload_n 0, 1) := dk_42 (dk_at dksX1_auto_0 12 rfl rfl)
theorem dX1_auto_13 : decode cX1_auto 13 = .ok (.getfield 74, 3) := dk_180 0 74 (dk_at dksX1_auto_0 13 rfl rfl)
theorem dX1_auto_16 : decode cX1_auto 16 = .ok (.invokevirtual 555, 3) := dk_182 2 43 (dk_at dksX1_auto_0 16 rfl rfl)
theorem dX1_auto_19 : decode cX1_auto 19 = .ok (.ifCond .ne 7, 3) := dk_154 0 7 (dk_at dksX1_auto_0 19 rfl rfl)
theorem dX1_auto_22 : decode cX1_auto 22 = .ok (.iconst 4, 1) := dk_7 (dk_at dksX1_auto_0 22 rfl rfl)
theorem dX1_auto_23 : decode cX1_auto 23 = .ok (.goto 4, 3) := dk_167 0 4 (dk_at dksX1_auto_1 0 rfl rfl)
theorem dX1_auto_26 : decode cX1_auto 26 = .ok (.iconst 0, 1) := dk_3 (dk_at dksX1_auto_1 3 rfl rfl)
theorem dX1_auto_27 : decode cX1_auto 27 = .ok (.invokevirtual 155, 3) := dk_182 0 155 (dk_at dksX1_auto_1 4 rfl rfl)
theorem dX1_auto_30 : decode cX1_auto 30 = .ok (.ifCond .ne 5, 3) := dk_154 0 5 (dk_at dksX1_auto_1 7 rfl rfl)
theorem dX1_auto_33 : decode cX1_auto 33 = .ok (.iconst (-1), 1) := dk_2 (dk_at dksX1_auto_1 10 rfl rfl)
theorem dX1_auto_34 : decode cX1_auto 34 = .ok (.ireturn, 1) := dk_172 (dk_at dksX1_auto_1 11 rfl rfl)
theorem dX1_auto_35 : decode cX1_auto 35 = .ok (.aload_n 0, 1) := dk_42 (dk_at dksX1_auto_1 12 rfl rfl)
theorem dX1_auto_36 : decode cX1_auto 36 = .ok (.invokevirtual 548, 3) := dk_182 2 36 (dk_at dksX1_auto_1 13 rfl rfl)
theorem dX1_auto_39 : decode cX1_auto 39 = .ok (.aload_n 0, 1) := dk_42 (dk_at dksX1_auto_1 16 rfl rfl)
theorem dX1_auto_40 : decode cX1_auto 40 = .ok (.getfield 70, 3) := dk_180 0 70 (dk_at dksX1_auto_1 17 rfl rfl)
theorem dX1_auto_43 : decode cX1_auto 43 = .ok (.invokevirtual 555, 3) := dk_182 2 43 (dk_at dksX1_auto_1 20 rfl rfl)
theorem dX1_auto_46 : decode cX1_auto 46 = .ok (.ireturn, 1) := dk_172 (dk_at dksX1_auto_1 23 rfl rfl)
abbrev cX1_week : ByteArray := prog_1_method_72_code
def yX1_week : MethodName := ⟨RX1, "week", "()I"⟩
def dkwX1_week_1 : List UInt8 := [154, 0, 5, 2, 172, 42, 182, 2, 36, 42, 180, 0, 70, 182, 1, 179, 172]
abbrev dktX1_week_1 : List UInt8 := dkwX1_week_1 ++ []
def dkwX1_week_0 : List UInt8 := [42, 42, 180, 0, 70, 180, 0, 213, 17, 3, 231, 160, 0, 7, 6, 167, 0, 4, 3, 182, 0, 155]
abbrev dktX1_week_0 : List UInt8 := dkwX1_week_0 ++ dktX1_week_1
theorem dksX1_week_0 : cX1_week.data.toList.drop 0 = dktX1_week_0 := by decide +kernel
theorem dksX1_week_1 : cX1_week.data.toList.drop 22 = dktX1_week_1 := dk_seg dksX1_week_0 22 rfl rfl
theorem dX1_week_0 : decode cX1_week 0 = .ok (.aload_n 0, 1) := dk_42 (dk_at dksX1_week_0 0 rfl rfl)
theorem dX1_week_1 : decode cX1_week 1 = .ok (.aload_n 0, 1) := dk_42 (dk_at dksX1_week_0 1 rfl rfl)
theorem dX1_week_2 : decode cX1_week 2 = .ok (.getfield 70, 3) := dk_180 0 70 (dk_at dksX1_week_0 2 rfl rfl)
theorem dX1_week_5 : decode cX1_week 5 = .ok (.getfield 213, 3) := dk_180 0 213 (dk_at dksX1_week_0 5 rfl rfl)
theorem dX1_week_8 : decode cX1_week 8 = .ok (.sipush 999, 3) := dk_17 3 231 (dk_at dksX1_week_0 8 rfl rfl)
theorem dX1_week_11 : decode cX1_week 11 = .ok (.if_icmp .ne 7, 3) := dk_160 0 7 (dk_at dksX1_week_0 11 rfl rfl)
theorem dX1_week_14 : decode cX1_week 14 = .ok (.iconst 3, 1) := dk_6 (dk_at dksX1_week_0 14 rfl rfl)
theorem dX1_week_15 : decode cX1_week 15 = .ok (.goto 4, 3) := dk_167 0 4 (dk_at dksX1_week_0 15 rfl rfl)
theorem dX1_week_18 : decode cX1_week 18 = .ok (.iconst 0, 1) := dk_3 (dk_at dksX1_week_0 18 rfl rfl)
theorem dX1_week_19 : decode cX1_week 19 = .ok (.invokevirtual 155, 3) := dk_182 0 155 (dk_at dksX1_week_0 19 rfl rfl)
theorem dX1_week_22 : decode cX1_week 22 = .ok (.ifCond .ne 5, 3) := dk_154 0 5 (dk_at dksX1_week_1 0 rfl rfl)
theorem dX1_week_25 : decode cX1_week 25 = .ok (.iconst (-1), 1) := dk_2 (dk_at dksX1_week_1 3 rfl rfl)
theorem dX1_week_26 : decode cX1_week 26 = .ok (.ireturn, 1) := dk_172 (dk_at dksX1_week_1 4 rfl rfl)
theorem dX1_week_27 : decode cX1_week 27 = .ok (.aload_n 0, 1) := dk_42 (dk_at dksX1_week_1 5 rfl rfl)
theorem dX1_week_28 : decode cX1_week 28 = .ok (.invokevirtual 548, 3) := dk_182 2 36 (dk_at dksX1_week_1 6 rfl rfl)
theorem dX1_week_31 : decode cX1_week 31 = .ok (.aload_n 0, 1) := dk_42 (dk_at dksX1_week_1 9 rfl rfl)
theorem dX1_week_32 : decode cX1_week 32 = .ok (.getfield 70, 3) := dk_180 0 70 (dk_at dksX1_week_1 10 rfl rfl)
theorem dX1_week_35 : decode cX1_week 35 = .ok (.invokevirtual 435, 3) := dk_182 1 179 (dk_at dksX1_week_1 13 rfl rfl)
theorem dX1_week_38 : decode cX1_week 38 = .ok (.ireturn, 1) := dk_172 (dk_at dksX1_week_1 16 rfl rfl)
abbrev cX1_wish : ByteArray := prog_1_method_73_code
def yX1_wish : MethodName := ⟨RX1, "wish", "(II)I"⟩
def dkwX1_wish_4 : List UInt8 := [92, 46, 4, 96, 79, 42, 180, 0, 70, 180, 1, 15, 27, 46, 172]
abbrev dktX1_wish_4 : List UInt8 := dkwX1_wish_4 ++ []
def dkwX1_wish_3 : List UInt8 := [16, 6, 27, 104, 42, 180, 0, 70, 180, 1, 15, 27, 46, 96, 28, 79, 42, 180, 0, 70, 180, 1, 15, 27]
abbrev dktX1_wish_3 : List UInt8 := dkwX1_wish_3 ++ dktX1_wish_4
def dkwX1_wish_2 : List UInt8 := [6, 167, 0, 4, 3, 182, 0, 155, 154, 0, 5, 2, 172, 42, 182, 2, 36, 42, 180, 0, 70, 180, 2, 46]
abbrev dktX1_wish_2 : List UInt8 := dkwX1_wish_2 ++ dktX1_wish_3
def dkwX1_wish_1 : List UInt8 := [182, 1, 213, 153, 0, 7, 7, 167, 0, 22, 42, 180, 0, 70, 180, 1, 15, 27, 46, 16, 6, 160, 0, 7]
abbrev dktX1_wish_1 : List UInt8 := dkwX1_wish_1 ++ dktX1_wish_2
def dkwX1_wish_0 : List UInt8 := [42, 27, 28, 182, 1, 63, 62, 42, 29, 158, 0, 7, 29, 167, 0, 38, 42, 180, 0, 70, 27, 28]
abbrev dktX1_wish_0 : List UInt8 := dkwX1_wish_0 ++ dktX1_wish_1
theorem dksX1_wish_0 : cX1_wish.data.toList.drop 0 = dktX1_wish_0 := by decide +kernel
theorem dksX1_wish_1 : cX1_wish.data.toList.drop 22 = dktX1_wish_1 := dk_seg dksX1_wish_0 22 rfl rfl
theorem dksX1_wish_2 : cX1_wish.data.toList.drop 46 = dktX1_wish_2 := dk_seg dksX1_wish_1 24 rfl rfl
theorem dksX1_wish_3 : cX1_wish.data.toList.drop 70 = dktX1_wish_3 := dk_seg dksX1_wish_2 24 rfl rfl
theorem dksX1_wish_4 : cX1_wish.data.toList.drop 94 = dktX1_wish_4 := dk_seg dksX1_wish_3 24 rfl rfl
theorem dX1_wish_0 : decode cX1_wish 0 = .ok (.aload_n 0, 1) := dk_42 (dk_at dksX1_wish_0 0 rfl rfl)
theorem dX1_wish_1 : decode cX1_wish 1 = .ok (.iload_n 1, 1) := dk_27 (dk_at dksX1_wish_0 1 rfl rfl)
theorem dX1_wish_2 : decode cX1_wish 2 = .ok (.iload_n 2, 1) := dk_28 (dk_at dksX1_wish_0 2 rfl rfl)
theorem dX1_wish_3 : decode cX1_wish 3 = .ok (.invokevirtual 319, 3) := dk_182 1 63 (dk_at dksX1_wish_0 3 rfl rfl)
theorem dX1_wish_6 : decode cX1_wish 6 = .ok (.istore_n 3, 1) := dk_62 (dk_at dksX1_wish_0 6 rfl rfl)
theorem dX1_wish_7 : decode cX1_wish 7 = .ok (.aload_n 0, 1) := dk_42 (dk_at dksX1_wish_0 7 rfl rfl)
theorem dX1_wish_8 : decode cX1_wish 8 = .ok (.iload_n 3, 1) := dk_29 (dk_at dksX1_wish_0 8 rfl rfl)
theorem dX1_wish_9 : decode cX1_wish 9 = .ok (.ifCond .le 7, 3) := dk_158 0 7 (dk_at dksX1_wish_0 9 rfl rfl)
theorem dX1_wish_12 : decode cX1_wish 12 = .ok (.iload_n 3, 1) := dk_29 (dk_at dksX1_wish_0 12 rfl rfl)
theorem dX1_wish_13 : decode cX1_wish 13 = .ok (.goto 38, 3) := dk_167 0 38 (dk_at dksX1_wish_0 13 rfl rfl)
theorem dX1_wish_16 : decode cX1_wish 16 = .ok (.aload_n 0, 1) := dk_42 (dk_at dksX1_wish_0 16 rfl rfl)
theorem dX1_wish_17 : decode cX1_wish 17 = .ok (.getfield 70, 3) := dk_180 0 70 (dk_at dksX1_wish_0 17 rfl rfl)
theorem dX1_wish_20 : decode cX1_wish 20 = .ok (.iload_n 1, 1) := dk_27 (dk_at dksX1_wish_0 20 rfl rfl)
theorem dX1_wish_21 : decode cX1_wish 21 = .ok (.iload_n 2, 1) := dk_28 (dk_at dksX1_wish_0 21 rfl rfl)
theorem dX1_wish_22 : decode cX1_wish 22 = .ok (.invokevirtual 469, 3) := dk_182 1 213 (dk_at dksX1_wish_1 0 rfl rfl)
theorem dX1_wish_25 : decode cX1_wish 25 = .ok (.ifCond .eq 7, 3) := dk_153 0 7 (dk_at dksX1_wish_1 3 rfl rfl)
theorem dX1_wish_28 : decode cX1_wish 28 = .ok (.iconst 4, 1) := dk_7 (dk_at dksX1_wish_1 6 rfl rfl)
theorem dX1_wish_29 : decode cX1_wish 29 = .ok (.goto 22, 3) := dk_167 0 22 (dk_at dksX1_wish_1 7 rfl rfl)
theorem dX1_wish_32 : decode cX1_wish 32 = .ok (.aload_n 0, 1) := dk_42 (dk_at dksX1_wish_1 10 rfl rfl)
theorem dX1_wish_33 : decode cX1_wish 33 = .ok (.getfield 70, 3) := dk_180 0 70 (dk_at dksX1_wish_1 11 rfl rfl)
theorem dX1_wish_36 : decode cX1_wish 36 = .ok (.getfield 271, 3) := dk_180 1 15 (dk_at dksX1_wish_1 14 rfl rfl)
theorem dX1_wish_39 : decode cX1_wish 39 = .ok (.iload_n 1, 1) := dk_27 (dk_at dksX1_wish_1 17 rfl rfl)
theorem dX1_wish_40 : decode cX1_wish 40 = .ok (.iaload, 1) := dk_46 (dk_at dksX1_wish_1 18 rfl rfl)
theorem dX1_wish_41 : decode cX1_wish 41 = .ok (.bipush 6, 2) := dk_16 6 (dk_at dksX1_wish_1 19 rfl rfl)
theorem dX1_wish_43 : decode cX1_wish 43 = .ok (.if_icmp .ne 7, 3) := dk_160 0 7 (dk_at dksX1_wish_1 21 rfl rfl)
theorem dX1_wish_46 : decode cX1_wish 46 = .ok (.iconst 3, 1) := dk_6 (dk_at dksX1_wish_2 0 rfl rfl)
theorem dX1_wish_47 : decode cX1_wish 47 = .ok (.goto 4, 3) := dk_167 0 4 (dk_at dksX1_wish_2 1 rfl rfl)
theorem dX1_wish_50 : decode cX1_wish 50 = .ok (.iconst 0, 1) := dk_3 (dk_at dksX1_wish_2 4 rfl rfl)
theorem dX1_wish_51 : decode cX1_wish 51 = .ok (.invokevirtual 155, 3) := dk_182 0 155 (dk_at dksX1_wish_2 5 rfl rfl)
theorem dX1_wish_54 : decode cX1_wish 54 = .ok (.ifCond .ne 5, 3) := dk_154 0 5 (dk_at dksX1_wish_2 8 rfl rfl)
theorem dX1_wish_57 : decode cX1_wish 57 = .ok (.iconst (-1), 1) := dk_2 (dk_at dksX1_wish_2 11 rfl rfl)
theorem dX1_wish_58 : decode cX1_wish 58 = .ok (.ireturn, 1) := dk_172 (dk_at dksX1_wish_2 12 rfl rfl)
theorem dX1_wish_59 : decode cX1_wish 59 = .ok (.aload_n 0, 1) := dk_42 (dk_at dksX1_wish_2 13 rfl rfl)
theorem dX1_wish_60 : decode cX1_wish 60 = .ok (.invokevirtual 548, 3) := dk_182 2 36 (dk_at dksX1_wish_2 14 rfl rfl)
theorem dX1_wish_63 : decode cX1_wish 63 = .ok (.aload_n 0, 1) := dk_42 (dk_at dksX1_wish_2 17 rfl rfl)
theorem dX1_wish_64 : decode cX1_wish 64 = .ok (.getfield 70, 3) := dk_180 0 70 (dk_at dksX1_wish_2 18 rfl rfl)
theorem dX1_wish_67 : decode cX1_wish 67 = .ok (.getfield 558, 3) := dk_180 2 46 (dk_at dksX1_wish_2 21 rfl rfl)
theorem dX1_wish_70 : decode cX1_wish 70 = .ok (.bipush 6, 2) := dk_16 6 (dk_at dksX1_wish_3 0 rfl rfl)
theorem dX1_wish_72 : decode cX1_wish 72 = .ok (.iload_n 1, 1) := dk_27 (dk_at dksX1_wish_3 2 rfl rfl)
theorem dX1_wish_73 : decode cX1_wish 73 = .ok (.imul, 1) := dk_104 (dk_at dksX1_wish_3 3 rfl rfl)
theorem dX1_wish_74 : decode cX1_wish 74 = .ok (.aload_n 0, 1) := dk_42 (dk_at dksX1_wish_3 4 rfl rfl)
theorem dX1_wish_75 : decode cX1_wish 75 = .ok (.getfield 70, 3) := dk_180 0 70 (dk_at dksX1_wish_3 5 rfl rfl)
theorem dX1_wish_78 : decode cX1_wish 78 = .ok (.getfield 271, 3) := dk_180 1 15 (dk_at dksX1_wish_3 8 rfl rfl)
theorem dX1_wish_81 : decode cX1_wish 81 = .ok (.iload_n 1, 1) := dk_27 (dk_at dksX1_wish_3 11 rfl rfl)
theorem dX1_wish_82 : decode cX1_wish 82 = .ok (.iaload, 1) := dk_46 (dk_at dksX1_wish_3 12 rfl rfl)
theorem dX1_wish_83 : decode cX1_wish 83 = .ok (.iadd, 1) := dk_96 (dk_at dksX1_wish_3 13 rfl rfl)
theorem dX1_wish_84 : decode cX1_wish 84 = .ok (.iload_n 2, 1) := dk_28 (dk_at dksX1_wish_3 14 rfl rfl)
theorem dX1_wish_85 : decode cX1_wish 85 = .ok (.iastore, 1) := dk_79 (dk_at dksX1_wish_3 15 rfl rfl)
theorem dX1_wish_86 : decode cX1_wish 86 = .ok (.aload_n 0, 1) := dk_42 (dk_at dksX1_wish_3 16 rfl rfl)
theorem dX1_wish_87 : decode cX1_wish 87 = .ok (.getfield 70, 3) := dk_180 0 70 (dk_at dksX1_wish_3 17 rfl rfl)
theorem dX1_wish_90 : decode cX1_wish 90 = .ok (.getfield 271, 3) := dk_180 1 15 (dk_at dksX1_wish_3 20 rfl rfl)
theorem dX1_wish_93 : decode cX1_wish 93 = .ok (.iload_n 1, 1) := dk_27 (dk_at dksX1_wish_3 23 rfl rfl)
theorem dX1_wish_94 : decode cX1_wish 94 = .ok (.dup2, 1) := dk_92 (dk_at dksX1_wish_4 0 rfl rfl)
theorem dX1_wish_95 : decode cX1_wish 95 = .ok (.iaload, 1) := dk_46 (dk_at dksX1_wish_4 1 rfl rfl)
theorem dX1_wish_96 : decode cX1_wish 96 = .ok (.iconst 1, 1) := dk_4 (dk_at dksX1_wish_4 2 rfl rfl)
theorem dX1_wish_97 : decode cX1_wish 97 = .ok (.iadd, 1) := dk_96 (dk_at dksX1_wish_4 3 rfl rfl)
theorem dX1_wish_98 : decode cX1_wish 98 = .ok (.iastore, 1) := dk_79 (dk_at dksX1_wish_4 4 rfl rfl)
theorem dX1_wish_99 : decode cX1_wish 99 = .ok (.aload_n 0, 1) := dk_42 (dk_at dksX1_wish_4 5 rfl rfl)
theorem dX1_wish_100 : decode cX1_wish 100 = .ok (.getfield 70, 3) := dk_180 0 70 (dk_at dksX1_wish_4 6 rfl rfl)
theorem dX1_wish_103 : decode cX1_wish 103 = .ok (.getfield 271, 3) := dk_180 1 15 (dk_at dksX1_wish_4 9 rfl rfl)
theorem dX1_wish_106 : decode cX1_wish 106 = .ok (.iload_n 1, 1) := dk_27 (dk_at dksX1_wish_4 12 rfl rfl)
theorem dX1_wish_107 : decode cX1_wish 107 = .ok (.iaload, 1) := dk_46 (dk_at dksX1_wish_4 13 rfl rfl)
theorem dX1_wish_108 : decode cX1_wish 108 = .ok (.ireturn, 1) := dk_172 (dk_at dksX1_wish_4 14 rfl rfl)
abbrev cX1_unwish : ByteArray := prog_1_method_74_code
def yX1_unwish : MethodName := ⟨RX1, "unwish", "(II)I"⟩
def dkwX1_unwish_5 : List UInt8 := [167, 255, 207, 42, 180, 0, 70, 180, 1, 15, 27, 46, 172]
abbrev dktX1_unwish_5 : List UInt8 := dkwX1_unwish_5 ++ []
def dkwX1_unwish_4 : List UInt8 := [96, 42, 180, 0, 70, 180, 2, 46, 16, 6, 27, 104, 21, 5, 96, 4, 96, 46, 79, 132, 5, 1]
abbrev dktX1_unwish_4 : List UInt8 := dkwX1_unwish_4 ++ dktX1_unwish_5
def dkwX1_unwish_3 : List UInt8 := [180, 0, 70, 180, 1, 15, 27, 46, 162, 0, 41, 42, 180, 0, 70, 180, 2, 46, 16, 6, 27, 104, 21, 5]
abbrev dktX1_unwish_3 : List UInt8 := dkwX1_unwish_3 ++ dktX1_unwish_4
def dkwX1_unwish_2 : List UInt8 := [54, 4, 42, 180, 0, 70, 180, 1, 15, 27, 92, 46, 4, 100, 79, 21, 4, 54, 5, 21, 5, 42]
abbrev dktX1_unwish_2 : List UInt8 := dkwX1_unwish_2 ++ dktX1_unwish_3
def dkwX1_unwish_1 : List UInt8 := [8, 167, 0, 4, 29, 182, 0, 155, 154, 0, 5, 2, 172, 42, 182, 2, 36, 42, 27, 28, 182, 1, 216]
abbrev dktX1_unwish_1 : List UInt8 := dkwX1_unwish_1 ++ dktX1_unwish_2
def dkwX1_unwish_0 : List UInt8 := [42, 27, 28, 182, 1, 63, 62, 42, 29, 154, 0, 19, 42, 180, 0, 70, 27, 28, 182, 1, 213, 154, 0, 7]
abbrev dktX1_unwish_0 : List UInt8 := dkwX1_unwish_0 ++ dktX1_unwish_1
theorem dksX1_unwish_0 : cX1_unwish.data.toList.drop 0 = dktX1_unwish_0 := by decide +kernel
theorem dksX1_unwish_1 : cX1_unwish.data.toList.drop 24 = dktX1_unwish_1 := dk_seg dksX1_unwish_0 24 rfl rfl
theorem dksX1_unwish_2 : cX1_unwish.data.toList.drop 47 = dktX1_unwish_2 := dk_seg dksX1_unwish_1 23 rfl rfl
theorem dksX1_unwish_3 : cX1_unwish.data.toList.drop 69 = dktX1_unwish_3 := dk_seg dksX1_unwish_2 22 rfl rfl
theorem dksX1_unwish_4 : cX1_unwish.data.toList.drop 93 = dktX1_unwish_4 := dk_seg dksX1_unwish_3 24 rfl rfl
theorem dksX1_unwish_5 : cX1_unwish.data.toList.drop 115 = dktX1_unwish_5 := dk_seg dksX1_unwish_4 22 rfl rfl
theorem dX1_unwish_0 : decode cX1_unwish 0 = .ok (.aload_n 0, 1) := dk_42 (dk_at dksX1_unwish_0 0 rfl rfl)
theorem dX1_unwish_1 : decode cX1_unwish 1 = .ok (.iload_n 1, 1) := dk_27 (dk_at dksX1_unwish_0 1 rfl rfl)
theorem dX1_unwish_2 : decode cX1_unwish 2 = .ok (.iload_n 2, 1) := dk_28 (dk_at dksX1_unwish_0 2 rfl rfl)
theorem dX1_unwish_3 : decode cX1_unwish 3 = .ok (.invokevirtual 319, 3) := dk_182 1 63 (dk_at dksX1_unwish_0 3 rfl rfl)
theorem dX1_unwish_6 : decode cX1_unwish 6 = .ok (.istore_n 3, 1) := dk_62 (dk_at dksX1_unwish_0 6 rfl rfl)
theorem dX1_unwish_7 : decode cX1_unwish 7 = .ok (.aload_n 0, 1) := dk_42 (dk_at dksX1_unwish_0 7 rfl rfl)
theorem dX1_unwish_8 : decode cX1_unwish 8 = .ok (.iload_n 3, 1) := dk_29 (dk_at dksX1_unwish_0 8 rfl rfl)
theorem dX1_unwish_9 : decode cX1_unwish 9 = .ok (.ifCond .ne 19, 3) := dk_154 0 19 (dk_at dksX1_unwish_0 9 rfl rfl)
theorem dX1_unwish_12 : decode cX1_unwish 12 = .ok (.aload_n 0, 1) := dk_42 (dk_at dksX1_unwish_0 12 rfl rfl)
theorem dX1_unwish_13 : decode cX1_unwish 13 = .ok (.getfield 70, 3) := dk_180 0 70 (dk_at dksX1_unwish_0 13 rfl rfl)
theorem dX1_unwish_16 : decode cX1_unwish 16 = .ok (.iload_n 1, 1) := dk_27 (dk_at dksX1_unwish_0 16 rfl rfl)
theorem dX1_unwish_17 : decode cX1_unwish 17 = .ok (.iload_n 2, 1) := dk_28 (dk_at dksX1_unwish_0 17 rfl rfl)
theorem dX1_unwish_18 : decode cX1_unwish 18 = .ok (.invokevirtual 469, 3) := dk_182 1 213 (dk_at dksX1_unwish_0 18 rfl rfl)
theorem dX1_unwish_21 : decode cX1_unwish 21 = .ok (.ifCond .ne 7, 3) := dk_154 0 7 (dk_at dksX1_unwish_0 21 rfl rfl)
theorem dX1_unwish_24 : decode cX1_unwish 24 = .ok (.iconst 5, 1) := dk_8 (dk_at dksX1_unwish_1 0 rfl rfl)
theorem dX1_unwish_25 : decode cX1_unwish 25 = .ok (.goto 4, 3) := dk_167 0 4 (dk_at dksX1_unwish_1 1 rfl rfl)
theorem dX1_unwish_28 : decode cX1_unwish 28 = .ok (.iload_n 3, 1) := dk_29 (dk_at dksX1_unwish_1 4 rfl rfl)
theorem dX1_unwish_29 : decode cX1_unwish 29 = .ok (.invokevirtual 155, 3) := dk_182 0 155 (dk_at dksX1_unwish_1 5 rfl rfl)
theorem dX1_unwish_32 : decode cX1_unwish 32 = .ok (.ifCond .ne 5, 3) := dk_154 0 5 (dk_at dksX1_unwish_1 8 rfl rfl)
theorem dX1_unwish_35 : decode cX1_unwish 35 = .ok (.iconst (-1), 1) := dk_2 (dk_at dksX1_unwish_1 11 rfl rfl)
theorem dX1_unwish_36 : decode cX1_unwish 36 = .ok (.ireturn, 1) := dk_172 (dk_at dksX1_unwish_1 12 rfl rfl)
theorem dX1_unwish_37 : decode cX1_unwish 37 = .ok (.aload_n 0, 1) := dk_42 (dk_at dksX1_unwish_1 13 rfl rfl)
theorem dX1_unwish_38 : decode cX1_unwish 38 = .ok (.invokevirtual 548, 3) := dk_182 2 36 (dk_at dksX1_unwish_1 14 rfl rfl)
theorem dX1_unwish_41 : decode cX1_unwish 41 = .ok (.aload_n 0, 1) := dk_42 (dk_at dksX1_unwish_1 17 rfl rfl)
theorem dX1_unwish_42 : decode cX1_unwish 42 = .ok (.iload_n 1, 1) := dk_27 (dk_at dksX1_unwish_1 18 rfl rfl)
theorem dX1_unwish_43 : decode cX1_unwish 43 = .ok (.iload_n 2, 1) := dk_28 (dk_at dksX1_unwish_1 19 rfl rfl)
theorem dX1_unwish_44 : decode cX1_unwish 44 = .ok (.invokevirtual 472, 3) := dk_182 1 216 (dk_at dksX1_unwish_1 20 rfl rfl)
theorem dX1_unwish_47 : decode cX1_unwish 47 = .ok (.istore 4, 2) := dk_54 4 (dk_at dksX1_unwish_2 0 rfl rfl)
theorem dX1_unwish_49 : decode cX1_unwish 49 = .ok (.aload_n 0, 1) := dk_42 (dk_at dksX1_unwish_2 2 rfl rfl)
theorem dX1_unwish_50 : decode cX1_unwish 50 = .ok (.getfield 70, 3) := dk_180 0 70 (dk_at dksX1_unwish_2 3 rfl rfl)
theorem dX1_unwish_53 : decode cX1_unwish 53 = .ok (.getfield 271, 3) := dk_180 1 15 (dk_at dksX1_unwish_2 6 rfl rfl)
theorem dX1_unwish_56 : decode cX1_unwish 56 = .ok (.iload_n 1, 1) := dk_27 (dk_at dksX1_unwish_2 9 rfl rfl)
theorem dX1_unwish_57 : decode cX1_unwish 57 = .ok (.dup2, 1) := dk_92 (dk_at dksX1_unwish_2 10 rfl rfl)
theorem dX1_unwish_58 : decode cX1_unwish 58 = .ok (.iaload, 1) := dk_46 (dk_at dksX1_unwish_2 11 rfl rfl)
theorem dX1_unwish_59 : decode cX1_unwish 59 = .ok (.iconst 1, 1) := dk_4 (dk_at dksX1_unwish_2 12 rfl rfl)
theorem dX1_unwish_60 : decode cX1_unwish 60 = .ok (.isub, 1) := dk_100 (dk_at dksX1_unwish_2 13 rfl rfl)
theorem dX1_unwish_61 : decode cX1_unwish 61 = .ok (.iastore, 1) := dk_79 (dk_at dksX1_unwish_2 14 rfl rfl)
theorem dX1_unwish_62 : decode cX1_unwish 62 = .ok (.iload 4, 2) := dk_21 4 (dk_at dksX1_unwish_2 15 rfl rfl)
theorem dX1_unwish_64 : decode cX1_unwish 64 = .ok (.istore 5, 2) := dk_54 5 (dk_at dksX1_unwish_2 17 rfl rfl)
theorem dX1_unwish_66 : decode cX1_unwish 66 = .ok (.iload 5, 2) := dk_21 5 (dk_at dksX1_unwish_2 19 rfl rfl)
theorem dX1_unwish_68 : decode cX1_unwish 68 = .ok (.aload_n 0, 1) := dk_42 (dk_at dksX1_unwish_2 21 rfl rfl)
theorem dX1_unwish_69 : decode cX1_unwish 69 = .ok (.getfield 70, 3) := dk_180 0 70 (dk_at dksX1_unwish_3 0 rfl rfl)
theorem dX1_unwish_72 : decode cX1_unwish 72 = .ok (.getfield 271, 3) := dk_180 1 15 (dk_at dksX1_unwish_3 3 rfl rfl)
theorem dX1_unwish_75 : decode cX1_unwish 75 = .ok (.iload_n 1, 1) := dk_27 (dk_at dksX1_unwish_3 6 rfl rfl)
theorem dX1_unwish_76 : decode cX1_unwish 76 = .ok (.iaload, 1) := dk_46 (dk_at dksX1_unwish_3 7 rfl rfl)
theorem dX1_unwish_77 : decode cX1_unwish 77 = .ok (.if_icmp .ge 41, 3) := dk_162 0 41 (dk_at dksX1_unwish_3 8 rfl rfl)
theorem dX1_unwish_80 : decode cX1_unwish 80 = .ok (.aload_n 0, 1) := dk_42 (dk_at dksX1_unwish_3 11 rfl rfl)
theorem dX1_unwish_81 : decode cX1_unwish 81 = .ok (.getfield 70, 3) := dk_180 0 70 (dk_at dksX1_unwish_3 12 rfl rfl)
theorem dX1_unwish_84 : decode cX1_unwish 84 = .ok (.getfield 558, 3) := dk_180 2 46 (dk_at dksX1_unwish_3 15 rfl rfl)
theorem dX1_unwish_87 : decode cX1_unwish 87 = .ok (.bipush 6, 2) := dk_16 6 (dk_at dksX1_unwish_3 18 rfl rfl)
theorem dX1_unwish_89 : decode cX1_unwish 89 = .ok (.iload_n 1, 1) := dk_27 (dk_at dksX1_unwish_3 20 rfl rfl)
theorem dX1_unwish_90 : decode cX1_unwish 90 = .ok (.imul, 1) := dk_104 (dk_at dksX1_unwish_3 21 rfl rfl)
theorem dX1_unwish_91 : decode cX1_unwish 91 = .ok (.iload 5, 2) := dk_21 5 (dk_at dksX1_unwish_3 22 rfl rfl)
theorem dX1_unwish_93 : decode cX1_unwish 93 = .ok (.iadd, 1) := dk_96 (dk_at dksX1_unwish_4 0 rfl rfl)
theorem dX1_unwish_94 : decode cX1_unwish 94 = .ok (.aload_n 0, 1) := dk_42 (dk_at dksX1_unwish_4 1 rfl rfl)
theorem dX1_unwish_95 : decode cX1_unwish 95 = .ok (.getfield 70, 3) := dk_180 0 70 (dk_at dksX1_unwish_4 2 rfl rfl)
theorem dX1_unwish_98 : decode cX1_unwish 98 = .ok (.getfield 558, 3) := dk_180 2 46 (dk_at dksX1_unwish_4 5 rfl rfl)
theorem dX1_unwish_101 : decode cX1_unwish 101 = .ok (.bipush 6, 2) := dk_16 6 (dk_at dksX1_unwish_4 8 rfl rfl)
theorem dX1_unwish_103 : decode cX1_unwish 103 = .ok (.iload_n 1, 1) := dk_27 (dk_at dksX1_unwish_4 10 rfl rfl)
theorem dX1_unwish_104 : decode cX1_unwish 104 = .ok (.imul, 1) := dk_104 (dk_at dksX1_unwish_4 11 rfl rfl)
theorem dX1_unwish_105 : decode cX1_unwish 105 = .ok (.iload 5, 2) := dk_21 5 (dk_at dksX1_unwish_4 12 rfl rfl)
theorem dX1_unwish_107 : decode cX1_unwish 107 = .ok (.iadd, 1) := dk_96 (dk_at dksX1_unwish_4 14 rfl rfl)
theorem dX1_unwish_108 : decode cX1_unwish 108 = .ok (.iconst 1, 1) := dk_4 (dk_at dksX1_unwish_4 15 rfl rfl)
theorem dX1_unwish_109 : decode cX1_unwish 109 = .ok (.iadd, 1) := dk_96 (dk_at dksX1_unwish_4 16 rfl rfl)
theorem dX1_unwish_110 : decode cX1_unwish 110 = .ok (.iaload, 1) := dk_46 (dk_at dksX1_unwish_4 17 rfl rfl)
theorem dX1_unwish_111 : decode cX1_unwish 111 = .ok (.iastore, 1) := dk_79 (dk_at dksX1_unwish_4 18 rfl rfl)
theorem dX1_unwish_112 : decode cX1_unwish 112 = .ok (.iinc 5 1, 3) := dk_132 5 1 (dk_at dksX1_unwish_4 19 rfl rfl)
theorem dX1_unwish_115 : decode cX1_unwish 115 = .ok (.goto (-49), 3) := dk_167 255 207 (dk_at dksX1_unwish_5 0 rfl rfl)
theorem dX1_unwish_118 : decode cX1_unwish 118 = .ok (.aload_n 0, 1) := dk_42 (dk_at dksX1_unwish_5 3 rfl rfl)
theorem dX1_unwish_119 : decode cX1_unwish 119 = .ok (.getfield 70, 3) := dk_180 0 70 (dk_at dksX1_unwish_5 4 rfl rfl)
theorem dX1_unwish_122 : decode cX1_unwish 122 = .ok (.getfield 271, 3) := dk_180 1 15 (dk_at dksX1_unwish_5 7 rfl rfl)
theorem dX1_unwish_125 : decode cX1_unwish 125 = .ok (.iload_n 1, 1) := dk_27 (dk_at dksX1_unwish_5 10 rfl rfl)
theorem dX1_unwish_126 : decode cX1_unwish 126 = .ok (.iaload, 1) := dk_46 (dk_at dksX1_unwish_5 11 rfl rfl)
theorem dX1_unwish_127 : decode cX1_unwish 127 = .ok (.ireturn, 1) := dk_172 (dk_at dksX1_unwish_5 12 rfl rfl)
abbrev cX1_leave : ByteArray := prog_1_method_75_code
def yX1_leave : MethodName := ⟨RX1, "leave", "(I)I"⟩
def dkwX1_leave_2 : List UInt8 := [27, 182, 2, 49, 42, 42, 180, 0, 70, 182, 0, 223, 172]
abbrev dktX1_leave_2 : List UInt8 := dkwX1_leave_2 ++ []
def dkwX1_leave_1 : List UInt8 := [153, 0, 7, 7, 167, 0, 4, 3, 182, 0, 155, 154, 0, 5, 2, 172, 42, 182, 2, 36, 42, 180, 0, 70]
abbrev dktX1_leave_1 : List UInt8 := dkwX1_leave_1 ++ dktX1_leave_2
def dkwX1_leave_0 : List UInt8 := [42, 42, 27, 182, 0, 138, 154, 0, 7, 5, 167, 0, 20, 42, 180, 0, 70, 180, 1, 49, 27, 51]
abbrev dktX1_leave_0 : List UInt8 := dkwX1_leave_0 ++ dktX1_leave_1
theorem dksX1_leave_0 : cX1_leave.data.toList.drop 0 = dktX1_leave_0 := by decide +kernel
theorem dksX1_leave_1 : cX1_leave.data.toList.drop 22 = dktX1_leave_1 := dk_seg dksX1_leave_0 22 rfl rfl
theorem dksX1_leave_2 : cX1_leave.data.toList.drop 46 = dktX1_leave_2 := dk_seg dksX1_leave_1 24 rfl rfl
theorem dX1_leave_0 : decode cX1_leave 0 = .ok (.aload_n 0, 1) := dk_42 (dk_at dksX1_leave_0 0 rfl rfl)
theorem dX1_leave_1 : decode cX1_leave 1 = .ok (.aload_n 0, 1) := dk_42 (dk_at dksX1_leave_0 1 rfl rfl)
theorem dX1_leave_2 : decode cX1_leave 2 = .ok (.iload_n 1, 1) := dk_27 (dk_at dksX1_leave_0 2 rfl rfl)
theorem dX1_leave_3 : decode cX1_leave 3 = .ok (.invokevirtual 138, 3) := dk_182 0 138 (dk_at dksX1_leave_0 3 rfl rfl)
theorem dX1_leave_6 : decode cX1_leave 6 = .ok (.ifCond .ne 7, 3) := dk_154 0 7 (dk_at dksX1_leave_0 6 rfl rfl)
theorem dX1_leave_9 : decode cX1_leave 9 = .ok (.iconst 2, 1) := dk_5 (dk_at dksX1_leave_0 9 rfl rfl)
theorem dX1_leave_10 : decode cX1_leave 10 = .ok (.goto 20, 3) := dk_167 0 20 (dk_at dksX1_leave_0 10 rfl rfl)
theorem dX1_leave_13 : decode cX1_leave 13 = .ok (.aload_n 0, 1) := dk_42 (dk_at dksX1_leave_0 13 rfl rfl)
theorem dX1_leave_14 : decode cX1_leave 14 = .ok (.getfield 70, 3) := dk_180 0 70 (dk_at dksX1_leave_0 14 rfl rfl)
theorem dX1_leave_17 : decode cX1_leave 17 = .ok (.getfield 305, 3) := dk_180 1 49 (dk_at dksX1_leave_0 17 rfl rfl)
theorem dX1_leave_20 : decode cX1_leave 20 = .ok (.iload_n 1, 1) := dk_27 (dk_at dksX1_leave_0 20 rfl rfl)
theorem dX1_leave_21 : decode cX1_leave 21 = .ok (.baload, 1) := dk_51 (dk_at dksX1_leave_0 21 rfl rfl)
theorem dX1_leave_22 : decode cX1_leave 22 = .ok (.ifCond .eq 7, 3) := dk_153 0 7 (dk_at dksX1_leave_1 0 rfl rfl)
theorem dX1_leave_25 : decode cX1_leave 25 = .ok (.iconst 4, 1) := dk_7 (dk_at dksX1_leave_1 3 rfl rfl)
theorem dX1_leave_26 : decode cX1_leave 26 = .ok (.goto 4, 3) := dk_167 0 4 (dk_at dksX1_leave_1 4 rfl rfl)
theorem dX1_leave_29 : decode cX1_leave 29 = .ok (.iconst 0, 1) := dk_3 (dk_at dksX1_leave_1 7 rfl rfl)
theorem dX1_leave_30 : decode cX1_leave 30 = .ok (.invokevirtual 155, 3) := dk_182 0 155 (dk_at dksX1_leave_1 8 rfl rfl)
theorem dX1_leave_33 : decode cX1_leave 33 = .ok (.ifCond .ne 5, 3) := dk_154 0 5 (dk_at dksX1_leave_1 11 rfl rfl)
theorem dX1_leave_36 : decode cX1_leave 36 = .ok (.iconst (-1), 1) := dk_2 (dk_at dksX1_leave_1 14 rfl rfl)
theorem dX1_leave_37 : decode cX1_leave 37 = .ok (.ireturn, 1) := dk_172 (dk_at dksX1_leave_1 15 rfl rfl)
theorem dX1_leave_38 : decode cX1_leave 38 = .ok (.aload_n 0, 1) := dk_42 (dk_at dksX1_leave_1 16 rfl rfl)
theorem dX1_leave_39 : decode cX1_leave 39 = .ok (.invokevirtual 548, 3) := dk_182 2 36 (dk_at dksX1_leave_1 17 rfl rfl)
theorem dX1_leave_42 : decode cX1_leave 42 = .ok (.aload_n 0, 1) := dk_42 (dk_at dksX1_leave_1 20 rfl rfl)
theorem dX1_leave_43 : decode cX1_leave 43 = .ok (.getfield 70, 3) := dk_180 0 70 (dk_at dksX1_leave_1 21 rfl rfl)
theorem dX1_leave_46 : decode cX1_leave 46 = .ok (.iload_n 1, 1) := dk_27 (dk_at dksX1_leave_2 0 rfl rfl)
theorem dX1_leave_47 : decode cX1_leave 47 = .ok (.invokevirtual 561, 3) := dk_182 2 49 (dk_at dksX1_leave_2 1 rfl rfl)
theorem dX1_leave_50 : decode cX1_leave 50 = .ok (.aload_n 0, 1) := dk_42 (dk_at dksX1_leave_2 4 rfl rfl)
theorem dX1_leave_51 : decode cX1_leave 51 = .ok (.aload_n 0, 1) := dk_42 (dk_at dksX1_leave_2 5 rfl rfl)
theorem dX1_leave_52 : decode cX1_leave 52 = .ok (.getfield 70, 3) := dk_180 0 70 (dk_at dksX1_leave_2 6 rfl rfl)
theorem dX1_leave_55 : decode cX1_leave 55 = .ok (.invokevirtual 223, 3) := dk_182 0 223 (dk_at dksX1_leave_2 9 rfl rfl)
theorem dX1_leave_58 : decode cX1_leave 58 = .ok (.ireturn, 1) := dk_172 (dk_at dksX1_leave_2 12 rfl rfl)
abbrev cX1_shut : ByteArray := prog_1_method_76_code
def yX1_shut : MethodName := ⟨RX1, "shut", "(IZ)I"⟩
def dkwX1_shut_4 : List UInt8 := [180, 0, 70, 182, 0, 219, 172]
abbrev dktX1_shut_4 : List UInt8 := dkwX1_shut_4 ++ []
def dkwX1_shut_3 : List UInt8 := [180, 0, 70, 180, 1, 176, 29, 92, 46, 4, 27, 120, 2, 130, 126, 79, 132, 3, 1, 167, 255, 221, 42, 42]
abbrev dktX1_shut_3 : List UInt8 := dkwX1_shut_3 ++ dktX1_shut_4
def dkwX1_shut_2 : List UInt8 := [180, 1, 1, 27, 28, 84, 3, 62, 28, 153, 0, 37, 29, 42, 180, 0, 51, 182, 0, 130, 162, 0, 26, 42]
abbrev dktX1_shut_2 : List UInt8 := dkwX1_shut_2 ++ dktX1_shut_3
def dkwX1_shut_1 : List UInt8 := [160, 0, 7, 7, 167, 0, 4, 3, 182, 0, 155, 154, 0, 5, 2, 172, 42, 182, 2, 36, 42, 180, 0, 70]
abbrev dktX1_shut_1 : List UInt8 := dkwX1_shut_1 ++ dktX1_shut_2
def dkwX1_shut_0 : List UInt8 := [42, 42, 27, 182, 0, 141, 154, 0, 7, 5, 167, 0, 21, 42, 180, 0, 70, 180, 1, 1, 27, 51, 28]
abbrev dktX1_shut_0 : List UInt8 := dkwX1_shut_0 ++ dktX1_shut_1
theorem dksX1_shut_0 : cX1_shut.data.toList.drop 0 = dktX1_shut_0 := by decide +kernel
theorem dksX1_shut_1 : cX1_shut.data.toList.drop 23 = dktX1_shut_1 := dk_seg dksX1_shut_0 23 rfl rfl
theorem dksX1_shut_2 : cX1_shut.data.toList.drop 47 = dktX1_shut_2 := dk_seg dksX1_shut_1 24 rfl rfl
theorem dksX1_shut_3 : cX1_shut.data.toList.drop 71 = dktX1_shut_3 := dk_seg dksX1_shut_2 24 rfl rfl
theorem dksX1_shut_4 : cX1_shut.data.toList.drop 95 = dktX1_shut_4 := dk_seg dksX1_shut_3 24 rfl rfl
theorem dX1_shut_0 : decode cX1_shut 0 = .ok (.aload_n 0, 1) := dk_42 (dk_at dksX1_shut_0 0 rfl rfl)
theorem dX1_shut_1 : decode cX1_shut 1 = .ok (.aload_n 0, 1) := dk_42 (dk_at dksX1_shut_0 1 rfl rfl)
theorem dX1_shut_2 : decode cX1_shut 2 = .ok (.iload_n 1, 1) := dk_27 (dk_at dksX1_shut_0 2 rfl rfl)
theorem dX1_shut_3 : decode cX1_shut 3 = .ok (.invokevirtual 141, 3) := dk_182 0 141 (dk_at dksX1_shut_0 3 rfl rfl)
theorem dX1_shut_6 : decode cX1_shut 6 = .ok (.ifCond .ne 7, 3) := dk_154 0 7 (dk_at dksX1_shut_0 6 rfl rfl)
theorem dX1_shut_9 : decode cX1_shut 9 = .ok (.iconst 2, 1) := dk_5 (dk_at dksX1_shut_0 9 rfl rfl)
theorem dX1_shut_10 : decode cX1_shut 10 = .ok (.goto 21, 3) := dk_167 0 21 (dk_at dksX1_shut_0 10 rfl rfl)
theorem dX1_shut_13 : decode cX1_shut 13 = .ok (.aload_n 0, 1) := dk_42 (dk_at dksX1_shut_0 13 rfl rfl)
theorem dX1_shut_14 : decode cX1_shut 14 = .ok (.getfield 70, 3) := dk_180 0 70 (dk_at dksX1_shut_0 14 rfl rfl)
theorem dX1_shut_17 : decode cX1_shut 17 = .ok (.getfield 257, 3) := dk_180 1 1 (dk_at dksX1_shut_0 17 rfl rfl)
theorem dX1_shut_20 : decode cX1_shut 20 = .ok (.iload_n 1, 1) := dk_27 (dk_at dksX1_shut_0 20 rfl rfl)
theorem dX1_shut_21 : decode cX1_shut 21 = .ok (.baload, 1) := dk_51 (dk_at dksX1_shut_0 21 rfl rfl)
theorem dX1_shut_22 : decode cX1_shut 22 = .ok (.iload_n 2, 1) := dk_28 (dk_at dksX1_shut_0 22 rfl rfl)
theorem dX1_shut_23 : decode cX1_shut 23 = .ok (.if_icmp .ne 7, 3) := dk_160 0 7 (dk_at dksX1_shut_1 0 rfl rfl)
theorem dX1_shut_26 : decode cX1_shut 26 = .ok (.iconst 4, 1) := dk_7 (dk_at dksX1_shut_1 3 rfl rfl)
theorem dX1_shut_27 : decode cX1_shut 27 = .ok (.goto 4, 3) := dk_167 0 4 (dk_at dksX1_shut_1 4 rfl rfl)
theorem dX1_shut_30 : decode cX1_shut 30 = .ok (.iconst 0, 1) := dk_3 (dk_at dksX1_shut_1 7 rfl rfl)
theorem dX1_shut_31 : decode cX1_shut 31 = .ok (.invokevirtual 155, 3) := dk_182 0 155 (dk_at dksX1_shut_1 8 rfl rfl)
theorem dX1_shut_34 : decode cX1_shut 34 = .ok (.ifCond .ne 5, 3) := dk_154 0 5 (dk_at dksX1_shut_1 11 rfl rfl)
theorem dX1_shut_37 : decode cX1_shut 37 = .ok (.iconst (-1), 1) := dk_2 (dk_at dksX1_shut_1 14 rfl rfl)
theorem dX1_shut_38 : decode cX1_shut 38 = .ok (.ireturn, 1) := dk_172 (dk_at dksX1_shut_1 15 rfl rfl)
theorem dX1_shut_39 : decode cX1_shut 39 = .ok (.aload_n 0, 1) := dk_42 (dk_at dksX1_shut_1 16 rfl rfl)
theorem dX1_shut_40 : decode cX1_shut 40 = .ok (.invokevirtual 548, 3) := dk_182 2 36 (dk_at dksX1_shut_1 17 rfl rfl)
theorem dX1_shut_43 : decode cX1_shut 43 = .ok (.aload_n 0, 1) := dk_42 (dk_at dksX1_shut_1 20 rfl rfl)
theorem dX1_shut_44 : decode cX1_shut 44 = .ok (.getfield 70, 3) := dk_180 0 70 (dk_at dksX1_shut_1 21 rfl rfl)
theorem dX1_shut_47 : decode cX1_shut 47 = .ok (.getfield 257, 3) := dk_180 1 1 (dk_at dksX1_shut_2 0 rfl rfl)
theorem dX1_shut_50 : decode cX1_shut 50 = .ok (.iload_n 1, 1) := dk_27 (dk_at dksX1_shut_2 3 rfl rfl)
theorem dX1_shut_51 : decode cX1_shut 51 = .ok (.iload_n 2, 1) := dk_28 (dk_at dksX1_shut_2 4 rfl rfl)
theorem dX1_shut_52 : decode cX1_shut 52 = .ok (.bastore, 1) := dk_84 (dk_at dksX1_shut_2 5 rfl rfl)
theorem dX1_shut_53 : decode cX1_shut 53 = .ok (.iconst 0, 1) := dk_3 (dk_at dksX1_shut_2 6 rfl rfl)
theorem dX1_shut_54 : decode cX1_shut 54 = .ok (.istore_n 3, 1) := dk_62 (dk_at dksX1_shut_2 7 rfl rfl)
theorem dX1_shut_55 : decode cX1_shut 55 = .ok (.iload_n 2, 1) := dk_28 (dk_at dksX1_shut_2 8 rfl rfl)
theorem dX1_shut_56 : decode cX1_shut 56 = .ok (.ifCond .eq 37, 3) := dk_153 0 37 (dk_at dksX1_shut_2 9 rfl rfl)
theorem dX1_shut_59 : decode cX1_shut 59 = .ok (.iload_n 3, 1) := dk_29 (dk_at dksX1_shut_2 12 rfl rfl)
theorem dX1_shut_60 : decode cX1_shut 60 = .ok (.aload_n 0, 1) := dk_42 (dk_at dksX1_shut_2 13 rfl rfl)
theorem dX1_shut_61 : decode cX1_shut 61 = .ok (.getfield 51, 3) := dk_180 0 51 (dk_at dksX1_shut_2 14 rfl rfl)
theorem dX1_shut_64 : decode cX1_shut 64 = .ok (.invokevirtual 130, 3) := dk_182 0 130 (dk_at dksX1_shut_2 17 rfl rfl)
theorem dX1_shut_67 : decode cX1_shut 67 = .ok (.if_icmp .ge 26, 3) := dk_162 0 26 (dk_at dksX1_shut_2 20 rfl rfl)
theorem dX1_shut_70 : decode cX1_shut 70 = .ok (.aload_n 0, 1) := dk_42 (dk_at dksX1_shut_2 23 rfl rfl)
theorem dX1_shut_71 : decode cX1_shut 71 = .ok (.getfield 70, 3) := dk_180 0 70 (dk_at dksX1_shut_3 0 rfl rfl)
theorem dX1_shut_74 : decode cX1_shut 74 = .ok (.getfield 432, 3) := dk_180 1 176 (dk_at dksX1_shut_3 3 rfl rfl)
theorem dX1_shut_77 : decode cX1_shut 77 = .ok (.iload_n 3, 1) := dk_29 (dk_at dksX1_shut_3 6 rfl rfl)
theorem dX1_shut_78 : decode cX1_shut 78 = .ok (.dup2, 1) := dk_92 (dk_at dksX1_shut_3 7 rfl rfl)
theorem dX1_shut_79 : decode cX1_shut 79 = .ok (.iaload, 1) := dk_46 (dk_at dksX1_shut_3 8 rfl rfl)
theorem dX1_shut_80 : decode cX1_shut 80 = .ok (.iconst 1, 1) := dk_4 (dk_at dksX1_shut_3 9 rfl rfl)
theorem dX1_shut_81 : decode cX1_shut 81 = .ok (.iload_n 1, 1) := dk_27 (dk_at dksX1_shut_3 10 rfl rfl)
theorem dX1_shut_82 : decode cX1_shut 82 = .ok (.ishl, 1) := dk_120 (dk_at dksX1_shut_3 11 rfl rfl)
theorem dX1_shut_83 : decode cX1_shut 83 = .ok (.iconst (-1), 1) := dk_2 (dk_at dksX1_shut_3 12 rfl rfl)
theorem dX1_shut_84 : decode cX1_shut 84 = .ok (.ixor, 1) := dk_130 (dk_at dksX1_shut_3 13 rfl rfl)
theorem dX1_shut_85 : decode cX1_shut 85 = .ok (.iand, 1) := dk_126 (dk_at dksX1_shut_3 14 rfl rfl)
theorem dX1_shut_86 : decode cX1_shut 86 = .ok (.iastore, 1) := dk_79 (dk_at dksX1_shut_3 15 rfl rfl)
theorem dX1_shut_87 : decode cX1_shut 87 = .ok (.iinc 3 1, 3) := dk_132 3 1 (dk_at dksX1_shut_3 16 rfl rfl)
theorem dX1_shut_90 : decode cX1_shut 90 = .ok (.goto (-35), 3) := dk_167 255 221 (dk_at dksX1_shut_3 19 rfl rfl)
theorem dX1_shut_93 : decode cX1_shut 93 = .ok (.aload_n 0, 1) := dk_42 (dk_at dksX1_shut_3 22 rfl rfl)
theorem dX1_shut_94 : decode cX1_shut 94 = .ok (.aload_n 0, 1) := dk_42 (dk_at dksX1_shut_3 23 rfl rfl)
theorem dX1_shut_95 : decode cX1_shut 95 = .ok (.getfield 70, 3) := dk_180 0 70 (dk_at dksX1_shut_4 0 rfl rfl)
theorem dX1_shut_98 : decode cX1_shut 98 = .ok (.invokevirtual 219, 3) := dk_182 0 219 (dk_at dksX1_shut_4 3 rfl rfl)
theorem dX1_shut_101 : decode cX1_shut 101 = .ok (.ireturn, 1) := dk_172 (dk_at dksX1_shut_4 6 rfl rfl)
abbrev cX1_need : ByteArray := prog_1_method_77_code
def yX1_need : MethodName := ⟨RX1, "need", "(II)I"⟩
def dkwX1_need_5 : List UInt8 := [21, 4, 120, 2, 130, 126, 79, 132, 4, 1, 167, 255, 210, 29, 172]
abbrev dktX1_need_5 : List UInt8 := dkwX1_need_5 ++ []
def dkwX1_need_4 : List UInt8 := [42, 180, 0, 70, 27, 21, 4, 182, 1, 82, 154, 0, 21, 42, 180, 0, 70, 180, 1, 176, 27, 92, 46, 4]
abbrev dktX1_need_4 : List UInt8 := dkwX1_need_4 ++ dktX1_need_5
def dkwX1_need_3 : List UInt8 := [180, 0, 70, 180, 1, 31, 27, 28, 79, 3, 54, 4, 21, 4, 42, 180, 0, 39, 182, 0, 130, 162, 0, 40]
abbrev dktX1_need_3 : List UInt8 := dkwX1_need_3 ++ dktX1_need_4
def dkwX1_need_2 : List UInt8 := [3, 182, 0, 155, 154, 0, 5, 2, 172, 42, 182, 2, 36, 42, 180, 0, 70, 180, 1, 31, 27, 46, 62, 42]
abbrev dktX1_need_2 : List UInt8 := dkwX1_need_2 ++ dktX1_need_3
def dkwX1_need_1 : List UInt8 := [154, 0, 7, 5, 167, 0, 21, 42, 180, 0, 70, 180, 1, 31, 27, 46, 28, 160, 0, 7, 7, 167, 0, 4]
abbrev dktX1_need_1 : List UInt8 := dkwX1_need_1 ++ dktX1_need_2
def dkwX1_need_0 : List UInt8 := [42, 28, 133, 10, 20, 1, 121, 184, 0, 134, 154, 0, 7, 4, 167, 0, 33, 42, 27, 182, 0, 138]
abbrev dktX1_need_0 : List UInt8 := dkwX1_need_0 ++ dktX1_need_1
theorem dksX1_need_0 : cX1_need.data.toList.drop 0 = dktX1_need_0 := by decide +kernel
theorem dksX1_need_1 : cX1_need.data.toList.drop 22 = dktX1_need_1 := dk_seg dksX1_need_0 22 rfl rfl
theorem dksX1_need_2 : cX1_need.data.toList.drop 46 = dktX1_need_2 := dk_seg dksX1_need_1 24 rfl rfl
theorem dksX1_need_3 : cX1_need.data.toList.drop 70 = dktX1_need_3 := dk_seg dksX1_need_2 24 rfl rfl
theorem dksX1_need_4 : cX1_need.data.toList.drop 94 = dktX1_need_4 := dk_seg dksX1_need_3 24 rfl rfl
theorem dksX1_need_5 : cX1_need.data.toList.drop 118 = dktX1_need_5 := dk_seg dksX1_need_4 24 rfl rfl
theorem dX1_need_0 : decode cX1_need 0 = .ok (.aload_n 0, 1) := dk_42 (dk_at dksX1_need_0 0 rfl rfl)
theorem dX1_need_1 : decode cX1_need 1 = .ok (.iload_n 2, 1) := dk_28 (dk_at dksX1_need_0 1 rfl rfl)
theorem dX1_need_2 : decode cX1_need 2 = .ok (.i2l, 1) := dk_133 (dk_at dksX1_need_0 2 rfl rfl)
theorem dX1_need_3 : decode cX1_need 3 = .ok (.lconst 1, 1) := dk_10 (dk_at dksX1_need_0 3 rfl rfl)
theorem dX1_need_4 : decode cX1_need 4 = .ok (.ldc2_w 377, 3) := dk_20 1 121 (dk_at dksX1_need_0 4 rfl rfl)
theorem dX1_need_7 : decode cX1_need 7 = .ok (.invokestatic 134, 3) := dk_184 0 134 (dk_at dksX1_need_0 7 rfl rfl)
theorem dX1_need_10 : decode cX1_need 10 = .ok (.ifCond .ne 7, 3) := dk_154 0 7 (dk_at dksX1_need_0 10 rfl rfl)
theorem dX1_need_13 : decode cX1_need 13 = .ok (.iconst 1, 1) := dk_4 (dk_at dksX1_need_0 13 rfl rfl)
theorem dX1_need_14 : decode cX1_need 14 = .ok (.goto 33, 3) := dk_167 0 33 (dk_at dksX1_need_0 14 rfl rfl)
theorem dX1_need_17 : decode cX1_need 17 = .ok (.aload_n 0, 1) := dk_42 (dk_at dksX1_need_0 17 rfl rfl)
theorem dX1_need_18 : decode cX1_need 18 = .ok (.iload_n 1, 1) := dk_27 (dk_at dksX1_need_0 18 rfl rfl)
theorem dX1_need_19 : decode cX1_need 19 = .ok (.invokevirtual 138, 3) := dk_182 0 138 (dk_at dksX1_need_0 19 rfl rfl)
theorem dX1_need_22 : decode cX1_need 22 = .ok (.ifCond .ne 7, 3) := dk_154 0 7 (dk_at dksX1_need_1 0 rfl rfl)
theorem dX1_need_25 : decode cX1_need 25 = .ok (.iconst 2, 1) := dk_5 (dk_at dksX1_need_1 3 rfl rfl)
theorem dX1_need_26 : decode cX1_need 26 = .ok (.goto 21, 3) := dk_167 0 21 (dk_at dksX1_need_1 4 rfl rfl)
theorem dX1_need_29 : decode cX1_need 29 = .ok (.aload_n 0, 1) := dk_42 (dk_at dksX1_need_1 7 rfl rfl)
theorem dX1_need_30 : decode cX1_need 30 = .ok (.getfield 70, 3) := dk_180 0 70 (dk_at dksX1_need_1 8 rfl rfl)
theorem dX1_need_33 : decode cX1_need 33 = .ok (.getfield 287, 3) := dk_180 1 31 (dk_at dksX1_need_1 11 rfl rfl)
theorem dX1_need_36 : decode cX1_need 36 = .ok (.iload_n 1, 1) := dk_27 (dk_at dksX1_need_1 14 rfl rfl)
theorem dX1_need_37 : decode cX1_need 37 = .ok (.iaload, 1) := dk_46 (dk_at dksX1_need_1 15 rfl rfl)
theorem dX1_need_38 : decode cX1_need 38 = .ok (.iload_n 2, 1) := dk_28 (dk_at dksX1_need_1 16 rfl rfl)
theorem dX1_need_39 : decode cX1_need 39 = .ok (.if_icmp .ne 7, 3) := dk_160 0 7 (dk_at dksX1_need_1 17 rfl rfl)
theorem dX1_need_42 : decode cX1_need 42 = .ok (.iconst 4, 1) := dk_7 (dk_at dksX1_need_1 20 rfl rfl)
theorem dX1_need_43 : decode cX1_need 43 = .ok (.goto 4, 3) := dk_167 0 4 (dk_at dksX1_need_1 21 rfl rfl)
theorem dX1_need_46 : decode cX1_need 46 = .ok (.iconst 0, 1) := dk_3 (dk_at dksX1_need_2 0 rfl rfl)
theorem dX1_need_47 : decode cX1_need 47 = .ok (.invokevirtual 155, 3) := dk_182 0 155 (dk_at dksX1_need_2 1 rfl rfl)
theorem dX1_need_50 : decode cX1_need 50 = .ok (.ifCond .ne 5, 3) := dk_154 0 5 (dk_at dksX1_need_2 4 rfl rfl)
theorem dX1_need_53 : decode cX1_need 53 = .ok (.iconst (-1), 1) := dk_2 (dk_at dksX1_need_2 7 rfl rfl)
theorem dX1_need_54 : decode cX1_need 54 = .ok (.ireturn, 1) := dk_172 (dk_at dksX1_need_2 8 rfl rfl)
theorem dX1_need_55 : decode cX1_need 55 = .ok (.aload_n 0, 1) := dk_42 (dk_at dksX1_need_2 9 rfl rfl)
theorem dX1_need_56 : decode cX1_need 56 = .ok (.invokevirtual 548, 3) := dk_182 2 36 (dk_at dksX1_need_2 10 rfl rfl)
theorem dX1_need_59 : decode cX1_need 59 = .ok (.aload_n 0, 1) := dk_42 (dk_at dksX1_need_2 13 rfl rfl)
theorem dX1_need_60 : decode cX1_need 60 = .ok (.getfield 70, 3) := dk_180 0 70 (dk_at dksX1_need_2 14 rfl rfl)
theorem dX1_need_63 : decode cX1_need 63 = .ok (.getfield 287, 3) := dk_180 1 31 (dk_at dksX1_need_2 17 rfl rfl)
theorem dX1_need_66 : decode cX1_need 66 = .ok (.iload_n 1, 1) := dk_27 (dk_at dksX1_need_2 20 rfl rfl)
theorem dX1_need_67 : decode cX1_need 67 = .ok (.iaload, 1) := dk_46 (dk_at dksX1_need_2 21 rfl rfl)
theorem dX1_need_68 : decode cX1_need 68 = .ok (.istore_n 3, 1) := dk_62 (dk_at dksX1_need_2 22 rfl rfl)
theorem dX1_need_69 : decode cX1_need 69 = .ok (.aload_n 0, 1) := dk_42 (dk_at dksX1_need_2 23 rfl rfl)
theorem dX1_need_70 : decode cX1_need 70 = .ok (.getfield 70, 3) := dk_180 0 70 (dk_at dksX1_need_3 0 rfl rfl)
theorem dX1_need_73 : decode cX1_need 73 = .ok (.getfield 287, 3) := dk_180 1 31 (dk_at dksX1_need_3 3 rfl rfl)
theorem dX1_need_76 : decode cX1_need 76 = .ok (.iload_n 1, 1) := dk_27 (dk_at dksX1_need_3 6 rfl rfl)
theorem dX1_need_77 : decode cX1_need 77 = .ok (.iload_n 2, 1) := dk_28 (dk_at dksX1_need_3 7 rfl rfl)
theorem dX1_need_78 : decode cX1_need 78 = .ok (.iastore, 1) := dk_79 (dk_at dksX1_need_3 8 rfl rfl)
theorem dX1_need_79 : decode cX1_need 79 = .ok (.iconst 0, 1) := dk_3 (dk_at dksX1_need_3 9 rfl rfl)
theorem dX1_need_80 : decode cX1_need 80 = .ok (.istore 4, 2) := dk_54 4 (dk_at dksX1_need_3 10 rfl rfl)
theorem dX1_need_82 : decode cX1_need 82 = .ok (.iload 4, 2) := dk_21 4 (dk_at dksX1_need_3 12 rfl rfl)
theorem dX1_need_84 : decode cX1_need 84 = .ok (.aload_n 0, 1) := dk_42 (dk_at dksX1_need_3 14 rfl rfl)
theorem dX1_need_85 : decode cX1_need 85 = .ok (.getfield 39, 3) := dk_180 0 39 (dk_at dksX1_need_3 15 rfl rfl)
theorem dX1_need_88 : decode cX1_need 88 = .ok (.invokevirtual 130, 3) := dk_182 0 130 (dk_at dksX1_need_3 18 rfl rfl)
theorem dX1_need_91 : decode cX1_need 91 = .ok (.if_icmp .ge 40, 3) := dk_162 0 40 (dk_at dksX1_need_3 21 rfl rfl)
theorem dX1_need_94 : decode cX1_need 94 = .ok (.aload_n 0, 1) := dk_42 (dk_at dksX1_need_4 0 rfl rfl)
theorem dX1_need_95 : decode cX1_need 95 = .ok (.getfield 70, 3) := dk_180 0 70 (dk_at dksX1_need_4 1 rfl rfl)
theorem dX1_need_98 : decode cX1_need 98 = .ok (.iload_n 1, 1) := dk_27 (dk_at dksX1_need_4 4 rfl rfl)
theorem dX1_need_99 : decode cX1_need 99 = .ok (.iload 4, 2) := dk_21 4 (dk_at dksX1_need_4 5 rfl rfl)
theorem dX1_need_101 : decode cX1_need 101 = .ok (.invokevirtual 338, 3) := dk_182 1 82 (dk_at dksX1_need_4 7 rfl rfl)
theorem dX1_need_104 : decode cX1_need 104 = .ok (.ifCond .ne 21, 3) := dk_154 0 21 (dk_at dksX1_need_4 10 rfl rfl)
theorem dX1_need_107 : decode cX1_need 107 = .ok (.aload_n 0, 1) := dk_42 (dk_at dksX1_need_4 13 rfl rfl)
theorem dX1_need_108 : decode cX1_need 108 = .ok (.getfield 70, 3) := dk_180 0 70 (dk_at dksX1_need_4 14 rfl rfl)
theorem dX1_need_111 : decode cX1_need 111 = .ok (.getfield 432, 3) := dk_180 1 176 (dk_at dksX1_need_4 17 rfl rfl)
theorem dX1_need_114 : decode cX1_need 114 = .ok (.iload_n 1, 1) := dk_27 (dk_at dksX1_need_4 20 rfl rfl)
theorem dX1_need_115 : decode cX1_need 115 = .ok (.dup2, 1) := dk_92 (dk_at dksX1_need_4 21 rfl rfl)
theorem dX1_need_116 : decode cX1_need 116 = .ok (.iaload, 1) := dk_46 (dk_at dksX1_need_4 22 rfl rfl)
theorem dX1_need_117 : decode cX1_need 117 = .ok (.iconst 1, 1) := dk_4 (dk_at dksX1_need_4 23 rfl rfl)
theorem dX1_need_118 : decode cX1_need 118 = .ok (.iload 4, 2) := dk_21 4 (dk_at dksX1_need_5 0 rfl rfl)
theorem dX1_need_120 : decode cX1_need 120 = .ok (.ishl, 1) := dk_120 (dk_at dksX1_need_5 2 rfl rfl)
theorem dX1_need_121 : decode cX1_need 121 = .ok (.iconst (-1), 1) := dk_2 (dk_at dksX1_need_5 3 rfl rfl)
theorem dX1_need_122 : decode cX1_need 122 = .ok (.ixor, 1) := dk_130 (dk_at dksX1_need_5 4 rfl rfl)
theorem dX1_need_123 : decode cX1_need 123 = .ok (.iand, 1) := dk_126 (dk_at dksX1_need_5 5 rfl rfl)
theorem dX1_need_124 : decode cX1_need 124 = .ok (.iastore, 1) := dk_79 (dk_at dksX1_need_5 6 rfl rfl)
theorem dX1_need_125 : decode cX1_need 125 = .ok (.iinc 4 1, 3) := dk_132 4 1 (dk_at dksX1_need_5 7 rfl rfl)
theorem dX1_need_128 : decode cX1_need 128 = .ok (.goto (-46), 3) := dk_167 255 210 (dk_at dksX1_need_5 10 rfl rfl)
theorem dX1_need_131 : decode cX1_need 131 = .ok (.iload_n 3, 1) := dk_29 (dk_at dksX1_need_5 13 rfl rfl)
theorem dX1_need_132 : decode cX1_need 132 = .ok (.ireturn, 1) := dk_172 (dk_at dksX1_need_5 14 rfl rfl)
abbrev cX1_rules : ByteArray := prog_1_method_78_code
def yX1_rules : MethodName := ⟨RX1, "rules", "(II)I"⟩
def dkwX1_rules_3 : List UInt8 := [180, 1, 60, 27, 46, 62, 42, 180, 0, 70, 180, 1, 60, 27, 28, 79, 29, 172]
abbrev dktX1_rules_3 : List UInt8 := dkwX1_rules_3 ++ []
def dkwX1_rules_2 : List UInt8 := [160, 0, 7, 7, 167, 0, 4, 3, 182, 0, 155, 154, 0, 5, 2, 172, 42, 182, 2, 36, 42, 180, 0, 70]
abbrev dktX1_rules_2 : List UInt8 := dkwX1_rules_2 ++ dktX1_rules_3
def dkwX1_rules_1 : List UInt8 := [27, 46, 133, 184, 0, 134, 154, 0, 7, 4, 167, 0, 21, 42, 180, 0, 70, 180, 1, 60, 27, 46, 28]
abbrev dktX1_rules_1 : List UInt8 := dkwX1_rules_1 ++ dktX1_rules_2
def dkwX1_rules_0 : List UInt8 := [42, 27, 133, 9, 20, 1, 58, 184, 0, 134, 153, 0, 23, 28, 133, 178, 1, 225, 27, 46, 133, 178, 1, 228]
abbrev dktX1_rules_0 : List UInt8 := dkwX1_rules_0 ++ dktX1_rules_1
theorem dksX1_rules_0 : cX1_rules.data.toList.drop 0 = dktX1_rules_0 := by decide +kernel
theorem dksX1_rules_1 : cX1_rules.data.toList.drop 24 = dktX1_rules_1 := dk_seg dksX1_rules_0 24 rfl rfl
theorem dksX1_rules_2 : cX1_rules.data.toList.drop 47 = dktX1_rules_2 := dk_seg dksX1_rules_1 23 rfl rfl
theorem dksX1_rules_3 : cX1_rules.data.toList.drop 71 = dktX1_rules_3 := dk_seg dksX1_rules_2 24 rfl rfl
theorem dX1_rules_0 : decode cX1_rules 0 = .ok (.aload_n 0, 1) := dk_42 (dk_at dksX1_rules_0 0 rfl rfl)
theorem dX1_rules_1 : decode cX1_rules 1 = .ok (.iload_n 1, 1) := dk_27 (dk_at dksX1_rules_0 1 rfl rfl)
theorem dX1_rules_2 : decode cX1_rules 2 = .ok (.i2l, 1) := dk_133 (dk_at dksX1_rules_0 2 rfl rfl)
theorem dX1_rules_3 : decode cX1_rules 3 = .ok (.lconst 0, 1) := dk_9 (dk_at dksX1_rules_0 3 rfl rfl)
theorem dX1_rules_4 : decode cX1_rules 4 = .ok (.ldc2_w 314, 3) := dk_20 1 58 (dk_at dksX1_rules_0 4 rfl rfl)
theorem dX1_rules_7 : decode cX1_rules 7 = .ok (.invokestatic 134, 3) := dk_184 0 134 (dk_at dksX1_rules_0 7 rfl rfl)
theorem dX1_rules_10 : decode cX1_rules 10 = .ok (.ifCond .eq 23, 3) := dk_153 0 23 (dk_at dksX1_rules_0 10 rfl rfl)
theorem dX1_rules_13 : decode cX1_rules 13 = .ok (.iload_n 2, 1) := dk_28 (dk_at dksX1_rules_0 13 rfl rfl)
theorem dX1_rules_14 : decode cX1_rules 14 = .ok (.i2l, 1) := dk_133 (dk_at dksX1_rules_0 14 rfl rfl)
theorem dX1_rules_15 : decode cX1_rules 15 = .ok (.getstatic 481, 3) := dk_178 1 225 (dk_at dksX1_rules_0 15 rfl rfl)
theorem dX1_rules_18 : decode cX1_rules 18 = .ok (.iload_n 1, 1) := dk_27 (dk_at dksX1_rules_0 18 rfl rfl)
theorem dX1_rules_19 : decode cX1_rules 19 = .ok (.iaload, 1) := dk_46 (dk_at dksX1_rules_0 19 rfl rfl)
theorem dX1_rules_20 : decode cX1_rules 20 = .ok (.i2l, 1) := dk_133 (dk_at dksX1_rules_0 20 rfl rfl)
theorem dX1_rules_21 : decode cX1_rules 21 = .ok (.getstatic 484, 3) := dk_178 1 228 (dk_at dksX1_rules_0 21 rfl rfl)
theorem dX1_rules_24 : decode cX1_rules 24 = .ok (.iload_n 1, 1) := dk_27 (dk_at dksX1_rules_1 0 rfl rfl)
theorem dX1_rules_25 : decode cX1_rules 25 = .ok (.iaload, 1) := dk_46 (dk_at dksX1_rules_1 1 rfl rfl)
theorem dX1_rules_26 : decode cX1_rules 26 = .ok (.i2l, 1) := dk_133 (dk_at dksX1_rules_1 2 rfl rfl)
theorem dX1_rules_27 : decode cX1_rules 27 = .ok (.invokestatic 134, 3) := dk_184 0 134 (dk_at dksX1_rules_1 3 rfl rfl)
theorem dX1_rules_30 : decode cX1_rules 30 = .ok (.ifCond .ne 7, 3) := dk_154 0 7 (dk_at dksX1_rules_1 6 rfl rfl)
theorem dX1_rules_33 : decode cX1_rules 33 = .ok (.iconst 1, 1) := dk_4 (dk_at dksX1_rules_1 9 rfl rfl)
theorem dX1_rules_34 : decode cX1_rules 34 = .ok (.goto 21, 3) := dk_167 0 21 (dk_at dksX1_rules_1 10 rfl rfl)
theorem dX1_rules_37 : decode cX1_rules 37 = .ok (.aload_n 0, 1) := dk_42 (dk_at dksX1_rules_1 13 rfl rfl)
theorem dX1_rules_38 : decode cX1_rules 38 = .ok (.getfield 70, 3) := dk_180 0 70 (dk_at dksX1_rules_1 14 rfl rfl)
theorem dX1_rules_41 : decode cX1_rules 41 = .ok (.getfield 316, 3) := dk_180 1 60 (dk_at dksX1_rules_1 17 rfl rfl)
theorem dX1_rules_44 : decode cX1_rules 44 = .ok (.iload_n 1, 1) := dk_27 (dk_at dksX1_rules_1 20 rfl rfl)
theorem dX1_rules_45 : decode cX1_rules 45 = .ok (.iaload, 1) := dk_46 (dk_at dksX1_rules_1 21 rfl rfl)
theorem dX1_rules_46 : decode cX1_rules 46 = .ok (.iload_n 2, 1) := dk_28 (dk_at dksX1_rules_1 22 rfl rfl)
theorem dX1_rules_47 : decode cX1_rules 47 = .ok (.if_icmp .ne 7, 3) := dk_160 0 7 (dk_at dksX1_rules_2 0 rfl rfl)
theorem dX1_rules_50 : decode cX1_rules 50 = .ok (.iconst 4, 1) := dk_7 (dk_at dksX1_rules_2 3 rfl rfl)
theorem dX1_rules_51 : decode cX1_rules 51 = .ok (.goto 4, 3) := dk_167 0 4 (dk_at dksX1_rules_2 4 rfl rfl)
theorem dX1_rules_54 : decode cX1_rules 54 = .ok (.iconst 0, 1) := dk_3 (dk_at dksX1_rules_2 7 rfl rfl)
theorem dX1_rules_55 : decode cX1_rules 55 = .ok (.invokevirtual 155, 3) := dk_182 0 155 (dk_at dksX1_rules_2 8 rfl rfl)
theorem dX1_rules_58 : decode cX1_rules 58 = .ok (.ifCond .ne 5, 3) := dk_154 0 5 (dk_at dksX1_rules_2 11 rfl rfl)
theorem dX1_rules_61 : decode cX1_rules 61 = .ok (.iconst (-1), 1) := dk_2 (dk_at dksX1_rules_2 14 rfl rfl)
theorem dX1_rules_62 : decode cX1_rules 62 = .ok (.ireturn, 1) := dk_172 (dk_at dksX1_rules_2 15 rfl rfl)
theorem dX1_rules_63 : decode cX1_rules 63 = .ok (.aload_n 0, 1) := dk_42 (dk_at dksX1_rules_2 16 rfl rfl)
theorem dX1_rules_64 : decode cX1_rules 64 = .ok (.invokevirtual 548, 3) := dk_182 2 36 (dk_at dksX1_rules_2 17 rfl rfl)
theorem dX1_rules_67 : decode cX1_rules 67 = .ok (.aload_n 0, 1) := dk_42 (dk_at dksX1_rules_2 20 rfl rfl)
theorem dX1_rules_68 : decode cX1_rules 68 = .ok (.getfield 70, 3) := dk_180 0 70 (dk_at dksX1_rules_2 21 rfl rfl)
theorem dX1_rules_71 : decode cX1_rules 71 = .ok (.getfield 316, 3) := dk_180 1 60 (dk_at dksX1_rules_3 0 rfl rfl)
theorem dX1_rules_74 : decode cX1_rules 74 = .ok (.iload_n 1, 1) := dk_27 (dk_at dksX1_rules_3 3 rfl rfl)
theorem dX1_rules_75 : decode cX1_rules 75 = .ok (.iaload, 1) := dk_46 (dk_at dksX1_rules_3 4 rfl rfl)
theorem dX1_rules_76 : decode cX1_rules 76 = .ok (.istore_n 3, 1) := dk_62 (dk_at dksX1_rules_3 5 rfl rfl)
theorem dX1_rules_77 : decode cX1_rules 77 = .ok (.aload_n 0, 1) := dk_42 (dk_at dksX1_rules_3 6 rfl rfl)
theorem dX1_rules_78 : decode cX1_rules 78 = .ok (.getfield 70, 3) := dk_180 0 70 (dk_at dksX1_rules_3 7 rfl rfl)
theorem dX1_rules_81 : decode cX1_rules 81 = .ok (.getfield 316, 3) := dk_180 1 60 (dk_at dksX1_rules_3 10 rfl rfl)
theorem dX1_rules_84 : decode cX1_rules 84 = .ok (.iload_n 1, 1) := dk_27 (dk_at dksX1_rules_3 13 rfl rfl)
theorem dX1_rules_85 : decode cX1_rules 85 = .ok (.iload_n 2, 1) := dk_28 (dk_at dksX1_rules_3 14 rfl rfl)
theorem dX1_rules_86 : decode cX1_rules 86 = .ok (.iastore, 1) := dk_79 (dk_at dksX1_rules_3 15 rfl rfl)
theorem dX1_rules_87 : decode cX1_rules 87 = .ok (.iload_n 3, 1) := dk_29 (dk_at dksX1_rules_3 16 rfl rfl)
theorem dX1_rules_88 : decode cX1_rules 88 = .ok (.ireturn, 1) := dk_172 (dk_at dksX1_rules_3 17 rfl rfl)
abbrev cX1_undo : ByteArray := prog_1_method_79_code
def yX1_undo : MethodName := ⟨RX1, "undo", "()I"⟩
def dkwX1_undo_2 : List UInt8 := [180, 0, 77, 182, 0, 130, 172]
abbrev dktX1_undo_2 : List UInt8 := dkwX1_undo_2 ++ []
def dkwX1_undo_1 : List UInt8 := [42, 42, 180, 0, 77, 42, 180, 0, 77, 182, 0, 130, 4, 100, 182, 2, 30, 192, 0, 65, 181, 0, 70, 42]
abbrev dktX1_undo_1 : List UInt8 := dkwX1_undo_1 ++ dktX1_undo_2
def dkwX1_undo_0 : List UInt8 := [42, 42, 180, 0, 77, 182, 2, 52, 153, 0, 7, 8, 167, 0, 4, 3, 182, 0, 155, 154, 0, 5, 2, 172]
abbrev dktX1_undo_0 : List UInt8 := dkwX1_undo_0 ++ dktX1_undo_1
theorem dksX1_undo_0 : cX1_undo.data.toList.drop 0 = dktX1_undo_0 := by decide +kernel
theorem dksX1_undo_1 : cX1_undo.data.toList.drop 24 = dktX1_undo_1 := dk_seg dksX1_undo_0 24 rfl rfl
theorem dksX1_undo_2 : cX1_undo.data.toList.drop 48 = dktX1_undo_2 := dk_seg dksX1_undo_1 24 rfl rfl
theorem dX1_undo_0 : decode cX1_undo 0 = .ok (.aload_n 0, 1) := dk_42 (dk_at dksX1_undo_0 0 rfl rfl)
theorem dX1_undo_1 : decode cX1_undo 1 = .ok (.aload_n 0, 1) := dk_42 (dk_at dksX1_undo_0 1 rfl rfl)
theorem dX1_undo_2 : decode cX1_undo 2 = .ok (.getfield 77, 3) := dk_180 0 77 (dk_at dksX1_undo_0 2 rfl rfl)
theorem dX1_undo_5 : decode cX1_undo 5 = .ok (.invokevirtual 564, 3) := dk_182 2 52 (dk_at dksX1_undo_0 5 rfl rfl)
theorem dX1_undo_8 : decode cX1_undo 8 = .ok (.ifCond .eq 7, 3) := dk_153 0 7 (dk_at dksX1_undo_0 8 rfl rfl)
theorem dX1_undo_11 : decode cX1_undo 11 = .ok (.iconst 5, 1) := dk_8 (dk_at dksX1_undo_0 11 rfl rfl)
theorem dX1_undo_12 : decode cX1_undo 12 = .ok (.goto 4, 3) := dk_167 0 4 (dk_at dksX1_undo_0 12 rfl rfl)
theorem dX1_undo_15 : decode cX1_undo 15 = .ok (.iconst 0, 1) := dk_3 (dk_at dksX1_undo_0 15 rfl rfl)
theorem dX1_undo_16 : decode cX1_undo 16 = .ok (.invokevirtual 155, 3) := dk_182 0 155 (dk_at dksX1_undo_0 16 rfl rfl)
theorem dX1_undo_19 : decode cX1_undo 19 = .ok (.ifCond .ne 5, 3) := dk_154 0 5 (dk_at dksX1_undo_0 19 rfl rfl)
theorem dX1_undo_22 : decode cX1_undo 22 = .ok (.iconst (-1), 1) := dk_2 (dk_at dksX1_undo_0 22 rfl rfl)
theorem dX1_undo_23 : decode cX1_undo 23 = .ok (.ireturn, 1) := dk_172 (dk_at dksX1_undo_0 23 rfl rfl)
theorem dX1_undo_24 : decode cX1_undo 24 = .ok (.aload_n 0, 1) := dk_42 (dk_at dksX1_undo_1 0 rfl rfl)
theorem dX1_undo_25 : decode cX1_undo 25 = .ok (.aload_n 0, 1) := dk_42 (dk_at dksX1_undo_1 1 rfl rfl)
theorem dX1_undo_26 : decode cX1_undo 26 = .ok (.getfield 77, 3) := dk_180 0 77 (dk_at dksX1_undo_1 2 rfl rfl)
theorem dX1_undo_29 : decode cX1_undo 29 = .ok (.aload_n 0, 1) := dk_42 (dk_at dksX1_undo_1 5 rfl rfl)
theorem dX1_undo_30 : decode cX1_undo 30 = .ok (.getfield 77, 3) := dk_180 0 77 (dk_at dksX1_undo_1 6 rfl rfl)
theorem dX1_undo_33 : decode cX1_undo 33 = .ok (.invokevirtual 130, 3) := dk_182 0 130 (dk_at dksX1_undo_1 9 rfl rfl)
theorem dX1_undo_36 : decode cX1_undo 36 = .ok (.iconst 1, 1) := dk_4 (dk_at dksX1_undo_1 12 rfl rfl)
theorem dX1_undo_37 : decode cX1_undo 37 = .ok (.isub, 1) := dk_100 (dk_at dksX1_undo_1 13 rfl rfl)
theorem dX1_undo_38 : decode cX1_undo 38 = .ok (.invokevirtual 542, 3) := dk_182 2 30 (dk_at dksX1_undo_1 14 rfl rfl)
theorem dX1_undo_41 : decode cX1_undo 41 = .ok (.checkcast 65, 3) := dk_192 0 65 (dk_at dksX1_undo_1 17 rfl rfl)
theorem dX1_undo_44 : decode cX1_undo 44 = .ok (.putfield 70, 3) := dk_181 0 70 (dk_at dksX1_undo_1 20 rfl rfl)
theorem dX1_undo_47 : decode cX1_undo 47 = .ok (.aload_n 0, 1) := dk_42 (dk_at dksX1_undo_1 23 rfl rfl)
theorem dX1_undo_48 : decode cX1_undo 48 = .ok (.getfield 77, 3) := dk_180 0 77 (dk_at dksX1_undo_2 0 rfl rfl)
theorem dX1_undo_51 : decode cX1_undo 51 = .ok (.invokevirtual 130, 3) := dk_182 0 130 (dk_at dksX1_undo_2 3 rfl rfl)
theorem dX1_undo_54 : decode cX1_undo 54 = .ok (.ireturn, 1) := dk_172 (dk_at dksX1_undo_2 6 rfl rfl)
abbrev cX1_print : ByteArray := prog_1_method_83_code
def yX1_print : MethodName := ⟨RX1, "print", "()I"⟩
def dkwX1_print_9 : List UInt8 := [182, 2, 96, 132, 1, 1, 167, 255, 225, 42, 180, 0, 123, 182, 2, 99, 172]
abbrev dktX1_print_9 : List UInt8 := dkwX1_print_9 ++ []
def dkwX1_print_8 : List UInt8 := [180, 0, 51, 182, 0, 130, 162, 0, 26, 42, 180, 0, 70, 180, 1, 49, 27, 51, 154, 0, 8, 42, 27]
abbrev dktX1_print_8 : List UInt8 := dkwX1_print_8 ++ dktX1_print_9
def dkwX1_print_7 : List UInt8 := [182, 2, 75, 42, 19, 2, 87, 3, 188, 10, 182, 2, 75, 132, 1, 1, 167, 255, 165, 3, 60, 27, 42]
abbrev dktX1_print_7 : List UInt8 := dkwX1_print_7 ++ dktX1_print_8
def dkwX1_print_6 : List UInt8 := [188, 10, 89, 3, 42, 27, 182, 0, 234, 180, 0, 238, 79, 89, 4, 42, 27, 182, 0, 234, 180, 0, 241, 79]
abbrev dktX1_print_6 : List UInt8 := dkwX1_print_6 ++ dktX1_print_7
def dkwX1_print_5 : List UInt8 := [183, 0, 122, 19, 2, 94, 182, 2, 55, 42, 27, 182, 0, 234, 180, 2, 84, 182, 2, 55, 182, 2, 71, 5]
abbrev dktX1_print_5 : List UInt8 := dkwX1_print_5 ++ dktX1_print_6
def dkwX1_print_4 : List UInt8 := [182, 0, 130, 162, 0, 86, 42, 27, 182, 2, 79, 153, 0, 6, 167, 0, 69, 42, 187, 0, 120, 89]
abbrev dktX1_print_4 : List UInt8 := dkwX1_print_4 ++ dktX1_print_5
def dkwX1_print_3 : List UInt8 := [19, 2, 87, 3, 188, 10, 182, 2, 75, 132, 1, 1, 167, 255, 193, 3, 60, 27, 42, 180, 0, 39]
abbrev dktX1_print_3 : List UInt8 := dkwX1_print_3 ++ dktX1_print_4
def dkwX1_print_2 : List UInt8 := [182, 2, 71, 4, 188, 10, 89, 3, 42, 180, 0, 70, 180, 1, 60, 27, 46, 79, 182, 2, 75, 42]
abbrev dktX1_print_2 : List UInt8 := dkwX1_print_2 ++ dktX1_print_3
def dkwX1_print_1 : List UInt8 := [187, 0, 120, 89, 183, 0, 122, 19, 2, 92, 182, 2, 55, 42, 180, 0, 101, 27, 50, 182, 2, 55]
abbrev dktX1_print_1 : List UInt8 := dkwX1_print_1 ++ dktX1_print_2
def dkwX1_print_0 : List UInt8 := [42, 3, 182, 0, 155, 87, 42, 180, 0, 123, 3, 182, 2, 89, 3, 60, 27, 16, 6, 162, 0, 63, 42]
abbrev dktX1_print_0 : List UInt8 := dkwX1_print_0 ++ dktX1_print_1
theorem dksX1_print_0 : cX1_print.data.toList.drop 0 = dktX1_print_0 := by decide +kernel
theorem dksX1_print_1 : cX1_print.data.toList.drop 23 = dktX1_print_1 := dk_seg dksX1_print_0 23 rfl rfl
theorem dksX1_print_2 : cX1_print.data.toList.drop 45 = dktX1_print_2 := dk_seg dksX1_print_1 22 rfl rfl
theorem dksX1_print_3 : cX1_print.data.toList.drop 67 = dktX1_print_3 := dk_seg dksX1_print_2 22 rfl rfl
theorem dksX1_print_4 : cX1_print.data.toList.drop 89 = dktX1_print_4 := dk_seg dksX1_print_3 22 rfl rfl
theorem dksX1_print_5 : cX1_print.data.toList.drop 111 = dktX1_print_5 := dk_seg dksX1_print_4 22 rfl rfl
theorem dksX1_print_6 : cX1_print.data.toList.drop 135 = dktX1_print_6 := dk_seg dksX1_print_5 24 rfl rfl
theorem dksX1_print_7 : cX1_print.data.toList.drop 159 = dktX1_print_7 := dk_seg dksX1_print_6 24 rfl rfl
theorem dksX1_print_8 : cX1_print.data.toList.drop 182 = dktX1_print_8 := dk_seg dksX1_print_7 23 rfl rfl
theorem dksX1_print_9 : cX1_print.data.toList.drop 205 = dktX1_print_9 := dk_seg dksX1_print_8 23 rfl rfl
theorem dX1_print_0 : decode cX1_print 0 = .ok (.aload_n 0, 1) := dk_42 (dk_at dksX1_print_0 0 rfl rfl)
theorem dX1_print_1 : decode cX1_print 1 = .ok (.iconst 0, 1) := dk_3 (dk_at dksX1_print_0 1 rfl rfl)
theorem dX1_print_2 : decode cX1_print 2 = .ok (.invokevirtual 155, 3) := dk_182 0 155 (dk_at dksX1_print_0 2 rfl rfl)
theorem dX1_print_5 : decode cX1_print 5 = .ok (.pop, 1) := dk_87 (dk_at dksX1_print_0 5 rfl rfl)
theorem dX1_print_6 : decode cX1_print 6 = .ok (.aload_n 0, 1) := dk_42 (dk_at dksX1_print_0 6 rfl rfl)
theorem dX1_print_7 : decode cX1_print 7 = .ok (.getfield 123, 3) := dk_180 0 123 (dk_at dksX1_print_0 7 rfl rfl)
theorem dX1_print_10 : decode cX1_print 10 = .ok (.iconst 0, 1) := dk_3 (dk_at dksX1_print_0 10 rfl rfl)
theorem dX1_print_11 : decode cX1_print 11 = .ok (.invokevirtual 601, 3) := dk_182 2 89 (dk_at dksX1_print_0 11 rfl rfl)
theorem dX1_print_14 : decode cX1_print 14 = .ok (.iconst 0, 1) := dk_3 (dk_at dksX1_print_0 14 rfl rfl)
theorem dX1_print_15 : decode cX1_print 15 = .ok (.istore_n 1, 1) := dk_60 (dk_at dksX1_print_0 15 rfl rfl)
theorem dX1_print_16 : decode cX1_print 16 = .ok (.iload_n 1, 1) := dk_27 (dk_at dksX1_print_0 16 rfl rfl)
theorem dX1_print_17 : decode cX1_print 17 = .ok (.bipush 6, 2) := dk_16 6 (dk_at dksX1_print_0 17 rfl rfl)
theorem dX1_print_19 : decode cX1_print 19 = .ok (.if_icmp .ge 63, 3) := dk_162 0 63 (dk_at dksX1_print_0 19 rfl rfl)
theorem dX1_print_22 : decode cX1_print 22 = .ok (.aload_n 0, 1) := dk_42 (dk_at dksX1_print_0 22 rfl rfl)
theorem dX1_print_23 : decode cX1_print 23 = .ok (.new 120, 3) := dk_187 0 120 (dk_at dksX1_print_1 0 rfl rfl)
theorem dX1_print_26 : decode cX1_print 26 = .ok (.dup, 1) := dk_89 (dk_at dksX1_print_1 3 rfl rfl)
theorem dX1_print_27 : decode cX1_print 27 = .ok (.invokespecial 122, 3) := dk_183 0 122 (dk_at dksX1_print_1 4 rfl rfl)
theorem dX1_print_30 : decode cX1_print 30 = .ok (.ldc_w 604, 3) := dk_19 2 92 (dk_at dksX1_print_1 7 rfl rfl)
theorem dX1_print_33 : decode cX1_print 33 = .ok (.invokevirtual 567, 3) := dk_182 2 55 (dk_at dksX1_print_1 10 rfl rfl)
theorem dX1_print_36 : decode cX1_print 36 = .ok (.aload_n 0, 1) := dk_42 (dk_at dksX1_print_1 13 rfl rfl)
theorem dX1_print_37 : decode cX1_print 37 = .ok (.getfield 101, 3) := dk_180 0 101 (dk_at dksX1_print_1 14 rfl rfl)
theorem dX1_print_40 : decode cX1_print 40 = .ok (.iload_n 1, 1) := dk_27 (dk_at dksX1_print_1 17 rfl rfl)
theorem dX1_print_41 : decode cX1_print 41 = .ok (.aaload, 1) := dk_50 (dk_at dksX1_print_1 18 rfl rfl)
theorem dX1_print_42 : decode cX1_print 42 = .ok (.invokevirtual 567, 3) := dk_182 2 55 (dk_at dksX1_print_1 19 rfl rfl)
theorem dX1_print_45 : decode cX1_print 45 = .ok (.invokevirtual 583, 3) := dk_182 2 71 (dk_at dksX1_print_2 0 rfl rfl)
theorem dX1_print_48 : decode cX1_print 48 = .ok (.iconst 1, 1) := dk_4 (dk_at dksX1_print_2 3 rfl rfl)
theorem dX1_print_49 : decode cX1_print 49 = .ok (.newarray .int, 2) := dk_188_10 (dk_at dksX1_print_2 4 rfl rfl)
theorem dX1_print_51 : decode cX1_print 51 = .ok (.dup, 1) := dk_89 (dk_at dksX1_print_2 6 rfl rfl)
theorem dX1_print_52 : decode cX1_print 52 = .ok (.iconst 0, 1) := dk_3 (dk_at dksX1_print_2 7 rfl rfl)
theorem dX1_print_53 : decode cX1_print 53 = .ok (.aload_n 0, 1) := dk_42 (dk_at dksX1_print_2 8 rfl rfl)
theorem dX1_print_54 : decode cX1_print 54 = .ok (.getfield 70, 3) := dk_180 0 70 (dk_at dksX1_print_2 9 rfl rfl)
theorem dX1_print_57 : decode cX1_print 57 = .ok (.getfield 316, 3) := dk_180 1 60 (dk_at dksX1_print_2 12 rfl rfl)
theorem dX1_print_60 : decode cX1_print 60 = .ok (.iload_n 1, 1) := dk_27 (dk_at dksX1_print_2 15 rfl rfl)
theorem dX1_print_61 : decode cX1_print 61 = .ok (.iaload, 1) := dk_46 (dk_at dksX1_print_2 16 rfl rfl)
theorem dX1_print_62 : decode cX1_print 62 = .ok (.iastore, 1) := dk_79 (dk_at dksX1_print_2 17 rfl rfl)
theorem dX1_print_63 : decode cX1_print 63 = .ok (.invokevirtual 587, 3) := dk_182 2 75 (dk_at dksX1_print_2 18 rfl rfl)
theorem dX1_print_66 : decode cX1_print 66 = .ok (.aload_n 0, 1) := dk_42 (dk_at dksX1_print_2 21 rfl rfl)
theorem dX1_print_67 : decode cX1_print 67 = .ok (.ldc_w 599, 3) := dk_19 2 87 (dk_at dksX1_print_3 0 rfl rfl)
theorem dX1_print_70 : decode cX1_print 70 = .ok (.iconst 0, 1) := dk_3 (dk_at dksX1_print_3 3 rfl rfl)
theorem dX1_print_71 : decode cX1_print 71 = .ok (.newarray .int, 2) := dk_188_10 (dk_at dksX1_print_3 4 rfl rfl)
theorem dX1_print_73 : decode cX1_print 73 = .ok (.invokevirtual 587, 3) := dk_182 2 75 (dk_at dksX1_print_3 6 rfl rfl)
theorem dX1_print_76 : decode cX1_print 76 = .ok (.iinc 1 1, 3) := dk_132 1 1 (dk_at dksX1_print_3 9 rfl rfl)
theorem dX1_print_79 : decode cX1_print 79 = .ok (.goto (-63), 3) := dk_167 255 193 (dk_at dksX1_print_3 12 rfl rfl)
theorem dX1_print_82 : decode cX1_print 82 = .ok (.iconst 0, 1) := dk_3 (dk_at dksX1_print_3 15 rfl rfl)
theorem dX1_print_83 : decode cX1_print 83 = .ok (.istore_n 1, 1) := dk_60 (dk_at dksX1_print_3 16 rfl rfl)
theorem dX1_print_84 : decode cX1_print 84 = .ok (.iload_n 1, 1) := dk_27 (dk_at dksX1_print_3 17 rfl rfl)
theorem dX1_print_85 : decode cX1_print 85 = .ok (.aload_n 0, 1) := dk_42 (dk_at dksX1_print_3 18 rfl rfl)
theorem dX1_print_86 : decode cX1_print 86 = .ok (.getfield 39, 3) := dk_180 0 39 (dk_at dksX1_print_3 19 rfl rfl)
theorem dX1_print_89 : decode cX1_print 89 = .ok (.invokevirtual 130, 3) := dk_182 0 130 (dk_at dksX1_print_4 0 rfl rfl)
theorem dX1_print_92 : decode cX1_print 92 = .ok (.if_icmp .ge 86, 3) := dk_162 0 86 (dk_at dksX1_print_4 3 rfl rfl)
theorem dX1_print_95 : decode cX1_print 95 = .ok (.aload_n 0, 1) := dk_42 (dk_at dksX1_print_4 6 rfl rfl)
theorem dX1_print_96 : decode cX1_print 96 = .ok (.iload_n 1, 1) := dk_27 (dk_at dksX1_print_4 7 rfl rfl)
theorem dX1_print_97 : decode cX1_print 97 = .ok (.invokevirtual 591, 3) := dk_182 2 79 (dk_at dksX1_print_4 8 rfl rfl)
theorem dX1_print_100 : decode cX1_print 100 = .ok (.ifCond .eq 6, 3) := dk_153 0 6 (dk_at dksX1_print_4 11 rfl rfl)
theorem dX1_print_103 : decode cX1_print 103 = .ok (.goto 69, 3) := dk_167 0 69 (dk_at dksX1_print_4 14 rfl rfl)
theorem dX1_print_106 : decode cX1_print 106 = .ok (.aload_n 0, 1) := dk_42 (dk_at dksX1_print_4 17 rfl rfl)
theorem dX1_print_107 : decode cX1_print 107 = .ok (.new 120, 3) := dk_187 0 120 (dk_at dksX1_print_4 18 rfl rfl)
theorem dX1_print_110 : decode cX1_print 110 = .ok (.dup, 1) := dk_89 (dk_at dksX1_print_4 21 rfl rfl)
theorem dX1_print_111 : decode cX1_print 111 = .ok (.invokespecial 122, 3) := dk_183 0 122 (dk_at dksX1_print_5 0 rfl rfl)
theorem dX1_print_114 : decode cX1_print 114 = .ok (.ldc_w 606, 3) := dk_19 2 94 (dk_at dksX1_print_5 3 rfl rfl)
theorem dX1_print_117 : decode cX1_print 117 = .ok (.invokevirtual 567, 3) := dk_182 2 55 (dk_at dksX1_print_5 6 rfl rfl)
theorem dX1_print_120 : decode cX1_print 120 = .ok (.aload_n 0, 1) := dk_42 (dk_at dksX1_print_5 9 rfl rfl)
theorem dX1_print_121 : decode cX1_print 121 = .ok (.iload_n 1, 1) := dk_27 (dk_at dksX1_print_5 10 rfl rfl)
theorem dX1_print_122 : decode cX1_print 122 = .ok (.invokevirtual 234, 3) := dk_182 0 234 (dk_at dksX1_print_5 11 rfl rfl)
theorem dX1_print_125 : decode cX1_print 125 = .ok (.getfield 596, 3) := dk_180 2 84 (dk_at dksX1_print_5 14 rfl rfl)
theorem dX1_print_128 : decode cX1_print 128 = .ok (.invokevirtual 567, 3) := dk_182 2 55 (dk_at dksX1_print_5 17 rfl rfl)
theorem dX1_print_131 : decode cX1_print 131 = .ok (.invokevirtual 583, 3) := dk_182 2 71 (dk_at dksX1_print_5 20 rfl rfl)
theorem dX1_print_134 : decode cX1_print 134 = .ok (.iconst 2, 1) := dk_5 (dk_at dksX1_print_5 23 rfl rfl)
theorem dX1_print_135 : decode cX1_print 135 = .ok (.newarray .int, 2) := dk_188_10 (dk_at dksX1_print_6 0 rfl rfl)
theorem dX1_print_137 : decode cX1_print 137 = .ok (.dup, 1) := dk_89 (dk_at dksX1_print_6 2 rfl rfl)
theorem dX1_print_138 : decode cX1_print 138 = .ok (.iconst 0, 1) := dk_3 (dk_at dksX1_print_6 3 rfl rfl)
theorem dX1_print_139 : decode cX1_print 139 = .ok (.aload_n 0, 1) := dk_42 (dk_at dksX1_print_6 4 rfl rfl)
theorem dX1_print_140 : decode cX1_print 140 = .ok (.iload_n 1, 1) := dk_27 (dk_at dksX1_print_6 5 rfl rfl)
theorem dX1_print_141 : decode cX1_print 141 = .ok (.invokevirtual 234, 3) := dk_182 0 234 (dk_at dksX1_print_6 6 rfl rfl)
theorem dX1_print_144 : decode cX1_print 144 = .ok (.getfield 238, 3) := dk_180 0 238 (dk_at dksX1_print_6 9 rfl rfl)
theorem dX1_print_147 : decode cX1_print 147 = .ok (.iastore, 1) := dk_79 (dk_at dksX1_print_6 12 rfl rfl)
theorem dX1_print_148 : decode cX1_print 148 = .ok (.dup, 1) := dk_89 (dk_at dksX1_print_6 13 rfl rfl)
theorem dX1_print_149 : decode cX1_print 149 = .ok (.iconst 1, 1) := dk_4 (dk_at dksX1_print_6 14 rfl rfl)
theorem dX1_print_150 : decode cX1_print 150 = .ok (.aload_n 0, 1) := dk_42 (dk_at dksX1_print_6 15 rfl rfl)
theorem dX1_print_151 : decode cX1_print 151 = .ok (.iload_n 1, 1) := dk_27 (dk_at dksX1_print_6 16 rfl rfl)
theorem dX1_print_152 : decode cX1_print 152 = .ok (.invokevirtual 234, 3) := dk_182 0 234 (dk_at dksX1_print_6 17 rfl rfl)
theorem dX1_print_155 : decode cX1_print 155 = .ok (.getfield 241, 3) := dk_180 0 241 (dk_at dksX1_print_6 20 rfl rfl)
theorem dX1_print_158 : decode cX1_print 158 = .ok (.iastore, 1) := dk_79 (dk_at dksX1_print_6 23 rfl rfl)
theorem dX1_print_159 : decode cX1_print 159 = .ok (.invokevirtual 587, 3) := dk_182 2 75 (dk_at dksX1_print_7 0 rfl rfl)
theorem dX1_print_162 : decode cX1_print 162 = .ok (.aload_n 0, 1) := dk_42 (dk_at dksX1_print_7 3 rfl rfl)
theorem dX1_print_163 : decode cX1_print 163 = .ok (.ldc_w 599, 3) := dk_19 2 87 (dk_at dksX1_print_7 4 rfl rfl)
theorem dX1_print_166 : decode cX1_print 166 = .ok (.iconst 0, 1) := dk_3 (dk_at dksX1_print_7 7 rfl rfl)
theorem dX1_print_167 : decode cX1_print 167 = .ok (.newarray .int, 2) := dk_188_10 (dk_at dksX1_print_7 8 rfl rfl)
theorem dX1_print_169 : decode cX1_print 169 = .ok (.invokevirtual 587, 3) := dk_182 2 75 (dk_at dksX1_print_7 10 rfl rfl)
theorem dX1_print_172 : decode cX1_print 172 = .ok (.iinc 1 1, 3) := dk_132 1 1 (dk_at dksX1_print_7 13 rfl rfl)
theorem dX1_print_175 : decode cX1_print 175 = .ok (.goto (-91), 3) := dk_167 255 165 (dk_at dksX1_print_7 16 rfl rfl)
theorem dX1_print_178 : decode cX1_print 178 = .ok (.iconst 0, 1) := dk_3 (dk_at dksX1_print_7 19 rfl rfl)
theorem dX1_print_179 : decode cX1_print 179 = .ok (.istore_n 1, 1) := dk_60 (dk_at dksX1_print_7 20 rfl rfl)
theorem dX1_print_180 : decode cX1_print 180 = .ok (.iload_n 1, 1) := dk_27 (dk_at dksX1_print_7 21 rfl rfl)
theorem dX1_print_181 : decode cX1_print 181 = .ok (.aload_n 0, 1) := dk_42 (dk_at dksX1_print_7 22 rfl rfl)
theorem dX1_print_182 : decode cX1_print 182 = .ok (.getfield 51, 3) := dk_180 0 51 (dk_at dksX1_print_8 0 rfl rfl)
theorem dX1_print_185 : decode cX1_print 185 = .ok (.invokevirtual 130, 3) := dk_182 0 130 (dk_at dksX1_print_8 3 rfl rfl)
theorem dX1_print_188 : decode cX1_print 188 = .ok (.if_icmp .ge 26, 3) := dk_162 0 26 (dk_at dksX1_print_8 6 rfl rfl)
theorem dX1_print_191 : decode cX1_print 191 = .ok (.aload_n 0, 1) := dk_42 (dk_at dksX1_print_8 9 rfl rfl)
theorem dX1_print_192 : decode cX1_print 192 = .ok (.getfield 70, 3) := dk_180 0 70 (dk_at dksX1_print_8 10 rfl rfl)
theorem dX1_print_195 : decode cX1_print 195 = .ok (.getfield 305, 3) := dk_180 1 49 (dk_at dksX1_print_8 13 rfl rfl)
theorem dX1_print_198 : decode cX1_print 198 = .ok (.iload_n 1, 1) := dk_27 (dk_at dksX1_print_8 16 rfl rfl)
theorem dX1_print_199 : decode cX1_print 199 = .ok (.baload, 1) := dk_51 (dk_at dksX1_print_8 17 rfl rfl)
theorem dX1_print_200 : decode cX1_print 200 = .ok (.ifCond .ne 8, 3) := dk_154 0 8 (dk_at dksX1_print_8 18 rfl rfl)
theorem dX1_print_203 : decode cX1_print 203 = .ok (.aload_n 0, 1) := dk_42 (dk_at dksX1_print_8 21 rfl rfl)
theorem dX1_print_204 : decode cX1_print 204 = .ok (.iload_n 1, 1) := dk_27 (dk_at dksX1_print_8 22 rfl rfl)
theorem dX1_print_205 : decode cX1_print 205 = .ok (.invokevirtual 608, 3) := dk_182 2 96 (dk_at dksX1_print_9 0 rfl rfl)
theorem dX1_print_208 : decode cX1_print 208 = .ok (.iinc 1 1, 3) := dk_132 1 1 (dk_at dksX1_print_9 3 rfl rfl)
theorem dX1_print_211 : decode cX1_print 211 = .ok (.goto (-31), 3) := dk_167 255 225 (dk_at dksX1_print_9 6 rfl rfl)
theorem dX1_print_214 : decode cX1_print 214 = .ok (.aload_n 0, 1) := dk_42 (dk_at dksX1_print_9 9 rfl rfl)
theorem dX1_print_215 : decode cX1_print 215 = .ok (.getfield 123, 3) := dk_180 0 123 (dk_at dksX1_print_9 10 rfl rfl)
theorem dX1_print_218 : decode cX1_print 218 = .ok (.invokevirtual 611, 3) := dk_182 2 99 (dk_at dksX1_print_9 13 rfl rfl)
theorem dX1_print_221 : decode cX1_print 221 = .ok (.ireturn, 1) := dk_172 (dk_at dksX1_print_9 16 rfl rfl)
abbrev cX1_says : ByteArray := prog_1_method_80_code
def yX1_says : MethodName := ⟨RX1, "says", "(Ljava/lang/String;[I)V"⟩
def dkwX1_says_2 : List UInt8 := [132, 5, 1, 167, 255, 225, 177]
abbrev dktX1_says_2 : List UInt8 := dkwX1_says_2 ++ []
def dkwX1_says_1 : List UInt8 := [162, 0, 30, 45, 21, 5, 46, 54, 6, 42, 180, 0, 123, 16, 32, 182, 2, 59, 21, 6, 182, 2, 62, 87]
abbrev dktX1_says_1 : List UInt8 := dkwX1_says_1 ++ dktX1_says_2
def dkwX1_says_0 : List UInt8 := [42, 180, 0, 123, 43, 182, 2, 55, 87, 44, 78, 45, 190, 54, 4, 3, 54, 5, 21, 5, 21, 4]
abbrev dktX1_says_0 : List UInt8 := dkwX1_says_0 ++ dktX1_says_1
theorem dksX1_says_0 : cX1_says.data.toList.drop 0 = dktX1_says_0 := by decide +kernel
theorem dksX1_says_1 : cX1_says.data.toList.drop 22 = dktX1_says_1 := dk_seg dksX1_says_0 22 rfl rfl
theorem dksX1_says_2 : cX1_says.data.toList.drop 46 = dktX1_says_2 := dk_seg dksX1_says_1 24 rfl rfl
theorem dX1_says_0 : decode cX1_says 0 = .ok (.aload_n 0, 1) := dk_42 (dk_at dksX1_says_0 0 rfl rfl)
theorem dX1_says_1 : decode cX1_says 1 = .ok (.getfield 123, 3) := dk_180 0 123 (dk_at dksX1_says_0 1 rfl rfl)
theorem dX1_says_4 : decode cX1_says 4 = .ok (.aload_n 1, 1) := dk_43 (dk_at dksX1_says_0 4 rfl rfl)
theorem dX1_says_5 : decode cX1_says 5 = .ok (.invokevirtual 567, 3) := dk_182 2 55 (dk_at dksX1_says_0 5 rfl rfl)
theorem dX1_says_8 : decode cX1_says 8 = .ok (.pop, 1) := dk_87 (dk_at dksX1_says_0 8 rfl rfl)
theorem dX1_says_9 : decode cX1_says 9 = .ok (.aload_n 2, 1) := dk_44 (dk_at dksX1_says_0 9 rfl rfl)
theorem dX1_says_10 : decode cX1_says 10 = .ok (.astore_n 3, 1) := dk_78 (dk_at dksX1_says_0 10 rfl rfl)
theorem dX1_says_11 : decode cX1_says 11 = .ok (.aload_n 3, 1) := dk_45 (dk_at dksX1_says_0 11 rfl rfl)
theorem dX1_says_12 : decode cX1_says 12 = .ok (.arraylength, 1) := dk_190 (dk_at dksX1_says_0 12 rfl rfl)
theorem dX1_says_13 : decode cX1_says 13 = .ok (.istore 4, 2) := dk_54 4 (dk_at dksX1_says_0 13 rfl rfl)
theorem dX1_says_15 : decode cX1_says 15 = .ok (.iconst 0, 1) := dk_3 (dk_at dksX1_says_0 15 rfl rfl)
theorem dX1_says_16 : decode cX1_says 16 = .ok (.istore 5, 2) := dk_54 5 (dk_at dksX1_says_0 16 rfl rfl)
theorem dX1_says_18 : decode cX1_says 18 = .ok (.iload 5, 2) := dk_21 5 (dk_at dksX1_says_0 18 rfl rfl)
theorem dX1_says_20 : decode cX1_says 20 = .ok (.iload 4, 2) := dk_21 4 (dk_at dksX1_says_0 20 rfl rfl)
theorem dX1_says_22 : decode cX1_says 22 = .ok (.if_icmp .ge 30, 3) := dk_162 0 30 (dk_at dksX1_says_1 0 rfl rfl)
theorem dX1_says_25 : decode cX1_says 25 = .ok (.aload_n 3, 1) := dk_45 (dk_at dksX1_says_1 3 rfl rfl)
theorem dX1_says_26 : decode cX1_says 26 = .ok (.iload 5, 2) := dk_21 5 (dk_at dksX1_says_1 4 rfl rfl)
theorem dX1_says_28 : decode cX1_says 28 = .ok (.iaload, 1) := dk_46 (dk_at dksX1_says_1 6 rfl rfl)
theorem dX1_says_29 : decode cX1_says 29 = .ok (.istore 6, 2) := dk_54 6 (dk_at dksX1_says_1 7 rfl rfl)
theorem dX1_says_31 : decode cX1_says 31 = .ok (.aload_n 0, 1) := dk_42 (dk_at dksX1_says_1 9 rfl rfl)
theorem dX1_says_32 : decode cX1_says 32 = .ok (.getfield 123, 3) := dk_180 0 123 (dk_at dksX1_says_1 10 rfl rfl)
theorem dX1_says_35 : decode cX1_says 35 = .ok (.bipush 32, 2) := dk_16 32 (dk_at dksX1_says_1 13 rfl rfl)
theorem dX1_says_37 : decode cX1_says 37 = .ok (.invokevirtual 571, 3) := dk_182 2 59 (dk_at dksX1_says_1 15 rfl rfl)
theorem dX1_says_40 : decode cX1_says 40 = .ok (.iload 6, 2) := dk_21 6 (dk_at dksX1_says_1 18 rfl rfl)
theorem dX1_says_42 : decode cX1_says 42 = .ok (.invokevirtual 574, 3) := dk_182 2 62 (dk_at dksX1_says_1 20 rfl rfl)
theorem dX1_says_45 : decode cX1_says 45 = .ok (.pop, 1) := dk_87 (dk_at dksX1_says_1 23 rfl rfl)
theorem dX1_says_46 : decode cX1_says 46 = .ok (.iinc 5 1, 3) := dk_132 5 1 (dk_at dksX1_says_2 0 rfl rfl)
theorem dX1_says_49 : decode cX1_says 49 = .ok (.goto (-31), 3) := dk_167 255 225 (dk_at dksX1_says_2 3 rfl rfl)
theorem dX1_says_52 : decode cX1_says 52 = .ok (.return_, 1) := dk_177 (dk_at dksX1_says_2 6 rfl rfl)
abbrev cX1_isGone : ByteArray := prog_1_method_81_code
def yX1_isGone : MethodName := ⟨RX1, "isGone", "(I)Z"⟩
def dkwX1_isGone_1 : List UInt8 := [180, 0, 70, 180, 1, 49, 42, 180, 0, 70, 27, 182, 0, 244, 51, 153, 0, 7, 4, 167, 0, 4, 3, 172]
abbrev dktX1_isGone_1 : List UInt8 := dkwX1_isGone_1 ++ []
def dkwX1_isGone_0 : List UInt8 := [42, 180, 0, 70, 180, 1, 1, 27, 51, 154, 0, 33, 42, 180, 0, 70, 27, 182, 0, 244, 155, 0, 26, 42]
abbrev dktX1_isGone_0 : List UInt8 := dkwX1_isGone_0 ++ dktX1_isGone_1
theorem dksX1_isGone_0 : cX1_isGone.data.toList.drop 0 = dktX1_isGone_0 := by decide +kernel
theorem dksX1_isGone_1 : cX1_isGone.data.toList.drop 24 = dktX1_isGone_1 := dk_seg dksX1_isGone_0 24 rfl rfl
theorem dX1_isGone_0 : decode cX1_isGone 0 = .ok (.aload_n 0, 1) := dk_42 (dk_at dksX1_isGone_0 0 rfl rfl)
theorem dX1_isGone_1 : decode cX1_isGone 1 = .ok (.getfield 70, 3) := dk_180 0 70 (dk_at dksX1_isGone_0 1 rfl rfl)
theorem dX1_isGone_4 : decode cX1_isGone 4 = .ok (.getfield 257, 3) := dk_180 1 1 (dk_at dksX1_isGone_0 4 rfl rfl)
theorem dX1_isGone_7 : decode cX1_isGone 7 = .ok (.iload_n 1, 1) := dk_27 (dk_at dksX1_isGone_0 7 rfl rfl)
theorem dX1_isGone_8 : decode cX1_isGone 8 = .ok (.baload, 1) := dk_51 (dk_at dksX1_isGone_0 8 rfl rfl)
theorem dX1_isGone_9 : decode cX1_isGone 9 = .ok (.ifCond .ne 33, 3) := dk_154 0 33 (dk_at dksX1_isGone_0 9 rfl rfl)
theorem dX1_isGone_12 : decode cX1_isGone 12 = .ok (.aload_n 0, 1) := dk_42 (dk_at dksX1_isGone_0 12 rfl rfl)
theorem dX1_isGone_13 : decode cX1_isGone 13 = .ok (.getfield 70, 3) := dk_180 0 70 (dk_at dksX1_isGone_0 13 rfl rfl)
theorem dX1_isGone_16 : decode cX1_isGone 16 = .ok (.iload_n 1, 1) := dk_27 (dk_at dksX1_isGone_0 16 rfl rfl)
theorem dX1_isGone_17 : decode cX1_isGone 17 = .ok (.invokevirtual 244, 3) := dk_182 0 244 (dk_at dksX1_isGone_0 17 rfl rfl)
theorem dX1_isGone_20 : decode cX1_isGone 20 = .ok (.ifCond .lt 26, 3) := dk_155 0 26 (dk_at dksX1_isGone_0 20 rfl rfl)
theorem dX1_isGone_23 : decode cX1_isGone 23 = .ok (.aload_n 0, 1) := dk_42 (dk_at dksX1_isGone_0 23 rfl rfl)
theorem dX1_isGone_24 : decode cX1_isGone 24 = .ok (.getfield 70, 3) := dk_180 0 70 (dk_at dksX1_isGone_1 0 rfl rfl)
theorem dX1_isGone_27 : decode cX1_isGone 27 = .ok (.getfield 305, 3) := dk_180 1 49 (dk_at dksX1_isGone_1 3 rfl rfl)
theorem dX1_isGone_30 : decode cX1_isGone 30 = .ok (.aload_n 0, 1) := dk_42 (dk_at dksX1_isGone_1 6 rfl rfl)
theorem dX1_isGone_31 : decode cX1_isGone 31 = .ok (.getfield 70, 3) := dk_180 0 70 (dk_at dksX1_isGone_1 7 rfl rfl)
theorem dX1_isGone_34 : decode cX1_isGone 34 = .ok (.iload_n 1, 1) := dk_27 (dk_at dksX1_isGone_1 10 rfl rfl)
theorem dX1_isGone_35 : decode cX1_isGone 35 = .ok (.invokevirtual 244, 3) := dk_182 0 244 (dk_at dksX1_isGone_1 11 rfl rfl)
theorem dX1_isGone_38 : decode cX1_isGone 38 = .ok (.baload, 1) := dk_51 (dk_at dksX1_isGone_1 14 rfl rfl)
theorem dX1_isGone_39 : decode cX1_isGone 39 = .ok (.ifCond .eq 7, 3) := dk_153 0 7 (dk_at dksX1_isGone_1 15 rfl rfl)
theorem dX1_isGone_42 : decode cX1_isGone 42 = .ok (.iconst 1, 1) := dk_4 (dk_at dksX1_isGone_1 18 rfl rfl)
theorem dX1_isGone_43 : decode cX1_isGone 43 = .ok (.goto 4, 3) := dk_167 0 4 (dk_at dksX1_isGone_1 19 rfl rfl)
theorem dX1_isGone_46 : decode cX1_isGone 46 = .ok (.iconst 0, 1) := dk_3 (dk_at dksX1_isGone_1 22 rfl rfl)
theorem dX1_isGone_47 : decode cX1_isGone 47 = .ok (.ireturn, 1) := dk_172 (dk_at dksX1_isGone_1 23 rfl rfl)
abbrev cX1_saysHouse : ByteArray := prog_1_method_82_code
def yX1_saysHouse : MethodName := ⟨RX1, "saysHouse", "(I)V"⟩
def dkwX1_saysHouse_9 : List UInt8 := [182, 2, 75, 132, 3, 1, 167, 255, 182, 42, 19, 2, 87, 3, 188, 10, 182, 2, 75, 177]
abbrev dktX1_saysHouse_9 : List UInt8 := dkwX1_saysHouse_9 ++ []
def dkwX1_saysHouse_8 : List UInt8 := [180, 0, 70, 27, 29, 182, 1, 18, 182, 0, 234, 180, 2, 84, 182, 2, 55, 182, 2, 71, 3, 188, 10]
abbrev dktX1_saysHouse_8 : List UInt8 := dkwX1_saysHouse_8 ++ dktX1_saysHouse_9
def dkwX1_saysHouse_7 : List UInt8 := [182, 2, 79, 154, 0, 45, 42, 187, 0, 120, 89, 183, 0, 122, 19, 2, 85, 182, 2, 55, 42, 42]
abbrev dktX1_saysHouse_7 : List UInt8 := dkwX1_saysHouse_7 ++ dktX1_saysHouse_8
def dkwX1_saysHouse_6 : List UInt8 := [62, 29, 42, 180, 0, 70, 180, 1, 15, 27, 46, 162, 0, 67, 42, 42, 180, 0, 70, 27, 29, 182, 1, 18]
abbrev dktX1_saysHouse_6 : List UInt8 := dkwX1_saysHouse_6 ++ dktX1_saysHouse_7
def dkwX1_saysHouse_5 : List UInt8 := [180, 1, 40, 27, 46, 182, 0, 234, 180, 2, 84, 182, 2, 55, 182, 2, 71, 3, 188, 10, 182, 2, 75, 3]
abbrev dktX1_saysHouse_5 : List UInt8 := dkwX1_saysHouse_5 ++ dktX1_saysHouse_6
def dkwX1_saysHouse_4 : List UInt8 := [154, 0, 45, 42, 187, 0, 120, 89, 183, 0, 122, 19, 2, 82, 182, 2, 55, 42, 42, 180, 0, 70]
abbrev dktX1_saysHouse_4 : List UInt8 := dkwX1_saysHouse_4 ++ dktX1_saysHouse_5
def dkwX1_saysHouse_3 : List UInt8 := [180, 0, 70, 180, 1, 40, 27, 46, 155, 0, 61, 42, 42, 180, 0, 70, 180, 1, 40, 27, 46, 182, 2, 79]
abbrev dktX1_saysHouse_3 : List UInt8 := dkwX1_saysHouse_3 ++ dktX1_saysHouse_4
def dkwX1_saysHouse_2 : List UInt8 := [180, 1, 31, 27, 46, 79, 89, 5, 44, 182, 1, 34, 79, 89, 6, 44, 182, 1, 37, 79, 182, 2, 75, 42]
abbrev dktX1_saysHouse_2 : List UInt8 := dkwX1_saysHouse_2 ++ dktX1_saysHouse_3
def dkwX1_saysHouse_1 : List UInt8 := [182, 2, 55, 182, 2, 71, 7, 188, 10, 89, 3, 44, 182, 1, 25, 79, 89, 4, 42, 180, 0, 70]
abbrev dktX1_saysHouse_1 : List UInt8 := dkwX1_saysHouse_1 ++ dktX1_saysHouse_2
def dkwX1_saysHouse_0 : List UInt8 := [42, 27, 182, 1, 21, 77, 42, 187, 0, 120, 89, 183, 0, 122, 19, 2, 65, 182, 2, 55, 44, 180, 2, 67]
abbrev dktX1_saysHouse_0 : List UInt8 := dkwX1_saysHouse_0 ++ dktX1_saysHouse_1
theorem dksX1_saysHouse_0 : cX1_saysHouse.data.toList.drop 0 = dktX1_saysHouse_0 := by decide +kernel
theorem dksX1_saysHouse_1 : cX1_saysHouse.data.toList.drop 24 = dktX1_saysHouse_1 := dk_seg dksX1_saysHouse_0 24 rfl rfl
theorem dksX1_saysHouse_2 : cX1_saysHouse.data.toList.drop 46 = dktX1_saysHouse_2 := dk_seg dksX1_saysHouse_1 22 rfl rfl
theorem dksX1_saysHouse_3 : cX1_saysHouse.data.toList.drop 70 = dktX1_saysHouse_3 := dk_seg dksX1_saysHouse_2 24 rfl rfl
theorem dksX1_saysHouse_4 : cX1_saysHouse.data.toList.drop 94 = dktX1_saysHouse_4 := dk_seg dksX1_saysHouse_3 24 rfl rfl
theorem dksX1_saysHouse_5 : cX1_saysHouse.data.toList.drop 116 = dktX1_saysHouse_5 := dk_seg dksX1_saysHouse_4 22 rfl rfl
theorem dksX1_saysHouse_6 : cX1_saysHouse.data.toList.drop 140 = dktX1_saysHouse_6 := dk_seg dksX1_saysHouse_5 24 rfl rfl
theorem dksX1_saysHouse_7 : cX1_saysHouse.data.toList.drop 164 = dktX1_saysHouse_7 := dk_seg dksX1_saysHouse_6 24 rfl rfl
theorem dksX1_saysHouse_8 : cX1_saysHouse.data.toList.drop 186 = dktX1_saysHouse_8 := dk_seg dksX1_saysHouse_7 22 rfl rfl
theorem dksX1_saysHouse_9 : cX1_saysHouse.data.toList.drop 209 = dktX1_saysHouse_9 := dk_seg dksX1_saysHouse_8 23 rfl rfl
theorem dX1_saysHouse_0 : decode cX1_saysHouse 0 = .ok (.aload_n 0, 1) := dk_42 (dk_at dksX1_saysHouse_0 0 rfl rfl)
theorem dX1_saysHouse_1 : decode cX1_saysHouse 1 = .ok (.iload_n 1, 1) := dk_27 (dk_at dksX1_saysHouse_0 1 rfl rfl)
theorem dX1_saysHouse_2 : decode cX1_saysHouse 2 = .ok (.invokevirtual 277, 3) := dk_182 1 21 (dk_at dksX1_saysHouse_0 2 rfl rfl)
theorem dX1_saysHouse_5 : decode cX1_saysHouse 5 = .ok (.astore_n 2, 1) := dk_77 (dk_at dksX1_saysHouse_0 5 rfl rfl)
theorem dX1_saysHouse_6 : decode cX1_saysHouse 6 = .ok (.aload_n 0, 1) := dk_42 (dk_at dksX1_saysHouse_0 6 rfl rfl)
theorem dX1_saysHouse_7 : decode cX1_saysHouse 7 = .ok (.new 120, 3) := dk_187 0 120 (dk_at dksX1_saysHouse_0 7 rfl rfl)
theorem dX1_saysHouse_10 : decode cX1_saysHouse 10 = .ok (.dup, 1) := dk_89 (dk_at dksX1_saysHouse_0 10 rfl rfl)
theorem dX1_saysHouse_11 : decode cX1_saysHouse 11 = .ok (.invokespecial 122, 3) := dk_183 0 122 (dk_at dksX1_saysHouse_0 11 rfl rfl)
theorem dX1_saysHouse_14 : decode cX1_saysHouse 14 = .ok (.ldc_w 577, 3) := dk_19 2 65 (dk_at dksX1_saysHouse_0 14 rfl rfl)
theorem dX1_saysHouse_17 : decode cX1_saysHouse 17 = .ok (.invokevirtual 567, 3) := dk_182 2 55 (dk_at dksX1_saysHouse_0 17 rfl rfl)
theorem dX1_saysHouse_20 : decode cX1_saysHouse 20 = .ok (.aload_n 2, 1) := dk_44 (dk_at dksX1_saysHouse_0 20 rfl rfl)
theorem dX1_saysHouse_21 : decode cX1_saysHouse 21 = .ok (.getfield 579, 3) := dk_180 2 67 (dk_at dksX1_saysHouse_0 21 rfl rfl)
theorem dX1_saysHouse_24 : decode cX1_saysHouse 24 = .ok (.invokevirtual 567, 3) := dk_182 2 55 (dk_at dksX1_saysHouse_1 0 rfl rfl)
theorem dX1_saysHouse_27 : decode cX1_saysHouse 27 = .ok (.invokevirtual 583, 3) := dk_182 2 71 (dk_at dksX1_saysHouse_1 3 rfl rfl)
theorem dX1_saysHouse_30 : decode cX1_saysHouse 30 = .ok (.iconst 4, 1) := dk_7 (dk_at dksX1_saysHouse_1 6 rfl rfl)
theorem dX1_saysHouse_31 : decode cX1_saysHouse 31 = .ok (.newarray .int, 2) := dk_188_10 (dk_at dksX1_saysHouse_1 7 rfl rfl)
theorem dX1_saysHouse_33 : decode cX1_saysHouse 33 = .ok (.dup, 1) := dk_89 (dk_at dksX1_saysHouse_1 9 rfl rfl)
theorem dX1_saysHouse_34 : decode cX1_saysHouse 34 = .ok (.iconst 0, 1) := dk_3 (dk_at dksX1_saysHouse_1 10 rfl rfl)
theorem dX1_saysHouse_35 : decode cX1_saysHouse 35 = .ok (.aload_n 2, 1) := dk_44 (dk_at dksX1_saysHouse_1 11 rfl rfl)
theorem dX1_saysHouse_36 : decode cX1_saysHouse 36 = .ok (.invokevirtual 281, 3) := dk_182 1 25 (dk_at dksX1_saysHouse_1 12 rfl rfl)
theorem dX1_saysHouse_39 : decode cX1_saysHouse 39 = .ok (.iastore, 1) := dk_79 (dk_at dksX1_saysHouse_1 15 rfl rfl)
theorem dX1_saysHouse_40 : decode cX1_saysHouse 40 = .ok (.dup, 1) := dk_89 (dk_at dksX1_saysHouse_1 16 rfl rfl)
theorem dX1_saysHouse_41 : decode cX1_saysHouse 41 = .ok (.iconst 1, 1) := dk_4 (dk_at dksX1_saysHouse_1 17 rfl rfl)
theorem dX1_saysHouse_42 : decode cX1_saysHouse 42 = .ok (.aload_n 0, 1) := dk_42 (dk_at dksX1_saysHouse_1 18 rfl rfl)
theorem dX1_saysHouse_43 : decode cX1_saysHouse 43 = .ok (.getfield 70, 3) := dk_180 0 70 (dk_at dksX1_saysHouse_1 19 rfl rfl)
theorem dX1_saysHouse_46 : decode cX1_saysHouse 46 = .ok (.getfield 287, 3) := dk_180 1 31 (dk_at dksX1_saysHouse_2 0 rfl rfl)
theorem dX1_saysHouse_49 : decode cX1_saysHouse 49 = .ok (.iload_n 1, 1) := dk_27 (dk_at dksX1_saysHouse_2 3 rfl rfl)
theorem dX1_saysHouse_50 : decode cX1_saysHouse 50 = .ok (.iaload, 1) := dk_46 (dk_at dksX1_saysHouse_2 4 rfl rfl)
theorem dX1_saysHouse_51 : decode cX1_saysHouse 51 = .ok (.iastore, 1) := dk_79 (dk_at dksX1_saysHouse_2 5 rfl rfl)
theorem dX1_saysHouse_52 : decode cX1_saysHouse 52 = .ok (.dup, 1) := dk_89 (dk_at dksX1_saysHouse_2 6 rfl rfl)
theorem dX1_saysHouse_53 : decode cX1_saysHouse 53 = .ok (.iconst 2, 1) := dk_5 (dk_at dksX1_saysHouse_2 7 rfl rfl)
theorem dX1_saysHouse_54 : decode cX1_saysHouse 54 = .ok (.aload_n 2, 1) := dk_44 (dk_at dksX1_saysHouse_2 8 rfl rfl)
theorem dX1_saysHouse_55 : decode cX1_saysHouse 55 = .ok (.invokevirtual 290, 3) := dk_182 1 34 (dk_at dksX1_saysHouse_2 9 rfl rfl)
theorem dX1_saysHouse_58 : decode cX1_saysHouse 58 = .ok (.iastore, 1) := dk_79 (dk_at dksX1_saysHouse_2 12 rfl rfl)
theorem dX1_saysHouse_59 : decode cX1_saysHouse 59 = .ok (.dup, 1) := dk_89 (dk_at dksX1_saysHouse_2 13 rfl rfl)
theorem dX1_saysHouse_60 : decode cX1_saysHouse 60 = .ok (.iconst 3, 1) := dk_6 (dk_at dksX1_saysHouse_2 14 rfl rfl)
theorem dX1_saysHouse_61 : decode cX1_saysHouse 61 = .ok (.aload_n 2, 1) := dk_44 (dk_at dksX1_saysHouse_2 15 rfl rfl)
theorem dX1_saysHouse_62 : decode cX1_saysHouse 62 = .ok (.invokevirtual 293, 3) := dk_182 1 37 (dk_at dksX1_saysHouse_2 16 rfl rfl)
theorem dX1_saysHouse_65 : decode cX1_saysHouse 65 = .ok (.iastore, 1) := dk_79 (dk_at dksX1_saysHouse_2 19 rfl rfl)
theorem dX1_saysHouse_66 : decode cX1_saysHouse 66 = .ok (.invokevirtual 587, 3) := dk_182 2 75 (dk_at dksX1_saysHouse_2 20 rfl rfl)
theorem dX1_saysHouse_69 : decode cX1_saysHouse 69 = .ok (.aload_n 0, 1) := dk_42 (dk_at dksX1_saysHouse_2 23 rfl rfl)
theorem dX1_saysHouse_70 : decode cX1_saysHouse 70 = .ok (.getfield 70, 3) := dk_180 0 70 (dk_at dksX1_saysHouse_3 0 rfl rfl)
theorem dX1_saysHouse_73 : decode cX1_saysHouse 73 = .ok (.getfield 296, 3) := dk_180 1 40 (dk_at dksX1_saysHouse_3 3 rfl rfl)
theorem dX1_saysHouse_76 : decode cX1_saysHouse 76 = .ok (.iload_n 1, 1) := dk_27 (dk_at dksX1_saysHouse_3 6 rfl rfl)
theorem dX1_saysHouse_77 : decode cX1_saysHouse 77 = .ok (.iaload, 1) := dk_46 (dk_at dksX1_saysHouse_3 7 rfl rfl)
theorem dX1_saysHouse_78 : decode cX1_saysHouse 78 = .ok (.ifCond .lt 61, 3) := dk_155 0 61 (dk_at dksX1_saysHouse_3 8 rfl rfl)
theorem dX1_saysHouse_81 : decode cX1_saysHouse 81 = .ok (.aload_n 0, 1) := dk_42 (dk_at dksX1_saysHouse_3 11 rfl rfl)
theorem dX1_saysHouse_82 : decode cX1_saysHouse 82 = .ok (.aload_n 0, 1) := dk_42 (dk_at dksX1_saysHouse_3 12 rfl rfl)
theorem dX1_saysHouse_83 : decode cX1_saysHouse 83 = .ok (.getfield 70, 3) := dk_180 0 70 (dk_at dksX1_saysHouse_3 13 rfl rfl)
theorem dX1_saysHouse_86 : decode cX1_saysHouse 86 = .ok (.getfield 296, 3) := dk_180 1 40 (dk_at dksX1_saysHouse_3 16 rfl rfl)
theorem dX1_saysHouse_89 : decode cX1_saysHouse 89 = .ok (.iload_n 1, 1) := dk_27 (dk_at dksX1_saysHouse_3 19 rfl rfl)
theorem dX1_saysHouse_90 : decode cX1_saysHouse 90 = .ok (.iaload, 1) := dk_46 (dk_at dksX1_saysHouse_3 20 rfl rfl)
theorem dX1_saysHouse_91 : decode cX1_saysHouse 91 = .ok (.invokevirtual 591, 3) := dk_182 2 79 (dk_at dksX1_saysHouse_3 21 rfl rfl)
theorem dX1_saysHouse_94 : decode cX1_saysHouse 94 = .ok (.ifCond .ne 45, 3) := dk_154 0 45 (dk_at dksX1_saysHouse_4 0 rfl rfl)
theorem dX1_saysHouse_97 : decode cX1_saysHouse 97 = .ok (.aload_n 0, 1) := dk_42 (dk_at dksX1_saysHouse_4 3 rfl rfl)
theorem dX1_saysHouse_98 : decode cX1_saysHouse 98 = .ok (.new 120, 3) := dk_187 0 120 (dk_at dksX1_saysHouse_4 4 rfl rfl)
theorem dX1_saysHouse_101 : decode cX1_saysHouse 101 = .ok (.dup, 1) := dk_89 (dk_at dksX1_saysHouse_4 7 rfl rfl)
theorem dX1_saysHouse_102 : decode cX1_saysHouse 102 = .ok (.invokespecial 122, 3) := dk_183 0 122 (dk_at dksX1_saysHouse_4 8 rfl rfl)
theorem dX1_saysHouse_105 : decode cX1_saysHouse 105 = .ok (.ldc_w 594, 3) := dk_19 2 82 (dk_at dksX1_saysHouse_4 11 rfl rfl)
theorem dX1_saysHouse_108 : decode cX1_saysHouse 108 = .ok (.invokevirtual 567, 3) := dk_182 2 55 (dk_at dksX1_saysHouse_4 14 rfl rfl)
theorem dX1_saysHouse_111 : decode cX1_saysHouse 111 = .ok (.aload_n 0, 1) := dk_42 (dk_at dksX1_saysHouse_4 17 rfl rfl)
theorem dX1_saysHouse_112 : decode cX1_saysHouse 112 = .ok (.aload_n 0, 1) := dk_42 (dk_at dksX1_saysHouse_4 18 rfl rfl)
theorem dX1_saysHouse_113 : decode cX1_saysHouse 113 = .ok (.getfield 70, 3) := dk_180 0 70 (dk_at dksX1_saysHouse_4 19 rfl rfl)
theorem dX1_saysHouse_116 : decode cX1_saysHouse 116 = .ok (.getfield 296, 3) := dk_180 1 40 (dk_at dksX1_saysHouse_5 0 rfl rfl)
theorem dX1_saysHouse_119 : decode cX1_saysHouse 119 = .ok (.iload_n 1, 1) := dk_27 (dk_at dksX1_saysHouse_5 3 rfl rfl)
theorem dX1_saysHouse_120 : decode cX1_saysHouse 120 = .ok (.iaload, 1) := dk_46 (dk_at dksX1_saysHouse_5 4 rfl rfl)
theorem dX1_saysHouse_121 : decode cX1_saysHouse 121 = .ok (.invokevirtual 234, 3) := dk_182 0 234 (dk_at dksX1_saysHouse_5 5 rfl rfl)
theorem dX1_saysHouse_124 : decode cX1_saysHouse 124 = .ok (.getfield 596, 3) := dk_180 2 84 (dk_at dksX1_saysHouse_5 8 rfl rfl)
theorem dX1_saysHouse_127 : decode cX1_saysHouse 127 = .ok (.invokevirtual 567, 3) := dk_182 2 55 (dk_at dksX1_saysHouse_5 11 rfl rfl)
theorem dX1_saysHouse_130 : decode cX1_saysHouse 130 = .ok (.invokevirtual 583, 3) := dk_182 2 71 (dk_at dksX1_saysHouse_5 14 rfl rfl)
theorem dX1_saysHouse_133 : decode cX1_saysHouse 133 = .ok (.iconst 0, 1) := dk_3 (dk_at dksX1_saysHouse_5 17 rfl rfl)
theorem dX1_saysHouse_134 : decode cX1_saysHouse 134 = .ok (.newarray .int, 2) := dk_188_10 (dk_at dksX1_saysHouse_5 18 rfl rfl)
theorem dX1_saysHouse_136 : decode cX1_saysHouse 136 = .ok (.invokevirtual 587, 3) := dk_182 2 75 (dk_at dksX1_saysHouse_5 20 rfl rfl)
theorem dX1_saysHouse_139 : decode cX1_saysHouse 139 = .ok (.iconst 0, 1) := dk_3 (dk_at dksX1_saysHouse_5 23 rfl rfl)
theorem dX1_saysHouse_140 : decode cX1_saysHouse 140 = .ok (.istore_n 3, 1) := dk_62 (dk_at dksX1_saysHouse_6 0 rfl rfl)
theorem dX1_saysHouse_141 : decode cX1_saysHouse 141 = .ok (.iload_n 3, 1) := dk_29 (dk_at dksX1_saysHouse_6 1 rfl rfl)
theorem dX1_saysHouse_142 : decode cX1_saysHouse 142 = .ok (.aload_n 0, 1) := dk_42 (dk_at dksX1_saysHouse_6 2 rfl rfl)
theorem dX1_saysHouse_143 : decode cX1_saysHouse 143 = .ok (.getfield 70, 3) := dk_180 0 70 (dk_at dksX1_saysHouse_6 3 rfl rfl)
theorem dX1_saysHouse_146 : decode cX1_saysHouse 146 = .ok (.getfield 271, 3) := dk_180 1 15 (dk_at dksX1_saysHouse_6 6 rfl rfl)
theorem dX1_saysHouse_149 : decode cX1_saysHouse 149 = .ok (.iload_n 1, 1) := dk_27 (dk_at dksX1_saysHouse_6 9 rfl rfl)
theorem dX1_saysHouse_150 : decode cX1_saysHouse 150 = .ok (.iaload, 1) := dk_46 (dk_at dksX1_saysHouse_6 10 rfl rfl)
theorem dX1_saysHouse_151 : decode cX1_saysHouse 151 = .ok (.if_icmp .ge 67, 3) := dk_162 0 67 (dk_at dksX1_saysHouse_6 11 rfl rfl)
theorem dX1_saysHouse_154 : decode cX1_saysHouse 154 = .ok (.aload_n 0, 1) := dk_42 (dk_at dksX1_saysHouse_6 14 rfl rfl)
theorem dX1_saysHouse_155 : decode cX1_saysHouse 155 = .ok (.aload_n 0, 1) := dk_42 (dk_at dksX1_saysHouse_6 15 rfl rfl)
theorem dX1_saysHouse_156 : decode cX1_saysHouse 156 = .ok (.getfield 70, 3) := dk_180 0 70 (dk_at dksX1_saysHouse_6 16 rfl rfl)
theorem dX1_saysHouse_159 : decode cX1_saysHouse 159 = .ok (.iload_n 1, 1) := dk_27 (dk_at dksX1_saysHouse_6 19 rfl rfl)
theorem dX1_saysHouse_160 : decode cX1_saysHouse 160 = .ok (.iload_n 3, 1) := dk_29 (dk_at dksX1_saysHouse_6 20 rfl rfl)
theorem dX1_saysHouse_161 : decode cX1_saysHouse 161 = .ok (.invokevirtual 274, 3) := dk_182 1 18 (dk_at dksX1_saysHouse_6 21 rfl rfl)
theorem dX1_saysHouse_164 : decode cX1_saysHouse 164 = .ok (.invokevirtual 591, 3) := dk_182 2 79 (dk_at dksX1_saysHouse_7 0 rfl rfl)
theorem dX1_saysHouse_167 : decode cX1_saysHouse 167 = .ok (.ifCond .ne 45, 3) := dk_154 0 45 (dk_at dksX1_saysHouse_7 3 rfl rfl)
theorem dX1_saysHouse_170 : decode cX1_saysHouse 170 = .ok (.aload_n 0, 1) := dk_42 (dk_at dksX1_saysHouse_7 6 rfl rfl)
theorem dX1_saysHouse_171 : decode cX1_saysHouse 171 = .ok (.new 120, 3) := dk_187 0 120 (dk_at dksX1_saysHouse_7 7 rfl rfl)
theorem dX1_saysHouse_174 : decode cX1_saysHouse 174 = .ok (.dup, 1) := dk_89 (dk_at dksX1_saysHouse_7 10 rfl rfl)
theorem dX1_saysHouse_175 : decode cX1_saysHouse 175 = .ok (.invokespecial 122, 3) := dk_183 0 122 (dk_at dksX1_saysHouse_7 11 rfl rfl)
theorem dX1_saysHouse_178 : decode cX1_saysHouse 178 = .ok (.ldc_w 597, 3) := dk_19 2 85 (dk_at dksX1_saysHouse_7 14 rfl rfl)
theorem dX1_saysHouse_181 : decode cX1_saysHouse 181 = .ok (.invokevirtual 567, 3) := dk_182 2 55 (dk_at dksX1_saysHouse_7 17 rfl rfl)
theorem dX1_saysHouse_184 : decode cX1_saysHouse 184 = .ok (.aload_n 0, 1) := dk_42 (dk_at dksX1_saysHouse_7 20 rfl rfl)
theorem dX1_saysHouse_185 : decode cX1_saysHouse 185 = .ok (.aload_n 0, 1) := dk_42 (dk_at dksX1_saysHouse_7 21 rfl rfl)
theorem dX1_saysHouse_186 : decode cX1_saysHouse 186 = .ok (.getfield 70, 3) := dk_180 0 70 (dk_at dksX1_saysHouse_8 0 rfl rfl)
theorem dX1_saysHouse_189 : decode cX1_saysHouse 189 = .ok (.iload_n 1, 1) := dk_27 (dk_at dksX1_saysHouse_8 3 rfl rfl)
theorem dX1_saysHouse_190 : decode cX1_saysHouse 190 = .ok (.iload_n 3, 1) := dk_29 (dk_at dksX1_saysHouse_8 4 rfl rfl)
theorem dX1_saysHouse_191 : decode cX1_saysHouse 191 = .ok (.invokevirtual 274, 3) := dk_182 1 18 (dk_at dksX1_saysHouse_8 5 rfl rfl)
theorem dX1_saysHouse_194 : decode cX1_saysHouse 194 = .ok (.invokevirtual 234, 3) := dk_182 0 234 (dk_at dksX1_saysHouse_8 8 rfl rfl)
theorem dX1_saysHouse_197 : decode cX1_saysHouse 197 = .ok (.getfield 596, 3) := dk_180 2 84 (dk_at dksX1_saysHouse_8 11 rfl rfl)
theorem dX1_saysHouse_200 : decode cX1_saysHouse 200 = .ok (.invokevirtual 567, 3) := dk_182 2 55 (dk_at dksX1_saysHouse_8 14 rfl rfl)
theorem dX1_saysHouse_203 : decode cX1_saysHouse 203 = .ok (.invokevirtual 583, 3) := dk_182 2 71 (dk_at dksX1_saysHouse_8 17 rfl rfl)
theorem dX1_saysHouse_206 : decode cX1_saysHouse 206 = .ok (.iconst 0, 1) := dk_3 (dk_at dksX1_saysHouse_8 20 rfl rfl)
theorem dX1_saysHouse_207 : decode cX1_saysHouse 207 = .ok (.newarray .int, 2) := dk_188_10 (dk_at dksX1_saysHouse_8 21 rfl rfl)
theorem dX1_saysHouse_209 : decode cX1_saysHouse 209 = .ok (.invokevirtual 587, 3) := dk_182 2 75 (dk_at dksX1_saysHouse_9 0 rfl rfl)
theorem dX1_saysHouse_212 : decode cX1_saysHouse 212 = .ok (.iinc 3 1, 3) := dk_132 3 1 (dk_at dksX1_saysHouse_9 3 rfl rfl)
theorem dX1_saysHouse_215 : decode cX1_saysHouse 215 = .ok (.goto (-74), 3) := dk_167 255 182 (dk_at dksX1_saysHouse_9 6 rfl rfl)
theorem dX1_saysHouse_218 : decode cX1_saysHouse 218 = .ok (.aload_n 0, 1) := dk_42 (dk_at dksX1_saysHouse_9 9 rfl rfl)
theorem dX1_saysHouse_219 : decode cX1_saysHouse 219 = .ok (.ldc_w 599, 3) := dk_19 2 87 (dk_at dksX1_saysHouse_9 10 rfl rfl)
theorem dX1_saysHouse_222 : decode cX1_saysHouse 222 = .ok (.iconst 0, 1) := dk_3 (dk_at dksX1_saysHouse_9 13 rfl rfl)
theorem dX1_saysHouse_223 : decode cX1_saysHouse 223 = .ok (.newarray .int, 2) := dk_188_10 (dk_at dksX1_saysHouse_9 14 rfl rfl)
theorem dX1_saysHouse_225 : decode cX1_saysHouse 225 = .ok (.invokevirtual 587, 3) := dk_182 2 75 (dk_at dksX1_saysHouse_9 16 rfl rfl)
theorem dX1_saysHouse_228 : decode cX1_saysHouse 228 = .ok (.return_, 1) := dk_177 (dk_at dksX1_saysHouse_9 19 rfl rfl)
abbrev cX1_out : ByteArray := prog_1_method_84_code
def yX1_out : MethodName := ⟨RX1, "out", "(I)I"⟩
def dkwX1_out_1 : List UInt8 := [183, 2, 104, 191, 42, 180, 0, 123, 27, 182, 2, 105, 172]
abbrev dktX1_out_1 : List UInt8 := dkwX1_out_1 ++ []
def dkwX1_out_0 : List UInt8 := [27, 133, 9, 42, 180, 0, 123, 182, 2, 99, 4, 100, 133, 184, 0, 134, 154, 0, 11, 187, 2, 102, 89]
abbrev dktX1_out_0 : List UInt8 := dkwX1_out_0 ++ dktX1_out_1
theorem dksX1_out_0 : cX1_out.data.toList.drop 0 = dktX1_out_0 := by decide +kernel
theorem dksX1_out_1 : cX1_out.data.toList.drop 23 = dktX1_out_1 := dk_seg dksX1_out_0 23 rfl rfl
theorem dX1_out_0 : decode cX1_out 0 = .ok (.iload_n 1, 1) := dk_27 (dk_at dksX1_out_0 0 rfl rfl)
theorem dX1_out_1 : decode cX1_out 1 = .ok (.i2l, 1) := dk_133 (dk_at dksX1_out_0 1 rfl rfl)
theorem dX1_out_2 : decode cX1_out 2 = .ok (.lconst 0, 1) := dk_9 (dk_at dksX1_out_0 2 rfl rfl)
theorem dX1_out_3 : decode cX1_out 3 = .ok (.aload_n 0, 1) := dk_42 (dk_at dksX1_out_0 3 rfl rfl)
theorem dX1_out_4 : decode cX1_out 4 = .ok (.getfield 123, 3) := dk_180 0 123 (dk_at dksX1_out_0 4 rfl rfl)
theorem dX1_out_7 : decode cX1_out 7 = .ok (.invokevirtual 611, 3) := dk_182 2 99 (dk_at dksX1_out_0 7 rfl rfl)
theorem dX1_out_10 : decode cX1_out 10 = .ok (.iconst 1, 1) := dk_4 (dk_at dksX1_out_0 10 rfl rfl)
theorem dX1_out_11 : decode cX1_out 11 = .ok (.isub, 1) := dk_100 (dk_at dksX1_out_0 11 rfl rfl)
theorem dX1_out_12 : decode cX1_out 12 = .ok (.i2l, 1) := dk_133 (dk_at dksX1_out_0 12 rfl rfl)
theorem dX1_out_13 : decode cX1_out 13 = .ok (.invokestatic 134, 3) := dk_184 0 134 (dk_at dksX1_out_0 13 rfl rfl)
theorem dX1_out_16 : decode cX1_out 16 = .ok (.ifCond .ne 11, 3) := dk_154 0 11 (dk_at dksX1_out_0 16 rfl rfl)
theorem dX1_out_19 : decode cX1_out 19 = .ok (.new 614, 3) := dk_187 2 102 (dk_at dksX1_out_0 19 rfl rfl)
theorem dX1_out_22 : decode cX1_out 22 = .ok (.dup, 1) := dk_89 (dk_at dksX1_out_0 22 rfl rfl)
theorem dX1_out_23 : decode cX1_out 23 = .ok (.invokespecial 616, 3) := dk_183 2 104 (dk_at dksX1_out_1 0 rfl rfl)
theorem dX1_out_26 : decode cX1_out 26 = .ok (.athrow, 1) := dk_191 (dk_at dksX1_out_1 3 rfl rfl)
theorem dX1_out_27 : decode cX1_out 27 = .ok (.aload_n 0, 1) := dk_42 (dk_at dksX1_out_1 4 rfl rfl)
theorem dX1_out_28 : decode cX1_out 28 = .ok (.getfield 123, 3) := dk_180 0 123 (dk_at dksX1_out_1 5 rfl rfl)
theorem dX1_out_31 : decode cX1_out 31 = .ok (.iload_n 1, 1) := dk_27 (dk_at dksX1_out_1 8 rfl rfl)
theorem dX1_out_32 : decode cX1_out 32 = .ok (.invokevirtual 617, 3) := dk_182 2 105 (dk_at dksX1_out_1 9 rfl rfl)
theorem dX1_out_35 : decode cX1_out 35 = .ok (.ireturn, 1) := dk_172 (dk_at dksX1_out_1 12 rfl rfl)
theorem q174 : (Jvm.Cond.initialized "HomesQueue") ∈ lw_all := lw_g (lw_at lw_m1 1 rfl) rfl
theorem q207 : (Jvm.Cond.instantiable "HomesQueue" (13 : Nat)) ∈ lw_all := lw_g (lw_at lw_m1 34 rfl) rfl
theorem q209 : (Jvm.Cond.instanceMethod ({ cls := "HomesQueue", name := "<init>", desc := "()V" } : Jvm.MethodName)) ∈ lw_all := lw_g (lw_at lw_m1 36 rfl) rfl
theorem q210 : (Jvm.Cond.code ({ cls := "HomesQueue", name := "<init>", desc := "()V" } : Jvm.MethodName) prog_1_method_12_code (1 : Nat) (Option.none : Option Jvm.ClassFile.FieldType)) ∈ lw_all := lw_g (lw_at lw_m1 37 rfl) rfl
theorem q211 : (Jvm.Cond.methodLink "HomesQueue" (56 : Nat) ({ cls := "java/lang/Object", name := "<init>", desc := "()V" } : Jvm.MethodName)) ∈ lw_all := lw_g (lw_at lw_m1 38 rfl) rfl
theorem q214 : (Jvm.Cond.classLink "HomesQueue" (44 : Nat) "java/util/ArrayList") ∈ lw_all := lw_g (lw_at lw_m1 41 rfl) rfl
theorem q216 : (Jvm.Cond.methodLink "HomesQueue" (62 : Nat) ({ cls := "java/util/ArrayList", name := "<init>", desc := "(I)V" } : Jvm.MethodName)) ∈ lw_all := lw_g (lw_at lw_m1 43 rfl) rfl
theorem q245 : (Jvm.Cond.classLink "HomesQueue" (65 : Nat) "HomesQueue$Register") ∈ lw_all := lw_g (lw_at lw_m1 72 rfl) rfl
theorem q247 : (Jvm.Cond.methodLinkNest "HomesQueue" (67 : Nat) ({ cls := "HomesQueue$Register", name := "<init>", desc := "(LHomesQueue;)V" } : Jvm.MethodName) "HomesQueue") ∈ lw_tbl := lw_at lw_m1 74 rfl
theorem q254 : (Jvm.Cond.laysStatic "HomesQueue" "PLAIN" "[I") ∈ lw_tbl := lw_at lw_m1 81 rfl
theorem q289 : (Jvm.Cond.privateMethod ({ cls := "HomesQueue", name := "homeAt", desc := "(I)LHomesQueue$Home;" } : Jvm.MethodName)) ∈ lw_tbl := lw_at lw_m1 116 rfl
theorem q290 : (Jvm.Cond.instanceMethod ({ cls := "HomesQueue", name := "homeAt", desc := "(I)LHomesQueue$Home;" } : Jvm.MethodName)) ∈ lw_all := lw_g (lw_at lw_m1 117 rfl) rfl
theorem q291 : (Jvm.Cond.code ({ cls := "HomesQueue", name := "homeAt", desc := "(I)LHomesQueue$Home;" } : Jvm.MethodName) prog_1_method_10_code (2 : Nat) (Option.some (Jvm.ClassFile.FieldType.object "HomesQueue$Home"))) ∈ lw_all := lw_g (lw_at lw_m1 118 rfl) rfl
theorem q292 : (Jvm.Cond.methodLink "HomesQueue" (43 : Nat) ({ cls := "java/util/ArrayList", name := "get", desc := "(I)Ljava/lang/Object;" } : Jvm.MethodName)) ∈ lw_all := lw_g (lw_at lw_m1 119 rfl) rfl
theorem q306 : (Jvm.Cond.classLink "HomesQueue" (49 : Nat) "HomesQueue$Home") ∈ lw_all := lw_g (lw_at lw_m1 133 rfl) rfl
theorem q308 : (Jvm.Cond.static ({ cls := "HomesQueue", name := "isIn", desc := "(JJJ)Z" } : Jvm.MethodName)) ∈ lw_all := lw_g (lw_at lw_m1 135 rfl) rfl
theorem q309 : (Jvm.Cond.code ({ cls := "HomesQueue", name := "isIn", desc := "(JJJ)Z" } : Jvm.MethodName) prog_1_method_1_code (6 : Nat) (Option.some Jvm.ClassFile.FieldType.boolean)) ∈ lw_all := lw_g (lw_at lw_m1 136 rfl) rfl
theorem q340 : (Jvm.Cond.privateMethod ({ cls := "HomesQueue", name := "houseAt", desc := "(I)LHomesQueue$House;" } : Jvm.MethodName)) ∈ lw_tbl := lw_at lw_m1 167 rfl
theorem q341 : (Jvm.Cond.instanceMethod ({ cls := "HomesQueue", name := "houseAt", desc := "(I)LHomesQueue$House;" } : Jvm.MethodName)) ∈ lw_all := lw_g (lw_at lw_m1 168 rfl) rfl
theorem q342 : (Jvm.Cond.code ({ cls := "HomesQueue", name := "houseAt", desc := "(I)LHomesQueue$House;" } : Jvm.MethodName) prog_1_method_11_code (2 : Nat) (Option.some (Jvm.ClassFile.FieldType.object "HomesQueue$House"))) ∈ lw_all := lw_g (lw_at lw_m1 169 rfl) rfl
theorem q343 : (Jvm.Cond.classLink "HomesQueue" (54 : Nat) "HomesQueue$House") ∈ lw_all := lw_g (lw_at lw_m1 170 rfl) rfl
theorem q360 : (Jvm.Cond.static ({ cls := "HomesQueue", name := "rising", desc := "(LHomesQueue$Number;)LHomesQueue$Step;" } : Jvm.MethodName)) ∈ lw_all := lw_g (lw_at lw_m1 187 rfl) rfl
theorem q361 : (Jvm.Cond.code ({ cls := "HomesQueue", name := "rising", desc := "(LHomesQueue$Number;)LHomesQueue$Step;" } : Jvm.MethodName) prog_1_method_8_code (1 : Nat) (Option.some (Jvm.ClassFile.FieldType.object "HomesQueue$Step"))) ∈ lw_all := lw_g (lw_at lw_m1 188 rfl) rfl
theorem q362 : (Jvm.Cond.static ({ cls := "HomesQueue", name := "lambda$rising$1", desc := "(LHomesQueue$Number;II)I" } : Jvm.MethodName)) ∈ lw_all := lw_g (lw_at lw_m1 189 rfl) rfl
theorem q363 : (Jvm.Cond.code ({ cls := "HomesQueue", name := "lambda$rising$1", desc := "(LHomesQueue$Number;II)I" } : Jvm.MethodName) prog_1_method_113_code (3 : Nat) (Option.some Jvm.ClassFile.FieldType.int)) ∈ lw_all := lw_g (lw_at lw_m1 190 rfl) rfl
theorem q364 : (Jvm.Cond.interfaceEntry "HomesQueue" (13 : Nat)) ∈ lw_tbl := lw_at lw_m1 191 rfl
theorem q365 : (Jvm.Cond.methodLink "HomesQueue" (13 : Nat) ({ cls := "HomesQueue$Number", name := "of", desc := "(I)I" } : Jvm.MethodName)) ∈ lw_all := lw_g (lw_at lw_m1 192 rfl) rfl
theorem q375 : (Jvm.Cond.static ({ cls := "HomesQueue", name := "inTurn", desc := "([LHomesQueue$Step;)LHomesQueue$Step;" } : Jvm.MethodName)) ∈ lw_all := lw_g (lw_at lw_m1 202 rfl) rfl
theorem q376 : (Jvm.Cond.code ({ cls := "HomesQueue", name := "inTurn", desc := "([LHomesQueue$Step;)LHomesQueue$Step;" } : Jvm.MethodName) prog_1_method_7_code (1 : Nat) (Option.some (Jvm.ClassFile.FieldType.object "HomesQueue$Step"))) ∈ lw_all := lw_g (lw_at lw_m1 203 rfl) rfl
theorem q377 : (Jvm.Cond.static ({ cls := "HomesQueue", name := "lambda$inTurn$0", desc := "([LHomesQueue$Step;II)I" } : Jvm.MethodName)) ∈ lw_all := lw_g (lw_at lw_m1 204 rfl) rfl
theorem q378 : (Jvm.Cond.code ({ cls := "HomesQueue", name := "lambda$inTurn$0", desc := "([LHomesQueue$Step;II)I" } : Jvm.MethodName) prog_1_method_114_code (8 : Nat) (Option.some Jvm.ClassFile.FieldType.int)) ∈ lw_all := lw_g (lw_at lw_m1 205 rfl) rfl
theorem q379 : (Jvm.Cond.interfaceEntry "HomesQueue" (25 : Nat)) ∈ lw_tbl := lw_at lw_m1 206 rfl
theorem q380 : (Jvm.Cond.methodLink "HomesQueue" (25 : Nat) ({ cls := "HomesQueue$Step", name := "by", desc := "(II)I" } : Jvm.MethodName)) ∈ lw_all := lw_g (lw_at lw_m1 207 rfl) rfl
theorem q397 : (Jvm.Cond.static ({ cls := "HomesQueue", name := "one", desc := "(Z)I" } : Jvm.MethodName)) ∈ lw_all := lw_g (lw_at lw_m1 224 rfl) rfl
theorem q398 : (Jvm.Cond.code ({ cls := "HomesQueue", name := "one", desc := "(Z)I" } : Jvm.MethodName) prog_1_method_2_code (1 : Nat) (Option.some Jvm.ClassFile.FieldType.int)) ∈ lw_all := lw_g (lw_at lw_m1 225 rfl) rfl
theorem q408 : (Jvm.Cond.static ({ cls := "HomesQueue", name := "sooner", desc := "(LHomesQueue$Check;)LHomesQueue$Step;" } : Jvm.MethodName)) ∈ lw_all := lw_g (lw_at lw_m1 235 rfl) rfl
theorem q409 : (Jvm.Cond.code ({ cls := "HomesQueue", name := "sooner", desc := "(LHomesQueue$Check;)LHomesQueue$Step;" } : Jvm.MethodName) prog_1_method_9_code (1 : Nat) (Option.some (Jvm.ClassFile.FieldType.object "HomesQueue$Step"))) ∈ lw_all := lw_g (lw_at lw_m1 236 rfl) rfl
theorem q410 : (Jvm.Cond.static ({ cls := "HomesQueue", name := "lambda$sooner$2", desc := "(LHomesQueue$Check;II)I" } : Jvm.MethodName)) ∈ lw_all := lw_g (lw_at lw_m1 237 rfl) rfl
theorem q411 : (Jvm.Cond.code ({ cls := "HomesQueue", name := "lambda$sooner$2", desc := "(LHomesQueue$Check;II)I" } : Jvm.MethodName) prog_1_method_112_code (3 : Nat) (Option.some Jvm.ClassFile.FieldType.int)) ∈ lw_all := lw_g (lw_at lw_m1 238 rfl) rfl
theorem q412 : (Jvm.Cond.interfaceEntry "HomesQueue" (1 : Nat)) ∈ lw_tbl := lw_at lw_m1 239 rfl
theorem q413 : (Jvm.Cond.methodLink "HomesQueue" (1 : Nat) ({ cls := "HomesQueue$Check", name := "is", desc := "(I)Z" } : Jvm.MethodName)) ∈ lw_all := lw_g (lw_at lw_m2 0 rfl) rfl
theorem q416 : (Jvm.Cond.methodLink "HomesQueue" (7 : Nat) ({ cls := "HomesQueue", name := "one", desc := "(Z)I" } : Jvm.MethodName)) ∈ lw_all := lw_g (lw_at lw_m2 3 rfl) rfl
theorem q430 : (Jvm.Cond.fieldLinkNest "HomesQueue" (316 : Nat) "HomesQueue$Register" "rules" "[I" "HomesQueue") ∈ lw_tbl := lw_at lw_m2 17 rfl
theorem q435 : (Jvm.Cond.fieldLinkNest "HomesQueue" (296 : Nat) "HomesQueue$Register" "livesIn" "[I" "HomesQueue") ∈ lw_tbl := lw_at lw_m2 22 rfl
theorem q437 : (Jvm.Cond.fieldLinkNest "HomesQueue" (299 : Nat) "HomesQueue$Register" "refusals" "[I" "HomesQueue") ∈ lw_tbl := lw_at lw_m2 24 rfl
theorem q439 : (Jvm.Cond.fieldLinkNest "HomesQueue" (302 : Nat) "HomesQueue$Register" "barred" "[I" "HomesQueue") ∈ lw_tbl := lw_at lw_m2 26 rfl
theorem q441 : (Jvm.Cond.fieldLinkNest "HomesQueue" (311 : Nat) "HomesQueue$Register" "passed" "[I" "HomesQueue") ∈ lw_tbl := lw_at lw_m2 28 rfl
theorem q443 : (Jvm.Cond.fieldLinkNest "HomesQueue" (432 : Nat) "HomesQueue$Register" "bidSet" "[I" "HomesQueue") ∈ lw_tbl := lw_at lw_m2 30 rfl
theorem q447 : (Jvm.Cond.fieldLinkNest "HomesQueue" (271 : Nat) "HomesQueue$Register" "wishMany" "[I" "HomesQueue") ∈ lw_tbl := lw_at lw_m2 34 rfl
theorem q450 : (Jvm.Cond.fieldLinkNest "HomesQueue" (558 : Nat) "HomesQueue$Register" "wishes" "[I" "HomesQueue") ∈ lw_tbl := lw_at lw_m2 37 rfl
theorem q455 : (Jvm.Cond.fieldLinkNest "HomesQueue" (287 : Nat) "HomesQueue$Register" "needs" "[I" "HomesQueue") ∈ lw_tbl := lw_at lw_m2 42 rfl
theorem q457 : (Jvm.Cond.fieldLinkNest "HomesQueue" (261 : Nat) "HomesQueue$Register" "idle" "[I" "HomesQueue") ∈ lw_tbl := lw_at lw_m2 44 rfl
theorem q459 : (Jvm.Cond.fieldLinkNest "HomesQueue" (257 : Nat) "HomesQueue$Register" "isShut" "[Z" "HomesQueue") ∈ lw_tbl := lw_at lw_m2 46 rfl
theorem q461 : (Jvm.Cond.fieldLinkNest "HomesQueue" (305 : Nat) "HomesQueue$Register" "isOut" "[Z" "HomesQueue") ∈ lw_tbl := lw_at lw_m2 48 rfl
theorem q464 : (Jvm.Cond.fieldLinkNest "HomesQueue" (204 : Nat) "HomesQueue$Register" "lets" "Ljava/util/ArrayList;" "HomesQueue") ∈ lw_tbl := lw_at lw_m2 51 rfl
theorem q466 : (Jvm.Cond.fieldLinkNest "HomesQueue" (229 : Nat) "HomesQueue$Register" "offers" "Ljava/util/ArrayList;" "HomesQueue") ∈ lw_tbl := lw_at lw_m2 53 rfl
theorem q468 : (Jvm.Cond.fieldLinkNest "HomesQueue" (213 : Nat) "HomesQueue$Register" "week" "I" "HomesQueue") ∈ lw_tbl := lw_at lw_m2 55 rfl
theorem q470 : (Jvm.Cond.fieldLinkNest "HomesQueue" (226 : Nat) "HomesQueue$Register" "refused" "I" "HomesQueue") ∈ lw_tbl := lw_at lw_m2 57 rfl
theorem q476 : (Jvm.Cond.fieldLinkNest "HomesQueue" (494 : Nat) "HomesQueue$Register" "plain" "LHomesQueue$Step;" "HomesQueue") ∈ lw_tbl := lw_at lw_m2 63 rfl
theorem q537 : (Jvm.Cond.classLink "HomesQueue" (87 : Nat) "java/lang/String") ∈ lw_all := lw_g (lw_at lw_m2 124 rfl) rfl
theorem q539 : (Jvm.Cond.stringRef "HomesQueue" (89 : Nat) "refuse") ∈ lw_tbl := lw_at lw_m2 126 rfl
theorem q540 : (Jvm.Cond.stringRef "HomesQueue" (91 : Nat) "bar") ∈ lw_tbl := lw_at lw_m2 127 rfl
theorem q541 : (Jvm.Cond.stringRef "HomesQueue" (93 : Nat) "local") ∈ lw_tbl := lw_at lw_m2 128 rfl
theorem q542 : (Jvm.Cond.stringRef "HomesQueue" (95 : Nat) "quota") ∈ lw_tbl := lw_at lw_m2 129 rfl
theorem q543 : (Jvm.Cond.stringRef "HomesQueue" (97 : Nat) "age") ∈ lw_tbl := lw_at lw_m2 130 rfl
theorem q544 : (Jvm.Cond.stringRef "HomesQueue" (99 : Nat) "bids") ∈ lw_tbl := lw_at lw_m2 131 rfl
theorem q545 : (Jvm.Cond.stringRef "HomesQueue" (105 : Nat) "home") ∈ lw_tbl := lw_at lw_m2 132 rfl
theorem q546 : (Jvm.Cond.stringRef "HomesQueue" (107 : Nat) "house") ∈ lw_tbl := lw_at lw_m2 133 rfl
theorem q547 : (Jvm.Cond.stringRef "HomesQueue" (109 : Nat) "rule") ∈ lw_tbl := lw_at lw_m2 134 rfl
theorem q548 : (Jvm.Cond.stringRef "HomesQueue" (111 : Nat) "in") ∈ lw_tbl := lw_at lw_m2 135 rfl
theorem q549 : (Jvm.Cond.classLink "HomesQueue" (120 : Nat) "java/lang/StringBuilder") ∈ lw_all := lw_g (lw_at lw_m2 136 rfl) rfl
theorem q551 : (Jvm.Cond.methodLink "HomesQueue" (122 : Nat) ({ cls := "java/lang/StringBuilder", name := "<init>", desc := "()V" } : Jvm.MethodName)) ∈ lw_all := lw_g (lw_at lw_m2 138 rfl) rfl
theorem q584 : (Jvm.Cond.fieldLink "HomesQueue" (39 : Nat) "HomesQueue" "homes" "Ljava/util/ArrayList;") ∈ lw_all := lw_g (lw_at lw_m2 171 rfl) rfl
theorem q590 : (Jvm.Cond.fieldLink "HomesQueue" (51 : Nat) "HomesQueue" "houses" "Ljava/util/ArrayList;") ∈ lw_all := lw_g (lw_at lw_m2 177 rfl) rfl
theorem q594 : (Jvm.Cond.fieldLink "HomesQueue" (70 : Nat) "HomesQueue" "now" "LHomesQueue$Register;") ∈ lw_all := lw_g (lw_at lw_m2 181 rfl) rfl
theorem q595 : (Jvm.Cond.fieldLink "HomesQueue" (74 : Nat) "HomesQueue" "aside" "LHomesQueue$Register;") ∈ lw_all := lw_g (lw_at lw_m2 182 rfl) rfl
theorem q596 : (Jvm.Cond.fieldLink "HomesQueue" (77 : Nat) "HomesQueue" "past" "Ljava/util/ArrayList;") ∈ lw_all := lw_g (lw_at lw_m2 183 rfl) rfl
theorem q597 : (Jvm.Cond.fieldLink "HomesQueue" (127 : Nat) "HomesQueue" "status" "I") ∈ lw_all := lw_g (lw_at lw_m2 184 rfl) rfl
theorem q598 : (Jvm.Cond.fieldLink "HomesQueue" (80 : Nat) "HomesQueue" "faultKind" "I") ∈ lw_all := lw_g (lw_at lw_m2 185 rfl) rfl
theorem q599 : (Jvm.Cond.fieldLink "HomesQueue" (84 : Nat) "HomesQueue" "faultAt" "I") ∈ lw_all := lw_g (lw_at lw_m2 186 rfl) rfl
theorem q601 : (Jvm.Cond.fieldLink "HomesQueue" (101 : Nat) "HomesQueue" "kindNames" "[Ljava/lang/String;") ∈ lw_all := lw_g (lw_at lw_m2 188 rfl) rfl
theorem q603 : (Jvm.Cond.fieldLink "HomesQueue" (113 : Nat) "HomesQueue" "lineNames" "[Ljava/lang/String;") ∈ lw_all := lw_g (lw_at lw_m2 190 rfl) rfl
theorem q605 : (Jvm.Cond.fieldLink "HomesQueue" (116 : Nat) "HomesQueue" "tape" "[B") ∈ lw_all := lw_g (lw_at lw_m2 192 rfl) rfl
theorem q606 : (Jvm.Cond.fieldLink "HomesQueue" (148 : Nat) "HomesQueue" "taped" "I") ∈ lw_all := lw_g (lw_at lw_m2 193 rfl) rfl
theorem q607 : (Jvm.Cond.fieldLink "HomesQueue" (123 : Nat) "HomesQueue" "out" "Ljava/lang/StringBuilder;") ∈ lw_all := lw_g (lw_at lw_m2 194 rfl) rfl
theorem q608 : (Jvm.Cond.lays "HomesQueue" "HomesQueue" "homes" "Ljava/util/ArrayList;") ∈ lw_all := lw_g (lw_at lw_m2 195 rfl) rfl
theorem q609 : (Jvm.Cond.soleField "HomesQueue" "homes") ∈ lw_all := lw_g (lw_at lw_m2 196 rfl) rfl
theorem q610 : (Jvm.Cond.lays "HomesQueue" "HomesQueue" "houses" "Ljava/util/ArrayList;") ∈ lw_all := lw_g (lw_at lw_m2 197 rfl) rfl
theorem q611 : (Jvm.Cond.soleField "HomesQueue" "houses") ∈ lw_all := lw_g (lw_at lw_m2 198 rfl) rfl
theorem q612 : (Jvm.Cond.lays "HomesQueue" "HomesQueue" "now" "LHomesQueue$Register;") ∈ lw_all := lw_g (lw_at lw_m2 199 rfl) rfl
theorem q613 : (Jvm.Cond.soleField "HomesQueue" "now") ∈ lw_all := lw_g (lw_at lw_m2 200 rfl) rfl
theorem q614 : (Jvm.Cond.laysFinal "HomesQueue" "HomesQueue" "aside" "LHomesQueue$Register;") ∈ lw_all := lw_g (lw_at lw_m2 201 rfl) rfl
theorem q615 : (Jvm.Cond.soleField "HomesQueue" "aside") ∈ lw_all := lw_g (lw_at lw_m2 202 rfl) rfl
theorem q616 : (Jvm.Cond.laysFinal "HomesQueue" "HomesQueue" "past" "Ljava/util/ArrayList;") ∈ lw_all := lw_g (lw_at lw_m2 203 rfl) rfl
theorem q617 : (Jvm.Cond.soleField "HomesQueue" "past") ∈ lw_all := lw_g (lw_at lw_m2 204 rfl) rfl
theorem q618 : (Jvm.Cond.lays "HomesQueue" "HomesQueue" "status" "I") ∈ lw_all := lw_g (lw_at lw_m2 205 rfl) rfl
theorem q619 : (Jvm.Cond.soleField "HomesQueue" "status") ∈ lw_all := lw_g (lw_at lw_m2 206 rfl) rfl
theorem q620 : (Jvm.Cond.lays "HomesQueue" "HomesQueue" "faultKind" "I") ∈ lw_all := lw_g (lw_at lw_m2 207 rfl) rfl
theorem q621 : (Jvm.Cond.soleField "HomesQueue" "faultKind") ∈ lw_all := lw_g (lw_at lw_m2 208 rfl) rfl
theorem q622 : (Jvm.Cond.lays "HomesQueue" "HomesQueue" "faultAt" "I") ∈ lw_all := lw_g (lw_at lw_m2 209 rfl) rfl
theorem q623 : (Jvm.Cond.soleField "HomesQueue" "faultAt") ∈ lw_all := lw_g (lw_at lw_m2 210 rfl) rfl
theorem q624 : (Jvm.Cond.laysFinal "HomesQueue" "HomesQueue" "kindNames" "[Ljava/lang/String;") ∈ lw_all := lw_g (lw_at lw_m2 211 rfl) rfl
theorem q625 : (Jvm.Cond.soleField "HomesQueue" "kindNames") ∈ lw_all := lw_g (lw_at lw_m2 212 rfl) rfl
theorem q626 : (Jvm.Cond.laysFinal "HomesQueue" "HomesQueue" "lineNames" "[Ljava/lang/String;") ∈ lw_all := lw_g (lw_at lw_m2 213 rfl) rfl
theorem q627 : (Jvm.Cond.soleField "HomesQueue" "lineNames") ∈ lw_all := lw_g (lw_at lw_m2 214 rfl) rfl
theorem q628 : (Jvm.Cond.laysFinal "HomesQueue" "HomesQueue" "tape" "[B") ∈ lw_all := lw_g (lw_at lw_m2 215 rfl) rfl
theorem q629 : (Jvm.Cond.soleField "HomesQueue" "tape") ∈ lw_all := lw_g (lw_at lw_m2 216 rfl) rfl
theorem q630 : (Jvm.Cond.lays "HomesQueue" "HomesQueue" "taped" "I") ∈ lw_all := lw_g (lw_at lw_m2 217 rfl) rfl
theorem q631 : (Jvm.Cond.soleField "HomesQueue" "taped") ∈ lw_all := lw_g (lw_at lw_m2 218 rfl) rfl
theorem q632 : (Jvm.Cond.laysFinal "HomesQueue" "HomesQueue" "out" "Ljava/lang/StringBuilder;") ∈ lw_all := lw_g (lw_at lw_m2 219 rfl) rfl
theorem q633 : (Jvm.Cond.soleField "HomesQueue" "out") ∈ lw_all := lw_g (lw_at lw_m2 220 rfl) rfl
theorem q634 : (Jvm.Cond.superclass "HomesQueue" "java/lang/Object") ∈ lw_all := lw_g (lw_at lw_m2 221 rfl) rfl
theorem q636 : (Jvm.Cond.instanceMethod ({ cls := "HomesQueue", name := "status", desc := "()I" } : Jvm.MethodName)) ∈ lw_all := lw_g (lw_at lw_m2 223 rfl) rfl
theorem q637 : (Jvm.Cond.selects "HomesQueue" ({ cls := "HomesQueue", name := "status", desc := "()I" } : Jvm.MethodName) ({ cls := "HomesQueue", name := "status", desc := "()I" } : Jvm.MethodName)) ∈ lw_all := lw_g (lw_at lw_m2 224 rfl) rfl
theorem q638 : (Jvm.Cond.code ({ cls := "HomesQueue", name := "status", desc := "()I" } : Jvm.MethodName) prog_1_method_13_code (1 : Nat) (Option.some Jvm.ClassFile.FieldType.int)) ∈ lw_all := lw_g (lw_at lw_m2 225 rfl) rfl
theorem q640 : (Jvm.Cond.instanceMethod ({ cls := "HomesQueue", name := "feed", desc := "(IIIII)I" } : Jvm.MethodName)) ∈ lw_all := lw_g (lw_at lw_m2 227 rfl) rfl
theorem q641 : (Jvm.Cond.selects "HomesQueue" ({ cls := "HomesQueue", name := "feed", desc := "(IIIII)I" } : Jvm.MethodName) ({ cls := "HomesQueue", name := "feed", desc := "(IIIII)I" } : Jvm.MethodName)) ∈ lw_all := lw_g (lw_at lw_m2 228 rfl) rfl
theorem q642 : (Jvm.Cond.code ({ cls := "HomesQueue", name := "feed", desc := "(IIIII)I" } : Jvm.MethodName) prog_1_method_20_code (6 : Nat) (Option.some Jvm.ClassFile.FieldType.int)) ∈ lw_all := lw_g (lw_at lw_m2 229 rfl) rfl
theorem q643 : (Jvm.Cond.methodLink "HomesQueue" (151 : Nat) ({ cls := "HomesQueue", name := "feeds", desc := "([I)I" } : Jvm.MethodName)) ∈ lw_all := lw_g (lw_at lw_m2 230 rfl) rfl
theorem q644 : (Jvm.Cond.privateMethod ({ cls := "HomesQueue", name := "feeds", desc := "([I)I" } : Jvm.MethodName)) ∈ lw_tbl := lw_at lw_m2 231 rfl
theorem q645 : (Jvm.Cond.instanceMethod ({ cls := "HomesQueue", name := "feeds", desc := "([I)I" } : Jvm.MethodName)) ∈ lw_all := lw_g (lw_at lw_m2 232 rfl) rfl
theorem q646 : (Jvm.Cond.code ({ cls := "HomesQueue", name := "feeds", desc := "([I)I" } : Jvm.MethodName) prog_1_method_21_code (7 : Nat) (Option.some Jvm.ClassFile.FieldType.int)) ∈ lw_all := lw_g (lw_at lw_m2 233 rfl) rfl
theorem q648 : (Jvm.Cond.instanceMethod ({ cls := "HomesQueue", name := "load", desc := "(I)I" } : Jvm.MethodName)) ∈ lw_all := lw_g (lw_at lw_m2 235 rfl) rfl
theorem q649 : (Jvm.Cond.selects "HomesQueue" ({ cls := "HomesQueue", name := "load", desc := "(I)I" } : Jvm.MethodName) ({ cls := "HomesQueue", name := "load", desc := "(I)I" } : Jvm.MethodName)) ∈ lw_all := lw_g (lw_at lw_m2 236 rfl) rfl
theorem q650 : (Jvm.Cond.codeWith ({ cls := "HomesQueue", name := "load", desc := "(I)I" } : Jvm.MethodName) prog_1_method_22_code (4 : Nat) (Option.some Jvm.ClassFile.FieldType.int) [((53 : Nat), (57 : Nat), (60 : Nat), (166 : Nat))]) ∈ lw_all := lw_g (lw_at lw_m2 237 rfl) rfl
theorem q651 : (Jvm.Cond.classLink "HomesQueue" (166 : Nat) "HomesQueue$Wrong") ∈ lw_all := lw_g (lw_at lw_m2 238 rfl) rfl
theorem q652 : (Jvm.Cond.methodLink "HomesQueue" (134 : Nat) ({ cls := "HomesQueue", name := "isIn", desc := "(JJJ)Z" } : Jvm.MethodName)) ∈ lw_all := lw_g (lw_at lw_m2 239 rfl) rfl
theorem q653 : (Jvm.Cond.methodLink "HomesQueue" (155 : Nat) ({ cls := "HomesQueue", name := "can", desc := "(I)Z" } : Jvm.MethodName)) ∈ lw_all := lw_g (lw_at lw_m3 0 rfl) rfl
theorem q654 : (Jvm.Cond.privateMethod ({ cls := "HomesQueue", name := "can", desc := "(I)Z" } : Jvm.MethodName)) ∈ lw_tbl := lw_at lw_m3 1 rfl
theorem q655 : (Jvm.Cond.instanceMethod ({ cls := "HomesQueue", name := "can", desc := "(I)Z" } : Jvm.MethodName)) ∈ lw_all := lw_g (lw_at lw_m3 2 rfl) rfl
theorem q656 : (Jvm.Cond.code ({ cls := "HomesQueue", name := "can", desc := "(I)Z" } : Jvm.MethodName) prog_1_method_14_code (2 : Nat) (Option.some Jvm.ClassFile.FieldType.boolean)) ∈ lw_all := lw_g (lw_at lw_m3 3 rfl) rfl
theorem q657 : (Jvm.Cond.classLink "HomesQueue" (158 : Nat) "HomesQueue$Reader") ∈ lw_all := lw_g (lw_at lw_m3 4 rfl) rfl
theorem q659 : (Jvm.Cond.methodLink "HomesQueue" (160 : Nat) ({ cls := "HomesQueue$Reader", name := "<init>", desc := "(LHomesQueue;I)V" } : Jvm.MethodName)) ∈ lw_all := lw_g (lw_at lw_m3 6 rfl) rfl
theorem q836 : (Jvm.Cond.fieldLinkNest "HomesQueue" (177 : Nat) "HomesQueue$Reader" "newHomes" "Ljava/util/ArrayList;" "HomesQueue") ∈ lw_tbl := lw_at lw_m3 183 rfl
theorem q838 : (Jvm.Cond.fieldLinkNest "HomesQueue" (180 : Nat) "HomesQueue$Reader" "newHouses" "Ljava/util/ArrayList;" "HomesQueue") ∈ lw_tbl := lw_at lw_m3 185 rfl
theorem q840 : (Jvm.Cond.fieldLinkNest "HomesQueue" (183 : Nat) "HomesQueue$Reader" "made" "LHomesQueue$Register;" "HomesQueue") ∈ lw_tbl := lw_at lw_m3 187 rfl
theorem q863 : (Jvm.Cond.methodLink "HomesQueue" (163 : Nat) ({ cls := "HomesQueue$Reader", name := "all", desc := "()V" } : Jvm.MethodName)) ∈ lw_all := lw_g (lw_at lw_m3 210 rfl) rfl
theorem q940 : (Jvm.Cond.fieldLinkNest "HomesQueue" (168 : Nat) "HomesQueue$Wrong" "kind" "I" "HomesQueue") ∈ lw_tbl := lw_at lw_m4 47 rfl
theorem q942 : (Jvm.Cond.fieldLinkNest "HomesQueue" (171 : Nat) "HomesQueue$Wrong" "place" "I" "HomesQueue") ∈ lw_tbl := lw_at lw_m4 49 rfl
theorem q970 : (Jvm.Cond.static ({ cls := "HomesQueue", name := "place", desc := "(Ljava/lang/String;[Ljava/lang/String;)I" } : Jvm.MethodName)) ∈ lw_all := lw_g (lw_at lw_m4 77 rfl) rfl
theorem q971 : (Jvm.Cond.code ({ cls := "HomesQueue", name := "place", desc := "(Ljava/lang/String;[Ljava/lang/String;)I" } : Jvm.MethodName) prog_1_method_19_code (3 : Nat) (Option.some Jvm.ClassFile.FieldType.int)) ∈ lw_all := lw_g (lw_at lw_m4 78 rfl) rfl
theorem q972 : (Jvm.Cond.methodLink "HomesQueue" (144 : Nat) ({ cls := "java/lang/String", name := "equals", desc := "(Ljava/lang/Object;)Z" } : Jvm.MethodName)) ∈ lw_all := lw_g (lw_at lw_m4 79 rfl) rfl
theorem q1064 : (Jvm.Cond.fieldLinkNest "HomesQueue" (596 : Nat) "HomesQueue$Home" "name" "Ljava/lang/String;" "HomesQueue") ∈ lw_tbl := lw_at lw_m4 171 rfl
theorem q1067 : (Jvm.Cond.fieldLinkNest "HomesQueue" (238 : Nat) "HomesQueue$Home" "rooms" "I" "HomesQueue") ∈ lw_tbl := lw_at lw_m4 174 rfl
theorem q1070 : (Jvm.Cond.fieldLinkNest "HomesQueue" (241 : Nat) "HomesQueue$Home" "ward" "I" "HomesQueue") ∈ lw_tbl := lw_at lw_m4 177 rfl
theorem q1103 : (Jvm.Cond.selects "HomesQueue" ({ cls := "java/lang/Object", name := "getClass", desc := "()Ljava/lang/Class;" } : Jvm.MethodName) ({ cls := "java/lang/Object", name := "getClass", desc := "()Ljava/lang/Class;" } : Jvm.MethodName)) ∈ lw_all := lw_g (lw_at lw_m4 210 rfl) rfl
theorem q1151 : (Jvm.Cond.fieldLinkNest "HomesQueue" (579 : Nat) "HomesQueue$House" "name" "Ljava/lang/String;" "HomesQueue") ∈ lw_tbl := lw_at lw_m5 18 rfl
theorem q1164 : (Jvm.Cond.laysStatic "HomesQueue" "LOWS" "[I") ∈ lw_tbl := lw_at lw_m5 31 rfl
theorem q1166 : (Jvm.Cond.laysStatic "HomesQueue" "HIGHS" "[I") ∈ lw_tbl := lw_at lw_m5 33 rfl
theorem q1167 : (Jvm.Cond.methodLink "HomesQueue" (174 : Nat) ({ cls := "HomesQueue", name := "none", desc := "(I)I" } : Jvm.MethodName)) ∈ lw_all := lw_g (lw_at lw_m5 34 rfl) rfl
theorem q1168 : (Jvm.Cond.privateMethod ({ cls := "HomesQueue", name := "none", desc := "(I)I" } : Jvm.MethodName)) ∈ lw_tbl := lw_at lw_m5 35 rfl
theorem q1169 : (Jvm.Cond.instanceMethod ({ cls := "HomesQueue", name := "none", desc := "(I)I" } : Jvm.MethodName)) ∈ lw_all := lw_g (lw_at lw_m5 36 rfl) rfl
theorem q1170 : (Jvm.Cond.code ({ cls := "HomesQueue", name := "none", desc := "(I)I" } : Jvm.MethodName) prog_1_method_15_code (2 : Nat) (Option.some Jvm.ClassFile.FieldType.int)) ∈ lw_all := lw_g (lw_at lw_m5 37 rfl) rfl
theorem q1171 : (Jvm.Cond.methodLink "HomesQueue" (186 : Nat) ({ cls := "java/util/ArrayList", name := "clear", desc := "()V" } : Jvm.MethodName)) ∈ lw_all := lw_g (lw_at lw_m5 38 rfl) rfl
theorem q1175 : (Jvm.Cond.methodLink "HomesQueue" (130 : Nat) ({ cls := "java/util/ArrayList", name := "size", desc := "()I" } : Jvm.MethodName)) ∈ lw_all := lw_g (lw_at lw_m5 42 rfl) rfl
theorem q1177 : (Jvm.Cond.instanceMethod ({ cls := "HomesQueue", name := "fault", desc := "(I)I" } : Jvm.MethodName)) ∈ lw_all := lw_g (lw_at lw_m5 44 rfl) rfl
theorem q1178 : (Jvm.Cond.selects "HomesQueue" ({ cls := "HomesQueue", name := "fault", desc := "(I)I" } : Jvm.MethodName) ({ cls := "HomesQueue", name := "fault", desc := "(I)I" } : Jvm.MethodName)) ∈ lw_all := lw_g (lw_at lw_m5 45 rfl) rfl
theorem q1179 : (Jvm.Cond.code ({ cls := "HomesQueue", name := "fault", desc := "(I)I" } : Jvm.MethodName) prog_1_method_23_code (2 : Nat) (Option.some Jvm.ClassFile.FieldType.int)) ∈ lw_all := lw_g (lw_at lw_m5 46 rfl) rfl
theorem q1181 : (Jvm.Cond.instanceMethod ({ cls := "HomesQueue", name := "many", desc := "(I)I" } : Jvm.MethodName)) ∈ lw_all := lw_g (lw_at lw_m5 48 rfl) rfl
theorem q1182 : (Jvm.Cond.selects "HomesQueue" ({ cls := "HomesQueue", name := "many", desc := "(I)I" } : Jvm.MethodName) ({ cls := "HomesQueue", name := "many", desc := "(I)I" } : Jvm.MethodName)) ∈ lw_all := lw_g (lw_at lw_m5 49 rfl) rfl
theorem q1183 : (Jvm.Cond.code ({ cls := "HomesQueue", name := "many", desc := "(I)I" } : Jvm.MethodName) prog_1_method_28_code (2 : Nat) (Option.some Jvm.ClassFile.FieldType.int)) ∈ lw_all := lw_g (lw_at lw_m5 50 rfl) rfl
theorem q1184 : (Jvm.Cond.constantLong "HomesQueue" (211 : Nat) (9 : Int64)) ∈ lw_all := lw_g (lw_at lw_m5 51 rfl) rfl
theorem q1185 : (Jvm.Cond.privateMethod ({ cls := "HomesQueue", name := "lambda$many$7", desc := "(I)I" } : Jvm.MethodName)) ∈ lw_tbl := lw_at lw_m5 52 rfl
theorem q1186 : (Jvm.Cond.instanceMethod ({ cls := "HomesQueue", name := "lambda$many$7", desc := "(I)I" } : Jvm.MethodName)) ∈ lw_all := lw_g (lw_at lw_m5 53 rfl) rfl
theorem q1187 : (Jvm.Cond.code ({ cls := "HomesQueue", name := "lambda$many$7", desc := "(I)I" } : Jvm.MethodName) prog_1_method_107_code (2 : Nat) (Option.some Jvm.ClassFile.FieldType.int)) ∈ lw_all := lw_g (lw_at lw_m5 54 rfl) rfl
theorem q1188 : (Jvm.Cond.methodLink "HomesQueue" (308 : Nat) ({ cls := "HomesQueue$Register", name := "bidMany", desc := "(I)I" } : Jvm.MethodName)) ∈ lw_all := lw_g (lw_at lw_m5 55 rfl) rfl
theorem q1189 : (Jvm.Cond.methodLink "HomesQueue" (200 : Nat) ({ cls := "HomesQueue", name := "sum", desc := "(ILHomesQueue$Number;)I" } : Jvm.MethodName)) ∈ lw_all := lw_g (lw_at lw_m5 56 rfl) rfl
theorem q1190 : (Jvm.Cond.static ({ cls := "HomesQueue", name := "sum", desc := "(ILHomesQueue$Number;)I" } : Jvm.MethodName)) ∈ lw_all := lw_g (lw_at lw_m5 57 rfl) rfl
theorem q1191 : (Jvm.Cond.code ({ cls := "HomesQueue", name := "sum", desc := "(ILHomesQueue$Number;)I" } : Jvm.MethodName) prog_1_method_4_code (4 : Nat) (Option.some Jvm.ClassFile.FieldType.int)) ∈ lw_all := lw_g (lw_at lw_m5 58 rfl) rfl
theorem q1192 : (Jvm.Cond.methodLink "HomesQueue" (219 : Nat) ({ cls := "HomesQueue", name := "freeHomes", desc := "(LHomesQueue$Register;)I" } : Jvm.MethodName)) ∈ lw_all := lw_g (lw_at lw_m5 59 rfl) rfl
theorem q1193 : (Jvm.Cond.privateMethod ({ cls := "HomesQueue", name := "freeHomes", desc := "(LHomesQueue$Register;)I" } : Jvm.MethodName)) ∈ lw_tbl := lw_at lw_m5 60 rfl
theorem q1194 : (Jvm.Cond.instanceMethod ({ cls := "HomesQueue", name := "freeHomes", desc := "(LHomesQueue$Register;)I" } : Jvm.MethodName)) ∈ lw_all := lw_g (lw_at lw_m5 61 rfl) rfl
theorem q1195 : (Jvm.Cond.code ({ cls := "HomesQueue", name := "freeHomes", desc := "(LHomesQueue$Register;)I" } : Jvm.MethodName) prog_1_method_24_code (2 : Nat) (Option.some Jvm.ClassFile.FieldType.int)) ∈ lw_all := lw_g (lw_at lw_m5 62 rfl) rfl
theorem q1196 : (Jvm.Cond.static ({ cls := "HomesQueue", name := "lambda$freeHomes$3", desc := "(LHomesQueue$Register;I)Z" } : Jvm.MethodName)) ∈ lw_all := lw_g (lw_at lw_m5 63 rfl) rfl
theorem q1197 : (Jvm.Cond.code ({ cls := "HomesQueue", name := "lambda$freeHomes$3", desc := "(LHomesQueue$Register;I)Z" } : Jvm.MethodName) prog_1_method_111_code (2 : Nat) (Option.some Jvm.ClassFile.FieldType.boolean)) ∈ lw_all := lw_g (lw_at lw_m5 64 rfl) rfl
theorem q1198 : (Jvm.Cond.methodLink "HomesQueue" (250 : Nat) ({ cls := "HomesQueue$Register", name := "isFree", desc := "(I)Z" } : Jvm.MethodName)) ∈ lw_all := lw_g (lw_at lw_m5 65 rfl) rfl
theorem q1199 : (Jvm.Cond.methodLink "HomesQueue" (192 : Nat) ({ cls := "HomesQueue", name := "count", desc := "(ILHomesQueue$Check;)I" } : Jvm.MethodName)) ∈ lw_all := lw_g (lw_at lw_m5 66 rfl) rfl
theorem q1200 : (Jvm.Cond.static ({ cls := "HomesQueue", name := "count", desc := "(ILHomesQueue$Check;)I" } : Jvm.MethodName)) ∈ lw_all := lw_g (lw_at lw_m5 67 rfl) rfl
theorem q1201 : (Jvm.Cond.code ({ cls := "HomesQueue", name := "count", desc := "(ILHomesQueue$Check;)I" } : Jvm.MethodName) prog_1_method_3_code (4 : Nat) (Option.some Jvm.ClassFile.FieldType.int)) ∈ lw_all := lw_g (lw_at lw_m5 68 rfl) rfl
theorem q1202 : (Jvm.Cond.methodLink "HomesQueue" (223 : Nat) ({ cls := "HomesQueue", name := "inQueue", desc := "(LHomesQueue$Register;)I" } : Jvm.MethodName)) ∈ lw_all := lw_g (lw_at lw_m5 69 rfl) rfl
theorem q1203 : (Jvm.Cond.privateMethod ({ cls := "HomesQueue", name := "inQueue", desc := "(LHomesQueue$Register;)I" } : Jvm.MethodName)) ∈ lw_tbl := lw_at lw_m5 70 rfl
theorem q1204 : (Jvm.Cond.instanceMethod ({ cls := "HomesQueue", name := "inQueue", desc := "(LHomesQueue$Register;)I" } : Jvm.MethodName)) ∈ lw_all := lw_g (lw_at lw_m5 71 rfl) rfl
theorem q1205 : (Jvm.Cond.code ({ cls := "HomesQueue", name := "inQueue", desc := "(LHomesQueue$Register;)I" } : Jvm.MethodName) prog_1_method_25_code (2 : Nat) (Option.some Jvm.ClassFile.FieldType.int)) ∈ lw_all := lw_g (lw_at lw_m5 72 rfl) rfl
theorem q1206 : (Jvm.Cond.static ({ cls := "HomesQueue", name := "lambda$inQueue$4", desc := "(LHomesQueue$Register;I)Z" } : Jvm.MethodName)) ∈ lw_all := lw_g (lw_at lw_m5 73 rfl) rfl
theorem q1207 : (Jvm.Cond.code ({ cls := "HomesQueue", name := "lambda$inQueue$4", desc := "(LHomesQueue$Register;I)Z" } : Jvm.MethodName) prog_1_method_110_code (2 : Nat) (Option.some Jvm.ClassFile.FieldType.boolean)) ∈ lw_all := lw_g (lw_at lw_m5 74 rfl) rfl
theorem q1209 : (Jvm.Cond.instanceMethod ({ cls := "HomesQueue", name := "home", desc := "(II)I" } : Jvm.MethodName)) ∈ lw_all := lw_g (lw_at lw_m5 76 rfl) rfl
theorem q1210 : (Jvm.Cond.selects "HomesQueue" ({ cls := "HomesQueue", name := "home", desc := "(II)I" } : Jvm.MethodName) ({ cls := "HomesQueue", name := "home", desc := "(II)I" } : Jvm.MethodName)) ∈ lw_all := lw_g (lw_at lw_m5 77 rfl) rfl
theorem q1211 : (Jvm.Cond.code ({ cls := "HomesQueue", name := "home", desc := "(II)I" } : Jvm.MethodName) prog_1_method_30_code (3 : Nat) (Option.some Jvm.ClassFile.FieldType.int)) ∈ lw_all := lw_g (lw_at lw_m5 78 rfl) rfl
theorem q1212 : (Jvm.Cond.constantLong "HomesQueue" (232 : Nat) (7 : Int64)) ∈ lw_all := lw_g (lw_at lw_m5 79 rfl) rfl
theorem q1213 : (Jvm.Cond.methodLink "HomesQueue" (141 : Nat) ({ cls := "HomesQueue", name := "isHome", desc := "(I)Z" } : Jvm.MethodName)) ∈ lw_all := lw_g (lw_at lw_m5 80 rfl) rfl
theorem q1214 : (Jvm.Cond.privateMethod ({ cls := "HomesQueue", name := "isHome", desc := "(I)Z" } : Jvm.MethodName)) ∈ lw_tbl := lw_at lw_m5 81 rfl
theorem q1215 : (Jvm.Cond.instanceMethod ({ cls := "HomesQueue", name := "isHome", desc := "(I)Z" } : Jvm.MethodName)) ∈ lw_all := lw_g (lw_at lw_m5 82 rfl) rfl
theorem q1216 : (Jvm.Cond.code ({ cls := "HomesQueue", name := "isHome", desc := "(I)Z" } : Jvm.MethodName) prog_1_method_16_code (2 : Nat) (Option.some Jvm.ClassFile.FieldType.boolean)) ∈ lw_all := lw_g (lw_at lw_m5 83 rfl) rfl
theorem q1217 : (Jvm.Cond.methodLink "HomesQueue" (234 : Nat) ({ cls := "HomesQueue", name := "homeAt", desc := "(I)LHomesQueue$Home;" } : Jvm.MethodName)) ∈ lw_all := lw_g (lw_at lw_m5 84 rfl) rfl
theorem q1218 : (Jvm.Cond.methodLink "HomesQueue" (244 : Nat) ({ cls := "HomesQueue$Register", name := "whoIn", desc := "(I)I" } : Jvm.MethodName)) ∈ lw_all := lw_g (lw_at lw_m5 85 rfl) rfl
theorem q1219 : (Jvm.Cond.methodLink "HomesQueue" (247 : Nat) ({ cls := "HomesQueue", name := "toldOr", desc := "(I)I" } : Jvm.MethodName)) ∈ lw_all := lw_g (lw_at lw_m5 86 rfl) rfl
theorem q1220 : (Jvm.Cond.privateMethod ({ cls := "HomesQueue", name := "toldOr", desc := "(I)I" } : Jvm.MethodName)) ∈ lw_tbl := lw_at lw_m5 87 rfl
theorem q1221 : (Jvm.Cond.instanceMethod ({ cls := "HomesQueue", name := "toldOr", desc := "(I)I" } : Jvm.MethodName)) ∈ lw_all := lw_g (lw_at lw_m5 88 rfl) rfl
theorem q1222 : (Jvm.Cond.code ({ cls := "HomesQueue", name := "toldOr", desc := "(I)I" } : Jvm.MethodName) prog_1_method_29_code (2 : Nat) (Option.some Jvm.ClassFile.FieldType.int)) ∈ lw_all := lw_g (lw_at lw_m5 89 rfl) rfl
theorem q1223 : (Jvm.Cond.privateMethod ({ cls := "HomesQueue", name := "lambda$home$8", desc := "(II)Z" } : Jvm.MethodName)) ∈ lw_tbl := lw_at lw_m5 90 rfl
theorem q1224 : (Jvm.Cond.instanceMethod ({ cls := "HomesQueue", name := "lambda$home$8", desc := "(II)Z" } : Jvm.MethodName)) ∈ lw_all := lw_g (lw_at lw_m5 91 rfl) rfl
theorem q1225 : (Jvm.Cond.code ({ cls := "HomesQueue", name := "lambda$home$8", desc := "(II)Z" } : Jvm.MethodName) prog_1_method_106_code (3 : Nat) (Option.some Jvm.ClassFile.FieldType.boolean)) ∈ lw_all := lw_g (lw_at lw_m5 92 rfl) rfl
theorem q1226 : (Jvm.Cond.methodLink "HomesQueue" (325 : Nat) ({ cls := "HomesQueue$Register", name := "bidsFor", desc := "(II)Z" } : Jvm.MethodName)) ∈ lw_all := lw_g (lw_at lw_m5 93 rfl) rfl
theorem q1227 : (Jvm.Cond.privateMethod ({ cls := "HomesQueue", name := "lambda$home$9", desc := "(II)Z" } : Jvm.MethodName)) ∈ lw_tbl := lw_at lw_m5 94 rfl
theorem q1228 : (Jvm.Cond.instanceMethod ({ cls := "HomesQueue", name := "lambda$home$9", desc := "(II)Z" } : Jvm.MethodName)) ∈ lw_all := lw_g (lw_at lw_m5 95 rfl) rfl
theorem q1229 : (Jvm.Cond.code ({ cls := "HomesQueue", name := "lambda$home$9", desc := "(II)Z" } : Jvm.MethodName) prog_1_method_105_code (3 : Nat) (Option.some Jvm.ClassFile.FieldType.boolean)) ∈ lw_all := lw_g (lw_at lw_m5 96 rfl) rfl
theorem q1230 : (Jvm.Cond.classLink "HomesQueue" (354 : Nat) "HomesQueue$Let") ∈ lw_all := lw_g (lw_at lw_m5 97 rfl) rfl
theorem q1232 : (Jvm.Cond.instanceMethod ({ cls := "HomesQueue", name := "house", desc := "(II)I" } : Jvm.MethodName)) ∈ lw_all := lw_g (lw_at lw_m5 99 rfl) rfl
theorem q1233 : (Jvm.Cond.selects "HomesQueue" ({ cls := "HomesQueue", name := "house", desc := "(II)I" } : Jvm.MethodName) ({ cls := "HomesQueue", name := "house", desc := "(II)I" } : Jvm.MethodName)) ∈ lw_all := lw_g (lw_at lw_m5 100 rfl) rfl
theorem q1234 : (Jvm.Cond.code ({ cls := "HomesQueue", name := "house", desc := "(II)I" } : Jvm.MethodName) prog_1_method_31_code (5 : Nat) (Option.some Jvm.ClassFile.FieldType.int)) ∈ lw_all := lw_g (lw_at lw_m5 101 rfl) rfl
theorem q1235 : (Jvm.Cond.constantLong "HomesQueue" (265 : Nat) (20 : Int64)) ∈ lw_all := lw_g (lw_at lw_m5 102 rfl) rfl
theorem q1236 : (Jvm.Cond.constantLong "HomesQueue" (267 : Nat) (25 : Int64)) ∈ lw_all := lw_g (lw_at lw_m5 103 rfl) rfl
theorem q1237 : (Jvm.Cond.constantLong "HomesQueue" (269 : Nat) (11 : Int64)) ∈ lw_all := lw_g (lw_at lw_m5 104 rfl) rfl
theorem q1238 : (Jvm.Cond.methodLink "HomesQueue" (138 : Nat) ({ cls := "HomesQueue", name := "isHouse", desc := "(I)Z" } : Jvm.MethodName)) ∈ lw_all := lw_g (lw_at lw_m5 105 rfl) rfl
theorem q1239 : (Jvm.Cond.privateMethod ({ cls := "HomesQueue", name := "isHouse", desc := "(I)Z" } : Jvm.MethodName)) ∈ lw_tbl := lw_at lw_m5 106 rfl
theorem q1240 : (Jvm.Cond.instanceMethod ({ cls := "HomesQueue", name := "isHouse", desc := "(I)Z" } : Jvm.MethodName)) ∈ lw_all := lw_g (lw_at lw_m5 107 rfl) rfl
theorem q1241 : (Jvm.Cond.code ({ cls := "HomesQueue", name := "isHouse", desc := "(I)Z" } : Jvm.MethodName) prog_1_method_17_code (2 : Nat) (Option.some Jvm.ClassFile.FieldType.boolean)) ∈ lw_all := lw_g (lw_at lw_m5 108 rfl) rfl
theorem q1242 : (Jvm.Cond.methodLink "HomesQueue" (274 : Nat) ({ cls := "HomesQueue$Register", name := "wishAt", desc := "(II)I" } : Jvm.MethodName)) ∈ lw_all := lw_g (lw_at lw_m5 109 rfl) rfl
theorem q1243 : (Jvm.Cond.methodLink "HomesQueue" (277 : Nat) ({ cls := "HomesQueue", name := "houseAt", desc := "(I)LHomesQueue$House;" } : Jvm.MethodName)) ∈ lw_all := lw_g (lw_at lw_m5 110 rfl) rfl
theorem q1244 : (Jvm.Cond.methodLink "HomesQueue" (281 : Nat) ({ cls := "HomesQueue$House", name := "band", desc := "()I" } : Jvm.MethodName)) ∈ lw_all := lw_g (lw_at lw_m5 111 rfl) rfl
theorem q1245 : (Jvm.Cond.methodLinkNest "HomesQueue" (284 : Nat) ({ cls := "HomesQueue$Register", name := "bandNow", desc := "(I)I" } : Jvm.MethodName) "HomesQueue") ∈ lw_tbl := lw_at lw_m5 112 rfl
theorem q1246 : (Jvm.Cond.methodLink "HomesQueue" (290 : Nat) ({ cls := "HomesQueue$House", name := "tie", desc := "()I" } : Jvm.MethodName)) ∈ lw_all := lw_g (lw_at lw_m5 113 rfl) rfl
theorem q1247 : (Jvm.Cond.methodLink "HomesQueue" (293 : Nat) ({ cls := "HomesQueue$House", name := "day", desc := "()I" } : Jvm.MethodName)) ∈ lw_all := lw_g (lw_at lw_m5 114 rfl) rfl
theorem q1249 : (Jvm.Cond.instanceMethod ({ cls := "HomesQueue", name := "rule", desc := "(I)I" } : Jvm.MethodName)) ∈ lw_all := lw_g (lw_at lw_m5 116 rfl) rfl
theorem q1250 : (Jvm.Cond.selects "HomesQueue" ({ cls := "HomesQueue", name := "rule", desc := "(I)I" } : Jvm.MethodName) ({ cls := "HomesQueue", name := "rule", desc := "(I)I" } : Jvm.MethodName)) ∈ lw_all := lw_g (lw_at lw_m5 117 rfl) rfl
theorem q1251 : (Jvm.Cond.code ({ cls := "HomesQueue", name := "rule", desc := "(I)I" } : Jvm.MethodName) prog_1_method_32_code (2 : Nat) (Option.some Jvm.ClassFile.FieldType.int)) ∈ lw_all := lw_g (lw_at lw_m5 118 rfl) rfl
theorem q1252 : (Jvm.Cond.constantLong "HomesQueue" (314 : Nat) (5 : Int64)) ∈ lw_all := lw_g (lw_at lw_m5 119 rfl) rfl
theorem q1254 : (Jvm.Cond.instanceMethod ({ cls := "HomesQueue", name := "why", desc := "(II)I" } : Jvm.MethodName)) ∈ lw_all := lw_g (lw_at lw_m5 121 rfl) rfl
theorem q1255 : (Jvm.Cond.selects "HomesQueue" ({ cls := "HomesQueue", name := "why", desc := "(II)I" } : Jvm.MethodName) ({ cls := "HomesQueue", name := "why", desc := "(II)I" } : Jvm.MethodName)) ∈ lw_all := lw_g (lw_at lw_m5 122 rfl) rfl
theorem q1256 : (Jvm.Cond.code ({ cls := "HomesQueue", name := "why", desc := "(II)I" } : Jvm.MethodName) prog_1_method_33_code (3 : Nat) (Option.some Jvm.ClassFile.FieldType.int)) ∈ lw_all := lw_g (lw_at lw_m5 123 rfl) rfl
theorem q1257 : (Jvm.Cond.methodLink "HomesQueue" (319 : Nat) ({ cls := "HomesQueue", name := "whyBoth", desc := "(II)I" } : Jvm.MethodName)) ∈ lw_all := lw_g (lw_at lw_m5 124 rfl) rfl
theorem q1258 : (Jvm.Cond.privateMethod ({ cls := "HomesQueue", name := "whyBoth", desc := "(II)I" } : Jvm.MethodName)) ∈ lw_tbl := lw_at lw_m5 125 rfl
theorem q1259 : (Jvm.Cond.instanceMethod ({ cls := "HomesQueue", name := "whyBoth", desc := "(II)I" } : Jvm.MethodName)) ∈ lw_all := lw_g (lw_at lw_m5 126 rfl) rfl
theorem q1260 : (Jvm.Cond.code ({ cls := "HomesQueue", name := "whyBoth", desc := "(II)I" } : Jvm.MethodName) prog_1_method_18_code (3 : Nat) (Option.some Jvm.ClassFile.FieldType.int)) ∈ lw_all := lw_g (lw_at lw_m5 127 rfl) rfl
theorem q1261 : (Jvm.Cond.methodLink "HomesQueue" (322 : Nat) ({ cls := "HomesQueue$Register", name := "whyNot", desc := "(II)I" } : Jvm.MethodName)) ∈ lw_all := lw_g (lw_at lw_m5 128 rfl) rfl
theorem q1268 : (Jvm.Cond.instanceMethod ({ cls := "HomesQueue", name := "bids", desc := "(II)I" } : Jvm.MethodName)) ∈ lw_all := lw_g (lw_at lw_m5 135 rfl) rfl
theorem q1269 : (Jvm.Cond.selects "HomesQueue" ({ cls := "HomesQueue", name := "bids", desc := "(II)I" } : Jvm.MethodName) ({ cls := "HomesQueue", name := "bids", desc := "(II)I" } : Jvm.MethodName)) ∈ lw_all := lw_g (lw_at lw_m5 136 rfl) rfl
theorem q1270 : (Jvm.Cond.code ({ cls := "HomesQueue", name := "bids", desc := "(II)I" } : Jvm.MethodName) prog_1_method_34_code (3 : Nat) (Option.some Jvm.ClassFile.FieldType.int)) ∈ lw_all := lw_g (lw_at lw_m5 137 rfl) rfl
theorem q1272 : (Jvm.Cond.instanceMethod ({ cls := "HomesQueue", name := "order", desc := "(II)I" } : Jvm.MethodName)) ∈ lw_all := lw_g (lw_at lw_m5 139 rfl) rfl
theorem q1273 : (Jvm.Cond.selects "HomesQueue" ({ cls := "HomesQueue", name := "order", desc := "(II)I" } : Jvm.MethodName) ({ cls := "HomesQueue", name := "order", desc := "(II)I" } : Jvm.MethodName)) ∈ lw_all := lw_g (lw_at lw_m5 140 rfl) rfl
theorem q1274 : (Jvm.Cond.code ({ cls := "HomesQueue", name := "order", desc := "(II)I" } : Jvm.MethodName) prog_1_method_35_code (6 : Nat) (Option.some Jvm.ClassFile.FieldType.int)) ∈ lw_all := lw_g (lw_at lw_m5 141 rfl) rfl
theorem q1275 : (Jvm.Cond.privateMethod ({ cls := "HomesQueue", name := "lambda$order$10", desc := "(I[II)Z" } : Jvm.MethodName)) ∈ lw_tbl := lw_at lw_m5 142 rfl
theorem q1276 : (Jvm.Cond.instanceMethod ({ cls := "HomesQueue", name := "lambda$order$10", desc := "(I[II)Z" } : Jvm.MethodName)) ∈ lw_all := lw_g (lw_at lw_m5 143 rfl) rfl
theorem q1277 : (Jvm.Cond.code ({ cls := "HomesQueue", name := "lambda$order$10", desc := "(I[II)Z" } : Jvm.MethodName) prog_1_method_104_code (4 : Nat) (Option.some Jvm.ClassFile.FieldType.boolean)) ∈ lw_all := lw_g (lw_at lw_m5 144 rfl) rfl
theorem q1278 : (Jvm.Cond.methodLink "HomesQueue" (332 : Nat) ({ cls := "HomesQueue$Register", name := "firstFor", desc := "(ILHomesQueue$Check;)I" } : Jvm.MethodName)) ∈ lw_all := lw_g (lw_at lw_m5 145 rfl) rfl
theorem q1292 : (Jvm.Cond.static ({ cls := "HomesQueue", name := "first", desc := "(ILHomesQueue$Check;LHomesQueue$Step;)I" } : Jvm.MethodName)) ∈ lw_all := lw_g (lw_at lw_m5 159 rfl) rfl
theorem q1293 : (Jvm.Cond.code ({ cls := "HomesQueue", name := "first", desc := "(ILHomesQueue$Check;LHomesQueue$Step;)I" } : Jvm.MethodName) prog_1_method_6_code (5 : Nat) (Option.some Jvm.ClassFile.FieldType.int)) ∈ lw_all := lw_g (lw_at lw_m5 160 rfl) rfl
theorem q1295 : (Jvm.Cond.instanceMethod ({ cls := "HomesQueue", name := "ahead", desc := "(II)I" } : Jvm.MethodName)) ∈ lw_all := lw_g (lw_at lw_m5 162 rfl) rfl
theorem q1296 : (Jvm.Cond.selects "HomesQueue" ({ cls := "HomesQueue", name := "ahead", desc := "(II)I" } : Jvm.MethodName) ({ cls := "HomesQueue", name := "ahead", desc := "(II)I" } : Jvm.MethodName)) ∈ lw_all := lw_g (lw_at lw_m5 163 rfl) rfl
theorem q1297 : (Jvm.Cond.code ({ cls := "HomesQueue", name := "ahead", desc := "(II)I" } : Jvm.MethodName) prog_1_method_37_code (4 : Nat) (Option.some Jvm.ClassFile.FieldType.int)) ∈ lw_all := lw_g (lw_at lw_m5 164 rfl) rfl
theorem q1298 : (Jvm.Cond.methodLink "HomesQueue" (341 : Nat) ({ cls := "HomesQueue", name := "isAsking", desc := "(II)Z" } : Jvm.MethodName)) ∈ lw_all := lw_g (lw_at lw_m5 165 rfl) rfl
theorem q1299 : (Jvm.Cond.privateMethod ({ cls := "HomesQueue", name := "isAsking", desc := "(II)Z" } : Jvm.MethodName)) ∈ lw_tbl := lw_at lw_m5 166 rfl
theorem q1300 : (Jvm.Cond.instanceMethod ({ cls := "HomesQueue", name := "isAsking", desc := "(II)Z" } : Jvm.MethodName)) ∈ lw_all := lw_g (lw_at lw_m5 167 rfl) rfl
theorem q1301 : (Jvm.Cond.code ({ cls := "HomesQueue", name := "isAsking", desc := "(II)Z" } : Jvm.MethodName) prog_1_method_36_code (3 : Nat) (Option.some Jvm.ClassFile.FieldType.boolean)) ∈ lw_all := lw_g (lw_at lw_m5 168 rfl) rfl
theorem q1302 : (Jvm.Cond.methodLink "HomesQueue" (335 : Nat) ({ cls := "HomesQueue$Register", name := "isWaiting", desc := "(I)Z" } : Jvm.MethodName)) ∈ lw_all := lw_g (lw_at lw_m5 169 rfl) rfl
theorem q1306 : (Jvm.Cond.methodLink "HomesQueue" (338 : Nat) ({ cls := "HomesQueue$Register", name := "isFitting", desc := "(II)Z" } : Jvm.MethodName)) ∈ lw_all := lw_g (lw_at lw_m5 173 rfl) rfl
theorem q1307 : (Jvm.Cond.privateMethod ({ cls := "HomesQueue", name := "lambda$ahead$11", desc := "(III)Z" } : Jvm.MethodName)) ∈ lw_tbl := lw_at lw_m5 174 rfl
theorem q1308 : (Jvm.Cond.instanceMethod ({ cls := "HomesQueue", name := "lambda$ahead$11", desc := "(III)Z" } : Jvm.MethodName)) ∈ lw_all := lw_g (lw_at lw_m5 175 rfl) rfl
theorem q1309 : (Jvm.Cond.code ({ cls := "HomesQueue", name := "lambda$ahead$11", desc := "(III)Z" } : Jvm.MethodName) prog_1_method_103_code (4 : Nat) (Option.some Jvm.ClassFile.FieldType.boolean)) ∈ lw_all := lw_g (lw_at lw_m5 176 rfl) rfl
theorem q1310 : (Jvm.Cond.methodLink "HomesQueue" (628 : Nat) ({ cls := "HomesQueue$Register", name := "compare", desc := "(III)I" } : Jvm.MethodName)) ∈ lw_all := lw_g (lw_at lw_m5 177 rfl) rfl
theorem q1312 : (Jvm.Cond.instanceMethod ({ cls := "HomesQueue", name := "turn", desc := "(II)I" } : Jvm.MethodName)) ∈ lw_all := lw_g (lw_at lw_m5 179 rfl) rfl
theorem q1313 : (Jvm.Cond.selects "HomesQueue" ({ cls := "HomesQueue", name := "turn", desc := "(II)I" } : Jvm.MethodName) ({ cls := "HomesQueue", name := "turn", desc := "(II)I" } : Jvm.MethodName)) ∈ lw_all := lw_g (lw_at lw_m5 180 rfl) rfl
theorem q1314 : (Jvm.Cond.code ({ cls := "HomesQueue", name := "turn", desc := "(II)I" } : Jvm.MethodName) prog_1_method_38_code (3 : Nat) (Option.some Jvm.ClassFile.FieldType.int)) ∈ lw_all := lw_g (lw_at lw_m5 181 rfl) rfl
theorem q1315 : (Jvm.Cond.methodLink "HomesQueue" (347 : Nat) ({ cls := "HomesQueue$Register", name := "isLocalTurn", desc := "(I)Z" } : Jvm.MethodName)) ∈ lw_all := lw_g (lw_at lw_m5 182 rfl) rfl
theorem q1316 : (Jvm.Cond.methodLink "HomesQueue" (350 : Nat) ({ cls := "HomesQueue$Register", name := "isQuotaTurn", desc := "()Z" } : Jvm.MethodName)) ∈ lw_all := lw_g (lw_at lw_m5 183 rfl) rfl
theorem q1318 : (Jvm.Cond.instanceMethod ({ cls := "HomesQueue", name := "let", desc := "(II)I" } : Jvm.MethodName)) ∈ lw_all := lw_g (lw_at lw_m5 185 rfl) rfl
theorem q1319 : (Jvm.Cond.selects "HomesQueue" ({ cls := "HomesQueue", name := "let", desc := "(II)I" } : Jvm.MethodName) ({ cls := "HomesQueue", name := "let", desc := "(II)I" } : Jvm.MethodName)) ∈ lw_all := lw_g (lw_at lw_m5 186 rfl) rfl
theorem q1320 : (Jvm.Cond.code ({ cls := "HomesQueue", name := "let", desc := "(II)I" } : Jvm.MethodName) prog_1_method_39_code (4 : Nat) (Option.some Jvm.ClassFile.FieldType.int)) ∈ lw_all := lw_g (lw_at lw_m5 187 rfl) rfl
theorem q1322 : (Jvm.Cond.instanceMethod ({ cls := "HomesQueue", name := "offer", desc := "(II)I" } : Jvm.MethodName)) ∈ lw_all := lw_g (lw_at lw_m5 189 rfl) rfl
theorem q1323 : (Jvm.Cond.selects "HomesQueue" ({ cls := "HomesQueue", name := "offer", desc := "(II)I" } : Jvm.MethodName) ({ cls := "HomesQueue", name := "offer", desc := "(II)I" } : Jvm.MethodName)) ∈ lw_all := lw_g (lw_at lw_m5 190 rfl) rfl
theorem q1324 : (Jvm.Cond.code ({ cls := "HomesQueue", name := "offer", desc := "(II)I" } : Jvm.MethodName) prog_1_method_40_code (3 : Nat) (Option.some Jvm.ClassFile.FieldType.int)) ∈ lw_all := lw_g (lw_at lw_m5 191 rfl) rfl
theorem q1325 : (Jvm.Cond.constantLong "HomesQueue" (374 : Nat) (2 : Int64)) ∈ lw_all := lw_g (lw_at lw_m5 192 rfl) rfl
theorem q1326 : (Jvm.Cond.classLink "HomesQueue" (376 : Nat) "[I") ∈ lw_all := lw_g (lw_at lw_m5 193 rfl) rfl
theorem q1328 : (Jvm.Cond.instanceMethod ({ cls := "HomesQueue", name := "tally", desc := "(I)I" } : Jvm.MethodName)) ∈ lw_all := lw_g (lw_at lw_m5 195 rfl) rfl
theorem q1329 : (Jvm.Cond.selects "HomesQueue" ({ cls := "HomesQueue", name := "tally", desc := "(I)I" } : Jvm.MethodName) ({ cls := "HomesQueue", name := "tally", desc := "(I)I" } : Jvm.MethodName)) ∈ lw_all := lw_g (lw_at lw_m5 196 rfl) rfl
theorem q1330 : (Jvm.Cond.code ({ cls := "HomesQueue", name := "tally", desc := "(I)I" } : Jvm.MethodName) prog_1_method_41_code (3 : Nat) (Option.some Jvm.ClassFile.FieldType.int)) ∈ lw_all := lw_g (lw_at lw_m5 197 rfl) rfl
theorem q1331 : (Jvm.Cond.constantLong "HomesQueue" (377 : Nat) (4 : Int64)) ∈ lw_all := lw_g (lw_at lw_m5 198 rfl) rfl
theorem q1332 : (Jvm.Cond.methodLink "HomesQueue" (379 : Nat) ({ cls := "HomesQueue", name := "greatestChain", desc := "(LHomesQueue$Register;)I" } : Jvm.MethodName)) ∈ lw_all := lw_g (lw_at lw_m5 199 rfl) rfl
theorem q1333 : (Jvm.Cond.privateMethod ({ cls := "HomesQueue", name := "greatestChain", desc := "(LHomesQueue$Register;)I" } : Jvm.MethodName)) ∈ lw_tbl := lw_at lw_m5 200 rfl
theorem q1334 : (Jvm.Cond.instanceMethod ({ cls := "HomesQueue", name := "greatestChain", desc := "(LHomesQueue$Register;)I" } : Jvm.MethodName)) ∈ lw_all := lw_g (lw_at lw_m5 201 rfl) rfl
theorem q1335 : (Jvm.Cond.code ({ cls := "HomesQueue", name := "greatestChain", desc := "(LHomesQueue$Register;)I" } : Jvm.MethodName) prog_1_method_27_code (2 : Nat) (Option.some Jvm.ClassFile.FieldType.int)) ∈ lw_all := lw_g (lw_at lw_m5 202 rfl) rfl
theorem q1336 : (Jvm.Cond.static ({ cls := "HomesQueue", name := "lambda$greatestChain$6", desc := "(LHomesQueue$Register;I)I" } : Jvm.MethodName)) ∈ lw_all := lw_g (lw_at lw_m5 203 rfl) rfl
theorem q1337 : (Jvm.Cond.code ({ cls := "HomesQueue", name := "lambda$greatestChain$6", desc := "(LHomesQueue$Register;I)I" } : Jvm.MethodName) prog_1_method_108_code (2 : Nat) (Option.some Jvm.ClassFile.FieldType.int)) ∈ lw_all := lw_g (lw_at lw_m5 204 rfl) rfl
theorem q1338 : (Jvm.Cond.methodLink "HomesQueue" (634 : Nat) ({ cls := "HomesQueue$Register", name := "chainOf", desc := "(I)I" } : Jvm.MethodName)) ∈ lw_all := lw_g (lw_at lw_m5 205 rfl) rfl
theorem q1342 : (Jvm.Cond.methodLink "HomesQueue" (208 : Nat) ({ cls := "HomesQueue", name := "greatest", desc := "(ILHomesQueue$Number;)I" } : Jvm.MethodName)) ∈ lw_all := lw_g (lw_at lw_m5 209 rfl) rfl
theorem q1343 : (Jvm.Cond.static ({ cls := "HomesQueue", name := "greatest", desc := "(ILHomesQueue$Number;)I" } : Jvm.MethodName)) ∈ lw_all := lw_g (lw_at lw_m5 210 rfl) rfl
theorem q1344 : (Jvm.Cond.code ({ cls := "HomesQueue", name := "greatest", desc := "(ILHomesQueue$Number;)I" } : Jvm.MethodName) prog_1_method_5_code (4 : Nat) (Option.some Jvm.ClassFile.FieldType.int)) ∈ lw_all := lw_g (lw_at lw_m5 211 rfl) rfl
theorem q1345 : (Jvm.Cond.methodLink "HomesQueue" (19 : Nat) ({ cls := "java/lang/Math", name := "max", desc := "(II)I" } : Jvm.MethodName)) ∈ lw_all := lw_g (lw_at lw_m5 212 rfl) rfl
theorem q1346 : (Jvm.Cond.static ({ cls := "HomesQueue", name := "lambda$tally$12", desc := "(Ljava/util/ArrayList;I)Z" } : Jvm.MethodName)) ∈ lw_all := lw_g (lw_at lw_m5 213 rfl) rfl
theorem q1347 : (Jvm.Cond.code ({ cls := "HomesQueue", name := "lambda$tally$12", desc := "(Ljava/util/ArrayList;I)Z" } : Jvm.MethodName) prog_1_method_102_code (2 : Nat) (Option.some Jvm.ClassFile.FieldType.boolean)) ∈ lw_all := lw_g (lw_at lw_m5 214 rfl) rfl
theorem q1348 : (Jvm.Cond.methodLink "HomesQueue" (385 : Nat) ({ cls := "HomesQueue$Register", name := "movedMany", desc := "()I" } : Jvm.MethodName)) ∈ lw_all := lw_g (lw_at lw_m5 215 rfl) rfl
theorem q1349 : (Jvm.Cond.static ({ cls := "HomesQueue", name := "lambda$tally$13", desc := "(Ljava/util/ArrayList;I)Z" } : Jvm.MethodName)) ∈ lw_all := lw_g (lw_at lw_m5 216 rfl) rfl
theorem q1350 : (Jvm.Cond.code ({ cls := "HomesQueue", name := "lambda$tally$13", desc := "(Ljava/util/ArrayList;I)Z" } : Jvm.MethodName) prog_1_method_101_code (2 : Nat) (Option.some Jvm.ClassFile.FieldType.boolean)) ∈ lw_all := lw_g (lw_at lw_m5 217 rfl) rfl
theorem q1351 : (Jvm.Cond.methodLink "HomesQueue" (389 : Nat) ({ cls := "HomesQueue", name := "passedBy", desc := "(LHomesQueue$Register;)I" } : Jvm.MethodName)) ∈ lw_all := lw_g (lw_at lw_m5 218 rfl) rfl
theorem q1352 : (Jvm.Cond.privateMethod ({ cls := "HomesQueue", name := "passedBy", desc := "(LHomesQueue$Register;)I" } : Jvm.MethodName)) ∈ lw_tbl := lw_at lw_m5 219 rfl
theorem q1353 : (Jvm.Cond.instanceMethod ({ cls := "HomesQueue", name := "passedBy", desc := "(LHomesQueue$Register;)I" } : Jvm.MethodName)) ∈ lw_all := lw_g (lw_at lw_m5 220 rfl) rfl
theorem q1354 : (Jvm.Cond.code ({ cls := "HomesQueue", name := "passedBy", desc := "(LHomesQueue$Register;)I" } : Jvm.MethodName) prog_1_method_26_code (2 : Nat) (Option.some Jvm.ClassFile.FieldType.int)) ∈ lw_all := lw_g (lw_at lw_m5 221 rfl) rfl
theorem q1355 : (Jvm.Cond.static ({ cls := "HomesQueue", name := "lambda$passedBy$5", desc := "(LHomesQueue$Register;I)I" } : Jvm.MethodName)) ∈ lw_all := lw_g (lw_at lw_m5 222 rfl) rfl
theorem q1356 : (Jvm.Cond.code ({ cls := "HomesQueue", name := "lambda$passedBy$5", desc := "(LHomesQueue$Register;I)I" } : Jvm.MethodName) prog_1_method_109_code (2 : Nat) (Option.some Jvm.ClassFile.FieldType.int)) ∈ lw_all := lw_g (lw_at lw_m5 223 rfl) rfl
theorem q1358 : (Jvm.Cond.instanceMethod ({ cls := "HomesQueue", name := "lack", desc := "(I)I" } : Jvm.MethodName)) ∈ lw_all := lw_g (lw_at lw_m5 225 rfl) rfl
theorem q1359 : (Jvm.Cond.selects "HomesQueue" ({ cls := "HomesQueue", name := "lack", desc := "(I)I" } : Jvm.MethodName) ({ cls := "HomesQueue", name := "lack", desc := "(I)I" } : Jvm.MethodName)) ∈ lw_all := lw_g (lw_at lw_m5 226 rfl) rfl
theorem q1360 : (Jvm.Cond.code ({ cls := "HomesQueue", name := "lack", desc := "(I)I" } : Jvm.MethodName) prog_1_method_42_code (2 : Nat) (Option.some Jvm.ClassFile.FieldType.int)) ∈ lw_all := lw_g (lw_at lw_m5 227 rfl) rfl
theorem q1361 : (Jvm.Cond.privateMethod ({ cls := "HomesQueue", name := "lambda$lack$14", desc := "(II)Z" } : Jvm.MethodName)) ∈ lw_tbl := lw_at lw_m5 228 rfl
theorem q1362 : (Jvm.Cond.instanceMethod ({ cls := "HomesQueue", name := "lambda$lack$14", desc := "(II)Z" } : Jvm.MethodName)) ∈ lw_all := lw_g (lw_at lw_m5 229 rfl) rfl
theorem q1363 : (Jvm.Cond.code ({ cls := "HomesQueue", name := "lambda$lack$14", desc := "(II)Z" } : Jvm.MethodName) prog_1_method_100_code (3 : Nat) (Option.some Jvm.ClassFile.FieldType.boolean)) ∈ lw_all := lw_g (lw_at lw_m5 230 rfl) rfl
theorem q1364 : (Jvm.Cond.privateMethod ({ cls := "HomesQueue", name := "lambda$lack$15", desc := "(II)Z" } : Jvm.MethodName)) ∈ lw_tbl := lw_at lw_m5 231 rfl
theorem q1365 : (Jvm.Cond.instanceMethod ({ cls := "HomesQueue", name := "lambda$lack$15", desc := "(II)Z" } : Jvm.MethodName)) ∈ lw_all := lw_g (lw_at lw_m5 232 rfl) rfl
theorem q1366 : (Jvm.Cond.code ({ cls := "HomesQueue", name := "lambda$lack$15", desc := "(II)Z" } : Jvm.MethodName) prog_1_method_99_code (3 : Nat) (Option.some Jvm.ClassFile.FieldType.boolean)) ∈ lw_all := lw_g (lw_at lw_m5 233 rfl) rfl
theorem q1368 : (Jvm.Cond.instanceMethod ({ cls := "HomesQueue", name := "weeks", desc := "(II)I" } : Jvm.MethodName)) ∈ lw_all := lw_g (lw_at lw_m5 235 rfl) rfl
theorem q1369 : (Jvm.Cond.selects "HomesQueue" ({ cls := "HomesQueue", name := "weeks", desc := "(II)I" } : Jvm.MethodName) ({ cls := "HomesQueue", name := "weeks", desc := "(II)I" } : Jvm.MethodName)) ∈ lw_all := lw_g (lw_at lw_m5 236 rfl) rfl
theorem q1370 : (Jvm.Cond.code ({ cls := "HomesQueue", name := "weeks", desc := "(II)I" } : Jvm.MethodName) prog_1_method_43_code (3 : Nat) (Option.some Jvm.ClassFile.FieldType.int)) ∈ lw_all := lw_g (lw_at lw_m5 237 rfl) rfl
theorem q1371 : (Jvm.Cond.constantLong "HomesQueue" (394 : Nat) (30 : Int64)) ∈ lw_all := lw_g (lw_at lw_m5 238 rfl) rfl
theorem q1372 : (Jvm.Cond.methodLink "HomesQueue" (396 : Nat) ({ cls := "HomesQueue$Register", name := "become", desc := "(LHomesQueue$Register;)V" } : Jvm.MethodName)) ∈ lw_all := lw_g (lw_at lw_m5 239 rfl) rfl
theorem q1398 : (Jvm.Cond.methodLink "HomesQueue" (400 : Nat) ({ cls := "HomesQueue$Register", name := "goes", desc := "(I)V" } : Jvm.MethodName)) ∈ lw_all := lw_g (lw_at lw_m6 25 rfl) rfl
theorem q1448 : (Jvm.Cond.fieldLinkNest "HomesQueue" (356 : Nat) "HomesQueue$Let" "house" "I" "HomesQueue") ∈ lw_tbl := lw_at lw_m6 75 rfl
theorem q1451 : (Jvm.Cond.fieldLinkNest "HomesQueue" (358 : Nat) "HomesQueue$Let" "home" "I" "HomesQueue") ∈ lw_tbl := lw_at lw_m6 78 rfl
theorem q1453 : (Jvm.Cond.fieldLinkNest "HomesQueue" (360 : Nat) "HomesQueue$Let" "week" "I" "HomesQueue") ∈ lw_tbl := lw_at lw_m6 80 rfl
theorem q1456 : (Jvm.Cond.fieldLinkNest "HomesQueue" (361 : Nat) "HomesQueue$Let" "chain" "I" "HomesQueue") ∈ lw_tbl := lw_at lw_m6 83 rfl
theorem q1458 : (Jvm.Cond.fieldLinkNest "HomesQueue" (369 : Nat) "HomesQueue$Let" "offer" "I" "HomesQueue") ∈ lw_tbl := lw_at lw_m6 85 rfl
theorem q1460 : (Jvm.Cond.fieldLinkNest "HomesQueue" (372 : Nat) "HomesQueue$Let" "band" "I" "HomesQueue") ∈ lw_tbl := lw_at lw_m6 87 rfl
theorem q1462 : (Jvm.Cond.fieldLinkNest "HomesQueue" (364 : Nat) "HomesQueue$Let" "local" "Z" "HomesQueue") ∈ lw_tbl := lw_at lw_m6 89 rfl
theorem q1464 : (Jvm.Cond.fieldLinkNest "HomesQueue" (367 : Nat) "HomesQueue$Let" "quota" "Z" "HomesQueue") ∈ lw_tbl := lw_at lw_m6 91 rfl
theorem q1468 : (Jvm.Cond.fieldLinkNest "HomesQueue" (631 : Nat) "HomesQueue$Let" "tied" "Z" "HomesQueue") ∈ lw_tbl := lw_at lw_m6 95 rfl
theorem q1499 : (Jvm.Cond.instanceMethod ({ cls := "HomesQueue", name := "when", desc := "(IIZ)I" } : Jvm.MethodName)) ∈ lw_all := lw_g (lw_at lw_m6 126 rfl) rfl
theorem q1500 : (Jvm.Cond.selects "HomesQueue" ({ cls := "HomesQueue", name := "when", desc := "(IIZ)I" } : Jvm.MethodName) ({ cls := "HomesQueue", name := "when", desc := "(IIZ)I" } : Jvm.MethodName)) ∈ lw_all := lw_g (lw_at lw_m6 127 rfl) rfl
theorem q1501 : (Jvm.Cond.code ({ cls := "HomesQueue", name := "when", desc := "(IIZ)I" } : Jvm.MethodName) prog_1_method_44_code (6 : Nat) (Option.some Jvm.ClassFile.FieldType.int)) ∈ lw_all := lw_g (lw_at lw_m6 128 rfl) rfl
theorem q1502 : (Jvm.Cond.methodLink "HomesQueue" (403 : Nat) ({ cls := "java/util/ArrayList", name := "iterator", desc := "()Ljava/util/Iterator;" } : Jvm.MethodName)) ∈ lw_all := lw_g (lw_at lw_m6 129 rfl) rfl
theorem q1503 : (Jvm.Cond.interfaceEntry "HomesQueue" (407 : Nat)) ∈ lw_tbl := lw_at lw_m6 130 rfl
theorem q1504 : (Jvm.Cond.methodLink "HomesQueue" (407 : Nat) ({ cls := "java/util/Iterator", name := "hasNext", desc := "()Z" } : Jvm.MethodName)) ∈ lw_all := lw_g (lw_at lw_m6 131 rfl) rfl
theorem q1505 : (Jvm.Cond.interfaceEntry "HomesQueue" (412 : Nat)) ∈ lw_tbl := lw_at lw_m6 132 rfl
theorem q1506 : (Jvm.Cond.methodLink "HomesQueue" (412 : Nat) ({ cls := "java/util/Iterator", name := "next", desc := "()Ljava/lang/Object;" } : Jvm.MethodName)) ∈ lw_all := lw_g (lw_at lw_m6 133 rfl) rfl
theorem q1508 : (Jvm.Cond.instanceMethod ({ cls := "HomesQueue", name := "tip", desc := "(I)I" } : Jvm.MethodName)) ∈ lw_all := lw_g (lw_at lw_m6 135 rfl) rfl
theorem q1509 : (Jvm.Cond.selects "HomesQueue" ({ cls := "HomesQueue", name := "tip", desc := "(I)I" } : Jvm.MethodName) ({ cls := "HomesQueue", name := "tip", desc := "(I)I" } : Jvm.MethodName)) ∈ lw_all := lw_g (lw_at lw_m6 136 rfl) rfl
theorem q1510 : (Jvm.Cond.code ({ cls := "HomesQueue", name := "tip", desc := "(I)I" } : Jvm.MethodName) prog_1_method_47_code (3 : Nat) (Option.some Jvm.ClassFile.FieldType.int)) ∈ lw_all := lw_g (lw_at lw_m6 137 rfl) rfl
theorem q1511 : (Jvm.Cond.privateMethod ({ cls := "HomesQueue", name := "lambda$tip$17", desc := "(II)Z" } : Jvm.MethodName)) ∈ lw_tbl := lw_at lw_m6 138 rfl
theorem q1512 : (Jvm.Cond.instanceMethod ({ cls := "HomesQueue", name := "lambda$tip$17", desc := "(II)Z" } : Jvm.MethodName)) ∈ lw_all := lw_g (lw_at lw_m6 139 rfl) rfl
theorem q1513 : (Jvm.Cond.code ({ cls := "HomesQueue", name := "lambda$tip$17", desc := "(II)Z" } : Jvm.MethodName) prog_1_method_97_code (3 : Nat) (Option.some Jvm.ClassFile.FieldType.boolean)) ∈ lw_all := lw_g (lw_at lw_m6 140 rfl) rfl
theorem q1514 : (Jvm.Cond.methodLink "HomesQueue" (439 : Nat) ({ cls := "HomesQueue$Register", name := "couldHave", desc := "(II)Z" } : Jvm.MethodName)) ∈ lw_all := lw_g (lw_at lw_m6 141 rfl) rfl
theorem q1518 : (Jvm.Cond.classLink "HomesQueue" (26 : Nat) "HomesQueue$Step") ∈ lw_all := lw_g (lw_at lw_m6 145 rfl) rfl
theorem q1519 : (Jvm.Cond.privateMethod ({ cls := "HomesQueue", name := "lambda$tip$18", desc := "(II)I" } : Jvm.MethodName)) ∈ lw_tbl := lw_at lw_m6 146 rfl
theorem q1520 : (Jvm.Cond.instanceMethod ({ cls := "HomesQueue", name := "lambda$tip$18", desc := "(II)I" } : Jvm.MethodName)) ∈ lw_all := lw_g (lw_at lw_m6 147 rfl) rfl
theorem q1521 : (Jvm.Cond.code ({ cls := "HomesQueue", name := "lambda$tip$18", desc := "(II)I" } : Jvm.MethodName) prog_1_method_96_code (3 : Nat) (Option.some Jvm.ClassFile.FieldType.int)) ∈ lw_all := lw_g (lw_at lw_m6 148 rfl) rfl
theorem q1522 : (Jvm.Cond.methodLink "HomesQueue" (625 : Nat) ({ cls := "HomesQueue", name := "aheadOf", desc := "(II)I" } : Jvm.MethodName)) ∈ lw_all := lw_g (lw_at lw_m6 149 rfl) rfl
theorem q1523 : (Jvm.Cond.privateMethod ({ cls := "HomesQueue", name := "aheadOf", desc := "(II)I" } : Jvm.MethodName)) ∈ lw_tbl := lw_at lw_m6 150 rfl
theorem q1524 : (Jvm.Cond.instanceMethod ({ cls := "HomesQueue", name := "aheadOf", desc := "(II)I" } : Jvm.MethodName)) ∈ lw_all := lw_g (lw_at lw_m6 151 rfl) rfl
theorem q1525 : (Jvm.Cond.code ({ cls := "HomesQueue", name := "aheadOf", desc := "(II)I" } : Jvm.MethodName) prog_1_method_45_code (3 : Nat) (Option.some Jvm.ClassFile.FieldType.int)) ∈ lw_all := lw_g (lw_at lw_m6 152 rfl) rfl
theorem q1526 : (Jvm.Cond.privateMethod ({ cls := "HomesQueue", name := "lambda$aheadOf$16", desc := "(III)Z" } : Jvm.MethodName)) ∈ lw_tbl := lw_at lw_m6 153 rfl
theorem q1527 : (Jvm.Cond.instanceMethod ({ cls := "HomesQueue", name := "lambda$aheadOf$16", desc := "(III)Z" } : Jvm.MethodName)) ∈ lw_all := lw_g (lw_at lw_m6 154 rfl) rfl
theorem q1528 : (Jvm.Cond.code ({ cls := "HomesQueue", name := "lambda$aheadOf$16", desc := "(III)Z" } : Jvm.MethodName) prog_1_method_98_code (4 : Nat) (Option.some Jvm.ClassFile.FieldType.boolean)) ∈ lw_all := lw_g (lw_at lw_m6 155 rfl) rfl
theorem q1529 : (Jvm.Cond.methodLink "HomesQueue" (421 : Nat) ({ cls := "HomesQueue", name := "rising", desc := "(LHomesQueue$Number;)LHomesQueue$Step;" } : Jvm.MethodName)) ∈ lw_all := lw_g (lw_at lw_m6 156 rfl) rfl
theorem q1530 : (Jvm.Cond.privateMethod ({ cls := "HomesQueue", name := "lambda$tip$19", desc := "(II)I" } : Jvm.MethodName)) ∈ lw_tbl := lw_at lw_m6 157 rfl
theorem q1531 : (Jvm.Cond.instanceMethod ({ cls := "HomesQueue", name := "lambda$tip$19", desc := "(II)I" } : Jvm.MethodName)) ∈ lw_all := lw_g (lw_at lw_m6 158 rfl) rfl
theorem q1532 : (Jvm.Cond.code ({ cls := "HomesQueue", name := "lambda$tip$19", desc := "(II)I" } : Jvm.MethodName) prog_1_method_95_code (3 : Nat) (Option.some Jvm.ClassFile.FieldType.int)) ∈ lw_all := lw_g (lw_at lw_m6 159 rfl) rfl
theorem q1533 : (Jvm.Cond.methodLink "HomesQueue" (472 : Nat) ({ cls := "HomesQueue", name := "dearness", desc := "(II)I" } : Jvm.MethodName)) ∈ lw_all := lw_g (lw_at lw_m6 160 rfl) rfl
theorem q1534 : (Jvm.Cond.privateMethod ({ cls := "HomesQueue", name := "dearness", desc := "(II)I" } : Jvm.MethodName)) ∈ lw_tbl := lw_at lw_m6 161 rfl
theorem q1535 : (Jvm.Cond.instanceMethod ({ cls := "HomesQueue", name := "dearness", desc := "(II)I" } : Jvm.MethodName)) ∈ lw_all := lw_g (lw_at lw_m6 162 rfl) rfl
theorem q1536 : (Jvm.Cond.code ({ cls := "HomesQueue", name := "dearness", desc := "(II)I" } : Jvm.MethodName) prog_1_method_46_code (4 : Nat) (Option.some Jvm.ClassFile.FieldType.int)) ∈ lw_all := lw_g (lw_at lw_m6 163 rfl) rfl
theorem q1537 : (Jvm.Cond.methodLink "HomesQueue" (425 : Nat) ({ cls := "HomesQueue", name := "inTurn", desc := "([LHomesQueue$Step;)LHomesQueue$Step;" } : Jvm.MethodName)) ∈ lw_all := lw_g (lw_at lw_m6 164 rfl) rfl
theorem q1538 : (Jvm.Cond.methodLink "HomesQueue" (428 : Nat) ({ cls := "HomesQueue", name := "first", desc := "(ILHomesQueue$Check;LHomesQueue$Step;)I" } : Jvm.MethodName)) ∈ lw_all := lw_g (lw_at lw_m6 165 rfl) rfl
theorem q1540 : (Jvm.Cond.instanceMethod ({ cls := "HomesQueue", name := "would", desc := "(II)I" } : Jvm.MethodName)) ∈ lw_all := lw_g (lw_at lw_m6 167 rfl) rfl
theorem q1541 : (Jvm.Cond.selects "HomesQueue" ({ cls := "HomesQueue", name := "would", desc := "(II)I" } : Jvm.MethodName) ({ cls := "HomesQueue", name := "would", desc := "(II)I" } : Jvm.MethodName)) ∈ lw_all := lw_g (lw_at lw_m6 168 rfl) rfl
theorem q1542 : (Jvm.Cond.code ({ cls := "HomesQueue", name := "would", desc := "(II)I" } : Jvm.MethodName) prog_1_method_48_code (6 : Nat) (Option.some Jvm.ClassFile.FieldType.int)) ∈ lw_all := lw_g (lw_at lw_m6 169 rfl) rfl
theorem q1543 : (Jvm.Cond.methodLink "HomesQueue" (435 : Nat) ({ cls := "HomesQueue$Register", name := "ends", desc := "()I" } : Jvm.MethodName)) ∈ lw_all := lw_g (lw_at lw_m6 170 rfl) rfl
theorem q1545 : (Jvm.Cond.instanceMethod ({ cls := "HomesQueue", name := "top", desc := "(I)I" } : Jvm.MethodName)) ∈ lw_all := lw_g (lw_at lw_m6 172 rfl) rfl
theorem q1546 : (Jvm.Cond.selects "HomesQueue" ({ cls := "HomesQueue", name := "top", desc := "(I)I" } : Jvm.MethodName) ({ cls := "HomesQueue", name := "top", desc := "(I)I" } : Jvm.MethodName)) ∈ lw_all := lw_g (lw_at lw_m6 173 rfl) rfl
theorem q1547 : (Jvm.Cond.code ({ cls := "HomesQueue", name := "top", desc := "(I)I" } : Jvm.MethodName) prog_1_method_49_code (2 : Nat) (Option.some Jvm.ClassFile.FieldType.int)) ∈ lw_all := lw_g (lw_at lw_m6 174 rfl) rfl
theorem q1548 : (Jvm.Cond.privateMethod ({ cls := "HomesQueue", name := "lambda$top$20", desc := "(II)Z" } : Jvm.MethodName)) ∈ lw_tbl := lw_at lw_m6 175 rfl
theorem q1549 : (Jvm.Cond.instanceMethod ({ cls := "HomesQueue", name := "lambda$top$20", desc := "(II)Z" } : Jvm.MethodName)) ∈ lw_all := lw_g (lw_at lw_m6 176 rfl) rfl
theorem q1550 : (Jvm.Cond.code ({ cls := "HomesQueue", name := "lambda$top$20", desc := "(II)Z" } : Jvm.MethodName) prog_1_method_94_code (3 : Nat) (Option.some Jvm.ClassFile.FieldType.boolean)) ∈ lw_all := lw_g (lw_at lw_m6 177 rfl) rfl
theorem q1552 : (Jvm.Cond.instanceMethod ({ cls := "HomesQueue", name := "lot", desc := "(II)I" } : Jvm.MethodName)) ∈ lw_all := lw_g (lw_at lw_m6 179 rfl) rfl
theorem q1553 : (Jvm.Cond.selects "HomesQueue" ({ cls := "HomesQueue", name := "lot", desc := "(II)I" } : Jvm.MethodName) ({ cls := "HomesQueue", name := "lot", desc := "(II)I" } : Jvm.MethodName)) ∈ lw_all := lw_g (lw_at lw_m6 180 rfl) rfl
theorem q1554 : (Jvm.Cond.code ({ cls := "HomesQueue", name := "lot", desc := "(II)I" } : Jvm.MethodName) prog_1_method_51_code (6 : Nat) (Option.some Jvm.ClassFile.FieldType.int)) ∈ lw_all := lw_g (lw_at lw_m6 181 rfl) rfl
theorem q1555 : (Jvm.Cond.constantLong "HomesQueue" (445 : Nat) (65536 : Int64)) ∈ lw_all := lw_g (lw_at lw_m6 182 rfl) rfl
theorem q1556 : (Jvm.Cond.privateMethod ({ cls := "HomesQueue", name := "lambda$lot$21", desc := "(II)I" } : Jvm.MethodName)) ∈ lw_tbl := lw_at lw_m6 183 rfl
theorem q1557 : (Jvm.Cond.instanceMethod ({ cls := "HomesQueue", name := "lambda$lot$21", desc := "(II)I" } : Jvm.MethodName)) ∈ lw_all := lw_g (lw_at lw_m6 184 rfl) rfl
theorem q1558 : (Jvm.Cond.code ({ cls := "HomesQueue", name := "lambda$lot$21", desc := "(II)I" } : Jvm.MethodName) prog_1_method_93_code (3 : Nat) (Option.some Jvm.ClassFile.FieldType.int)) ∈ lw_all := lw_g (lw_at lw_m6 185 rfl) rfl
theorem q1559 : (Jvm.Cond.methodLink "HomesQueue" (454 : Nat) ({ cls := "HomesQueue", name := "lotsOf", desc := "(II)I" } : Jvm.MethodName)) ∈ lw_all := lw_g (lw_at lw_m6 186 rfl) rfl
theorem q1560 : (Jvm.Cond.privateMethod ({ cls := "HomesQueue", name := "lotsOf", desc := "(II)I" } : Jvm.MethodName)) ∈ lw_tbl := lw_at lw_m6 187 rfl
theorem q1561 : (Jvm.Cond.instanceMethod ({ cls := "HomesQueue", name := "lotsOf", desc := "(II)I" } : Jvm.MethodName)) ∈ lw_all := lw_g (lw_at lw_m6 188 rfl) rfl
theorem q1562 : (Jvm.Cond.code ({ cls := "HomesQueue", name := "lotsOf", desc := "(II)I" } : Jvm.MethodName) prog_1_method_50_code (3 : Nat) (Option.some Jvm.ClassFile.FieldType.int)) ∈ lw_all := lw_g (lw_at lw_m6 189 rfl) rfl
theorem q1563 : (Jvm.Cond.methodLink "HomesQueue" (442 : Nat) ({ cls := "HomesQueue$Register", name := "waited", desc := "(I)I" } : Jvm.MethodName)) ∈ lw_all := lw_g (lw_at lw_m6 190 rfl) rfl
theorem q1564 : (Jvm.Cond.constantLong "HomesQueue" (448 : Nat) (75 : Int64)) ∈ lw_all := lw_g (lw_at lw_m6 191 rfl) rfl
theorem q1565 : (Jvm.Cond.constantLong "HomesQueue" (450 : Nat) (74 : Int64)) ∈ lw_all := lw_g (lw_at lw_m6 192 rfl) rfl
theorem q1566 : (Jvm.Cond.constantLong "HomesQueue" (452 : Nat) (65537 : Int64)) ∈ lw_all := lw_g (lw_at lw_m6 193 rfl) rfl
theorem q1568 : (Jvm.Cond.instanceMethod ({ cls := "HomesQueue", name := "fits", desc := "(II)I" } : Jvm.MethodName)) ∈ lw_all := lw_g (lw_at lw_m6 195 rfl) rfl
theorem q1569 : (Jvm.Cond.selects "HomesQueue" ({ cls := "HomesQueue", name := "fits", desc := "(II)I" } : Jvm.MethodName) ({ cls := "HomesQueue", name := "fits", desc := "(II)I" } : Jvm.MethodName)) ∈ lw_all := lw_g (lw_at lw_m6 196 rfl) rfl
theorem q1570 : (Jvm.Cond.code ({ cls := "HomesQueue", name := "fits", desc := "(II)I" } : Jvm.MethodName) prog_1_method_52_code (3 : Nat) (Option.some Jvm.ClassFile.FieldType.int)) ∈ lw_all := lw_g (lw_at lw_m6 197 rfl) rfl
theorem q1571 : (Jvm.Cond.privateMethod ({ cls := "HomesQueue", name := "lambda$fits$22", desc := "(III)I" } : Jvm.MethodName)) ∈ lw_tbl := lw_at lw_m6 198 rfl
theorem q1572 : (Jvm.Cond.instanceMethod ({ cls := "HomesQueue", name := "lambda$fits$22", desc := "(III)I" } : Jvm.MethodName)) ∈ lw_all := lw_g (lw_at lw_m6 199 rfl) rfl
theorem q1573 : (Jvm.Cond.code ({ cls := "HomesQueue", name := "lambda$fits$22", desc := "(III)I" } : Jvm.MethodName) prog_1_method_92_code (4 : Nat) (Option.some Jvm.ClassFile.FieldType.int)) ∈ lw_all := lw_g (lw_at lw_m6 200 rfl) rfl
theorem q1574 : (Jvm.Cond.methodLink "HomesQueue" (622 : Nat) ({ cls := "HomesQueue$Register", name := "wouldTake", desc := "(II)Z" } : Jvm.MethodName)) ∈ lw_all := lw_g (lw_at lw_m6 201 rfl) rfl
theorem q1576 : (Jvm.Cond.instanceMethod ({ cls := "HomesQueue", name := "ward", desc := "(Z)I" } : Jvm.MethodName)) ∈ lw_all := lw_g (lw_at lw_m6 203 rfl) rfl
theorem q1577 : (Jvm.Cond.selects "HomesQueue" ({ cls := "HomesQueue", name := "ward", desc := "(Z)I" } : Jvm.MethodName) ({ cls := "HomesQueue", name := "ward", desc := "(Z)I" } : Jvm.MethodName)) ∈ lw_all := lw_g (lw_at lw_m6 204 rfl) rfl
theorem q1578 : (Jvm.Cond.code ({ cls := "HomesQueue", name := "ward", desc := "(Z)I" } : Jvm.MethodName) prog_1_method_54_code (3 : Nat) (Option.some Jvm.ClassFile.FieldType.int)) ∈ lw_all := lw_g (lw_at lw_m6 205 rfl) rfl
theorem q1579 : (Jvm.Cond.privateMethod ({ cls := "HomesQueue", name := "lambda$ward$26", desc := "(I)Z" } : Jvm.MethodName)) ∈ lw_tbl := lw_at lw_m6 206 rfl
theorem q1580 : (Jvm.Cond.instanceMethod ({ cls := "HomesQueue", name := "lambda$ward$26", desc := "(I)Z" } : Jvm.MethodName)) ∈ lw_all := lw_g (lw_at lw_m6 207 rfl) rfl
theorem q1581 : (Jvm.Cond.code ({ cls := "HomesQueue", name := "lambda$ward$26", desc := "(I)Z" } : Jvm.MethodName) prog_1_method_88_code (2 : Nat) (Option.some Jvm.ClassFile.FieldType.boolean)) ∈ lw_all := lw_g (lw_at lw_m6 208 rfl) rfl
theorem q1582 : (Jvm.Cond.privateMethod ({ cls := "HomesQueue", name := "lambda$ward$25", desc := "(II)Z" } : Jvm.MethodName)) ∈ lw_tbl := lw_at lw_m6 209 rfl
theorem q1583 : (Jvm.Cond.instanceMethod ({ cls := "HomesQueue", name := "lambda$ward$25", desc := "(II)Z" } : Jvm.MethodName)) ∈ lw_all := lw_g (lw_at lw_m6 210 rfl) rfl
theorem q1584 : (Jvm.Cond.code ({ cls := "HomesQueue", name := "lambda$ward$25", desc := "(II)Z" } : Jvm.MethodName) prog_1_method_89_code (3 : Nat) (Option.some Jvm.ClassFile.FieldType.boolean)) ∈ lw_all := lw_g (lw_at lw_m6 211 rfl) rfl
theorem q1585 : (Jvm.Cond.privateMethod ({ cls := "HomesQueue", name := "lambda$ward$27", desc := "(I)I" } : Jvm.MethodName)) ∈ lw_tbl := lw_at lw_m6 212 rfl
theorem q1586 : (Jvm.Cond.instanceMethod ({ cls := "HomesQueue", name := "lambda$ward$27", desc := "(I)I" } : Jvm.MethodName)) ∈ lw_all := lw_g (lw_at lw_m6 213 rfl) rfl
theorem q1587 : (Jvm.Cond.code ({ cls := "HomesQueue", name := "lambda$ward$27", desc := "(I)I" } : Jvm.MethodName) prog_1_method_87_code (2 : Nat) (Option.some Jvm.ClassFile.FieldType.int)) ∈ lw_all := lw_g (lw_at lw_m6 214 rfl) rfl
theorem q1588 : (Jvm.Cond.methodLink "HomesQueue" (466 : Nat) ({ cls := "HomesQueue", name := "muchOf", desc := "(I)I" } : Jvm.MethodName)) ∈ lw_all := lw_g (lw_at lw_m6 215 rfl) rfl
theorem q1589 : (Jvm.Cond.privateMethod ({ cls := "HomesQueue", name := "muchOf", desc := "(I)I" } : Jvm.MethodName)) ∈ lw_tbl := lw_at lw_m6 216 rfl
theorem q1590 : (Jvm.Cond.instanceMethod ({ cls := "HomesQueue", name := "muchOf", desc := "(I)I" } : Jvm.MethodName)) ∈ lw_all := lw_g (lw_at lw_m6 217 rfl) rfl
theorem q1591 : (Jvm.Cond.code ({ cls := "HomesQueue", name := "muchOf", desc := "(I)I" } : Jvm.MethodName) prog_1_method_53_code (2 : Nat) (Option.some Jvm.ClassFile.FieldType.int)) ∈ lw_all := lw_g (lw_at lw_m6 218 rfl) rfl
theorem q1592 : (Jvm.Cond.privateMethod ({ cls := "HomesQueue", name := "lambda$muchOf$23", desc := "(II)Z" } : Jvm.MethodName)) ∈ lw_tbl := lw_at lw_m6 219 rfl
theorem q1593 : (Jvm.Cond.instanceMethod ({ cls := "HomesQueue", name := "lambda$muchOf$23", desc := "(II)Z" } : Jvm.MethodName)) ∈ lw_all := lw_g (lw_at lw_m6 220 rfl) rfl
theorem q1594 : (Jvm.Cond.code ({ cls := "HomesQueue", name := "lambda$muchOf$23", desc := "(II)Z" } : Jvm.MethodName) prog_1_method_91_code (3 : Nat) (Option.some Jvm.ClassFile.FieldType.boolean)) ∈ lw_all := lw_g (lw_at lw_m6 221 rfl) rfl
theorem q1595 : (Jvm.Cond.privateMethod ({ cls := "HomesQueue", name := "lambda$muchOf$24", desc := "(II)Z" } : Jvm.MethodName)) ∈ lw_tbl := lw_at lw_m6 222 rfl
theorem q1596 : (Jvm.Cond.instanceMethod ({ cls := "HomesQueue", name := "lambda$muchOf$24", desc := "(II)Z" } : Jvm.MethodName)) ∈ lw_all := lw_g (lw_at lw_m6 223 rfl) rfl
theorem q1597 : (Jvm.Cond.code ({ cls := "HomesQueue", name := "lambda$muchOf$24", desc := "(II)Z" } : Jvm.MethodName) prog_1_method_90_code (3 : Nat) (Option.some Jvm.ClassFile.FieldType.boolean)) ∈ lw_all := lw_g (lw_at lw_m6 224 rfl) rfl
theorem q1599 : (Jvm.Cond.instanceMethod ({ cls := "HomesQueue", name := "envy", desc := "(I)I" } : Jvm.MethodName)) ∈ lw_all := lw_g (lw_at lw_m6 226 rfl) rfl
theorem q1600 : (Jvm.Cond.selects "HomesQueue" ({ cls := "HomesQueue", name := "envy", desc := "(I)I" } : Jvm.MethodName) ({ cls := "HomesQueue", name := "envy", desc := "(I)I" } : Jvm.MethodName)) ∈ lw_all := lw_g (lw_at lw_m6 227 rfl) rfl
theorem q1601 : (Jvm.Cond.code ({ cls := "HomesQueue", name := "envy", desc := "(I)I" } : Jvm.MethodName) prog_1_method_57_code (6 : Nat) (Option.some Jvm.ClassFile.FieldType.int)) ∈ lw_all := lw_g (lw_at lw_m6 228 rfl) rfl
theorem q1602 : (Jvm.Cond.methodLink "HomesQueue" (478 : Nat) ({ cls := "HomesQueue", name := "wouldRather", desc := "(II)Z" } : Jvm.MethodName)) ∈ lw_all := lw_g (lw_at lw_m6 229 rfl) rfl
theorem q1603 : (Jvm.Cond.privateMethod ({ cls := "HomesQueue", name := "wouldRather", desc := "(II)Z" } : Jvm.MethodName)) ∈ lw_tbl := lw_at lw_m6 230 rfl
theorem q1604 : (Jvm.Cond.instanceMethod ({ cls := "HomesQueue", name := "wouldRather", desc := "(II)Z" } : Jvm.MethodName)) ∈ lw_all := lw_g (lw_at lw_m6 231 rfl) rfl
theorem q1605 : (Jvm.Cond.code ({ cls := "HomesQueue", name := "wouldRather", desc := "(II)Z" } : Jvm.MethodName) prog_1_method_56_code (5 : Nat) (Option.some Jvm.ClassFile.FieldType.boolean)) ∈ lw_all := lw_g (lw_at lw_m6 232 rfl) rfl
theorem q1606 : (Jvm.Cond.methodLink "HomesQueue" (475 : Nat) ({ cls := "HomesQueue", name := "wishOf", desc := "(II)I" } : Jvm.MethodName)) ∈ lw_all := lw_g (lw_at lw_m6 233 rfl) rfl
theorem q1607 : (Jvm.Cond.privateMethod ({ cls := "HomesQueue", name := "wishOf", desc := "(II)I" } : Jvm.MethodName)) ∈ lw_tbl := lw_at lw_m6 234 rfl
theorem q1608 : (Jvm.Cond.instanceMethod ({ cls := "HomesQueue", name := "wishOf", desc := "(II)I" } : Jvm.MethodName)) ∈ lw_all := lw_g (lw_at lw_m6 235 rfl) rfl
theorem q1609 : (Jvm.Cond.code ({ cls := "HomesQueue", name := "wishOf", desc := "(II)I" } : Jvm.MethodName) prog_1_method_55_code (3 : Nat) (Option.some Jvm.ClassFile.FieldType.int)) ∈ lw_all := lw_g (lw_at lw_m6 236 rfl) rfl
theorem q1610 : (Jvm.Cond.methodLink "HomesQueue" (469 : Nat) ({ cls := "HomesQueue$Register", name := "isWish", desc := "(II)Z" } : Jvm.MethodName)) ∈ lw_all := lw_g (lw_at lw_m6 237 rfl) rfl
theorem q1612 : (Jvm.Cond.instanceMethod ({ cls := "HomesQueue", name := "lever", desc := "(II)I" } : Jvm.MethodName)) ∈ lw_all := lw_g (lw_at lw_m6 239 rfl) rfl
theorem q1613 : (Jvm.Cond.selects "HomesQueue" ({ cls := "HomesQueue", name := "lever", desc := "(II)I" } : Jvm.MethodName) ({ cls := "HomesQueue", name := "lever", desc := "(II)I" } : Jvm.MethodName)) ∈ lw_all := lw_g (lw_at lw_m7 0 rfl) rfl
theorem q1614 : (Jvm.Cond.code ({ cls := "HomesQueue", name := "lever", desc := "(II)I" } : Jvm.MethodName) prog_1_method_59_code (10 : Nat) (Option.some Jvm.ClassFile.FieldType.int)) ∈ lw_all := lw_g (lw_at lw_m7 1 rfl) rfl
theorem q1615 : (Jvm.Cond.fieldLink "HomesQueue" (481 : Nat) "HomesQueue" "LOWS" "[I") ∈ lw_all := lw_g (lw_at lw_m7 2 rfl) rfl
theorem q1616 : (Jvm.Cond.fieldLink "HomesQueue" (484 : Nat) "HomesQueue" "HIGHS" "[I") ∈ lw_all := lw_g (lw_at lw_m7 3 rfl) rfl
theorem q1617 : (Jvm.Cond.methodLink "HomesQueue" (487 : Nat) ({ cls := "HomesQueue", name := "letsBy", desc := "(III)I" } : Jvm.MethodName)) ∈ lw_all := lw_g (lw_at lw_m7 4 rfl) rfl
theorem q1618 : (Jvm.Cond.privateMethod ({ cls := "HomesQueue", name := "letsBy", desc := "(III)I" } : Jvm.MethodName)) ∈ lw_tbl := lw_at lw_m7 5 rfl
theorem q1619 : (Jvm.Cond.instanceMethod ({ cls := "HomesQueue", name := "letsBy", desc := "(III)I" } : Jvm.MethodName)) ∈ lw_all := lw_g (lw_at lw_m7 6 rfl) rfl
theorem q1620 : (Jvm.Cond.code ({ cls := "HomesQueue", name := "letsBy", desc := "(III)I" } : Jvm.MethodName) prog_1_method_58_code (4 : Nat) (Option.some Jvm.ClassFile.FieldType.int)) ∈ lw_all := lw_g (lw_at lw_m7 7 rfl) rfl
theorem q1622 : (Jvm.Cond.instanceMethod ({ cls := "HomesQueue", name := "queue", desc := "(I)I" } : Jvm.MethodName)) ∈ lw_all := lw_g (lw_at lw_m7 9 rfl) rfl
theorem q1623 : (Jvm.Cond.selects "HomesQueue" ({ cls := "HomesQueue", name := "queue", desc := "(I)I" } : Jvm.MethodName) ({ cls := "HomesQueue", name := "queue", desc := "(I)I" } : Jvm.MethodName)) ∈ lw_all := lw_g (lw_at lw_m7 10 rfl) rfl
theorem q1624 : (Jvm.Cond.code ({ cls := "HomesQueue", name := "queue", desc := "(I)I" } : Jvm.MethodName) prog_1_method_60_code (5 : Nat) (Option.some Jvm.ClassFile.FieldType.int)) ∈ lw_all := lw_g (lw_at lw_m7 11 rfl) rfl
theorem q1625 : (Jvm.Cond.privateMethod ({ cls := "HomesQueue", name := "lambda$queue$28", desc := "([II)Z" } : Jvm.MethodName)) ∈ lw_tbl := lw_at lw_m7 12 rfl
theorem q1626 : (Jvm.Cond.instanceMethod ({ cls := "HomesQueue", name := "lambda$queue$28", desc := "([II)Z" } : Jvm.MethodName)) ∈ lw_all := lw_g (lw_at lw_m7 13 rfl) rfl
theorem q1627 : (Jvm.Cond.code ({ cls := "HomesQueue", name := "lambda$queue$28", desc := "([II)Z" } : Jvm.MethodName) prog_1_method_86_code (3 : Nat) (Option.some Jvm.ClassFile.FieldType.boolean)) ∈ lw_all := lw_g (lw_at lw_m7 14 rfl) rfl
theorem q1629 : (Jvm.Cond.instanceMethod ({ cls := "HomesQueue", name := "most", desc := "()I" } : Jvm.MethodName)) ∈ lw_all := lw_g (lw_at lw_m7 16 rfl) rfl
theorem q1630 : (Jvm.Cond.selects "HomesQueue" ({ cls := "HomesQueue", name := "most", desc := "()I" } : Jvm.MethodName) ({ cls := "HomesQueue", name := "most", desc := "()I" } : Jvm.MethodName)) ∈ lw_all := lw_g (lw_at lw_m7 17 rfl) rfl
theorem q1631 : (Jvm.Cond.code ({ cls := "HomesQueue", name := "most", desc := "()I" } : Jvm.MethodName) prog_1_method_61_code (1 : Nat) (Option.some Jvm.ClassFile.FieldType.int)) ∈ lw_all := lw_g (lw_at lw_m7 18 rfl) rfl
theorem q1632 : (Jvm.Cond.classLink "HomesQueue" (498 : Nat) "HomesQueue$Giving") ∈ lw_all := lw_g (lw_at lw_m7 19 rfl) rfl
theorem q1634 : (Jvm.Cond.methodLink "HomesQueue" (500 : Nat) ({ cls := "HomesQueue$Giving", name := "<init>", desc := "(LHomesQueue;)V" } : Jvm.MethodName)) ∈ lw_all := lw_g (lw_at lw_m7 21 rfl) rfl
theorem q1656 : (Jvm.Cond.fieldLinkNest "HomesQueue" (504 : Nat) "HomesQueue$Giving" "gift" "[I" "HomesQueue") ∈ lw_tbl := lw_at lw_m7 43 rfl
theorem q1658 : (Jvm.Cond.fieldLinkNest "HomesQueue" (501 : Nat) "HomesQueue$Giving" "most" "I" "HomesQueue") ∈ lw_tbl := lw_at lw_m7 45 rfl
theorem q1670 : (Jvm.Cond.instanceMethod ({ cls := "HomesQueue", name := "gift", desc := "(I)I" } : Jvm.MethodName)) ∈ lw_all := lw_g (lw_at lw_m7 57 rfl) rfl
theorem q1671 : (Jvm.Cond.selects "HomesQueue" ({ cls := "HomesQueue", name := "gift", desc := "(I)I" } : Jvm.MethodName) ({ cls := "HomesQueue", name := "gift", desc := "(I)I" } : Jvm.MethodName)) ∈ lw_all := lw_g (lw_at lw_m7 58 rfl) rfl
theorem q1672 : (Jvm.Cond.code ({ cls := "HomesQueue", name := "gift", desc := "(I)I" } : Jvm.MethodName) prog_1_method_62_code (2 : Nat) (Option.some Jvm.ClassFile.FieldType.int)) ∈ lw_all := lw_g (lw_at lw_m7 59 rfl) rfl
theorem q1674 : (Jvm.Cond.instanceMethod ({ cls := "HomesQueue", name := "trade", desc := "(I)I" } : Jvm.MethodName)) ∈ lw_all := lw_g (lw_at lw_m7 61 rfl) rfl
theorem q1675 : (Jvm.Cond.selects "HomesQueue" ({ cls := "HomesQueue", name := "trade", desc := "(I)I" } : Jvm.MethodName) ({ cls := "HomesQueue", name := "trade", desc := "(I)I" } : Jvm.MethodName)) ∈ lw_all := lw_g (lw_at lw_m7 62 rfl) rfl
theorem q1676 : (Jvm.Cond.code ({ cls := "HomesQueue", name := "trade", desc := "(I)I" } : Jvm.MethodName) prog_1_method_63_code (2 : Nat) (Option.some Jvm.ClassFile.FieldType.int)) ∈ lw_all := lw_g (lw_at lw_m7 63 rfl) rfl
theorem q1677 : (Jvm.Cond.classLink "HomesQueue" (507 : Nat) "HomesQueue$Trading") ∈ lw_all := lw_g (lw_at lw_m7 64 rfl) rfl
theorem q1679 : (Jvm.Cond.methodLink "HomesQueue" (509 : Nat) ({ cls := "HomesQueue$Trading", name := "<init>", desc := "(LHomesQueue;)V" } : Jvm.MethodName)) ∈ lw_all := lw_g (lw_at lw_m7 66 rfl) rfl
theorem q1703 : (Jvm.Cond.fieldLinkNest "HomesQueue" (510 : Nat) "HomesQueue$Trading" "gets" "[I" "HomesQueue") ∈ lw_tbl := lw_at lw_m7 90 rfl
theorem q1705 : (Jvm.Cond.fieldLinkNest "HomesQueue" (516 : Nat) "HomesQueue$Trading" "circles" "I" "HomesQueue") ∈ lw_tbl := lw_at lw_m7 92 rfl
theorem q1707 : (Jvm.Cond.fieldLinkNest "HomesQueue" (519 : Nat) "HomesQueue$Trading" "largest" "I" "HomesQueue") ∈ lw_tbl := lw_at lw_m7 94 rfl
theorem q1719 : (Jvm.Cond.instanceMethod ({ cls := "HomesQueue", name := "trades", desc := "(I)I" } : Jvm.MethodName)) ∈ lw_all := lw_g (lw_at lw_m7 106 rfl) rfl
theorem q1720 : (Jvm.Cond.selects "HomesQueue" ({ cls := "HomesQueue", name := "trades", desc := "(I)I" } : Jvm.MethodName) ({ cls := "HomesQueue", name := "trades", desc := "(I)I" } : Jvm.MethodName)) ∈ lw_all := lw_g (lw_at lw_m7 107 rfl) rfl
theorem q1721 : (Jvm.Cond.code ({ cls := "HomesQueue", name := "trades", desc := "(I)I" } : Jvm.MethodName) prog_1_method_64_code (3 : Nat) (Option.some Jvm.ClassFile.FieldType.int)) ∈ lw_all := lw_g (lw_at lw_m7 108 rfl) rfl
theorem q1722 : (Jvm.Cond.privateMethod ({ cls := "HomesQueue", name := "lambda$trades$29", desc := "(LHomesQueue$Trading;I)Z" } : Jvm.MethodName)) ∈ lw_tbl := lw_at lw_m7 109 rfl
theorem q1723 : (Jvm.Cond.instanceMethod ({ cls := "HomesQueue", name := "lambda$trades$29", desc := "(LHomesQueue$Trading;I)Z" } : Jvm.MethodName)) ∈ lw_all := lw_g (lw_at lw_m7 110 rfl) rfl
theorem q1724 : (Jvm.Cond.code ({ cls := "HomesQueue", name := "lambda$trades$29", desc := "(LHomesQueue$Trading;I)Z" } : Jvm.MethodName) prog_1_method_85_code (3 : Nat) (Option.some Jvm.ClassFile.FieldType.boolean)) ∈ lw_all := lw_g (lw_at lw_m7 111 rfl) rfl
theorem q1726 : (Jvm.Cond.instanceMethod ({ cls := "HomesQueue", name := "longest", desc := "(IZ)I" } : Jvm.MethodName)) ∈ lw_all := lw_g (lw_at lw_m7 113 rfl) rfl
theorem q1727 : (Jvm.Cond.selects "HomesQueue" ({ cls := "HomesQueue", name := "longest", desc := "(IZ)I" } : Jvm.MethodName) ({ cls := "HomesQueue", name := "longest", desc := "(IZ)I" } : Jvm.MethodName)) ∈ lw_all := lw_g (lw_at lw_m7 114 rfl) rfl
theorem q1728 : (Jvm.Cond.code ({ cls := "HomesQueue", name := "longest", desc := "(IZ)I" } : Jvm.MethodName) prog_1_method_65_code (4 : Nat) (Option.some Jvm.ClassFile.FieldType.int)) ∈ lw_all := lw_g (lw_at lw_m7 115 rfl) rfl
theorem q1729 : (Jvm.Cond.classLink "HomesQueue" (522 : Nat) "HomesQueue$Moves") ∈ lw_all := lw_g (lw_at lw_m7 116 rfl) rfl
theorem q1731 : (Jvm.Cond.methodLink "HomesQueue" (524 : Nat) ({ cls := "HomesQueue$Moves", name := "<init>", desc := "(LHomesQueue;)V" } : Jvm.MethodName)) ∈ lw_all := lw_g (lw_at lw_m7 118 rfl) rfl
theorem q1749 : (Jvm.Cond.fieldLinkNest "HomesQueue" (531 : Nat) "HomesQueue$Moves" "bestRow" "[I" "HomesQueue") ∈ lw_tbl := lw_at lw_m7 136 rfl
theorem q1751 : (Jvm.Cond.fieldLinkNest "HomesQueue" (525 : Nat) "HomesQueue$Moves" "best" "I" "HomesQueue") ∈ lw_tbl := lw_at lw_m7 138 rfl
theorem q1768 : (Jvm.Cond.methodLink "HomesQueue" (528 : Nat) ({ cls := "HomesQueue$Moves", name := "homeOf", desc := "(I)I" } : Jvm.MethodName)) ∈ lw_all := lw_g (lw_at lw_m7 155 rfl) rfl
theorem q1773 : (Jvm.Cond.instanceMethod ({ cls := "HomesQueue", name := "gap", desc := "(II)I" } : Jvm.MethodName)) ∈ lw_all := lw_g (lw_at lw_m7 160 rfl) rfl
theorem q1774 : (Jvm.Cond.selects "HomesQueue" ({ cls := "HomesQueue", name := "gap", desc := "(II)I" } : Jvm.MethodName) ({ cls := "HomesQueue", name := "gap", desc := "(II)I" } : Jvm.MethodName)) ∈ lw_all := lw_g (lw_at lw_m7 161 rfl) rfl
theorem q1775 : (Jvm.Cond.code ({ cls := "HomesQueue", name := "gap", desc := "(II)I" } : Jvm.MethodName) prog_1_method_67_code (5 : Nat) (Option.some Jvm.ClassFile.FieldType.int)) ∈ lw_all := lw_g (lw_at lw_m7 162 rfl) rfl
theorem q1776 : (Jvm.Cond.methodLink "HomesQueue" (538 : Nat) ({ cls := "HomesQueue", name := "isFirstBy", desc := "(III)Z" } : Jvm.MethodName)) ∈ lw_all := lw_g (lw_at lw_m7 163 rfl) rfl
theorem q1777 : (Jvm.Cond.privateMethod ({ cls := "HomesQueue", name := "isFirstBy", desc := "(III)Z" } : Jvm.MethodName)) ∈ lw_tbl := lw_at lw_m7 164 rfl
theorem q1778 : (Jvm.Cond.instanceMethod ({ cls := "HomesQueue", name := "isFirstBy", desc := "(III)Z" } : Jvm.MethodName)) ∈ lw_all := lw_g (lw_at lw_m7 165 rfl) rfl
theorem q1779 : (Jvm.Cond.code ({ cls := "HomesQueue", name := "isFirstBy", desc := "(III)Z" } : Jvm.MethodName) prog_1_method_66_code (5 : Nat) (Option.some Jvm.ClassFile.FieldType.boolean)) ∈ lw_all := lw_g (lw_at lw_m7 166 rfl) rfl
theorem q1780 : (Jvm.Cond.methodLink "HomesQueue" (534 : Nat) ({ cls := "HomesQueue$Register", name := "compareBy", desc := "(IIII)I" } : Jvm.MethodName)) ∈ lw_all := lw_g (lw_at lw_m7 167 rfl) rfl
theorem q1785 : (Jvm.Cond.instanceMethod ({ cls := "HomesQueue", name := "bid", desc := "(II)I" } : Jvm.MethodName)) ∈ lw_all := lw_g (lw_at lw_m7 172 rfl) rfl
theorem q1786 : (Jvm.Cond.selects "HomesQueue" ({ cls := "HomesQueue", name := "bid", desc := "(II)I" } : Jvm.MethodName) ({ cls := "HomesQueue", name := "bid", desc := "(II)I" } : Jvm.MethodName)) ∈ lw_all := lw_g (lw_at lw_m7 173 rfl) rfl
theorem q1787 : (Jvm.Cond.code ({ cls := "HomesQueue", name := "bid", desc := "(II)I" } : Jvm.MethodName) prog_1_method_69_code (4 : Nat) (Option.some Jvm.ClassFile.FieldType.int)) ∈ lw_all := lw_g (lw_at lw_m7 174 rfl) rfl
theorem q1788 : (Jvm.Cond.methodLink "HomesQueue" (548 : Nat) ({ cls := "HomesQueue", name := "remembers", desc := "()V" } : Jvm.MethodName)) ∈ lw_all := lw_g (lw_at lw_m7 175 rfl) rfl
theorem q1789 : (Jvm.Cond.privateMethod ({ cls := "HomesQueue", name := "remembers", desc := "()V" } : Jvm.MethodName)) ∈ lw_tbl := lw_at lw_m7 176 rfl
theorem q1790 : (Jvm.Cond.instanceMethod ({ cls := "HomesQueue", name := "remembers", desc := "()V" } : Jvm.MethodName)) ∈ lw_all := lw_g (lw_at lw_m7 177 rfl) rfl
theorem q1791 : (Jvm.Cond.code ({ cls := "HomesQueue", name := "remembers", desc := "()V" } : Jvm.MethodName) prog_1_method_68_code (2 : Nat) (Option.none : Option Jvm.ClassFile.FieldType)) ∈ lw_all := lw_g (lw_at lw_m7 178 rfl) rfl
theorem q1792 : (Jvm.Cond.methodLink "HomesQueue" (542 : Nat) ({ cls := "java/util/ArrayList", name := "remove", desc := "(I)Ljava/lang/Object;" } : Jvm.MethodName)) ∈ lw_all := lw_g (lw_at lw_m7 179 rfl) rfl
theorem q1800 : (Jvm.Cond.methodLink "HomesQueue" (545 : Nat) ({ cls := "java/util/ArrayList", name := "add", desc := "(Ljava/lang/Object;)Z" } : Jvm.MethodName)) ∈ lw_all := lw_g (lw_at lw_m7 187 rfl) rfl
theorem q1801 : (Jvm.Cond.methodLink "HomesQueue" (551 : Nat) ({ cls := "HomesQueue$Register", name := "putsBid", desc := "(II)V" } : Jvm.MethodName)) ∈ lw_all := lw_g (lw_at lw_m7 188 rfl) rfl
theorem q1803 : (Jvm.Cond.instanceMethod ({ cls := "HomesQueue", name := "unbid", desc := "(II)I" } : Jvm.MethodName)) ∈ lw_all := lw_g (lw_at lw_m7 190 rfl) rfl
theorem q1804 : (Jvm.Cond.selects "HomesQueue" ({ cls := "HomesQueue", name := "unbid", desc := "(II)I" } : Jvm.MethodName) ({ cls := "HomesQueue", name := "unbid", desc := "(II)I" } : Jvm.MethodName)) ∈ lw_all := lw_g (lw_at lw_m7 191 rfl) rfl
theorem q1805 : (Jvm.Cond.code ({ cls := "HomesQueue", name := "unbid", desc := "(II)I" } : Jvm.MethodName) prog_1_method_70_code (4 : Nat) (Option.some Jvm.ClassFile.FieldType.int)) ∈ lw_all := lw_g (lw_at lw_m7 192 rfl) rfl
theorem q1807 : (Jvm.Cond.instanceMethod ({ cls := "HomesQueue", name := "auto", desc := "()I" } : Jvm.MethodName)) ∈ lw_all := lw_g (lw_at lw_m7 194 rfl) rfl
theorem q1808 : (Jvm.Cond.selects "HomesQueue" ({ cls := "HomesQueue", name := "auto", desc := "()I" } : Jvm.MethodName) ({ cls := "HomesQueue", name := "auto", desc := "()I" } : Jvm.MethodName)) ∈ lw_all := lw_g (lw_at lw_m7 195 rfl) rfl
theorem q1809 : (Jvm.Cond.code ({ cls := "HomesQueue", name := "auto", desc := "()I" } : Jvm.MethodName) prog_1_method_71_code (1 : Nat) (Option.some Jvm.ClassFile.FieldType.int)) ∈ lw_all := lw_g (lw_at lw_m7 196 rfl) rfl
theorem q1810 : (Jvm.Cond.methodLink "HomesQueue" (555 : Nat) ({ cls := "HomesQueue$Register", name := "bidsAll", desc := "()I" } : Jvm.MethodName)) ∈ lw_all := lw_g (lw_at lw_m7 197 rfl) rfl
theorem q1812 : (Jvm.Cond.instanceMethod ({ cls := "HomesQueue", name := "week", desc := "()I" } : Jvm.MethodName)) ∈ lw_all := lw_g (lw_at lw_m7 199 rfl) rfl
theorem q1813 : (Jvm.Cond.selects "HomesQueue" ({ cls := "HomesQueue", name := "week", desc := "()I" } : Jvm.MethodName) ({ cls := "HomesQueue", name := "week", desc := "()I" } : Jvm.MethodName)) ∈ lw_all := lw_g (lw_at lw_m7 200 rfl) rfl
theorem q1814 : (Jvm.Cond.code ({ cls := "HomesQueue", name := "week", desc := "()I" } : Jvm.MethodName) prog_1_method_72_code (1 : Nat) (Option.some Jvm.ClassFile.FieldType.int)) ∈ lw_all := lw_g (lw_at lw_m7 201 rfl) rfl
theorem q1816 : (Jvm.Cond.instanceMethod ({ cls := "HomesQueue", name := "wish", desc := "(II)I" } : Jvm.MethodName)) ∈ lw_all := lw_g (lw_at lw_m7 203 rfl) rfl
theorem q1817 : (Jvm.Cond.selects "HomesQueue" ({ cls := "HomesQueue", name := "wish", desc := "(II)I" } : Jvm.MethodName) ({ cls := "HomesQueue", name := "wish", desc := "(II)I" } : Jvm.MethodName)) ∈ lw_all := lw_g (lw_at lw_m7 204 rfl) rfl
theorem q1818 : (Jvm.Cond.code ({ cls := "HomesQueue", name := "wish", desc := "(II)I" } : Jvm.MethodName) prog_1_method_73_code (4 : Nat) (Option.some Jvm.ClassFile.FieldType.int)) ∈ lw_all := lw_g (lw_at lw_m7 205 rfl) rfl
theorem q1820 : (Jvm.Cond.instanceMethod ({ cls := "HomesQueue", name := "unwish", desc := "(II)I" } : Jvm.MethodName)) ∈ lw_all := lw_g (lw_at lw_m7 207 rfl) rfl
theorem q1821 : (Jvm.Cond.selects "HomesQueue" ({ cls := "HomesQueue", name := "unwish", desc := "(II)I" } : Jvm.MethodName) ({ cls := "HomesQueue", name := "unwish", desc := "(II)I" } : Jvm.MethodName)) ∈ lw_all := lw_g (lw_at lw_m7 208 rfl) rfl
theorem q1822 : (Jvm.Cond.code ({ cls := "HomesQueue", name := "unwish", desc := "(II)I" } : Jvm.MethodName) prog_1_method_74_code (6 : Nat) (Option.some Jvm.ClassFile.FieldType.int)) ∈ lw_all := lw_g (lw_at lw_m7 209 rfl) rfl
theorem q1824 : (Jvm.Cond.instanceMethod ({ cls := "HomesQueue", name := "leave", desc := "(I)I" } : Jvm.MethodName)) ∈ lw_all := lw_g (lw_at lw_m7 211 rfl) rfl
theorem q1825 : (Jvm.Cond.selects "HomesQueue" ({ cls := "HomesQueue", name := "leave", desc := "(I)I" } : Jvm.MethodName) ({ cls := "HomesQueue", name := "leave", desc := "(I)I" } : Jvm.MethodName)) ∈ lw_all := lw_g (lw_at lw_m7 212 rfl) rfl
theorem q1826 : (Jvm.Cond.code ({ cls := "HomesQueue", name := "leave", desc := "(I)I" } : Jvm.MethodName) prog_1_method_75_code (2 : Nat) (Option.some Jvm.ClassFile.FieldType.int)) ∈ lw_all := lw_g (lw_at lw_m7 213 rfl) rfl
theorem q1827 : (Jvm.Cond.methodLink "HomesQueue" (561 : Nat) ({ cls := "HomesQueue$Register", name := "quits", desc := "(I)V" } : Jvm.MethodName)) ∈ lw_all := lw_g (lw_at lw_m7 214 rfl) rfl
theorem q1832 : (Jvm.Cond.instanceMethod ({ cls := "HomesQueue", name := "shut", desc := "(IZ)I" } : Jvm.MethodName)) ∈ lw_all := lw_g (lw_at lw_m7 219 rfl) rfl
theorem q1833 : (Jvm.Cond.selects "HomesQueue" ({ cls := "HomesQueue", name := "shut", desc := "(IZ)I" } : Jvm.MethodName) ({ cls := "HomesQueue", name := "shut", desc := "(IZ)I" } : Jvm.MethodName)) ∈ lw_all := lw_g (lw_at lw_m7 220 rfl) rfl
theorem q1834 : (Jvm.Cond.code ({ cls := "HomesQueue", name := "shut", desc := "(IZ)I" } : Jvm.MethodName) prog_1_method_76_code (4 : Nat) (Option.some Jvm.ClassFile.FieldType.int)) ∈ lw_all := lw_g (lw_at lw_m7 221 rfl) rfl
theorem q1836 : (Jvm.Cond.instanceMethod ({ cls := "HomesQueue", name := "need", desc := "(II)I" } : Jvm.MethodName)) ∈ lw_all := lw_g (lw_at lw_m7 223 rfl) rfl
theorem q1837 : (Jvm.Cond.selects "HomesQueue" ({ cls := "HomesQueue", name := "need", desc := "(II)I" } : Jvm.MethodName) ({ cls := "HomesQueue", name := "need", desc := "(II)I" } : Jvm.MethodName)) ∈ lw_all := lw_g (lw_at lw_m7 224 rfl) rfl
theorem q1838 : (Jvm.Cond.code ({ cls := "HomesQueue", name := "need", desc := "(II)I" } : Jvm.MethodName) prog_1_method_77_code (5 : Nat) (Option.some Jvm.ClassFile.FieldType.int)) ∈ lw_all := lw_g (lw_at lw_m7 225 rfl) rfl
theorem q1840 : (Jvm.Cond.instanceMethod ({ cls := "HomesQueue", name := "rules", desc := "(II)I" } : Jvm.MethodName)) ∈ lw_all := lw_g (lw_at lw_m7 227 rfl) rfl
theorem q1841 : (Jvm.Cond.selects "HomesQueue" ({ cls := "HomesQueue", name := "rules", desc := "(II)I" } : Jvm.MethodName) ({ cls := "HomesQueue", name := "rules", desc := "(II)I" } : Jvm.MethodName)) ∈ lw_all := lw_g (lw_at lw_m7 228 rfl) rfl
theorem q1842 : (Jvm.Cond.code ({ cls := "HomesQueue", name := "rules", desc := "(II)I" } : Jvm.MethodName) prog_1_method_78_code (4 : Nat) (Option.some Jvm.ClassFile.FieldType.int)) ∈ lw_all := lw_g (lw_at lw_m7 229 rfl) rfl
theorem q1844 : (Jvm.Cond.instanceMethod ({ cls := "HomesQueue", name := "undo", desc := "()I" } : Jvm.MethodName)) ∈ lw_all := lw_g (lw_at lw_m7 231 rfl) rfl
theorem q1845 : (Jvm.Cond.selects "HomesQueue" ({ cls := "HomesQueue", name := "undo", desc := "()I" } : Jvm.MethodName) ({ cls := "HomesQueue", name := "undo", desc := "()I" } : Jvm.MethodName)) ∈ lw_all := lw_g (lw_at lw_m7 232 rfl) rfl
theorem q1846 : (Jvm.Cond.code ({ cls := "HomesQueue", name := "undo", desc := "()I" } : Jvm.MethodName) prog_1_method_79_code (1 : Nat) (Option.some Jvm.ClassFile.FieldType.int)) ∈ lw_all := lw_g (lw_at lw_m7 233 rfl) rfl
theorem q1847 : (Jvm.Cond.methodLink "HomesQueue" (564 : Nat) ({ cls := "java/util/ArrayList", name := "isEmpty", desc := "()Z" } : Jvm.MethodName)) ∈ lw_all := lw_g (lw_at lw_m7 234 rfl) rfl
theorem q1852 : (Jvm.Cond.instanceMethod ({ cls := "HomesQueue", name := "print", desc := "()I" } : Jvm.MethodName)) ∈ lw_all := lw_g (lw_at lw_m7 239 rfl) rfl
theorem q1853 : (Jvm.Cond.selects "HomesQueue" ({ cls := "HomesQueue", name := "print", desc := "()I" } : Jvm.MethodName) ({ cls := "HomesQueue", name := "print", desc := "()I" } : Jvm.MethodName)) ∈ lw_all := lw_g (lw_at lw_m8 0 rfl) rfl
theorem q1854 : (Jvm.Cond.code ({ cls := "HomesQueue", name := "print", desc := "()I" } : Jvm.MethodName) prog_1_method_83_code (2 : Nat) (Option.some Jvm.ClassFile.FieldType.int)) ∈ lw_all := lw_g (lw_at lw_m8 1 rfl) rfl
theorem q1855 : (Jvm.Cond.methodLink "HomesQueue" (601 : Nat) ({ cls := "java/lang/StringBuilder", name := "setLength", desc := "(I)V" } : Jvm.MethodName)) ∈ lw_all := lw_g (lw_at lw_m8 2 rfl) rfl
theorem q1875 : (Jvm.Cond.stringRef "HomesQueue" (604 : Nat) "rule ") ∈ lw_tbl := lw_at lw_m8 22 rfl
theorem q1876 : (Jvm.Cond.methodLink "HomesQueue" (567 : Nat) ({ cls := "java/lang/StringBuilder", name := "append", desc := "(Ljava/lang/String;)Ljava/lang/StringBuilder;" } : Jvm.MethodName)) ∈ lw_all := lw_g (lw_at lw_m8 23 rfl) rfl
theorem q1922 : (Jvm.Cond.methodLink "HomesQueue" (583 : Nat) ({ cls := "java/lang/StringBuilder", name := "toString", desc := "()Ljava/lang/String;" } : Jvm.MethodName)) ∈ lw_all := lw_g (lw_at lw_m8 69 rfl) rfl
theorem q1923 : (Jvm.Cond.methodLink "HomesQueue" (587 : Nat) ({ cls := "HomesQueue", name := "says", desc := "(Ljava/lang/String;[I)V" } : Jvm.MethodName)) ∈ lw_all := lw_g (lw_at lw_m8 70 rfl) rfl
theorem q1924 : (Jvm.Cond.privateMethod ({ cls := "HomesQueue", name := "says", desc := "(Ljava/lang/String;[I)V" } : Jvm.MethodName)) ∈ lw_tbl := lw_at lw_m8 71 rfl
theorem q1925 : (Jvm.Cond.instanceMethod ({ cls := "HomesQueue", name := "says", desc := "(Ljava/lang/String;[I)V" } : Jvm.MethodName)) ∈ lw_all := lw_g (lw_at lw_m8 72 rfl) rfl
theorem q1926 : (Jvm.Cond.code ({ cls := "HomesQueue", name := "says", desc := "(Ljava/lang/String;[I)V" } : Jvm.MethodName) prog_1_method_80_code (7 : Nat) (Option.none : Option Jvm.ClassFile.FieldType)) ∈ lw_all := lw_g (lw_at lw_m8 73 rfl) rfl
theorem q1927 : (Jvm.Cond.methodLink "HomesQueue" (571 : Nat) ({ cls := "java/lang/StringBuilder", name := "append", desc := "(C)Ljava/lang/StringBuilder;" } : Jvm.MethodName)) ∈ lw_all := lw_g (lw_at lw_m8 74 rfl) rfl
theorem q1928 : (Jvm.Cond.methodLink "HomesQueue" (574 : Nat) ({ cls := "java/lang/StringBuilder", name := "append", desc := "(I)Ljava/lang/StringBuilder;" } : Jvm.MethodName)) ∈ lw_all := lw_g (lw_at lw_m8 75 rfl) rfl
theorem q1953 : (Jvm.Cond.stringRef "HomesQueue" (599 : Nat) ";") ∈ lw_tbl := lw_at lw_m8 100 rfl
theorem q1954 : (Jvm.Cond.methodLink "HomesQueue" (591 : Nat) ({ cls := "HomesQueue", name := "isGone", desc := "(I)Z" } : Jvm.MethodName)) ∈ lw_all := lw_g (lw_at lw_m8 101 rfl) rfl
theorem q1955 : (Jvm.Cond.privateMethod ({ cls := "HomesQueue", name := "isGone", desc := "(I)Z" } : Jvm.MethodName)) ∈ lw_tbl := lw_at lw_m8 102 rfl
theorem q1956 : (Jvm.Cond.instanceMethod ({ cls := "HomesQueue", name := "isGone", desc := "(I)Z" } : Jvm.MethodName)) ∈ lw_all := lw_g (lw_at lw_m8 103 rfl) rfl
theorem q1957 : (Jvm.Cond.code ({ cls := "HomesQueue", name := "isGone", desc := "(I)Z" } : Jvm.MethodName) prog_1_method_81_code (2 : Nat) (Option.some Jvm.ClassFile.FieldType.boolean)) ∈ lw_all := lw_g (lw_at lw_m8 104 rfl) rfl
theorem q1958 : (Jvm.Cond.stringRef "HomesQueue" (606 : Nat) "home ") ∈ lw_tbl := lw_at lw_m8 105 rfl
theorem q1959 : (Jvm.Cond.methodLink "HomesQueue" (608 : Nat) ({ cls := "HomesQueue", name := "saysHouse", desc := "(I)V" } : Jvm.MethodName)) ∈ lw_all := lw_g (lw_at lw_m8 106 rfl) rfl
theorem q1960 : (Jvm.Cond.privateMethod ({ cls := "HomesQueue", name := "saysHouse", desc := "(I)V" } : Jvm.MethodName)) ∈ lw_tbl := lw_at lw_m8 107 rfl
theorem q1961 : (Jvm.Cond.instanceMethod ({ cls := "HomesQueue", name := "saysHouse", desc := "(I)V" } : Jvm.MethodName)) ∈ lw_all := lw_g (lw_at lw_m8 108 rfl) rfl
theorem q1962 : (Jvm.Cond.code ({ cls := "HomesQueue", name := "saysHouse", desc := "(I)V" } : Jvm.MethodName) prog_1_method_82_code (4 : Nat) (Option.none : Option Jvm.ClassFile.FieldType)) ∈ lw_all := lw_g (lw_at lw_m8 109 rfl) rfl
theorem q1963 : (Jvm.Cond.stringRef "HomesQueue" (577 : Nat) "house ") ∈ lw_tbl := lw_at lw_m8 110 rfl
theorem q1964 : (Jvm.Cond.stringRef "HomesQueue" (594 : Nat) " in ") ∈ lw_tbl := lw_at lw_m8 111 rfl
theorem q1965 : (Jvm.Cond.stringRef "HomesQueue" (597 : Nat) " ") ∈ lw_tbl := lw_at lw_m8 112 rfl
theorem q1966 : (Jvm.Cond.methodLink "HomesQueue" (611 : Nat) ({ cls := "java/lang/StringBuilder", name := "length", desc := "()I" } : Jvm.MethodName)) ∈ lw_all := lw_g (lw_at lw_m8 113 rfl) rfl
theorem q1972 : (Jvm.Cond.instanceMethod ({ cls := "HomesQueue", name := "out", desc := "(I)I" } : Jvm.MethodName)) ∈ lw_all := lw_g (lw_at lw_m8 119 rfl) rfl
theorem q1973 : (Jvm.Cond.selects "HomesQueue" ({ cls := "HomesQueue", name := "out", desc := "(I)I" } : Jvm.MethodName) ({ cls := "HomesQueue", name := "out", desc := "(I)I" } : Jvm.MethodName)) ∈ lw_all := lw_g (lw_at lw_m8 120 rfl) rfl
theorem q1974 : (Jvm.Cond.code ({ cls := "HomesQueue", name := "out", desc := "(I)I" } : Jvm.MethodName) prog_1_method_84_code (2 : Nat) (Option.some Jvm.ClassFile.FieldType.int)) ∈ lw_all := lw_g (lw_at lw_m8 121 rfl) rfl
theorem q1975 : (Jvm.Cond.classLink "HomesQueue" (614 : Nat) "java/util/NoSuchElementException") ∈ lw_all := lw_g (lw_at lw_m8 122 rfl) rfl
theorem q1976 : (Jvm.Cond.methodLink "HomesQueue" (616 : Nat) ({ cls := "java/util/NoSuchElementException", name := "<init>", desc := "()V" } : Jvm.MethodName)) ∈ lw_all := lw_g (lw_at lw_m8 123 rfl) rfl
theorem q1977 : (Jvm.Cond.methodLink "HomesQueue" (617 : Nat) ({ cls := "java/lang/StringBuilder", name := "charAt", desc := "(I)C" } : Jvm.MethodName)) ∈ lw_all := lw_g (lw_at lw_m8 124 rfl) rfl
theorem q2664 : (Jvm.Cond.castable "HomesQueue" "java/lang/Object") ∈ lw_tbl := lw_at lw_m11 91 rfl
theorem in_X1 : ∀ w ∈ wsX10, w ∈ lw_all := lw_in wsX10 [608, 610, 612, 614, 616, 618, 620, 622, 624, 626, 628, 630, 632] (by decide +kernel) (by decide +kernel)

/-! HomesQueue$Register -/
set_option maxRecDepth 100000
def RX2 : String := "HomesQueue$Register"
def TX2 : u_T := fun k => match k with
  | 0 => ("HomesQueue$Register", "rules", "[I", true)
  | 1 => ("HomesQueue$Register", "livesIn", "[I", true)
  | 2 => ("HomesQueue$Register", "refusals", "[I", true)
  | 3 => ("HomesQueue$Register", "barred", "[I", true)
  | 4 => ("HomesQueue$Register", "passed", "[I", true)
  | 5 => ("HomesQueue$Register", "bidSet", "[I", true)
  | 6 => ("HomesQueue$Register", "wishMany", "[I", true)
  | 7 => ("HomesQueue$Register", "wishes", "[I", true)
  | 8 => ("HomesQueue$Register", "freeFrom", "[I", true)
  | 9 => ("HomesQueue$Register", "freedBy", "[I", true)
  | 10 => ("HomesQueue$Register", "needs", "[I", true)
  | 11 => ("HomesQueue$Register", "idle", "[I", true)
  | 12 => ("HomesQueue$Register", "isShut", "[Z", true)
  | 13 => ("HomesQueue$Register", "isOut", "[Z", true)
  | 14 => ("HomesQueue$Register", "isNew", "[Z", true)
  | 15 => ("HomesQueue$Register", "lets", "Ljava/util/ArrayList;", true)
  | 16 => ("HomesQueue$Register", "offers", "Ljava/util/ArrayList;", true)
  | 17 => ("HomesQueue$Register", "week", "I", false)
  | 18 => ("HomesQueue$Register", "refused", "I", false)
  | 19 => ("HomesQueue$Register", "asked", "I", false)
  | 20 => ("HomesQueue$Register", "lessFor", "I", false)
  | 21 => ("HomesQueue$Register", "lessBy", "I", false)
  | 22 => ("HomesQueue$Register", "order", "LHomesQueue$Step;", true)
  | 23 => ("HomesQueue$Register", "plain", "LHomesQueue$Step;", true)
  | 24 => ("HomesQueue$Register", "checks", "[LHomesQueue$Check;", true)
  | 25 => ("HomesQueue$Register", "asking", "I", false)
  | _ => ("HomesQueue$Register", "this$0", "LHomesQueue;", true)
def tyX2 : Nat → FieldType := fun k => match k with
  | 0 => .array .int
  | 1 => .array .int
  | 2 => .array .int
  | 3 => .array .int
  | 4 => .array .int
  | 5 => .array .int
  | 6 => .array .int
  | 7 => .array .int
  | 8 => .array .int
  | 9 => .array .int
  | 10 => .array .int
  | 11 => .array .int
  | 12 => .array .boolean
  | 13 => .array .boolean
  | 14 => .array .boolean
  | 15 => .object "java/util/ArrayList"
  | 16 => .object "java/util/ArrayList"
  | 17 => .int
  | 18 => .int
  | 19 => .int
  | 20 => .int
  | 21 => .int
  | 22 => .object "HomesQueue$Step"
  | 23 => .object "HomesQueue$Step"
  | 24 => .array (.object "HomesQueue$Check")
  | 25 => .int
  | _ => .object "HomesQueue"
abbrev wsX20 : List Cond := u_ws RX2 TX2 27
set_option maxRecDepth 100000 in
theorem nmX2 : ∀ a, a < 27 → ∀ b, b < 27 → a ≠ b → (TX2 a).2.1 ≠ (TX2 b).2.1 := by decide +kernel
set_option maxRecDepth 100000 in
theorem tyX2_ok : ∀ k, k < 27 → parseFieldDescriptor (TX2 k).2.2.1 = some (tyX2 k) := by decide +kernel
abbrev cX2_init : ByteArray := prog_10_method_1_code
def yX2_init : MethodName := ⟨RX2, "<init>", "(LHomesQueue;)V"⟩
def dkwX2_init_15 : List UInt8 := [180, 0, 114, 83, 184, 0, 110, 181, 0, 124, 177]
abbrev dktX2_init_15 : List UInt8 := dkwX2_init_15 ++ []
def dkwX2_init_14 : List UInt8 := [186, 0, 118, 0, 0, 184, 0, 119, 83, 89, 4, 42, 186, 0, 123, 0, 0, 184, 0, 119, 83, 89, 5, 42]
abbrev dktX2_init_14 : List UInt8 := dkwX2_init_14 ++ dktX2_init_15
def dkwX2_init_13 : List UInt8 := [186, 0, 109, 0, 0, 184, 0, 104, 83, 184, 0, 110, 181, 0, 114, 42, 6, 189, 0, 98, 89, 3, 42]
abbrev dktX2_init_13 : List UInt8 := dkwX2_init_13 ++ dktX2_init_14
def dkwX2_init_12 : List UInt8 := [186, 0, 100, 0, 0, 184, 0, 104, 83, 89, 4, 42, 186, 0, 108, 0, 0, 184, 0, 104, 83, 89, 5, 42]
abbrev dktX2_init_12 : List UInt8 := dkwX2_init_12 ++ dktX2_init_13
def dkwX2_init_11 : List UInt8 := [89, 8, 42, 186, 0, 93, 0, 0, 83, 181, 0, 94, 42, 6, 189, 0, 98, 89, 3, 42]
abbrev dktX2_init_11 : List UInt8 := dkwX2_init_11 ++ dktX2_init_12
def dkwX2_init_10 : List UInt8 := [186, 0, 90, 0, 0, 83, 89, 6, 42, 186, 0, 91, 0, 0, 83, 89, 7, 42, 186, 0, 92, 0, 0, 83]
abbrev dktX2_init_10 : List UInt8 := dkwX2_init_10 ++ dktX2_init_11
def dkwX2_init_9 : List UInt8 := [189, 0, 83, 89, 3, 42, 186, 0, 85, 0, 0, 83, 89, 4, 42, 186, 0, 89, 0, 0, 83, 89, 5, 42]
abbrev dktX2_init_9 : List UInt8 := dkwX2_init_9 ++ dktX2_init_10
def dkwX2_init_8 : List UInt8 := [3, 61, 28, 16, 10, 162, 0, 16, 42, 180, 0, 43, 28, 2, 79, 132, 2, 1, 167, 255, 240, 42, 16, 6]
abbrev dktX2_init_8 : List UInt8 := dkwX2_init_8 ++ dktX2_init_9
def dkwX2_init_7 : List UInt8 := [184, 0, 77, 3, 61, 28, 16, 8, 162, 0, 16, 42, 180, 0, 19, 28, 2, 79, 132, 2, 1, 167, 255, 240]
abbrev dktX2_init_7 : List UInt8 := dkwX2_init_7 ++ dktX2_init_8
def dkwX2_init_6 : List UInt8 := [187, 0, 62, 89, 5, 183, 0, 64, 181, 0, 71, 178, 0, 74, 3, 42, 180, 0, 15, 3, 16, 6]
abbrev dktX2_init_6 : List UInt8 := dkwX2_init_6 ++ dktX2_init_7
def dkwX2_init_5 : List UInt8 := [181, 0, 56, 42, 16, 8, 188, 4, 181, 0, 59, 42, 187, 0, 62, 89, 5, 183, 0, 64, 181, 0, 67, 42]
abbrev dktX2_init_5 : List UInt8 := dkwX2_init_5 ++ dktX2_init_6
def dkwX2_init_4 : List UInt8 := [181, 0, 46, 42, 16, 10, 188, 10, 181, 0, 49, 42, 16, 10, 188, 4, 181, 0, 52, 42, 16, 8, 188, 4]
abbrev dktX2_init_4 : List UInt8 := dkwX2_init_4 ++ dktX2_init_5
def dkwX2_init_3 : List UInt8 := [181, 0, 37, 42, 16, 10, 188, 10, 181, 0, 40, 42, 16, 10, 188, 10, 181, 0, 43, 42, 16, 8, 188, 10]
abbrev dktX2_init_3 : List UInt8 := dkwX2_init_3 ++ dktX2_init_4
def dkwX2_init_2 : List UInt8 := [181, 0, 28, 42, 16, 8, 188, 10, 181, 0, 31, 42, 16, 8, 188, 10, 181, 0, 34, 42, 16, 48, 188, 10]
abbrev dktX2_init_2 : List UInt8 := dkwX2_init_2 ++ dktX2_init_3
def dkwX2_init_1 : List UInt8 := [181, 0, 19, 42, 16, 8, 188, 10, 181, 0, 22, 42, 16, 8, 188, 10, 181, 0, 25, 42, 16, 8, 188, 10]
abbrev dktX2_init_1 : List UInt8 := dkwX2_init_1 ++ dktX2_init_2
def dkwX2_init_0 : List UInt8 := [42, 43, 181, 0, 3, 42, 183, 0, 9, 42, 16, 6, 188, 10, 181, 0, 15, 42, 16, 8, 188, 10]
abbrev dktX2_init_0 : List UInt8 := dkwX2_init_0 ++ dktX2_init_1
theorem dksX2_init_0 : cX2_init.data.toList.drop 0 = dktX2_init_0 := by decide +kernel
theorem dksX2_init_1 : cX2_init.data.toList.drop 22 = dktX2_init_1 := dk_seg dksX2_init_0 22 rfl rfl
theorem dksX2_init_2 : cX2_init.data.toList.drop 46 = dktX2_init_2 := dk_seg dksX2_init_1 24 rfl rfl
theorem dksX2_init_3 : cX2_init.data.toList.drop 70 = dktX2_init_3 := dk_seg dksX2_init_2 24 rfl rfl
theorem dksX2_init_4 : cX2_init.data.toList.drop 94 = dktX2_init_4 := dk_seg dksX2_init_3 24 rfl rfl
theorem dksX2_init_5 : cX2_init.data.toList.drop 118 = dktX2_init_5 := dk_seg dksX2_init_4 24 rfl rfl
theorem dksX2_init_6 : cX2_init.data.toList.drop 142 = dktX2_init_6 := dk_seg dksX2_init_5 24 rfl rfl
theorem dksX2_init_7 : cX2_init.data.toList.drop 164 = dktX2_init_7 := dk_seg dksX2_init_6 22 rfl rfl
theorem dksX2_init_8 : cX2_init.data.toList.drop 188 = dktX2_init_8 := dk_seg dksX2_init_7 24 rfl rfl
theorem dksX2_init_9 : cX2_init.data.toList.drop 212 = dktX2_init_9 := dk_seg dksX2_init_8 24 rfl rfl
theorem dksX2_init_10 : cX2_init.data.toList.drop 236 = dktX2_init_10 := dk_seg dksX2_init_9 24 rfl rfl
theorem dksX2_init_11 : cX2_init.data.toList.drop 260 = dktX2_init_11 := dk_seg dksX2_init_10 24 rfl rfl
theorem dksX2_init_12 : cX2_init.data.toList.drop 280 = dktX2_init_12 := dk_seg dksX2_init_11 20 rfl rfl
theorem dksX2_init_13 : cX2_init.data.toList.drop 304 = dktX2_init_13 := dk_seg dksX2_init_12 24 rfl rfl
theorem dksX2_init_14 : cX2_init.data.toList.drop 327 = dktX2_init_14 := dk_seg dksX2_init_13 23 rfl rfl
theorem dksX2_init_15 : cX2_init.data.toList.drop 351 = dktX2_init_15 := dk_seg dksX2_init_14 24 rfl rfl
theorem dX2_init_0 : decode cX2_init 0 = .ok (.aload_n 0, 1) := dk_42 (dk_at dksX2_init_0 0 rfl rfl)
theorem dX2_init_1 : decode cX2_init 1 = .ok (.aload_n 1, 1) := dk_43 (dk_at dksX2_init_0 1 rfl rfl)
theorem dX2_init_2 : decode cX2_init 2 = .ok (.putfield 3, 3) := dk_181 0 3 (dk_at dksX2_init_0 2 rfl rfl)
theorem dX2_init_5 : decode cX2_init 5 = .ok (.aload_n 0, 1) := dk_42 (dk_at dksX2_init_0 5 rfl rfl)
theorem dX2_init_6 : decode cX2_init 6 = .ok (.invokespecial 9, 3) := dk_183 0 9 (dk_at dksX2_init_0 6 rfl rfl)
theorem dX2_init_9 : decode cX2_init 9 = .ok (.aload_n 0, 1) := dk_42 (dk_at dksX2_init_0 9 rfl rfl)
theorem dX2_init_10 : decode cX2_init 10 = .ok (.bipush 6, 2) := dk_16 6 (dk_at dksX2_init_0 10 rfl rfl)
theorem dX2_init_12 : decode cX2_init 12 = .ok (.newarray .int, 2) := dk_188_10 (dk_at dksX2_init_0 12 rfl rfl)
theorem dX2_init_14 : decode cX2_init 14 = .ok (.putfield 15, 3) := dk_181 0 15 (dk_at dksX2_init_0 14 rfl rfl)
theorem dX2_init_17 : decode cX2_init 17 = .ok (.aload_n 0, 1) := dk_42 (dk_at dksX2_init_0 17 rfl rfl)
theorem dX2_init_18 : decode cX2_init 18 = .ok (.bipush 8, 2) := dk_16 8 (dk_at dksX2_init_0 18 rfl rfl)
theorem dX2_init_20 : decode cX2_init 20 = .ok (.newarray .int, 2) := dk_188_10 (dk_at dksX2_init_0 20 rfl rfl)
theorem dX2_init_22 : decode cX2_init 22 = .ok (.putfield 19, 3) := dk_181 0 19 (dk_at dksX2_init_1 0 rfl rfl)
theorem dX2_init_25 : decode cX2_init 25 = .ok (.aload_n 0, 1) := dk_42 (dk_at dksX2_init_1 3 rfl rfl)
theorem dX2_init_26 : decode cX2_init 26 = .ok (.bipush 8, 2) := dk_16 8 (dk_at dksX2_init_1 4 rfl rfl)
theorem dX2_init_28 : decode cX2_init 28 = .ok (.newarray .int, 2) := dk_188_10 (dk_at dksX2_init_1 6 rfl rfl)
theorem dX2_init_30 : decode cX2_init 30 = .ok (.putfield 22, 3) := dk_181 0 22 (dk_at dksX2_init_1 8 rfl rfl)
theorem dX2_init_33 : decode cX2_init 33 = .ok (.aload_n 0, 1) := dk_42 (dk_at dksX2_init_1 11 rfl rfl)
theorem dX2_init_34 : decode cX2_init 34 = .ok (.bipush 8, 2) := dk_16 8 (dk_at dksX2_init_1 12 rfl rfl)
theorem dX2_init_36 : decode cX2_init 36 = .ok (.newarray .int, 2) := dk_188_10 (dk_at dksX2_init_1 14 rfl rfl)
theorem dX2_init_38 : decode cX2_init 38 = .ok (.putfield 25, 3) := dk_181 0 25 (dk_at dksX2_init_1 16 rfl rfl)
theorem dX2_init_41 : decode cX2_init 41 = .ok (.aload_n 0, 1) := dk_42 (dk_at dksX2_init_1 19 rfl rfl)
theorem dX2_init_42 : decode cX2_init 42 = .ok (.bipush 8, 2) := dk_16 8 (dk_at dksX2_init_1 20 rfl rfl)
theorem dX2_init_44 : decode cX2_init 44 = .ok (.newarray .int, 2) := dk_188_10 (dk_at dksX2_init_1 22 rfl rfl)
theorem dX2_init_46 : decode cX2_init 46 = .ok (.putfield 28, 3) := dk_181 0 28 (dk_at dksX2_init_2 0 rfl rfl)
theorem dX2_init_49 : decode cX2_init 49 = .ok (.aload_n 0, 1) := dk_42 (dk_at dksX2_init_2 3 rfl rfl)
theorem dX2_init_50 : decode cX2_init 50 = .ok (.bipush 8, 2) := dk_16 8 (dk_at dksX2_init_2 4 rfl rfl)
theorem dX2_init_52 : decode cX2_init 52 = .ok (.newarray .int, 2) := dk_188_10 (dk_at dksX2_init_2 6 rfl rfl)
theorem dX2_init_54 : decode cX2_init 54 = .ok (.putfield 31, 3) := dk_181 0 31 (dk_at dksX2_init_2 8 rfl rfl)
theorem dX2_init_57 : decode cX2_init 57 = .ok (.aload_n 0, 1) := dk_42 (dk_at dksX2_init_2 11 rfl rfl)
theorem dX2_init_58 : decode cX2_init 58 = .ok (.bipush 8, 2) := dk_16 8 (dk_at dksX2_init_2 12 rfl rfl)
theorem dX2_init_60 : decode cX2_init 60 = .ok (.newarray .int, 2) := dk_188_10 (dk_at dksX2_init_2 14 rfl rfl)
theorem dX2_init_62 : decode cX2_init 62 = .ok (.putfield 34, 3) := dk_181 0 34 (dk_at dksX2_init_2 16 rfl rfl)
theorem dX2_init_65 : decode cX2_init 65 = .ok (.aload_n 0, 1) := dk_42 (dk_at dksX2_init_2 19 rfl rfl)
theorem dX2_init_66 : decode cX2_init 66 = .ok (.bipush 48, 2) := dk_16 48 (dk_at dksX2_init_2 20 rfl rfl)
theorem dX2_init_68 : decode cX2_init 68 = .ok (.newarray .int, 2) := dk_188_10 (dk_at dksX2_init_2 22 rfl rfl)
theorem dX2_init_70 : decode cX2_init 70 = .ok (.putfield 37, 3) := dk_181 0 37 (dk_at dksX2_init_3 0 rfl rfl)
theorem dX2_init_73 : decode cX2_init 73 = .ok (.aload_n 0, 1) := dk_42 (dk_at dksX2_init_3 3 rfl rfl)
theorem dX2_init_74 : decode cX2_init 74 = .ok (.bipush 10, 2) := dk_16 10 (dk_at dksX2_init_3 4 rfl rfl)
theorem dX2_init_76 : decode cX2_init 76 = .ok (.newarray .int, 2) := dk_188_10 (dk_at dksX2_init_3 6 rfl rfl)
theorem dX2_init_78 : decode cX2_init 78 = .ok (.putfield 40, 3) := dk_181 0 40 (dk_at dksX2_init_3 8 rfl rfl)
theorem dX2_init_81 : decode cX2_init 81 = .ok (.aload_n 0, 1) := dk_42 (dk_at dksX2_init_3 11 rfl rfl)
theorem dX2_init_82 : decode cX2_init 82 = .ok (.bipush 10, 2) := dk_16 10 (dk_at dksX2_init_3 12 rfl rfl)
theorem dX2_init_84 : decode cX2_init 84 = .ok (.newarray .int, 2) := dk_188_10 (dk_at dksX2_init_3 14 rfl rfl)
theorem dX2_init_86 : decode cX2_init 86 = .ok (.putfield 43, 3) := dk_181 0 43 (dk_at dksX2_init_3 16 rfl rfl)
theorem dX2_init_89 : decode cX2_init 89 = .ok (.aload_n 0, 1) := dk_42 (dk_at dksX2_init_3 19 rfl rfl)
theorem dX2_init_90 : decode cX2_init 90 = .ok (.bipush 8, 2) := dk_16 8 (dk_at dksX2_init_3 20 rfl rfl)
theorem dX2_init_92 : decode cX2_init 92 = .ok (.newarray .int, 2) := dk_188_10 (dk_at dksX2_init_3 22 rfl rfl)
theorem dX2_init_94 : decode cX2_init 94 = .ok (.putfield 46, 3) := dk_181 0 46 (dk_at dksX2_init_4 0 rfl rfl)
theorem dX2_init_97 : decode cX2_init 97 = .ok (.aload_n 0, 1) := dk_42 (dk_at dksX2_init_4 3 rfl rfl)
theorem dX2_init_98 : decode cX2_init 98 = .ok (.bipush 10, 2) := dk_16 10 (dk_at dksX2_init_4 4 rfl rfl)
theorem dX2_init_100 : decode cX2_init 100 = .ok (.newarray .int, 2) := dk_188_10 (dk_at dksX2_init_4 6 rfl rfl)
theorem dX2_init_102 : decode cX2_init 102 = .ok (.putfield 49, 3) := dk_181 0 49 (dk_at dksX2_init_4 8 rfl rfl)
theorem dX2_init_105 : decode cX2_init 105 = .ok (.aload_n 0, 1) := dk_42 (dk_at dksX2_init_4 11 rfl rfl)
theorem dX2_init_106 : decode cX2_init 106 = .ok (.bipush 10, 2) := dk_16 10 (dk_at dksX2_init_4 12 rfl rfl)
theorem dX2_init_108 : decode cX2_init 108 = .ok (.newarray .boolean, 2) := dk_188_4 (dk_at dksX2_init_4 14 rfl rfl)
theorem dX2_init_110 : decode cX2_init 110 = .ok (.putfield 52, 3) := dk_181 0 52 (dk_at dksX2_init_4 16 rfl rfl)
theorem dX2_init_113 : decode cX2_init 113 = .ok (.aload_n 0, 1) := dk_42 (dk_at dksX2_init_4 19 rfl rfl)
theorem dX2_init_114 : decode cX2_init 114 = .ok (.bipush 8, 2) := dk_16 8 (dk_at dksX2_init_4 20 rfl rfl)
theorem dX2_init_116 : decode cX2_init 116 = .ok (.newarray .boolean, 2) := dk_188_4 (dk_at dksX2_init_4 22 rfl rfl)
theorem dX2_init_118 : decode cX2_init 118 = .ok (.putfield 56, 3) := dk_181 0 56 (dk_at dksX2_init_5 0 rfl rfl)
theorem dX2_init_121 : decode cX2_init 121 = .ok (.aload_n 0, 1) := dk_42 (dk_at dksX2_init_5 3 rfl rfl)
theorem dX2_init_122 : decode cX2_init 122 = .ok (.bipush 8, 2) := dk_16 8 (dk_at dksX2_init_5 4 rfl rfl)
theorem dX2_init_124 : decode cX2_init 124 = .ok (.newarray .boolean, 2) := dk_188_4 (dk_at dksX2_init_5 6 rfl rfl)
theorem dX2_init_126 : decode cX2_init 126 = .ok (.putfield 59, 3) := dk_181 0 59 (dk_at dksX2_init_5 8 rfl rfl)
theorem dX2_init_129 : decode cX2_init 129 = .ok (.aload_n 0, 1) := dk_42 (dk_at dksX2_init_5 11 rfl rfl)
theorem dX2_init_130 : decode cX2_init 130 = .ok (.new 62, 3) := dk_187 0 62 (dk_at dksX2_init_5 12 rfl rfl)
theorem dX2_init_133 : decode cX2_init 133 = .ok (.dup, 1) := dk_89 (dk_at dksX2_init_5 15 rfl rfl)
theorem dX2_init_134 : decode cX2_init 134 = .ok (.iconst 2, 1) := dk_5 (dk_at dksX2_init_5 16 rfl rfl)
theorem dX2_init_135 : decode cX2_init 135 = .ok (.invokespecial 64, 3) := dk_183 0 64 (dk_at dksX2_init_5 17 rfl rfl)
theorem dX2_init_138 : decode cX2_init 138 = .ok (.putfield 67, 3) := dk_181 0 67 (dk_at dksX2_init_5 20 rfl rfl)
theorem dX2_init_141 : decode cX2_init 141 = .ok (.aload_n 0, 1) := dk_42 (dk_at dksX2_init_5 23 rfl rfl)
theorem dX2_init_142 : decode cX2_init 142 = .ok (.new 62, 3) := dk_187 0 62 (dk_at dksX2_init_6 0 rfl rfl)
theorem dX2_init_145 : decode cX2_init 145 = .ok (.dup, 1) := dk_89 (dk_at dksX2_init_6 3 rfl rfl)
theorem dX2_init_146 : decode cX2_init 146 = .ok (.iconst 2, 1) := dk_5 (dk_at dksX2_init_6 4 rfl rfl)
theorem dX2_init_147 : decode cX2_init 147 = .ok (.invokespecial 64, 3) := dk_183 0 64 (dk_at dksX2_init_6 5 rfl rfl)
theorem dX2_init_150 : decode cX2_init 150 = .ok (.putfield 71, 3) := dk_181 0 71 (dk_at dksX2_init_6 8 rfl rfl)
theorem dX2_init_153 : decode cX2_init 153 = .ok (.getstatic 74, 3) := dk_178 0 74 (dk_at dksX2_init_6 11 rfl rfl)
theorem dX2_init_156 : decode cX2_init 156 = .ok (.iconst 0, 1) := dk_3 (dk_at dksX2_init_6 14 rfl rfl)
theorem dX2_init_157 : decode cX2_init 157 = .ok (.aload_n 0, 1) := dk_42 (dk_at dksX2_init_6 15 rfl rfl)
theorem dX2_init_158 : decode cX2_init 158 = .ok (.getfield 15, 3) := dk_180 0 15 (dk_at dksX2_init_6 16 rfl rfl)
theorem dX2_init_161 : decode cX2_init 161 = .ok (.iconst 0, 1) := dk_3 (dk_at dksX2_init_6 19 rfl rfl)
theorem dX2_init_162 : decode cX2_init 162 = .ok (.bipush 6, 2) := dk_16 6 (dk_at dksX2_init_6 20 rfl rfl)
theorem dX2_init_164 : decode cX2_init 164 = .ok (.invokestatic 77, 3) := dk_184 0 77 (dk_at dksX2_init_7 0 rfl rfl)
theorem dX2_init_167 : decode cX2_init 167 = .ok (.iconst 0, 1) := dk_3 (dk_at dksX2_init_7 3 rfl rfl)
theorem dX2_init_168 : decode cX2_init 168 = .ok (.istore_n 2, 1) := dk_61 (dk_at dksX2_init_7 4 rfl rfl)
theorem dX2_init_169 : decode cX2_init 169 = .ok (.iload_n 2, 1) := dk_28 (dk_at dksX2_init_7 5 rfl rfl)
theorem dX2_init_170 : decode cX2_init 170 = .ok (.bipush 8, 2) := dk_16 8 (dk_at dksX2_init_7 6 rfl rfl)
theorem dX2_init_172 : decode cX2_init 172 = .ok (.if_icmp .ge 16, 3) := dk_162 0 16 (dk_at dksX2_init_7 8 rfl rfl)
theorem dX2_init_175 : decode cX2_init 175 = .ok (.aload_n 0, 1) := dk_42 (dk_at dksX2_init_7 11 rfl rfl)
theorem dX2_init_176 : decode cX2_init 176 = .ok (.getfield 19, 3) := dk_180 0 19 (dk_at dksX2_init_7 12 rfl rfl)
theorem dX2_init_179 : decode cX2_init 179 = .ok (.iload_n 2, 1) := dk_28 (dk_at dksX2_init_7 15 rfl rfl)
theorem dX2_init_180 : decode cX2_init 180 = .ok (.iconst (-1), 1) := dk_2 (dk_at dksX2_init_7 16 rfl rfl)
theorem dX2_init_181 : decode cX2_init 181 = .ok (.iastore, 1) := dk_79 (dk_at dksX2_init_7 17 rfl rfl)
theorem dX2_init_182 : decode cX2_init 182 = .ok (.iinc 2 1, 3) := dk_132 2 1 (dk_at dksX2_init_7 18 rfl rfl)
theorem dX2_init_185 : decode cX2_init 185 = .ok (.goto (-16), 3) := dk_167 255 240 (dk_at dksX2_init_7 21 rfl rfl)
theorem dX2_init_188 : decode cX2_init 188 = .ok (.iconst 0, 1) := dk_3 (dk_at dksX2_init_8 0 rfl rfl)
theorem dX2_init_189 : decode cX2_init 189 = .ok (.istore_n 2, 1) := dk_61 (dk_at dksX2_init_8 1 rfl rfl)
theorem dX2_init_190 : decode cX2_init 190 = .ok (.iload_n 2, 1) := dk_28 (dk_at dksX2_init_8 2 rfl rfl)
theorem dX2_init_191 : decode cX2_init 191 = .ok (.bipush 10, 2) := dk_16 10 (dk_at dksX2_init_8 3 rfl rfl)
theorem dX2_init_193 : decode cX2_init 193 = .ok (.if_icmp .ge 16, 3) := dk_162 0 16 (dk_at dksX2_init_8 5 rfl rfl)
theorem dX2_init_196 : decode cX2_init 196 = .ok (.aload_n 0, 1) := dk_42 (dk_at dksX2_init_8 8 rfl rfl)
theorem dX2_init_197 : decode cX2_init 197 = .ok (.getfield 43, 3) := dk_180 0 43 (dk_at dksX2_init_8 9 rfl rfl)
theorem dX2_init_200 : decode cX2_init 200 = .ok (.iload_n 2, 1) := dk_28 (dk_at dksX2_init_8 12 rfl rfl)
theorem dX2_init_201 : decode cX2_init 201 = .ok (.iconst (-1), 1) := dk_2 (dk_at dksX2_init_8 13 rfl rfl)
theorem dX2_init_202 : decode cX2_init 202 = .ok (.iastore, 1) := dk_79 (dk_at dksX2_init_8 14 rfl rfl)
theorem dX2_init_203 : decode cX2_init 203 = .ok (.iinc 2 1, 3) := dk_132 2 1 (dk_at dksX2_init_8 15 rfl rfl)
theorem dX2_init_206 : decode cX2_init 206 = .ok (.goto (-16), 3) := dk_167 255 240 (dk_at dksX2_init_8 18 rfl rfl)
theorem dX2_init_209 : decode cX2_init 209 = .ok (.aload_n 0, 1) := dk_42 (dk_at dksX2_init_8 21 rfl rfl)
theorem dX2_init_210 : decode cX2_init 210 = .ok (.bipush 6, 2) := dk_16 6 (dk_at dksX2_init_8 22 rfl rfl)
theorem dX2_init_212 : decode cX2_init 212 = .ok (.anewarray 83, 3) := dk_189 0 83 (dk_at dksX2_init_9 0 rfl rfl)
theorem dX2_init_215 : decode cX2_init 215 = .ok (.dup, 1) := dk_89 (dk_at dksX2_init_9 3 rfl rfl)
theorem dX2_init_216 : decode cX2_init 216 = .ok (.iconst 0, 1) := dk_3 (dk_at dksX2_init_9 4 rfl rfl)
theorem dX2_init_217 : decode cX2_init 217 = .ok (.aload_n 0, 1) := dk_42 (dk_at dksX2_init_9 5 rfl rfl)
theorem dX2_init_218 : decode cX2_init 218 = .ok (.invokedynamic 85, 5) := by decide +kernel
theorem dX2_init_223 : decode cX2_init 223 = .ok (.aastore, 1) := dk_83 (dk_at dksX2_init_9 11 rfl rfl)
theorem dX2_init_224 : decode cX2_init 224 = .ok (.dup, 1) := dk_89 (dk_at dksX2_init_9 12 rfl rfl)
theorem dX2_init_225 : decode cX2_init 225 = .ok (.iconst 1, 1) := dk_4 (dk_at dksX2_init_9 13 rfl rfl)
theorem dX2_init_226 : decode cX2_init 226 = .ok (.aload_n 0, 1) := dk_42 (dk_at dksX2_init_9 14 rfl rfl)
theorem dX2_init_227 : decode cX2_init 227 = .ok (.invokedynamic 89, 5) := by decide +kernel
theorem dX2_init_232 : decode cX2_init 232 = .ok (.aastore, 1) := dk_83 (dk_at dksX2_init_9 20 rfl rfl)
theorem dX2_init_233 : decode cX2_init 233 = .ok (.dup, 1) := dk_89 (dk_at dksX2_init_9 21 rfl rfl)
theorem dX2_init_234 : decode cX2_init 234 = .ok (.iconst 2, 1) := dk_5 (dk_at dksX2_init_9 22 rfl rfl)
theorem dX2_init_235 : decode cX2_init 235 = .ok (.aload_n 0, 1) := dk_42 (dk_at dksX2_init_9 23 rfl rfl)
theorem dX2_init_236 : decode cX2_init 236 = .ok (.invokedynamic 90, 5) := by decide +kernel
theorem dX2_init_241 : decode cX2_init 241 = .ok (.aastore, 1) := dk_83 (dk_at dksX2_init_10 5 rfl rfl)
theorem dX2_init_242 : decode cX2_init 242 = .ok (.dup, 1) := dk_89 (dk_at dksX2_init_10 6 rfl rfl)
theorem dX2_init_243 : decode cX2_init 243 = .ok (.iconst 3, 1) := dk_6 (dk_at dksX2_init_10 7 rfl rfl)
theorem dX2_init_244 : decode cX2_init 244 = .ok (.aload_n 0, 1) := dk_42 (dk_at dksX2_init_10 8 rfl rfl)
theorem dX2_init_245 : decode cX2_init 245 = .ok (.invokedynamic 91, 5) := by decide +kernel
theorem dX2_init_250 : decode cX2_init 250 = .ok (.aastore, 1) := dk_83 (dk_at dksX2_init_10 14 rfl rfl)
theorem dX2_init_251 : decode cX2_init 251 = .ok (.dup, 1) := dk_89 (dk_at dksX2_init_10 15 rfl rfl)
theorem dX2_init_252 : decode cX2_init 252 = .ok (.iconst 4, 1) := dk_7 (dk_at dksX2_init_10 16 rfl rfl)
theorem dX2_init_253 : decode cX2_init 253 = .ok (.aload_n 0, 1) := dk_42 (dk_at dksX2_init_10 17 rfl rfl)
theorem dX2_init_254 : decode cX2_init 254 = .ok (.invokedynamic 92, 5) := by decide +kernel
theorem dX2_init_259 : decode cX2_init 259 = .ok (.aastore, 1) := dk_83 (dk_at dksX2_init_10 23 rfl rfl)
theorem dX2_init_260 : decode cX2_init 260 = .ok (.dup, 1) := dk_89 (dk_at dksX2_init_11 0 rfl rfl)
theorem dX2_init_261 : decode cX2_init 261 = .ok (.iconst 5, 1) := dk_8 (dk_at dksX2_init_11 1 rfl rfl)
theorem dX2_init_262 : decode cX2_init 262 = .ok (.aload_n 0, 1) := dk_42 (dk_at dksX2_init_11 2 rfl rfl)
theorem dX2_init_263 : decode cX2_init 263 = .ok (.invokedynamic 93, 5) := by decide +kernel
theorem dX2_init_268 : decode cX2_init 268 = .ok (.aastore, 1) := dk_83 (dk_at dksX2_init_11 8 rfl rfl)
theorem dX2_init_269 : decode cX2_init 269 = .ok (.putfield 94, 3) := dk_181 0 94 (dk_at dksX2_init_11 9 rfl rfl)
theorem dX2_init_272 : decode cX2_init 272 = .ok (.aload_n 0, 1) := dk_42 (dk_at dksX2_init_11 12 rfl rfl)
theorem dX2_init_273 : decode cX2_init 273 = .ok (.iconst 3, 1) := dk_6 (dk_at dksX2_init_11 13 rfl rfl)
theorem dX2_init_274 : decode cX2_init 274 = .ok (.anewarray 98, 3) := dk_189 0 98 (dk_at dksX2_init_11 14 rfl rfl)
theorem dX2_init_277 : decode cX2_init 277 = .ok (.dup, 1) := dk_89 (dk_at dksX2_init_11 17 rfl rfl)
theorem dX2_init_278 : decode cX2_init 278 = .ok (.iconst 0, 1) := dk_3 (dk_at dksX2_init_11 18 rfl rfl)
theorem dX2_init_279 : decode cX2_init 279 = .ok (.aload_n 0, 1) := dk_42 (dk_at dksX2_init_11 19 rfl rfl)
theorem dX2_init_280 : decode cX2_init 280 = .ok (.invokedynamic 100, 5) := by decide +kernel
theorem dX2_init_285 : decode cX2_init 285 = .ok (.invokestatic 104, 3) := dk_184 0 104 (dk_at dksX2_init_12 5 rfl rfl)
theorem dX2_init_288 : decode cX2_init 288 = .ok (.aastore, 1) := dk_83 (dk_at dksX2_init_12 8 rfl rfl)
theorem dX2_init_289 : decode cX2_init 289 = .ok (.dup, 1) := dk_89 (dk_at dksX2_init_12 9 rfl rfl)
theorem dX2_init_290 : decode cX2_init 290 = .ok (.iconst 1, 1) := dk_4 (dk_at dksX2_init_12 10 rfl rfl)
theorem dX2_init_291 : decode cX2_init 291 = .ok (.aload_n 0, 1) := dk_42 (dk_at dksX2_init_12 11 rfl rfl)
theorem dX2_init_292 : decode cX2_init 292 = .ok (.invokedynamic 108, 5) := by decide +kernel
theorem dX2_init_297 : decode cX2_init 297 = .ok (.invokestatic 104, 3) := dk_184 0 104 (dk_at dksX2_init_12 17 rfl rfl)
theorem dX2_init_300 : decode cX2_init 300 = .ok (.aastore, 1) := dk_83 (dk_at dksX2_init_12 20 rfl rfl)
theorem dX2_init_301 : decode cX2_init 301 = .ok (.dup, 1) := dk_89 (dk_at dksX2_init_12 21 rfl rfl)
theorem dX2_init_302 : decode cX2_init 302 = .ok (.iconst 2, 1) := dk_5 (dk_at dksX2_init_12 22 rfl rfl)
theorem dX2_init_303 : decode cX2_init 303 = .ok (.aload_n 0, 1) := dk_42 (dk_at dksX2_init_12 23 rfl rfl)
theorem dX2_init_304 : decode cX2_init 304 = .ok (.invokedynamic 109, 5) := by decide +kernel
theorem dX2_init_309 : decode cX2_init 309 = .ok (.invokestatic 104, 3) := dk_184 0 104 (dk_at dksX2_init_13 5 rfl rfl)
theorem dX2_init_312 : decode cX2_init 312 = .ok (.aastore, 1) := dk_83 (dk_at dksX2_init_13 8 rfl rfl)
theorem dX2_init_313 : decode cX2_init 313 = .ok (.invokestatic 110, 3) := dk_184 0 110 (dk_at dksX2_init_13 9 rfl rfl)
theorem dX2_init_316 : decode cX2_init 316 = .ok (.putfield 114, 3) := dk_181 0 114 (dk_at dksX2_init_13 12 rfl rfl)
theorem dX2_init_319 : decode cX2_init 319 = .ok (.aload_n 0, 1) := dk_42 (dk_at dksX2_init_13 15 rfl rfl)
theorem dX2_init_320 : decode cX2_init 320 = .ok (.iconst 3, 1) := dk_6 (dk_at dksX2_init_13 16 rfl rfl)
theorem dX2_init_321 : decode cX2_init 321 = .ok (.anewarray 98, 3) := dk_189 0 98 (dk_at dksX2_init_13 17 rfl rfl)
theorem dX2_init_324 : decode cX2_init 324 = .ok (.dup, 1) := dk_89 (dk_at dksX2_init_13 20 rfl rfl)
theorem dX2_init_325 : decode cX2_init 325 = .ok (.iconst 0, 1) := dk_3 (dk_at dksX2_init_13 21 rfl rfl)
theorem dX2_init_326 : decode cX2_init 326 = .ok (.aload_n 0, 1) := dk_42 (dk_at dksX2_init_13 22 rfl rfl)
theorem dX2_init_327 : decode cX2_init 327 = .ok (.invokedynamic 118, 5) := by decide +kernel
theorem dX2_init_332 : decode cX2_init 332 = .ok (.invokestatic 119, 3) := dk_184 0 119 (dk_at dksX2_init_14 5 rfl rfl)
theorem dX2_init_335 : decode cX2_init 335 = .ok (.aastore, 1) := dk_83 (dk_at dksX2_init_14 8 rfl rfl)
theorem dX2_init_336 : decode cX2_init 336 = .ok (.dup, 1) := dk_89 (dk_at dksX2_init_14 9 rfl rfl)
theorem dX2_init_337 : decode cX2_init 337 = .ok (.iconst 1, 1) := dk_4 (dk_at dksX2_init_14 10 rfl rfl)
theorem dX2_init_338 : decode cX2_init 338 = .ok (.aload_n 0, 1) := dk_42 (dk_at dksX2_init_14 11 rfl rfl)
theorem dX2_init_339 : decode cX2_init 339 = .ok (.invokedynamic 123, 5) := by decide +kernel
theorem dX2_init_344 : decode cX2_init 344 = .ok (.invokestatic 119, 3) := dk_184 0 119 (dk_at dksX2_init_14 17 rfl rfl)
theorem dX2_init_347 : decode cX2_init 347 = .ok (.aastore, 1) := dk_83 (dk_at dksX2_init_14 20 rfl rfl)
theorem dX2_init_348 : decode cX2_init 348 = .ok (.dup, 1) := dk_89 (dk_at dksX2_init_14 21 rfl rfl)
theorem dX2_init_349 : decode cX2_init 349 = .ok (.iconst 2, 1) := dk_5 (dk_at dksX2_init_14 22 rfl rfl)
theorem dX2_init_350 : decode cX2_init 350 = .ok (.aload_n 0, 1) := dk_42 (dk_at dksX2_init_14 23 rfl rfl)
theorem dX2_init_351 : decode cX2_init 351 = .ok (.getfield 114, 3) := dk_180 0 114 (dk_at dksX2_init_15 0 rfl rfl)
theorem dX2_init_354 : decode cX2_init 354 = .ok (.aastore, 1) := dk_83 (dk_at dksX2_init_15 3 rfl rfl)
theorem dX2_init_355 : decode cX2_init 355 = .ok (.invokestatic 110, 3) := dk_184 0 110 (dk_at dksX2_init_15 4 rfl rfl)
theorem dX2_init_358 : decode cX2_init 358 = .ok (.putfield 124, 3) := dk_181 0 124 (dk_at dksX2_init_15 7 rfl rfl)
theorem dX2_init_361 : decode cX2_init 361 = .ok (.return_, 1) := dk_177 (dk_at dksX2_init_15 10 rfl rfl)
abbrev cX2_lambda_new_0 : ByteArray := prog_10_method_49_code
def yX2_lambda_new_0 : MethodName := ⟨RX2, "lambda$new$0", "(I)Z"⟩
def dkwX2_lambda_new_0_0 : List UInt8 := [42, 180, 0, 56, 42, 180, 1, 25, 51, 172]
abbrev dktX2_lambda_new_0_0 : List UInt8 := dkwX2_lambda_new_0_0 ++ []
theorem dksX2_lambda_new_0_0 : cX2_lambda_new_0.data.toList.drop 0 = dktX2_lambda_new_0_0 := by decide +kernel
theorem dX2_lambda_new_0_0 : decode cX2_lambda_new_0 0 = .ok (.aload_n 0, 1) := dk_42 (dk_at dksX2_lambda_new_0_0 0 rfl rfl)
theorem dX2_lambda_new_0_1 : decode cX2_lambda_new_0 1 = .ok (.getfield 56, 3) := dk_180 0 56 (dk_at dksX2_lambda_new_0_0 1 rfl rfl)
theorem dX2_lambda_new_0_4 : decode cX2_lambda_new_0 4 = .ok (.aload_n 0, 1) := dk_42 (dk_at dksX2_lambda_new_0_0 4 rfl rfl)
theorem dX2_lambda_new_0_5 : decode cX2_lambda_new_0 5 = .ok (.getfield 281, 3) := dk_180 1 25 (dk_at dksX2_lambda_new_0_0 5 rfl rfl)
theorem dX2_lambda_new_0_8 : decode cX2_lambda_new_0 8 = .ok (.baload, 1) := dk_51 (dk_at dksX2_lambda_new_0_0 8 rfl rfl)
theorem dX2_lambda_new_0_9 : decode cX2_lambda_new_0 9 = .ok (.ireturn, 1) := dk_172 (dk_at dksX2_lambda_new_0_0 9 rfl rfl)
abbrev cX2_lambda_new_1 : ByteArray := prog_10_method_48_code
def yX2_lambda_new_1 : MethodName := ⟨RX2, "lambda$new$1", "(I)Z"⟩
def dkwX2_lambda_new_1_0 : List UInt8 := [42, 180, 0, 25, 42, 180, 1, 25, 46, 158, 0, 7, 4, 167, 0, 4, 3, 172]
abbrev dktX2_lambda_new_1_0 : List UInt8 := dkwX2_lambda_new_1_0 ++ []
theorem dksX2_lambda_new_1_0 : cX2_lambda_new_1.data.toList.drop 0 = dktX2_lambda_new_1_0 := by decide +kernel
theorem dX2_lambda_new_1_0 : decode cX2_lambda_new_1 0 = .ok (.aload_n 0, 1) := dk_42 (dk_at dksX2_lambda_new_1_0 0 rfl rfl)
theorem dX2_lambda_new_1_1 : decode cX2_lambda_new_1 1 = .ok (.getfield 25, 3) := dk_180 0 25 (dk_at dksX2_lambda_new_1_0 1 rfl rfl)
theorem dX2_lambda_new_1_4 : decode cX2_lambda_new_1 4 = .ok (.aload_n 0, 1) := dk_42 (dk_at dksX2_lambda_new_1_0 4 rfl rfl)
theorem dX2_lambda_new_1_5 : decode cX2_lambda_new_1 5 = .ok (.getfield 281, 3) := dk_180 1 25 (dk_at dksX2_lambda_new_1_0 5 rfl rfl)
theorem dX2_lambda_new_1_8 : decode cX2_lambda_new_1 8 = .ok (.iaload, 1) := dk_46 (dk_at dksX2_lambda_new_1_0 8 rfl rfl)
theorem dX2_lambda_new_1_9 : decode cX2_lambda_new_1 9 = .ok (.ifCond .le 7, 3) := dk_158 0 7 (dk_at dksX2_lambda_new_1_0 9 rfl rfl)
theorem dX2_lambda_new_1_12 : decode cX2_lambda_new_1 12 = .ok (.iconst 1, 1) := dk_4 (dk_at dksX2_lambda_new_1_0 12 rfl rfl)
theorem dX2_lambda_new_1_13 : decode cX2_lambda_new_1 13 = .ok (.goto 4, 3) := dk_167 0 4 (dk_at dksX2_lambda_new_1_0 13 rfl rfl)
theorem dX2_lambda_new_1_16 : decode cX2_lambda_new_1 16 = .ok (.iconst 0, 1) := dk_3 (dk_at dksX2_lambda_new_1_0 16 rfl rfl)
theorem dX2_lambda_new_1_17 : decode cX2_lambda_new_1 17 = .ok (.ireturn, 1) := dk_172 (dk_at dksX2_lambda_new_1_0 17 rfl rfl)
abbrev cX2_lambda_new_2 : ByteArray := prog_10_method_47_code
def yX2_lambda_new_2 : MethodName := ⟨RX2, "lambda$new$2", "(I)Z"⟩
def dkwX2_lambda_new_2_0 : List UInt8 := [42, 27, 182, 1, 72, 154, 0, 7, 4, 167, 0, 4, 3, 172]
abbrev dktX2_lambda_new_2_0 : List UInt8 := dkwX2_lambda_new_2_0 ++ []
theorem dksX2_lambda_new_2_0 : cX2_lambda_new_2.data.toList.drop 0 = dktX2_lambda_new_2_0 := by decide +kernel
theorem dX2_lambda_new_2_0 : decode cX2_lambda_new_2 0 = .ok (.aload_n 0, 1) := dk_42 (dk_at dksX2_lambda_new_2_0 0 rfl rfl)
theorem dX2_lambda_new_2_1 : decode cX2_lambda_new_2 1 = .ok (.iload_n 1, 1) := dk_27 (dk_at dksX2_lambda_new_2_0 1 rfl rfl)
theorem dX2_lambda_new_2_2 : decode cX2_lambda_new_2 2 = .ok (.invokevirtual 328, 3) := dk_182 1 72 (dk_at dksX2_lambda_new_2_0 2 rfl rfl)
theorem dX2_lambda_new_2_5 : decode cX2_lambda_new_2 5 = .ok (.ifCond .ne 7, 3) := dk_154 0 7 (dk_at dksX2_lambda_new_2_0 5 rfl rfl)
theorem dX2_lambda_new_2_8 : decode cX2_lambda_new_2 8 = .ok (.iconst 1, 1) := dk_4 (dk_at dksX2_lambda_new_2_0 8 rfl rfl)
theorem dX2_lambda_new_2_9 : decode cX2_lambda_new_2 9 = .ok (.goto 4, 3) := dk_167 0 4 (dk_at dksX2_lambda_new_2_0 9 rfl rfl)
theorem dX2_lambda_new_2_12 : decode cX2_lambda_new_2 12 = .ok (.iconst 0, 1) := dk_3 (dk_at dksX2_lambda_new_2_0 12 rfl rfl)
theorem dX2_lambda_new_2_13 : decode cX2_lambda_new_2 13 = .ok (.ireturn, 1) := dk_172 (dk_at dksX2_lambda_new_2_0 13 rfl rfl)
abbrev cX2_isFree : ByteArray := prog_10_method_5_code
def yX2_isFree : MethodName := ⟨RX2, "isFree", "(I)Z"⟩
def dkwX2_isFree_1 : List UInt8 := [180, 0, 52, 27, 51, 154, 0, 7, 4, 167, 0, 4, 3, 172]
abbrev dktX2_isFree_1 : List UInt8 := dkwX2_isFree_1 ++ []
def dkwX2_isFree_0 : List UInt8 := [42, 27, 182, 0, 153, 156, 0, 29, 42, 180, 0, 40, 27, 46, 42, 180, 0, 138, 163, 0, 16, 42]
abbrev dktX2_isFree_0 : List UInt8 := dkwX2_isFree_0 ++ dktX2_isFree_1
theorem dksX2_isFree_0 : cX2_isFree.data.toList.drop 0 = dktX2_isFree_0 := by decide +kernel
theorem dksX2_isFree_1 : cX2_isFree.data.toList.drop 22 = dktX2_isFree_1 := dk_seg dksX2_isFree_0 22 rfl rfl
theorem dX2_isFree_0 : decode cX2_isFree 0 = .ok (.aload_n 0, 1) := dk_42 (dk_at dksX2_isFree_0 0 rfl rfl)
theorem dX2_isFree_1 : decode cX2_isFree 1 = .ok (.iload_n 1, 1) := dk_27 (dk_at dksX2_isFree_0 1 rfl rfl)
theorem dX2_isFree_2 : decode cX2_isFree 2 = .ok (.invokevirtual 153, 3) := dk_182 0 153 (dk_at dksX2_isFree_0 2 rfl rfl)
theorem dX2_isFree_5 : decode cX2_isFree 5 = .ok (.ifCond .ge 29, 3) := dk_156 0 29 (dk_at dksX2_isFree_0 5 rfl rfl)
theorem dX2_isFree_8 : decode cX2_isFree 8 = .ok (.aload_n 0, 1) := dk_42 (dk_at dksX2_isFree_0 8 rfl rfl)
theorem dX2_isFree_9 : decode cX2_isFree 9 = .ok (.getfield 40, 3) := dk_180 0 40 (dk_at dksX2_isFree_0 9 rfl rfl)
theorem dX2_isFree_12 : decode cX2_isFree 12 = .ok (.iload_n 1, 1) := dk_27 (dk_at dksX2_isFree_0 12 rfl rfl)
theorem dX2_isFree_13 : decode cX2_isFree 13 = .ok (.iaload, 1) := dk_46 (dk_at dksX2_isFree_0 13 rfl rfl)
theorem dX2_isFree_14 : decode cX2_isFree 14 = .ok (.aload_n 0, 1) := dk_42 (dk_at dksX2_isFree_0 14 rfl rfl)
theorem dX2_isFree_15 : decode cX2_isFree 15 = .ok (.getfield 138, 3) := dk_180 0 138 (dk_at dksX2_isFree_0 15 rfl rfl)
theorem dX2_isFree_18 : decode cX2_isFree 18 = .ok (.if_icmp .gt 16, 3) := dk_163 0 16 (dk_at dksX2_isFree_0 18 rfl rfl)
theorem dX2_isFree_21 : decode cX2_isFree 21 = .ok (.aload_n 0, 1) := dk_42 (dk_at dksX2_isFree_0 21 rfl rfl)
theorem dX2_isFree_22 : decode cX2_isFree 22 = .ok (.getfield 52, 3) := dk_180 0 52 (dk_at dksX2_isFree_1 0 rfl rfl)
theorem dX2_isFree_25 : decode cX2_isFree 25 = .ok (.iload_n 1, 1) := dk_27 (dk_at dksX2_isFree_1 3 rfl rfl)
theorem dX2_isFree_26 : decode cX2_isFree 26 = .ok (.baload, 1) := dk_51 (dk_at dksX2_isFree_1 4 rfl rfl)
theorem dX2_isFree_27 : decode cX2_isFree 27 = .ok (.ifCond .ne 7, 3) := dk_154 0 7 (dk_at dksX2_isFree_1 5 rfl rfl)
theorem dX2_isFree_30 : decode cX2_isFree 30 = .ok (.iconst 1, 1) := dk_4 (dk_at dksX2_isFree_1 8 rfl rfl)
theorem dX2_isFree_31 : decode cX2_isFree 31 = .ok (.goto 4, 3) := dk_167 0 4 (dk_at dksX2_isFree_1 9 rfl rfl)
theorem dX2_isFree_34 : decode cX2_isFree 34 = .ok (.iconst 0, 1) := dk_3 (dk_at dksX2_isFree_1 12 rfl rfl)
theorem dX2_isFree_35 : decode cX2_isFree 35 = .ok (.ireturn, 1) := dk_172 (dk_at dksX2_isFree_1 13 rfl rfl)
abbrev cX2_whoIn : ByteArray := prog_10_method_4_code
def yX2_whoIn : MethodName := ⟨RX2, "whoIn", "(I)I"⟩
def dkwX2_whoIn_1 : List UInt8 := [160, 0, 5, 28, 172, 132, 2, 1, 167, 255, 227, 2, 172]
abbrev dktX2_whoIn_1 : List UInt8 := dkwX2_whoIn_1 ++ []
def dkwX2_whoIn_0 : List UInt8 := [3, 61, 28, 42, 180, 0, 3, 180, 0, 146, 182, 0, 149, 162, 0, 21, 42, 180, 0, 19, 28, 46, 27]
abbrev dktX2_whoIn_0 : List UInt8 := dkwX2_whoIn_0 ++ dktX2_whoIn_1
theorem dksX2_whoIn_0 : cX2_whoIn.data.toList.drop 0 = dktX2_whoIn_0 := by decide +kernel
theorem dksX2_whoIn_1 : cX2_whoIn.data.toList.drop 23 = dktX2_whoIn_1 := dk_seg dksX2_whoIn_0 23 rfl rfl
theorem dX2_whoIn_0 : decode cX2_whoIn 0 = .ok (.iconst 0, 1) := dk_3 (dk_at dksX2_whoIn_0 0 rfl rfl)
theorem dX2_whoIn_1 : decode cX2_whoIn 1 = .ok (.istore_n 2, 1) := dk_61 (dk_at dksX2_whoIn_0 1 rfl rfl)
theorem dX2_whoIn_2 : decode cX2_whoIn 2 = .ok (.iload_n 2, 1) := dk_28 (dk_at dksX2_whoIn_0 2 rfl rfl)
theorem dX2_whoIn_3 : decode cX2_whoIn 3 = .ok (.aload_n 0, 1) := dk_42 (dk_at dksX2_whoIn_0 3 rfl rfl)
theorem dX2_whoIn_4 : decode cX2_whoIn 4 = .ok (.getfield 3, 3) := dk_180 0 3 (dk_at dksX2_whoIn_0 4 rfl rfl)
theorem dX2_whoIn_7 : decode cX2_whoIn 7 = .ok (.getfield 146, 3) := dk_180 0 146 (dk_at dksX2_whoIn_0 7 rfl rfl)
theorem dX2_whoIn_10 : decode cX2_whoIn 10 = .ok (.invokevirtual 149, 3) := dk_182 0 149 (dk_at dksX2_whoIn_0 10 rfl rfl)
theorem dX2_whoIn_13 : decode cX2_whoIn 13 = .ok (.if_icmp .ge 21, 3) := dk_162 0 21 (dk_at dksX2_whoIn_0 13 rfl rfl)
theorem dX2_whoIn_16 : decode cX2_whoIn 16 = .ok (.aload_n 0, 1) := dk_42 (dk_at dksX2_whoIn_0 16 rfl rfl)
theorem dX2_whoIn_17 : decode cX2_whoIn 17 = .ok (.getfield 19, 3) := dk_180 0 19 (dk_at dksX2_whoIn_0 17 rfl rfl)
theorem dX2_whoIn_20 : decode cX2_whoIn 20 = .ok (.iload_n 2, 1) := dk_28 (dk_at dksX2_whoIn_0 20 rfl rfl)
theorem dX2_whoIn_21 : decode cX2_whoIn 21 = .ok (.iaload, 1) := dk_46 (dk_at dksX2_whoIn_0 21 rfl rfl)
theorem dX2_whoIn_22 : decode cX2_whoIn 22 = .ok (.iload_n 1, 1) := dk_27 (dk_at dksX2_whoIn_0 22 rfl rfl)
theorem dX2_whoIn_23 : decode cX2_whoIn 23 = .ok (.if_icmp .ne 5, 3) := dk_160 0 5 (dk_at dksX2_whoIn_1 0 rfl rfl)
theorem dX2_whoIn_26 : decode cX2_whoIn 26 = .ok (.iload_n 2, 1) := dk_28 (dk_at dksX2_whoIn_1 3 rfl rfl)
theorem dX2_whoIn_27 : decode cX2_whoIn 27 = .ok (.ireturn, 1) := dk_172 (dk_at dksX2_whoIn_1 4 rfl rfl)
theorem dX2_whoIn_28 : decode cX2_whoIn 28 = .ok (.iinc 2 1, 3) := dk_132 2 1 (dk_at dksX2_whoIn_1 5 rfl rfl)
theorem dX2_whoIn_31 : decode cX2_whoIn 31 = .ok (.goto (-29), 3) := dk_167 255 227 (dk_at dksX2_whoIn_1 8 rfl rfl)
theorem dX2_whoIn_34 : decode cX2_whoIn 34 = .ok (.iconst (-1), 1) := dk_2 (dk_at dksX2_whoIn_1 11 rfl rfl)
theorem dX2_whoIn_35 : decode cX2_whoIn 35 = .ok (.ireturn, 1) := dk_172 (dk_at dksX2_whoIn_1 12 rfl rfl)
abbrev cX2_lambda_new_3 : ByteArray := prog_10_method_46_code
def yX2_lambda_new_3 : MethodName := ⟨RX2, "lambda$new$3", "(I)Z"⟩
def dkwX2_lambda_new_3_0 : List UInt8 := [42, 42, 180, 1, 25, 27, 182, 0, 187, 154, 0, 7, 4, 167, 0, 4, 3, 172]
abbrev dktX2_lambda_new_3_0 : List UInt8 := dkwX2_lambda_new_3_0 ++ []
theorem dksX2_lambda_new_3_0 : cX2_lambda_new_3.data.toList.drop 0 = dktX2_lambda_new_3_0 := by decide +kernel
theorem dX2_lambda_new_3_0 : decode cX2_lambda_new_3 0 = .ok (.aload_n 0, 1) := dk_42 (dk_at dksX2_lambda_new_3_0 0 rfl rfl)
theorem dX2_lambda_new_3_1 : decode cX2_lambda_new_3 1 = .ok (.aload_n 0, 1) := dk_42 (dk_at dksX2_lambda_new_3_0 1 rfl rfl)
theorem dX2_lambda_new_3_2 : decode cX2_lambda_new_3 2 = .ok (.getfield 281, 3) := dk_180 1 25 (dk_at dksX2_lambda_new_3_0 2 rfl rfl)
theorem dX2_lambda_new_3_5 : decode cX2_lambda_new_3 5 = .ok (.iload_n 1, 1) := dk_27 (dk_at dksX2_lambda_new_3_0 5 rfl rfl)
theorem dX2_lambda_new_3_6 : decode cX2_lambda_new_3 6 = .ok (.invokevirtual 187, 3) := dk_182 0 187 (dk_at dksX2_lambda_new_3_0 6 rfl rfl)
theorem dX2_lambda_new_3_9 : decode cX2_lambda_new_3 9 = .ok (.ifCond .ne 7, 3) := dk_154 0 7 (dk_at dksX2_lambda_new_3_0 9 rfl rfl)
theorem dX2_lambda_new_3_12 : decode cX2_lambda_new_3 12 = .ok (.iconst 1, 1) := dk_4 (dk_at dksX2_lambda_new_3_0 12 rfl rfl)
theorem dX2_lambda_new_3_13 : decode cX2_lambda_new_3 13 = .ok (.goto 4, 3) := dk_167 0 4 (dk_at dksX2_lambda_new_3_0 13 rfl rfl)
theorem dX2_lambda_new_3_16 : decode cX2_lambda_new_3 16 = .ok (.iconst 0, 1) := dk_3 (dk_at dksX2_lambda_new_3_0 16 rfl rfl)
theorem dX2_lambda_new_3_17 : decode cX2_lambda_new_3 17 = .ok (.ireturn, 1) := dk_172 (dk_at dksX2_lambda_new_3_0 17 rfl rfl)
abbrev cX2_isFitting : ByteArray := prog_10_method_7_code
def yX2_isFitting : MethodName := ⟨RX2, "isFitting", "(II)Z"⟩
def dkwX2_isFitting_1 : List UInt8 := [172]
abbrev dktX2_isFitting_1 : List UInt8 := dkwX2_isFitting_1 ++ []
def dkwX2_isFitting_0 : List UInt8 := [42, 180, 0, 3, 28, 182, 0, 157, 180, 0, 161, 42, 180, 0, 46, 27, 46, 100, 133, 9, 10, 184, 0, 166]
abbrev dktX2_isFitting_0 : List UInt8 := dkwX2_isFitting_0 ++ dktX2_isFitting_1
theorem dksX2_isFitting_0 : cX2_isFitting.data.toList.drop 0 = dktX2_isFitting_0 := by decide +kernel
theorem dksX2_isFitting_1 : cX2_isFitting.data.toList.drop 24 = dktX2_isFitting_1 := dk_seg dksX2_isFitting_0 24 rfl rfl
theorem dX2_isFitting_0 : decode cX2_isFitting 0 = .ok (.aload_n 0, 1) := dk_42 (dk_at dksX2_isFitting_0 0 rfl rfl)
theorem dX2_isFitting_1 : decode cX2_isFitting 1 = .ok (.getfield 3, 3) := dk_180 0 3 (dk_at dksX2_isFitting_0 1 rfl rfl)
theorem dX2_isFitting_4 : decode cX2_isFitting 4 = .ok (.iload_n 2, 1) := dk_28 (dk_at dksX2_isFitting_0 4 rfl rfl)
theorem dX2_isFitting_5 : decode cX2_isFitting 5 = .ok (.invokevirtual 157, 3) := dk_182 0 157 (dk_at dksX2_isFitting_0 5 rfl rfl)
theorem dX2_isFitting_8 : decode cX2_isFitting 8 = .ok (.getfield 161, 3) := dk_180 0 161 (dk_at dksX2_isFitting_0 8 rfl rfl)
theorem dX2_isFitting_11 : decode cX2_isFitting 11 = .ok (.aload_n 0, 1) := dk_42 (dk_at dksX2_isFitting_0 11 rfl rfl)
theorem dX2_isFitting_12 : decode cX2_isFitting 12 = .ok (.getfield 46, 3) := dk_180 0 46 (dk_at dksX2_isFitting_0 12 rfl rfl)
theorem dX2_isFitting_15 : decode cX2_isFitting 15 = .ok (.iload_n 1, 1) := dk_27 (dk_at dksX2_isFitting_0 15 rfl rfl)
theorem dX2_isFitting_16 : decode cX2_isFitting 16 = .ok (.iaload, 1) := dk_46 (dk_at dksX2_isFitting_0 16 rfl rfl)
theorem dX2_isFitting_17 : decode cX2_isFitting 17 = .ok (.isub, 1) := dk_100 (dk_at dksX2_isFitting_0 17 rfl rfl)
theorem dX2_isFitting_18 : decode cX2_isFitting 18 = .ok (.i2l, 1) := dk_133 (dk_at dksX2_isFitting_0 18 rfl rfl)
theorem dX2_isFitting_19 : decode cX2_isFitting 19 = .ok (.lconst 0, 1) := dk_9 (dk_at dksX2_isFitting_0 19 rfl rfl)
theorem dX2_isFitting_20 : decode cX2_isFitting 20 = .ok (.lconst 1, 1) := dk_10 (dk_at dksX2_isFitting_0 20 rfl rfl)
theorem dX2_isFitting_21 : decode cX2_isFitting 21 = .ok (.invokestatic 166, 3) := dk_184 0 166 (dk_at dksX2_isFitting_0 21 rfl rfl)
theorem dX2_isFitting_24 : decode cX2_isFitting 24 = .ok (.ireturn, 1) := dk_172 (dk_at dksX2_isFitting_1 0 rfl rfl)
abbrev cX2_lambda_new_4 : ByteArray := prog_10_method_45_code
def yX2_lambda_new_4 : MethodName := ⟨RX2, "lambda$new$4", "(I)Z"⟩
def dkwX2_lambda_new_4_0 : List UInt8 := [42, 42, 180, 1, 25, 27, 182, 1, 15, 172]
abbrev dktX2_lambda_new_4_0 : List UInt8 := dkwX2_lambda_new_4_0 ++ []
theorem dksX2_lambda_new_4_0 : cX2_lambda_new_4.data.toList.drop 0 = dktX2_lambda_new_4_0 := by decide +kernel
theorem dX2_lambda_new_4_0 : decode cX2_lambda_new_4 0 = .ok (.aload_n 0, 1) := dk_42 (dk_at dksX2_lambda_new_4_0 0 rfl rfl)
theorem dX2_lambda_new_4_1 : decode cX2_lambda_new_4 1 = .ok (.aload_n 0, 1) := dk_42 (dk_at dksX2_lambda_new_4_0 1 rfl rfl)
theorem dX2_lambda_new_4_2 : decode cX2_lambda_new_4 2 = .ok (.getfield 281, 3) := dk_180 1 25 (dk_at dksX2_lambda_new_4_0 2 rfl rfl)
theorem dX2_lambda_new_4_5 : decode cX2_lambda_new_4 5 = .ok (.iload_n 1, 1) := dk_27 (dk_at dksX2_lambda_new_4_0 5 rfl rfl)
theorem dX2_lambda_new_4_6 : decode cX2_lambda_new_4 6 = .ok (.invokevirtual 271, 3) := dk_182 1 15 (dk_at dksX2_lambda_new_4_0 6 rfl rfl)
theorem dX2_lambda_new_4_9 : decode cX2_lambda_new_4 9 = .ok (.ireturn, 1) := dk_172 (dk_at dksX2_lambda_new_4_0 9 rfl rfl)
abbrev cX2_bidsFor : ByteArray := prog_10_method_8_code
def yX2_bidsFor : MethodName := ⟨RX2, "bidsFor", "(II)Z"⟩
def dkwX2_bidsFor_0 : List UInt8 := [42, 180, 0, 31, 27, 46, 28, 122, 4, 126, 4, 160, 0, 7, 4, 167, 0, 4, 3, 172]
abbrev dktX2_bidsFor_0 : List UInt8 := dkwX2_bidsFor_0 ++ []
theorem dksX2_bidsFor_0 : cX2_bidsFor.data.toList.drop 0 = dktX2_bidsFor_0 := by decide +kernel
theorem dX2_bidsFor_0 : decode cX2_bidsFor 0 = .ok (.aload_n 0, 1) := dk_42 (dk_at dksX2_bidsFor_0 0 rfl rfl)
theorem dX2_bidsFor_1 : decode cX2_bidsFor 1 = .ok (.getfield 31, 3) := dk_180 0 31 (dk_at dksX2_bidsFor_0 1 rfl rfl)
theorem dX2_bidsFor_4 : decode cX2_bidsFor 4 = .ok (.iload_n 1, 1) := dk_27 (dk_at dksX2_bidsFor_0 4 rfl rfl)
theorem dX2_bidsFor_5 : decode cX2_bidsFor 5 = .ok (.iaload, 1) := dk_46 (dk_at dksX2_bidsFor_0 5 rfl rfl)
theorem dX2_bidsFor_6 : decode cX2_bidsFor 6 = .ok (.iload_n 2, 1) := dk_28 (dk_at dksX2_bidsFor_0 6 rfl rfl)
theorem dX2_bidsFor_7 : decode cX2_bidsFor 7 = .ok (.ishr, 1) := dk_122 (dk_at dksX2_bidsFor_0 7 rfl rfl)
theorem dX2_bidsFor_8 : decode cX2_bidsFor 8 = .ok (.iconst 1, 1) := dk_4 (dk_at dksX2_bidsFor_0 8 rfl rfl)
theorem dX2_bidsFor_9 : decode cX2_bidsFor 9 = .ok (.iand, 1) := dk_126 (dk_at dksX2_bidsFor_0 9 rfl rfl)
theorem dX2_bidsFor_10 : decode cX2_bidsFor 10 = .ok (.iconst 1, 1) := dk_4 (dk_at dksX2_bidsFor_0 10 rfl rfl)
theorem dX2_bidsFor_11 : decode cX2_bidsFor 11 = .ok (.if_icmp .ne 7, 3) := dk_160 0 7 (dk_at dksX2_bidsFor_0 11 rfl rfl)
theorem dX2_bidsFor_14 : decode cX2_bidsFor 14 = .ok (.iconst 1, 1) := dk_4 (dk_at dksX2_bidsFor_0 14 rfl rfl)
theorem dX2_bidsFor_15 : decode cX2_bidsFor 15 = .ok (.goto 4, 3) := dk_167 0 4 (dk_at dksX2_bidsFor_0 15 rfl rfl)
theorem dX2_bidsFor_18 : decode cX2_bidsFor 18 = .ok (.iconst 0, 1) := dk_3 (dk_at dksX2_bidsFor_0 18 rfl rfl)
theorem dX2_bidsFor_19 : decode cX2_bidsFor 19 = .ok (.ireturn, 1) := dk_172 (dk_at dksX2_bidsFor_0 19 rfl rfl)
abbrev cX2_lambda_new_5 : ByteArray := prog_10_method_44_code
def yX2_lambda_new_5 : MethodName := ⟨RX2, "lambda$new$5", "(I)Z"⟩
def dkwX2_lambda_new_5_0 : List UInt8 := [42, 42, 180, 1, 25, 182, 1, 43, 42, 180, 0, 15, 8, 46, 161, 0, 7, 4, 167, 0, 4, 3, 172]
abbrev dktX2_lambda_new_5_0 : List UInt8 := dkwX2_lambda_new_5_0 ++ []
theorem dksX2_lambda_new_5_0 : cX2_lambda_new_5.data.toList.drop 0 = dktX2_lambda_new_5_0 := by decide +kernel
theorem dX2_lambda_new_5_0 : decode cX2_lambda_new_5 0 = .ok (.aload_n 0, 1) := dk_42 (dk_at dksX2_lambda_new_5_0 0 rfl rfl)
theorem dX2_lambda_new_5_1 : decode cX2_lambda_new_5 1 = .ok (.aload_n 0, 1) := dk_42 (dk_at dksX2_lambda_new_5_0 1 rfl rfl)
theorem dX2_lambda_new_5_2 : decode cX2_lambda_new_5 2 = .ok (.getfield 281, 3) := dk_180 1 25 (dk_at dksX2_lambda_new_5_0 2 rfl rfl)
theorem dX2_lambda_new_5_5 : decode cX2_lambda_new_5 5 = .ok (.invokevirtual 299, 3) := dk_182 1 43 (dk_at dksX2_lambda_new_5_0 5 rfl rfl)
theorem dX2_lambda_new_5_8 : decode cX2_lambda_new_5 8 = .ok (.aload_n 0, 1) := dk_42 (dk_at dksX2_lambda_new_5_0 8 rfl rfl)
theorem dX2_lambda_new_5_9 : decode cX2_lambda_new_5 9 = .ok (.getfield 15, 3) := dk_180 0 15 (dk_at dksX2_lambda_new_5_0 9 rfl rfl)
theorem dX2_lambda_new_5_12 : decode cX2_lambda_new_5 12 = .ok (.iconst 5, 1) := dk_8 (dk_at dksX2_lambda_new_5_0 12 rfl rfl)
theorem dX2_lambda_new_5_13 : decode cX2_lambda_new_5 13 = .ok (.iaload, 1) := dk_46 (dk_at dksX2_lambda_new_5_0 13 rfl rfl)
theorem dX2_lambda_new_5_14 : decode cX2_lambda_new_5 14 = .ok (.if_icmp .lt 7, 3) := dk_161 0 7 (dk_at dksX2_lambda_new_5_0 14 rfl rfl)
theorem dX2_lambda_new_5_17 : decode cX2_lambda_new_5 17 = .ok (.iconst 1, 1) := dk_4 (dk_at dksX2_lambda_new_5_0 17 rfl rfl)
theorem dX2_lambda_new_5_18 : decode cX2_lambda_new_5 18 = .ok (.goto 4, 3) := dk_167 0 4 (dk_at dksX2_lambda_new_5_0 18 rfl rfl)
theorem dX2_lambda_new_5_21 : decode cX2_lambda_new_5 21 = .ok (.iconst 0, 1) := dk_3 (dk_at dksX2_lambda_new_5_0 21 rfl rfl)
theorem dX2_lambda_new_5_22 : decode cX2_lambda_new_5 22 = .ok (.ireturn, 1) := dk_172 (dk_at dksX2_lambda_new_5_0 22 rfl rfl)
abbrev cX2_bidMany : ByteArray := prog_10_method_9_code
def yX2_bidMany : MethodName := ⟨RX2, "bidMany", "(I)I"⟩
def dkwX2_bidMany_0 : List UInt8 := [42, 180, 0, 31, 27, 46, 184, 0, 170, 172]
abbrev dktX2_bidMany_0 : List UInt8 := dkwX2_bidMany_0 ++ []
theorem dksX2_bidMany_0 : cX2_bidMany.data.toList.drop 0 = dktX2_bidMany_0 := by decide +kernel
theorem dX2_bidMany_0 : decode cX2_bidMany 0 = .ok (.aload_n 0, 1) := dk_42 (dk_at dksX2_bidMany_0 0 rfl rfl)
theorem dX2_bidMany_1 : decode cX2_bidMany 1 = .ok (.getfield 31, 3) := dk_180 0 31 (dk_at dksX2_bidMany_0 1 rfl rfl)
theorem dX2_bidMany_4 : decode cX2_bidMany 4 = .ok (.iload_n 1, 1) := dk_27 (dk_at dksX2_bidMany_0 4 rfl rfl)
theorem dX2_bidMany_5 : decode cX2_bidMany 5 = .ok (.iaload, 1) := dk_46 (dk_at dksX2_bidMany_0 5 rfl rfl)
theorem dX2_bidMany_6 : decode cX2_bidMany 6 = .ok (.invokestatic 170, 3) := dk_184 0 170 (dk_at dksX2_bidMany_0 6 rfl rfl)
theorem dX2_bidMany_9 : decode cX2_bidMany 9 = .ok (.ireturn, 1) := dk_172 (dk_at dksX2_bidMany_0 9 rfl rfl)
abbrev cX2_bandThought : ByteArray := prog_10_method_16_code
def yX2_bandThought : MethodName := ⟨RX2, "bandThought", "(I)I"⟩
def dkwX2_bandThought_0 : List UInt8 := [42, 27, 182, 0, 202, 27, 42, 180, 0, 205, 160, 0, 10, 42, 180, 0, 208, 167, 0, 4, 3, 100, 172]
abbrev dktX2_bandThought_0 : List UInt8 := dkwX2_bandThought_0 ++ []
theorem dksX2_bandThought_0 : cX2_bandThought.data.toList.drop 0 = dktX2_bandThought_0 := by decide +kernel
theorem dX2_bandThought_0 : decode cX2_bandThought 0 = .ok (.aload_n 0, 1) := dk_42 (dk_at dksX2_bandThought_0 0 rfl rfl)
theorem dX2_bandThought_1 : decode cX2_bandThought 1 = .ok (.iload_n 1, 1) := dk_27 (dk_at dksX2_bandThought_0 1 rfl rfl)
theorem dX2_bandThought_2 : decode cX2_bandThought 2 = .ok (.invokevirtual 202, 3) := dk_182 0 202 (dk_at dksX2_bandThought_0 2 rfl rfl)
theorem dX2_bandThought_5 : decode cX2_bandThought 5 = .ok (.iload_n 1, 1) := dk_27 (dk_at dksX2_bandThought_0 5 rfl rfl)
theorem dX2_bandThought_6 : decode cX2_bandThought 6 = .ok (.aload_n 0, 1) := dk_42 (dk_at dksX2_bandThought_0 6 rfl rfl)
theorem dX2_bandThought_7 : decode cX2_bandThought 7 = .ok (.getfield 205, 3) := dk_180 0 205 (dk_at dksX2_bandThought_0 7 rfl rfl)
theorem dX2_bandThought_10 : decode cX2_bandThought 10 = .ok (.if_icmp .ne 10, 3) := dk_160 0 10 (dk_at dksX2_bandThought_0 10 rfl rfl)
theorem dX2_bandThought_13 : decode cX2_bandThought 13 = .ok (.aload_n 0, 1) := dk_42 (dk_at dksX2_bandThought_0 13 rfl rfl)
theorem dX2_bandThought_14 : decode cX2_bandThought 14 = .ok (.getfield 208, 3) := dk_180 0 208 (dk_at dksX2_bandThought_0 14 rfl rfl)
theorem dX2_bandThought_17 : decode cX2_bandThought 17 = .ok (.goto 4, 3) := dk_167 0 4 (dk_at dksX2_bandThought_0 17 rfl rfl)
theorem dX2_bandThought_20 : decode cX2_bandThought 20 = .ok (.iconst 0, 1) := dk_3 (dk_at dksX2_bandThought_0 20 rfl rfl)
theorem dX2_bandThought_21 : decode cX2_bandThought 21 = .ok (.isub, 1) := dk_100 (dk_at dksX2_bandThought_0 21 rfl rfl)
theorem dX2_bandThought_22 : decode cX2_bandThought 22 = .ok (.ireturn, 1) := dk_172 (dk_at dksX2_bandThought_0 22 rfl rfl)
abbrev cX2_bandNow : ByteArray := prog_10_method_17_code
def yX2_bandNow : MethodName := ⟨RX2, "bandNow", "(I)I"⟩
def dkwX2_bandNow_1 : List UInt8 := [100, 184, 0, 217, 172]
abbrev dktX2_bandNow_1 : List UInt8 := dkwX2_bandNow_1 ++ []
def dkwX2_bandNow_0 : List UInt8 := [4, 42, 180, 0, 3, 27, 182, 0, 193, 182, 0, 211, 42, 27, 182, 0, 214, 42, 180, 0, 15, 7, 46, 108]
abbrev dktX2_bandNow_0 : List UInt8 := dkwX2_bandNow_0 ++ dktX2_bandNow_1
theorem dksX2_bandNow_0 : cX2_bandNow.data.toList.drop 0 = dktX2_bandNow_0 := by decide +kernel
theorem dksX2_bandNow_1 : cX2_bandNow.data.toList.drop 24 = dktX2_bandNow_1 := dk_seg dksX2_bandNow_0 24 rfl rfl
theorem dX2_bandNow_0 : decode cX2_bandNow 0 = .ok (.iconst 1, 1) := dk_4 (dk_at dksX2_bandNow_0 0 rfl rfl)
theorem dX2_bandNow_1 : decode cX2_bandNow 1 = .ok (.aload_n 0, 1) := dk_42 (dk_at dksX2_bandNow_0 1 rfl rfl)
theorem dX2_bandNow_2 : decode cX2_bandNow 2 = .ok (.getfield 3, 3) := dk_180 0 3 (dk_at dksX2_bandNow_0 2 rfl rfl)
theorem dX2_bandNow_5 : decode cX2_bandNow 5 = .ok (.iload_n 1, 1) := dk_27 (dk_at dksX2_bandNow_0 5 rfl rfl)
theorem dX2_bandNow_6 : decode cX2_bandNow 6 = .ok (.invokevirtual 193, 3) := dk_182 0 193 (dk_at dksX2_bandNow_0 6 rfl rfl)
theorem dX2_bandNow_9 : decode cX2_bandNow 9 = .ok (.invokevirtual 211, 3) := dk_182 0 211 (dk_at dksX2_bandNow_0 9 rfl rfl)
theorem dX2_bandNow_12 : decode cX2_bandNow 12 = .ok (.aload_n 0, 1) := dk_42 (dk_at dksX2_bandNow_0 12 rfl rfl)
theorem dX2_bandNow_13 : decode cX2_bandNow 13 = .ok (.iload_n 1, 1) := dk_27 (dk_at dksX2_bandNow_0 13 rfl rfl)
theorem dX2_bandNow_14 : decode cX2_bandNow 14 = .ok (.invokevirtual 214, 3) := dk_182 0 214 (dk_at dksX2_bandNow_0 14 rfl rfl)
theorem dX2_bandNow_17 : decode cX2_bandNow 17 = .ok (.aload_n 0, 1) := dk_42 (dk_at dksX2_bandNow_0 17 rfl rfl)
theorem dX2_bandNow_18 : decode cX2_bandNow 18 = .ok (.getfield 15, 3) := dk_180 0 15 (dk_at dksX2_bandNow_0 18 rfl rfl)
theorem dX2_bandNow_21 : decode cX2_bandNow 21 = .ok (.iconst 4, 1) := dk_7 (dk_at dksX2_bandNow_0 21 rfl rfl)
theorem dX2_bandNow_22 : decode cX2_bandNow 22 = .ok (.iaload, 1) := dk_46 (dk_at dksX2_bandNow_0 22 rfl rfl)
theorem dX2_bandNow_23 : decode cX2_bandNow 23 = .ok (.idiv, 1) := dk_108 (dk_at dksX2_bandNow_0 23 rfl rfl)
theorem dX2_bandNow_24 : decode cX2_bandNow 24 = .ok (.isub, 1) := dk_100 (dk_at dksX2_bandNow_1 0 rfl rfl)
theorem dX2_bandNow_25 : decode cX2_bandNow 25 = .ok (.invokestatic 217, 3) := dk_184 0 217 (dk_at dksX2_bandNow_1 1 rfl rfl)
theorem dX2_bandNow_28 : decode cX2_bandNow 28 = .ok (.ireturn, 1) := dk_172 (dk_at dksX2_bandNow_1 4 rfl rfl)
abbrev cX2_waited : ByteArray := prog_10_method_18_code
def yX2_waited : MethodName := ⟨RX2, "waited", "(I)I"⟩
def dkwX2_waited_0 : List UInt8 := [17, 3, 232, 16, 7, 42, 180, 0, 138, 104, 96, 42, 180, 0, 3, 27, 182, 0, 193, 182, 0, 197, 100, 172]
abbrev dktX2_waited_0 : List UInt8 := dkwX2_waited_0 ++ []
theorem dksX2_waited_0 : cX2_waited.data.toList.drop 0 = dktX2_waited_0 := by decide +kernel
theorem dX2_waited_0 : decode cX2_waited 0 = .ok (.sipush 1000, 3) := dk_17 3 232 (dk_at dksX2_waited_0 0 rfl rfl)
theorem dX2_waited_3 : decode cX2_waited 3 = .ok (.bipush 7, 2) := dk_16 7 (dk_at dksX2_waited_0 3 rfl rfl)
theorem dX2_waited_5 : decode cX2_waited 5 = .ok (.aload_n 0, 1) := dk_42 (dk_at dksX2_waited_0 5 rfl rfl)
theorem dX2_waited_6 : decode cX2_waited 6 = .ok (.getfield 138, 3) := dk_180 0 138 (dk_at dksX2_waited_0 6 rfl rfl)
theorem dX2_waited_9 : decode cX2_waited 9 = .ok (.imul, 1) := dk_104 (dk_at dksX2_waited_0 9 rfl rfl)
theorem dX2_waited_10 : decode cX2_waited 10 = .ok (.iadd, 1) := dk_96 (dk_at dksX2_waited_0 10 rfl rfl)
theorem dX2_waited_11 : decode cX2_waited 11 = .ok (.aload_n 0, 1) := dk_42 (dk_at dksX2_waited_0 11 rfl rfl)
theorem dX2_waited_12 : decode cX2_waited 12 = .ok (.getfield 3, 3) := dk_180 0 3 (dk_at dksX2_waited_0 12 rfl rfl)
theorem dX2_waited_15 : decode cX2_waited 15 = .ok (.iload_n 1, 1) := dk_27 (dk_at dksX2_waited_0 15 rfl rfl)
theorem dX2_waited_16 : decode cX2_waited 16 = .ok (.invokevirtual 193, 3) := dk_182 0 193 (dk_at dksX2_waited_0 16 rfl rfl)
theorem dX2_waited_19 : decode cX2_waited 19 = .ok (.invokevirtual 197, 3) := dk_182 0 197 (dk_at dksX2_waited_0 19 rfl rfl)
theorem dX2_waited_22 : decode cX2_waited 22 = .ok (.isub, 1) := dk_100 (dk_at dksX2_waited_0 22 rfl rfl)
theorem dX2_waited_23 : decode cX2_waited 23 = .ok (.ireturn, 1) := dk_172 (dk_at dksX2_waited_0 23 rfl rfl)
abbrev cX2_dayOf : ByteArray := prog_10_method_15_code
def yX2_dayOf : MethodName := ⟨RX2, "dayOf", "(I)I"⟩
def dkwX2_dayOf_0 : List UInt8 := [42, 180, 0, 3, 27, 182, 0, 193, 182, 0, 197, 172]
abbrev dktX2_dayOf_0 : List UInt8 := dkwX2_dayOf_0 ++ []
theorem dksX2_dayOf_0 : cX2_dayOf.data.toList.drop 0 = dktX2_dayOf_0 := by decide +kernel
theorem dX2_dayOf_0 : decode cX2_dayOf 0 = .ok (.aload_n 0, 1) := dk_42 (dk_at dksX2_dayOf_0 0 rfl rfl)
theorem dX2_dayOf_1 : decode cX2_dayOf 1 = .ok (.getfield 3, 3) := dk_180 0 3 (dk_at dksX2_dayOf_0 1 rfl rfl)
theorem dX2_dayOf_4 : decode cX2_dayOf 4 = .ok (.iload_n 1, 1) := dk_27 (dk_at dksX2_dayOf_0 4 rfl rfl)
theorem dX2_dayOf_5 : decode cX2_dayOf 5 = .ok (.invokevirtual 193, 3) := dk_182 0 193 (dk_at dksX2_dayOf_0 5 rfl rfl)
theorem dX2_dayOf_8 : decode cX2_dayOf 8 = .ok (.invokevirtual 197, 3) := dk_182 0 197 (dk_at dksX2_dayOf_0 8 rfl rfl)
theorem dX2_dayOf_11 : decode cX2_dayOf 11 = .ok (.ireturn, 1) := dk_172 (dk_at dksX2_dayOf_0 11 rfl rfl)
abbrev cX2_numberOf : ByteArray := prog_10_method_14_code
def yX2_numberOf : MethodName := ⟨RX2, "numberOf", "(I)I"⟩
theorem dX2_numberOf_0 : decode cX2_numberOf 0 = .ok (.iload_n 1, 1) := by decide +kernel
theorem dX2_numberOf_1 : decode cX2_numberOf 1 = .ok (.ireturn, 1) := by decide +kernel
abbrev cX2_isTied : ByteArray := prog_10_method_24_code
def yX2_isTied : MethodName := ⟨RX2, "isTied", "(I)Z"⟩
def dkwX2_isTied_1 : List UInt8 := [167, 0, 4, 3, 172]
abbrev dktX2_isTied_1 : List UInt8 := dkwX2_isTied_1 ++ []
def dkwX2_isTied_0 : List UInt8 := [42, 42, 180, 0, 251, 182, 0, 254, 153, 0, 19, 42, 27, 42, 180, 0, 251, 182, 1, 1, 153, 0, 7, 4]
abbrev dktX2_isTied_0 : List UInt8 := dkwX2_isTied_0 ++ dktX2_isTied_1
theorem dksX2_isTied_0 : cX2_isTied.data.toList.drop 0 = dktX2_isTied_0 := by decide +kernel
theorem dksX2_isTied_1 : cX2_isTied.data.toList.drop 24 = dktX2_isTied_1 := dk_seg dksX2_isTied_0 24 rfl rfl
theorem dX2_isTied_0 : decode cX2_isTied 0 = .ok (.aload_n 0, 1) := dk_42 (dk_at dksX2_isTied_0 0 rfl rfl)
theorem dX2_isTied_1 : decode cX2_isTied 1 = .ok (.aload_n 0, 1) := dk_42 (dk_at dksX2_isTied_0 1 rfl rfl)
theorem dX2_isTied_2 : decode cX2_isTied 2 = .ok (.getfield 251, 3) := dk_180 0 251 (dk_at dksX2_isTied_0 2 rfl rfl)
theorem dX2_isTied_5 : decode cX2_isTied 5 = .ok (.invokevirtual 254, 3) := dk_182 0 254 (dk_at dksX2_isTied_0 5 rfl rfl)
theorem dX2_isTied_8 : decode cX2_isTied 8 = .ok (.ifCond .eq 19, 3) := dk_153 0 19 (dk_at dksX2_isTied_0 8 rfl rfl)
theorem dX2_isTied_11 : decode cX2_isTied 11 = .ok (.aload_n 0, 1) := dk_42 (dk_at dksX2_isTied_0 11 rfl rfl)
theorem dX2_isTied_12 : decode cX2_isTied 12 = .ok (.iload_n 1, 1) := dk_27 (dk_at dksX2_isTied_0 12 rfl rfl)
theorem dX2_isTied_13 : decode cX2_isTied 13 = .ok (.aload_n 0, 1) := dk_42 (dk_at dksX2_isTied_0 13 rfl rfl)
theorem dX2_isTied_14 : decode cX2_isTied 14 = .ok (.getfield 251, 3) := dk_180 0 251 (dk_at dksX2_isTied_0 14 rfl rfl)
theorem dX2_isTied_17 : decode cX2_isTied 17 = .ok (.invokevirtual 257, 3) := dk_182 1 1 (dk_at dksX2_isTied_0 17 rfl rfl)
theorem dX2_isTied_20 : decode cX2_isTied 20 = .ok (.ifCond .eq 7, 3) := dk_153 0 7 (dk_at dksX2_isTied_0 20 rfl rfl)
theorem dX2_isTied_23 : decode cX2_isTied 23 = .ok (.iconst 1, 1) := dk_4 (dk_at dksX2_isTied_0 23 rfl rfl)
theorem dX2_isTied_24 : decode cX2_isTied 24 = .ok (.goto 4, 3) := dk_167 0 4 (dk_at dksX2_isTied_1 0 rfl rfl)
theorem dX2_isTied_27 : decode cX2_isTied 27 = .ok (.iconst 0, 1) := dk_3 (dk_at dksX2_isTied_1 3 rfl rfl)
theorem dX2_isTied_28 : decode cX2_isTied 28 = .ok (.ireturn, 1) := dk_172 (dk_at dksX2_isTied_1 4 rfl rfl)
abbrev cX2_isLocalTurn : ByteArray := prog_10_method_20_code
def yX2_isLocalTurn : MethodName := ⟨RX2, "isLocalTurn", "(I)Z"⟩
def dkwX2_isLocalTurn_1 : List UInt8 := [4, 96, 42, 180, 0, 15, 5, 46, 112, 154, 0, 7, 4, 167, 0, 4, 3, 172]
abbrev dktX2_isLocalTurn_1 : List UInt8 := dkwX2_isLocalTurn_1 ++ []
def dkwX2_isLocalTurn_0 : List UInt8 := [42, 180, 0, 15, 5, 46, 158, 0, 34, 42, 42, 180, 0, 3, 27, 182, 0, 157, 180, 0, 231, 182, 0, 238]
abbrev dktX2_isLocalTurn_0 : List UInt8 := dkwX2_isLocalTurn_0 ++ dktX2_isLocalTurn_1
theorem dksX2_isLocalTurn_0 : cX2_isLocalTurn.data.toList.drop 0 = dktX2_isLocalTurn_0 := by decide +kernel
theorem dksX2_isLocalTurn_1 : cX2_isLocalTurn.data.toList.drop 24 = dktX2_isLocalTurn_1 := dk_seg dksX2_isLocalTurn_0 24 rfl rfl
theorem dX2_isLocalTurn_0 : decode cX2_isLocalTurn 0 = .ok (.aload_n 0, 1) := dk_42 (dk_at dksX2_isLocalTurn_0 0 rfl rfl)
theorem dX2_isLocalTurn_1 : decode cX2_isLocalTurn 1 = .ok (.getfield 15, 3) := dk_180 0 15 (dk_at dksX2_isLocalTurn_0 1 rfl rfl)
theorem dX2_isLocalTurn_4 : decode cX2_isLocalTurn 4 = .ok (.iconst 2, 1) := dk_5 (dk_at dksX2_isLocalTurn_0 4 rfl rfl)
theorem dX2_isLocalTurn_5 : decode cX2_isLocalTurn 5 = .ok (.iaload, 1) := dk_46 (dk_at dksX2_isLocalTurn_0 5 rfl rfl)
theorem dX2_isLocalTurn_6 : decode cX2_isLocalTurn 6 = .ok (.ifCond .le 34, 3) := dk_158 0 34 (dk_at dksX2_isLocalTurn_0 6 rfl rfl)
theorem dX2_isLocalTurn_9 : decode cX2_isLocalTurn 9 = .ok (.aload_n 0, 1) := dk_42 (dk_at dksX2_isLocalTurn_0 9 rfl rfl)
theorem dX2_isLocalTurn_10 : decode cX2_isLocalTurn 10 = .ok (.aload_n 0, 1) := dk_42 (dk_at dksX2_isLocalTurn_0 10 rfl rfl)
theorem dX2_isLocalTurn_11 : decode cX2_isLocalTurn 11 = .ok (.getfield 3, 3) := dk_180 0 3 (dk_at dksX2_isLocalTurn_0 11 rfl rfl)
theorem dX2_isLocalTurn_14 : decode cX2_isLocalTurn 14 = .ok (.iload_n 1, 1) := dk_27 (dk_at dksX2_isLocalTurn_0 14 rfl rfl)
theorem dX2_isLocalTurn_15 : decode cX2_isLocalTurn 15 = .ok (.invokevirtual 157, 3) := dk_182 0 157 (dk_at dksX2_isLocalTurn_0 15 rfl rfl)
theorem dX2_isLocalTurn_18 : decode cX2_isLocalTurn 18 = .ok (.getfield 231, 3) := dk_180 0 231 (dk_at dksX2_isLocalTurn_0 18 rfl rfl)
theorem dX2_isLocalTurn_21 : decode cX2_isLocalTurn 21 = .ok (.invokevirtual 238, 3) := dk_182 0 238 (dk_at dksX2_isLocalTurn_0 21 rfl rfl)
theorem dX2_isLocalTurn_24 : decode cX2_isLocalTurn 24 = .ok (.iconst 1, 1) := dk_4 (dk_at dksX2_isLocalTurn_1 0 rfl rfl)
theorem dX2_isLocalTurn_25 : decode cX2_isLocalTurn 25 = .ok (.iadd, 1) := dk_96 (dk_at dksX2_isLocalTurn_1 1 rfl rfl)
theorem dX2_isLocalTurn_26 : decode cX2_isLocalTurn 26 = .ok (.aload_n 0, 1) := dk_42 (dk_at dksX2_isLocalTurn_1 2 rfl rfl)
theorem dX2_isLocalTurn_27 : decode cX2_isLocalTurn 27 = .ok (.getfield 15, 3) := dk_180 0 15 (dk_at dksX2_isLocalTurn_1 3 rfl rfl)
theorem dX2_isLocalTurn_30 : decode cX2_isLocalTurn 30 = .ok (.iconst 2, 1) := dk_5 (dk_at dksX2_isLocalTurn_1 6 rfl rfl)
theorem dX2_isLocalTurn_31 : decode cX2_isLocalTurn 31 = .ok (.iaload, 1) := dk_46 (dk_at dksX2_isLocalTurn_1 7 rfl rfl)
theorem dX2_isLocalTurn_32 : decode cX2_isLocalTurn 32 = .ok (.irem, 1) := dk_112 (dk_at dksX2_isLocalTurn_1 8 rfl rfl)
theorem dX2_isLocalTurn_33 : decode cX2_isLocalTurn 33 = .ok (.ifCond .ne 7, 3) := dk_154 0 7 (dk_at dksX2_isLocalTurn_1 9 rfl rfl)
theorem dX2_isLocalTurn_36 : decode cX2_isLocalTurn 36 = .ok (.iconst 1, 1) := dk_4 (dk_at dksX2_isLocalTurn_1 12 rfl rfl)
theorem dX2_isLocalTurn_37 : decode cX2_isLocalTurn 37 = .ok (.goto 4, 3) := dk_167 0 4 (dk_at dksX2_isLocalTurn_1 13 rfl rfl)
theorem dX2_isLocalTurn_40 : decode cX2_isLocalTurn 40 = .ok (.iconst 0, 1) := dk_3 (dk_at dksX2_isLocalTurn_1 16 rfl rfl)
theorem dX2_isLocalTurn_41 : decode cX2_isLocalTurn 41 = .ok (.ireturn, 1) := dk_172 (dk_at dksX2_isLocalTurn_1 17 rfl rfl)
abbrev cX2_letsIn : ByteArray := prog_10_method_19_code
def yX2_letsIn : MethodName := ⟨RX2, "letsIn", "(I)I"⟩
def dkwX2_letsIn_2 : List UInt8 := [3, 184, 0, 234, 96, 61, 132, 3, 1, 167, 255, 203, 28, 172]
abbrev dktX2_letsIn_2 : List UInt8 := dkwX2_letsIn_2 ++ []
def dkwX2_letsIn_1 : List UInt8 := [29, 182, 0, 222, 192, 0, 226, 180, 0, 228, 182, 0, 157, 180, 0, 231, 27, 160, 0, 7, 4, 167, 0, 4]
abbrev dktX2_letsIn_1 : List UInt8 := dkwX2_letsIn_1 ++ dktX2_letsIn_2
def dkwX2_letsIn_0 : List UInt8 := [3, 61, 3, 62, 29, 42, 180, 0, 67, 182, 0, 149, 162, 0, 48, 28, 42, 180, 0, 3, 42, 180, 0, 67]
abbrev dktX2_letsIn_0 : List UInt8 := dkwX2_letsIn_0 ++ dktX2_letsIn_1
theorem dksX2_letsIn_0 : cX2_letsIn.data.toList.drop 0 = dktX2_letsIn_0 := by decide +kernel
theorem dksX2_letsIn_1 : cX2_letsIn.data.toList.drop 24 = dktX2_letsIn_1 := dk_seg dksX2_letsIn_0 24 rfl rfl
theorem dksX2_letsIn_2 : cX2_letsIn.data.toList.drop 48 = dktX2_letsIn_2 := dk_seg dksX2_letsIn_1 24 rfl rfl
theorem dX2_letsIn_0 : decode cX2_letsIn 0 = .ok (.iconst 0, 1) := dk_3 (dk_at dksX2_letsIn_0 0 rfl rfl)
theorem dX2_letsIn_1 : decode cX2_letsIn 1 = .ok (.istore_n 2, 1) := dk_61 (dk_at dksX2_letsIn_0 1 rfl rfl)
theorem dX2_letsIn_2 : decode cX2_letsIn 2 = .ok (.iconst 0, 1) := dk_3 (dk_at dksX2_letsIn_0 2 rfl rfl)
theorem dX2_letsIn_3 : decode cX2_letsIn 3 = .ok (.istore_n 3, 1) := dk_62 (dk_at dksX2_letsIn_0 3 rfl rfl)
theorem dX2_letsIn_4 : decode cX2_letsIn 4 = .ok (.iload_n 3, 1) := dk_29 (dk_at dksX2_letsIn_0 4 rfl rfl)
theorem dX2_letsIn_5 : decode cX2_letsIn 5 = .ok (.aload_n 0, 1) := dk_42 (dk_at dksX2_letsIn_0 5 rfl rfl)
theorem dX2_letsIn_6 : decode cX2_letsIn 6 = .ok (.getfield 67, 3) := dk_180 0 67 (dk_at dksX2_letsIn_0 6 rfl rfl)
theorem dX2_letsIn_9 : decode cX2_letsIn 9 = .ok (.invokevirtual 149, 3) := dk_182 0 149 (dk_at dksX2_letsIn_0 9 rfl rfl)
theorem dX2_letsIn_12 : decode cX2_letsIn 12 = .ok (.if_icmp .ge 48, 3) := dk_162 0 48 (dk_at dksX2_letsIn_0 12 rfl rfl)
theorem dX2_letsIn_15 : decode cX2_letsIn 15 = .ok (.iload_n 2, 1) := dk_28 (dk_at dksX2_letsIn_0 15 rfl rfl)
theorem dX2_letsIn_16 : decode cX2_letsIn 16 = .ok (.aload_n 0, 1) := dk_42 (dk_at dksX2_letsIn_0 16 rfl rfl)
theorem dX2_letsIn_17 : decode cX2_letsIn 17 = .ok (.getfield 3, 3) := dk_180 0 3 (dk_at dksX2_letsIn_0 17 rfl rfl)
theorem dX2_letsIn_20 : decode cX2_letsIn 20 = .ok (.aload_n 0, 1) := dk_42 (dk_at dksX2_letsIn_0 20 rfl rfl)
theorem dX2_letsIn_21 : decode cX2_letsIn 21 = .ok (.getfield 67, 3) := dk_180 0 67 (dk_at dksX2_letsIn_0 21 rfl rfl)
theorem dX2_letsIn_24 : decode cX2_letsIn 24 = .ok (.iload_n 3, 1) := dk_29 (dk_at dksX2_letsIn_1 0 rfl rfl)
theorem dX2_letsIn_25 : decode cX2_letsIn 25 = .ok (.invokevirtual 222, 3) := dk_182 0 222 (dk_at dksX2_letsIn_1 1 rfl rfl)
theorem dX2_letsIn_28 : decode cX2_letsIn 28 = .ok (.checkcast 226, 3) := dk_192 0 226 (dk_at dksX2_letsIn_1 4 rfl rfl)
theorem dX2_letsIn_31 : decode cX2_letsIn 31 = .ok (.getfield 228, 3) := dk_180 0 228 (dk_at dksX2_letsIn_1 7 rfl rfl)
theorem dX2_letsIn_34 : decode cX2_letsIn 34 = .ok (.invokevirtual 157, 3) := dk_182 0 157 (dk_at dksX2_letsIn_1 10 rfl rfl)
theorem dX2_letsIn_37 : decode cX2_letsIn 37 = .ok (.getfield 231, 3) := dk_180 0 231 (dk_at dksX2_letsIn_1 13 rfl rfl)
theorem dX2_letsIn_40 : decode cX2_letsIn 40 = .ok (.iload_n 1, 1) := dk_27 (dk_at dksX2_letsIn_1 16 rfl rfl)
theorem dX2_letsIn_41 : decode cX2_letsIn 41 = .ok (.if_icmp .ne 7, 3) := dk_160 0 7 (dk_at dksX2_letsIn_1 17 rfl rfl)
theorem dX2_letsIn_44 : decode cX2_letsIn 44 = .ok (.iconst 1, 1) := dk_4 (dk_at dksX2_letsIn_1 20 rfl rfl)
theorem dX2_letsIn_45 : decode cX2_letsIn 45 = .ok (.goto 4, 3) := dk_167 0 4 (dk_at dksX2_letsIn_1 21 rfl rfl)
theorem dX2_letsIn_48 : decode cX2_letsIn 48 = .ok (.iconst 0, 1) := dk_3 (dk_at dksX2_letsIn_2 0 rfl rfl)
theorem dX2_letsIn_49 : decode cX2_letsIn 49 = .ok (.invokestatic 234, 3) := dk_184 0 234 (dk_at dksX2_letsIn_2 1 rfl rfl)
theorem dX2_letsIn_52 : decode cX2_letsIn 52 = .ok (.iadd, 1) := dk_96 (dk_at dksX2_letsIn_2 4 rfl rfl)
theorem dX2_letsIn_53 : decode cX2_letsIn 53 = .ok (.istore_n 2, 1) := dk_61 (dk_at dksX2_letsIn_2 5 rfl rfl)
theorem dX2_letsIn_54 : decode cX2_letsIn 54 = .ok (.iinc 3 1, 3) := dk_132 3 1 (dk_at dksX2_letsIn_2 6 rfl rfl)
theorem dX2_letsIn_57 : decode cX2_letsIn 57 = .ok (.goto (-53), 3) := dk_167 255 203 (dk_at dksX2_letsIn_2 9 rfl rfl)
theorem dX2_letsIn_60 : decode cX2_letsIn 60 = .ok (.iload_n 2, 1) := dk_28 (dk_at dksX2_letsIn_2 12 rfl rfl)
theorem dX2_letsIn_61 : decode cX2_letsIn 61 = .ok (.ireturn, 1) := dk_172 (dk_at dksX2_letsIn_2 13 rfl rfl)
abbrev cX2_hasTie : ByteArray := prog_10_method_23_code
def yX2_hasTie : MethodName := ⟨RX2, "hasTie", "(II)Z"⟩
def dkwX2_hasTie_1 : List UInt8 := [160, 0, 7, 4, 167, 0, 4, 3, 172]
abbrev dktX2_hasTie_1 : List UInt8 := dkwX2_hasTie_1 ++ []
def dkwX2_hasTie_0 : List UInt8 := [42, 180, 0, 3, 27, 182, 0, 193, 182, 0, 248, 42, 180, 0, 3, 28, 182, 0, 157, 180, 0, 231]
abbrev dktX2_hasTie_0 : List UInt8 := dkwX2_hasTie_0 ++ dktX2_hasTie_1
theorem dksX2_hasTie_0 : cX2_hasTie.data.toList.drop 0 = dktX2_hasTie_0 := by decide +kernel
theorem dksX2_hasTie_1 : cX2_hasTie.data.toList.drop 22 = dktX2_hasTie_1 := dk_seg dksX2_hasTie_0 22 rfl rfl
theorem dX2_hasTie_0 : decode cX2_hasTie 0 = .ok (.aload_n 0, 1) := dk_42 (dk_at dksX2_hasTie_0 0 rfl rfl)
theorem dX2_hasTie_1 : decode cX2_hasTie 1 = .ok (.getfield 3, 3) := dk_180 0 3 (dk_at dksX2_hasTie_0 1 rfl rfl)
theorem dX2_hasTie_4 : decode cX2_hasTie 4 = .ok (.iload_n 1, 1) := dk_27 (dk_at dksX2_hasTie_0 4 rfl rfl)
theorem dX2_hasTie_5 : decode cX2_hasTie 5 = .ok (.invokevirtual 193, 3) := dk_182 0 193 (dk_at dksX2_hasTie_0 5 rfl rfl)
theorem dX2_hasTie_8 : decode cX2_hasTie 8 = .ok (.invokevirtual 248, 3) := dk_182 0 248 (dk_at dksX2_hasTie_0 8 rfl rfl)
theorem dX2_hasTie_11 : decode cX2_hasTie 11 = .ok (.aload_n 0, 1) := dk_42 (dk_at dksX2_hasTie_0 11 rfl rfl)
theorem dX2_hasTie_12 : decode cX2_hasTie 12 = .ok (.getfield 3, 3) := dk_180 0 3 (dk_at dksX2_hasTie_0 12 rfl rfl)
theorem dX2_hasTie_15 : decode cX2_hasTie 15 = .ok (.iload_n 2, 1) := dk_28 (dk_at dksX2_hasTie_0 15 rfl rfl)
theorem dX2_hasTie_16 : decode cX2_hasTie 16 = .ok (.invokevirtual 157, 3) := dk_182 0 157 (dk_at dksX2_hasTie_0 16 rfl rfl)
theorem dX2_hasTie_19 : decode cX2_hasTie 19 = .ok (.getfield 231, 3) := dk_180 0 231 (dk_at dksX2_hasTie_0 19 rfl rfl)
theorem dX2_hasTie_22 : decode cX2_hasTie 22 = .ok (.if_icmp .ne 7, 3) := dk_160 0 7 (dk_at dksX2_hasTie_1 0 rfl rfl)
theorem dX2_hasTie_25 : decode cX2_hasTie 25 = .ok (.iconst 1, 1) := dk_4 (dk_at dksX2_hasTie_1 3 rfl rfl)
theorem dX2_hasTie_26 : decode cX2_hasTie 26 = .ok (.goto 4, 3) := dk_167 0 4 (dk_at dksX2_hasTie_1 4 rfl rfl)
theorem dX2_hasTie_29 : decode cX2_hasTie 29 = .ok (.iconst 0, 1) := dk_3 (dk_at dksX2_hasTie_1 7 rfl rfl)
theorem dX2_hasTie_30 : decode cX2_hasTie 30 = .ok (.ireturn, 1) := dk_172 (dk_at dksX2_hasTie_1 8 rfl rfl)
abbrev cX2_isMoving : ByteArray := prog_10_method_25_code
def yX2_isMoving : MethodName := ⟨RX2, "isMoving", "(I)Z"⟩
def dkwX2_isMoving_0 : List UInt8 := [42, 182, 1, 4, 153, 0, 16, 42, 180, 0, 19, 27, 46, 155, 0, 7, 4, 167, 0, 4, 3, 172]
abbrev dktX2_isMoving_0 : List UInt8 := dkwX2_isMoving_0 ++ []
theorem dksX2_isMoving_0 : cX2_isMoving.data.toList.drop 0 = dktX2_isMoving_0 := by decide +kernel
theorem dX2_isMoving_0 : decode cX2_isMoving 0 = .ok (.aload_n 0, 1) := dk_42 (dk_at dksX2_isMoving_0 0 rfl rfl)
theorem dX2_isMoving_1 : decode cX2_isMoving 1 = .ok (.invokevirtual 260, 3) := dk_182 1 4 (dk_at dksX2_isMoving_0 1 rfl rfl)
theorem dX2_isMoving_4 : decode cX2_isMoving 4 = .ok (.ifCond .eq 16, 3) := dk_153 0 16 (dk_at dksX2_isMoving_0 4 rfl rfl)
theorem dX2_isMoving_7 : decode cX2_isMoving 7 = .ok (.aload_n 0, 1) := dk_42 (dk_at dksX2_isMoving_0 7 rfl rfl)
theorem dX2_isMoving_8 : decode cX2_isMoving 8 = .ok (.getfield 19, 3) := dk_180 0 19 (dk_at dksX2_isMoving_0 8 rfl rfl)
theorem dX2_isMoving_11 : decode cX2_isMoving 11 = .ok (.iload_n 1, 1) := dk_27 (dk_at dksX2_isMoving_0 11 rfl rfl)
theorem dX2_isMoving_12 : decode cX2_isMoving 12 = .ok (.iaload, 1) := dk_46 (dk_at dksX2_isMoving_0 12 rfl rfl)
theorem dX2_isMoving_13 : decode cX2_isMoving 13 = .ok (.ifCond .lt 7, 3) := dk_155 0 7 (dk_at dksX2_isMoving_0 13 rfl rfl)
theorem dX2_isMoving_16 : decode cX2_isMoving 16 = .ok (.iconst 1, 1) := dk_4 (dk_at dksX2_isMoving_0 16 rfl rfl)
theorem dX2_isMoving_17 : decode cX2_isMoving 17 = .ok (.goto 4, 3) := dk_167 0 4 (dk_at dksX2_isMoving_0 17 rfl rfl)
theorem dX2_isMoving_20 : decode cX2_isMoving 20 = .ok (.iconst 0, 1) := dk_3 (dk_at dksX2_isMoving_0 20 rfl rfl)
theorem dX2_isMoving_21 : decode cX2_isMoving 21 = .ok (.ireturn, 1) := dk_172 (dk_at dksX2_isMoving_0 21 rfl rfl)
abbrev cX2_isQuotaTurn : ByteArray := prog_10_method_22_code
def yX2_isQuotaTurn : MethodName := ⟨RX2, "isQuotaTurn", "()Z"⟩
def dkwX2_isQuotaTurn_1 : List UInt8 := [4, 167, 0, 4, 3, 172]
abbrev dktX2_isQuotaTurn_1 : List UInt8 := dkwX2_isQuotaTurn_1 ++ []
def dkwX2_isQuotaTurn_0 : List UInt8 := [16, 100, 42, 182, 0, 245, 104, 42, 180, 0, 15, 6, 46, 42, 180, 0, 67, 182, 0, 149, 104, 162, 0, 7]
abbrev dktX2_isQuotaTurn_0 : List UInt8 := dkwX2_isQuotaTurn_0 ++ dktX2_isQuotaTurn_1
theorem dksX2_isQuotaTurn_0 : cX2_isQuotaTurn.data.toList.drop 0 = dktX2_isQuotaTurn_0 := by decide +kernel
theorem dksX2_isQuotaTurn_1 : cX2_isQuotaTurn.data.toList.drop 24 = dktX2_isQuotaTurn_1 := dk_seg dksX2_isQuotaTurn_0 24 rfl rfl
theorem dX2_isQuotaTurn_0 : decode cX2_isQuotaTurn 0 = .ok (.bipush 100, 2) := dk_16 100 (dk_at dksX2_isQuotaTurn_0 0 rfl rfl)
theorem dX2_isQuotaTurn_2 : decode cX2_isQuotaTurn 2 = .ok (.aload_n 0, 1) := dk_42 (dk_at dksX2_isQuotaTurn_0 2 rfl rfl)
theorem dX2_isQuotaTurn_3 : decode cX2_isQuotaTurn 3 = .ok (.invokevirtual 245, 3) := dk_182 0 245 (dk_at dksX2_isQuotaTurn_0 3 rfl rfl)
theorem dX2_isQuotaTurn_6 : decode cX2_isQuotaTurn 6 = .ok (.imul, 1) := dk_104 (dk_at dksX2_isQuotaTurn_0 6 rfl rfl)
theorem dX2_isQuotaTurn_7 : decode cX2_isQuotaTurn 7 = .ok (.aload_n 0, 1) := dk_42 (dk_at dksX2_isQuotaTurn_0 7 rfl rfl)
theorem dX2_isQuotaTurn_8 : decode cX2_isQuotaTurn 8 = .ok (.getfield 15, 3) := dk_180 0 15 (dk_at dksX2_isQuotaTurn_0 8 rfl rfl)
theorem dX2_isQuotaTurn_11 : decode cX2_isQuotaTurn 11 = .ok (.iconst 3, 1) := dk_6 (dk_at dksX2_isQuotaTurn_0 11 rfl rfl)
theorem dX2_isQuotaTurn_12 : decode cX2_isQuotaTurn 12 = .ok (.iaload, 1) := dk_46 (dk_at dksX2_isQuotaTurn_0 12 rfl rfl)
theorem dX2_isQuotaTurn_13 : decode cX2_isQuotaTurn 13 = .ok (.aload_n 0, 1) := dk_42 (dk_at dksX2_isQuotaTurn_0 13 rfl rfl)
theorem dX2_isQuotaTurn_14 : decode cX2_isQuotaTurn 14 = .ok (.getfield 67, 3) := dk_180 0 67 (dk_at dksX2_isQuotaTurn_0 14 rfl rfl)
theorem dX2_isQuotaTurn_17 : decode cX2_isQuotaTurn 17 = .ok (.invokevirtual 149, 3) := dk_182 0 149 (dk_at dksX2_isQuotaTurn_0 17 rfl rfl)
theorem dX2_isQuotaTurn_20 : decode cX2_isQuotaTurn 20 = .ok (.imul, 1) := dk_104 (dk_at dksX2_isQuotaTurn_0 20 rfl rfl)
theorem dX2_isQuotaTurn_21 : decode cX2_isQuotaTurn 21 = .ok (.if_icmp .ge 7, 3) := dk_162 0 7 (dk_at dksX2_isQuotaTurn_0 21 rfl rfl)
theorem dX2_isQuotaTurn_24 : decode cX2_isQuotaTurn 24 = .ok (.iconst 1, 1) := dk_4 (dk_at dksX2_isQuotaTurn_1 0 rfl rfl)
theorem dX2_isQuotaTurn_25 : decode cX2_isQuotaTurn 25 = .ok (.goto 4, 3) := dk_167 0 4 (dk_at dksX2_isQuotaTurn_1 1 rfl rfl)
theorem dX2_isQuotaTurn_28 : decode cX2_isQuotaTurn 28 = .ok (.iconst 0, 1) := dk_3 (dk_at dksX2_isQuotaTurn_1 4 rfl rfl)
theorem dX2_isQuotaTurn_29 : decode cX2_isQuotaTurn 29 = .ok (.ireturn, 1) := dk_172 (dk_at dksX2_isQuotaTurn_1 5 rfl rfl)
abbrev cX2_movedMany : ByteArray := prog_10_method_21_code
def yX2_movedMany : MethodName := ⟨RX2, "movedMany", "()I"⟩
def dkwX2_movedMany_1 : List UInt8 := [192, 0, 226, 180, 0, 241, 184, 0, 234, 96, 60, 132, 2, 1, 167, 255, 222, 27, 172]
abbrev dktX2_movedMany_1 : List UInt8 := dkwX2_movedMany_1 ++ []
def dkwX2_movedMany_0 : List UInt8 := [3, 60, 3, 61, 28, 42, 180, 0, 67, 182, 0, 149, 162, 0, 29, 27, 42, 180, 0, 67, 28, 182, 0, 222]
abbrev dktX2_movedMany_0 : List UInt8 := dkwX2_movedMany_0 ++ dktX2_movedMany_1
theorem dksX2_movedMany_0 : cX2_movedMany.data.toList.drop 0 = dktX2_movedMany_0 := by decide +kernel
theorem dksX2_movedMany_1 : cX2_movedMany.data.toList.drop 24 = dktX2_movedMany_1 := dk_seg dksX2_movedMany_0 24 rfl rfl
theorem dX2_movedMany_0 : decode cX2_movedMany 0 = .ok (.iconst 0, 1) := dk_3 (dk_at dksX2_movedMany_0 0 rfl rfl)
theorem dX2_movedMany_1 : decode cX2_movedMany 1 = .ok (.istore_n 1, 1) := dk_60 (dk_at dksX2_movedMany_0 1 rfl rfl)
theorem dX2_movedMany_2 : decode cX2_movedMany 2 = .ok (.iconst 0, 1) := dk_3 (dk_at dksX2_movedMany_0 2 rfl rfl)
theorem dX2_movedMany_3 : decode cX2_movedMany 3 = .ok (.istore_n 2, 1) := dk_61 (dk_at dksX2_movedMany_0 3 rfl rfl)
theorem dX2_movedMany_4 : decode cX2_movedMany 4 = .ok (.iload_n 2, 1) := dk_28 (dk_at dksX2_movedMany_0 4 rfl rfl)
theorem dX2_movedMany_5 : decode cX2_movedMany 5 = .ok (.aload_n 0, 1) := dk_42 (dk_at dksX2_movedMany_0 5 rfl rfl)
theorem dX2_movedMany_6 : decode cX2_movedMany 6 = .ok (.getfield 67, 3) := dk_180 0 67 (dk_at dksX2_movedMany_0 6 rfl rfl)
theorem dX2_movedMany_9 : decode cX2_movedMany 9 = .ok (.invokevirtual 149, 3) := dk_182 0 149 (dk_at dksX2_movedMany_0 9 rfl rfl)
theorem dX2_movedMany_12 : decode cX2_movedMany 12 = .ok (.if_icmp .ge 29, 3) := dk_162 0 29 (dk_at dksX2_movedMany_0 12 rfl rfl)
theorem dX2_movedMany_15 : decode cX2_movedMany 15 = .ok (.iload_n 1, 1) := dk_27 (dk_at dksX2_movedMany_0 15 rfl rfl)
theorem dX2_movedMany_16 : decode cX2_movedMany 16 = .ok (.aload_n 0, 1) := dk_42 (dk_at dksX2_movedMany_0 16 rfl rfl)
theorem dX2_movedMany_17 : decode cX2_movedMany 17 = .ok (.getfield 67, 3) := dk_180 0 67 (dk_at dksX2_movedMany_0 17 rfl rfl)
theorem dX2_movedMany_20 : decode cX2_movedMany 20 = .ok (.iload_n 2, 1) := dk_28 (dk_at dksX2_movedMany_0 20 rfl rfl)
theorem dX2_movedMany_21 : decode cX2_movedMany 21 = .ok (.invokevirtual 222, 3) := dk_182 0 222 (dk_at dksX2_movedMany_0 21 rfl rfl)
theorem dX2_movedMany_24 : decode cX2_movedMany 24 = .ok (.checkcast 226, 3) := dk_192 0 226 (dk_at dksX2_movedMany_1 0 rfl rfl)
theorem dX2_movedMany_27 : decode cX2_movedMany 27 = .ok (.getfield 241, 3) := dk_180 0 241 (dk_at dksX2_movedMany_1 3 rfl rfl)
theorem dX2_movedMany_30 : decode cX2_movedMany 30 = .ok (.invokestatic 234, 3) := dk_184 0 234 (dk_at dksX2_movedMany_1 6 rfl rfl)
theorem dX2_movedMany_33 : decode cX2_movedMany 33 = .ok (.iadd, 1) := dk_96 (dk_at dksX2_movedMany_1 9 rfl rfl)
theorem dX2_movedMany_34 : decode cX2_movedMany 34 = .ok (.istore_n 1, 1) := dk_60 (dk_at dksX2_movedMany_1 10 rfl rfl)
theorem dX2_movedMany_35 : decode cX2_movedMany 35 = .ok (.iinc 2 1, 3) := dk_132 2 1 (dk_at dksX2_movedMany_1 11 rfl rfl)
theorem dX2_movedMany_38 : decode cX2_movedMany 38 = .ok (.goto (-34), 3) := dk_167 255 222 (dk_at dksX2_movedMany_1 14 rfl rfl)
theorem dX2_movedMany_41 : decode cX2_movedMany 41 = .ok (.iload_n 1, 1) := dk_27 (dk_at dksX2_movedMany_1 17 rfl rfl)
theorem dX2_movedMany_42 : decode cX2_movedMany 42 = .ok (.ireturn, 1) := dk_172 (dk_at dksX2_movedMany_1 18 rfl rfl)
abbrev cX2_isWish : ByteArray := prog_10_method_11_code
def yX2_isWish : MethodName := ⟨RX2, "isWish", "(II)Z"⟩
def dkwX2_isWish_1 : List UInt8 := [132, 3, 1, 167, 255, 231, 3, 172]
abbrev dktX2_isWish_1 : List UInt8 := dkwX2_isWish_1 ++ []
def dkwX2_isWish_0 : List UInt8 := [3, 62, 29, 42, 180, 0, 34, 27, 46, 162, 0, 21, 42, 27, 29, 182, 0, 175, 28, 160, 0, 5, 4, 172]
abbrev dktX2_isWish_0 : List UInt8 := dkwX2_isWish_0 ++ dktX2_isWish_1
theorem dksX2_isWish_0 : cX2_isWish.data.toList.drop 0 = dktX2_isWish_0 := by decide +kernel
theorem dksX2_isWish_1 : cX2_isWish.data.toList.drop 24 = dktX2_isWish_1 := dk_seg dksX2_isWish_0 24 rfl rfl
theorem dX2_isWish_0 : decode cX2_isWish 0 = .ok (.iconst 0, 1) := dk_3 (dk_at dksX2_isWish_0 0 rfl rfl)
theorem dX2_isWish_1 : decode cX2_isWish 1 = .ok (.istore_n 3, 1) := dk_62 (dk_at dksX2_isWish_0 1 rfl rfl)
theorem dX2_isWish_2 : decode cX2_isWish 2 = .ok (.iload_n 3, 1) := dk_29 (dk_at dksX2_isWish_0 2 rfl rfl)
theorem dX2_isWish_3 : decode cX2_isWish 3 = .ok (.aload_n 0, 1) := dk_42 (dk_at dksX2_isWish_0 3 rfl rfl)
theorem dX2_isWish_4 : decode cX2_isWish 4 = .ok (.getfield 34, 3) := dk_180 0 34 (dk_at dksX2_isWish_0 4 rfl rfl)
theorem dX2_isWish_7 : decode cX2_isWish 7 = .ok (.iload_n 1, 1) := dk_27 (dk_at dksX2_isWish_0 7 rfl rfl)
theorem dX2_isWish_8 : decode cX2_isWish 8 = .ok (.iaload, 1) := dk_46 (dk_at dksX2_isWish_0 8 rfl rfl)
theorem dX2_isWish_9 : decode cX2_isWish 9 = .ok (.if_icmp .ge 21, 3) := dk_162 0 21 (dk_at dksX2_isWish_0 9 rfl rfl)
theorem dX2_isWish_12 : decode cX2_isWish 12 = .ok (.aload_n 0, 1) := dk_42 (dk_at dksX2_isWish_0 12 rfl rfl)
theorem dX2_isWish_13 : decode cX2_isWish 13 = .ok (.iload_n 1, 1) := dk_27 (dk_at dksX2_isWish_0 13 rfl rfl)
theorem dX2_isWish_14 : decode cX2_isWish 14 = .ok (.iload_n 3, 1) := dk_29 (dk_at dksX2_isWish_0 14 rfl rfl)
theorem dX2_isWish_15 : decode cX2_isWish 15 = .ok (.invokevirtual 175, 3) := dk_182 0 175 (dk_at dksX2_isWish_0 15 rfl rfl)
theorem dX2_isWish_18 : decode cX2_isWish 18 = .ok (.iload_n 2, 1) := dk_28 (dk_at dksX2_isWish_0 18 rfl rfl)
theorem dX2_isWish_19 : decode cX2_isWish 19 = .ok (.if_icmp .ne 5, 3) := dk_160 0 5 (dk_at dksX2_isWish_0 19 rfl rfl)
theorem dX2_isWish_22 : decode cX2_isWish 22 = .ok (.iconst 1, 1) := dk_4 (dk_at dksX2_isWish_0 22 rfl rfl)
theorem dX2_isWish_23 : decode cX2_isWish 23 = .ok (.ireturn, 1) := dk_172 (dk_at dksX2_isWish_0 23 rfl rfl)
theorem dX2_isWish_24 : decode cX2_isWish 24 = .ok (.iinc 3 1, 3) := dk_132 3 1 (dk_at dksX2_isWish_1 0 rfl rfl)
theorem dX2_isWish_27 : decode cX2_isWish 27 = .ok (.goto (-25), 3) := dk_167 255 231 (dk_at dksX2_isWish_1 3 rfl rfl)
theorem dX2_isWish_30 : decode cX2_isWish 30 = .ok (.iconst 0, 1) := dk_3 (dk_at dksX2_isWish_1 6 rfl rfl)
theorem dX2_isWish_31 : decode cX2_isWish 31 = .ok (.ireturn, 1) := dk_172 (dk_at dksX2_isWish_1 7 rfl rfl)
abbrev cX2_wishAt : ByteArray := prog_10_method_10_code
def yX2_wishAt : MethodName := ⟨RX2, "wishAt", "(II)I"⟩
def dkwX2_wishAt_0 : List UInt8 := [42, 180, 0, 37, 16, 6, 27, 104, 28, 96, 46, 172]
abbrev dktX2_wishAt_0 : List UInt8 := dkwX2_wishAt_0 ++ []
theorem dksX2_wishAt_0 : cX2_wishAt.data.toList.drop 0 = dktX2_wishAt_0 := by decide +kernel
theorem dX2_wishAt_0 : decode cX2_wishAt 0 = .ok (.aload_n 0, 1) := dk_42 (dk_at dksX2_wishAt_0 0 rfl rfl)
theorem dX2_wishAt_1 : decode cX2_wishAt 1 = .ok (.getfield 37, 3) := dk_180 0 37 (dk_at dksX2_wishAt_0 1 rfl rfl)
theorem dX2_wishAt_4 : decode cX2_wishAt 4 = .ok (.bipush 6, 2) := dk_16 6 (dk_at dksX2_wishAt_0 4 rfl rfl)
theorem dX2_wishAt_6 : decode cX2_wishAt 6 = .ok (.iload_n 1, 1) := dk_27 (dk_at dksX2_wishAt_0 6 rfl rfl)
theorem dX2_wishAt_7 : decode cX2_wishAt 7 = .ok (.imul, 1) := dk_104 (dk_at dksX2_wishAt_0 7 rfl rfl)
theorem dX2_wishAt_8 : decode cX2_wishAt 8 = .ok (.iload_n 2, 1) := dk_28 (dk_at dksX2_wishAt_0 8 rfl rfl)
theorem dX2_wishAt_9 : decode cX2_wishAt 9 = .ok (.iadd, 1) := dk_96 (dk_at dksX2_wishAt_0 9 rfl rfl)
theorem dX2_wishAt_10 : decode cX2_wishAt 10 = .ok (.iaload, 1) := dk_46 (dk_at dksX2_wishAt_0 10 rfl rfl)
theorem dX2_wishAt_11 : decode cX2_wishAt 11 = .ok (.ireturn, 1) := dk_172 (dk_at dksX2_wishAt_0 11 rfl rfl)
abbrev cX2_whyNot : ByteArray := prog_10_method_30_code
def yX2_whyNot : MethodName := ⟨RX2, "whyNot", "(II)I"⟩
def dkwX2_whyNot_1 : List UInt8 := [185, 1, 28, 2, 0, 153, 0, 7, 29, 4, 96, 172, 132, 3, 1, 167, 255, 225, 3, 172]
abbrev dktX2_whyNot_1 : List UInt8 := dkwX2_whyNot_1 ++ []
def dkwX2_whyNot_0 : List UInt8 := [42, 27, 181, 1, 25, 3, 62, 29, 42, 180, 0, 94, 190, 162, 0, 28, 42, 180, 0, 94, 29, 50, 28]
abbrev dktX2_whyNot_0 : List UInt8 := dkwX2_whyNot_0 ++ dktX2_whyNot_1
theorem dksX2_whyNot_0 : cX2_whyNot.data.toList.drop 0 = dktX2_whyNot_0 := by decide +kernel
theorem dksX2_whyNot_1 : cX2_whyNot.data.toList.drop 23 = dktX2_whyNot_1 := dk_seg dksX2_whyNot_0 23 rfl rfl
theorem dX2_whyNot_0 : decode cX2_whyNot 0 = .ok (.aload_n 0, 1) := dk_42 (dk_at dksX2_whyNot_0 0 rfl rfl)
theorem dX2_whyNot_1 : decode cX2_whyNot 1 = .ok (.iload_n 1, 1) := dk_27 (dk_at dksX2_whyNot_0 1 rfl rfl)
theorem dX2_whyNot_2 : decode cX2_whyNot 2 = .ok (.putfield 281, 3) := dk_181 1 25 (dk_at dksX2_whyNot_0 2 rfl rfl)
theorem dX2_whyNot_5 : decode cX2_whyNot 5 = .ok (.iconst 0, 1) := dk_3 (dk_at dksX2_whyNot_0 5 rfl rfl)
theorem dX2_whyNot_6 : decode cX2_whyNot 6 = .ok (.istore_n 3, 1) := dk_62 (dk_at dksX2_whyNot_0 6 rfl rfl)
theorem dX2_whyNot_7 : decode cX2_whyNot 7 = .ok (.iload_n 3, 1) := dk_29 (dk_at dksX2_whyNot_0 7 rfl rfl)
theorem dX2_whyNot_8 : decode cX2_whyNot 8 = .ok (.aload_n 0, 1) := dk_42 (dk_at dksX2_whyNot_0 8 rfl rfl)
theorem dX2_whyNot_9 : decode cX2_whyNot 9 = .ok (.getfield 94, 3) := dk_180 0 94 (dk_at dksX2_whyNot_0 9 rfl rfl)
theorem dX2_whyNot_12 : decode cX2_whyNot 12 = .ok (.arraylength, 1) := dk_190 (dk_at dksX2_whyNot_0 12 rfl rfl)
theorem dX2_whyNot_13 : decode cX2_whyNot 13 = .ok (.if_icmp .ge 28, 3) := dk_162 0 28 (dk_at dksX2_whyNot_0 13 rfl rfl)
theorem dX2_whyNot_16 : decode cX2_whyNot 16 = .ok (.aload_n 0, 1) := dk_42 (dk_at dksX2_whyNot_0 16 rfl rfl)
theorem dX2_whyNot_17 : decode cX2_whyNot 17 = .ok (.getfield 94, 3) := dk_180 0 94 (dk_at dksX2_whyNot_0 17 rfl rfl)
theorem dX2_whyNot_20 : decode cX2_whyNot 20 = .ok (.iload_n 3, 1) := dk_29 (dk_at dksX2_whyNot_0 20 rfl rfl)
theorem dX2_whyNot_21 : decode cX2_whyNot 21 = .ok (.aaload, 1) := dk_50 (dk_at dksX2_whyNot_0 21 rfl rfl)
theorem dX2_whyNot_22 : decode cX2_whyNot 22 = .ok (.iload_n 2, 1) := dk_28 (dk_at dksX2_whyNot_0 22 rfl rfl)
theorem dX2_whyNot_23 : decode cX2_whyNot 23 = .ok (.invokeinterface 284 2, 5) := by decide +kernel
theorem dX2_whyNot_28 : decode cX2_whyNot 28 = .ok (.ifCond .eq 7, 3) := dk_153 0 7 (dk_at dksX2_whyNot_1 5 rfl rfl)
theorem dX2_whyNot_31 : decode cX2_whyNot 31 = .ok (.iload_n 3, 1) := dk_29 (dk_at dksX2_whyNot_1 8 rfl rfl)
theorem dX2_whyNot_32 : decode cX2_whyNot 32 = .ok (.iconst 1, 1) := dk_4 (dk_at dksX2_whyNot_1 9 rfl rfl)
theorem dX2_whyNot_33 : decode cX2_whyNot 33 = .ok (.iadd, 1) := dk_96 (dk_at dksX2_whyNot_1 10 rfl rfl)
theorem dX2_whyNot_34 : decode cX2_whyNot 34 = .ok (.ireturn, 1) := dk_172 (dk_at dksX2_whyNot_1 11 rfl rfl)
theorem dX2_whyNot_35 : decode cX2_whyNot 35 = .ok (.iinc 3 1, 3) := dk_132 3 1 (dk_at dksX2_whyNot_1 12 rfl rfl)
theorem dX2_whyNot_38 : decode cX2_whyNot 38 = .ok (.goto (-31), 3) := dk_167 255 225 (dk_at dksX2_whyNot_1 15 rfl rfl)
theorem dX2_whyNot_41 : decode cX2_whyNot 41 = .ok (.iconst 0, 1) := dk_3 (dk_at dksX2_whyNot_1 18 rfl rfl)
theorem dX2_whyNot_42 : decode cX2_whyNot 42 = .ok (.ireturn, 1) := dk_172 (dk_at dksX2_whyNot_1 19 rfl rfl)
abbrev cX2_firstFor : ByteArray := prog_10_method_29_code
def yX2_firstFor : MethodName := ⟨RX2, "firstFor", "(ILHomesQueue$Check;)I"⟩
def dkwX2_firstFor_0 : List UInt8 := [42, 180, 0, 3, 180, 0, 146, 182, 0, 149, 44, 42, 27, 186, 1, 18, 0, 0, 184, 1, 21, 172]
abbrev dktX2_firstFor_0 : List UInt8 := dkwX2_firstFor_0 ++ []
theorem dksX2_firstFor_0 : cX2_firstFor.data.toList.drop 0 = dktX2_firstFor_0 := by decide +kernel
theorem dX2_firstFor_0 : decode cX2_firstFor 0 = .ok (.aload_n 0, 1) := dk_42 (dk_at dksX2_firstFor_0 0 rfl rfl)
theorem dX2_firstFor_1 : decode cX2_firstFor 1 = .ok (.getfield 3, 3) := dk_180 0 3 (dk_at dksX2_firstFor_0 1 rfl rfl)
theorem dX2_firstFor_4 : decode cX2_firstFor 4 = .ok (.getfield 146, 3) := dk_180 0 146 (dk_at dksX2_firstFor_0 4 rfl rfl)
theorem dX2_firstFor_7 : decode cX2_firstFor 7 = .ok (.invokevirtual 149, 3) := dk_182 0 149 (dk_at dksX2_firstFor_0 7 rfl rfl)
theorem dX2_firstFor_10 : decode cX2_firstFor 10 = .ok (.aload_n 2, 1) := dk_44 (dk_at dksX2_firstFor_0 10 rfl rfl)
theorem dX2_firstFor_11 : decode cX2_firstFor 11 = .ok (.aload_n 0, 1) := dk_42 (dk_at dksX2_firstFor_0 11 rfl rfl)
theorem dX2_firstFor_12 : decode cX2_firstFor 12 = .ok (.iload_n 1, 1) := dk_27 (dk_at dksX2_firstFor_0 12 rfl rfl)
theorem dX2_firstFor_13 : decode cX2_firstFor 13 = .ok (.invokedynamic 274, 5) := by decide +kernel
theorem dX2_firstFor_18 : decode cX2_firstFor 18 = .ok (.invokestatic 277, 3) := dk_184 1 21 (dk_at dksX2_firstFor_0 18 rfl rfl)
theorem dX2_firstFor_21 : decode cX2_firstFor 21 = .ok (.ireturn, 1) := dk_172 (dk_at dksX2_firstFor_0 21 rfl rfl)
abbrev cX2_lambda_firstFor_6 : ByteArray := prog_10_method_43_code
def yX2_lambda_firstFor_6 : MethodName := ⟨RX2, "lambda$firstFor$6", "(III)I"⟩
def dkwX2_lambda_firstFor_6_0 : List UInt8 := [42, 27, 28, 29, 182, 1, 11, 172]
abbrev dktX2_lambda_firstFor_6_0 : List UInt8 := dkwX2_lambda_firstFor_6_0 ++ []
theorem dksX2_lambda_firstFor_6_0 : cX2_lambda_firstFor_6.data.toList.drop 0 = dktX2_lambda_firstFor_6_0 := by decide +kernel
theorem dX2_lambda_firstFor_6_0 : decode cX2_lambda_firstFor_6 0 = .ok (.aload_n 0, 1) := dk_42 (dk_at dksX2_lambda_firstFor_6_0 0 rfl rfl)
theorem dX2_lambda_firstFor_6_1 : decode cX2_lambda_firstFor_6 1 = .ok (.iload_n 1, 1) := dk_27 (dk_at dksX2_lambda_firstFor_6_0 1 rfl rfl)
theorem dX2_lambda_firstFor_6_2 : decode cX2_lambda_firstFor_6 2 = .ok (.iload_n 2, 1) := dk_28 (dk_at dksX2_lambda_firstFor_6_0 2 rfl rfl)
theorem dX2_lambda_firstFor_6_3 : decode cX2_lambda_firstFor_6 3 = .ok (.iload_n 3, 1) := dk_29 (dk_at dksX2_lambda_firstFor_6_0 3 rfl rfl)
theorem dX2_lambda_firstFor_6_4 : decode cX2_lambda_firstFor_6 4 = .ok (.invokevirtual 267, 3) := dk_182 1 11 (dk_at dksX2_lambda_firstFor_6_0 4 rfl rfl)
theorem dX2_lambda_firstFor_6_7 : decode cX2_lambda_firstFor_6 7 = .ok (.ireturn, 1) := dk_172 (dk_at dksX2_lambda_firstFor_6_0 7 rfl rfl)
abbrev cX2_compare : ByteArray := prog_10_method_26_code
def yX2_compare : MethodName := ⟨RX2, "compare", "(III)I"⟩
def dkwX2_compare_0 : List UInt8 := [42, 27, 181, 0, 251, 42, 180, 0, 124, 28, 29, 185, 1, 8, 3, 0, 172]
abbrev dktX2_compare_0 : List UInt8 := dkwX2_compare_0 ++ []
theorem dksX2_compare_0 : cX2_compare.data.toList.drop 0 = dktX2_compare_0 := by decide +kernel
theorem dX2_compare_0 : decode cX2_compare 0 = .ok (.aload_n 0, 1) := dk_42 (dk_at dksX2_compare_0 0 rfl rfl)
theorem dX2_compare_1 : decode cX2_compare 1 = .ok (.iload_n 1, 1) := dk_27 (dk_at dksX2_compare_0 1 rfl rfl)
theorem dX2_compare_2 : decode cX2_compare 2 = .ok (.putfield 251, 3) := dk_181 0 251 (dk_at dksX2_compare_0 2 rfl rfl)
theorem dX2_compare_5 : decode cX2_compare 5 = .ok (.aload_n 0, 1) := dk_42 (dk_at dksX2_compare_0 5 rfl rfl)
theorem dX2_compare_6 : decode cX2_compare 6 = .ok (.getfield 124, 3) := dk_180 0 124 (dk_at dksX2_compare_0 6 rfl rfl)
theorem dX2_compare_9 : decode cX2_compare 9 = .ok (.iload_n 2, 1) := dk_28 (dk_at dksX2_compare_0 9 rfl rfl)
theorem dX2_compare_10 : decode cX2_compare 10 = .ok (.iload_n 3, 1) := dk_29 (dk_at dksX2_compare_0 10 rfl rfl)
theorem dX2_compare_11 : decode cX2_compare 11 = .ok (.invokeinterface 264 3, 5) := by decide +kernel
theorem dX2_compare_16 : decode cX2_compare 16 = .ok (.ireturn, 1) := dk_172 (dk_at dksX2_compare_0 16 rfl rfl)
abbrev cX2_isWaiting : ByteArray := prog_10_method_6_code
def yX2_isWaiting : MethodName := ⟨RX2, "isWaiting", "(I)Z"⟩
def dkwX2_isWaiting_0 : List UInt8 := [42, 180, 0, 56, 27, 51, 154, 0, 16, 42, 180, 0, 25, 27, 46, 154, 0, 7, 4, 167, 0, 4, 3, 172]
abbrev dktX2_isWaiting_0 : List UInt8 := dkwX2_isWaiting_0 ++ []
theorem dksX2_isWaiting_0 : cX2_isWaiting.data.toList.drop 0 = dktX2_isWaiting_0 := by decide +kernel
theorem dX2_isWaiting_0 : decode cX2_isWaiting 0 = .ok (.aload_n 0, 1) := dk_42 (dk_at dksX2_isWaiting_0 0 rfl rfl)
theorem dX2_isWaiting_1 : decode cX2_isWaiting 1 = .ok (.getfield 56, 3) := dk_180 0 56 (dk_at dksX2_isWaiting_0 1 rfl rfl)
theorem dX2_isWaiting_4 : decode cX2_isWaiting 4 = .ok (.iload_n 1, 1) := dk_27 (dk_at dksX2_isWaiting_0 4 rfl rfl)
theorem dX2_isWaiting_5 : decode cX2_isWaiting 5 = .ok (.baload, 1) := dk_51 (dk_at dksX2_isWaiting_0 5 rfl rfl)
theorem dX2_isWaiting_6 : decode cX2_isWaiting 6 = .ok (.ifCond .ne 16, 3) := dk_154 0 16 (dk_at dksX2_isWaiting_0 6 rfl rfl)
theorem dX2_isWaiting_9 : decode cX2_isWaiting 9 = .ok (.aload_n 0, 1) := dk_42 (dk_at dksX2_isWaiting_0 9 rfl rfl)
theorem dX2_isWaiting_10 : decode cX2_isWaiting 10 = .ok (.getfield 25, 3) := dk_180 0 25 (dk_at dksX2_isWaiting_0 10 rfl rfl)
theorem dX2_isWaiting_13 : decode cX2_isWaiting 13 = .ok (.iload_n 1, 1) := dk_27 (dk_at dksX2_isWaiting_0 13 rfl rfl)
theorem dX2_isWaiting_14 : decode cX2_isWaiting 14 = .ok (.iaload, 1) := dk_46 (dk_at dksX2_isWaiting_0 14 rfl rfl)
theorem dX2_isWaiting_15 : decode cX2_isWaiting 15 = .ok (.ifCond .ne 7, 3) := dk_154 0 7 (dk_at dksX2_isWaiting_0 15 rfl rfl)
theorem dX2_isWaiting_18 : decode cX2_isWaiting 18 = .ok (.iconst 1, 1) := dk_4 (dk_at dksX2_isWaiting_0 18 rfl rfl)
theorem dX2_isWaiting_19 : decode cX2_isWaiting 19 = .ok (.goto 4, 3) := dk_167 0 4 (dk_at dksX2_isWaiting_0 19 rfl rfl)
theorem dX2_isWaiting_22 : decode cX2_isWaiting 22 = .ok (.iconst 0, 1) := dk_3 (dk_at dksX2_isWaiting_0 22 rfl rfl)
theorem dX2_isWaiting_23 : decode cX2_isWaiting 23 = .ok (.ireturn, 1) := dk_172 (dk_at dksX2_isWaiting_0 23 rfl rfl)
abbrev cX2_chainOf : ByteArray := prog_10_method_42_code
def yX2_chainOf : MethodName := ⟨RX2, "chainOf", "(I)I"⟩
def dkwX2_chainOf_0 : List UInt8 := [42, 180, 0, 67, 27, 182, 0, 222, 192, 0, 226, 180, 1, 56, 172]
abbrev dktX2_chainOf_0 : List UInt8 := dkwX2_chainOf_0 ++ []
theorem dksX2_chainOf_0 : cX2_chainOf.data.toList.drop 0 = dktX2_chainOf_0 := by decide +kernel
theorem dX2_chainOf_0 : decode cX2_chainOf 0 = .ok (.aload_n 0, 1) := dk_42 (dk_at dksX2_chainOf_0 0 rfl rfl)
theorem dX2_chainOf_1 : decode cX2_chainOf 1 = .ok (.getfield 67, 3) := dk_180 0 67 (dk_at dksX2_chainOf_0 1 rfl rfl)
theorem dX2_chainOf_4 : decode cX2_chainOf 4 = .ok (.iload_n 1, 1) := dk_27 (dk_at dksX2_chainOf_0 4 rfl rfl)
theorem dX2_chainOf_5 : decode cX2_chainOf 5 = .ok (.invokevirtual 222, 3) := dk_182 0 222 (dk_at dksX2_chainOf_0 5 rfl rfl)
theorem dX2_chainOf_8 : decode cX2_chainOf 8 = .ok (.checkcast 226, 3) := dk_192 0 226 (dk_at dksX2_chainOf_0 8 rfl rfl)
theorem dX2_chainOf_11 : decode cX2_chainOf 11 = .ok (.getfield 312, 3) := dk_180 1 56 (dk_at dksX2_chainOf_0 11 rfl rfl)
theorem dX2_chainOf_14 : decode cX2_chainOf 14 = .ok (.ireturn, 1) := dk_172 (dk_at dksX2_chainOf_0 14 rfl rfl)
abbrev cX2_become : ByteArray := prog_10_method_2_code
def yX2_become : MethodName := ⟨RX2, "become", "(LHomesQueue$Register;)V"⟩
def dkwX2_become_6 : List UInt8 := [181, 0, 142, 177]
abbrev dktX2_become_6 : List UInt8 := dkwX2_become_6 ++ []
def dkwX2_become_5 : List UInt8 := [180, 0, 71, 43, 180, 0, 71, 182, 0, 134, 87, 42, 43, 180, 0, 138, 181, 0, 138, 42, 43, 180, 0, 142]
abbrev dktX2_become_5 : List UInt8 := dkwX2_become_5 ++ dktX2_become_6
def dkwX2_become_4 : List UInt8 := [182, 0, 131, 42, 180, 0, 67, 43, 180, 0, 67, 182, 0, 134, 87, 42, 180, 0, 71, 182, 0, 131, 42]
abbrev dktX2_become_4 : List UInt8 := dkwX2_become_4 ++ dktX2_become_5
def dkwX2_become_3 : List UInt8 := [184, 0, 77, 43, 180, 0, 52, 3, 42, 180, 0, 52, 3, 16, 10, 184, 0, 77, 42, 180, 0, 67]
abbrev dktX2_become_3 : List UInt8 := dkwX2_become_3 ++ dktX2_become_4
def dkwX2_become_2 : List UInt8 := [3, 42, 180, 0, 56, 3, 16, 8, 184, 0, 77, 43, 180, 0, 59, 3, 42, 180, 0, 59, 3, 16, 8]
abbrev dktX2_become_2 : List UInt8 := dkwX2_become_2 ++ dktX2_become_3
def dkwX2_become_1 : List UInt8 := [3, 44, 21, 4, 50, 3, 44, 21, 4, 50, 190, 184, 0, 77, 132, 4, 1, 167, 255, 228, 43, 180, 0, 56]
abbrev dktX2_become_1 : List UInt8 := dkwX2_become_1 ++ dktX2_become_2
def dkwX2_become_0 : List UInt8 := [42, 182, 0, 127, 77, 43, 182, 0, 127, 78, 3, 54, 4, 21, 4, 44, 190, 162, 0, 27, 45, 21, 4, 50]
abbrev dktX2_become_0 : List UInt8 := dkwX2_become_0 ++ dktX2_become_1
theorem dksX2_become_0 : cX2_become.data.toList.drop 0 = dktX2_become_0 := by decide +kernel
theorem dksX2_become_1 : cX2_become.data.toList.drop 24 = dktX2_become_1 := dk_seg dksX2_become_0 24 rfl rfl
theorem dksX2_become_2 : cX2_become.data.toList.drop 48 = dktX2_become_2 := dk_seg dksX2_become_1 24 rfl rfl
theorem dksX2_become_3 : cX2_become.data.toList.drop 71 = dktX2_become_3 := dk_seg dksX2_become_2 23 rfl rfl
theorem dksX2_become_4 : cX2_become.data.toList.drop 93 = dktX2_become_4 := dk_seg dksX2_become_3 22 rfl rfl
theorem dksX2_become_5 : cX2_become.data.toList.drop 116 = dktX2_become_5 := dk_seg dksX2_become_4 23 rfl rfl
theorem dksX2_become_6 : cX2_become.data.toList.drop 140 = dktX2_become_6 := dk_seg dksX2_become_5 24 rfl rfl
theorem dX2_become_0 : decode cX2_become 0 = .ok (.aload_n 0, 1) := dk_42 (dk_at dksX2_become_0 0 rfl rfl)
theorem dX2_become_1 : decode cX2_become 1 = .ok (.invokevirtual 127, 3) := dk_182 0 127 (dk_at dksX2_become_0 1 rfl rfl)
theorem dX2_become_4 : decode cX2_become 4 = .ok (.astore_n 2, 1) := dk_77 (dk_at dksX2_become_0 4 rfl rfl)
theorem dX2_become_5 : decode cX2_become 5 = .ok (.aload_n 1, 1) := dk_43 (dk_at dksX2_become_0 5 rfl rfl)
theorem dX2_become_6 : decode cX2_become 6 = .ok (.invokevirtual 127, 3) := dk_182 0 127 (dk_at dksX2_become_0 6 rfl rfl)
theorem dX2_become_9 : decode cX2_become 9 = .ok (.astore_n 3, 1) := dk_78 (dk_at dksX2_become_0 9 rfl rfl)
theorem dX2_become_10 : decode cX2_become 10 = .ok (.iconst 0, 1) := dk_3 (dk_at dksX2_become_0 10 rfl rfl)
theorem dX2_become_11 : decode cX2_become 11 = .ok (.istore 4, 2) := dk_54 4 (dk_at dksX2_become_0 11 rfl rfl)
theorem dX2_become_13 : decode cX2_become 13 = .ok (.iload 4, 2) := dk_21 4 (dk_at dksX2_become_0 13 rfl rfl)
theorem dX2_become_15 : decode cX2_become 15 = .ok (.aload_n 2, 1) := dk_44 (dk_at dksX2_become_0 15 rfl rfl)
theorem dX2_become_16 : decode cX2_become 16 = .ok (.arraylength, 1) := dk_190 (dk_at dksX2_become_0 16 rfl rfl)
theorem dX2_become_17 : decode cX2_become 17 = .ok (.if_icmp .ge 27, 3) := dk_162 0 27 (dk_at dksX2_become_0 17 rfl rfl)
theorem dX2_become_20 : decode cX2_become 20 = .ok (.aload_n 3, 1) := dk_45 (dk_at dksX2_become_0 20 rfl rfl)
theorem dX2_become_21 : decode cX2_become 21 = .ok (.iload 4, 2) := dk_21 4 (dk_at dksX2_become_0 21 rfl rfl)
theorem dX2_become_23 : decode cX2_become 23 = .ok (.aaload, 1) := dk_50 (dk_at dksX2_become_0 23 rfl rfl)
theorem dX2_become_24 : decode cX2_become 24 = .ok (.iconst 0, 1) := dk_3 (dk_at dksX2_become_1 0 rfl rfl)
theorem dX2_become_25 : decode cX2_become 25 = .ok (.aload_n 2, 1) := dk_44 (dk_at dksX2_become_1 1 rfl rfl)
theorem dX2_become_26 : decode cX2_become 26 = .ok (.iload 4, 2) := dk_21 4 (dk_at dksX2_become_1 2 rfl rfl)
theorem dX2_become_28 : decode cX2_become 28 = .ok (.aaload, 1) := dk_50 (dk_at dksX2_become_1 4 rfl rfl)
theorem dX2_become_29 : decode cX2_become 29 = .ok (.iconst 0, 1) := dk_3 (dk_at dksX2_become_1 5 rfl rfl)
theorem dX2_become_30 : decode cX2_become 30 = .ok (.aload_n 2, 1) := dk_44 (dk_at dksX2_become_1 6 rfl rfl)
theorem dX2_become_31 : decode cX2_become 31 = .ok (.iload 4, 2) := dk_21 4 (dk_at dksX2_become_1 7 rfl rfl)
theorem dX2_become_33 : decode cX2_become 33 = .ok (.aaload, 1) := dk_50 (dk_at dksX2_become_1 9 rfl rfl)
theorem dX2_become_34 : decode cX2_become 34 = .ok (.arraylength, 1) := dk_190 (dk_at dksX2_become_1 10 rfl rfl)
theorem dX2_become_35 : decode cX2_become 35 = .ok (.invokestatic 77, 3) := dk_184 0 77 (dk_at dksX2_become_1 11 rfl rfl)
theorem dX2_become_38 : decode cX2_become 38 = .ok (.iinc 4 1, 3) := dk_132 4 1 (dk_at dksX2_become_1 14 rfl rfl)
theorem dX2_become_41 : decode cX2_become 41 = .ok (.goto (-28), 3) := dk_167 255 228 (dk_at dksX2_become_1 17 rfl rfl)
theorem dX2_become_44 : decode cX2_become 44 = .ok (.aload_n 1, 1) := dk_43 (dk_at dksX2_become_1 20 rfl rfl)
theorem dX2_become_45 : decode cX2_become 45 = .ok (.getfield 56, 3) := dk_180 0 56 (dk_at dksX2_become_1 21 rfl rfl)
theorem dX2_become_48 : decode cX2_become 48 = .ok (.iconst 0, 1) := dk_3 (dk_at dksX2_become_2 0 rfl rfl)
theorem dX2_become_49 : decode cX2_become 49 = .ok (.aload_n 0, 1) := dk_42 (dk_at dksX2_become_2 1 rfl rfl)
theorem dX2_become_50 : decode cX2_become 50 = .ok (.getfield 56, 3) := dk_180 0 56 (dk_at dksX2_become_2 2 rfl rfl)
theorem dX2_become_53 : decode cX2_become 53 = .ok (.iconst 0, 1) := dk_3 (dk_at dksX2_become_2 5 rfl rfl)
theorem dX2_become_54 : decode cX2_become 54 = .ok (.bipush 8, 2) := dk_16 8 (dk_at dksX2_become_2 6 rfl rfl)
theorem dX2_become_56 : decode cX2_become 56 = .ok (.invokestatic 77, 3) := dk_184 0 77 (dk_at dksX2_become_2 8 rfl rfl)
theorem dX2_become_59 : decode cX2_become 59 = .ok (.aload_n 1, 1) := dk_43 (dk_at dksX2_become_2 11 rfl rfl)
theorem dX2_become_60 : decode cX2_become 60 = .ok (.getfield 59, 3) := dk_180 0 59 (dk_at dksX2_become_2 12 rfl rfl)
theorem dX2_become_63 : decode cX2_become 63 = .ok (.iconst 0, 1) := dk_3 (dk_at dksX2_become_2 15 rfl rfl)
theorem dX2_become_64 : decode cX2_become 64 = .ok (.aload_n 0, 1) := dk_42 (dk_at dksX2_become_2 16 rfl rfl)
theorem dX2_become_65 : decode cX2_become 65 = .ok (.getfield 59, 3) := dk_180 0 59 (dk_at dksX2_become_2 17 rfl rfl)
theorem dX2_become_68 : decode cX2_become 68 = .ok (.iconst 0, 1) := dk_3 (dk_at dksX2_become_2 20 rfl rfl)
theorem dX2_become_69 : decode cX2_become 69 = .ok (.bipush 8, 2) := dk_16 8 (dk_at dksX2_become_2 21 rfl rfl)
theorem dX2_become_71 : decode cX2_become 71 = .ok (.invokestatic 77, 3) := dk_184 0 77 (dk_at dksX2_become_3 0 rfl rfl)
theorem dX2_become_74 : decode cX2_become 74 = .ok (.aload_n 1, 1) := dk_43 (dk_at dksX2_become_3 3 rfl rfl)
theorem dX2_become_75 : decode cX2_become 75 = .ok (.getfield 52, 3) := dk_180 0 52 (dk_at dksX2_become_3 4 rfl rfl)
theorem dX2_become_78 : decode cX2_become 78 = .ok (.iconst 0, 1) := dk_3 (dk_at dksX2_become_3 7 rfl rfl)
theorem dX2_become_79 : decode cX2_become 79 = .ok (.aload_n 0, 1) := dk_42 (dk_at dksX2_become_3 8 rfl rfl)
theorem dX2_become_80 : decode cX2_become 80 = .ok (.getfield 52, 3) := dk_180 0 52 (dk_at dksX2_become_3 9 rfl rfl)
theorem dX2_become_83 : decode cX2_become 83 = .ok (.iconst 0, 1) := dk_3 (dk_at dksX2_become_3 12 rfl rfl)
theorem dX2_become_84 : decode cX2_become 84 = .ok (.bipush 10, 2) := dk_16 10 (dk_at dksX2_become_3 13 rfl rfl)
theorem dX2_become_86 : decode cX2_become 86 = .ok (.invokestatic 77, 3) := dk_184 0 77 (dk_at dksX2_become_3 15 rfl rfl)
theorem dX2_become_89 : decode cX2_become 89 = .ok (.aload_n 0, 1) := dk_42 (dk_at dksX2_become_3 18 rfl rfl)
theorem dX2_become_90 : decode cX2_become 90 = .ok (.getfield 67, 3) := dk_180 0 67 (dk_at dksX2_become_3 19 rfl rfl)
theorem dX2_become_93 : decode cX2_become 93 = .ok (.invokevirtual 131, 3) := dk_182 0 131 (dk_at dksX2_become_4 0 rfl rfl)
theorem dX2_become_96 : decode cX2_become 96 = .ok (.aload_n 0, 1) := dk_42 (dk_at dksX2_become_4 3 rfl rfl)
theorem dX2_become_97 : decode cX2_become 97 = .ok (.getfield 67, 3) := dk_180 0 67 (dk_at dksX2_become_4 4 rfl rfl)
theorem dX2_become_100 : decode cX2_become 100 = .ok (.aload_n 1, 1) := dk_43 (dk_at dksX2_become_4 7 rfl rfl)
theorem dX2_become_101 : decode cX2_become 101 = .ok (.getfield 67, 3) := dk_180 0 67 (dk_at dksX2_become_4 8 rfl rfl)
theorem dX2_become_104 : decode cX2_become 104 = .ok (.invokevirtual 134, 3) := dk_182 0 134 (dk_at dksX2_become_4 11 rfl rfl)
theorem dX2_become_107 : decode cX2_become 107 = .ok (.pop, 1) := dk_87 (dk_at dksX2_become_4 14 rfl rfl)
theorem dX2_become_108 : decode cX2_become 108 = .ok (.aload_n 0, 1) := dk_42 (dk_at dksX2_become_4 15 rfl rfl)
theorem dX2_become_109 : decode cX2_become 109 = .ok (.getfield 71, 3) := dk_180 0 71 (dk_at dksX2_become_4 16 rfl rfl)
theorem dX2_become_112 : decode cX2_become 112 = .ok (.invokevirtual 131, 3) := dk_182 0 131 (dk_at dksX2_become_4 19 rfl rfl)
theorem dX2_become_115 : decode cX2_become 115 = .ok (.aload_n 0, 1) := dk_42 (dk_at dksX2_become_4 22 rfl rfl)
theorem dX2_become_116 : decode cX2_become 116 = .ok (.getfield 71, 3) := dk_180 0 71 (dk_at dksX2_become_5 0 rfl rfl)
theorem dX2_become_119 : decode cX2_become 119 = .ok (.aload_n 1, 1) := dk_43 (dk_at dksX2_become_5 3 rfl rfl)
theorem dX2_become_120 : decode cX2_become 120 = .ok (.getfield 71, 3) := dk_180 0 71 (dk_at dksX2_become_5 4 rfl rfl)
theorem dX2_become_123 : decode cX2_become 123 = .ok (.invokevirtual 134, 3) := dk_182 0 134 (dk_at dksX2_become_5 7 rfl rfl)
theorem dX2_become_126 : decode cX2_become 126 = .ok (.pop, 1) := dk_87 (dk_at dksX2_become_5 10 rfl rfl)
theorem dX2_become_127 : decode cX2_become 127 = .ok (.aload_n 0, 1) := dk_42 (dk_at dksX2_become_5 11 rfl rfl)
theorem dX2_become_128 : decode cX2_become 128 = .ok (.aload_n 1, 1) := dk_43 (dk_at dksX2_become_5 12 rfl rfl)
theorem dX2_become_129 : decode cX2_become 129 = .ok (.getfield 138, 3) := dk_180 0 138 (dk_at dksX2_become_5 13 rfl rfl)
theorem dX2_become_132 : decode cX2_become 132 = .ok (.putfield 138, 3) := dk_181 0 138 (dk_at dksX2_become_5 16 rfl rfl)
theorem dX2_become_135 : decode cX2_become 135 = .ok (.aload_n 0, 1) := dk_42 (dk_at dksX2_become_5 19 rfl rfl)
theorem dX2_become_136 : decode cX2_become 136 = .ok (.aload_n 1, 1) := dk_43 (dk_at dksX2_become_5 20 rfl rfl)
theorem dX2_become_137 : decode cX2_become 137 = .ok (.getfield 142, 3) := dk_180 0 142 (dk_at dksX2_become_5 21 rfl rfl)
theorem dX2_become_140 : decode cX2_become 140 = .ok (.putfield 142, 3) := dk_181 0 142 (dk_at dksX2_become_6 0 rfl rfl)
theorem dX2_become_143 : decode cX2_become 143 = .ok (.return_, 1) := dk_177 (dk_at dksX2_become_6 3 rfl rfl)
abbrev cX2_rows : ByteArray := prog_10_method_3_code
def yX2_rows : MethodName := ⟨RX2, "rows", "()[[I"⟩
def dkwX2_rows_4 : List UInt8 := [83, 176]
abbrev dktX2_rows_4 : List UInt8 := dkwX2_rows_4 ++ []
def dkwX2_rows_3 : List UInt8 := [83, 89, 16, 9, 42, 180, 0, 43, 83, 89, 16, 10, 42, 180, 0, 46, 83, 89, 16, 11, 42, 180, 0, 49]
abbrev dktX2_rows_3 : List UInt8 := dkwX2_rows_3 ++ dktX2_rows_4
def dkwX2_rows_2 : List UInt8 := [83, 89, 16, 6, 42, 180, 0, 34, 83, 89, 16, 7, 42, 180, 0, 37, 83, 89, 16, 8, 42, 180, 0, 40]
abbrev dktX2_rows_2 : List UInt8 := dkwX2_rows_2 ++ dktX2_rows_3
def dkwX2_rows_1 : List UInt8 := [180, 0, 22, 83, 89, 6, 42, 180, 0, 25, 83, 89, 7, 42, 180, 0, 28, 83, 89, 8, 42, 180, 0, 31]
abbrev dktX2_rows_1 : List UInt8 := dkwX2_rows_1 ++ dktX2_rows_2
def dkwX2_rows_0 : List UInt8 := [16, 12, 189, 0, 145, 89, 3, 42, 180, 0, 15, 83, 89, 4, 42, 180, 0, 19, 83, 89, 5, 42]
abbrev dktX2_rows_0 : List UInt8 := dkwX2_rows_0 ++ dktX2_rows_1
theorem dksX2_rows_0 : cX2_rows.data.toList.drop 0 = dktX2_rows_0 := by decide +kernel
theorem dksX2_rows_1 : cX2_rows.data.toList.drop 22 = dktX2_rows_1 := dk_seg dksX2_rows_0 22 rfl rfl
theorem dksX2_rows_2 : cX2_rows.data.toList.drop 46 = dktX2_rows_2 := dk_seg dksX2_rows_1 24 rfl rfl
theorem dksX2_rows_3 : cX2_rows.data.toList.drop 70 = dktX2_rows_3 := dk_seg dksX2_rows_2 24 rfl rfl
theorem dksX2_rows_4 : cX2_rows.data.toList.drop 94 = dktX2_rows_4 := dk_seg dksX2_rows_3 24 rfl rfl
theorem dX2_rows_0 : decode cX2_rows 0 = .ok (.bipush 12, 2) := dk_16 12 (dk_at dksX2_rows_0 0 rfl rfl)
theorem dX2_rows_2 : decode cX2_rows 2 = .ok (.anewarray 145, 3) := dk_189 0 145 (dk_at dksX2_rows_0 2 rfl rfl)
theorem dX2_rows_5 : decode cX2_rows 5 = .ok (.dup, 1) := dk_89 (dk_at dksX2_rows_0 5 rfl rfl)
theorem dX2_rows_6 : decode cX2_rows 6 = .ok (.iconst 0, 1) := dk_3 (dk_at dksX2_rows_0 6 rfl rfl)
theorem dX2_rows_7 : decode cX2_rows 7 = .ok (.aload_n 0, 1) := dk_42 (dk_at dksX2_rows_0 7 rfl rfl)
theorem dX2_rows_8 : decode cX2_rows 8 = .ok (.getfield 15, 3) := dk_180 0 15 (dk_at dksX2_rows_0 8 rfl rfl)
theorem dX2_rows_11 : decode cX2_rows 11 = .ok (.aastore, 1) := dk_83 (dk_at dksX2_rows_0 11 rfl rfl)
theorem dX2_rows_12 : decode cX2_rows 12 = .ok (.dup, 1) := dk_89 (dk_at dksX2_rows_0 12 rfl rfl)
theorem dX2_rows_13 : decode cX2_rows 13 = .ok (.iconst 1, 1) := dk_4 (dk_at dksX2_rows_0 13 rfl rfl)
theorem dX2_rows_14 : decode cX2_rows 14 = .ok (.aload_n 0, 1) := dk_42 (dk_at dksX2_rows_0 14 rfl rfl)
theorem dX2_rows_15 : decode cX2_rows 15 = .ok (.getfield 19, 3) := dk_180 0 19 (dk_at dksX2_rows_0 15 rfl rfl)
theorem dX2_rows_18 : decode cX2_rows 18 = .ok (.aastore, 1) := dk_83 (dk_at dksX2_rows_0 18 rfl rfl)
theorem dX2_rows_19 : decode cX2_rows 19 = .ok (.dup, 1) := dk_89 (dk_at dksX2_rows_0 19 rfl rfl)
theorem dX2_rows_20 : decode cX2_rows 20 = .ok (.iconst 2, 1) := dk_5 (dk_at dksX2_rows_0 20 rfl rfl)
theorem dX2_rows_21 : decode cX2_rows 21 = .ok (.aload_n 0, 1) := dk_42 (dk_at dksX2_rows_0 21 rfl rfl)
theorem dX2_rows_22 : decode cX2_rows 22 = .ok (.getfield 22, 3) := dk_180 0 22 (dk_at dksX2_rows_1 0 rfl rfl)
theorem dX2_rows_25 : decode cX2_rows 25 = .ok (.aastore, 1) := dk_83 (dk_at dksX2_rows_1 3 rfl rfl)
theorem dX2_rows_26 : decode cX2_rows 26 = .ok (.dup, 1) := dk_89 (dk_at dksX2_rows_1 4 rfl rfl)
theorem dX2_rows_27 : decode cX2_rows 27 = .ok (.iconst 3, 1) := dk_6 (dk_at dksX2_rows_1 5 rfl rfl)
theorem dX2_rows_28 : decode cX2_rows 28 = .ok (.aload_n 0, 1) := dk_42 (dk_at dksX2_rows_1 6 rfl rfl)
theorem dX2_rows_29 : decode cX2_rows 29 = .ok (.getfield 25, 3) := dk_180 0 25 (dk_at dksX2_rows_1 7 rfl rfl)
theorem dX2_rows_32 : decode cX2_rows 32 = .ok (.aastore, 1) := dk_83 (dk_at dksX2_rows_1 10 rfl rfl)
theorem dX2_rows_33 : decode cX2_rows 33 = .ok (.dup, 1) := dk_89 (dk_at dksX2_rows_1 11 rfl rfl)
theorem dX2_rows_34 : decode cX2_rows 34 = .ok (.iconst 4, 1) := dk_7 (dk_at dksX2_rows_1 12 rfl rfl)
theorem dX2_rows_35 : decode cX2_rows 35 = .ok (.aload_n 0, 1) := dk_42 (dk_at dksX2_rows_1 13 rfl rfl)
theorem dX2_rows_36 : decode cX2_rows 36 = .ok (.getfield 28, 3) := dk_180 0 28 (dk_at dksX2_rows_1 14 rfl rfl)
theorem dX2_rows_39 : decode cX2_rows 39 = .ok (.aastore, 1) := dk_83 (dk_at dksX2_rows_1 17 rfl rfl)
theorem dX2_rows_40 : decode cX2_rows 40 = .ok (.dup, 1) := dk_89 (dk_at dksX2_rows_1 18 rfl rfl)
theorem dX2_rows_41 : decode cX2_rows 41 = .ok (.iconst 5, 1) := dk_8 (dk_at dksX2_rows_1 19 rfl rfl)
theorem dX2_rows_42 : decode cX2_rows 42 = .ok (.aload_n 0, 1) := dk_42 (dk_at dksX2_rows_1 20 rfl rfl)
theorem dX2_rows_43 : decode cX2_rows 43 = .ok (.getfield 31, 3) := dk_180 0 31 (dk_at dksX2_rows_1 21 rfl rfl)
theorem dX2_rows_46 : decode cX2_rows 46 = .ok (.aastore, 1) := dk_83 (dk_at dksX2_rows_2 0 rfl rfl)
theorem dX2_rows_47 : decode cX2_rows 47 = .ok (.dup, 1) := dk_89 (dk_at dksX2_rows_2 1 rfl rfl)
theorem dX2_rows_48 : decode cX2_rows 48 = .ok (.bipush 6, 2) := dk_16 6 (dk_at dksX2_rows_2 2 rfl rfl)
theorem dX2_rows_50 : decode cX2_rows 50 = .ok (.aload_n 0, 1) := dk_42 (dk_at dksX2_rows_2 4 rfl rfl)
theorem dX2_rows_51 : decode cX2_rows 51 = .ok (.getfield 34, 3) := dk_180 0 34 (dk_at dksX2_rows_2 5 rfl rfl)
theorem dX2_rows_54 : decode cX2_rows 54 = .ok (.aastore, 1) := dk_83 (dk_at dksX2_rows_2 8 rfl rfl)
theorem dX2_rows_55 : decode cX2_rows 55 = .ok (.dup, 1) := dk_89 (dk_at dksX2_rows_2 9 rfl rfl)
theorem dX2_rows_56 : decode cX2_rows 56 = .ok (.bipush 7, 2) := dk_16 7 (dk_at dksX2_rows_2 10 rfl rfl)
theorem dX2_rows_58 : decode cX2_rows 58 = .ok (.aload_n 0, 1) := dk_42 (dk_at dksX2_rows_2 12 rfl rfl)
theorem dX2_rows_59 : decode cX2_rows 59 = .ok (.getfield 37, 3) := dk_180 0 37 (dk_at dksX2_rows_2 13 rfl rfl)
theorem dX2_rows_62 : decode cX2_rows 62 = .ok (.aastore, 1) := dk_83 (dk_at dksX2_rows_2 16 rfl rfl)
theorem dX2_rows_63 : decode cX2_rows 63 = .ok (.dup, 1) := dk_89 (dk_at dksX2_rows_2 17 rfl rfl)
theorem dX2_rows_64 : decode cX2_rows 64 = .ok (.bipush 8, 2) := dk_16 8 (dk_at dksX2_rows_2 18 rfl rfl)
theorem dX2_rows_66 : decode cX2_rows 66 = .ok (.aload_n 0, 1) := dk_42 (dk_at dksX2_rows_2 20 rfl rfl)
theorem dX2_rows_67 : decode cX2_rows 67 = .ok (.getfield 40, 3) := dk_180 0 40 (dk_at dksX2_rows_2 21 rfl rfl)
theorem dX2_rows_70 : decode cX2_rows 70 = .ok (.aastore, 1) := dk_83 (dk_at dksX2_rows_3 0 rfl rfl)
theorem dX2_rows_71 : decode cX2_rows 71 = .ok (.dup, 1) := dk_89 (dk_at dksX2_rows_3 1 rfl rfl)
theorem dX2_rows_72 : decode cX2_rows 72 = .ok (.bipush 9, 2) := dk_16 9 (dk_at dksX2_rows_3 2 rfl rfl)
theorem dX2_rows_74 : decode cX2_rows 74 = .ok (.aload_n 0, 1) := dk_42 (dk_at dksX2_rows_3 4 rfl rfl)
theorem dX2_rows_75 : decode cX2_rows 75 = .ok (.getfield 43, 3) := dk_180 0 43 (dk_at dksX2_rows_3 5 rfl rfl)
theorem dX2_rows_78 : decode cX2_rows 78 = .ok (.aastore, 1) := dk_83 (dk_at dksX2_rows_3 8 rfl rfl)
theorem dX2_rows_79 : decode cX2_rows 79 = .ok (.dup, 1) := dk_89 (dk_at dksX2_rows_3 9 rfl rfl)
theorem dX2_rows_80 : decode cX2_rows 80 = .ok (.bipush 10, 2) := dk_16 10 (dk_at dksX2_rows_3 10 rfl rfl)
theorem dX2_rows_82 : decode cX2_rows 82 = .ok (.aload_n 0, 1) := dk_42 (dk_at dksX2_rows_3 12 rfl rfl)
theorem dX2_rows_83 : decode cX2_rows 83 = .ok (.getfield 46, 3) := dk_180 0 46 (dk_at dksX2_rows_3 13 rfl rfl)
theorem dX2_rows_86 : decode cX2_rows 86 = .ok (.aastore, 1) := dk_83 (dk_at dksX2_rows_3 16 rfl rfl)
theorem dX2_rows_87 : decode cX2_rows 87 = .ok (.dup, 1) := dk_89 (dk_at dksX2_rows_3 17 rfl rfl)
theorem dX2_rows_88 : decode cX2_rows 88 = .ok (.bipush 11, 2) := dk_16 11 (dk_at dksX2_rows_3 18 rfl rfl)
theorem dX2_rows_90 : decode cX2_rows 90 = .ok (.aload_n 0, 1) := dk_42 (dk_at dksX2_rows_3 20 rfl rfl)
theorem dX2_rows_91 : decode cX2_rows 91 = .ok (.getfield 49, 3) := dk_180 0 49 (dk_at dksX2_rows_3 21 rfl rfl)
theorem dX2_rows_94 : decode cX2_rows 94 = .ok (.aastore, 1) := dk_83 (dk_at dksX2_rows_4 0 rfl rfl)
theorem dX2_rows_95 : decode cX2_rows 95 = .ok (.areturn, 1) := dk_176 (dk_at dksX2_rows_4 1 rfl rfl)
abbrev cX2_goes : ByteArray := prog_10_method_40_code
def yX2_goes : MethodName := ⟨RX2, "goes", "(I)V"⟩
def dkwX2_goes_0 : List UInt8 := [3, 61, 28, 27, 162, 0, 19, 42, 182, 1, 78, 87, 42, 182, 1, 81, 87, 132, 2, 1, 167, 255, 238, 177]
abbrev dktX2_goes_0 : List UInt8 := dkwX2_goes_0 ++ []
theorem dksX2_goes_0 : cX2_goes.data.toList.drop 0 = dktX2_goes_0 := by decide +kernel
theorem dX2_goes_0 : decode cX2_goes 0 = .ok (.iconst 0, 1) := dk_3 (dk_at dksX2_goes_0 0 rfl rfl)
theorem dX2_goes_1 : decode cX2_goes 1 = .ok (.istore_n 2, 1) := dk_61 (dk_at dksX2_goes_0 1 rfl rfl)
theorem dX2_goes_2 : decode cX2_goes 2 = .ok (.iload_n 2, 1) := dk_28 (dk_at dksX2_goes_0 2 rfl rfl)
theorem dX2_goes_3 : decode cX2_goes 3 = .ok (.iload_n 1, 1) := dk_27 (dk_at dksX2_goes_0 3 rfl rfl)
theorem dX2_goes_4 : decode cX2_goes 4 = .ok (.if_icmp .ge 19, 3) := dk_162 0 19 (dk_at dksX2_goes_0 4 rfl rfl)
theorem dX2_goes_7 : decode cX2_goes 7 = .ok (.aload_n 0, 1) := dk_42 (dk_at dksX2_goes_0 7 rfl rfl)
theorem dX2_goes_8 : decode cX2_goes 8 = .ok (.invokevirtual 334, 3) := dk_182 1 78 (dk_at dksX2_goes_0 8 rfl rfl)
theorem dX2_goes_11 : decode cX2_goes 11 = .ok (.pop, 1) := dk_87 (dk_at dksX2_goes_0 11 rfl rfl)
theorem dX2_goes_12 : decode cX2_goes 12 = .ok (.aload_n 0, 1) := dk_42 (dk_at dksX2_goes_0 12 rfl rfl)
theorem dX2_goes_13 : decode cX2_goes 13 = .ok (.invokevirtual 337, 3) := dk_182 1 81 (dk_at dksX2_goes_0 13 rfl rfl)
theorem dX2_goes_16 : decode cX2_goes 16 = .ok (.pop, 1) := dk_87 (dk_at dksX2_goes_0 16 rfl rfl)
theorem dX2_goes_17 : decode cX2_goes 17 = .ok (.iinc 2 1, 3) := dk_132 2 1 (dk_at dksX2_goes_0 17 rfl rfl)
theorem dX2_goes_20 : decode cX2_goes 20 = .ok (.goto (-18), 3) := dk_167 255 238 (dk_at dksX2_goes_0 20 rfl rfl)
theorem dX2_goes_23 : decode cX2_goes 23 = .ok (.return_, 1) := dk_177 (dk_at dksX2_goes_0 23 rfl rfl)
abbrev cX2_bidsAll : ByteArray := prog_10_method_32_code
def yX2_bidsAll : MethodName := ⟨RX2, "bidsAll", "()I"⟩
def dkwX2_bidsAll_5 : List UInt8 := [100, 172]
abbrev dktX2_bidsAll_5 : List UInt8 := dkwX2_bidsAll_5 ++ []
def dkwX2_bidsAll_4 : List UInt8 := [42, 28, 21, 5, 182, 1, 39, 132, 4, 1, 167, 255, 207, 132, 2, 1, 167, 255, 155, 42, 182, 1, 30, 27]
abbrev dktX2_bidsAll_4 : List UInt8 := dkwX2_bidsAll_4 ++ dktX2_bidsAll_5
def dkwX2_bidsAll_3 : List UInt8 := [21, 4, 167, 0, 10, 42, 28, 21, 4, 182, 0, 175, 54, 5, 42, 28, 21, 5, 182, 1, 36, 154, 0, 10]
abbrev dktX2_bidsAll_3 : List UInt8 := dkwX2_bidsAll_3 ++ dktX2_bidsAll_4
def dkwX2_bidsAll_2 : List UInt8 := [180, 0, 34, 28, 46, 62, 3, 54, 4, 21, 4, 29, 162, 0, 49, 42, 180, 0, 34, 28, 46, 154, 0, 8]
abbrev dktX2_bidsAll_2 : List UInt8 := dkwX2_bidsAll_2 ++ dktX2_bidsAll_3
def dkwX2_bidsAll_1 : List UInt8 := [180, 0, 34, 28, 46, 154, 0, 16, 42, 180, 0, 3, 180, 1, 33, 182, 0, 149, 167, 0, 9, 42]
abbrev dktX2_bidsAll_1 : List UInt8 := dkwX2_bidsAll_1 ++ dktX2_bidsAll_2
def dkwX2_bidsAll_0 : List UInt8 := [42, 182, 1, 30, 60, 3, 61, 28, 42, 180, 0, 3, 180, 0, 146, 182, 0, 149, 162, 0, 93, 42]
abbrev dktX2_bidsAll_0 : List UInt8 := dkwX2_bidsAll_0 ++ dktX2_bidsAll_1
theorem dksX2_bidsAll_0 : cX2_bidsAll.data.toList.drop 0 = dktX2_bidsAll_0 := by decide +kernel
theorem dksX2_bidsAll_1 : cX2_bidsAll.data.toList.drop 22 = dktX2_bidsAll_1 := dk_seg dksX2_bidsAll_0 22 rfl rfl
theorem dksX2_bidsAll_2 : cX2_bidsAll.data.toList.drop 44 = dktX2_bidsAll_2 := dk_seg dksX2_bidsAll_1 22 rfl rfl
theorem dksX2_bidsAll_3 : cX2_bidsAll.data.toList.drop 68 = dktX2_bidsAll_3 := dk_seg dksX2_bidsAll_2 24 rfl rfl
theorem dksX2_bidsAll_4 : cX2_bidsAll.data.toList.drop 92 = dktX2_bidsAll_4 := dk_seg dksX2_bidsAll_3 24 rfl rfl
theorem dksX2_bidsAll_5 : cX2_bidsAll.data.toList.drop 116 = dktX2_bidsAll_5 := dk_seg dksX2_bidsAll_4 24 rfl rfl
theorem dX2_bidsAll_0 : decode cX2_bidsAll 0 = .ok (.aload_n 0, 1) := dk_42 (dk_at dksX2_bidsAll_0 0 rfl rfl)
theorem dX2_bidsAll_1 : decode cX2_bidsAll 1 = .ok (.invokevirtual 286, 3) := dk_182 1 30 (dk_at dksX2_bidsAll_0 1 rfl rfl)
theorem dX2_bidsAll_4 : decode cX2_bidsAll 4 = .ok (.istore_n 1, 1) := dk_60 (dk_at dksX2_bidsAll_0 4 rfl rfl)
theorem dX2_bidsAll_5 : decode cX2_bidsAll 5 = .ok (.iconst 0, 1) := dk_3 (dk_at dksX2_bidsAll_0 5 rfl rfl)
theorem dX2_bidsAll_6 : decode cX2_bidsAll 6 = .ok (.istore_n 2, 1) := dk_61 (dk_at dksX2_bidsAll_0 6 rfl rfl)
theorem dX2_bidsAll_7 : decode cX2_bidsAll 7 = .ok (.iload_n 2, 1) := dk_28 (dk_at dksX2_bidsAll_0 7 rfl rfl)
theorem dX2_bidsAll_8 : decode cX2_bidsAll 8 = .ok (.aload_n 0, 1) := dk_42 (dk_at dksX2_bidsAll_0 8 rfl rfl)
theorem dX2_bidsAll_9 : decode cX2_bidsAll 9 = .ok (.getfield 3, 3) := dk_180 0 3 (dk_at dksX2_bidsAll_0 9 rfl rfl)
theorem dX2_bidsAll_12 : decode cX2_bidsAll 12 = .ok (.getfield 146, 3) := dk_180 0 146 (dk_at dksX2_bidsAll_0 12 rfl rfl)
theorem dX2_bidsAll_15 : decode cX2_bidsAll 15 = .ok (.invokevirtual 149, 3) := dk_182 0 149 (dk_at dksX2_bidsAll_0 15 rfl rfl)
theorem dX2_bidsAll_18 : decode cX2_bidsAll 18 = .ok (.if_icmp .ge 93, 3) := dk_162 0 93 (dk_at dksX2_bidsAll_0 18 rfl rfl)
theorem dX2_bidsAll_21 : decode cX2_bidsAll 21 = .ok (.aload_n 0, 1) := dk_42 (dk_at dksX2_bidsAll_0 21 rfl rfl)
theorem dX2_bidsAll_22 : decode cX2_bidsAll 22 = .ok (.getfield 34, 3) := dk_180 0 34 (dk_at dksX2_bidsAll_1 0 rfl rfl)
theorem dX2_bidsAll_25 : decode cX2_bidsAll 25 = .ok (.iload_n 2, 1) := dk_28 (dk_at dksX2_bidsAll_1 3 rfl rfl)
theorem dX2_bidsAll_26 : decode cX2_bidsAll 26 = .ok (.iaload, 1) := dk_46 (dk_at dksX2_bidsAll_1 4 rfl rfl)
theorem dX2_bidsAll_27 : decode cX2_bidsAll 27 = .ok (.ifCond .ne 16, 3) := dk_154 0 16 (dk_at dksX2_bidsAll_1 5 rfl rfl)
theorem dX2_bidsAll_30 : decode cX2_bidsAll 30 = .ok (.aload_n 0, 1) := dk_42 (dk_at dksX2_bidsAll_1 8 rfl rfl)
theorem dX2_bidsAll_31 : decode cX2_bidsAll 31 = .ok (.getfield 3, 3) := dk_180 0 3 (dk_at dksX2_bidsAll_1 9 rfl rfl)
theorem dX2_bidsAll_34 : decode cX2_bidsAll 34 = .ok (.getfield 289, 3) := dk_180 1 33 (dk_at dksX2_bidsAll_1 12 rfl rfl)
theorem dX2_bidsAll_37 : decode cX2_bidsAll 37 = .ok (.invokevirtual 149, 3) := dk_182 0 149 (dk_at dksX2_bidsAll_1 15 rfl rfl)
theorem dX2_bidsAll_40 : decode cX2_bidsAll 40 = .ok (.goto 9, 3) := dk_167 0 9 (dk_at dksX2_bidsAll_1 18 rfl rfl)
theorem dX2_bidsAll_43 : decode cX2_bidsAll 43 = .ok (.aload_n 0, 1) := dk_42 (dk_at dksX2_bidsAll_1 21 rfl rfl)
theorem dX2_bidsAll_44 : decode cX2_bidsAll 44 = .ok (.getfield 34, 3) := dk_180 0 34 (dk_at dksX2_bidsAll_2 0 rfl rfl)
theorem dX2_bidsAll_47 : decode cX2_bidsAll 47 = .ok (.iload_n 2, 1) := dk_28 (dk_at dksX2_bidsAll_2 3 rfl rfl)
theorem dX2_bidsAll_48 : decode cX2_bidsAll 48 = .ok (.iaload, 1) := dk_46 (dk_at dksX2_bidsAll_2 4 rfl rfl)
theorem dX2_bidsAll_49 : decode cX2_bidsAll 49 = .ok (.istore_n 3, 1) := dk_62 (dk_at dksX2_bidsAll_2 5 rfl rfl)
theorem dX2_bidsAll_50 : decode cX2_bidsAll 50 = .ok (.iconst 0, 1) := dk_3 (dk_at dksX2_bidsAll_2 6 rfl rfl)
theorem dX2_bidsAll_51 : decode cX2_bidsAll 51 = .ok (.istore 4, 2) := dk_54 4 (dk_at dksX2_bidsAll_2 7 rfl rfl)
theorem dX2_bidsAll_53 : decode cX2_bidsAll 53 = .ok (.iload 4, 2) := dk_21 4 (dk_at dksX2_bidsAll_2 9 rfl rfl)
theorem dX2_bidsAll_55 : decode cX2_bidsAll 55 = .ok (.iload_n 3, 1) := dk_29 (dk_at dksX2_bidsAll_2 11 rfl rfl)
theorem dX2_bidsAll_56 : decode cX2_bidsAll 56 = .ok (.if_icmp .ge 49, 3) := dk_162 0 49 (dk_at dksX2_bidsAll_2 12 rfl rfl)
theorem dX2_bidsAll_59 : decode cX2_bidsAll 59 = .ok (.aload_n 0, 1) := dk_42 (dk_at dksX2_bidsAll_2 15 rfl rfl)
theorem dX2_bidsAll_60 : decode cX2_bidsAll 60 = .ok (.getfield 34, 3) := dk_180 0 34 (dk_at dksX2_bidsAll_2 16 rfl rfl)
theorem dX2_bidsAll_63 : decode cX2_bidsAll 63 = .ok (.iload_n 2, 1) := dk_28 (dk_at dksX2_bidsAll_2 19 rfl rfl)
theorem dX2_bidsAll_64 : decode cX2_bidsAll 64 = .ok (.iaload, 1) := dk_46 (dk_at dksX2_bidsAll_2 20 rfl rfl)
theorem dX2_bidsAll_65 : decode cX2_bidsAll 65 = .ok (.ifCond .ne 8, 3) := dk_154 0 8 (dk_at dksX2_bidsAll_2 21 rfl rfl)
theorem dX2_bidsAll_68 : decode cX2_bidsAll 68 = .ok (.iload 4, 2) := dk_21 4 (dk_at dksX2_bidsAll_3 0 rfl rfl)
theorem dX2_bidsAll_70 : decode cX2_bidsAll 70 = .ok (.goto 10, 3) := dk_167 0 10 (dk_at dksX2_bidsAll_3 2 rfl rfl)
theorem dX2_bidsAll_73 : decode cX2_bidsAll 73 = .ok (.aload_n 0, 1) := dk_42 (dk_at dksX2_bidsAll_3 5 rfl rfl)
theorem dX2_bidsAll_74 : decode cX2_bidsAll 74 = .ok (.iload_n 2, 1) := dk_28 (dk_at dksX2_bidsAll_3 6 rfl rfl)
theorem dX2_bidsAll_75 : decode cX2_bidsAll 75 = .ok (.iload 4, 2) := dk_21 4 (dk_at dksX2_bidsAll_3 7 rfl rfl)
theorem dX2_bidsAll_77 : decode cX2_bidsAll 77 = .ok (.invokevirtual 175, 3) := dk_182 0 175 (dk_at dksX2_bidsAll_3 9 rfl rfl)
theorem dX2_bidsAll_80 : decode cX2_bidsAll 80 = .ok (.istore 5, 2) := dk_54 5 (dk_at dksX2_bidsAll_3 12 rfl rfl)
theorem dX2_bidsAll_82 : decode cX2_bidsAll 82 = .ok (.aload_n 0, 1) := dk_42 (dk_at dksX2_bidsAll_3 14 rfl rfl)
theorem dX2_bidsAll_83 : decode cX2_bidsAll 83 = .ok (.iload_n 2, 1) := dk_28 (dk_at dksX2_bidsAll_3 15 rfl rfl)
theorem dX2_bidsAll_84 : decode cX2_bidsAll 84 = .ok (.iload 5, 2) := dk_21 5 (dk_at dksX2_bidsAll_3 16 rfl rfl)
theorem dX2_bidsAll_86 : decode cX2_bidsAll 86 = .ok (.invokevirtual 292, 3) := dk_182 1 36 (dk_at dksX2_bidsAll_3 18 rfl rfl)
theorem dX2_bidsAll_89 : decode cX2_bidsAll 89 = .ok (.ifCond .ne 10, 3) := dk_154 0 10 (dk_at dksX2_bidsAll_3 21 rfl rfl)
theorem dX2_bidsAll_92 : decode cX2_bidsAll 92 = .ok (.aload_n 0, 1) := dk_42 (dk_at dksX2_bidsAll_4 0 rfl rfl)
theorem dX2_bidsAll_93 : decode cX2_bidsAll 93 = .ok (.iload_n 2, 1) := dk_28 (dk_at dksX2_bidsAll_4 1 rfl rfl)
theorem dX2_bidsAll_94 : decode cX2_bidsAll 94 = .ok (.iload 5, 2) := dk_21 5 (dk_at dksX2_bidsAll_4 2 rfl rfl)
theorem dX2_bidsAll_96 : decode cX2_bidsAll 96 = .ok (.invokevirtual 295, 3) := dk_182 1 39 (dk_at dksX2_bidsAll_4 4 rfl rfl)
theorem dX2_bidsAll_99 : decode cX2_bidsAll 99 = .ok (.iinc 4 1, 3) := dk_132 4 1 (dk_at dksX2_bidsAll_4 7 rfl rfl)
theorem dX2_bidsAll_102 : decode cX2_bidsAll 102 = .ok (.goto (-49), 3) := dk_167 255 207 (dk_at dksX2_bidsAll_4 10 rfl rfl)
theorem dX2_bidsAll_105 : decode cX2_bidsAll 105 = .ok (.iinc 2 1, 3) := dk_132 2 1 (dk_at dksX2_bidsAll_4 13 rfl rfl)
theorem dX2_bidsAll_108 : decode cX2_bidsAll 108 = .ok (.goto (-101), 3) := dk_167 255 155 (dk_at dksX2_bidsAll_4 16 rfl rfl)
theorem dX2_bidsAll_111 : decode cX2_bidsAll 111 = .ok (.aload_n 0, 1) := dk_42 (dk_at dksX2_bidsAll_4 19 rfl rfl)
theorem dX2_bidsAll_112 : decode cX2_bidsAll 112 = .ok (.invokevirtual 286, 3) := dk_182 1 30 (dk_at dksX2_bidsAll_4 20 rfl rfl)
theorem dX2_bidsAll_115 : decode cX2_bidsAll 115 = .ok (.iload_n 1, 1) := dk_27 (dk_at dksX2_bidsAll_4 23 rfl rfl)
theorem dX2_bidsAll_116 : decode cX2_bidsAll 116 = .ok (.isub, 1) := dk_100 (dk_at dksX2_bidsAll_5 0 rfl rfl)
theorem dX2_bidsAll_117 : decode cX2_bidsAll 117 = .ok (.ireturn, 1) := dk_172 (dk_at dksX2_bidsAll_5 1 rfl rfl)
abbrev cX2_bidsTogether : ByteArray := prog_10_method_33_code
def yX2_bidsTogether : MethodName := ⟨RX2, "bidsTogether", "()I"⟩
def dkwX2_bidsTogether_1 : List UInt8 := [96, 60, 132, 2, 1, 167, 255, 231, 27, 172]
abbrev dktX2_bidsTogether_1 : List UInt8 := dkwX2_bidsTogether_1 ++ []
def dkwX2_bidsTogether_0 : List UInt8 := [3, 60, 3, 61, 28, 42, 180, 0, 3, 180, 0, 146, 182, 0, 149, 162, 0, 17, 27, 42, 28, 182, 1, 43]
abbrev dktX2_bidsTogether_0 : List UInt8 := dkwX2_bidsTogether_0 ++ dktX2_bidsTogether_1
theorem dksX2_bidsTogether_0 : cX2_bidsTogether.data.toList.drop 0 = dktX2_bidsTogether_0 := by decide +kernel
theorem dksX2_bidsTogether_1 : cX2_bidsTogether.data.toList.drop 24 = dktX2_bidsTogether_1 := dk_seg dksX2_bidsTogether_0 24 rfl rfl
theorem dX2_bidsTogether_0 : decode cX2_bidsTogether 0 = .ok (.iconst 0, 1) := dk_3 (dk_at dksX2_bidsTogether_0 0 rfl rfl)
theorem dX2_bidsTogether_1 : decode cX2_bidsTogether 1 = .ok (.istore_n 1, 1) := dk_60 (dk_at dksX2_bidsTogether_0 1 rfl rfl)
theorem dX2_bidsTogether_2 : decode cX2_bidsTogether 2 = .ok (.iconst 0, 1) := dk_3 (dk_at dksX2_bidsTogether_0 2 rfl rfl)
theorem dX2_bidsTogether_3 : decode cX2_bidsTogether 3 = .ok (.istore_n 2, 1) := dk_61 (dk_at dksX2_bidsTogether_0 3 rfl rfl)
theorem dX2_bidsTogether_4 : decode cX2_bidsTogether 4 = .ok (.iload_n 2, 1) := dk_28 (dk_at dksX2_bidsTogether_0 4 rfl rfl)
theorem dX2_bidsTogether_5 : decode cX2_bidsTogether 5 = .ok (.aload_n 0, 1) := dk_42 (dk_at dksX2_bidsTogether_0 5 rfl rfl)
theorem dX2_bidsTogether_6 : decode cX2_bidsTogether 6 = .ok (.getfield 3, 3) := dk_180 0 3 (dk_at dksX2_bidsTogether_0 6 rfl rfl)
theorem dX2_bidsTogether_9 : decode cX2_bidsTogether 9 = .ok (.getfield 146, 3) := dk_180 0 146 (dk_at dksX2_bidsTogether_0 9 rfl rfl)
theorem dX2_bidsTogether_12 : decode cX2_bidsTogether 12 = .ok (.invokevirtual 149, 3) := dk_182 0 149 (dk_at dksX2_bidsTogether_0 12 rfl rfl)
theorem dX2_bidsTogether_15 : decode cX2_bidsTogether 15 = .ok (.if_icmp .ge 17, 3) := dk_162 0 17 (dk_at dksX2_bidsTogether_0 15 rfl rfl)
theorem dX2_bidsTogether_18 : decode cX2_bidsTogether 18 = .ok (.iload_n 1, 1) := dk_27 (dk_at dksX2_bidsTogether_0 18 rfl rfl)
theorem dX2_bidsTogether_19 : decode cX2_bidsTogether 19 = .ok (.aload_n 0, 1) := dk_42 (dk_at dksX2_bidsTogether_0 19 rfl rfl)
theorem dX2_bidsTogether_20 : decode cX2_bidsTogether 20 = .ok (.iload_n 2, 1) := dk_28 (dk_at dksX2_bidsTogether_0 20 rfl rfl)
theorem dX2_bidsTogether_21 : decode cX2_bidsTogether 21 = .ok (.invokevirtual 299, 3) := dk_182 1 43 (dk_at dksX2_bidsTogether_0 21 rfl rfl)
theorem dX2_bidsTogether_24 : decode cX2_bidsTogether 24 = .ok (.iadd, 1) := dk_96 (dk_at dksX2_bidsTogether_1 0 rfl rfl)
theorem dX2_bidsTogether_25 : decode cX2_bidsTogether 25 = .ok (.istore_n 1, 1) := dk_60 (dk_at dksX2_bidsTogether_1 1 rfl rfl)
theorem dX2_bidsTogether_26 : decode cX2_bidsTogether 26 = .ok (.iinc 2 1, 3) := dk_132 2 1 (dk_at dksX2_bidsTogether_1 2 rfl rfl)
theorem dX2_bidsTogether_29 : decode cX2_bidsTogether 29 = .ok (.goto (-25), 3) := dk_167 255 231 (dk_at dksX2_bidsTogether_1 5 rfl rfl)
theorem dX2_bidsTogether_32 : decode cX2_bidsTogether 32 = .ok (.iload_n 1, 1) := dk_27 (dk_at dksX2_bidsTogether_1 8 rfl rfl)
theorem dX2_bidsTogether_33 : decode cX2_bidsTogether 33 = .ok (.ireturn, 1) := dk_172 (dk_at dksX2_bidsTogether_1 9 rfl rfl)
abbrev cX2_putsBid : ByteArray := prog_10_method_31_code
def yX2_putsBid : MethodName := ⟨RX2, "putsBid", "(II)V"⟩
def dkwX2_putsBid_0 : List UInt8 := [42, 180, 0, 31, 27, 92, 46, 4, 28, 120, 128, 79, 177]
abbrev dktX2_putsBid_0 : List UInt8 := dkwX2_putsBid_0 ++ []
theorem dksX2_putsBid_0 : cX2_putsBid.data.toList.drop 0 = dktX2_putsBid_0 := by decide +kernel
theorem dX2_putsBid_0 : decode cX2_putsBid 0 = .ok (.aload_n 0, 1) := dk_42 (dk_at dksX2_putsBid_0 0 rfl rfl)
theorem dX2_putsBid_1 : decode cX2_putsBid 1 = .ok (.getfield 31, 3) := dk_180 0 31 (dk_at dksX2_putsBid_0 1 rfl rfl)
theorem dX2_putsBid_4 : decode cX2_putsBid 4 = .ok (.iload_n 1, 1) := dk_27 (dk_at dksX2_putsBid_0 4 rfl rfl)
theorem dX2_putsBid_5 : decode cX2_putsBid 5 = .ok (.dup2, 1) := dk_92 (dk_at dksX2_putsBid_0 5 rfl rfl)
theorem dX2_putsBid_6 : decode cX2_putsBid 6 = .ok (.iaload, 1) := dk_46 (dk_at dksX2_putsBid_0 6 rfl rfl)
theorem dX2_putsBid_7 : decode cX2_putsBid 7 = .ok (.iconst 1, 1) := dk_4 (dk_at dksX2_putsBid_0 7 rfl rfl)
theorem dX2_putsBid_8 : decode cX2_putsBid 8 = .ok (.iload_n 2, 1) := dk_28 (dk_at dksX2_putsBid_0 8 rfl rfl)
theorem dX2_putsBid_9 : decode cX2_putsBid 9 = .ok (.ishl, 1) := dk_120 (dk_at dksX2_putsBid_0 9 rfl rfl)
theorem dX2_putsBid_10 : decode cX2_putsBid 10 = .ok (.ior, 1) := dk_128 (dk_at dksX2_putsBid_0 10 rfl rfl)
theorem dX2_putsBid_11 : decode cX2_putsBid 11 = .ok (.iastore, 1) := dk_79 (dk_at dksX2_putsBid_0 11 rfl rfl)
theorem dX2_putsBid_12 : decode cX2_putsBid 12 = .ok (.return_, 1) := dk_177 (dk_at dksX2_putsBid_0 12 rfl rfl)
abbrev cX2_ends : ByteArray := prog_10_method_39_code
def yX2_ends : MethodName := ⟨RX2, "ends", "()I"⟩
def dkwX2_ends_8 : List UInt8 := [181, 0, 138, 42, 180, 0, 67, 182, 0, 149, 27, 100, 172]
abbrev dktX2_ends_8 : List UInt8 := dkwX2_ends_8 ++ []
def dkwX2_ends_7 : List UInt8 := [4, 100, 79, 42, 180, 0, 59, 29, 3, 84, 132, 3, 1, 167, 255, 197, 42, 89, 180, 0, 138, 4, 96]
abbrev dktX2_ends_7 : List UInt8 := dkwX2_ends_7 ++ dktX2_ends_8
def dkwX2_ends_6 : List UInt8 := [180, 0, 25, 29, 46, 158, 0, 22, 42, 180, 0, 59, 29, 51, 154, 0, 13, 42, 180, 0, 25, 29, 92, 46]
abbrev dktX2_ends_6 : List UInt8 := dkwX2_ends_6 ++ dktX2_ends_7
def dkwX2_ends_5 : List UInt8 := [29, 42, 180, 0, 3, 180, 0, 146, 182, 0, 149, 162, 0, 51, 42, 180, 0, 31, 29, 3, 79, 42]
abbrev dktX2_ends_5 : List UInt8 := dkwX2_ends_5 ++ dktX2_ends_6
def dkwX2_ends_4 : List UInt8 := [182, 0, 153, 156, 0, 7, 4, 167, 0, 4, 3, 184, 0, 234, 96, 79, 132, 3, 1, 167, 255, 198, 3, 62]
abbrev dktX2_ends_4 : List UInt8 := dkwX2_ends_4 ++ dktX2_ends_5
def dkwX2_ends_3 : List UInt8 := [122, 4, 126, 154, 0, 6, 167, 0, 33, 42, 29, 182, 1, 75, 42, 180, 0, 49, 29, 92, 46, 42, 29]
abbrev dktX2_ends_3 : List UInt8 := dkwX2_ends_3 ++ dktX2_ends_4
def dkwX2_ends_2 : List UInt8 := [132, 3, 1, 167, 255, 226, 3, 62, 29, 42, 180, 0, 3, 180, 1, 33, 182, 0, 149, 162, 0, 50, 28, 29]
abbrev dktX2_ends_2 : List UInt8 := dkwX2_ends_2 ++ dktX2_ends_3
def dkwX2_ends_1 : List UInt8 := [180, 1, 33, 182, 0, 149, 162, 0, 22, 28, 42, 29, 182, 1, 72, 184, 0, 234, 29, 120, 128, 61]
abbrev dktX2_ends_1 : List UInt8 := dkwX2_ends_1 ++ dktX2_ends_2
def dkwX2_ends_0 : List UInt8 := [42, 180, 0, 67, 182, 0, 149, 60, 42, 180, 0, 71, 182, 0, 131, 3, 61, 3, 62, 29, 42, 180, 0, 3]
abbrev dktX2_ends_0 : List UInt8 := dkwX2_ends_0 ++ dktX2_ends_1
theorem dksX2_ends_0 : cX2_ends.data.toList.drop 0 = dktX2_ends_0 := by decide +kernel
theorem dksX2_ends_1 : cX2_ends.data.toList.drop 24 = dktX2_ends_1 := dk_seg dksX2_ends_0 24 rfl rfl
theorem dksX2_ends_2 : cX2_ends.data.toList.drop 46 = dktX2_ends_2 := dk_seg dksX2_ends_1 22 rfl rfl
theorem dksX2_ends_3 : cX2_ends.data.toList.drop 70 = dktX2_ends_3 := dk_seg dksX2_ends_2 24 rfl rfl
theorem dksX2_ends_4 : cX2_ends.data.toList.drop 93 = dktX2_ends_4 := dk_seg dksX2_ends_3 23 rfl rfl
theorem dksX2_ends_5 : cX2_ends.data.toList.drop 117 = dktX2_ends_5 := dk_seg dksX2_ends_4 24 rfl rfl
theorem dksX2_ends_6 : cX2_ends.data.toList.drop 139 = dktX2_ends_6 := dk_seg dksX2_ends_5 22 rfl rfl
theorem dksX2_ends_7 : cX2_ends.data.toList.drop 163 = dktX2_ends_7 := dk_seg dksX2_ends_6 24 rfl rfl
theorem dksX2_ends_8 : cX2_ends.data.toList.drop 186 = dktX2_ends_8 := dk_seg dksX2_ends_7 23 rfl rfl
theorem dX2_ends_0 : decode cX2_ends 0 = .ok (.aload_n 0, 1) := dk_42 (dk_at dksX2_ends_0 0 rfl rfl)
theorem dX2_ends_1 : decode cX2_ends 1 = .ok (.getfield 67, 3) := dk_180 0 67 (dk_at dksX2_ends_0 1 rfl rfl)
theorem dX2_ends_4 : decode cX2_ends 4 = .ok (.invokevirtual 149, 3) := dk_182 0 149 (dk_at dksX2_ends_0 4 rfl rfl)
theorem dX2_ends_7 : decode cX2_ends 7 = .ok (.istore_n 1, 1) := dk_60 (dk_at dksX2_ends_0 7 rfl rfl)
theorem dX2_ends_8 : decode cX2_ends 8 = .ok (.aload_n 0, 1) := dk_42 (dk_at dksX2_ends_0 8 rfl rfl)
theorem dX2_ends_9 : decode cX2_ends 9 = .ok (.getfield 71, 3) := dk_180 0 71 (dk_at dksX2_ends_0 9 rfl rfl)
theorem dX2_ends_12 : decode cX2_ends 12 = .ok (.invokevirtual 131, 3) := dk_182 0 131 (dk_at dksX2_ends_0 12 rfl rfl)
theorem dX2_ends_15 : decode cX2_ends 15 = .ok (.iconst 0, 1) := dk_3 (dk_at dksX2_ends_0 15 rfl rfl)
theorem dX2_ends_16 : decode cX2_ends 16 = .ok (.istore_n 2, 1) := dk_61 (dk_at dksX2_ends_0 16 rfl rfl)
theorem dX2_ends_17 : decode cX2_ends 17 = .ok (.iconst 0, 1) := dk_3 (dk_at dksX2_ends_0 17 rfl rfl)
theorem dX2_ends_18 : decode cX2_ends 18 = .ok (.istore_n 3, 1) := dk_62 (dk_at dksX2_ends_0 18 rfl rfl)
theorem dX2_ends_19 : decode cX2_ends 19 = .ok (.iload_n 3, 1) := dk_29 (dk_at dksX2_ends_0 19 rfl rfl)
theorem dX2_ends_20 : decode cX2_ends 20 = .ok (.aload_n 0, 1) := dk_42 (dk_at dksX2_ends_0 20 rfl rfl)
theorem dX2_ends_21 : decode cX2_ends 21 = .ok (.getfield 3, 3) := dk_180 0 3 (dk_at dksX2_ends_0 21 rfl rfl)
theorem dX2_ends_24 : decode cX2_ends 24 = .ok (.getfield 289, 3) := dk_180 1 33 (dk_at dksX2_ends_1 0 rfl rfl)
theorem dX2_ends_27 : decode cX2_ends 27 = .ok (.invokevirtual 149, 3) := dk_182 0 149 (dk_at dksX2_ends_1 3 rfl rfl)
theorem dX2_ends_30 : decode cX2_ends 30 = .ok (.if_icmp .ge 22, 3) := dk_162 0 22 (dk_at dksX2_ends_1 6 rfl rfl)
theorem dX2_ends_33 : decode cX2_ends 33 = .ok (.iload_n 2, 1) := dk_28 (dk_at dksX2_ends_1 9 rfl rfl)
theorem dX2_ends_34 : decode cX2_ends 34 = .ok (.aload_n 0, 1) := dk_42 (dk_at dksX2_ends_1 10 rfl rfl)
theorem dX2_ends_35 : decode cX2_ends 35 = .ok (.iload_n 3, 1) := dk_29 (dk_at dksX2_ends_1 11 rfl rfl)
theorem dX2_ends_36 : decode cX2_ends 36 = .ok (.invokevirtual 328, 3) := dk_182 1 72 (dk_at dksX2_ends_1 12 rfl rfl)
theorem dX2_ends_39 : decode cX2_ends 39 = .ok (.invokestatic 234, 3) := dk_184 0 234 (dk_at dksX2_ends_1 15 rfl rfl)
theorem dX2_ends_42 : decode cX2_ends 42 = .ok (.iload_n 3, 1) := dk_29 (dk_at dksX2_ends_1 18 rfl rfl)
theorem dX2_ends_43 : decode cX2_ends 43 = .ok (.ishl, 1) := dk_120 (dk_at dksX2_ends_1 19 rfl rfl)
theorem dX2_ends_44 : decode cX2_ends 44 = .ok (.ior, 1) := dk_128 (dk_at dksX2_ends_1 20 rfl rfl)
theorem dX2_ends_45 : decode cX2_ends 45 = .ok (.istore_n 2, 1) := dk_61 (dk_at dksX2_ends_1 21 rfl rfl)
theorem dX2_ends_46 : decode cX2_ends 46 = .ok (.iinc 3 1, 3) := dk_132 3 1 (dk_at dksX2_ends_2 0 rfl rfl)
theorem dX2_ends_49 : decode cX2_ends 49 = .ok (.goto (-30), 3) := dk_167 255 226 (dk_at dksX2_ends_2 3 rfl rfl)
theorem dX2_ends_52 : decode cX2_ends 52 = .ok (.iconst 0, 1) := dk_3 (dk_at dksX2_ends_2 6 rfl rfl)
theorem dX2_ends_53 : decode cX2_ends 53 = .ok (.istore_n 3, 1) := dk_62 (dk_at dksX2_ends_2 7 rfl rfl)
theorem dX2_ends_54 : decode cX2_ends 54 = .ok (.iload_n 3, 1) := dk_29 (dk_at dksX2_ends_2 8 rfl rfl)
theorem dX2_ends_55 : decode cX2_ends 55 = .ok (.aload_n 0, 1) := dk_42 (dk_at dksX2_ends_2 9 rfl rfl)
theorem dX2_ends_56 : decode cX2_ends 56 = .ok (.getfield 3, 3) := dk_180 0 3 (dk_at dksX2_ends_2 10 rfl rfl)
theorem dX2_ends_59 : decode cX2_ends 59 = .ok (.getfield 289, 3) := dk_180 1 33 (dk_at dksX2_ends_2 13 rfl rfl)
theorem dX2_ends_62 : decode cX2_ends 62 = .ok (.invokevirtual 149, 3) := dk_182 0 149 (dk_at dksX2_ends_2 16 rfl rfl)
theorem dX2_ends_65 : decode cX2_ends 65 = .ok (.if_icmp .ge 50, 3) := dk_162 0 50 (dk_at dksX2_ends_2 19 rfl rfl)
theorem dX2_ends_68 : decode cX2_ends 68 = .ok (.iload_n 2, 1) := dk_28 (dk_at dksX2_ends_2 22 rfl rfl)
theorem dX2_ends_69 : decode cX2_ends 69 = .ok (.iload_n 3, 1) := dk_29 (dk_at dksX2_ends_2 23 rfl rfl)
theorem dX2_ends_70 : decode cX2_ends 70 = .ok (.ishr, 1) := dk_122 (dk_at dksX2_ends_3 0 rfl rfl)
theorem dX2_ends_71 : decode cX2_ends 71 = .ok (.iconst 1, 1) := dk_4 (dk_at dksX2_ends_3 1 rfl rfl)
theorem dX2_ends_72 : decode cX2_ends 72 = .ok (.iand, 1) := dk_126 (dk_at dksX2_ends_3 2 rfl rfl)
theorem dX2_ends_73 : decode cX2_ends 73 = .ok (.ifCond .ne 6, 3) := dk_154 0 6 (dk_at dksX2_ends_3 3 rfl rfl)
theorem dX2_ends_76 : decode cX2_ends 76 = .ok (.goto 33, 3) := dk_167 0 33 (dk_at dksX2_ends_3 6 rfl rfl)
theorem dX2_ends_79 : decode cX2_ends 79 = .ok (.aload_n 0, 1) := dk_42 (dk_at dksX2_ends_3 9 rfl rfl)
theorem dX2_ends_80 : decode cX2_ends 80 = .ok (.iload_n 3, 1) := dk_29 (dk_at dksX2_ends_3 10 rfl rfl)
theorem dX2_ends_81 : decode cX2_ends 81 = .ok (.invokevirtual 331, 3) := dk_182 1 75 (dk_at dksX2_ends_3 11 rfl rfl)
theorem dX2_ends_84 : decode cX2_ends 84 = .ok (.aload_n 0, 1) := dk_42 (dk_at dksX2_ends_3 14 rfl rfl)
theorem dX2_ends_85 : decode cX2_ends 85 = .ok (.getfield 49, 3) := dk_180 0 49 (dk_at dksX2_ends_3 15 rfl rfl)
theorem dX2_ends_88 : decode cX2_ends 88 = .ok (.iload_n 3, 1) := dk_29 (dk_at dksX2_ends_3 18 rfl rfl)
theorem dX2_ends_89 : decode cX2_ends 89 = .ok (.dup2, 1) := dk_92 (dk_at dksX2_ends_3 19 rfl rfl)
theorem dX2_ends_90 : decode cX2_ends 90 = .ok (.iaload, 1) := dk_46 (dk_at dksX2_ends_3 20 rfl rfl)
theorem dX2_ends_91 : decode cX2_ends 91 = .ok (.aload_n 0, 1) := dk_42 (dk_at dksX2_ends_3 21 rfl rfl)
theorem dX2_ends_92 : decode cX2_ends 92 = .ok (.iload_n 3, 1) := dk_29 (dk_at dksX2_ends_3 22 rfl rfl)
theorem dX2_ends_93 : decode cX2_ends 93 = .ok (.invokevirtual 153, 3) := dk_182 0 153 (dk_at dksX2_ends_4 0 rfl rfl)
theorem dX2_ends_96 : decode cX2_ends 96 = .ok (.ifCond .ge 7, 3) := dk_156 0 7 (dk_at dksX2_ends_4 3 rfl rfl)
theorem dX2_ends_99 : decode cX2_ends 99 = .ok (.iconst 1, 1) := dk_4 (dk_at dksX2_ends_4 6 rfl rfl)
theorem dX2_ends_100 : decode cX2_ends 100 = .ok (.goto 4, 3) := dk_167 0 4 (dk_at dksX2_ends_4 7 rfl rfl)
theorem dX2_ends_103 : decode cX2_ends 103 = .ok (.iconst 0, 1) := dk_3 (dk_at dksX2_ends_4 10 rfl rfl)
theorem dX2_ends_104 : decode cX2_ends 104 = .ok (.invokestatic 234, 3) := dk_184 0 234 (dk_at dksX2_ends_4 11 rfl rfl)
theorem dX2_ends_107 : decode cX2_ends 107 = .ok (.iadd, 1) := dk_96 (dk_at dksX2_ends_4 14 rfl rfl)
theorem dX2_ends_108 : decode cX2_ends 108 = .ok (.iastore, 1) := dk_79 (dk_at dksX2_ends_4 15 rfl rfl)
theorem dX2_ends_109 : decode cX2_ends 109 = .ok (.iinc 3 1, 3) := dk_132 3 1 (dk_at dksX2_ends_4 16 rfl rfl)
theorem dX2_ends_112 : decode cX2_ends 112 = .ok (.goto (-58), 3) := dk_167 255 198 (dk_at dksX2_ends_4 19 rfl rfl)
theorem dX2_ends_115 : decode cX2_ends 115 = .ok (.iconst 0, 1) := dk_3 (dk_at dksX2_ends_4 22 rfl rfl)
theorem dX2_ends_116 : decode cX2_ends 116 = .ok (.istore_n 3, 1) := dk_62 (dk_at dksX2_ends_4 23 rfl rfl)
theorem dX2_ends_117 : decode cX2_ends 117 = .ok (.iload_n 3, 1) := dk_29 (dk_at dksX2_ends_5 0 rfl rfl)
theorem dX2_ends_118 : decode cX2_ends 118 = .ok (.aload_n 0, 1) := dk_42 (dk_at dksX2_ends_5 1 rfl rfl)
theorem dX2_ends_119 : decode cX2_ends 119 = .ok (.getfield 3, 3) := dk_180 0 3 (dk_at dksX2_ends_5 2 rfl rfl)
theorem dX2_ends_122 : decode cX2_ends 122 = .ok (.getfield 146, 3) := dk_180 0 146 (dk_at dksX2_ends_5 5 rfl rfl)
theorem dX2_ends_125 : decode cX2_ends 125 = .ok (.invokevirtual 149, 3) := dk_182 0 149 (dk_at dksX2_ends_5 8 rfl rfl)
theorem dX2_ends_128 : decode cX2_ends 128 = .ok (.if_icmp .ge 51, 3) := dk_162 0 51 (dk_at dksX2_ends_5 11 rfl rfl)
theorem dX2_ends_131 : decode cX2_ends 131 = .ok (.aload_n 0, 1) := dk_42 (dk_at dksX2_ends_5 14 rfl rfl)
theorem dX2_ends_132 : decode cX2_ends 132 = .ok (.getfield 31, 3) := dk_180 0 31 (dk_at dksX2_ends_5 15 rfl rfl)
theorem dX2_ends_135 : decode cX2_ends 135 = .ok (.iload_n 3, 1) := dk_29 (dk_at dksX2_ends_5 18 rfl rfl)
theorem dX2_ends_136 : decode cX2_ends 136 = .ok (.iconst 0, 1) := dk_3 (dk_at dksX2_ends_5 19 rfl rfl)
theorem dX2_ends_137 : decode cX2_ends 137 = .ok (.iastore, 1) := dk_79 (dk_at dksX2_ends_5 20 rfl rfl)
theorem dX2_ends_138 : decode cX2_ends 138 = .ok (.aload_n 0, 1) := dk_42 (dk_at dksX2_ends_5 21 rfl rfl)
theorem dX2_ends_139 : decode cX2_ends 139 = .ok (.getfield 25, 3) := dk_180 0 25 (dk_at dksX2_ends_6 0 rfl rfl)
theorem dX2_ends_142 : decode cX2_ends 142 = .ok (.iload_n 3, 1) := dk_29 (dk_at dksX2_ends_6 3 rfl rfl)
theorem dX2_ends_143 : decode cX2_ends 143 = .ok (.iaload, 1) := dk_46 (dk_at dksX2_ends_6 4 rfl rfl)
theorem dX2_ends_144 : decode cX2_ends 144 = .ok (.ifCond .le 22, 3) := dk_158 0 22 (dk_at dksX2_ends_6 5 rfl rfl)
theorem dX2_ends_147 : decode cX2_ends 147 = .ok (.aload_n 0, 1) := dk_42 (dk_at dksX2_ends_6 8 rfl rfl)
theorem dX2_ends_148 : decode cX2_ends 148 = .ok (.getfield 59, 3) := dk_180 0 59 (dk_at dksX2_ends_6 9 rfl rfl)
theorem dX2_ends_151 : decode cX2_ends 151 = .ok (.iload_n 3, 1) := dk_29 (dk_at dksX2_ends_6 12 rfl rfl)
theorem dX2_ends_152 : decode cX2_ends 152 = .ok (.baload, 1) := dk_51 (dk_at dksX2_ends_6 13 rfl rfl)
theorem dX2_ends_153 : decode cX2_ends 153 = .ok (.ifCond .ne 13, 3) := dk_154 0 13 (dk_at dksX2_ends_6 14 rfl rfl)
theorem dX2_ends_156 : decode cX2_ends 156 = .ok (.aload_n 0, 1) := dk_42 (dk_at dksX2_ends_6 17 rfl rfl)
theorem dX2_ends_157 : decode cX2_ends 157 = .ok (.getfield 25, 3) := dk_180 0 25 (dk_at dksX2_ends_6 18 rfl rfl)
theorem dX2_ends_160 : decode cX2_ends 160 = .ok (.iload_n 3, 1) := dk_29 (dk_at dksX2_ends_6 21 rfl rfl)
theorem dX2_ends_161 : decode cX2_ends 161 = .ok (.dup2, 1) := dk_92 (dk_at dksX2_ends_6 22 rfl rfl)
theorem dX2_ends_162 : decode cX2_ends 162 = .ok (.iaload, 1) := dk_46 (dk_at dksX2_ends_6 23 rfl rfl)
theorem dX2_ends_163 : decode cX2_ends 163 = .ok (.iconst 1, 1) := dk_4 (dk_at dksX2_ends_7 0 rfl rfl)
theorem dX2_ends_164 : decode cX2_ends 164 = .ok (.isub, 1) := dk_100 (dk_at dksX2_ends_7 1 rfl rfl)
theorem dX2_ends_165 : decode cX2_ends 165 = .ok (.iastore, 1) := dk_79 (dk_at dksX2_ends_7 2 rfl rfl)
theorem dX2_ends_166 : decode cX2_ends 166 = .ok (.aload_n 0, 1) := dk_42 (dk_at dksX2_ends_7 3 rfl rfl)
theorem dX2_ends_167 : decode cX2_ends 167 = .ok (.getfield 59, 3) := dk_180 0 59 (dk_at dksX2_ends_7 4 rfl rfl)
theorem dX2_ends_170 : decode cX2_ends 170 = .ok (.iload_n 3, 1) := dk_29 (dk_at dksX2_ends_7 7 rfl rfl)
theorem dX2_ends_171 : decode cX2_ends 171 = .ok (.iconst 0, 1) := dk_3 (dk_at dksX2_ends_7 8 rfl rfl)
theorem dX2_ends_172 : decode cX2_ends 172 = .ok (.bastore, 1) := dk_84 (dk_at dksX2_ends_7 9 rfl rfl)
theorem dX2_ends_173 : decode cX2_ends 173 = .ok (.iinc 3 1, 3) := dk_132 3 1 (dk_at dksX2_ends_7 10 rfl rfl)
theorem dX2_ends_176 : decode cX2_ends 176 = .ok (.goto (-59), 3) := dk_167 255 197 (dk_at dksX2_ends_7 13 rfl rfl)
theorem dX2_ends_179 : decode cX2_ends 179 = .ok (.aload_n 0, 1) := dk_42 (dk_at dksX2_ends_7 16 rfl rfl)
theorem dX2_ends_180 : decode cX2_ends 180 = .ok (.dup, 1) := dk_89 (dk_at dksX2_ends_7 17 rfl rfl)
theorem dX2_ends_181 : decode cX2_ends 181 = .ok (.getfield 138, 3) := dk_180 0 138 (dk_at dksX2_ends_7 18 rfl rfl)
theorem dX2_ends_184 : decode cX2_ends 184 = .ok (.iconst 1, 1) := dk_4 (dk_at dksX2_ends_7 21 rfl rfl)
theorem dX2_ends_185 : decode cX2_ends 185 = .ok (.iadd, 1) := dk_96 (dk_at dksX2_ends_7 22 rfl rfl)
theorem dX2_ends_186 : decode cX2_ends 186 = .ok (.putfield 138, 3) := dk_181 0 138 (dk_at dksX2_ends_8 0 rfl rfl)
theorem dX2_ends_189 : decode cX2_ends 189 = .ok (.aload_n 0, 1) := dk_42 (dk_at dksX2_ends_8 3 rfl rfl)
theorem dX2_ends_190 : decode cX2_ends 190 = .ok (.getfield 67, 3) := dk_180 0 67 (dk_at dksX2_ends_8 4 rfl rfl)
theorem dX2_ends_193 : decode cX2_ends 193 = .ok (.invokevirtual 149, 3) := dk_182 0 149 (dk_at dksX2_ends_8 7 rfl rfl)
theorem dX2_ends_196 : decode cX2_ends 196 = .ok (.iload_n 1, 1) := dk_27 (dk_at dksX2_ends_8 10 rfl rfl)
theorem dX2_ends_197 : decode cX2_ends 197 = .ok (.isub, 1) := dk_100 (dk_at dksX2_ends_8 11 rfl rfl)
theorem dX2_ends_198 : decode cX2_ends 198 = .ok (.ireturn, 1) := dk_172 (dk_at dksX2_ends_8 12 rfl rfl)
abbrev cX2_offersOne : ByteArray := prog_10_method_38_code
def yX2_offersOne : MethodName := ⟨RX2, "offersOne", "(I)V"⟩
def dkwX2_offersOne_2 : List UInt8 := [21, 5, 29, 21, 4, 182, 1, 68, 153, 0, 4, 177, 132, 5, 1, 167, 255, 210, 177]
abbrev dktX2_offersOne_2 : List UInt8 := dkwX2_offersOne_2 ++ []
def dkwX2_offersOne_1 : List UInt8 := [27, 28, 182, 1, 65, 54, 6, 21, 6, 156, 0, 4, 177, 28, 4, 21, 6, 120, 128, 61, 42, 21, 6, 27]
abbrev dktX2_offersOne_1 : List UInt8 := dkwX2_offersOne_1 ++ dktX2_offersOne_2
def dkwX2_offersOne_0 : List UInt8 := [3, 61, 42, 27, 182, 0, 254, 62, 42, 182, 1, 4, 54, 4, 4, 54, 5, 21, 5, 6, 163, 0, 46, 42]
abbrev dktX2_offersOne_0 : List UInt8 := dkwX2_offersOne_0 ++ dktX2_offersOne_1
theorem dksX2_offersOne_0 : cX2_offersOne.data.toList.drop 0 = dktX2_offersOne_0 := by decide +kernel
theorem dksX2_offersOne_1 : cX2_offersOne.data.toList.drop 24 = dktX2_offersOne_1 := dk_seg dksX2_offersOne_0 24 rfl rfl
theorem dksX2_offersOne_2 : cX2_offersOne.data.toList.drop 48 = dktX2_offersOne_2 := dk_seg dksX2_offersOne_1 24 rfl rfl
theorem dX2_offersOne_0 : decode cX2_offersOne 0 = .ok (.iconst 0, 1) := dk_3 (dk_at dksX2_offersOne_0 0 rfl rfl)
theorem dX2_offersOne_1 : decode cX2_offersOne 1 = .ok (.istore_n 2, 1) := dk_61 (dk_at dksX2_offersOne_0 1 rfl rfl)
theorem dX2_offersOne_2 : decode cX2_offersOne 2 = .ok (.aload_n 0, 1) := dk_42 (dk_at dksX2_offersOne_0 2 rfl rfl)
theorem dX2_offersOne_3 : decode cX2_offersOne 3 = .ok (.iload_n 1, 1) := dk_27 (dk_at dksX2_offersOne_0 3 rfl rfl)
theorem dX2_offersOne_4 : decode cX2_offersOne 4 = .ok (.invokevirtual 254, 3) := dk_182 0 254 (dk_at dksX2_offersOne_0 4 rfl rfl)
theorem dX2_offersOne_7 : decode cX2_offersOne 7 = .ok (.istore_n 3, 1) := dk_62 (dk_at dksX2_offersOne_0 7 rfl rfl)
theorem dX2_offersOne_8 : decode cX2_offersOne 8 = .ok (.aload_n 0, 1) := dk_42 (dk_at dksX2_offersOne_0 8 rfl rfl)
theorem dX2_offersOne_9 : decode cX2_offersOne 9 = .ok (.invokevirtual 260, 3) := dk_182 1 4 (dk_at dksX2_offersOne_0 9 rfl rfl)
theorem dX2_offersOne_12 : decode cX2_offersOne 12 = .ok (.istore 4, 2) := dk_54 4 (dk_at dksX2_offersOne_0 12 rfl rfl)
theorem dX2_offersOne_14 : decode cX2_offersOne 14 = .ok (.iconst 1, 1) := dk_4 (dk_at dksX2_offersOne_0 14 rfl rfl)
theorem dX2_offersOne_15 : decode cX2_offersOne 15 = .ok (.istore 5, 2) := dk_54 5 (dk_at dksX2_offersOne_0 15 rfl rfl)
theorem dX2_offersOne_17 : decode cX2_offersOne 17 = .ok (.iload 5, 2) := dk_21 5 (dk_at dksX2_offersOne_0 17 rfl rfl)
theorem dX2_offersOne_19 : decode cX2_offersOne 19 = .ok (.iconst 3, 1) := dk_6 (dk_at dksX2_offersOne_0 19 rfl rfl)
theorem dX2_offersOne_20 : decode cX2_offersOne 20 = .ok (.if_icmp .gt 46, 3) := dk_163 0 46 (dk_at dksX2_offersOne_0 20 rfl rfl)
theorem dX2_offersOne_23 : decode cX2_offersOne 23 = .ok (.aload_n 0, 1) := dk_42 (dk_at dksX2_offersOne_0 23 rfl rfl)
theorem dX2_offersOne_24 : decode cX2_offersOne 24 = .ok (.iload_n 1, 1) := dk_27 (dk_at dksX2_offersOne_1 0 rfl rfl)
theorem dX2_offersOne_25 : decode cX2_offersOne 25 = .ok (.iload_n 2, 1) := dk_28 (dk_at dksX2_offersOne_1 1 rfl rfl)
theorem dX2_offersOne_26 : decode cX2_offersOne 26 = .ok (.invokevirtual 321, 3) := dk_182 1 65 (dk_at dksX2_offersOne_1 2 rfl rfl)
theorem dX2_offersOne_29 : decode cX2_offersOne 29 = .ok (.istore 6, 2) := dk_54 6 (dk_at dksX2_offersOne_1 5 rfl rfl)
theorem dX2_offersOne_31 : decode cX2_offersOne 31 = .ok (.iload 6, 2) := dk_21 6 (dk_at dksX2_offersOne_1 7 rfl rfl)
theorem dX2_offersOne_33 : decode cX2_offersOne 33 = .ok (.ifCond .ge 4, 3) := dk_156 0 4 (dk_at dksX2_offersOne_1 9 rfl rfl)
theorem dX2_offersOne_36 : decode cX2_offersOne 36 = .ok (.return_, 1) := dk_177 (dk_at dksX2_offersOne_1 12 rfl rfl)
theorem dX2_offersOne_37 : decode cX2_offersOne 37 = .ok (.iload_n 2, 1) := dk_28 (dk_at dksX2_offersOne_1 13 rfl rfl)
theorem dX2_offersOne_38 : decode cX2_offersOne 38 = .ok (.iconst 1, 1) := dk_4 (dk_at dksX2_offersOne_1 14 rfl rfl)
theorem dX2_offersOne_39 : decode cX2_offersOne 39 = .ok (.iload 6, 2) := dk_21 6 (dk_at dksX2_offersOne_1 15 rfl rfl)
theorem dX2_offersOne_41 : decode cX2_offersOne 41 = .ok (.ishl, 1) := dk_120 (dk_at dksX2_offersOne_1 17 rfl rfl)
theorem dX2_offersOne_42 : decode cX2_offersOne 42 = .ok (.ior, 1) := dk_128 (dk_at dksX2_offersOne_1 18 rfl rfl)
theorem dX2_offersOne_43 : decode cX2_offersOne 43 = .ok (.istore_n 2, 1) := dk_61 (dk_at dksX2_offersOne_1 19 rfl rfl)
theorem dX2_offersOne_44 : decode cX2_offersOne 44 = .ok (.aload_n 0, 1) := dk_42 (dk_at dksX2_offersOne_1 20 rfl rfl)
theorem dX2_offersOne_45 : decode cX2_offersOne 45 = .ok (.iload 6, 2) := dk_21 6 (dk_at dksX2_offersOne_1 21 rfl rfl)
theorem dX2_offersOne_47 : decode cX2_offersOne 47 = .ok (.iload_n 1, 1) := dk_27 (dk_at dksX2_offersOne_1 23 rfl rfl)
theorem dX2_offersOne_48 : decode cX2_offersOne 48 = .ok (.iload 5, 2) := dk_21 5 (dk_at dksX2_offersOne_2 0 rfl rfl)
theorem dX2_offersOne_50 : decode cX2_offersOne 50 = .ok (.iload_n 3, 1) := dk_29 (dk_at dksX2_offersOne_2 2 rfl rfl)
theorem dX2_offersOne_51 : decode cX2_offersOne 51 = .ok (.iload 4, 2) := dk_21 4 (dk_at dksX2_offersOne_2 3 rfl rfl)
theorem dX2_offersOne_53 : decode cX2_offersOne 53 = .ok (.invokevirtual 324, 3) := dk_182 1 68 (dk_at dksX2_offersOne_2 5 rfl rfl)
theorem dX2_offersOne_56 : decode cX2_offersOne 56 = .ok (.ifCond .eq 4, 3) := dk_153 0 4 (dk_at dksX2_offersOne_2 8 rfl rfl)
theorem dX2_offersOne_59 : decode cX2_offersOne 59 = .ok (.return_, 1) := dk_177 (dk_at dksX2_offersOne_2 11 rfl rfl)
theorem dX2_offersOne_60 : decode cX2_offersOne 60 = .ok (.iinc 5 1, 3) := dk_132 5 1 (dk_at dksX2_offersOne_2 12 rfl rfl)
theorem dX2_offersOne_63 : decode cX2_offersOne 63 = .ok (.goto (-46), 3) := dk_167 255 210 (dk_at dksX2_offersOne_2 15 rfl rfl)
theorem dX2_offersOne_66 : decode cX2_offersOne 66 = .ok (.return_, 1) := dk_177 (dk_at dksX2_offersOne_2 18 rfl rfl)
abbrev cX2_nextFor : ByteArray := prog_10_method_28_code
def yX2_nextFor : MethodName := ⟨RX2, "nextFor", "(II)I"⟩
def dkwX2_nextFor_3 : List UInt8 := [29, 172]
abbrev dktX2_nextFor_3 : List UInt8 := dkwX2_nextFor_3 ++ []
def dkwX2_nextFor_2 : List UInt8 := [29, 155, 0, 14, 42, 27, 21, 4, 29, 182, 1, 11, 156, 0, 6, 21, 4, 62, 132, 4, 1, 167, 255, 192]
abbrev dktX2_nextFor_2 : List UInt8 := dkwX2_nextFor_2 ++ dktX2_nextFor_3
def dkwX2_nextFor_1 : List UInt8 := [182, 1, 15, 153, 0, 39, 42, 21, 4, 182, 0, 183, 153, 0, 30, 28, 21, 4, 122, 4, 126, 154, 0, 21]
abbrev dktX2_nextFor_1 : List UInt8 := dkwX2_nextFor_1 ++ dktX2_nextFor_2
def dkwX2_nextFor_0 : List UInt8 := [2, 62, 3, 54, 4, 21, 4, 42, 180, 0, 3, 180, 0, 146, 182, 0, 149, 162, 0, 55, 42, 21, 4, 27]
abbrev dktX2_nextFor_0 : List UInt8 := dkwX2_nextFor_0 ++ dktX2_nextFor_1
theorem dksX2_nextFor_0 : cX2_nextFor.data.toList.drop 0 = dktX2_nextFor_0 := by decide +kernel
theorem dksX2_nextFor_1 : cX2_nextFor.data.toList.drop 24 = dktX2_nextFor_1 := dk_seg dksX2_nextFor_0 24 rfl rfl
theorem dksX2_nextFor_2 : cX2_nextFor.data.toList.drop 48 = dktX2_nextFor_2 := dk_seg dksX2_nextFor_1 24 rfl rfl
theorem dksX2_nextFor_3 : cX2_nextFor.data.toList.drop 72 = dktX2_nextFor_3 := dk_seg dksX2_nextFor_2 24 rfl rfl
theorem dX2_nextFor_0 : decode cX2_nextFor 0 = .ok (.iconst (-1), 1) := dk_2 (dk_at dksX2_nextFor_0 0 rfl rfl)
theorem dX2_nextFor_1 : decode cX2_nextFor 1 = .ok (.istore_n 3, 1) := dk_62 (dk_at dksX2_nextFor_0 1 rfl rfl)
theorem dX2_nextFor_2 : decode cX2_nextFor 2 = .ok (.iconst 0, 1) := dk_3 (dk_at dksX2_nextFor_0 2 rfl rfl)
theorem dX2_nextFor_3 : decode cX2_nextFor 3 = .ok (.istore 4, 2) := dk_54 4 (dk_at dksX2_nextFor_0 3 rfl rfl)
theorem dX2_nextFor_5 : decode cX2_nextFor 5 = .ok (.iload 4, 2) := dk_21 4 (dk_at dksX2_nextFor_0 5 rfl rfl)
theorem dX2_nextFor_7 : decode cX2_nextFor 7 = .ok (.aload_n 0, 1) := dk_42 (dk_at dksX2_nextFor_0 7 rfl rfl)
theorem dX2_nextFor_8 : decode cX2_nextFor 8 = .ok (.getfield 3, 3) := dk_180 0 3 (dk_at dksX2_nextFor_0 8 rfl rfl)
theorem dX2_nextFor_11 : decode cX2_nextFor 11 = .ok (.getfield 146, 3) := dk_180 0 146 (dk_at dksX2_nextFor_0 11 rfl rfl)
theorem dX2_nextFor_14 : decode cX2_nextFor 14 = .ok (.invokevirtual 149, 3) := dk_182 0 149 (dk_at dksX2_nextFor_0 14 rfl rfl)
theorem dX2_nextFor_17 : decode cX2_nextFor 17 = .ok (.if_icmp .ge 55, 3) := dk_162 0 55 (dk_at dksX2_nextFor_0 17 rfl rfl)
theorem dX2_nextFor_20 : decode cX2_nextFor 20 = .ok (.aload_n 0, 1) := dk_42 (dk_at dksX2_nextFor_0 20 rfl rfl)
theorem dX2_nextFor_21 : decode cX2_nextFor 21 = .ok (.iload 4, 2) := dk_21 4 (dk_at dksX2_nextFor_0 21 rfl rfl)
theorem dX2_nextFor_23 : decode cX2_nextFor 23 = .ok (.iload_n 1, 1) := dk_27 (dk_at dksX2_nextFor_0 23 rfl rfl)
theorem dX2_nextFor_24 : decode cX2_nextFor 24 = .ok (.invokevirtual 271, 3) := dk_182 1 15 (dk_at dksX2_nextFor_1 0 rfl rfl)
theorem dX2_nextFor_27 : decode cX2_nextFor 27 = .ok (.ifCond .eq 39, 3) := dk_153 0 39 (dk_at dksX2_nextFor_1 3 rfl rfl)
theorem dX2_nextFor_30 : decode cX2_nextFor 30 = .ok (.aload_n 0, 1) := dk_42 (dk_at dksX2_nextFor_1 6 rfl rfl)
theorem dX2_nextFor_31 : decode cX2_nextFor 31 = .ok (.iload 4, 2) := dk_21 4 (dk_at dksX2_nextFor_1 7 rfl rfl)
theorem dX2_nextFor_33 : decode cX2_nextFor 33 = .ok (.invokevirtual 183, 3) := dk_182 0 183 (dk_at dksX2_nextFor_1 9 rfl rfl)
theorem dX2_nextFor_36 : decode cX2_nextFor 36 = .ok (.ifCond .eq 30, 3) := dk_153 0 30 (dk_at dksX2_nextFor_1 12 rfl rfl)
theorem dX2_nextFor_39 : decode cX2_nextFor 39 = .ok (.iload_n 2, 1) := dk_28 (dk_at dksX2_nextFor_1 15 rfl rfl)
theorem dX2_nextFor_40 : decode cX2_nextFor 40 = .ok (.iload 4, 2) := dk_21 4 (dk_at dksX2_nextFor_1 16 rfl rfl)
theorem dX2_nextFor_42 : decode cX2_nextFor 42 = .ok (.ishr, 1) := dk_122 (dk_at dksX2_nextFor_1 18 rfl rfl)
theorem dX2_nextFor_43 : decode cX2_nextFor 43 = .ok (.iconst 1, 1) := dk_4 (dk_at dksX2_nextFor_1 19 rfl rfl)
theorem dX2_nextFor_44 : decode cX2_nextFor 44 = .ok (.iand, 1) := dk_126 (dk_at dksX2_nextFor_1 20 rfl rfl)
theorem dX2_nextFor_45 : decode cX2_nextFor 45 = .ok (.ifCond .ne 21, 3) := dk_154 0 21 (dk_at dksX2_nextFor_1 21 rfl rfl)
theorem dX2_nextFor_48 : decode cX2_nextFor 48 = .ok (.iload_n 3, 1) := dk_29 (dk_at dksX2_nextFor_2 0 rfl rfl)
theorem dX2_nextFor_49 : decode cX2_nextFor 49 = .ok (.ifCond .lt 14, 3) := dk_155 0 14 (dk_at dksX2_nextFor_2 1 rfl rfl)
theorem dX2_nextFor_52 : decode cX2_nextFor 52 = .ok (.aload_n 0, 1) := dk_42 (dk_at dksX2_nextFor_2 4 rfl rfl)
theorem dX2_nextFor_53 : decode cX2_nextFor 53 = .ok (.iload_n 1, 1) := dk_27 (dk_at dksX2_nextFor_2 5 rfl rfl)
theorem dX2_nextFor_54 : decode cX2_nextFor 54 = .ok (.iload 4, 2) := dk_21 4 (dk_at dksX2_nextFor_2 6 rfl rfl)
theorem dX2_nextFor_56 : decode cX2_nextFor 56 = .ok (.iload_n 3, 1) := dk_29 (dk_at dksX2_nextFor_2 8 rfl rfl)
theorem dX2_nextFor_57 : decode cX2_nextFor 57 = .ok (.invokevirtual 267, 3) := dk_182 1 11 (dk_at dksX2_nextFor_2 9 rfl rfl)
theorem dX2_nextFor_60 : decode cX2_nextFor 60 = .ok (.ifCond .ge 6, 3) := dk_156 0 6 (dk_at dksX2_nextFor_2 12 rfl rfl)
theorem dX2_nextFor_63 : decode cX2_nextFor 63 = .ok (.iload 4, 2) := dk_21 4 (dk_at dksX2_nextFor_2 15 rfl rfl)
theorem dX2_nextFor_65 : decode cX2_nextFor 65 = .ok (.istore_n 3, 1) := dk_62 (dk_at dksX2_nextFor_2 17 rfl rfl)
theorem dX2_nextFor_66 : decode cX2_nextFor 66 = .ok (.iinc 4 1, 3) := dk_132 4 1 (dk_at dksX2_nextFor_2 18 rfl rfl)
theorem dX2_nextFor_69 : decode cX2_nextFor 69 = .ok (.goto (-64), 3) := dk_167 255 192 (dk_at dksX2_nextFor_2 21 rfl rfl)
theorem dX2_nextFor_72 : decode cX2_nextFor 72 = .ok (.iload_n 3, 1) := dk_29 (dk_at dksX2_nextFor_3 0 rfl rfl)
theorem dX2_nextFor_73 : decode cX2_nextFor 73 = .ok (.ireturn, 1) := dk_172 (dk_at dksX2_nextFor_3 1 rfl rfl)
abbrev cX2_isTaken : ByteArray := prog_10_method_35_code
def yX2_isTaken : MethodName := ⟨RX2, "isTaken", "(IIIZZ)Z"⟩
def dkwX2_isTaken_2 : List UInt8 := [182, 1, 50, 167, 0, 8, 42, 27, 182, 1, 53, 21, 6, 172]
abbrev dktX2_isTaken_2 : List UInt8 := dkwX2_isTaken_2 ++ []
def dkwX2_isTaken_1 : List UInt8 := [5, 21, 6, 184, 0, 234, 79, 182, 1, 46, 87, 21, 6, 153, 0, 17, 42, 27, 28, 29, 21, 4, 21, 5]
abbrev dktX2_isTaken_1 : List UInt8 := dkwX2_isTaken_1 ++ dktX2_isTaken_2
def dkwX2_isTaken_0 : List UInt8 := [42, 27, 28, 182, 0, 190, 54, 6, 42, 180, 0, 71, 6, 188, 10, 89, 3, 27, 79, 89, 4, 28, 79, 89]
abbrev dktX2_isTaken_0 : List UInt8 := dkwX2_isTaken_0 ++ dktX2_isTaken_1
theorem dksX2_isTaken_0 : cX2_isTaken.data.toList.drop 0 = dktX2_isTaken_0 := by decide +kernel
theorem dksX2_isTaken_1 : cX2_isTaken.data.toList.drop 24 = dktX2_isTaken_1 := dk_seg dksX2_isTaken_0 24 rfl rfl
theorem dksX2_isTaken_2 : cX2_isTaken.data.toList.drop 48 = dktX2_isTaken_2 := dk_seg dksX2_isTaken_1 24 rfl rfl
theorem dX2_isTaken_0 : decode cX2_isTaken 0 = .ok (.aload_n 0, 1) := dk_42 (dk_at dksX2_isTaken_0 0 rfl rfl)
theorem dX2_isTaken_1 : decode cX2_isTaken 1 = .ok (.iload_n 1, 1) := dk_27 (dk_at dksX2_isTaken_0 1 rfl rfl)
theorem dX2_isTaken_2 : decode cX2_isTaken 2 = .ok (.iload_n 2, 1) := dk_28 (dk_at dksX2_isTaken_0 2 rfl rfl)
theorem dX2_isTaken_3 : decode cX2_isTaken 3 = .ok (.invokevirtual 190, 3) := dk_182 0 190 (dk_at dksX2_isTaken_0 3 rfl rfl)
theorem dX2_isTaken_6 : decode cX2_isTaken 6 = .ok (.istore 6, 2) := dk_54 6 (dk_at dksX2_isTaken_0 6 rfl rfl)
theorem dX2_isTaken_8 : decode cX2_isTaken 8 = .ok (.aload_n 0, 1) := dk_42 (dk_at dksX2_isTaken_0 8 rfl rfl)
theorem dX2_isTaken_9 : decode cX2_isTaken 9 = .ok (.getfield 71, 3) := dk_180 0 71 (dk_at dksX2_isTaken_0 9 rfl rfl)
theorem dX2_isTaken_12 : decode cX2_isTaken 12 = .ok (.iconst 3, 1) := dk_6 (dk_at dksX2_isTaken_0 12 rfl rfl)
theorem dX2_isTaken_13 : decode cX2_isTaken 13 = .ok (.newarray .int, 2) := dk_188_10 (dk_at dksX2_isTaken_0 13 rfl rfl)
theorem dX2_isTaken_15 : decode cX2_isTaken 15 = .ok (.dup, 1) := dk_89 (dk_at dksX2_isTaken_0 15 rfl rfl)
theorem dX2_isTaken_16 : decode cX2_isTaken 16 = .ok (.iconst 0, 1) := dk_3 (dk_at dksX2_isTaken_0 16 rfl rfl)
theorem dX2_isTaken_17 : decode cX2_isTaken 17 = .ok (.iload_n 1, 1) := dk_27 (dk_at dksX2_isTaken_0 17 rfl rfl)
theorem dX2_isTaken_18 : decode cX2_isTaken 18 = .ok (.iastore, 1) := dk_79 (dk_at dksX2_isTaken_0 18 rfl rfl)
theorem dX2_isTaken_19 : decode cX2_isTaken 19 = .ok (.dup, 1) := dk_89 (dk_at dksX2_isTaken_0 19 rfl rfl)
theorem dX2_isTaken_20 : decode cX2_isTaken 20 = .ok (.iconst 1, 1) := dk_4 (dk_at dksX2_isTaken_0 20 rfl rfl)
theorem dX2_isTaken_21 : decode cX2_isTaken 21 = .ok (.iload_n 2, 1) := dk_28 (dk_at dksX2_isTaken_0 21 rfl rfl)
theorem dX2_isTaken_22 : decode cX2_isTaken 22 = .ok (.iastore, 1) := dk_79 (dk_at dksX2_isTaken_0 22 rfl rfl)
theorem dX2_isTaken_23 : decode cX2_isTaken 23 = .ok (.dup, 1) := dk_89 (dk_at dksX2_isTaken_0 23 rfl rfl)
theorem dX2_isTaken_24 : decode cX2_isTaken 24 = .ok (.iconst 2, 1) := dk_5 (dk_at dksX2_isTaken_1 0 rfl rfl)
theorem dX2_isTaken_25 : decode cX2_isTaken 25 = .ok (.iload 6, 2) := dk_21 6 (dk_at dksX2_isTaken_1 1 rfl rfl)
theorem dX2_isTaken_27 : decode cX2_isTaken 27 = .ok (.invokestatic 234, 3) := dk_184 0 234 (dk_at dksX2_isTaken_1 3 rfl rfl)
theorem dX2_isTaken_30 : decode cX2_isTaken 30 = .ok (.iastore, 1) := dk_79 (dk_at dksX2_isTaken_1 6 rfl rfl)
theorem dX2_isTaken_31 : decode cX2_isTaken 31 = .ok (.invokevirtual 302, 3) := dk_182 1 46 (dk_at dksX2_isTaken_1 7 rfl rfl)
theorem dX2_isTaken_34 : decode cX2_isTaken 34 = .ok (.pop, 1) := dk_87 (dk_at dksX2_isTaken_1 10 rfl rfl)
theorem dX2_isTaken_35 : decode cX2_isTaken 35 = .ok (.iload 6, 2) := dk_21 6 (dk_at dksX2_isTaken_1 11 rfl rfl)
theorem dX2_isTaken_37 : decode cX2_isTaken 37 = .ok (.ifCond .eq 17, 3) := dk_153 0 17 (dk_at dksX2_isTaken_1 13 rfl rfl)
theorem dX2_isTaken_40 : decode cX2_isTaken 40 = .ok (.aload_n 0, 1) := dk_42 (dk_at dksX2_isTaken_1 16 rfl rfl)
theorem dX2_isTaken_41 : decode cX2_isTaken 41 = .ok (.iload_n 1, 1) := dk_27 (dk_at dksX2_isTaken_1 17 rfl rfl)
theorem dX2_isTaken_42 : decode cX2_isTaken 42 = .ok (.iload_n 2, 1) := dk_28 (dk_at dksX2_isTaken_1 18 rfl rfl)
theorem dX2_isTaken_43 : decode cX2_isTaken 43 = .ok (.iload_n 3, 1) := dk_29 (dk_at dksX2_isTaken_1 19 rfl rfl)
theorem dX2_isTaken_44 : decode cX2_isTaken 44 = .ok (.iload 4, 2) := dk_21 4 (dk_at dksX2_isTaken_1 20 rfl rfl)
theorem dX2_isTaken_46 : decode cX2_isTaken 46 = .ok (.iload 5, 2) := dk_21 5 (dk_at dksX2_isTaken_1 22 rfl rfl)
theorem dX2_isTaken_48 : decode cX2_isTaken 48 = .ok (.invokevirtual 306, 3) := dk_182 1 50 (dk_at dksX2_isTaken_2 0 rfl rfl)
theorem dX2_isTaken_51 : decode cX2_isTaken 51 = .ok (.goto 8, 3) := dk_167 0 8 (dk_at dksX2_isTaken_2 3 rfl rfl)
theorem dX2_isTaken_54 : decode cX2_isTaken 54 = .ok (.aload_n 0, 1) := dk_42 (dk_at dksX2_isTaken_2 6 rfl rfl)
theorem dX2_isTaken_55 : decode cX2_isTaken 55 = .ok (.iload_n 1, 1) := dk_27 (dk_at dksX2_isTaken_2 7 rfl rfl)
theorem dX2_isTaken_56 : decode cX2_isTaken 56 = .ok (.invokevirtual 309, 3) := dk_182 1 53 (dk_at dksX2_isTaken_2 8 rfl rfl)
theorem dX2_isTaken_59 : decode cX2_isTaken 59 = .ok (.iload 6, 2) := dk_21 6 (dk_at dksX2_isTaken_2 11 rfl rfl)
theorem dX2_isTaken_61 : decode cX2_isTaken 61 = .ok (.ireturn, 1) := dk_172 (dk_at dksX2_isTaken_2 13 rfl rfl)
abbrev cX2_wouldTake : ByteArray := prog_10_method_12_code
def yX2_wouldTake : MethodName := ⟨RX2, "wouldTake", "(II)Z"⟩
def dkwX2_wouldTake_0 : List UInt8 := [42, 180, 0, 34, 27, 46, 153, 0, 12, 42, 27, 28, 182, 0, 179, 153, 0, 7, 4, 167, 0, 4, 3, 172]
abbrev dktX2_wouldTake_0 : List UInt8 := dkwX2_wouldTake_0 ++ []
theorem dksX2_wouldTake_0 : cX2_wouldTake.data.toList.drop 0 = dktX2_wouldTake_0 := by decide +kernel
theorem dX2_wouldTake_0 : decode cX2_wouldTake 0 = .ok (.aload_n 0, 1) := dk_42 (dk_at dksX2_wouldTake_0 0 rfl rfl)
theorem dX2_wouldTake_1 : decode cX2_wouldTake 1 = .ok (.getfield 34, 3) := dk_180 0 34 (dk_at dksX2_wouldTake_0 1 rfl rfl)
theorem dX2_wouldTake_4 : decode cX2_wouldTake 4 = .ok (.iload_n 1, 1) := dk_27 (dk_at dksX2_wouldTake_0 4 rfl rfl)
theorem dX2_wouldTake_5 : decode cX2_wouldTake 5 = .ok (.iaload, 1) := dk_46 (dk_at dksX2_wouldTake_0 5 rfl rfl)
theorem dX2_wouldTake_6 : decode cX2_wouldTake 6 = .ok (.ifCond .eq 12, 3) := dk_153 0 12 (dk_at dksX2_wouldTake_0 6 rfl rfl)
theorem dX2_wouldTake_9 : decode cX2_wouldTake 9 = .ok (.aload_n 0, 1) := dk_42 (dk_at dksX2_wouldTake_0 9 rfl rfl)
theorem dX2_wouldTake_10 : decode cX2_wouldTake 10 = .ok (.iload_n 1, 1) := dk_27 (dk_at dksX2_wouldTake_0 10 rfl rfl)
theorem dX2_wouldTake_11 : decode cX2_wouldTake 11 = .ok (.iload_n 2, 1) := dk_28 (dk_at dksX2_wouldTake_0 11 rfl rfl)
theorem dX2_wouldTake_12 : decode cX2_wouldTake 12 = .ok (.invokevirtual 179, 3) := dk_182 0 179 (dk_at dksX2_wouldTake_0 12 rfl rfl)
theorem dX2_wouldTake_15 : decode cX2_wouldTake 15 = .ok (.ifCond .eq 7, 3) := dk_153 0 7 (dk_at dksX2_wouldTake_0 15 rfl rfl)
theorem dX2_wouldTake_18 : decode cX2_wouldTake 18 = .ok (.iconst 1, 1) := dk_4 (dk_at dksX2_wouldTake_0 18 rfl rfl)
theorem dX2_wouldTake_19 : decode cX2_wouldTake 19 = .ok (.goto 4, 3) := dk_167 0 4 (dk_at dksX2_wouldTake_0 19 rfl rfl)
theorem dX2_wouldTake_22 : decode cX2_wouldTake 22 = .ok (.iconst 0, 1) := dk_3 (dk_at dksX2_wouldTake_0 22 rfl rfl)
theorem dX2_wouldTake_23 : decode cX2_wouldTake 23 = .ok (.ireturn, 1) := dk_172 (dk_at dksX2_wouldTake_0 23 rfl rfl)
abbrev cX2_lets : ByteArray := prog_10_method_37_code
def yX2_lets : MethodName := ⟨RX2, "lets", "(IIIZZ)V"⟩
def dkwX2_lets_9 : List UInt8 := [79, 42, 180, 0, 56, 27, 4, 84, 177]
abbrev dktX2_lets_9 : List UInt8 := dkwX2_lets_9 ++ []
def dkwX2_lets_8 : List UInt8 := [155, 0, 18, 42, 21, 8, 42, 180, 0, 67, 182, 0, 149, 4, 100, 182, 1, 62, 42, 180, 0, 19, 27, 28]
abbrev dktX2_lets_8 : List UInt8 := dkwX2_lets_8 ++ dktX2_lets_9
def dkwX2_lets_7 : List UInt8 := [167, 0, 4, 3, 84, 89, 6, 42, 27, 28, 182, 1, 1, 84, 183, 1, 59, 182, 1, 46, 87, 21, 8]
abbrev dktX2_lets_7 : List UInt8 := dkwX2_lets_7 ++ dktX2_lets_8
def dkwX2_lets_6 : List UInt8 := [21, 6, 7, 188, 4, 89, 3, 21, 4, 84, 89, 4, 21, 5, 84, 89, 5, 21, 8, 155, 0, 7, 4]
abbrev dktX2_lets_6 : List UInt8 := dkwX2_lets_6 ++ dktX2_lets_7
def dkwX2_lets_5 : List UInt8 := [180, 0, 19, 27, 46, 54, 8, 42, 180, 0, 67, 187, 0, 226, 89, 27, 28, 42, 180, 0, 138, 21, 7, 29]
abbrev dktX2_lets_5 : List UInt8 := dkwX2_lets_5 ++ dktX2_lets_6
def dkwX2_lets_4 : List UInt8 := [180, 0, 67, 42, 180, 0, 43, 28, 46, 182, 0, 222, 192, 0, 226, 180, 1, 56, 4, 96, 54, 7, 42]
abbrev dktX2_lets_4 : List UInt8 := dkwX2_lets_4 ++ dktX2_lets_5
def dkwX2_lets_3 : List UInt8 := [46, 4, 96, 79, 132, 7, 1, 167, 255, 191, 42, 180, 0, 43, 28, 46, 156, 0, 7, 4, 167, 0, 24, 42]
abbrev dktX2_lets_3 : List UInt8 := dkwX2_lets_3 ++ dktX2_lets_4
def dkwX2_lets_2 : List UInt8 := [182, 0, 183, 153, 0, 25, 42, 21, 7, 182, 0, 202, 21, 6, 162, 0, 14, 42, 180, 0, 28, 21, 7, 92]
abbrev dktX2_lets_2 : List UInt8 := dkwX2_lets_2 ++ dktX2_lets_3
def dkwX2_lets_1 : List UInt8 := [162, 0, 56, 21, 7, 27, 159, 0, 44, 42, 21, 7, 28, 182, 1, 15, 153, 0, 34, 42, 21, 7]
abbrev dktX2_lets_1 : List UInt8 := dkwX2_lets_1 ++ dktX2_lets_2
def dkwX2_lets_0 : List UInt8 := [42, 27, 182, 0, 202, 54, 6, 3, 54, 7, 21, 7, 42, 180, 0, 3, 180, 0, 146, 182, 0, 149]
abbrev dktX2_lets_0 : List UInt8 := dkwX2_lets_0 ++ dktX2_lets_1
theorem dksX2_lets_0 : cX2_lets.data.toList.drop 0 = dktX2_lets_0 := by decide +kernel
theorem dksX2_lets_1 : cX2_lets.data.toList.drop 22 = dktX2_lets_1 := dk_seg dksX2_lets_0 22 rfl rfl
theorem dksX2_lets_2 : cX2_lets.data.toList.drop 44 = dktX2_lets_2 := dk_seg dksX2_lets_1 22 rfl rfl
theorem dksX2_lets_3 : cX2_lets.data.toList.drop 68 = dktX2_lets_3 := dk_seg dksX2_lets_2 24 rfl rfl
theorem dksX2_lets_4 : cX2_lets.data.toList.drop 92 = dktX2_lets_4 := dk_seg dksX2_lets_3 24 rfl rfl
theorem dksX2_lets_5 : cX2_lets.data.toList.drop 115 = dktX2_lets_5 := dk_seg dksX2_lets_4 23 rfl rfl
theorem dksX2_lets_6 : cX2_lets.data.toList.drop 139 = dktX2_lets_6 := dk_seg dksX2_lets_5 24 rfl rfl
theorem dksX2_lets_7 : cX2_lets.data.toList.drop 162 = dktX2_lets_7 := dk_seg dksX2_lets_6 23 rfl rfl
theorem dksX2_lets_8 : cX2_lets.data.toList.drop 185 = dktX2_lets_8 := dk_seg dksX2_lets_7 23 rfl rfl
theorem dksX2_lets_9 : cX2_lets.data.toList.drop 209 = dktX2_lets_9 := dk_seg dksX2_lets_8 24 rfl rfl
theorem dX2_lets_0 : decode cX2_lets 0 = .ok (.aload_n 0, 1) := dk_42 (dk_at dksX2_lets_0 0 rfl rfl)
theorem dX2_lets_1 : decode cX2_lets 1 = .ok (.iload_n 1, 1) := dk_27 (dk_at dksX2_lets_0 1 rfl rfl)
theorem dX2_lets_2 : decode cX2_lets 2 = .ok (.invokevirtual 202, 3) := dk_182 0 202 (dk_at dksX2_lets_0 2 rfl rfl)
theorem dX2_lets_5 : decode cX2_lets 5 = .ok (.istore 6, 2) := dk_54 6 (dk_at dksX2_lets_0 5 rfl rfl)
theorem dX2_lets_7 : decode cX2_lets 7 = .ok (.iconst 0, 1) := dk_3 (dk_at dksX2_lets_0 7 rfl rfl)
theorem dX2_lets_8 : decode cX2_lets 8 = .ok (.istore 7, 2) := dk_54 7 (dk_at dksX2_lets_0 8 rfl rfl)
theorem dX2_lets_10 : decode cX2_lets 10 = .ok (.iload 7, 2) := dk_21 7 (dk_at dksX2_lets_0 10 rfl rfl)
theorem dX2_lets_12 : decode cX2_lets 12 = .ok (.aload_n 0, 1) := dk_42 (dk_at dksX2_lets_0 12 rfl rfl)
theorem dX2_lets_13 : decode cX2_lets 13 = .ok (.getfield 3, 3) := dk_180 0 3 (dk_at dksX2_lets_0 13 rfl rfl)
theorem dX2_lets_16 : decode cX2_lets 16 = .ok (.getfield 146, 3) := dk_180 0 146 (dk_at dksX2_lets_0 16 rfl rfl)
theorem dX2_lets_19 : decode cX2_lets 19 = .ok (.invokevirtual 149, 3) := dk_182 0 149 (dk_at dksX2_lets_0 19 rfl rfl)
theorem dX2_lets_22 : decode cX2_lets 22 = .ok (.if_icmp .ge 56, 3) := dk_162 0 56 (dk_at dksX2_lets_1 0 rfl rfl)
theorem dX2_lets_25 : decode cX2_lets 25 = .ok (.iload 7, 2) := dk_21 7 (dk_at dksX2_lets_1 3 rfl rfl)
theorem dX2_lets_27 : decode cX2_lets 27 = .ok (.iload_n 1, 1) := dk_27 (dk_at dksX2_lets_1 5 rfl rfl)
theorem dX2_lets_28 : decode cX2_lets 28 = .ok (.if_icmp .eq 44, 3) := dk_159 0 44 (dk_at dksX2_lets_1 6 rfl rfl)
theorem dX2_lets_31 : decode cX2_lets 31 = .ok (.aload_n 0, 1) := dk_42 (dk_at dksX2_lets_1 9 rfl rfl)
theorem dX2_lets_32 : decode cX2_lets 32 = .ok (.iload 7, 2) := dk_21 7 (dk_at dksX2_lets_1 10 rfl rfl)
theorem dX2_lets_34 : decode cX2_lets 34 = .ok (.iload_n 2, 1) := dk_28 (dk_at dksX2_lets_1 12 rfl rfl)
theorem dX2_lets_35 : decode cX2_lets 35 = .ok (.invokevirtual 271, 3) := dk_182 1 15 (dk_at dksX2_lets_1 13 rfl rfl)
theorem dX2_lets_38 : decode cX2_lets 38 = .ok (.ifCond .eq 34, 3) := dk_153 0 34 (dk_at dksX2_lets_1 16 rfl rfl)
theorem dX2_lets_41 : decode cX2_lets 41 = .ok (.aload_n 0, 1) := dk_42 (dk_at dksX2_lets_1 19 rfl rfl)
theorem dX2_lets_42 : decode cX2_lets 42 = .ok (.iload 7, 2) := dk_21 7 (dk_at dksX2_lets_1 20 rfl rfl)
theorem dX2_lets_44 : decode cX2_lets 44 = .ok (.invokevirtual 183, 3) := dk_182 0 183 (dk_at dksX2_lets_2 0 rfl rfl)
theorem dX2_lets_47 : decode cX2_lets 47 = .ok (.ifCond .eq 25, 3) := dk_153 0 25 (dk_at dksX2_lets_2 3 rfl rfl)
theorem dX2_lets_50 : decode cX2_lets 50 = .ok (.aload_n 0, 1) := dk_42 (dk_at dksX2_lets_2 6 rfl rfl)
theorem dX2_lets_51 : decode cX2_lets 51 = .ok (.iload 7, 2) := dk_21 7 (dk_at dksX2_lets_2 7 rfl rfl)
theorem dX2_lets_53 : decode cX2_lets 53 = .ok (.invokevirtual 202, 3) := dk_182 0 202 (dk_at dksX2_lets_2 9 rfl rfl)
theorem dX2_lets_56 : decode cX2_lets 56 = .ok (.iload 6, 2) := dk_21 6 (dk_at dksX2_lets_2 12 rfl rfl)
theorem dX2_lets_58 : decode cX2_lets 58 = .ok (.if_icmp .ge 14, 3) := dk_162 0 14 (dk_at dksX2_lets_2 14 rfl rfl)
theorem dX2_lets_61 : decode cX2_lets 61 = .ok (.aload_n 0, 1) := dk_42 (dk_at dksX2_lets_2 17 rfl rfl)
theorem dX2_lets_62 : decode cX2_lets 62 = .ok (.getfield 28, 3) := dk_180 0 28 (dk_at dksX2_lets_2 18 rfl rfl)
theorem dX2_lets_65 : decode cX2_lets 65 = .ok (.iload 7, 2) := dk_21 7 (dk_at dksX2_lets_2 21 rfl rfl)
theorem dX2_lets_67 : decode cX2_lets 67 = .ok (.dup2, 1) := dk_92 (dk_at dksX2_lets_2 23 rfl rfl)
theorem dX2_lets_68 : decode cX2_lets 68 = .ok (.iaload, 1) := dk_46 (dk_at dksX2_lets_3 0 rfl rfl)
theorem dX2_lets_69 : decode cX2_lets 69 = .ok (.iconst 1, 1) := dk_4 (dk_at dksX2_lets_3 1 rfl rfl)
theorem dX2_lets_70 : decode cX2_lets 70 = .ok (.iadd, 1) := dk_96 (dk_at dksX2_lets_3 2 rfl rfl)
theorem dX2_lets_71 : decode cX2_lets 71 = .ok (.iastore, 1) := dk_79 (dk_at dksX2_lets_3 3 rfl rfl)
theorem dX2_lets_72 : decode cX2_lets 72 = .ok (.iinc 7 1, 3) := dk_132 7 1 (dk_at dksX2_lets_3 4 rfl rfl)
theorem dX2_lets_75 : decode cX2_lets 75 = .ok (.goto (-65), 3) := dk_167 255 191 (dk_at dksX2_lets_3 7 rfl rfl)
theorem dX2_lets_78 : decode cX2_lets 78 = .ok (.aload_n 0, 1) := dk_42 (dk_at dksX2_lets_3 10 rfl rfl)
theorem dX2_lets_79 : decode cX2_lets 79 = .ok (.getfield 43, 3) := dk_180 0 43 (dk_at dksX2_lets_3 11 rfl rfl)
theorem dX2_lets_82 : decode cX2_lets 82 = .ok (.iload_n 2, 1) := dk_28 (dk_at dksX2_lets_3 14 rfl rfl)
theorem dX2_lets_83 : decode cX2_lets 83 = .ok (.iaload, 1) := dk_46 (dk_at dksX2_lets_3 15 rfl rfl)
theorem dX2_lets_84 : decode cX2_lets 84 = .ok (.ifCond .ge 7, 3) := dk_156 0 7 (dk_at dksX2_lets_3 16 rfl rfl)
theorem dX2_lets_87 : decode cX2_lets 87 = .ok (.iconst 1, 1) := dk_4 (dk_at dksX2_lets_3 19 rfl rfl)
theorem dX2_lets_88 : decode cX2_lets 88 = .ok (.goto 24, 3) := dk_167 0 24 (dk_at dksX2_lets_3 20 rfl rfl)
theorem dX2_lets_91 : decode cX2_lets 91 = .ok (.aload_n 0, 1) := dk_42 (dk_at dksX2_lets_3 23 rfl rfl)
theorem dX2_lets_92 : decode cX2_lets 92 = .ok (.getfield 67, 3) := dk_180 0 67 (dk_at dksX2_lets_4 0 rfl rfl)
theorem dX2_lets_95 : decode cX2_lets 95 = .ok (.aload_n 0, 1) := dk_42 (dk_at dksX2_lets_4 3 rfl rfl)
theorem dX2_lets_96 : decode cX2_lets 96 = .ok (.getfield 43, 3) := dk_180 0 43 (dk_at dksX2_lets_4 4 rfl rfl)
theorem dX2_lets_99 : decode cX2_lets 99 = .ok (.iload_n 2, 1) := dk_28 (dk_at dksX2_lets_4 7 rfl rfl)
theorem dX2_lets_100 : decode cX2_lets 100 = .ok (.iaload, 1) := dk_46 (dk_at dksX2_lets_4 8 rfl rfl)
theorem dX2_lets_101 : decode cX2_lets 101 = .ok (.invokevirtual 222, 3) := dk_182 0 222 (dk_at dksX2_lets_4 9 rfl rfl)
theorem dX2_lets_104 : decode cX2_lets 104 = .ok (.checkcast 226, 3) := dk_192 0 226 (dk_at dksX2_lets_4 12 rfl rfl)
theorem dX2_lets_107 : decode cX2_lets 107 = .ok (.getfield 312, 3) := dk_180 1 56 (dk_at dksX2_lets_4 15 rfl rfl)
theorem dX2_lets_110 : decode cX2_lets 110 = .ok (.iconst 1, 1) := dk_4 (dk_at dksX2_lets_4 18 rfl rfl)
theorem dX2_lets_111 : decode cX2_lets 111 = .ok (.iadd, 1) := dk_96 (dk_at dksX2_lets_4 19 rfl rfl)
theorem dX2_lets_112 : decode cX2_lets 112 = .ok (.istore 7, 2) := dk_54 7 (dk_at dksX2_lets_4 20 rfl rfl)
theorem dX2_lets_114 : decode cX2_lets 114 = .ok (.aload_n 0, 1) := dk_42 (dk_at dksX2_lets_4 22 rfl rfl)
theorem dX2_lets_115 : decode cX2_lets 115 = .ok (.getfield 19, 3) := dk_180 0 19 (dk_at dksX2_lets_5 0 rfl rfl)
theorem dX2_lets_118 : decode cX2_lets 118 = .ok (.iload_n 1, 1) := dk_27 (dk_at dksX2_lets_5 3 rfl rfl)
theorem dX2_lets_119 : decode cX2_lets 119 = .ok (.iaload, 1) := dk_46 (dk_at dksX2_lets_5 4 rfl rfl)
theorem dX2_lets_120 : decode cX2_lets 120 = .ok (.istore 8, 2) := dk_54 8 (dk_at dksX2_lets_5 5 rfl rfl)
theorem dX2_lets_122 : decode cX2_lets 122 = .ok (.aload_n 0, 1) := dk_42 (dk_at dksX2_lets_5 7 rfl rfl)
theorem dX2_lets_123 : decode cX2_lets 123 = .ok (.getfield 67, 3) := dk_180 0 67 (dk_at dksX2_lets_5 8 rfl rfl)
theorem dX2_lets_126 : decode cX2_lets 126 = .ok (.new 226, 3) := dk_187 0 226 (dk_at dksX2_lets_5 11 rfl rfl)
theorem dX2_lets_129 : decode cX2_lets 129 = .ok (.dup, 1) := dk_89 (dk_at dksX2_lets_5 14 rfl rfl)
theorem dX2_lets_130 : decode cX2_lets 130 = .ok (.iload_n 1, 1) := dk_27 (dk_at dksX2_lets_5 15 rfl rfl)
theorem dX2_lets_131 : decode cX2_lets 131 = .ok (.iload_n 2, 1) := dk_28 (dk_at dksX2_lets_5 16 rfl rfl)
theorem dX2_lets_132 : decode cX2_lets 132 = .ok (.aload_n 0, 1) := dk_42 (dk_at dksX2_lets_5 17 rfl rfl)
theorem dX2_lets_133 : decode cX2_lets 133 = .ok (.getfield 138, 3) := dk_180 0 138 (dk_at dksX2_lets_5 18 rfl rfl)
theorem dX2_lets_136 : decode cX2_lets 136 = .ok (.iload 7, 2) := dk_21 7 (dk_at dksX2_lets_5 21 rfl rfl)
theorem dX2_lets_138 : decode cX2_lets 138 = .ok (.iload_n 3, 1) := dk_29 (dk_at dksX2_lets_5 23 rfl rfl)
theorem dX2_lets_139 : decode cX2_lets 139 = .ok (.iload 6, 2) := dk_21 6 (dk_at dksX2_lets_6 0 rfl rfl)
theorem dX2_lets_141 : decode cX2_lets 141 = .ok (.iconst 4, 1) := dk_7 (dk_at dksX2_lets_6 2 rfl rfl)
theorem dX2_lets_142 : decode cX2_lets 142 = .ok (.newarray .boolean, 2) := dk_188_4 (dk_at dksX2_lets_6 3 rfl rfl)
theorem dX2_lets_144 : decode cX2_lets 144 = .ok (.dup, 1) := dk_89 (dk_at dksX2_lets_6 5 rfl rfl)
theorem dX2_lets_145 : decode cX2_lets 145 = .ok (.iconst 0, 1) := dk_3 (dk_at dksX2_lets_6 6 rfl rfl)
theorem dX2_lets_146 : decode cX2_lets 146 = .ok (.iload 4, 2) := dk_21 4 (dk_at dksX2_lets_6 7 rfl rfl)
theorem dX2_lets_148 : decode cX2_lets 148 = .ok (.bastore, 1) := dk_84 (dk_at dksX2_lets_6 9 rfl rfl)
theorem dX2_lets_149 : decode cX2_lets 149 = .ok (.dup, 1) := dk_89 (dk_at dksX2_lets_6 10 rfl rfl)
theorem dX2_lets_150 : decode cX2_lets 150 = .ok (.iconst 1, 1) := dk_4 (dk_at dksX2_lets_6 11 rfl rfl)
theorem dX2_lets_151 : decode cX2_lets 151 = .ok (.iload 5, 2) := dk_21 5 (dk_at dksX2_lets_6 12 rfl rfl)
theorem dX2_lets_153 : decode cX2_lets 153 = .ok (.bastore, 1) := dk_84 (dk_at dksX2_lets_6 14 rfl rfl)
theorem dX2_lets_154 : decode cX2_lets 154 = .ok (.dup, 1) := dk_89 (dk_at dksX2_lets_6 15 rfl rfl)
theorem dX2_lets_155 : decode cX2_lets 155 = .ok (.iconst 2, 1) := dk_5 (dk_at dksX2_lets_6 16 rfl rfl)
theorem dX2_lets_156 : decode cX2_lets 156 = .ok (.iload 8, 2) := dk_21 8 (dk_at dksX2_lets_6 17 rfl rfl)
theorem dX2_lets_158 : decode cX2_lets 158 = .ok (.ifCond .lt 7, 3) := dk_155 0 7 (dk_at dksX2_lets_6 19 rfl rfl)
theorem dX2_lets_161 : decode cX2_lets 161 = .ok (.iconst 1, 1) := dk_4 (dk_at dksX2_lets_6 22 rfl rfl)
theorem dX2_lets_162 : decode cX2_lets 162 = .ok (.goto 4, 3) := dk_167 0 4 (dk_at dksX2_lets_7 0 rfl rfl)
theorem dX2_lets_165 : decode cX2_lets 165 = .ok (.iconst 0, 1) := dk_3 (dk_at dksX2_lets_7 3 rfl rfl)
theorem dX2_lets_166 : decode cX2_lets 166 = .ok (.bastore, 1) := dk_84 (dk_at dksX2_lets_7 4 rfl rfl)
theorem dX2_lets_167 : decode cX2_lets 167 = .ok (.dup, 1) := dk_89 (dk_at dksX2_lets_7 5 rfl rfl)
theorem dX2_lets_168 : decode cX2_lets 168 = .ok (.iconst 3, 1) := dk_6 (dk_at dksX2_lets_7 6 rfl rfl)
theorem dX2_lets_169 : decode cX2_lets 169 = .ok (.aload_n 0, 1) := dk_42 (dk_at dksX2_lets_7 7 rfl rfl)
theorem dX2_lets_170 : decode cX2_lets 170 = .ok (.iload_n 1, 1) := dk_27 (dk_at dksX2_lets_7 8 rfl rfl)
theorem dX2_lets_171 : decode cX2_lets 171 = .ok (.iload_n 2, 1) := dk_28 (dk_at dksX2_lets_7 9 rfl rfl)
theorem dX2_lets_172 : decode cX2_lets 172 = .ok (.invokevirtual 257, 3) := dk_182 1 1 (dk_at dksX2_lets_7 10 rfl rfl)
theorem dX2_lets_175 : decode cX2_lets 175 = .ok (.bastore, 1) := dk_84 (dk_at dksX2_lets_7 13 rfl rfl)
theorem dX2_lets_176 : decode cX2_lets 176 = .ok (.invokespecial 315, 3) := dk_183 1 59 (dk_at dksX2_lets_7 14 rfl rfl)
theorem dX2_lets_179 : decode cX2_lets 179 = .ok (.invokevirtual 302, 3) := dk_182 1 46 (dk_at dksX2_lets_7 17 rfl rfl)
theorem dX2_lets_182 : decode cX2_lets 182 = .ok (.pop, 1) := dk_87 (dk_at dksX2_lets_7 20 rfl rfl)
theorem dX2_lets_183 : decode cX2_lets 183 = .ok (.iload 8, 2) := dk_21 8 (dk_at dksX2_lets_7 21 rfl rfl)
theorem dX2_lets_185 : decode cX2_lets 185 = .ok (.ifCond .lt 18, 3) := dk_155 0 18 (dk_at dksX2_lets_8 0 rfl rfl)
theorem dX2_lets_188 : decode cX2_lets 188 = .ok (.aload_n 0, 1) := dk_42 (dk_at dksX2_lets_8 3 rfl rfl)
theorem dX2_lets_189 : decode cX2_lets 189 = .ok (.iload 8, 2) := dk_21 8 (dk_at dksX2_lets_8 4 rfl rfl)
theorem dX2_lets_191 : decode cX2_lets 191 = .ok (.aload_n 0, 1) := dk_42 (dk_at dksX2_lets_8 6 rfl rfl)
theorem dX2_lets_192 : decode cX2_lets 192 = .ok (.getfield 67, 3) := dk_180 0 67 (dk_at dksX2_lets_8 7 rfl rfl)
theorem dX2_lets_195 : decode cX2_lets 195 = .ok (.invokevirtual 149, 3) := dk_182 0 149 (dk_at dksX2_lets_8 10 rfl rfl)
theorem dX2_lets_198 : decode cX2_lets 198 = .ok (.iconst 1, 1) := dk_4 (dk_at dksX2_lets_8 13 rfl rfl)
theorem dX2_lets_199 : decode cX2_lets 199 = .ok (.isub, 1) := dk_100 (dk_at dksX2_lets_8 14 rfl rfl)
theorem dX2_lets_200 : decode cX2_lets 200 = .ok (.invokevirtual 318, 3) := dk_182 1 62 (dk_at dksX2_lets_8 15 rfl rfl)
theorem dX2_lets_203 : decode cX2_lets 203 = .ok (.aload_n 0, 1) := dk_42 (dk_at dksX2_lets_8 18 rfl rfl)
theorem dX2_lets_204 : decode cX2_lets 204 = .ok (.getfield 19, 3) := dk_180 0 19 (dk_at dksX2_lets_8 19 rfl rfl)
theorem dX2_lets_207 : decode cX2_lets 207 = .ok (.iload_n 1, 1) := dk_27 (dk_at dksX2_lets_8 22 rfl rfl)
theorem dX2_lets_208 : decode cX2_lets 208 = .ok (.iload_n 2, 1) := dk_28 (dk_at dksX2_lets_8 23 rfl rfl)
theorem dX2_lets_209 : decode cX2_lets 209 = .ok (.iastore, 1) := dk_79 (dk_at dksX2_lets_9 0 rfl rfl)
theorem dX2_lets_210 : decode cX2_lets 210 = .ok (.aload_n 0, 1) := dk_42 (dk_at dksX2_lets_9 1 rfl rfl)
theorem dX2_lets_211 : decode cX2_lets 211 = .ok (.getfield 56, 3) := dk_180 0 56 (dk_at dksX2_lets_9 2 rfl rfl)
theorem dX2_lets_214 : decode cX2_lets 214 = .ok (.iload_n 1, 1) := dk_27 (dk_at dksX2_lets_9 5 rfl rfl)
theorem dX2_lets_215 : decode cX2_lets 215 = .ok (.iconst 1, 1) := dk_4 (dk_at dksX2_lets_9 6 rfl rfl)
theorem dX2_lets_216 : decode cX2_lets 216 = .ok (.bastore, 1) := dk_84 (dk_at dksX2_lets_9 7 rfl rfl)
theorem dX2_lets_217 : decode cX2_lets 217 = .ok (.return_, 1) := dk_177 (dk_at dksX2_lets_9 8 rfl rfl)
abbrev cX2_frees : ByteArray := prog_10_method_34_code
def yX2_frees : MethodName := ⟨RX2, "frees", "(II)V"⟩
def dkwX2_frees_0 : List UInt8 := [42, 180, 0, 40, 27, 42, 180, 0, 138, 4, 96, 79, 42, 180, 0, 43, 27, 28, 79, 177]
abbrev dktX2_frees_0 : List UInt8 := dkwX2_frees_0 ++ []
theorem dksX2_frees_0 : cX2_frees.data.toList.drop 0 = dktX2_frees_0 := by decide +kernel
theorem dX2_frees_0 : decode cX2_frees 0 = .ok (.aload_n 0, 1) := dk_42 (dk_at dksX2_frees_0 0 rfl rfl)
theorem dX2_frees_1 : decode cX2_frees 1 = .ok (.getfield 40, 3) := dk_180 0 40 (dk_at dksX2_frees_0 1 rfl rfl)
theorem dX2_frees_4 : decode cX2_frees 4 = .ok (.iload_n 1, 1) := dk_27 (dk_at dksX2_frees_0 4 rfl rfl)
theorem dX2_frees_5 : decode cX2_frees 5 = .ok (.aload_n 0, 1) := dk_42 (dk_at dksX2_frees_0 5 rfl rfl)
theorem dX2_frees_6 : decode cX2_frees 6 = .ok (.getfield 138, 3) := dk_180 0 138 (dk_at dksX2_frees_0 6 rfl rfl)
theorem dX2_frees_9 : decode cX2_frees 9 = .ok (.iconst 1, 1) := dk_4 (dk_at dksX2_frees_0 9 rfl rfl)
theorem dX2_frees_10 : decode cX2_frees 10 = .ok (.iadd, 1) := dk_96 (dk_at dksX2_frees_0 10 rfl rfl)
theorem dX2_frees_11 : decode cX2_frees 11 = .ok (.iastore, 1) := dk_79 (dk_at dksX2_frees_0 11 rfl rfl)
theorem dX2_frees_12 : decode cX2_frees 12 = .ok (.aload_n 0, 1) := dk_42 (dk_at dksX2_frees_0 12 rfl rfl)
theorem dX2_frees_13 : decode cX2_frees 13 = .ok (.getfield 43, 3) := dk_180 0 43 (dk_at dksX2_frees_0 13 rfl rfl)
theorem dX2_frees_16 : decode cX2_frees 16 = .ok (.iload_n 1, 1) := dk_27 (dk_at dksX2_frees_0 16 rfl rfl)
theorem dX2_frees_17 : decode cX2_frees 17 = .ok (.iload_n 2, 1) := dk_28 (dk_at dksX2_frees_0 17 rfl rfl)
theorem dX2_frees_18 : decode cX2_frees 18 = .ok (.iastore, 1) := dk_79 (dk_at dksX2_frees_0 18 rfl rfl)
theorem dX2_frees_19 : decode cX2_frees 19 = .ok (.return_, 1) := dk_177 (dk_at dksX2_frees_0 19 rfl rfl)
abbrev cX2_refuses : ByteArray := prog_10_method_36_code
def yX2_refuses : MethodName := ⟨RX2, "refuses", "(I)V"⟩
def dkwX2_refuses_2 : List UInt8 := [42, 180, 0, 15, 4, 46, 79, 42, 180, 0, 59, 27, 4, 84, 177]
abbrev dktX2_refuses_2 : List UInt8 := dkwX2_refuses_2 ++ []
def dkwX2_refuses_1 : List UInt8 := [27, 46, 42, 180, 0, 15, 3, 46, 162, 0, 4, 177, 42, 180, 0, 22, 27, 3, 79, 42, 180, 0, 25, 27]
abbrev dktX2_refuses_1 : List UInt8 := dkwX2_refuses_1 ++ dktX2_refuses_2
def dkwX2_refuses_0 : List UInt8 := [42, 89, 180, 0, 142, 4, 96, 181, 0, 142, 42, 180, 0, 22, 27, 92, 46, 4, 96, 79, 42, 180, 0, 22]
abbrev dktX2_refuses_0 : List UInt8 := dkwX2_refuses_0 ++ dktX2_refuses_1
theorem dksX2_refuses_0 : cX2_refuses.data.toList.drop 0 = dktX2_refuses_0 := by decide +kernel
theorem dksX2_refuses_1 : cX2_refuses.data.toList.drop 24 = dktX2_refuses_1 := dk_seg dksX2_refuses_0 24 rfl rfl
theorem dksX2_refuses_2 : cX2_refuses.data.toList.drop 48 = dktX2_refuses_2 := dk_seg dksX2_refuses_1 24 rfl rfl
theorem dX2_refuses_0 : decode cX2_refuses 0 = .ok (.aload_n 0, 1) := dk_42 (dk_at dksX2_refuses_0 0 rfl rfl)
theorem dX2_refuses_1 : decode cX2_refuses 1 = .ok (.dup, 1) := dk_89 (dk_at dksX2_refuses_0 1 rfl rfl)
theorem dX2_refuses_2 : decode cX2_refuses 2 = .ok (.getfield 142, 3) := dk_180 0 142 (dk_at dksX2_refuses_0 2 rfl rfl)
theorem dX2_refuses_5 : decode cX2_refuses 5 = .ok (.iconst 1, 1) := dk_4 (dk_at dksX2_refuses_0 5 rfl rfl)
theorem dX2_refuses_6 : decode cX2_refuses 6 = .ok (.iadd, 1) := dk_96 (dk_at dksX2_refuses_0 6 rfl rfl)
theorem dX2_refuses_7 : decode cX2_refuses 7 = .ok (.putfield 142, 3) := dk_181 0 142 (dk_at dksX2_refuses_0 7 rfl rfl)
theorem dX2_refuses_10 : decode cX2_refuses 10 = .ok (.aload_n 0, 1) := dk_42 (dk_at dksX2_refuses_0 10 rfl rfl)
theorem dX2_refuses_11 : decode cX2_refuses 11 = .ok (.getfield 22, 3) := dk_180 0 22 (dk_at dksX2_refuses_0 11 rfl rfl)
theorem dX2_refuses_14 : decode cX2_refuses 14 = .ok (.iload_n 1, 1) := dk_27 (dk_at dksX2_refuses_0 14 rfl rfl)
theorem dX2_refuses_15 : decode cX2_refuses 15 = .ok (.dup2, 1) := dk_92 (dk_at dksX2_refuses_0 15 rfl rfl)
theorem dX2_refuses_16 : decode cX2_refuses 16 = .ok (.iaload, 1) := dk_46 (dk_at dksX2_refuses_0 16 rfl rfl)
theorem dX2_refuses_17 : decode cX2_refuses 17 = .ok (.iconst 1, 1) := dk_4 (dk_at dksX2_refuses_0 17 rfl rfl)
theorem dX2_refuses_18 : decode cX2_refuses 18 = .ok (.iadd, 1) := dk_96 (dk_at dksX2_refuses_0 18 rfl rfl)
theorem dX2_refuses_19 : decode cX2_refuses 19 = .ok (.iastore, 1) := dk_79 (dk_at dksX2_refuses_0 19 rfl rfl)
theorem dX2_refuses_20 : decode cX2_refuses 20 = .ok (.aload_n 0, 1) := dk_42 (dk_at dksX2_refuses_0 20 rfl rfl)
theorem dX2_refuses_21 : decode cX2_refuses 21 = .ok (.getfield 22, 3) := dk_180 0 22 (dk_at dksX2_refuses_0 21 rfl rfl)
theorem dX2_refuses_24 : decode cX2_refuses 24 = .ok (.iload_n 1, 1) := dk_27 (dk_at dksX2_refuses_1 0 rfl rfl)
theorem dX2_refuses_25 : decode cX2_refuses 25 = .ok (.iaload, 1) := dk_46 (dk_at dksX2_refuses_1 1 rfl rfl)
theorem dX2_refuses_26 : decode cX2_refuses 26 = .ok (.aload_n 0, 1) := dk_42 (dk_at dksX2_refuses_1 2 rfl rfl)
theorem dX2_refuses_27 : decode cX2_refuses 27 = .ok (.getfield 15, 3) := dk_180 0 15 (dk_at dksX2_refuses_1 3 rfl rfl)
theorem dX2_refuses_30 : decode cX2_refuses 30 = .ok (.iconst 0, 1) := dk_3 (dk_at dksX2_refuses_1 6 rfl rfl)
theorem dX2_refuses_31 : decode cX2_refuses 31 = .ok (.iaload, 1) := dk_46 (dk_at dksX2_refuses_1 7 rfl rfl)
theorem dX2_refuses_32 : decode cX2_refuses 32 = .ok (.if_icmp .ge 4, 3) := dk_162 0 4 (dk_at dksX2_refuses_1 8 rfl rfl)
theorem dX2_refuses_35 : decode cX2_refuses 35 = .ok (.return_, 1) := dk_177 (dk_at dksX2_refuses_1 11 rfl rfl)
theorem dX2_refuses_36 : decode cX2_refuses 36 = .ok (.aload_n 0, 1) := dk_42 (dk_at dksX2_refuses_1 12 rfl rfl)
theorem dX2_refuses_37 : decode cX2_refuses 37 = .ok (.getfield 22, 3) := dk_180 0 22 (dk_at dksX2_refuses_1 13 rfl rfl)
theorem dX2_refuses_40 : decode cX2_refuses 40 = .ok (.iload_n 1, 1) := dk_27 (dk_at dksX2_refuses_1 16 rfl rfl)
theorem dX2_refuses_41 : decode cX2_refuses 41 = .ok (.iconst 0, 1) := dk_3 (dk_at dksX2_refuses_1 17 rfl rfl)
theorem dX2_refuses_42 : decode cX2_refuses 42 = .ok (.iastore, 1) := dk_79 (dk_at dksX2_refuses_1 18 rfl rfl)
theorem dX2_refuses_43 : decode cX2_refuses 43 = .ok (.aload_n 0, 1) := dk_42 (dk_at dksX2_refuses_1 19 rfl rfl)
theorem dX2_refuses_44 : decode cX2_refuses 44 = .ok (.getfield 25, 3) := dk_180 0 25 (dk_at dksX2_refuses_1 20 rfl rfl)
theorem dX2_refuses_47 : decode cX2_refuses 47 = .ok (.iload_n 1, 1) := dk_27 (dk_at dksX2_refuses_1 23 rfl rfl)
theorem dX2_refuses_48 : decode cX2_refuses 48 = .ok (.aload_n 0, 1) := dk_42 (dk_at dksX2_refuses_2 0 rfl rfl)
theorem dX2_refuses_49 : decode cX2_refuses 49 = .ok (.getfield 15, 3) := dk_180 0 15 (dk_at dksX2_refuses_2 1 rfl rfl)
theorem dX2_refuses_52 : decode cX2_refuses 52 = .ok (.iconst 1, 1) := dk_4 (dk_at dksX2_refuses_2 4 rfl rfl)
theorem dX2_refuses_53 : decode cX2_refuses 53 = .ok (.iaload, 1) := dk_46 (dk_at dksX2_refuses_2 5 rfl rfl)
theorem dX2_refuses_54 : decode cX2_refuses 54 = .ok (.iastore, 1) := dk_79 (dk_at dksX2_refuses_2 6 rfl rfl)
theorem dX2_refuses_55 : decode cX2_refuses 55 = .ok (.aload_n 0, 1) := dk_42 (dk_at dksX2_refuses_2 7 rfl rfl)
theorem dX2_refuses_56 : decode cX2_refuses 56 = .ok (.getfield 59, 3) := dk_180 0 59 (dk_at dksX2_refuses_2 8 rfl rfl)
theorem dX2_refuses_59 : decode cX2_refuses 59 = .ok (.iload_n 1, 1) := dk_27 (dk_at dksX2_refuses_2 11 rfl rfl)
theorem dX2_refuses_60 : decode cX2_refuses 60 = .ok (.iconst 1, 1) := dk_4 (dk_at dksX2_refuses_2 12 rfl rfl)
theorem dX2_refuses_61 : decode cX2_refuses 61 = .ok (.bastore, 1) := dk_84 (dk_at dksX2_refuses_2 13 rfl rfl)
theorem dX2_refuses_62 : decode cX2_refuses 62 = .ok (.return_, 1) := dk_177 (dk_at dksX2_refuses_2 14 rfl rfl)
abbrev cX2_couldHave : ByteArray := prog_10_method_13_code
def yX2_couldHave : MethodName := ⟨RX2, "couldHave", "(II)Z"⟩
def dkwX2_couldHave_1 : List UInt8 := [153, 0, 7, 4, 167, 0, 4, 3, 172]
abbrev dktX2_couldHave_1 : List UInt8 := dkwX2_couldHave_1 ++ []
def dkwX2_couldHave_0 : List UInt8 := [42, 27, 182, 0, 183, 153, 0, 25, 42, 27, 28, 182, 0, 187, 153, 0, 16, 42, 27, 28, 182, 0, 190]
abbrev dktX2_couldHave_0 : List UInt8 := dkwX2_couldHave_0 ++ dktX2_couldHave_1
theorem dksX2_couldHave_0 : cX2_couldHave.data.toList.drop 0 = dktX2_couldHave_0 := by decide +kernel
theorem dksX2_couldHave_1 : cX2_couldHave.data.toList.drop 23 = dktX2_couldHave_1 := dk_seg dksX2_couldHave_0 23 rfl rfl
theorem dX2_couldHave_0 : decode cX2_couldHave 0 = .ok (.aload_n 0, 1) := dk_42 (dk_at dksX2_couldHave_0 0 rfl rfl)
theorem dX2_couldHave_1 : decode cX2_couldHave 1 = .ok (.iload_n 1, 1) := dk_27 (dk_at dksX2_couldHave_0 1 rfl rfl)
theorem dX2_couldHave_2 : decode cX2_couldHave 2 = .ok (.invokevirtual 183, 3) := dk_182 0 183 (dk_at dksX2_couldHave_0 2 rfl rfl)
theorem dX2_couldHave_5 : decode cX2_couldHave 5 = .ok (.ifCond .eq 25, 3) := dk_153 0 25 (dk_at dksX2_couldHave_0 5 rfl rfl)
theorem dX2_couldHave_8 : decode cX2_couldHave 8 = .ok (.aload_n 0, 1) := dk_42 (dk_at dksX2_couldHave_0 8 rfl rfl)
theorem dX2_couldHave_9 : decode cX2_couldHave 9 = .ok (.iload_n 1, 1) := dk_27 (dk_at dksX2_couldHave_0 9 rfl rfl)
theorem dX2_couldHave_10 : decode cX2_couldHave 10 = .ok (.iload_n 2, 1) := dk_28 (dk_at dksX2_couldHave_0 10 rfl rfl)
theorem dX2_couldHave_11 : decode cX2_couldHave 11 = .ok (.invokevirtual 187, 3) := dk_182 0 187 (dk_at dksX2_couldHave_0 11 rfl rfl)
theorem dX2_couldHave_14 : decode cX2_couldHave 14 = .ok (.ifCond .eq 16, 3) := dk_153 0 16 (dk_at dksX2_couldHave_0 14 rfl rfl)
theorem dX2_couldHave_17 : decode cX2_couldHave 17 = .ok (.aload_n 0, 1) := dk_42 (dk_at dksX2_couldHave_0 17 rfl rfl)
theorem dX2_couldHave_18 : decode cX2_couldHave 18 = .ok (.iload_n 1, 1) := dk_27 (dk_at dksX2_couldHave_0 18 rfl rfl)
theorem dX2_couldHave_19 : decode cX2_couldHave 19 = .ok (.iload_n 2, 1) := dk_28 (dk_at dksX2_couldHave_0 19 rfl rfl)
theorem dX2_couldHave_20 : decode cX2_couldHave 20 = .ok (.invokevirtual 190, 3) := dk_182 0 190 (dk_at dksX2_couldHave_0 20 rfl rfl)
theorem dX2_couldHave_23 : decode cX2_couldHave 23 = .ok (.ifCond .eq 7, 3) := dk_153 0 7 (dk_at dksX2_couldHave_1 0 rfl rfl)
theorem dX2_couldHave_26 : decode cX2_couldHave 26 = .ok (.iconst 1, 1) := dk_4 (dk_at dksX2_couldHave_1 3 rfl rfl)
theorem dX2_couldHave_27 : decode cX2_couldHave 27 = .ok (.goto 4, 3) := dk_167 0 4 (dk_at dksX2_couldHave_1 4 rfl rfl)
theorem dX2_couldHave_30 : decode cX2_couldHave 30 = .ok (.iconst 0, 1) := dk_3 (dk_at dksX2_couldHave_1 7 rfl rfl)
theorem dX2_couldHave_31 : decode cX2_couldHave 31 = .ok (.ireturn, 1) := dk_172 (dk_at dksX2_couldHave_1 8 rfl rfl)
abbrev cX2_compareBy : ByteArray := prog_10_method_27_code
def yX2_compareBy : MethodName := ⟨RX2, "compareBy", "(IIII)I"⟩
def dkwX2_compareBy_1 : List UInt8 := [181, 0, 208, 21, 5, 172]
abbrev dktX2_compareBy_1 : List UInt8 := dkwX2_compareBy_1 ++ []
def dkwX2_compareBy_0 : List UInt8 := [42, 28, 181, 0, 205, 42, 29, 181, 0, 208, 42, 27, 28, 21, 4, 182, 1, 11, 54, 5, 42, 3]
abbrev dktX2_compareBy_0 : List UInt8 := dkwX2_compareBy_0 ++ dktX2_compareBy_1
theorem dksX2_compareBy_0 : cX2_compareBy.data.toList.drop 0 = dktX2_compareBy_0 := by decide +kernel
theorem dksX2_compareBy_1 : cX2_compareBy.data.toList.drop 22 = dktX2_compareBy_1 := dk_seg dksX2_compareBy_0 22 rfl rfl
theorem dX2_compareBy_0 : decode cX2_compareBy 0 = .ok (.aload_n 0, 1) := dk_42 (dk_at dksX2_compareBy_0 0 rfl rfl)
theorem dX2_compareBy_1 : decode cX2_compareBy 1 = .ok (.iload_n 2, 1) := dk_28 (dk_at dksX2_compareBy_0 1 rfl rfl)
theorem dX2_compareBy_2 : decode cX2_compareBy 2 = .ok (.putfield 205, 3) := dk_181 0 205 (dk_at dksX2_compareBy_0 2 rfl rfl)
theorem dX2_compareBy_5 : decode cX2_compareBy 5 = .ok (.aload_n 0, 1) := dk_42 (dk_at dksX2_compareBy_0 5 rfl rfl)
theorem dX2_compareBy_6 : decode cX2_compareBy 6 = .ok (.iload_n 3, 1) := dk_29 (dk_at dksX2_compareBy_0 6 rfl rfl)
theorem dX2_compareBy_7 : decode cX2_compareBy 7 = .ok (.putfield 208, 3) := dk_181 0 208 (dk_at dksX2_compareBy_0 7 rfl rfl)
theorem dX2_compareBy_10 : decode cX2_compareBy 10 = .ok (.aload_n 0, 1) := dk_42 (dk_at dksX2_compareBy_0 10 rfl rfl)
theorem dX2_compareBy_11 : decode cX2_compareBy 11 = .ok (.iload_n 1, 1) := dk_27 (dk_at dksX2_compareBy_0 11 rfl rfl)
theorem dX2_compareBy_12 : decode cX2_compareBy 12 = .ok (.iload_n 2, 1) := dk_28 (dk_at dksX2_compareBy_0 12 rfl rfl)
theorem dX2_compareBy_13 : decode cX2_compareBy 13 = .ok (.iload 4, 2) := dk_21 4 (dk_at dksX2_compareBy_0 13 rfl rfl)
theorem dX2_compareBy_15 : decode cX2_compareBy 15 = .ok (.invokevirtual 267, 3) := dk_182 1 11 (dk_at dksX2_compareBy_0 15 rfl rfl)
theorem dX2_compareBy_18 : decode cX2_compareBy 18 = .ok (.istore 5, 2) := dk_54 5 (dk_at dksX2_compareBy_0 18 rfl rfl)
theorem dX2_compareBy_20 : decode cX2_compareBy 20 = .ok (.aload_n 0, 1) := dk_42 (dk_at dksX2_compareBy_0 20 rfl rfl)
theorem dX2_compareBy_21 : decode cX2_compareBy 21 = .ok (.iconst 0, 1) := dk_3 (dk_at dksX2_compareBy_0 21 rfl rfl)
theorem dX2_compareBy_22 : decode cX2_compareBy 22 = .ok (.putfield 208, 3) := dk_181 0 208 (dk_at dksX2_compareBy_1 0 rfl rfl)
theorem dX2_compareBy_25 : decode cX2_compareBy 25 = .ok (.iload 5, 2) := dk_21 5 (dk_at dksX2_compareBy_1 3 rfl rfl)
theorem dX2_compareBy_27 : decode cX2_compareBy 27 = .ok (.ireturn, 1) := dk_172 (dk_at dksX2_compareBy_1 5 rfl rfl)
abbrev cX2_quits : ByteArray := prog_10_method_41_code
def yX2_quits : MethodName := ⟨RX2, "quits", "(I)V"⟩
def dkwX2_quits_1 : List UInt8 := [27, 2, 79, 42, 180, 0, 56, 27, 4, 84, 42, 180, 0, 31, 27, 3, 79, 177]
abbrev dktX2_quits_1 : List UInt8 := dkwX2_quits_1 ++ []
def dkwX2_quits_0 : List UInt8 := [42, 180, 0, 19, 27, 46, 155, 0, 14, 42, 42, 180, 0, 19, 27, 46, 2, 182, 1, 62, 42, 180, 0, 19]
abbrev dktX2_quits_0 : List UInt8 := dkwX2_quits_0 ++ dktX2_quits_1
theorem dksX2_quits_0 : cX2_quits.data.toList.drop 0 = dktX2_quits_0 := by decide +kernel
theorem dksX2_quits_1 : cX2_quits.data.toList.drop 24 = dktX2_quits_1 := dk_seg dksX2_quits_0 24 rfl rfl
theorem dX2_quits_0 : decode cX2_quits 0 = .ok (.aload_n 0, 1) := dk_42 (dk_at dksX2_quits_0 0 rfl rfl)
theorem dX2_quits_1 : decode cX2_quits 1 = .ok (.getfield 19, 3) := dk_180 0 19 (dk_at dksX2_quits_0 1 rfl rfl)
theorem dX2_quits_4 : decode cX2_quits 4 = .ok (.iload_n 1, 1) := dk_27 (dk_at dksX2_quits_0 4 rfl rfl)
theorem dX2_quits_5 : decode cX2_quits 5 = .ok (.iaload, 1) := dk_46 (dk_at dksX2_quits_0 5 rfl rfl)
theorem dX2_quits_6 : decode cX2_quits 6 = .ok (.ifCond .lt 14, 3) := dk_155 0 14 (dk_at dksX2_quits_0 6 rfl rfl)
theorem dX2_quits_9 : decode cX2_quits 9 = .ok (.aload_n 0, 1) := dk_42 (dk_at dksX2_quits_0 9 rfl rfl)
theorem dX2_quits_10 : decode cX2_quits 10 = .ok (.aload_n 0, 1) := dk_42 (dk_at dksX2_quits_0 10 rfl rfl)
theorem dX2_quits_11 : decode cX2_quits 11 = .ok (.getfield 19, 3) := dk_180 0 19 (dk_at dksX2_quits_0 11 rfl rfl)
theorem dX2_quits_14 : decode cX2_quits 14 = .ok (.iload_n 1, 1) := dk_27 (dk_at dksX2_quits_0 14 rfl rfl)
theorem dX2_quits_15 : decode cX2_quits 15 = .ok (.iaload, 1) := dk_46 (dk_at dksX2_quits_0 15 rfl rfl)
theorem dX2_quits_16 : decode cX2_quits 16 = .ok (.iconst (-1), 1) := dk_2 (dk_at dksX2_quits_0 16 rfl rfl)
theorem dX2_quits_17 : decode cX2_quits 17 = .ok (.invokevirtual 318, 3) := dk_182 1 62 (dk_at dksX2_quits_0 17 rfl rfl)
theorem dX2_quits_20 : decode cX2_quits 20 = .ok (.aload_n 0, 1) := dk_42 (dk_at dksX2_quits_0 20 rfl rfl)
theorem dX2_quits_21 : decode cX2_quits 21 = .ok (.getfield 19, 3) := dk_180 0 19 (dk_at dksX2_quits_0 21 rfl rfl)
theorem dX2_quits_24 : decode cX2_quits 24 = .ok (.iload_n 1, 1) := dk_27 (dk_at dksX2_quits_1 0 rfl rfl)
theorem dX2_quits_25 : decode cX2_quits 25 = .ok (.iconst (-1), 1) := dk_2 (dk_at dksX2_quits_1 1 rfl rfl)
theorem dX2_quits_26 : decode cX2_quits 26 = .ok (.iastore, 1) := dk_79 (dk_at dksX2_quits_1 2 rfl rfl)
theorem dX2_quits_27 : decode cX2_quits 27 = .ok (.aload_n 0, 1) := dk_42 (dk_at dksX2_quits_1 3 rfl rfl)
theorem dX2_quits_28 : decode cX2_quits 28 = .ok (.getfield 56, 3) := dk_180 0 56 (dk_at dksX2_quits_1 4 rfl rfl)
theorem dX2_quits_31 : decode cX2_quits 31 = .ok (.iload_n 1, 1) := dk_27 (dk_at dksX2_quits_1 7 rfl rfl)
theorem dX2_quits_32 : decode cX2_quits 32 = .ok (.iconst 1, 1) := dk_4 (dk_at dksX2_quits_1 8 rfl rfl)
theorem dX2_quits_33 : decode cX2_quits 33 = .ok (.bastore, 1) := dk_84 (dk_at dksX2_quits_1 9 rfl rfl)
theorem dX2_quits_34 : decode cX2_quits 34 = .ok (.aload_n 0, 1) := dk_42 (dk_at dksX2_quits_1 10 rfl rfl)
theorem dX2_quits_35 : decode cX2_quits 35 = .ok (.getfield 31, 3) := dk_180 0 31 (dk_at dksX2_quits_1 11 rfl rfl)
theorem dX2_quits_38 : decode cX2_quits 38 = .ok (.iload_n 1, 1) := dk_27 (dk_at dksX2_quits_1 14 rfl rfl)
theorem dX2_quits_39 : decode cX2_quits 39 = .ok (.iconst 0, 1) := dk_3 (dk_at dksX2_quits_1 15 rfl rfl)
theorem dX2_quits_40 : decode cX2_quits 40 = .ok (.iastore, 1) := dk_79 (dk_at dksX2_quits_1 16 rfl rfl)
theorem dX2_quits_41 : decode cX2_quits 41 = .ok (.return_, 1) := dk_177 (dk_at dksX2_quits_1 17 rfl rfl)
theorem q178 : (Jvm.Cond.initialized "HomesQueue$Register") ∈ lw_all := lw_g (lw_at lw_m1 5 rfl) rfl
theorem q246 : (Jvm.Cond.instantiable "HomesQueue$Register" (27 : Nat)) ∈ lw_all := lw_g (lw_at lw_m1 73 rfl) rfl
theorem q248 : (Jvm.Cond.instanceMethod ({ cls := "HomesQueue$Register", name := "<init>", desc := "(LHomesQueue;)V" } : Jvm.MethodName)) ∈ lw_all := lw_g (lw_at lw_m1 75 rfl) rfl
theorem q249 : (Jvm.Cond.code ({ cls := "HomesQueue$Register", name := "<init>", desc := "(LHomesQueue;)V" } : Jvm.MethodName) prog_10_method_1_code (3 : Nat) (Option.none : Option Jvm.ClassFile.FieldType)) ∈ lw_all := lw_g (lw_at lw_m1 76 rfl) rfl
theorem q250 : (Jvm.Cond.methodLink "HomesQueue$Register" (9 : Nat) ({ cls := "java/lang/Object", name := "<init>", desc := "()V" } : Jvm.MethodName)) ∈ lw_all := lw_g (lw_at lw_m1 77 rfl) rfl
theorem q251 : (Jvm.Cond.classLink "HomesQueue$Register" (62 : Nat) "java/util/ArrayList") ∈ lw_all := lw_g (lw_at lw_m1 78 rfl) rfl
theorem q252 : (Jvm.Cond.methodLink "HomesQueue$Register" (64 : Nat) ({ cls := "java/util/ArrayList", name := "<init>", desc := "(I)V" } : Jvm.MethodName)) ∈ lw_all := lw_g (lw_at lw_m1 79 rfl) rfl
theorem q253 : (Jvm.Cond.fieldLinkNest "HomesQueue$Register" (74 : Nat) "HomesQueue" "PLAIN" "[I" "HomesQueue") ∈ lw_tbl := lw_at lw_m1 80 rfl
theorem q255 : (Jvm.Cond.methodLink "HomesQueue$Register" (77 : Nat) ({ cls := "java/lang/System", name := "arraycopy", desc := "(Ljava/lang/Object;ILjava/lang/Object;II)V" } : Jvm.MethodName)) ∈ lw_all := lw_g (lw_at lw_m1 82 rfl) rfl
theorem q258 : (Jvm.Cond.classLink "HomesQueue$Register" (83 : Nat) "HomesQueue$Check") ∈ lw_all := lw_g (lw_at lw_m1 85 rfl) rfl
theorem q260 : (Jvm.Cond.privateMethod ({ cls := "HomesQueue$Register", name := "lambda$new$0", desc := "(I)Z" } : Jvm.MethodName)) ∈ lw_tbl := lw_at lw_m1 87 rfl
theorem q261 : (Jvm.Cond.instanceMethod ({ cls := "HomesQueue$Register", name := "lambda$new$0", desc := "(I)Z" } : Jvm.MethodName)) ∈ lw_all := lw_g (lw_at lw_m1 88 rfl) rfl
theorem q262 : (Jvm.Cond.code ({ cls := "HomesQueue$Register", name := "lambda$new$0", desc := "(I)Z" } : Jvm.MethodName) prog_10_method_49_code (2 : Nat) (Option.some Jvm.ClassFile.FieldType.boolean)) ∈ lw_all := lw_g (lw_at lw_m1 89 rfl) rfl
theorem q263 : (Jvm.Cond.privateMethod ({ cls := "HomesQueue$Register", name := "lambda$new$1", desc := "(I)Z" } : Jvm.MethodName)) ∈ lw_tbl := lw_at lw_m1 90 rfl
theorem q264 : (Jvm.Cond.instanceMethod ({ cls := "HomesQueue$Register", name := "lambda$new$1", desc := "(I)Z" } : Jvm.MethodName)) ∈ lw_all := lw_g (lw_at lw_m1 91 rfl) rfl
theorem q265 : (Jvm.Cond.code ({ cls := "HomesQueue$Register", name := "lambda$new$1", desc := "(I)Z" } : Jvm.MethodName) prog_10_method_48_code (2 : Nat) (Option.some Jvm.ClassFile.FieldType.boolean)) ∈ lw_all := lw_g (lw_at lw_m1 92 rfl) rfl
theorem q266 : (Jvm.Cond.privateMethod ({ cls := "HomesQueue$Register", name := "lambda$new$2", desc := "(I)Z" } : Jvm.MethodName)) ∈ lw_tbl := lw_at lw_m1 93 rfl
theorem q267 : (Jvm.Cond.instanceMethod ({ cls := "HomesQueue$Register", name := "lambda$new$2", desc := "(I)Z" } : Jvm.MethodName)) ∈ lw_all := lw_g (lw_at lw_m1 94 rfl) rfl
theorem q268 : (Jvm.Cond.code ({ cls := "HomesQueue$Register", name := "lambda$new$2", desc := "(I)Z" } : Jvm.MethodName) prog_10_method_47_code (2 : Nat) (Option.some Jvm.ClassFile.FieldType.boolean)) ∈ lw_all := lw_g (lw_at lw_m1 95 rfl) rfl
theorem q269 : (Jvm.Cond.methodLink "HomesQueue$Register" (328 : Nat) ({ cls := "HomesQueue$Register", name := "isFree", desc := "(I)Z" } : Jvm.MethodName)) ∈ lw_all := lw_g (lw_at lw_m1 96 rfl) rfl
theorem q270 : (Jvm.Cond.instanceMethod ({ cls := "HomesQueue$Register", name := "isFree", desc := "(I)Z" } : Jvm.MethodName)) ∈ lw_all := lw_g (lw_at lw_m1 97 rfl) rfl
theorem q271 : (Jvm.Cond.selects "HomesQueue$Register" ({ cls := "HomesQueue$Register", name := "isFree", desc := "(I)Z" } : Jvm.MethodName) ({ cls := "HomesQueue$Register", name := "isFree", desc := "(I)Z" } : Jvm.MethodName)) ∈ lw_all := lw_g (lw_at lw_m1 98 rfl) rfl
theorem q272 : (Jvm.Cond.code ({ cls := "HomesQueue$Register", name := "isFree", desc := "(I)Z" } : Jvm.MethodName) prog_10_method_5_code (2 : Nat) (Option.some Jvm.ClassFile.FieldType.boolean)) ∈ lw_all := lw_g (lw_at lw_m1 99 rfl) rfl
theorem q273 : (Jvm.Cond.methodLink "HomesQueue$Register" (153 : Nat) ({ cls := "HomesQueue$Register", name := "whoIn", desc := "(I)I" } : Jvm.MethodName)) ∈ lw_all := lw_g (lw_at lw_m1 100 rfl) rfl
theorem q274 : (Jvm.Cond.instanceMethod ({ cls := "HomesQueue$Register", name := "whoIn", desc := "(I)I" } : Jvm.MethodName)) ∈ lw_all := lw_g (lw_at lw_m1 101 rfl) rfl
theorem q275 : (Jvm.Cond.selects "HomesQueue$Register" ({ cls := "HomesQueue$Register", name := "whoIn", desc := "(I)I" } : Jvm.MethodName) ({ cls := "HomesQueue$Register", name := "whoIn", desc := "(I)I" } : Jvm.MethodName)) ∈ lw_all := lw_g (lw_at lw_m1 102 rfl) rfl
theorem q276 : (Jvm.Cond.code ({ cls := "HomesQueue$Register", name := "whoIn", desc := "(I)I" } : Jvm.MethodName) prog_10_method_4_code (3 : Nat) (Option.some Jvm.ClassFile.FieldType.int)) ∈ lw_all := lw_g (lw_at lw_m1 103 rfl) rfl
theorem q277 : (Jvm.Cond.methodLink "HomesQueue$Register" (149 : Nat) ({ cls := "java/util/ArrayList", name := "size", desc := "()I" } : Jvm.MethodName)) ∈ lw_all := lw_g (lw_at lw_m1 104 rfl) rfl
theorem q281 : (Jvm.Cond.privateMethod ({ cls := "HomesQueue$Register", name := "lambda$new$3", desc := "(I)Z" } : Jvm.MethodName)) ∈ lw_tbl := lw_at lw_m1 108 rfl
theorem q282 : (Jvm.Cond.instanceMethod ({ cls := "HomesQueue$Register", name := "lambda$new$3", desc := "(I)Z" } : Jvm.MethodName)) ∈ lw_all := lw_g (lw_at lw_m1 109 rfl) rfl
theorem q283 : (Jvm.Cond.code ({ cls := "HomesQueue$Register", name := "lambda$new$3", desc := "(I)Z" } : Jvm.MethodName) prog_10_method_46_code (2 : Nat) (Option.some Jvm.ClassFile.FieldType.boolean)) ∈ lw_all := lw_g (lw_at lw_m1 110 rfl) rfl
theorem q284 : (Jvm.Cond.methodLink "HomesQueue$Register" (187 : Nat) ({ cls := "HomesQueue$Register", name := "isFitting", desc := "(II)Z" } : Jvm.MethodName)) ∈ lw_all := lw_g (lw_at lw_m1 111 rfl) rfl
theorem q285 : (Jvm.Cond.instanceMethod ({ cls := "HomesQueue$Register", name := "isFitting", desc := "(II)Z" } : Jvm.MethodName)) ∈ lw_all := lw_g (lw_at lw_m1 112 rfl) rfl
theorem q286 : (Jvm.Cond.selects "HomesQueue$Register" ({ cls := "HomesQueue$Register", name := "isFitting", desc := "(II)Z" } : Jvm.MethodName) ({ cls := "HomesQueue$Register", name := "isFitting", desc := "(II)Z" } : Jvm.MethodName)) ∈ lw_all := lw_g (lw_at lw_m1 113 rfl) rfl
theorem q287 : (Jvm.Cond.code ({ cls := "HomesQueue$Register", name := "isFitting", desc := "(II)Z" } : Jvm.MethodName) prog_10_method_7_code (3 : Nat) (Option.some Jvm.ClassFile.FieldType.boolean)) ∈ lw_all := lw_g (lw_at lw_m1 114 rfl) rfl
theorem q288 : (Jvm.Cond.methodLinkNest "HomesQueue$Register" (157 : Nat) ({ cls := "HomesQueue", name := "homeAt", desc := "(I)LHomesQueue$Home;" } : Jvm.MethodName) "HomesQueue") ∈ lw_tbl := lw_at lw_m1 115 rfl
theorem q307 : (Jvm.Cond.methodLinkNest "HomesQueue$Register" (166 : Nat) ({ cls := "HomesQueue", name := "isIn", desc := "(JJJ)Z" } : Jvm.MethodName) "HomesQueue") ∈ lw_tbl := lw_at lw_m1 134 rfl
theorem q310 : (Jvm.Cond.privateMethod ({ cls := "HomesQueue$Register", name := "lambda$new$4", desc := "(I)Z" } : Jvm.MethodName)) ∈ lw_tbl := lw_at lw_m1 137 rfl
theorem q311 : (Jvm.Cond.instanceMethod ({ cls := "HomesQueue$Register", name := "lambda$new$4", desc := "(I)Z" } : Jvm.MethodName)) ∈ lw_all := lw_g (lw_at lw_m1 138 rfl) rfl
theorem q312 : (Jvm.Cond.code ({ cls := "HomesQueue$Register", name := "lambda$new$4", desc := "(I)Z" } : Jvm.MethodName) prog_10_method_45_code (2 : Nat) (Option.some Jvm.ClassFile.FieldType.boolean)) ∈ lw_all := lw_g (lw_at lw_m1 139 rfl) rfl
theorem q313 : (Jvm.Cond.methodLink "HomesQueue$Register" (271 : Nat) ({ cls := "HomesQueue$Register", name := "bidsFor", desc := "(II)Z" } : Jvm.MethodName)) ∈ lw_all := lw_g (lw_at lw_m1 140 rfl) rfl
theorem q314 : (Jvm.Cond.instanceMethod ({ cls := "HomesQueue$Register", name := "bidsFor", desc := "(II)Z" } : Jvm.MethodName)) ∈ lw_all := lw_g (lw_at lw_m1 141 rfl) rfl
theorem q315 : (Jvm.Cond.selects "HomesQueue$Register" ({ cls := "HomesQueue$Register", name := "bidsFor", desc := "(II)Z" } : Jvm.MethodName) ({ cls := "HomesQueue$Register", name := "bidsFor", desc := "(II)Z" } : Jvm.MethodName)) ∈ lw_all := lw_g (lw_at lw_m1 142 rfl) rfl
theorem q316 : (Jvm.Cond.code ({ cls := "HomesQueue$Register", name := "bidsFor", desc := "(II)Z" } : Jvm.MethodName) prog_10_method_8_code (3 : Nat) (Option.some Jvm.ClassFile.FieldType.boolean)) ∈ lw_all := lw_g (lw_at lw_m1 143 rfl) rfl
theorem q317 : (Jvm.Cond.privateMethod ({ cls := "HomesQueue$Register", name := "lambda$new$5", desc := "(I)Z" } : Jvm.MethodName)) ∈ lw_tbl := lw_at lw_m1 144 rfl
theorem q318 : (Jvm.Cond.instanceMethod ({ cls := "HomesQueue$Register", name := "lambda$new$5", desc := "(I)Z" } : Jvm.MethodName)) ∈ lw_all := lw_g (lw_at lw_m1 145 rfl) rfl
theorem q319 : (Jvm.Cond.code ({ cls := "HomesQueue$Register", name := "lambda$new$5", desc := "(I)Z" } : Jvm.MethodName) prog_10_method_44_code (2 : Nat) (Option.some Jvm.ClassFile.FieldType.boolean)) ∈ lw_all := lw_g (lw_at lw_m1 146 rfl) rfl
theorem q320 : (Jvm.Cond.methodLink "HomesQueue$Register" (299 : Nat) ({ cls := "HomesQueue$Register", name := "bidMany", desc := "(I)I" } : Jvm.MethodName)) ∈ lw_all := lw_g (lw_at lw_m1 147 rfl) rfl
theorem q321 : (Jvm.Cond.instanceMethod ({ cls := "HomesQueue$Register", name := "bidMany", desc := "(I)I" } : Jvm.MethodName)) ∈ lw_all := lw_g (lw_at lw_m1 148 rfl) rfl
theorem q322 : (Jvm.Cond.selects "HomesQueue$Register" ({ cls := "HomesQueue$Register", name := "bidMany", desc := "(I)I" } : Jvm.MethodName) ({ cls := "HomesQueue$Register", name := "bidMany", desc := "(I)I" } : Jvm.MethodName)) ∈ lw_all := lw_g (lw_at lw_m1 149 rfl) rfl
theorem q323 : (Jvm.Cond.code ({ cls := "HomesQueue$Register", name := "bidMany", desc := "(I)I" } : Jvm.MethodName) prog_10_method_9_code (2 : Nat) (Option.some Jvm.ClassFile.FieldType.int)) ∈ lw_all := lw_g (lw_at lw_m1 150 rfl) rfl
theorem q324 : (Jvm.Cond.methodLink "HomesQueue$Register" (170 : Nat) ({ cls := "java/lang/Integer", name := "bitCount", desc := "(I)I" } : Jvm.MethodName)) ∈ lw_all := lw_g (lw_at lw_m1 151 rfl) rfl
theorem q330 : (Jvm.Cond.classLink "HomesQueue$Register" (98 : Nat) "HomesQueue$Step") ∈ lw_all := lw_g (lw_at lw_m1 157 rfl) rfl
theorem q332 : (Jvm.Cond.privateMethod ({ cls := "HomesQueue$Register", name := "bandThought", desc := "(I)I" } : Jvm.MethodName)) ∈ lw_tbl := lw_at lw_m1 159 rfl
theorem q333 : (Jvm.Cond.instanceMethod ({ cls := "HomesQueue$Register", name := "bandThought", desc := "(I)I" } : Jvm.MethodName)) ∈ lw_all := lw_g (lw_at lw_m1 160 rfl) rfl
theorem q334 : (Jvm.Cond.code ({ cls := "HomesQueue$Register", name := "bandThought", desc := "(I)I" } : Jvm.MethodName) prog_10_method_16_code (2 : Nat) (Option.some Jvm.ClassFile.FieldType.int)) ∈ lw_all := lw_g (lw_at lw_m1 161 rfl) rfl
theorem q335 : (Jvm.Cond.methodLink "HomesQueue$Register" (202 : Nat) ({ cls := "HomesQueue$Register", name := "bandNow", desc := "(I)I" } : Jvm.MethodName)) ∈ lw_all := lw_g (lw_at lw_m1 162 rfl) rfl
theorem q336 : (Jvm.Cond.privateMethod ({ cls := "HomesQueue$Register", name := "bandNow", desc := "(I)I" } : Jvm.MethodName)) ∈ lw_tbl := lw_at lw_m1 163 rfl
theorem q337 : (Jvm.Cond.instanceMethod ({ cls := "HomesQueue$Register", name := "bandNow", desc := "(I)I" } : Jvm.MethodName)) ∈ lw_all := lw_g (lw_at lw_m1 164 rfl) rfl
theorem q338 : (Jvm.Cond.code ({ cls := "HomesQueue$Register", name := "bandNow", desc := "(I)I" } : Jvm.MethodName) prog_10_method_17_code (2 : Nat) (Option.some Jvm.ClassFile.FieldType.int)) ∈ lw_all := lw_g (lw_at lw_m1 165 rfl) rfl
theorem q339 : (Jvm.Cond.methodLinkNest "HomesQueue$Register" (193 : Nat) ({ cls := "HomesQueue", name := "houseAt", desc := "(I)LHomesQueue$House;" } : Jvm.MethodName) "HomesQueue") ∈ lw_tbl := lw_at lw_m1 166 rfl
theorem q344 : (Jvm.Cond.methodLink "HomesQueue$Register" (211 : Nat) ({ cls := "HomesQueue$House", name := "band", desc := "()I" } : Jvm.MethodName)) ∈ lw_all := lw_g (lw_at lw_m1 171 rfl) rfl
theorem q348 : (Jvm.Cond.methodLink "HomesQueue$Register" (214 : Nat) ({ cls := "HomesQueue$Register", name := "waited", desc := "(I)I" } : Jvm.MethodName)) ∈ lw_all := lw_g (lw_at lw_m1 175 rfl) rfl
theorem q349 : (Jvm.Cond.instanceMethod ({ cls := "HomesQueue$Register", name := "waited", desc := "(I)I" } : Jvm.MethodName)) ∈ lw_all := lw_g (lw_at lw_m1 176 rfl) rfl
theorem q350 : (Jvm.Cond.selects "HomesQueue$Register" ({ cls := "HomesQueue$Register", name := "waited", desc := "(I)I" } : Jvm.MethodName) ({ cls := "HomesQueue$Register", name := "waited", desc := "(I)I" } : Jvm.MethodName)) ∈ lw_all := lw_g (lw_at lw_m1 177 rfl) rfl
theorem q351 : (Jvm.Cond.code ({ cls := "HomesQueue$Register", name := "waited", desc := "(I)I" } : Jvm.MethodName) prog_10_method_18_code (2 : Nat) (Option.some Jvm.ClassFile.FieldType.int)) ∈ lw_all := lw_g (lw_at lw_m1 178 rfl) rfl
theorem q352 : (Jvm.Cond.methodLink "HomesQueue$Register" (197 : Nat) ({ cls := "HomesQueue$House", name := "day", desc := "()I" } : Jvm.MethodName)) ∈ lw_all := lw_g (lw_at lw_m1 179 rfl) rfl
theorem q356 : (Jvm.Cond.methodLink "HomesQueue$Register" (217 : Nat) ({ cls := "java/lang/Math", name := "max", desc := "(II)I" } : Jvm.MethodName)) ∈ lw_all := lw_g (lw_at lw_m1 183 rfl) rfl
theorem q359 : (Jvm.Cond.methodLinkNest "HomesQueue$Register" (104 : Nat) ({ cls := "HomesQueue", name := "rising", desc := "(LHomesQueue$Number;)LHomesQueue$Step;" } : Jvm.MethodName) "HomesQueue") ∈ lw_tbl := lw_at lw_m1 186 rfl
theorem q368 : (Jvm.Cond.privateMethod ({ cls := "HomesQueue$Register", name := "dayOf", desc := "(I)I" } : Jvm.MethodName)) ∈ lw_tbl := lw_at lw_m1 195 rfl
theorem q369 : (Jvm.Cond.instanceMethod ({ cls := "HomesQueue$Register", name := "dayOf", desc := "(I)I" } : Jvm.MethodName)) ∈ lw_all := lw_g (lw_at lw_m1 196 rfl) rfl
theorem q370 : (Jvm.Cond.code ({ cls := "HomesQueue$Register", name := "dayOf", desc := "(I)I" } : Jvm.MethodName) prog_10_method_15_code (2 : Nat) (Option.some Jvm.ClassFile.FieldType.int)) ∈ lw_all := lw_g (lw_at lw_m1 197 rfl) rfl
theorem q371 : (Jvm.Cond.privateMethod ({ cls := "HomesQueue$Register", name := "numberOf", desc := "(I)I" } : Jvm.MethodName)) ∈ lw_tbl := lw_at lw_m1 198 rfl
theorem q372 : (Jvm.Cond.instanceMethod ({ cls := "HomesQueue$Register", name := "numberOf", desc := "(I)I" } : Jvm.MethodName)) ∈ lw_all := lw_g (lw_at lw_m1 199 rfl) rfl
theorem q373 : (Jvm.Cond.code ({ cls := "HomesQueue$Register", name := "numberOf", desc := "(I)I" } : Jvm.MethodName) prog_10_method_14_code (2 : Nat) (Option.some Jvm.ClassFile.FieldType.int)) ∈ lw_all := lw_g (lw_at lw_m1 200 rfl) rfl
theorem q374 : (Jvm.Cond.methodLinkNest "HomesQueue$Register" (110 : Nat) ({ cls := "HomesQueue", name := "inTurn", desc := "([LHomesQueue$Step;)LHomesQueue$Step;" } : Jvm.MethodName) "HomesQueue") ∈ lw_tbl := lw_at lw_m1 201 rfl
theorem q383 : (Jvm.Cond.privateMethod ({ cls := "HomesQueue$Register", name := "isTied", desc := "(I)Z" } : Jvm.MethodName)) ∈ lw_tbl := lw_at lw_m1 210 rfl
theorem q384 : (Jvm.Cond.instanceMethod ({ cls := "HomesQueue$Register", name := "isTied", desc := "(I)Z" } : Jvm.MethodName)) ∈ lw_all := lw_g (lw_at lw_m1 211 rfl) rfl
theorem q385 : (Jvm.Cond.code ({ cls := "HomesQueue$Register", name := "isTied", desc := "(I)Z" } : Jvm.MethodName) prog_10_method_24_code (2 : Nat) (Option.some Jvm.ClassFile.FieldType.boolean)) ∈ lw_all := lw_g (lw_at lw_m1 212 rfl) rfl
theorem q386 : (Jvm.Cond.methodLink "HomesQueue$Register" (254 : Nat) ({ cls := "HomesQueue$Register", name := "isLocalTurn", desc := "(I)Z" } : Jvm.MethodName)) ∈ lw_all := lw_g (lw_at lw_m1 213 rfl) rfl
theorem q387 : (Jvm.Cond.instanceMethod ({ cls := "HomesQueue$Register", name := "isLocalTurn", desc := "(I)Z" } : Jvm.MethodName)) ∈ lw_all := lw_g (lw_at lw_m1 214 rfl) rfl
theorem q388 : (Jvm.Cond.selects "HomesQueue$Register" ({ cls := "HomesQueue$Register", name := "isLocalTurn", desc := "(I)Z" } : Jvm.MethodName) ({ cls := "HomesQueue$Register", name := "isLocalTurn", desc := "(I)Z" } : Jvm.MethodName)) ∈ lw_all := lw_g (lw_at lw_m1 215 rfl) rfl
theorem q389 : (Jvm.Cond.code ({ cls := "HomesQueue$Register", name := "isLocalTurn", desc := "(I)Z" } : Jvm.MethodName) prog_10_method_20_code (2 : Nat) (Option.some Jvm.ClassFile.FieldType.boolean)) ∈ lw_all := lw_g (lw_at lw_m1 216 rfl) rfl
theorem q390 : (Jvm.Cond.methodLink "HomesQueue$Register" (238 : Nat) ({ cls := "HomesQueue$Register", name := "letsIn", desc := "(I)I" } : Jvm.MethodName)) ∈ lw_all := lw_g (lw_at lw_m1 217 rfl) rfl
theorem q391 : (Jvm.Cond.instanceMethod ({ cls := "HomesQueue$Register", name := "letsIn", desc := "(I)I" } : Jvm.MethodName)) ∈ lw_all := lw_g (lw_at lw_m1 218 rfl) rfl
theorem q392 : (Jvm.Cond.selects "HomesQueue$Register" ({ cls := "HomesQueue$Register", name := "letsIn", desc := "(I)I" } : Jvm.MethodName) ({ cls := "HomesQueue$Register", name := "letsIn", desc := "(I)I" } : Jvm.MethodName)) ∈ lw_all := lw_g (lw_at lw_m1 219 rfl) rfl
theorem q393 : (Jvm.Cond.code ({ cls := "HomesQueue$Register", name := "letsIn", desc := "(I)I" } : Jvm.MethodName) prog_10_method_19_code (4 : Nat) (Option.some Jvm.ClassFile.FieldType.int)) ∈ lw_all := lw_g (lw_at lw_m1 220 rfl) rfl
theorem q394 : (Jvm.Cond.methodLink "HomesQueue$Register" (222 : Nat) ({ cls := "java/util/ArrayList", name := "get", desc := "(I)Ljava/lang/Object;" } : Jvm.MethodName)) ∈ lw_all := lw_g (lw_at lw_m1 221 rfl) rfl
theorem q395 : (Jvm.Cond.classLink "HomesQueue$Register" (226 : Nat) "HomesQueue$Let") ∈ lw_all := lw_g (lw_at lw_m1 222 rfl) rfl
theorem q396 : (Jvm.Cond.methodLinkNest "HomesQueue$Register" (234 : Nat) ({ cls := "HomesQueue", name := "one", desc := "(Z)I" } : Jvm.MethodName) "HomesQueue") ∈ lw_tbl := lw_at lw_m1 223 rfl
theorem q399 : (Jvm.Cond.methodLink "HomesQueue$Register" (257 : Nat) ({ cls := "HomesQueue$Register", name := "hasTie", desc := "(II)Z" } : Jvm.MethodName)) ∈ lw_all := lw_g (lw_at lw_m1 226 rfl) rfl
theorem q400 : (Jvm.Cond.instanceMethod ({ cls := "HomesQueue$Register", name := "hasTie", desc := "(II)Z" } : Jvm.MethodName)) ∈ lw_all := lw_g (lw_at lw_m1 227 rfl) rfl
theorem q401 : (Jvm.Cond.selects "HomesQueue$Register" ({ cls := "HomesQueue$Register", name := "hasTie", desc := "(II)Z" } : Jvm.MethodName) ({ cls := "HomesQueue$Register", name := "hasTie", desc := "(II)Z" } : Jvm.MethodName)) ∈ lw_all := lw_g (lw_at lw_m1 228 rfl) rfl
theorem q402 : (Jvm.Cond.code ({ cls := "HomesQueue$Register", name := "hasTie", desc := "(II)Z" } : Jvm.MethodName) prog_10_method_23_code (3 : Nat) (Option.some Jvm.ClassFile.FieldType.boolean)) ∈ lw_all := lw_g (lw_at lw_m1 229 rfl) rfl
theorem q403 : (Jvm.Cond.methodLink "HomesQueue$Register" (248 : Nat) ({ cls := "HomesQueue$House", name := "tie", desc := "()I" } : Jvm.MethodName)) ∈ lw_all := lw_g (lw_at lw_m1 230 rfl) rfl
theorem q407 : (Jvm.Cond.methodLinkNest "HomesQueue$Register" (119 : Nat) ({ cls := "HomesQueue", name := "sooner", desc := "(LHomesQueue$Check;)LHomesQueue$Step;" } : Jvm.MethodName) "HomesQueue") ∈ lw_tbl := lw_at lw_m1 234 rfl
theorem q417 : (Jvm.Cond.privateMethod ({ cls := "HomesQueue$Register", name := "isMoving", desc := "(I)Z" } : Jvm.MethodName)) ∈ lw_tbl := lw_at lw_m2 4 rfl
theorem q418 : (Jvm.Cond.instanceMethod ({ cls := "HomesQueue$Register", name := "isMoving", desc := "(I)Z" } : Jvm.MethodName)) ∈ lw_all := lw_g (lw_at lw_m2 5 rfl) rfl
theorem q419 : (Jvm.Cond.code ({ cls := "HomesQueue$Register", name := "isMoving", desc := "(I)Z" } : Jvm.MethodName) prog_10_method_25_code (2 : Nat) (Option.some Jvm.ClassFile.FieldType.boolean)) ∈ lw_all := lw_g (lw_at lw_m2 6 rfl) rfl
theorem q420 : (Jvm.Cond.methodLink "HomesQueue$Register" (260 : Nat) ({ cls := "HomesQueue$Register", name := "isQuotaTurn", desc := "()Z" } : Jvm.MethodName)) ∈ lw_all := lw_g (lw_at lw_m2 7 rfl) rfl
theorem q421 : (Jvm.Cond.instanceMethod ({ cls := "HomesQueue$Register", name := "isQuotaTurn", desc := "()Z" } : Jvm.MethodName)) ∈ lw_all := lw_g (lw_at lw_m2 8 rfl) rfl
theorem q422 : (Jvm.Cond.selects "HomesQueue$Register" ({ cls := "HomesQueue$Register", name := "isQuotaTurn", desc := "()Z" } : Jvm.MethodName) ({ cls := "HomesQueue$Register", name := "isQuotaTurn", desc := "()Z" } : Jvm.MethodName)) ∈ lw_all := lw_g (lw_at lw_m2 9 rfl) rfl
theorem q423 : (Jvm.Cond.code ({ cls := "HomesQueue$Register", name := "isQuotaTurn", desc := "()Z" } : Jvm.MethodName) prog_10_method_22_code (1 : Nat) (Option.some Jvm.ClassFile.FieldType.boolean)) ∈ lw_all := lw_g (lw_at lw_m2 10 rfl) rfl
theorem q424 : (Jvm.Cond.methodLink "HomesQueue$Register" (245 : Nat) ({ cls := "HomesQueue$Register", name := "movedMany", desc := "()I" } : Jvm.MethodName)) ∈ lw_all := lw_g (lw_at lw_m2 11 rfl) rfl
theorem q425 : (Jvm.Cond.instanceMethod ({ cls := "HomesQueue$Register", name := "movedMany", desc := "()I" } : Jvm.MethodName)) ∈ lw_all := lw_g (lw_at lw_m2 12 rfl) rfl
theorem q426 : (Jvm.Cond.selects "HomesQueue$Register" ({ cls := "HomesQueue$Register", name := "movedMany", desc := "()I" } : Jvm.MethodName) ({ cls := "HomesQueue$Register", name := "movedMany", desc := "()I" } : Jvm.MethodName)) ∈ lw_all := lw_g (lw_at lw_m2 13 rfl) rfl
theorem q427 : (Jvm.Cond.code ({ cls := "HomesQueue$Register", name := "movedMany", desc := "()I" } : Jvm.MethodName) prog_10_method_21_code (3 : Nat) (Option.some Jvm.ClassFile.FieldType.int)) ∈ lw_all := lw_g (lw_at lw_m2 14 rfl) rfl
theorem q428 : (Jvm.Cond.fieldLink "HomesQueue$Register" (15 : Nat) "HomesQueue$Register" "rules" "[I") ∈ lw_all := lw_g (lw_at lw_m2 15 rfl) rfl
theorem q431 : (Jvm.Cond.fieldLink "HomesQueue$Register" (19 : Nat) "HomesQueue$Register" "livesIn" "[I") ∈ lw_all := lw_g (lw_at lw_m2 18 rfl) rfl
theorem q436 : (Jvm.Cond.fieldLink "HomesQueue$Register" (22 : Nat) "HomesQueue$Register" "refusals" "[I") ∈ lw_all := lw_g (lw_at lw_m2 23 rfl) rfl
theorem q438 : (Jvm.Cond.fieldLink "HomesQueue$Register" (25 : Nat) "HomesQueue$Register" "barred" "[I") ∈ lw_all := lw_g (lw_at lw_m2 25 rfl) rfl
theorem q440 : (Jvm.Cond.fieldLink "HomesQueue$Register" (28 : Nat) "HomesQueue$Register" "passed" "[I") ∈ lw_all := lw_g (lw_at lw_m2 27 rfl) rfl
theorem q442 : (Jvm.Cond.fieldLink "HomesQueue$Register" (31 : Nat) "HomesQueue$Register" "bidSet" "[I") ∈ lw_all := lw_g (lw_at lw_m2 29 rfl) rfl
theorem q444 : (Jvm.Cond.fieldLink "HomesQueue$Register" (34 : Nat) "HomesQueue$Register" "wishMany" "[I") ∈ lw_all := lw_g (lw_at lw_m2 31 rfl) rfl
theorem q448 : (Jvm.Cond.fieldLink "HomesQueue$Register" (37 : Nat) "HomesQueue$Register" "wishes" "[I") ∈ lw_all := lw_g (lw_at lw_m2 35 rfl) rfl
theorem q451 : (Jvm.Cond.fieldLink "HomesQueue$Register" (40 : Nat) "HomesQueue$Register" "freeFrom" "[I") ∈ lw_all := lw_g (lw_at lw_m2 38 rfl) rfl
theorem q452 : (Jvm.Cond.fieldLink "HomesQueue$Register" (43 : Nat) "HomesQueue$Register" "freedBy" "[I") ∈ lw_all := lw_g (lw_at lw_m2 39 rfl) rfl
theorem q453 : (Jvm.Cond.fieldLink "HomesQueue$Register" (46 : Nat) "HomesQueue$Register" "needs" "[I") ∈ lw_all := lw_g (lw_at lw_m2 40 rfl) rfl
theorem q456 : (Jvm.Cond.fieldLink "HomesQueue$Register" (49 : Nat) "HomesQueue$Register" "idle" "[I") ∈ lw_all := lw_g (lw_at lw_m2 43 rfl) rfl
theorem q458 : (Jvm.Cond.fieldLink "HomesQueue$Register" (52 : Nat) "HomesQueue$Register" "isShut" "[Z") ∈ lw_all := lw_g (lw_at lw_m2 45 rfl) rfl
theorem q460 : (Jvm.Cond.fieldLink "HomesQueue$Register" (56 : Nat) "HomesQueue$Register" "isOut" "[Z") ∈ lw_all := lw_g (lw_at lw_m2 47 rfl) rfl
theorem q462 : (Jvm.Cond.fieldLink "HomesQueue$Register" (59 : Nat) "HomesQueue$Register" "isNew" "[Z") ∈ lw_all := lw_g (lw_at lw_m2 49 rfl) rfl
theorem q463 : (Jvm.Cond.fieldLink "HomesQueue$Register" (67 : Nat) "HomesQueue$Register" "lets" "Ljava/util/ArrayList;") ∈ lw_all := lw_g (lw_at lw_m2 50 rfl) rfl
theorem q465 : (Jvm.Cond.fieldLink "HomesQueue$Register" (71 : Nat) "HomesQueue$Register" "offers" "Ljava/util/ArrayList;") ∈ lw_all := lw_g (lw_at lw_m2 52 rfl) rfl
theorem q467 : (Jvm.Cond.fieldLink "HomesQueue$Register" (138 : Nat) "HomesQueue$Register" "week" "I") ∈ lw_all := lw_g (lw_at lw_m2 54 rfl) rfl
theorem q469 : (Jvm.Cond.fieldLink "HomesQueue$Register" (142 : Nat) "HomesQueue$Register" "refused" "I") ∈ lw_all := lw_g (lw_at lw_m2 56 rfl) rfl
theorem q471 : (Jvm.Cond.fieldLink "HomesQueue$Register" (251 : Nat) "HomesQueue$Register" "asked" "I") ∈ lw_all := lw_g (lw_at lw_m2 58 rfl) rfl
theorem q472 : (Jvm.Cond.fieldLink "HomesQueue$Register" (205 : Nat) "HomesQueue$Register" "lessFor" "I") ∈ lw_all := lw_g (lw_at lw_m2 59 rfl) rfl
theorem q473 : (Jvm.Cond.fieldLink "HomesQueue$Register" (208 : Nat) "HomesQueue$Register" "lessBy" "I") ∈ lw_all := lw_g (lw_at lw_m2 60 rfl) rfl
theorem q474 : (Jvm.Cond.fieldLink "HomesQueue$Register" (124 : Nat) "HomesQueue$Register" "order" "LHomesQueue$Step;") ∈ lw_all := lw_g (lw_at lw_m2 61 rfl) rfl
theorem q475 : (Jvm.Cond.fieldLink "HomesQueue$Register" (114 : Nat) "HomesQueue$Register" "plain" "LHomesQueue$Step;") ∈ lw_all := lw_g (lw_at lw_m2 62 rfl) rfl
theorem q477 : (Jvm.Cond.fieldLink "HomesQueue$Register" (94 : Nat) "HomesQueue$Register" "checks" "[LHomesQueue$Check;") ∈ lw_all := lw_g (lw_at lw_m2 64 rfl) rfl
theorem q478 : (Jvm.Cond.fieldLink "HomesQueue$Register" (281 : Nat) "HomesQueue$Register" "asking" "I") ∈ lw_all := lw_g (lw_at lw_m2 65 rfl) rfl
theorem q479 : (Jvm.Cond.fieldLink "HomesQueue$Register" (3 : Nat) "HomesQueue$Register" "this$0" "LHomesQueue;") ∈ lw_all := lw_g (lw_at lw_m2 66 rfl) rfl
theorem q480 : (Jvm.Cond.laysFinal "HomesQueue$Register" "HomesQueue$Register" "rules" "[I") ∈ lw_all := lw_g (lw_at lw_m2 67 rfl) rfl
theorem q481 : (Jvm.Cond.soleField "HomesQueue$Register" "rules") ∈ lw_all := lw_g (lw_at lw_m2 68 rfl) rfl
theorem q482 : (Jvm.Cond.laysFinal "HomesQueue$Register" "HomesQueue$Register" "livesIn" "[I") ∈ lw_all := lw_g (lw_at lw_m2 69 rfl) rfl
theorem q483 : (Jvm.Cond.soleField "HomesQueue$Register" "livesIn") ∈ lw_all := lw_g (lw_at lw_m2 70 rfl) rfl
theorem q484 : (Jvm.Cond.laysFinal "HomesQueue$Register" "HomesQueue$Register" "refusals" "[I") ∈ lw_all := lw_g (lw_at lw_m2 71 rfl) rfl
theorem q485 : (Jvm.Cond.soleField "HomesQueue$Register" "refusals") ∈ lw_all := lw_g (lw_at lw_m2 72 rfl) rfl
theorem q486 : (Jvm.Cond.laysFinal "HomesQueue$Register" "HomesQueue$Register" "barred" "[I") ∈ lw_all := lw_g (lw_at lw_m2 73 rfl) rfl
theorem q487 : (Jvm.Cond.soleField "HomesQueue$Register" "barred") ∈ lw_all := lw_g (lw_at lw_m2 74 rfl) rfl
theorem q488 : (Jvm.Cond.laysFinal "HomesQueue$Register" "HomesQueue$Register" "passed" "[I") ∈ lw_all := lw_g (lw_at lw_m2 75 rfl) rfl
theorem q489 : (Jvm.Cond.soleField "HomesQueue$Register" "passed") ∈ lw_all := lw_g (lw_at lw_m2 76 rfl) rfl
theorem q490 : (Jvm.Cond.laysFinal "HomesQueue$Register" "HomesQueue$Register" "bidSet" "[I") ∈ lw_all := lw_g (lw_at lw_m2 77 rfl) rfl
theorem q491 : (Jvm.Cond.soleField "HomesQueue$Register" "bidSet") ∈ lw_all := lw_g (lw_at lw_m2 78 rfl) rfl
theorem q492 : (Jvm.Cond.laysFinal "HomesQueue$Register" "HomesQueue$Register" "wishMany" "[I") ∈ lw_all := lw_g (lw_at lw_m2 79 rfl) rfl
theorem q493 : (Jvm.Cond.soleField "HomesQueue$Register" "wishMany") ∈ lw_all := lw_g (lw_at lw_m2 80 rfl) rfl
theorem q494 : (Jvm.Cond.laysFinal "HomesQueue$Register" "HomesQueue$Register" "wishes" "[I") ∈ lw_all := lw_g (lw_at lw_m2 81 rfl) rfl
theorem q495 : (Jvm.Cond.soleField "HomesQueue$Register" "wishes") ∈ lw_all := lw_g (lw_at lw_m2 82 rfl) rfl
theorem q496 : (Jvm.Cond.laysFinal "HomesQueue$Register" "HomesQueue$Register" "freeFrom" "[I") ∈ lw_all := lw_g (lw_at lw_m2 83 rfl) rfl
theorem q497 : (Jvm.Cond.soleField "HomesQueue$Register" "freeFrom") ∈ lw_all := lw_g (lw_at lw_m2 84 rfl) rfl
theorem q498 : (Jvm.Cond.laysFinal "HomesQueue$Register" "HomesQueue$Register" "freedBy" "[I") ∈ lw_all := lw_g (lw_at lw_m2 85 rfl) rfl
theorem q499 : (Jvm.Cond.soleField "HomesQueue$Register" "freedBy") ∈ lw_all := lw_g (lw_at lw_m2 86 rfl) rfl
theorem q500 : (Jvm.Cond.laysFinal "HomesQueue$Register" "HomesQueue$Register" "needs" "[I") ∈ lw_all := lw_g (lw_at lw_m2 87 rfl) rfl
theorem q501 : (Jvm.Cond.soleField "HomesQueue$Register" "needs") ∈ lw_all := lw_g (lw_at lw_m2 88 rfl) rfl
theorem q502 : (Jvm.Cond.laysFinal "HomesQueue$Register" "HomesQueue$Register" "idle" "[I") ∈ lw_all := lw_g (lw_at lw_m2 89 rfl) rfl
theorem q503 : (Jvm.Cond.soleField "HomesQueue$Register" "idle") ∈ lw_all := lw_g (lw_at lw_m2 90 rfl) rfl
theorem q504 : (Jvm.Cond.laysFinal "HomesQueue$Register" "HomesQueue$Register" "isShut" "[Z") ∈ lw_all := lw_g (lw_at lw_m2 91 rfl) rfl
theorem q505 : (Jvm.Cond.soleField "HomesQueue$Register" "isShut") ∈ lw_all := lw_g (lw_at lw_m2 92 rfl) rfl
theorem q506 : (Jvm.Cond.laysFinal "HomesQueue$Register" "HomesQueue$Register" "isOut" "[Z") ∈ lw_all := lw_g (lw_at lw_m2 93 rfl) rfl
theorem q507 : (Jvm.Cond.soleField "HomesQueue$Register" "isOut") ∈ lw_all := lw_g (lw_at lw_m2 94 rfl) rfl
theorem q508 : (Jvm.Cond.laysFinal "HomesQueue$Register" "HomesQueue$Register" "isNew" "[Z") ∈ lw_all := lw_g (lw_at lw_m2 95 rfl) rfl
theorem q509 : (Jvm.Cond.soleField "HomesQueue$Register" "isNew") ∈ lw_all := lw_g (lw_at lw_m2 96 rfl) rfl
theorem q510 : (Jvm.Cond.laysFinal "HomesQueue$Register" "HomesQueue$Register" "lets" "Ljava/util/ArrayList;") ∈ lw_all := lw_g (lw_at lw_m2 97 rfl) rfl
theorem q511 : (Jvm.Cond.soleField "HomesQueue$Register" "lets") ∈ lw_all := lw_g (lw_at lw_m2 98 rfl) rfl
theorem q512 : (Jvm.Cond.laysFinal "HomesQueue$Register" "HomesQueue$Register" "offers" "Ljava/util/ArrayList;") ∈ lw_all := lw_g (lw_at lw_m2 99 rfl) rfl
theorem q513 : (Jvm.Cond.soleField "HomesQueue$Register" "offers") ∈ lw_all := lw_g (lw_at lw_m2 100 rfl) rfl
theorem q514 : (Jvm.Cond.lays "HomesQueue$Register" "HomesQueue$Register" "week" "I") ∈ lw_all := lw_g (lw_at lw_m2 101 rfl) rfl
theorem q515 : (Jvm.Cond.soleField "HomesQueue$Register" "week") ∈ lw_all := lw_g (lw_at lw_m2 102 rfl) rfl
theorem q516 : (Jvm.Cond.lays "HomesQueue$Register" "HomesQueue$Register" "refused" "I") ∈ lw_all := lw_g (lw_at lw_m2 103 rfl) rfl
theorem q517 : (Jvm.Cond.soleField "HomesQueue$Register" "refused") ∈ lw_all := lw_g (lw_at lw_m2 104 rfl) rfl
theorem q518 : (Jvm.Cond.lays "HomesQueue$Register" "HomesQueue$Register" "asked" "I") ∈ lw_all := lw_g (lw_at lw_m2 105 rfl) rfl
theorem q519 : (Jvm.Cond.soleField "HomesQueue$Register" "asked") ∈ lw_all := lw_g (lw_at lw_m2 106 rfl) rfl
theorem q520 : (Jvm.Cond.lays "HomesQueue$Register" "HomesQueue$Register" "lessFor" "I") ∈ lw_all := lw_g (lw_at lw_m2 107 rfl) rfl
theorem q521 : (Jvm.Cond.soleField "HomesQueue$Register" "lessFor") ∈ lw_all := lw_g (lw_at lw_m2 108 rfl) rfl
theorem q522 : (Jvm.Cond.lays "HomesQueue$Register" "HomesQueue$Register" "lessBy" "I") ∈ lw_all := lw_g (lw_at lw_m2 109 rfl) rfl
theorem q523 : (Jvm.Cond.soleField "HomesQueue$Register" "lessBy") ∈ lw_all := lw_g (lw_at lw_m2 110 rfl) rfl
theorem q524 : (Jvm.Cond.laysFinal "HomesQueue$Register" "HomesQueue$Register" "order" "LHomesQueue$Step;") ∈ lw_all := lw_g (lw_at lw_m2 111 rfl) rfl
theorem q525 : (Jvm.Cond.soleField "HomesQueue$Register" "order") ∈ lw_all := lw_g (lw_at lw_m2 112 rfl) rfl
theorem q526 : (Jvm.Cond.laysFinal "HomesQueue$Register" "HomesQueue$Register" "plain" "LHomesQueue$Step;") ∈ lw_all := lw_g (lw_at lw_m2 113 rfl) rfl
theorem q527 : (Jvm.Cond.soleField "HomesQueue$Register" "plain") ∈ lw_all := lw_g (lw_at lw_m2 114 rfl) rfl
theorem q528 : (Jvm.Cond.laysFinal "HomesQueue$Register" "HomesQueue$Register" "checks" "[LHomesQueue$Check;") ∈ lw_all := lw_g (lw_at lw_m2 115 rfl) rfl
theorem q529 : (Jvm.Cond.soleField "HomesQueue$Register" "checks") ∈ lw_all := lw_g (lw_at lw_m2 116 rfl) rfl
theorem q530 : (Jvm.Cond.lays "HomesQueue$Register" "HomesQueue$Register" "asking" "I") ∈ lw_all := lw_g (lw_at lw_m2 117 rfl) rfl
theorem q531 : (Jvm.Cond.soleField "HomesQueue$Register" "asking") ∈ lw_all := lw_g (lw_at lw_m2 118 rfl) rfl
theorem q532 : (Jvm.Cond.laysFinal "HomesQueue$Register" "HomesQueue$Register" "this$0" "LHomesQueue;") ∈ lw_all := lw_g (lw_at lw_m2 119 rfl) rfl
theorem q533 : (Jvm.Cond.soleField "HomesQueue$Register" "this$0") ∈ lw_all := lw_g (lw_at lw_m2 120 rfl) rfl
theorem q534 : (Jvm.Cond.superclass "HomesQueue$Register" "java/lang/Object") ∈ lw_all := lw_g (lw_at lw_m2 121 rfl) rfl
theorem q585 : (Jvm.Cond.fieldLinkNest "HomesQueue$Register" (289 : Nat) "HomesQueue" "homes" "Ljava/util/ArrayList;" "HomesQueue") ∈ lw_tbl := lw_at lw_m2 172 rfl
theorem q589 : (Jvm.Cond.fieldLinkNest "HomesQueue$Register" (146 : Nat) "HomesQueue" "houses" "Ljava/util/ArrayList;" "HomesQueue") ∈ lw_tbl := lw_at lw_m2 176 rfl
theorem q1066 : (Jvm.Cond.fieldLinkNest "HomesQueue$Register" (161 : Nat) "HomesQueue$Home" "rooms" "I" "HomesQueue") ∈ lw_tbl := lw_at lw_m4 173 rfl
theorem q1069 : (Jvm.Cond.fieldLinkNest "HomesQueue$Register" (231 : Nat) "HomesQueue$Home" "ward" "I" "HomesQueue") ∈ lw_tbl := lw_at lw_m4 176 rfl
theorem q1110 : (Jvm.Cond.selects "HomesQueue$Register" ({ cls := "java/lang/Object", name := "getClass", desc := "()Ljava/lang/Class;" } : Jvm.MethodName) ({ cls := "java/lang/Object", name := "getClass", desc := "()Ljava/lang/Class;" } : Jvm.MethodName)) ∈ lw_all := lw_g (lw_at lw_m4 217 rfl) rfl
theorem q1137 : (Jvm.Cond.instanceMethod ({ cls := "HomesQueue$Register", name := "isWish", desc := "(II)Z" } : Jvm.MethodName)) ∈ lw_all := lw_g (lw_at lw_m5 4 rfl) rfl
theorem q1138 : (Jvm.Cond.selects "HomesQueue$Register" ({ cls := "HomesQueue$Register", name := "isWish", desc := "(II)Z" } : Jvm.MethodName) ({ cls := "HomesQueue$Register", name := "isWish", desc := "(II)Z" } : Jvm.MethodName)) ∈ lw_all := lw_g (lw_at lw_m5 5 rfl) rfl
theorem q1139 : (Jvm.Cond.code ({ cls := "HomesQueue$Register", name := "isWish", desc := "(II)Z" } : Jvm.MethodName) prog_10_method_11_code (4 : Nat) (Option.some Jvm.ClassFile.FieldType.boolean)) ∈ lw_all := lw_g (lw_at lw_m5 6 rfl) rfl
theorem q1140 : (Jvm.Cond.methodLink "HomesQueue$Register" (175 : Nat) ({ cls := "HomesQueue$Register", name := "wishAt", desc := "(II)I" } : Jvm.MethodName)) ∈ lw_all := lw_g (lw_at lw_m5 7 rfl) rfl
theorem q1141 : (Jvm.Cond.instanceMethod ({ cls := "HomesQueue$Register", name := "wishAt", desc := "(II)I" } : Jvm.MethodName)) ∈ lw_all := lw_g (lw_at lw_m5 8 rfl) rfl
theorem q1142 : (Jvm.Cond.selects "HomesQueue$Register" ({ cls := "HomesQueue$Register", name := "wishAt", desc := "(II)I" } : Jvm.MethodName) ({ cls := "HomesQueue$Register", name := "wishAt", desc := "(II)I" } : Jvm.MethodName)) ∈ lw_all := lw_g (lw_at lw_m5 9 rfl) rfl
theorem q1143 : (Jvm.Cond.code ({ cls := "HomesQueue$Register", name := "wishAt", desc := "(II)I" } : Jvm.MethodName) prog_10_method_10_code (3 : Nat) (Option.some Jvm.ClassFile.FieldType.int)) ∈ lw_all := lw_g (lw_at lw_m5 10 rfl) rfl
theorem q1262 : (Jvm.Cond.instanceMethod ({ cls := "HomesQueue$Register", name := "whyNot", desc := "(II)I" } : Jvm.MethodName)) ∈ lw_all := lw_g (lw_at lw_m5 129 rfl) rfl
theorem q1263 : (Jvm.Cond.selects "HomesQueue$Register" ({ cls := "HomesQueue$Register", name := "whyNot", desc := "(II)I" } : Jvm.MethodName) ({ cls := "HomesQueue$Register", name := "whyNot", desc := "(II)I" } : Jvm.MethodName)) ∈ lw_all := lw_g (lw_at lw_m5 130 rfl) rfl
theorem q1264 : (Jvm.Cond.code ({ cls := "HomesQueue$Register", name := "whyNot", desc := "(II)I" } : Jvm.MethodName) prog_10_method_30_code (4 : Nat) (Option.some Jvm.ClassFile.FieldType.int)) ∈ lw_all := lw_g (lw_at lw_m5 131 rfl) rfl
theorem q1265 : (Jvm.Cond.interfaceEntry "HomesQueue$Register" (284 : Nat)) ∈ lw_tbl := lw_at lw_m5 132 rfl
theorem q1266 : (Jvm.Cond.methodLink "HomesQueue$Register" (284 : Nat) ({ cls := "HomesQueue$Check", name := "is", desc := "(I)Z" } : Jvm.MethodName)) ∈ lw_all := lw_g (lw_at lw_m5 133 rfl) rfl
theorem q1279 : (Jvm.Cond.instanceMethod ({ cls := "HomesQueue$Register", name := "firstFor", desc := "(ILHomesQueue$Check;)I" } : Jvm.MethodName)) ∈ lw_all := lw_g (lw_at lw_m5 146 rfl) rfl
theorem q1280 : (Jvm.Cond.selects "HomesQueue$Register" ({ cls := "HomesQueue$Register", name := "firstFor", desc := "(ILHomesQueue$Check;)I" } : Jvm.MethodName) ({ cls := "HomesQueue$Register", name := "firstFor", desc := "(ILHomesQueue$Check;)I" } : Jvm.MethodName)) ∈ lw_all := lw_g (lw_at lw_m5 147 rfl) rfl
theorem q1281 : (Jvm.Cond.code ({ cls := "HomesQueue$Register", name := "firstFor", desc := "(ILHomesQueue$Check;)I" } : Jvm.MethodName) prog_10_method_29_code (3 : Nat) (Option.some Jvm.ClassFile.FieldType.int)) ∈ lw_all := lw_g (lw_at lw_m5 148 rfl) rfl
theorem q1282 : (Jvm.Cond.privateMethod ({ cls := "HomesQueue$Register", name := "lambda$firstFor$6", desc := "(III)I" } : Jvm.MethodName)) ∈ lw_tbl := lw_at lw_m5 149 rfl
theorem q1283 : (Jvm.Cond.instanceMethod ({ cls := "HomesQueue$Register", name := "lambda$firstFor$6", desc := "(III)I" } : Jvm.MethodName)) ∈ lw_all := lw_g (lw_at lw_m5 150 rfl) rfl
theorem q1284 : (Jvm.Cond.code ({ cls := "HomesQueue$Register", name := "lambda$firstFor$6", desc := "(III)I" } : Jvm.MethodName) prog_10_method_43_code (4 : Nat) (Option.some Jvm.ClassFile.FieldType.int)) ∈ lw_all := lw_g (lw_at lw_m5 151 rfl) rfl
theorem q1285 : (Jvm.Cond.methodLink "HomesQueue$Register" (267 : Nat) ({ cls := "HomesQueue$Register", name := "compare", desc := "(III)I" } : Jvm.MethodName)) ∈ lw_all := lw_g (lw_at lw_m5 152 rfl) rfl
theorem q1286 : (Jvm.Cond.instanceMethod ({ cls := "HomesQueue$Register", name := "compare", desc := "(III)I" } : Jvm.MethodName)) ∈ lw_all := lw_g (lw_at lw_m5 153 rfl) rfl
theorem q1287 : (Jvm.Cond.selects "HomesQueue$Register" ({ cls := "HomesQueue$Register", name := "compare", desc := "(III)I" } : Jvm.MethodName) ({ cls := "HomesQueue$Register", name := "compare", desc := "(III)I" } : Jvm.MethodName)) ∈ lw_all := lw_g (lw_at lw_m5 154 rfl) rfl
theorem q1288 : (Jvm.Cond.code ({ cls := "HomesQueue$Register", name := "compare", desc := "(III)I" } : Jvm.MethodName) prog_10_method_26_code (4 : Nat) (Option.some Jvm.ClassFile.FieldType.int)) ∈ lw_all := lw_g (lw_at lw_m5 155 rfl) rfl
theorem q1289 : (Jvm.Cond.interfaceEntry "HomesQueue$Register" (264 : Nat)) ∈ lw_tbl := lw_at lw_m5 156 rfl
theorem q1290 : (Jvm.Cond.methodLink "HomesQueue$Register" (264 : Nat) ({ cls := "HomesQueue$Step", name := "by", desc := "(II)I" } : Jvm.MethodName)) ∈ lw_all := lw_g (lw_at lw_m5 157 rfl) rfl
theorem q1291 : (Jvm.Cond.methodLinkNest "HomesQueue$Register" (277 : Nat) ({ cls := "HomesQueue", name := "first", desc := "(ILHomesQueue$Check;LHomesQueue$Step;)I" } : Jvm.MethodName) "HomesQueue") ∈ lw_tbl := lw_at lw_m5 158 rfl
theorem q1303 : (Jvm.Cond.instanceMethod ({ cls := "HomesQueue$Register", name := "isWaiting", desc := "(I)Z" } : Jvm.MethodName)) ∈ lw_all := lw_g (lw_at lw_m5 170 rfl) rfl
theorem q1304 : (Jvm.Cond.selects "HomesQueue$Register" ({ cls := "HomesQueue$Register", name := "isWaiting", desc := "(I)Z" } : Jvm.MethodName) ({ cls := "HomesQueue$Register", name := "isWaiting", desc := "(I)Z" } : Jvm.MethodName)) ∈ lw_all := lw_g (lw_at lw_m5 171 rfl) rfl
theorem q1305 : (Jvm.Cond.code ({ cls := "HomesQueue$Register", name := "isWaiting", desc := "(I)Z" } : Jvm.MethodName) prog_10_method_6_code (2 : Nat) (Option.some Jvm.ClassFile.FieldType.boolean)) ∈ lw_all := lw_g (lw_at lw_m5 172 rfl) rfl
theorem q1339 : (Jvm.Cond.instanceMethod ({ cls := "HomesQueue$Register", name := "chainOf", desc := "(I)I" } : Jvm.MethodName)) ∈ lw_all := lw_g (lw_at lw_m5 206 rfl) rfl
theorem q1340 : (Jvm.Cond.selects "HomesQueue$Register" ({ cls := "HomesQueue$Register", name := "chainOf", desc := "(I)I" } : Jvm.MethodName) ({ cls := "HomesQueue$Register", name := "chainOf", desc := "(I)I" } : Jvm.MethodName)) ∈ lw_all := lw_g (lw_at lw_m5 207 rfl) rfl
theorem q1341 : (Jvm.Cond.code ({ cls := "HomesQueue$Register", name := "chainOf", desc := "(I)I" } : Jvm.MethodName) prog_10_method_42_code (2 : Nat) (Option.some Jvm.ClassFile.FieldType.int)) ∈ lw_all := lw_g (lw_at lw_m5 208 rfl) rfl
theorem q1373 : (Jvm.Cond.instanceMethod ({ cls := "HomesQueue$Register", name := "become", desc := "(LHomesQueue$Register;)V" } : Jvm.MethodName)) ∈ lw_all := lw_g (lw_at lw_m6 0 rfl) rfl
theorem q1374 : (Jvm.Cond.selects "HomesQueue$Register" ({ cls := "HomesQueue$Register", name := "become", desc := "(LHomesQueue$Register;)V" } : Jvm.MethodName) ({ cls := "HomesQueue$Register", name := "become", desc := "(LHomesQueue$Register;)V" } : Jvm.MethodName)) ∈ lw_all := lw_g (lw_at lw_m6 1 rfl) rfl
theorem q1375 : (Jvm.Cond.code ({ cls := "HomesQueue$Register", name := "become", desc := "(LHomesQueue$Register;)V" } : Jvm.MethodName) prog_10_method_2_code (5 : Nat) (Option.none : Option Jvm.ClassFile.FieldType)) ∈ lw_all := lw_g (lw_at lw_m6 2 rfl) rfl
theorem q1376 : (Jvm.Cond.methodLink "HomesQueue$Register" (127 : Nat) ({ cls := "HomesQueue$Register", name := "rows", desc := "()[[I" } : Jvm.MethodName)) ∈ lw_all := lw_g (lw_at lw_m6 3 rfl) rfl
theorem q1377 : (Jvm.Cond.privateMethod ({ cls := "HomesQueue$Register", name := "rows", desc := "()[[I" } : Jvm.MethodName)) ∈ lw_tbl := lw_at lw_m6 4 rfl
theorem q1378 : (Jvm.Cond.instanceMethod ({ cls := "HomesQueue$Register", name := "rows", desc := "()[[I" } : Jvm.MethodName)) ∈ lw_all := lw_g (lw_at lw_m6 5 rfl) rfl
theorem q1379 : (Jvm.Cond.code ({ cls := "HomesQueue$Register", name := "rows", desc := "()[[I" } : Jvm.MethodName) prog_10_method_3_code (1 : Nat) (Option.some (Jvm.ClassFile.FieldType.array (Jvm.ClassFile.FieldType.array Jvm.ClassFile.FieldType.int)))) ∈ lw_all := lw_g (lw_at lw_m6 6 rfl) rfl
theorem q1380 : (Jvm.Cond.classLink "HomesQueue$Register" (145 : Nat) "[I") ∈ lw_all := lw_g (lw_at lw_m6 7 rfl) rfl
theorem q1382 : (Jvm.Cond.methodLink "HomesQueue$Register" (131 : Nat) ({ cls := "java/util/ArrayList", name := "clear", desc := "()V" } : Jvm.MethodName)) ∈ lw_all := lw_g (lw_at lw_m6 9 rfl) rfl
theorem q1383 : (Jvm.Cond.methodLink "HomesQueue$Register" (134 : Nat) ({ cls := "java/util/ArrayList", name := "addAll", desc := "(Ljava/util/Collection;)Z" } : Jvm.MethodName)) ∈ lw_all := lw_g (lw_at lw_m6 10 rfl) rfl
theorem q1399 : (Jvm.Cond.instanceMethod ({ cls := "HomesQueue$Register", name := "goes", desc := "(I)V" } : Jvm.MethodName)) ∈ lw_all := lw_g (lw_at lw_m6 26 rfl) rfl
theorem q1400 : (Jvm.Cond.selects "HomesQueue$Register" ({ cls := "HomesQueue$Register", name := "goes", desc := "(I)V" } : Jvm.MethodName) ({ cls := "HomesQueue$Register", name := "goes", desc := "(I)V" } : Jvm.MethodName)) ∈ lw_all := lw_g (lw_at lw_m6 27 rfl) rfl
theorem q1401 : (Jvm.Cond.code ({ cls := "HomesQueue$Register", name := "goes", desc := "(I)V" } : Jvm.MethodName) prog_10_method_40_code (3 : Nat) (Option.none : Option Jvm.ClassFile.FieldType)) ∈ lw_all := lw_g (lw_at lw_m6 28 rfl) rfl
theorem q1402 : (Jvm.Cond.methodLink "HomesQueue$Register" (334 : Nat) ({ cls := "HomesQueue$Register", name := "bidsAll", desc := "()I" } : Jvm.MethodName)) ∈ lw_all := lw_g (lw_at lw_m6 29 rfl) rfl
theorem q1403 : (Jvm.Cond.instanceMethod ({ cls := "HomesQueue$Register", name := "bidsAll", desc := "()I" } : Jvm.MethodName)) ∈ lw_all := lw_g (lw_at lw_m6 30 rfl) rfl
theorem q1404 : (Jvm.Cond.selects "HomesQueue$Register" ({ cls := "HomesQueue$Register", name := "bidsAll", desc := "()I" } : Jvm.MethodName) ({ cls := "HomesQueue$Register", name := "bidsAll", desc := "()I" } : Jvm.MethodName)) ∈ lw_all := lw_g (lw_at lw_m6 31 rfl) rfl
theorem q1405 : (Jvm.Cond.code ({ cls := "HomesQueue$Register", name := "bidsAll", desc := "()I" } : Jvm.MethodName) prog_10_method_32_code (6 : Nat) (Option.some Jvm.ClassFile.FieldType.int)) ∈ lw_all := lw_g (lw_at lw_m6 32 rfl) rfl
theorem q1406 : (Jvm.Cond.methodLink "HomesQueue$Register" (286 : Nat) ({ cls := "HomesQueue$Register", name := "bidsTogether", desc := "()I" } : Jvm.MethodName)) ∈ lw_all := lw_g (lw_at lw_m6 33 rfl) rfl
theorem q1407 : (Jvm.Cond.privateMethod ({ cls := "HomesQueue$Register", name := "bidsTogether", desc := "()I" } : Jvm.MethodName)) ∈ lw_tbl := lw_at lw_m6 34 rfl
theorem q1408 : (Jvm.Cond.instanceMethod ({ cls := "HomesQueue$Register", name := "bidsTogether", desc := "()I" } : Jvm.MethodName)) ∈ lw_all := lw_g (lw_at lw_m6 35 rfl) rfl
theorem q1409 : (Jvm.Cond.code ({ cls := "HomesQueue$Register", name := "bidsTogether", desc := "()I" } : Jvm.MethodName) prog_10_method_33_code (3 : Nat) (Option.some Jvm.ClassFile.FieldType.int)) ∈ lw_all := lw_g (lw_at lw_m6 36 rfl) rfl
theorem q1410 : (Jvm.Cond.methodLink "HomesQueue$Register" (292 : Nat) ({ cls := "HomesQueue$Register", name := "whyNot", desc := "(II)I" } : Jvm.MethodName)) ∈ lw_all := lw_g (lw_at lw_m6 37 rfl) rfl
theorem q1411 : (Jvm.Cond.methodLink "HomesQueue$Register" (295 : Nat) ({ cls := "HomesQueue$Register", name := "putsBid", desc := "(II)V" } : Jvm.MethodName)) ∈ lw_all := lw_g (lw_at lw_m6 38 rfl) rfl
theorem q1412 : (Jvm.Cond.instanceMethod ({ cls := "HomesQueue$Register", name := "putsBid", desc := "(II)V" } : Jvm.MethodName)) ∈ lw_all := lw_g (lw_at lw_m6 39 rfl) rfl
theorem q1413 : (Jvm.Cond.selects "HomesQueue$Register" ({ cls := "HomesQueue$Register", name := "putsBid", desc := "(II)V" } : Jvm.MethodName) ({ cls := "HomesQueue$Register", name := "putsBid", desc := "(II)V" } : Jvm.MethodName)) ∈ lw_all := lw_g (lw_at lw_m6 40 rfl) rfl
theorem q1414 : (Jvm.Cond.code ({ cls := "HomesQueue$Register", name := "putsBid", desc := "(II)V" } : Jvm.MethodName) prog_10_method_31_code (3 : Nat) (Option.none : Option Jvm.ClassFile.FieldType)) ∈ lw_all := lw_g (lw_at lw_m6 41 rfl) rfl
theorem q1415 : (Jvm.Cond.methodLink "HomesQueue$Register" (337 : Nat) ({ cls := "HomesQueue$Register", name := "ends", desc := "()I" } : Jvm.MethodName)) ∈ lw_all := lw_g (lw_at lw_m6 42 rfl) rfl
theorem q1416 : (Jvm.Cond.instanceMethod ({ cls := "HomesQueue$Register", name := "ends", desc := "()I" } : Jvm.MethodName)) ∈ lw_all := lw_g (lw_at lw_m6 43 rfl) rfl
theorem q1417 : (Jvm.Cond.selects "HomesQueue$Register" ({ cls := "HomesQueue$Register", name := "ends", desc := "()I" } : Jvm.MethodName) ({ cls := "HomesQueue$Register", name := "ends", desc := "()I" } : Jvm.MethodName)) ∈ lw_all := lw_g (lw_at lw_m6 44 rfl) rfl
theorem q1418 : (Jvm.Cond.code ({ cls := "HomesQueue$Register", name := "ends", desc := "()I" } : Jvm.MethodName) prog_10_method_39_code (4 : Nat) (Option.some Jvm.ClassFile.FieldType.int)) ∈ lw_all := lw_g (lw_at lw_m6 45 rfl) rfl
theorem q1419 : (Jvm.Cond.methodLink "HomesQueue$Register" (331 : Nat) ({ cls := "HomesQueue$Register", name := "offersOne", desc := "(I)V" } : Jvm.MethodName)) ∈ lw_all := lw_g (lw_at lw_m6 46 rfl) rfl
theorem q1420 : (Jvm.Cond.privateMethod ({ cls := "HomesQueue$Register", name := "offersOne", desc := "(I)V" } : Jvm.MethodName)) ∈ lw_tbl := lw_at lw_m6 47 rfl
theorem q1421 : (Jvm.Cond.instanceMethod ({ cls := "HomesQueue$Register", name := "offersOne", desc := "(I)V" } : Jvm.MethodName)) ∈ lw_all := lw_g (lw_at lw_m6 48 rfl) rfl
theorem q1422 : (Jvm.Cond.code ({ cls := "HomesQueue$Register", name := "offersOne", desc := "(I)V" } : Jvm.MethodName) prog_10_method_38_code (7 : Nat) (Option.none : Option Jvm.ClassFile.FieldType)) ∈ lw_all := lw_g (lw_at lw_m6 49 rfl) rfl
theorem q1423 : (Jvm.Cond.methodLink "HomesQueue$Register" (321 : Nat) ({ cls := "HomesQueue$Register", name := "nextFor", desc := "(II)I" } : Jvm.MethodName)) ∈ lw_all := lw_g (lw_at lw_m6 50 rfl) rfl
theorem q1424 : (Jvm.Cond.privateMethod ({ cls := "HomesQueue$Register", name := "nextFor", desc := "(II)I" } : Jvm.MethodName)) ∈ lw_tbl := lw_at lw_m6 51 rfl
theorem q1425 : (Jvm.Cond.instanceMethod ({ cls := "HomesQueue$Register", name := "nextFor", desc := "(II)I" } : Jvm.MethodName)) ∈ lw_all := lw_g (lw_at lw_m6 52 rfl) rfl
theorem q1426 : (Jvm.Cond.code ({ cls := "HomesQueue$Register", name := "nextFor", desc := "(II)I" } : Jvm.MethodName) prog_10_method_28_code (5 : Nat) (Option.some Jvm.ClassFile.FieldType.int)) ∈ lw_all := lw_g (lw_at lw_m6 53 rfl) rfl
theorem q1427 : (Jvm.Cond.methodLink "HomesQueue$Register" (183 : Nat) ({ cls := "HomesQueue$Register", name := "isWaiting", desc := "(I)Z" } : Jvm.MethodName)) ∈ lw_all := lw_g (lw_at lw_m6 54 rfl) rfl
theorem q1428 : (Jvm.Cond.methodLink "HomesQueue$Register" (324 : Nat) ({ cls := "HomesQueue$Register", name := "isTaken", desc := "(IIIZZ)Z" } : Jvm.MethodName)) ∈ lw_all := lw_g (lw_at lw_m6 55 rfl) rfl
theorem q1429 : (Jvm.Cond.privateMethod ({ cls := "HomesQueue$Register", name := "isTaken", desc := "(IIIZZ)Z" } : Jvm.MethodName)) ∈ lw_tbl := lw_at lw_m6 56 rfl
theorem q1430 : (Jvm.Cond.instanceMethod ({ cls := "HomesQueue$Register", name := "isTaken", desc := "(IIIZZ)Z" } : Jvm.MethodName)) ∈ lw_all := lw_g (lw_at lw_m6 57 rfl) rfl
theorem q1431 : (Jvm.Cond.code ({ cls := "HomesQueue$Register", name := "isTaken", desc := "(IIIZZ)Z" } : Jvm.MethodName) prog_10_method_35_code (7 : Nat) (Option.some Jvm.ClassFile.FieldType.boolean)) ∈ lw_all := lw_g (lw_at lw_m6 58 rfl) rfl
theorem q1432 : (Jvm.Cond.methodLink "HomesQueue$Register" (190 : Nat) ({ cls := "HomesQueue$Register", name := "wouldTake", desc := "(II)Z" } : Jvm.MethodName)) ∈ lw_all := lw_g (lw_at lw_m6 59 rfl) rfl
theorem q1433 : (Jvm.Cond.instanceMethod ({ cls := "HomesQueue$Register", name := "wouldTake", desc := "(II)Z" } : Jvm.MethodName)) ∈ lw_all := lw_g (lw_at lw_m6 60 rfl) rfl
theorem q1434 : (Jvm.Cond.selects "HomesQueue$Register" ({ cls := "HomesQueue$Register", name := "wouldTake", desc := "(II)Z" } : Jvm.MethodName) ({ cls := "HomesQueue$Register", name := "wouldTake", desc := "(II)Z" } : Jvm.MethodName)) ∈ lw_all := lw_g (lw_at lw_m6 61 rfl) rfl
theorem q1435 : (Jvm.Cond.code ({ cls := "HomesQueue$Register", name := "wouldTake", desc := "(II)Z" } : Jvm.MethodName) prog_10_method_12_code (3 : Nat) (Option.some Jvm.ClassFile.FieldType.boolean)) ∈ lw_all := lw_g (lw_at lw_m6 62 rfl) rfl
theorem q1436 : (Jvm.Cond.methodLink "HomesQueue$Register" (179 : Nat) ({ cls := "HomesQueue$Register", name := "isWish", desc := "(II)Z" } : Jvm.MethodName)) ∈ lw_all := lw_g (lw_at lw_m6 63 rfl) rfl
theorem q1437 : (Jvm.Cond.methodLink "HomesQueue$Register" (302 : Nat) ({ cls := "java/util/ArrayList", name := "add", desc := "(Ljava/lang/Object;)Z" } : Jvm.MethodName)) ∈ lw_all := lw_g (lw_at lw_m6 64 rfl) rfl
theorem q1438 : (Jvm.Cond.methodLink "HomesQueue$Register" (306 : Nat) ({ cls := "HomesQueue$Register", name := "lets", desc := "(IIIZZ)V" } : Jvm.MethodName)) ∈ lw_all := lw_g (lw_at lw_m6 65 rfl) rfl
theorem q1439 : (Jvm.Cond.privateMethod ({ cls := "HomesQueue$Register", name := "lets", desc := "(IIIZZ)V" } : Jvm.MethodName)) ∈ lw_tbl := lw_at lw_m6 66 rfl
theorem q1440 : (Jvm.Cond.instanceMethod ({ cls := "HomesQueue$Register", name := "lets", desc := "(IIIZZ)V" } : Jvm.MethodName)) ∈ lw_all := lw_g (lw_at lw_m6 67 rfl) rfl
theorem q1441 : (Jvm.Cond.code ({ cls := "HomesQueue$Register", name := "lets", desc := "(IIIZZ)V" } : Jvm.MethodName) prog_10_method_37_code (9 : Nat) (Option.none : Option Jvm.ClassFile.FieldType)) ∈ lw_all := lw_g (lw_at lw_m6 68 rfl) rfl
theorem q1443 : (Jvm.Cond.methodLink "HomesQueue$Register" (315 : Nat) ({ cls := "HomesQueue$Let", name := "<init>", desc := "(IIIIII[Z)V" } : Jvm.MethodName)) ∈ lw_all := lw_g (lw_at lw_m6 70 rfl) rfl
theorem q1450 : (Jvm.Cond.fieldLinkNest "HomesQueue$Register" (228 : Nat) "HomesQueue$Let" "home" "I" "HomesQueue") ∈ lw_tbl := lw_at lw_m6 77 rfl
theorem q1455 : (Jvm.Cond.fieldLinkNest "HomesQueue$Register" (312 : Nat) "HomesQueue$Let" "chain" "I" "HomesQueue") ∈ lw_tbl := lw_at lw_m6 82 rfl
theorem q1466 : (Jvm.Cond.fieldLinkNest "HomesQueue$Register" (241 : Nat) "HomesQueue$Let" "moved" "Z" "HomesQueue") ∈ lw_tbl := lw_at lw_m6 93 rfl
theorem q1490 : (Jvm.Cond.methodLink "HomesQueue$Register" (318 : Nat) ({ cls := "HomesQueue$Register", name := "frees", desc := "(II)V" } : Jvm.MethodName)) ∈ lw_all := lw_g (lw_at lw_m6 117 rfl) rfl
theorem q1491 : (Jvm.Cond.privateMethod ({ cls := "HomesQueue$Register", name := "frees", desc := "(II)V" } : Jvm.MethodName)) ∈ lw_tbl := lw_at lw_m6 118 rfl
theorem q1492 : (Jvm.Cond.instanceMethod ({ cls := "HomesQueue$Register", name := "frees", desc := "(II)V" } : Jvm.MethodName)) ∈ lw_all := lw_g (lw_at lw_m6 119 rfl) rfl
theorem q1493 : (Jvm.Cond.code ({ cls := "HomesQueue$Register", name := "frees", desc := "(II)V" } : Jvm.MethodName) prog_10_method_34_code (3 : Nat) (Option.none : Option Jvm.ClassFile.FieldType)) ∈ lw_all := lw_g (lw_at lw_m6 120 rfl) rfl
theorem q1494 : (Jvm.Cond.methodLink "HomesQueue$Register" (309 : Nat) ({ cls := "HomesQueue$Register", name := "refuses", desc := "(I)V" } : Jvm.MethodName)) ∈ lw_all := lw_g (lw_at lw_m6 121 rfl) rfl
theorem q1495 : (Jvm.Cond.privateMethod ({ cls := "HomesQueue$Register", name := "refuses", desc := "(I)V" } : Jvm.MethodName)) ∈ lw_tbl := lw_at lw_m6 122 rfl
theorem q1496 : (Jvm.Cond.instanceMethod ({ cls := "HomesQueue$Register", name := "refuses", desc := "(I)V" } : Jvm.MethodName)) ∈ lw_all := lw_g (lw_at lw_m6 123 rfl) rfl
theorem q1497 : (Jvm.Cond.code ({ cls := "HomesQueue$Register", name := "refuses", desc := "(I)V" } : Jvm.MethodName) prog_10_method_36_code (2 : Nat) (Option.none : Option Jvm.ClassFile.FieldType)) ∈ lw_all := lw_g (lw_at lw_m6 124 rfl) rfl
theorem q1515 : (Jvm.Cond.instanceMethod ({ cls := "HomesQueue$Register", name := "couldHave", desc := "(II)Z" } : Jvm.MethodName)) ∈ lw_all := lw_g (lw_at lw_m6 142 rfl) rfl
theorem q1516 : (Jvm.Cond.selects "HomesQueue$Register" ({ cls := "HomesQueue$Register", name := "couldHave", desc := "(II)Z" } : Jvm.MethodName) ({ cls := "HomesQueue$Register", name := "couldHave", desc := "(II)Z" } : Jvm.MethodName)) ∈ lw_all := lw_g (lw_at lw_m6 143 rfl) rfl
theorem q1517 : (Jvm.Cond.code ({ cls := "HomesQueue$Register", name := "couldHave", desc := "(II)Z" } : Jvm.MethodName) prog_10_method_13_code (3 : Nat) (Option.some Jvm.ClassFile.FieldType.boolean)) ∈ lw_all := lw_g (lw_at lw_m6 144 rfl) rfl
theorem q1781 : (Jvm.Cond.instanceMethod ({ cls := "HomesQueue$Register", name := "compareBy", desc := "(IIII)I" } : Jvm.MethodName)) ∈ lw_all := lw_g (lw_at lw_m7 168 rfl) rfl
theorem q1782 : (Jvm.Cond.selects "HomesQueue$Register" ({ cls := "HomesQueue$Register", name := "compareBy", desc := "(IIII)I" } : Jvm.MethodName) ({ cls := "HomesQueue$Register", name := "compareBy", desc := "(IIII)I" } : Jvm.MethodName)) ∈ lw_all := lw_g (lw_at lw_m7 169 rfl) rfl
theorem q1783 : (Jvm.Cond.code ({ cls := "HomesQueue$Register", name := "compareBy", desc := "(IIII)I" } : Jvm.MethodName) prog_10_method_27_code (6 : Nat) (Option.some Jvm.ClassFile.FieldType.int)) ∈ lw_all := lw_g (lw_at lw_m7 170 rfl) rfl
theorem q1828 : (Jvm.Cond.instanceMethod ({ cls := "HomesQueue$Register", name := "quits", desc := "(I)V" } : Jvm.MethodName)) ∈ lw_all := lw_g (lw_at lw_m7 215 rfl) rfl
theorem q1829 : (Jvm.Cond.selects "HomesQueue$Register" ({ cls := "HomesQueue$Register", name := "quits", desc := "(I)V" } : Jvm.MethodName) ({ cls := "HomesQueue$Register", name := "quits", desc := "(I)V" } : Jvm.MethodName)) ∈ lw_all := lw_g (lw_at lw_m7 216 rfl) rfl
theorem q1830 : (Jvm.Cond.code ({ cls := "HomesQueue$Register", name := "quits", desc := "(I)V" } : Jvm.MethodName) prog_10_method_41_code (2 : Nat) (Option.none : Option Jvm.ClassFile.FieldType)) ∈ lw_all := lw_g (lw_at lw_m7 217 rfl) rfl
theorem q2666 : (Jvm.Cond.castable "HomesQueue$Register" "java/lang/Object") ∈ lw_tbl := lw_at lw_m11 93 rfl
theorem in_X2 : ∀ w ∈ wsX20, w ∈ lw_all := lw_in wsX20 [480, 482, 484, 486, 488, 490, 492, 494, 496, 498, 500, 502, 504, 506, 508, 510, 512, 514, 516, 518, 520, 522, 524, 526, 528, 530, 532] (by decide +kernel) (by decide +kernel)

