/-! HomesQueue$Reader -/
set_option maxRecDepth 100000
def RX4 : String := "HomesQueue$Reader"
def TX4 : u_T := fun k => match k with
  | 0 => ("HomesQueue$Reader", "size", "I", true)
  | 1 => ("HomesQueue$Reader", "from", "I", false)
  | 2 => ("HomesQueue$Reader", "to", "I", false)
  | 3 => ("HomesQueue$Reader", "sort", "I", false)
  | 4 => ("HomesQueue$Reader", "number", "I", false)
  | 5 => ("HomesQueue$Reader", "word", "Ljava/lang/String;", false)
  | 6 => ("HomesQueue$Reader", "newHomes", "Ljava/util/ArrayList;", true)
  | 7 => ("HomesQueue$Reader", "newHouses", "Ljava/util/ArrayList;", true)
  | 8 => ("HomesQueue$Reader", "made", "LHomesQueue$Register;", true)
  | _ => ("HomesQueue$Reader", "this$0", "LHomesQueue;", true)
def tyX4 : Nat → FieldType := fun k => match k with
  | 0 => .int
  | 1 => .int
  | 2 => .int
  | 3 => .int
  | 4 => .int
  | 5 => .object "java/lang/String"
  | 6 => .object "java/util/ArrayList"
  | 7 => .object "java/util/ArrayList"
  | 8 => .object "HomesQueue$Register"
  | _ => .object "HomesQueue"
abbrev wsX40 : List Cond := u_ws RX4 TX4 10
theorem nmX4 : ∀ a, a < 10 → ∀ b, b < 10 → a ≠ b → (TX4 a).2.1 ≠ (TX4 b).2.1 := by decide +kernel
theorem tyX4_ok : ∀ k, k < 10 → parseFieldDescriptor (TX4 k).2.2.1 = some (tyX4 k) := by decide +kernel
abbrev cX4_init : ByteArray := prog_9_method_1_code
def yX4_init : MethodName := ⟨RX4, "<init>", "(LHomesQueue;I)V"⟩
def dkwX4_init_2 : List UInt8 := [183, 0, 35, 181, 0, 38, 42, 28, 181, 0, 42, 42, 182, 0, 46, 177]
abbrev dktX4_init_2 : List UInt8 := dkwX4_init_2 ++ []
def dkwX4_init_1 : List UInt8 := [181, 0, 26, 42, 187, 0, 21, 89, 5, 183, 0, 23, 181, 0, 30, 42, 187, 0, 33, 89, 42, 180, 0, 3]
abbrev dktX4_init_1 : List UInt8 := dkwX4_init_1 ++ dktX4_init_2
def dkwX4_init_0 : List UInt8 := [42, 43, 181, 0, 3, 42, 183, 0, 9, 42, 18, 15, 181, 0, 17, 42, 187, 0, 21, 89, 5, 183, 0, 23]
abbrev dktX4_init_0 : List UInt8 := dkwX4_init_0 ++ dktX4_init_1
theorem dksX4_init_0 : cX4_init.data.toList.drop 0 = dktX4_init_0 := by decide +kernel
theorem dksX4_init_1 : cX4_init.data.toList.drop 24 = dktX4_init_1 := dk_seg dksX4_init_0 24 rfl rfl
theorem dksX4_init_2 : cX4_init.data.toList.drop 48 = dktX4_init_2 := dk_seg dksX4_init_1 24 rfl rfl
theorem dX4_init_0 : decode cX4_init 0 = .ok (.aload_n 0, 1) := dk_42 (dk_at dksX4_init_0 0 rfl rfl)
theorem dX4_init_1 : decode cX4_init 1 = .ok (.aload_n 1, 1) := dk_43 (dk_at dksX4_init_0 1 rfl rfl)
theorem dX4_init_2 : decode cX4_init 2 = .ok (.putfield 3, 3) := dk_181 0 3 (dk_at dksX4_init_0 2 rfl rfl)
theorem dX4_init_5 : decode cX4_init 5 = .ok (.aload_n 0, 1) := dk_42 (dk_at dksX4_init_0 5 rfl rfl)
theorem dX4_init_6 : decode cX4_init 6 = .ok (.invokespecial 9, 3) := dk_183 0 9 (dk_at dksX4_init_0 6 rfl rfl)
theorem dX4_init_9 : decode cX4_init 9 = .ok (.aload_n 0, 1) := dk_42 (dk_at dksX4_init_0 9 rfl rfl)
theorem dX4_init_10 : decode cX4_init 10 = .ok (.ldc 15, 2) := dk_18 15 (dk_at dksX4_init_0 10 rfl rfl)
theorem dX4_init_12 : decode cX4_init 12 = .ok (.putfield 17, 3) := dk_181 0 17 (dk_at dksX4_init_0 12 rfl rfl)
theorem dX4_init_15 : decode cX4_init 15 = .ok (.aload_n 0, 1) := dk_42 (dk_at dksX4_init_0 15 rfl rfl)
theorem dX4_init_16 : decode cX4_init 16 = .ok (.new 21, 3) := dk_187 0 21 (dk_at dksX4_init_0 16 rfl rfl)
theorem dX4_init_19 : decode cX4_init 19 = .ok (.dup, 1) := dk_89 (dk_at dksX4_init_0 19 rfl rfl)
theorem dX4_init_20 : decode cX4_init 20 = .ok (.iconst 2, 1) := dk_5 (dk_at dksX4_init_0 20 rfl rfl)
theorem dX4_init_21 : decode cX4_init 21 = .ok (.invokespecial 23, 3) := dk_183 0 23 (dk_at dksX4_init_0 21 rfl rfl)
theorem dX4_init_24 : decode cX4_init 24 = .ok (.putfield 26, 3) := dk_181 0 26 (dk_at dksX4_init_1 0 rfl rfl)
theorem dX4_init_27 : decode cX4_init 27 = .ok (.aload_n 0, 1) := dk_42 (dk_at dksX4_init_1 3 rfl rfl)
theorem dX4_init_28 : decode cX4_init 28 = .ok (.new 21, 3) := dk_187 0 21 (dk_at dksX4_init_1 4 rfl rfl)
theorem dX4_init_31 : decode cX4_init 31 = .ok (.dup, 1) := dk_89 (dk_at dksX4_init_1 7 rfl rfl)
theorem dX4_init_32 : decode cX4_init 32 = .ok (.iconst 2, 1) := dk_5 (dk_at dksX4_init_1 8 rfl rfl)
theorem dX4_init_33 : decode cX4_init 33 = .ok (.invokespecial 23, 3) := dk_183 0 23 (dk_at dksX4_init_1 9 rfl rfl)
theorem dX4_init_36 : decode cX4_init 36 = .ok (.putfield 30, 3) := dk_181 0 30 (dk_at dksX4_init_1 12 rfl rfl)
theorem dX4_init_39 : decode cX4_init 39 = .ok (.aload_n 0, 1) := dk_42 (dk_at dksX4_init_1 15 rfl rfl)
theorem dX4_init_40 : decode cX4_init 40 = .ok (.new 33, 3) := dk_187 0 33 (dk_at dksX4_init_1 16 rfl rfl)
theorem dX4_init_43 : decode cX4_init 43 = .ok (.dup, 1) := dk_89 (dk_at dksX4_init_1 19 rfl rfl)
theorem dX4_init_44 : decode cX4_init 44 = .ok (.aload_n 0, 1) := dk_42 (dk_at dksX4_init_1 20 rfl rfl)
theorem dX4_init_45 : decode cX4_init 45 = .ok (.getfield 3, 3) := dk_180 0 3 (dk_at dksX4_init_1 21 rfl rfl)
theorem dX4_init_48 : decode cX4_init 48 = .ok (.invokespecial 35, 3) := dk_183 0 35 (dk_at dksX4_init_2 0 rfl rfl)
theorem dX4_init_51 : decode cX4_init 51 = .ok (.putfield 38, 3) := dk_181 0 38 (dk_at dksX4_init_2 3 rfl rfl)
theorem dX4_init_54 : decode cX4_init 54 = .ok (.aload_n 0, 1) := dk_42 (dk_at dksX4_init_2 6 rfl rfl)
theorem dX4_init_55 : decode cX4_init 55 = .ok (.iload_n 2, 1) := dk_28 (dk_at dksX4_init_2 7 rfl rfl)
theorem dX4_init_56 : decode cX4_init 56 = .ok (.putfield 42, 3) := dk_181 0 42 (dk_at dksX4_init_2 8 rfl rfl)
theorem dX4_init_59 : decode cX4_init 59 = .ok (.aload_n 0, 1) := dk_42 (dk_at dksX4_init_2 11 rfl rfl)
theorem dX4_init_60 : decode cX4_init 60 = .ok (.invokevirtual 46, 3) := dk_182 0 46 (dk_at dksX4_init_2 12 rfl rfl)
theorem dX4_init_63 : decode cX4_init 63 = .ok (.return_, 1) := dk_177 (dk_at dksX4_init_2 15 rfl rfl)
abbrev cX4_goesOn : ByteArray := prog_9_method_3_code
def yX4_goesOn : MethodName := ⟨RX4, "goesOn", "()V"⟩
def dkwX4_goesOn_15 : List UInt8 := [160, 0, 7, 6, 167, 0, 4, 7, 181, 0, 67, 177]
abbrev dktX4_goesOn_15 : List UInt8 := dkwX4_goesOn_15 ++ []
def dkwX4_goesOn_14 : List UInt8 := [180, 0, 57, 4, 96, 181, 0, 57, 42, 42, 180, 0, 3, 180, 0, 49, 42, 180, 0, 60, 51, 16, 59]
abbrev dktX4_goesOn_14 : List UInt8 := dkwX4_goesOn_14 ++ dktX4_goesOn_15
def dkwX4_goesOn_13 : List UInt8 := [42, 180, 0, 60, 100, 6, 164, 0, 7, 7, 167, 0, 4, 5, 181, 0, 67, 167, 0, 39, 42, 89]
abbrev dktX4_goesOn_13 : List UInt8 := dkwX4_goesOn_13 ++ dktX4_goesOn_14
def dkwX4_goesOn_12 : List UInt8 := [180, 0, 81, 181, 0, 81, 42, 89, 180, 0, 57, 4, 96, 181, 0, 57, 167, 255, 184, 42, 42, 180, 0, 57]
abbrev dktX4_goesOn_12 : List UInt8 := dkwX4_goesOn_12 ++ dktX4_goesOn_13
def dkwX4_goesOn_11 : List UInt8 := [180, 0, 81, 104, 42, 180, 0, 3, 180, 0, 49, 42, 180, 0, 57, 51, 96, 16, 48, 100, 167, 0, 7, 42]
abbrev dktX4_goesOn_11 : List UInt8 := dkwX4_goesOn_11 ++ dktX4_goesOn_12
def dkwX4_goesOn_10 : List UInt8 := [182, 0, 63, 153, 0, 63, 42, 42, 180, 0, 57, 42, 180, 0, 60, 100, 6, 162, 0, 29, 16, 10, 42]
abbrev dktX4_goesOn_10 : List UInt8 := dkwX4_goesOn_10 ++ dktX4_goesOn_11
def dkwX4_goesOn_9 : List UInt8 := [16, 57, 182, 0, 63, 153, 0, 108, 42, 3, 181, 0, 81, 42, 42, 180, 0, 57, 16, 48, 16, 57]
abbrev dktX4_goesOn_9 : List UInt8 := dkwX4_goesOn_9 ++ dktX4_goesOn_10
def dkwX4_goesOn_8 : List UInt8 := [16, 8, 164, 0, 7, 7, 167, 0, 4, 4, 181, 0, 67, 167, 0, 159, 42, 42, 180, 0, 60, 16, 48]
abbrev dktX4_goesOn_8 : List UInt8 := dkwX4_goesOn_8 ++ dktX4_goesOn_9
def dkwX4_goesOn_7 : List UInt8 := [181, 0, 57, 167, 255, 199, 42, 43, 182, 0, 77, 181, 0, 17, 42, 42, 180, 0, 57, 42, 180, 0, 60, 100]
abbrev dktX4_goesOn_7 : List UInt8 := dkwX4_goesOn_7 ++ dktX4_goesOn_8
def dkwX4_goesOn_6 : List UInt8 := [180, 0, 3, 180, 0, 49, 42, 180, 0, 57, 51, 146, 182, 0, 73, 87, 42, 89, 180, 0, 57, 4, 96]
abbrev dktX4_goesOn_6 : List UInt8 := dkwX4_goesOn_6 ++ dktX4_goesOn_7
def dkwX4_goesOn_5 : List UInt8 := [182, 0, 63, 153, 0, 48, 42, 180, 0, 57, 42, 180, 0, 60, 100, 16, 8, 162, 0, 21, 43, 42]
abbrev dktX4_goesOn_5 : List UInt8 := dkwX4_goesOn_5 ++ dktX4_goesOn_6
def dkwX4_goesOn_4 : List UInt8 := [182, 0, 63, 153, 0, 105, 187, 0, 70, 89, 183, 0, 72, 76, 42, 42, 180, 0, 57, 16, 97, 16, 122]
abbrev dktX4_goesOn_4 : List UInt8 := dkwX4_goesOn_4 ++ dktX4_goesOn_5
def dkwX4_goesOn_3 : List UInt8 := [180, 0, 42, 161, 0, 11, 42, 3, 181, 0, 67, 167, 1, 20, 42, 42, 180, 0, 60, 16, 97, 16, 122]
abbrev dktX4_goesOn_3 : List UInt8 := dkwX4_goesOn_3 ++ dktX4_goesOn_4
def dkwX4_goesOn_2 : List UInt8 := [167, 255, 216, 42, 42, 180, 0, 60, 181, 0, 57, 42, 18, 15, 181, 0, 17, 42, 180, 0, 60, 42]
abbrev dktX4_goesOn_2 : List UInt8 := dkwX4_goesOn_2 ++ dktX4_goesOn_3
def dkwX4_goesOn_1 : List UInt8 := [42, 180, 0, 60, 16, 10, 16, 10, 182, 0, 63, 153, 0, 16, 42, 89, 180, 0, 60, 4, 96, 181, 0, 60]
abbrev dktX4_goesOn_1 : List UInt8 := dkwX4_goesOn_1 ++ dktX4_goesOn_2
def dkwX4_goesOn_0 : List UInt8 := [42, 42, 180, 0, 57, 181, 0, 60, 42, 42, 180, 0, 60, 16, 32, 16, 32, 182, 0, 63, 154, 0, 18, 42]
abbrev dktX4_goesOn_0 : List UInt8 := dkwX4_goesOn_0 ++ dktX4_goesOn_1
theorem dksX4_goesOn_0 : cX4_goesOn.data.toList.drop 0 = dktX4_goesOn_0 := by decide +kernel
theorem dksX4_goesOn_1 : cX4_goesOn.data.toList.drop 24 = dktX4_goesOn_1 := dk_seg dksX4_goesOn_0 24 rfl rfl
theorem dksX4_goesOn_2 : cX4_goesOn.data.toList.drop 48 = dktX4_goesOn_2 := dk_seg dksX4_goesOn_1 24 rfl rfl
theorem dksX4_goesOn_3 : cX4_goesOn.data.toList.drop 70 = dktX4_goesOn_3 := dk_seg dksX4_goesOn_2 22 rfl rfl
theorem dksX4_goesOn_4 : cX4_goesOn.data.toList.drop 93 = dktX4_goesOn_4 := dk_seg dksX4_goesOn_3 23 rfl rfl
theorem dksX4_goesOn_5 : cX4_goesOn.data.toList.drop 116 = dktX4_goesOn_5 := dk_seg dksX4_goesOn_4 23 rfl rfl
theorem dksX4_goesOn_6 : cX4_goesOn.data.toList.drop 138 = dktX4_goesOn_6 := dk_seg dksX4_goesOn_5 22 rfl rfl
theorem dksX4_goesOn_7 : cX4_goesOn.data.toList.drop 161 = dktX4_goesOn_7 := dk_seg dksX4_goesOn_6 23 rfl rfl
theorem dksX4_goesOn_8 : cX4_goesOn.data.toList.drop 185 = dktX4_goesOn_8 := dk_seg dksX4_goesOn_7 24 rfl rfl
theorem dksX4_goesOn_9 : cX4_goesOn.data.toList.drop 208 = dktX4_goesOn_9 := dk_seg dksX4_goesOn_8 23 rfl rfl
theorem dksX4_goesOn_10 : cX4_goesOn.data.toList.drop 230 = dktX4_goesOn_10 := dk_seg dksX4_goesOn_9 22 rfl rfl
theorem dksX4_goesOn_11 : cX4_goesOn.data.toList.drop 253 = dktX4_goesOn_11 := dk_seg dksX4_goesOn_10 23 rfl rfl
theorem dksX4_goesOn_12 : cX4_goesOn.data.toList.drop 277 = dktX4_goesOn_12 := dk_seg dksX4_goesOn_11 24 rfl rfl
theorem dksX4_goesOn_13 : cX4_goesOn.data.toList.drop 301 = dktX4_goesOn_13 := dk_seg dksX4_goesOn_12 24 rfl rfl
theorem dksX4_goesOn_14 : cX4_goesOn.data.toList.drop 323 = dktX4_goesOn_14 := dk_seg dksX4_goesOn_13 22 rfl rfl
theorem dksX4_goesOn_15 : cX4_goesOn.data.toList.drop 346 = dktX4_goesOn_15 := dk_seg dksX4_goesOn_14 23 rfl rfl
theorem dX4_goesOn_0 : decode cX4_goesOn 0 = .ok (.aload_n 0, 1) := dk_42 (dk_at dksX4_goesOn_0 0 rfl rfl)
theorem dX4_goesOn_1 : decode cX4_goesOn 1 = .ok (.aload_n 0, 1) := dk_42 (dk_at dksX4_goesOn_0 1 rfl rfl)
theorem dX4_goesOn_2 : decode cX4_goesOn 2 = .ok (.getfield 57, 3) := dk_180 0 57 (dk_at dksX4_goesOn_0 2 rfl rfl)
theorem dX4_goesOn_5 : decode cX4_goesOn 5 = .ok (.putfield 60, 3) := dk_181 0 60 (dk_at dksX4_goesOn_0 5 rfl rfl)
theorem dX4_goesOn_8 : decode cX4_goesOn 8 = .ok (.aload_n 0, 1) := dk_42 (dk_at dksX4_goesOn_0 8 rfl rfl)
theorem dX4_goesOn_9 : decode cX4_goesOn 9 = .ok (.aload_n 0, 1) := dk_42 (dk_at dksX4_goesOn_0 9 rfl rfl)
theorem dX4_goesOn_10 : decode cX4_goesOn 10 = .ok (.getfield 60, 3) := dk_180 0 60 (dk_at dksX4_goesOn_0 10 rfl rfl)
theorem dX4_goesOn_13 : decode cX4_goesOn 13 = .ok (.bipush 32, 2) := dk_16 32 (dk_at dksX4_goesOn_0 13 rfl rfl)
theorem dX4_goesOn_15 : decode cX4_goesOn 15 = .ok (.bipush 32, 2) := dk_16 32 (dk_at dksX4_goesOn_0 15 rfl rfl)
theorem dX4_goesOn_17 : decode cX4_goesOn 17 = .ok (.invokevirtual 63, 3) := dk_182 0 63 (dk_at dksX4_goesOn_0 17 rfl rfl)
theorem dX4_goesOn_20 : decode cX4_goesOn 20 = .ok (.ifCond .ne 18, 3) := dk_154 0 18 (dk_at dksX4_goesOn_0 20 rfl rfl)
theorem dX4_goesOn_23 : decode cX4_goesOn 23 = .ok (.aload_n 0, 1) := dk_42 (dk_at dksX4_goesOn_0 23 rfl rfl)
theorem dX4_goesOn_24 : decode cX4_goesOn 24 = .ok (.aload_n 0, 1) := dk_42 (dk_at dksX4_goesOn_1 0 rfl rfl)
theorem dX4_goesOn_25 : decode cX4_goesOn 25 = .ok (.getfield 60, 3) := dk_180 0 60 (dk_at dksX4_goesOn_1 1 rfl rfl)
theorem dX4_goesOn_28 : decode cX4_goesOn 28 = .ok (.bipush 10, 2) := dk_16 10 (dk_at dksX4_goesOn_1 4 rfl rfl)
theorem dX4_goesOn_30 : decode cX4_goesOn 30 = .ok (.bipush 10, 2) := dk_16 10 (dk_at dksX4_goesOn_1 6 rfl rfl)
theorem dX4_goesOn_32 : decode cX4_goesOn 32 = .ok (.invokevirtual 63, 3) := dk_182 0 63 (dk_at dksX4_goesOn_1 8 rfl rfl)
theorem dX4_goesOn_35 : decode cX4_goesOn 35 = .ok (.ifCond .eq 16, 3) := dk_153 0 16 (dk_at dksX4_goesOn_1 11 rfl rfl)
theorem dX4_goesOn_38 : decode cX4_goesOn 38 = .ok (.aload_n 0, 1) := dk_42 (dk_at dksX4_goesOn_1 14 rfl rfl)
theorem dX4_goesOn_39 : decode cX4_goesOn 39 = .ok (.dup, 1) := dk_89 (dk_at dksX4_goesOn_1 15 rfl rfl)
theorem dX4_goesOn_40 : decode cX4_goesOn 40 = .ok (.getfield 60, 3) := dk_180 0 60 (dk_at dksX4_goesOn_1 16 rfl rfl)
theorem dX4_goesOn_43 : decode cX4_goesOn 43 = .ok (.iconst 1, 1) := dk_4 (dk_at dksX4_goesOn_1 19 rfl rfl)
theorem dX4_goesOn_44 : decode cX4_goesOn 44 = .ok (.iadd, 1) := dk_96 (dk_at dksX4_goesOn_1 20 rfl rfl)
theorem dX4_goesOn_45 : decode cX4_goesOn 45 = .ok (.putfield 60, 3) := dk_181 0 60 (dk_at dksX4_goesOn_1 21 rfl rfl)
theorem dX4_goesOn_48 : decode cX4_goesOn 48 = .ok (.goto (-40), 3) := dk_167 255 216 (dk_at dksX4_goesOn_2 0 rfl rfl)
theorem dX4_goesOn_51 : decode cX4_goesOn 51 = .ok (.aload_n 0, 1) := dk_42 (dk_at dksX4_goesOn_2 3 rfl rfl)
theorem dX4_goesOn_52 : decode cX4_goesOn 52 = .ok (.aload_n 0, 1) := dk_42 (dk_at dksX4_goesOn_2 4 rfl rfl)
theorem dX4_goesOn_53 : decode cX4_goesOn 53 = .ok (.getfield 60, 3) := dk_180 0 60 (dk_at dksX4_goesOn_2 5 rfl rfl)
theorem dX4_goesOn_56 : decode cX4_goesOn 56 = .ok (.putfield 57, 3) := dk_181 0 57 (dk_at dksX4_goesOn_2 8 rfl rfl)
theorem dX4_goesOn_59 : decode cX4_goesOn 59 = .ok (.aload_n 0, 1) := dk_42 (dk_at dksX4_goesOn_2 11 rfl rfl)
theorem dX4_goesOn_60 : decode cX4_goesOn 60 = .ok (.ldc 15, 2) := dk_18 15 (dk_at dksX4_goesOn_2 12 rfl rfl)
theorem dX4_goesOn_62 : decode cX4_goesOn 62 = .ok (.putfield 17, 3) := dk_181 0 17 (dk_at dksX4_goesOn_2 14 rfl rfl)
theorem dX4_goesOn_65 : decode cX4_goesOn 65 = .ok (.aload_n 0, 1) := dk_42 (dk_at dksX4_goesOn_2 17 rfl rfl)
theorem dX4_goesOn_66 : decode cX4_goesOn 66 = .ok (.getfield 60, 3) := dk_180 0 60 (dk_at dksX4_goesOn_2 18 rfl rfl)
theorem dX4_goesOn_69 : decode cX4_goesOn 69 = .ok (.aload_n 0, 1) := dk_42 (dk_at dksX4_goesOn_2 21 rfl rfl)
theorem dX4_goesOn_70 : decode cX4_goesOn 70 = .ok (.getfield 42, 3) := dk_180 0 42 (dk_at dksX4_goesOn_3 0 rfl rfl)
theorem dX4_goesOn_73 : decode cX4_goesOn 73 = .ok (.if_icmp .lt 11, 3) := dk_161 0 11 (dk_at dksX4_goesOn_3 3 rfl rfl)
theorem dX4_goesOn_76 : decode cX4_goesOn 76 = .ok (.aload_n 0, 1) := dk_42 (dk_at dksX4_goesOn_3 6 rfl rfl)
theorem dX4_goesOn_77 : decode cX4_goesOn 77 = .ok (.iconst 0, 1) := dk_3 (dk_at dksX4_goesOn_3 7 rfl rfl)
theorem dX4_goesOn_78 : decode cX4_goesOn 78 = .ok (.putfield 67, 3) := dk_181 0 67 (dk_at dksX4_goesOn_3 8 rfl rfl)
theorem dX4_goesOn_81 : decode cX4_goesOn 81 = .ok (.goto 276, 3) := dk_167 1 20 (dk_at dksX4_goesOn_3 11 rfl rfl)
theorem dX4_goesOn_84 : decode cX4_goesOn 84 = .ok (.aload_n 0, 1) := dk_42 (dk_at dksX4_goesOn_3 14 rfl rfl)
theorem dX4_goesOn_85 : decode cX4_goesOn 85 = .ok (.aload_n 0, 1) := dk_42 (dk_at dksX4_goesOn_3 15 rfl rfl)
theorem dX4_goesOn_86 : decode cX4_goesOn 86 = .ok (.getfield 60, 3) := dk_180 0 60 (dk_at dksX4_goesOn_3 16 rfl rfl)
theorem dX4_goesOn_89 : decode cX4_goesOn 89 = .ok (.bipush 97, 2) := dk_16 97 (dk_at dksX4_goesOn_3 19 rfl rfl)
theorem dX4_goesOn_91 : decode cX4_goesOn 91 = .ok (.bipush 122, 2) := dk_16 122 (dk_at dksX4_goesOn_3 21 rfl rfl)
theorem dX4_goesOn_93 : decode cX4_goesOn 93 = .ok (.invokevirtual 63, 3) := dk_182 0 63 (dk_at dksX4_goesOn_4 0 rfl rfl)
theorem dX4_goesOn_96 : decode cX4_goesOn 96 = .ok (.ifCond .eq 105, 3) := dk_153 0 105 (dk_at dksX4_goesOn_4 3 rfl rfl)
theorem dX4_goesOn_99 : decode cX4_goesOn 99 = .ok (.new 70, 3) := dk_187 0 70 (dk_at dksX4_goesOn_4 6 rfl rfl)
theorem dX4_goesOn_102 : decode cX4_goesOn 102 = .ok (.dup, 1) := dk_89 (dk_at dksX4_goesOn_4 9 rfl rfl)
theorem dX4_goesOn_103 : decode cX4_goesOn 103 = .ok (.invokespecial 72, 3) := dk_183 0 72 (dk_at dksX4_goesOn_4 10 rfl rfl)
theorem dX4_goesOn_106 : decode cX4_goesOn 106 = .ok (.astore_n 1, 1) := dk_76 (dk_at dksX4_goesOn_4 13 rfl rfl)
theorem dX4_goesOn_107 : decode cX4_goesOn 107 = .ok (.aload_n 0, 1) := dk_42 (dk_at dksX4_goesOn_4 14 rfl rfl)
theorem dX4_goesOn_108 : decode cX4_goesOn 108 = .ok (.aload_n 0, 1) := dk_42 (dk_at dksX4_goesOn_4 15 rfl rfl)
theorem dX4_goesOn_109 : decode cX4_goesOn 109 = .ok (.getfield 57, 3) := dk_180 0 57 (dk_at dksX4_goesOn_4 16 rfl rfl)
theorem dX4_goesOn_112 : decode cX4_goesOn 112 = .ok (.bipush 97, 2) := dk_16 97 (dk_at dksX4_goesOn_4 19 rfl rfl)
theorem dX4_goesOn_114 : decode cX4_goesOn 114 = .ok (.bipush 122, 2) := dk_16 122 (dk_at dksX4_goesOn_4 21 rfl rfl)
theorem dX4_goesOn_116 : decode cX4_goesOn 116 = .ok (.invokevirtual 63, 3) := dk_182 0 63 (dk_at dksX4_goesOn_5 0 rfl rfl)
theorem dX4_goesOn_119 : decode cX4_goesOn 119 = .ok (.ifCond .eq 48, 3) := dk_153 0 48 (dk_at dksX4_goesOn_5 3 rfl rfl)
theorem dX4_goesOn_122 : decode cX4_goesOn 122 = .ok (.aload_n 0, 1) := dk_42 (dk_at dksX4_goesOn_5 6 rfl rfl)
theorem dX4_goesOn_123 : decode cX4_goesOn 123 = .ok (.getfield 57, 3) := dk_180 0 57 (dk_at dksX4_goesOn_5 7 rfl rfl)
theorem dX4_goesOn_126 : decode cX4_goesOn 126 = .ok (.aload_n 0, 1) := dk_42 (dk_at dksX4_goesOn_5 10 rfl rfl)
theorem dX4_goesOn_127 : decode cX4_goesOn 127 = .ok (.getfield 60, 3) := dk_180 0 60 (dk_at dksX4_goesOn_5 11 rfl rfl)
theorem dX4_goesOn_130 : decode cX4_goesOn 130 = .ok (.isub, 1) := dk_100 (dk_at dksX4_goesOn_5 14 rfl rfl)
theorem dX4_goesOn_131 : decode cX4_goesOn 131 = .ok (.bipush 8, 2) := dk_16 8 (dk_at dksX4_goesOn_5 15 rfl rfl)
theorem dX4_goesOn_133 : decode cX4_goesOn 133 = .ok (.if_icmp .ge 21, 3) := dk_162 0 21 (dk_at dksX4_goesOn_5 17 rfl rfl)
theorem dX4_goesOn_136 : decode cX4_goesOn 136 = .ok (.aload_n 1, 1) := dk_43 (dk_at dksX4_goesOn_5 20 rfl rfl)
theorem dX4_goesOn_137 : decode cX4_goesOn 137 = .ok (.aload_n 0, 1) := dk_42 (dk_at dksX4_goesOn_5 21 rfl rfl)
theorem dX4_goesOn_138 : decode cX4_goesOn 138 = .ok (.getfield 3, 3) := dk_180 0 3 (dk_at dksX4_goesOn_6 0 rfl rfl)
theorem dX4_goesOn_141 : decode cX4_goesOn 141 = .ok (.getfield 49, 3) := dk_180 0 49 (dk_at dksX4_goesOn_6 3 rfl rfl)
theorem dX4_goesOn_144 : decode cX4_goesOn 144 = .ok (.aload_n 0, 1) := dk_42 (dk_at dksX4_goesOn_6 6 rfl rfl)
theorem dX4_goesOn_145 : decode cX4_goesOn 145 = .ok (.getfield 57, 3) := dk_180 0 57 (dk_at dksX4_goesOn_6 7 rfl rfl)
theorem dX4_goesOn_148 : decode cX4_goesOn 148 = .ok (.baload, 1) := dk_51 (dk_at dksX4_goesOn_6 10 rfl rfl)
theorem dX4_goesOn_149 : decode cX4_goesOn 149 = .ok (.i2c, 1) := dk_146 (dk_at dksX4_goesOn_6 11 rfl rfl)
theorem dX4_goesOn_150 : decode cX4_goesOn 150 = .ok (.invokevirtual 73, 3) := dk_182 0 73 (dk_at dksX4_goesOn_6 12 rfl rfl)
theorem dX4_goesOn_153 : decode cX4_goesOn 153 = .ok (.pop, 1) := dk_87 (dk_at dksX4_goesOn_6 15 rfl rfl)
theorem dX4_goesOn_154 : decode cX4_goesOn 154 = .ok (.aload_n 0, 1) := dk_42 (dk_at dksX4_goesOn_6 16 rfl rfl)
theorem dX4_goesOn_155 : decode cX4_goesOn 155 = .ok (.dup, 1) := dk_89 (dk_at dksX4_goesOn_6 17 rfl rfl)
theorem dX4_goesOn_156 : decode cX4_goesOn 156 = .ok (.getfield 57, 3) := dk_180 0 57 (dk_at dksX4_goesOn_6 18 rfl rfl)
theorem dX4_goesOn_159 : decode cX4_goesOn 159 = .ok (.iconst 1, 1) := dk_4 (dk_at dksX4_goesOn_6 21 rfl rfl)
theorem dX4_goesOn_160 : decode cX4_goesOn 160 = .ok (.iadd, 1) := dk_96 (dk_at dksX4_goesOn_6 22 rfl rfl)
theorem dX4_goesOn_161 : decode cX4_goesOn 161 = .ok (.putfield 57, 3) := dk_181 0 57 (dk_at dksX4_goesOn_7 0 rfl rfl)
theorem dX4_goesOn_164 : decode cX4_goesOn 164 = .ok (.goto (-57), 3) := dk_167 255 199 (dk_at dksX4_goesOn_7 3 rfl rfl)
theorem dX4_goesOn_167 : decode cX4_goesOn 167 = .ok (.aload_n 0, 1) := dk_42 (dk_at dksX4_goesOn_7 6 rfl rfl)
theorem dX4_goesOn_168 : decode cX4_goesOn 168 = .ok (.aload_n 1, 1) := dk_43 (dk_at dksX4_goesOn_7 7 rfl rfl)
theorem dX4_goesOn_169 : decode cX4_goesOn 169 = .ok (.invokevirtual 77, 3) := dk_182 0 77 (dk_at dksX4_goesOn_7 8 rfl rfl)
theorem dX4_goesOn_172 : decode cX4_goesOn 172 = .ok (.putfield 17, 3) := dk_181 0 17 (dk_at dksX4_goesOn_7 11 rfl rfl)
theorem dX4_goesOn_175 : decode cX4_goesOn 175 = .ok (.aload_n 0, 1) := dk_42 (dk_at dksX4_goesOn_7 14 rfl rfl)
theorem dX4_goesOn_176 : decode cX4_goesOn 176 = .ok (.aload_n 0, 1) := dk_42 (dk_at dksX4_goesOn_7 15 rfl rfl)
theorem dX4_goesOn_177 : decode cX4_goesOn 177 = .ok (.getfield 57, 3) := dk_180 0 57 (dk_at dksX4_goesOn_7 16 rfl rfl)
theorem dX4_goesOn_180 : decode cX4_goesOn 180 = .ok (.aload_n 0, 1) := dk_42 (dk_at dksX4_goesOn_7 19 rfl rfl)
theorem dX4_goesOn_181 : decode cX4_goesOn 181 = .ok (.getfield 60, 3) := dk_180 0 60 (dk_at dksX4_goesOn_7 20 rfl rfl)
theorem dX4_goesOn_184 : decode cX4_goesOn 184 = .ok (.isub, 1) := dk_100 (dk_at dksX4_goesOn_7 23 rfl rfl)
theorem dX4_goesOn_185 : decode cX4_goesOn 185 = .ok (.bipush 8, 2) := dk_16 8 (dk_at dksX4_goesOn_8 0 rfl rfl)
theorem dX4_goesOn_187 : decode cX4_goesOn 187 = .ok (.if_icmp .le 7, 3) := dk_164 0 7 (dk_at dksX4_goesOn_8 2 rfl rfl)
theorem dX4_goesOn_190 : decode cX4_goesOn 190 = .ok (.iconst 4, 1) := dk_7 (dk_at dksX4_goesOn_8 5 rfl rfl)
theorem dX4_goesOn_191 : decode cX4_goesOn 191 = .ok (.goto 4, 3) := dk_167 0 4 (dk_at dksX4_goesOn_8 6 rfl rfl)
theorem dX4_goesOn_194 : decode cX4_goesOn 194 = .ok (.iconst 1, 1) := dk_4 (dk_at dksX4_goesOn_8 9 rfl rfl)
theorem dX4_goesOn_195 : decode cX4_goesOn 195 = .ok (.putfield 67, 3) := dk_181 0 67 (dk_at dksX4_goesOn_8 10 rfl rfl)
theorem dX4_goesOn_198 : decode cX4_goesOn 198 = .ok (.goto 159, 3) := dk_167 0 159 (dk_at dksX4_goesOn_8 13 rfl rfl)
theorem dX4_goesOn_201 : decode cX4_goesOn 201 = .ok (.aload_n 0, 1) := dk_42 (dk_at dksX4_goesOn_8 16 rfl rfl)
theorem dX4_goesOn_202 : decode cX4_goesOn 202 = .ok (.aload_n 0, 1) := dk_42 (dk_at dksX4_goesOn_8 17 rfl rfl)
theorem dX4_goesOn_203 : decode cX4_goesOn 203 = .ok (.getfield 60, 3) := dk_180 0 60 (dk_at dksX4_goesOn_8 18 rfl rfl)
theorem dX4_goesOn_206 : decode cX4_goesOn 206 = .ok (.bipush 48, 2) := dk_16 48 (dk_at dksX4_goesOn_8 21 rfl rfl)
theorem dX4_goesOn_208 : decode cX4_goesOn 208 = .ok (.bipush 57, 2) := dk_16 57 (dk_at dksX4_goesOn_9 0 rfl rfl)
theorem dX4_goesOn_210 : decode cX4_goesOn 210 = .ok (.invokevirtual 63, 3) := dk_182 0 63 (dk_at dksX4_goesOn_9 2 rfl rfl)
theorem dX4_goesOn_213 : decode cX4_goesOn 213 = .ok (.ifCond .eq 108, 3) := dk_153 0 108 (dk_at dksX4_goesOn_9 5 rfl rfl)
theorem dX4_goesOn_216 : decode cX4_goesOn 216 = .ok (.aload_n 0, 1) := dk_42 (dk_at dksX4_goesOn_9 8 rfl rfl)
theorem dX4_goesOn_217 : decode cX4_goesOn 217 = .ok (.iconst 0, 1) := dk_3 (dk_at dksX4_goesOn_9 9 rfl rfl)
theorem dX4_goesOn_218 : decode cX4_goesOn 218 = .ok (.putfield 81, 3) := dk_181 0 81 (dk_at dksX4_goesOn_9 10 rfl rfl)
theorem dX4_goesOn_221 : decode cX4_goesOn 221 = .ok (.aload_n 0, 1) := dk_42 (dk_at dksX4_goesOn_9 13 rfl rfl)
theorem dX4_goesOn_222 : decode cX4_goesOn 222 = .ok (.aload_n 0, 1) := dk_42 (dk_at dksX4_goesOn_9 14 rfl rfl)
theorem dX4_goesOn_223 : decode cX4_goesOn 223 = .ok (.getfield 57, 3) := dk_180 0 57 (dk_at dksX4_goesOn_9 15 rfl rfl)
theorem dX4_goesOn_226 : decode cX4_goesOn 226 = .ok (.bipush 48, 2) := dk_16 48 (dk_at dksX4_goesOn_9 18 rfl rfl)
theorem dX4_goesOn_228 : decode cX4_goesOn 228 = .ok (.bipush 57, 2) := dk_16 57 (dk_at dksX4_goesOn_9 20 rfl rfl)
theorem dX4_goesOn_230 : decode cX4_goesOn 230 = .ok (.invokevirtual 63, 3) := dk_182 0 63 (dk_at dksX4_goesOn_10 0 rfl rfl)
theorem dX4_goesOn_233 : decode cX4_goesOn 233 = .ok (.ifCond .eq 63, 3) := dk_153 0 63 (dk_at dksX4_goesOn_10 3 rfl rfl)
theorem dX4_goesOn_236 : decode cX4_goesOn 236 = .ok (.aload_n 0, 1) := dk_42 (dk_at dksX4_goesOn_10 6 rfl rfl)
theorem dX4_goesOn_237 : decode cX4_goesOn 237 = .ok (.aload_n 0, 1) := dk_42 (dk_at dksX4_goesOn_10 7 rfl rfl)
theorem dX4_goesOn_238 : decode cX4_goesOn 238 = .ok (.getfield 57, 3) := dk_180 0 57 (dk_at dksX4_goesOn_10 8 rfl rfl)
theorem dX4_goesOn_241 : decode cX4_goesOn 241 = .ok (.aload_n 0, 1) := dk_42 (dk_at dksX4_goesOn_10 11 rfl rfl)
theorem dX4_goesOn_242 : decode cX4_goesOn 242 = .ok (.getfield 60, 3) := dk_180 0 60 (dk_at dksX4_goesOn_10 12 rfl rfl)
theorem dX4_goesOn_245 : decode cX4_goesOn 245 = .ok (.isub, 1) := dk_100 (dk_at dksX4_goesOn_10 15 rfl rfl)
theorem dX4_goesOn_246 : decode cX4_goesOn 246 = .ok (.iconst 3, 1) := dk_6 (dk_at dksX4_goesOn_10 16 rfl rfl)
theorem dX4_goesOn_247 : decode cX4_goesOn 247 = .ok (.if_icmp .ge 29, 3) := dk_162 0 29 (dk_at dksX4_goesOn_10 17 rfl rfl)
theorem dX4_goesOn_250 : decode cX4_goesOn 250 = .ok (.bipush 10, 2) := dk_16 10 (dk_at dksX4_goesOn_10 20 rfl rfl)
theorem dX4_goesOn_252 : decode cX4_goesOn 252 = .ok (.aload_n 0, 1) := dk_42 (dk_at dksX4_goesOn_10 22 rfl rfl)
theorem dX4_goesOn_253 : decode cX4_goesOn 253 = .ok (.getfield 81, 3) := dk_180 0 81 (dk_at dksX4_goesOn_11 0 rfl rfl)
theorem dX4_goesOn_256 : decode cX4_goesOn 256 = .ok (.imul, 1) := dk_104 (dk_at dksX4_goesOn_11 3 rfl rfl)
theorem dX4_goesOn_257 : decode cX4_goesOn 257 = .ok (.aload_n 0, 1) := dk_42 (dk_at dksX4_goesOn_11 4 rfl rfl)
theorem dX4_goesOn_258 : decode cX4_goesOn 258 = .ok (.getfield 3, 3) := dk_180 0 3 (dk_at dksX4_goesOn_11 5 rfl rfl)
theorem dX4_goesOn_261 : decode cX4_goesOn 261 = .ok (.getfield 49, 3) := dk_180 0 49 (dk_at dksX4_goesOn_11 8 rfl rfl)
theorem dX4_goesOn_264 : decode cX4_goesOn 264 = .ok (.aload_n 0, 1) := dk_42 (dk_at dksX4_goesOn_11 11 rfl rfl)
theorem dX4_goesOn_265 : decode cX4_goesOn 265 = .ok (.getfield 57, 3) := dk_180 0 57 (dk_at dksX4_goesOn_11 12 rfl rfl)
theorem dX4_goesOn_268 : decode cX4_goesOn 268 = .ok (.baload, 1) := dk_51 (dk_at dksX4_goesOn_11 15 rfl rfl)
theorem dX4_goesOn_269 : decode cX4_goesOn 269 = .ok (.iadd, 1) := dk_96 (dk_at dksX4_goesOn_11 16 rfl rfl)
theorem dX4_goesOn_270 : decode cX4_goesOn 270 = .ok (.bipush 48, 2) := dk_16 48 (dk_at dksX4_goesOn_11 17 rfl rfl)
theorem dX4_goesOn_272 : decode cX4_goesOn 272 = .ok (.isub, 1) := dk_100 (dk_at dksX4_goesOn_11 19 rfl rfl)
theorem dX4_goesOn_273 : decode cX4_goesOn 273 = .ok (.goto 7, 3) := dk_167 0 7 (dk_at dksX4_goesOn_11 20 rfl rfl)
theorem dX4_goesOn_276 : decode cX4_goesOn 276 = .ok (.aload_n 0, 1) := dk_42 (dk_at dksX4_goesOn_11 23 rfl rfl)
theorem dX4_goesOn_277 : decode cX4_goesOn 277 = .ok (.getfield 81, 3) := dk_180 0 81 (dk_at dksX4_goesOn_12 0 rfl rfl)
theorem dX4_goesOn_280 : decode cX4_goesOn 280 = .ok (.putfield 81, 3) := dk_181 0 81 (dk_at dksX4_goesOn_12 3 rfl rfl)
theorem dX4_goesOn_283 : decode cX4_goesOn 283 = .ok (.aload_n 0, 1) := dk_42 (dk_at dksX4_goesOn_12 6 rfl rfl)
theorem dX4_goesOn_284 : decode cX4_goesOn 284 = .ok (.dup, 1) := dk_89 (dk_at dksX4_goesOn_12 7 rfl rfl)
theorem dX4_goesOn_285 : decode cX4_goesOn 285 = .ok (.getfield 57, 3) := dk_180 0 57 (dk_at dksX4_goesOn_12 8 rfl rfl)
theorem dX4_goesOn_288 : decode cX4_goesOn 288 = .ok (.iconst 1, 1) := dk_4 (dk_at dksX4_goesOn_12 11 rfl rfl)
theorem dX4_goesOn_289 : decode cX4_goesOn 289 = .ok (.iadd, 1) := dk_96 (dk_at dksX4_goesOn_12 12 rfl rfl)
theorem dX4_goesOn_290 : decode cX4_goesOn 290 = .ok (.putfield 57, 3) := dk_181 0 57 (dk_at dksX4_goesOn_12 13 rfl rfl)
theorem dX4_goesOn_293 : decode cX4_goesOn 293 = .ok (.goto (-72), 3) := dk_167 255 184 (dk_at dksX4_goesOn_12 16 rfl rfl)
theorem dX4_goesOn_296 : decode cX4_goesOn 296 = .ok (.aload_n 0, 1) := dk_42 (dk_at dksX4_goesOn_12 19 rfl rfl)
theorem dX4_goesOn_297 : decode cX4_goesOn 297 = .ok (.aload_n 0, 1) := dk_42 (dk_at dksX4_goesOn_12 20 rfl rfl)
theorem dX4_goesOn_298 : decode cX4_goesOn 298 = .ok (.getfield 57, 3) := dk_180 0 57 (dk_at dksX4_goesOn_12 21 rfl rfl)
theorem dX4_goesOn_301 : decode cX4_goesOn 301 = .ok (.aload_n 0, 1) := dk_42 (dk_at dksX4_goesOn_13 0 rfl rfl)
theorem dX4_goesOn_302 : decode cX4_goesOn 302 = .ok (.getfield 60, 3) := dk_180 0 60 (dk_at dksX4_goesOn_13 1 rfl rfl)
theorem dX4_goesOn_305 : decode cX4_goesOn 305 = .ok (.isub, 1) := dk_100 (dk_at dksX4_goesOn_13 4 rfl rfl)
theorem dX4_goesOn_306 : decode cX4_goesOn 306 = .ok (.iconst 3, 1) := dk_6 (dk_at dksX4_goesOn_13 5 rfl rfl)
theorem dX4_goesOn_307 : decode cX4_goesOn 307 = .ok (.if_icmp .le 7, 3) := dk_164 0 7 (dk_at dksX4_goesOn_13 6 rfl rfl)
theorem dX4_goesOn_310 : decode cX4_goesOn 310 = .ok (.iconst 4, 1) := dk_7 (dk_at dksX4_goesOn_13 9 rfl rfl)
theorem dX4_goesOn_311 : decode cX4_goesOn 311 = .ok (.goto 4, 3) := dk_167 0 4 (dk_at dksX4_goesOn_13 10 rfl rfl)
theorem dX4_goesOn_314 : decode cX4_goesOn 314 = .ok (.iconst 2, 1) := dk_5 (dk_at dksX4_goesOn_13 13 rfl rfl)
theorem dX4_goesOn_315 : decode cX4_goesOn 315 = .ok (.putfield 67, 3) := dk_181 0 67 (dk_at dksX4_goesOn_13 14 rfl rfl)
theorem dX4_goesOn_318 : decode cX4_goesOn 318 = .ok (.goto 39, 3) := dk_167 0 39 (dk_at dksX4_goesOn_13 17 rfl rfl)
theorem dX4_goesOn_321 : decode cX4_goesOn 321 = .ok (.aload_n 0, 1) := dk_42 (dk_at dksX4_goesOn_13 20 rfl rfl)
theorem dX4_goesOn_322 : decode cX4_goesOn 322 = .ok (.dup, 1) := dk_89 (dk_at dksX4_goesOn_13 21 rfl rfl)
theorem dX4_goesOn_323 : decode cX4_goesOn 323 = .ok (.getfield 57, 3) := dk_180 0 57 (dk_at dksX4_goesOn_14 0 rfl rfl)
theorem dX4_goesOn_326 : decode cX4_goesOn 326 = .ok (.iconst 1, 1) := dk_4 (dk_at dksX4_goesOn_14 3 rfl rfl)
theorem dX4_goesOn_327 : decode cX4_goesOn 327 = .ok (.iadd, 1) := dk_96 (dk_at dksX4_goesOn_14 4 rfl rfl)
theorem dX4_goesOn_328 : decode cX4_goesOn 328 = .ok (.putfield 57, 3) := dk_181 0 57 (dk_at dksX4_goesOn_14 5 rfl rfl)
theorem dX4_goesOn_331 : decode cX4_goesOn 331 = .ok (.aload_n 0, 1) := dk_42 (dk_at dksX4_goesOn_14 8 rfl rfl)
theorem dX4_goesOn_332 : decode cX4_goesOn 332 = .ok (.aload_n 0, 1) := dk_42 (dk_at dksX4_goesOn_14 9 rfl rfl)
theorem dX4_goesOn_333 : decode cX4_goesOn 333 = .ok (.getfield 3, 3) := dk_180 0 3 (dk_at dksX4_goesOn_14 10 rfl rfl)
theorem dX4_goesOn_336 : decode cX4_goesOn 336 = .ok (.getfield 49, 3) := dk_180 0 49 (dk_at dksX4_goesOn_14 13 rfl rfl)
theorem dX4_goesOn_339 : decode cX4_goesOn 339 = .ok (.aload_n 0, 1) := dk_42 (dk_at dksX4_goesOn_14 16 rfl rfl)
theorem dX4_goesOn_340 : decode cX4_goesOn 340 = .ok (.getfield 60, 3) := dk_180 0 60 (dk_at dksX4_goesOn_14 17 rfl rfl)
theorem dX4_goesOn_343 : decode cX4_goesOn 343 = .ok (.baload, 1) := dk_51 (dk_at dksX4_goesOn_14 20 rfl rfl)
theorem dX4_goesOn_344 : decode cX4_goesOn 344 = .ok (.bipush 59, 2) := dk_16 59 (dk_at dksX4_goesOn_14 21 rfl rfl)
theorem dX4_goesOn_346 : decode cX4_goesOn 346 = .ok (.if_icmp .ne 7, 3) := dk_160 0 7 (dk_at dksX4_goesOn_15 0 rfl rfl)
theorem dX4_goesOn_349 : decode cX4_goesOn 349 = .ok (.iconst 3, 1) := dk_6 (dk_at dksX4_goesOn_15 3 rfl rfl)
theorem dX4_goesOn_350 : decode cX4_goesOn 350 = .ok (.goto 4, 3) := dk_167 0 4 (dk_at dksX4_goesOn_15 4 rfl rfl)
theorem dX4_goesOn_353 : decode cX4_goesOn 353 = .ok (.iconst 4, 1) := dk_7 (dk_at dksX4_goesOn_15 7 rfl rfl)
theorem dX4_goesOn_354 : decode cX4_goesOn 354 = .ok (.putfield 67, 3) := dk_181 0 67 (dk_at dksX4_goesOn_15 8 rfl rfl)
theorem dX4_goesOn_357 : decode cX4_goesOn 357 = .ok (.return_, 1) := dk_177 (dk_at dksX4_goesOn_15 11 rfl rfl)
abbrev cX4_isAt : ByteArray := prog_9_method_2_code
def yX4_isAt : MethodName := ⟨RX4, "isAt", "(III)Z"⟩
def dkwX4_isAt_1 : List UInt8 := [184, 0, 53, 153, 0, 7, 4, 167, 0, 4, 3, 172]
abbrev dktX4_isAt_1 : List UInt8 := dkwX4_isAt_1 ++ []
def dkwX4_isAt_0 : List UInt8 := [27, 42, 180, 0, 42, 162, 0, 27, 42, 180, 0, 3, 180, 0, 49, 27, 51, 133, 28, 133, 29, 133]
abbrev dktX4_isAt_0 : List UInt8 := dkwX4_isAt_0 ++ dktX4_isAt_1
theorem dksX4_isAt_0 : cX4_isAt.data.toList.drop 0 = dktX4_isAt_0 := by decide +kernel
theorem dksX4_isAt_1 : cX4_isAt.data.toList.drop 22 = dktX4_isAt_1 := dk_seg dksX4_isAt_0 22 rfl rfl
theorem dX4_isAt_0 : decode cX4_isAt 0 = .ok (.iload_n 1, 1) := dk_27 (dk_at dksX4_isAt_0 0 rfl rfl)
theorem dX4_isAt_1 : decode cX4_isAt 1 = .ok (.aload_n 0, 1) := dk_42 (dk_at dksX4_isAt_0 1 rfl rfl)
theorem dX4_isAt_2 : decode cX4_isAt 2 = .ok (.getfield 42, 3) := dk_180 0 42 (dk_at dksX4_isAt_0 2 rfl rfl)
theorem dX4_isAt_5 : decode cX4_isAt 5 = .ok (.if_icmp .ge 27, 3) := dk_162 0 27 (dk_at dksX4_isAt_0 5 rfl rfl)
theorem dX4_isAt_8 : decode cX4_isAt 8 = .ok (.aload_n 0, 1) := dk_42 (dk_at dksX4_isAt_0 8 rfl rfl)
theorem dX4_isAt_9 : decode cX4_isAt 9 = .ok (.getfield 3, 3) := dk_180 0 3 (dk_at dksX4_isAt_0 9 rfl rfl)
theorem dX4_isAt_12 : decode cX4_isAt 12 = .ok (.getfield 49, 3) := dk_180 0 49 (dk_at dksX4_isAt_0 12 rfl rfl)
theorem dX4_isAt_15 : decode cX4_isAt 15 = .ok (.iload_n 1, 1) := dk_27 (dk_at dksX4_isAt_0 15 rfl rfl)
theorem dX4_isAt_16 : decode cX4_isAt 16 = .ok (.baload, 1) := dk_51 (dk_at dksX4_isAt_0 16 rfl rfl)
theorem dX4_isAt_17 : decode cX4_isAt 17 = .ok (.i2l, 1) := dk_133 (dk_at dksX4_isAt_0 17 rfl rfl)
theorem dX4_isAt_18 : decode cX4_isAt 18 = .ok (.iload_n 2, 1) := dk_28 (dk_at dksX4_isAt_0 18 rfl rfl)
theorem dX4_isAt_19 : decode cX4_isAt 19 = .ok (.i2l, 1) := dk_133 (dk_at dksX4_isAt_0 19 rfl rfl)
theorem dX4_isAt_20 : decode cX4_isAt 20 = .ok (.iload_n 3, 1) := dk_29 (dk_at dksX4_isAt_0 20 rfl rfl)
theorem dX4_isAt_21 : decode cX4_isAt 21 = .ok (.i2l, 1) := dk_133 (dk_at dksX4_isAt_0 21 rfl rfl)
theorem dX4_isAt_22 : decode cX4_isAt 22 = .ok (.invokestatic 53, 3) := dk_184 0 53 (dk_at dksX4_isAt_1 0 rfl rfl)
theorem dX4_isAt_25 : decode cX4_isAt 25 = .ok (.ifCond .eq 7, 3) := dk_153 0 7 (dk_at dksX4_isAt_1 3 rfl rfl)
theorem dX4_isAt_28 : decode cX4_isAt 28 = .ok (.iconst 1, 1) := dk_4 (dk_at dksX4_isAt_1 6 rfl rfl)
theorem dX4_isAt_29 : decode cX4_isAt 29 = .ok (.goto 4, 3) := dk_167 0 4 (dk_at dksX4_isAt_1 7 rfl rfl)
theorem dX4_isAt_32 : decode cX4_isAt 32 = .ok (.iconst 0, 1) := dk_3 (dk_at dksX4_isAt_1 10 rfl rfl)
theorem dX4_isAt_33 : decode cX4_isAt 33 = .ok (.ireturn, 1) := dk_172 (dk_at dksX4_isAt_1 11 rfl rfl)
abbrev cX4_all : ByteArray := prog_9_method_15_code
def yX4_all : MethodName := ⟨RX4, "all", "()V"⟩
def dkwX4_all_2 : List UInt8 := [6, 160, 0, 7, 4, 167, 0, 4, 3, 5, 182, 0, 107, 42, 182, 0, 46, 167, 255, 191, 177]
abbrev dktX4_all_2 : List UInt8 := dkwX4_all_2 ++ []
def dkwX4_all_1 : List UInt8 := [18, 207, 182, 0, 168, 153, 0, 10, 42, 182, 0, 209, 167, 0, 7, 42, 182, 0, 212, 42, 42, 180, 0, 67]
abbrev dktX4_all_1 : List UInt8 := dkwX4_all_1 ++ dktX4_all_2
def dkwX4_all_0 : List UInt8 := [42, 180, 0, 67, 153, 0, 64, 42, 18, 202, 182, 0, 168, 153, 0, 10, 42, 182, 0, 204, 167, 0, 23, 42]
abbrev dktX4_all_0 : List UInt8 := dkwX4_all_0 ++ dktX4_all_1
theorem dksX4_all_0 : cX4_all.data.toList.drop 0 = dktX4_all_0 := by decide +kernel
theorem dksX4_all_1 : cX4_all.data.toList.drop 24 = dktX4_all_1 := dk_seg dksX4_all_0 24 rfl rfl
theorem dksX4_all_2 : cX4_all.data.toList.drop 48 = dktX4_all_2 := dk_seg dksX4_all_1 24 rfl rfl
theorem dX4_all_0 : decode cX4_all 0 = .ok (.aload_n 0, 1) := dk_42 (dk_at dksX4_all_0 0 rfl rfl)
theorem dX4_all_1 : decode cX4_all 1 = .ok (.getfield 67, 3) := dk_180 0 67 (dk_at dksX4_all_0 1 rfl rfl)
theorem dX4_all_4 : decode cX4_all 4 = .ok (.ifCond .eq 64, 3) := dk_153 0 64 (dk_at dksX4_all_0 4 rfl rfl)
theorem dX4_all_7 : decode cX4_all 7 = .ok (.aload_n 0, 1) := dk_42 (dk_at dksX4_all_0 7 rfl rfl)
theorem dX4_all_8 : decode cX4_all 8 = .ok (.ldc 202, 2) := dk_18 202 (dk_at dksX4_all_0 8 rfl rfl)
theorem dX4_all_10 : decode cX4_all 10 = .ok (.invokevirtual 168, 3) := dk_182 0 168 (dk_at dksX4_all_0 10 rfl rfl)
theorem dX4_all_13 : decode cX4_all 13 = .ok (.ifCond .eq 10, 3) := dk_153 0 10 (dk_at dksX4_all_0 13 rfl rfl)
theorem dX4_all_16 : decode cX4_all 16 = .ok (.aload_n 0, 1) := dk_42 (dk_at dksX4_all_0 16 rfl rfl)
theorem dX4_all_17 : decode cX4_all 17 = .ok (.invokevirtual 204, 3) := dk_182 0 204 (dk_at dksX4_all_0 17 rfl rfl)
theorem dX4_all_20 : decode cX4_all 20 = .ok (.goto 23, 3) := dk_167 0 23 (dk_at dksX4_all_0 20 rfl rfl)
theorem dX4_all_23 : decode cX4_all 23 = .ok (.aload_n 0, 1) := dk_42 (dk_at dksX4_all_0 23 rfl rfl)
theorem dX4_all_24 : decode cX4_all 24 = .ok (.ldc 207, 2) := dk_18 207 (dk_at dksX4_all_1 0 rfl rfl)
theorem dX4_all_26 : decode cX4_all 26 = .ok (.invokevirtual 168, 3) := dk_182 0 168 (dk_at dksX4_all_1 2 rfl rfl)
theorem dX4_all_29 : decode cX4_all 29 = .ok (.ifCond .eq 10, 3) := dk_153 0 10 (dk_at dksX4_all_1 5 rfl rfl)
theorem dX4_all_32 : decode cX4_all 32 = .ok (.aload_n 0, 1) := dk_42 (dk_at dksX4_all_1 8 rfl rfl)
theorem dX4_all_33 : decode cX4_all 33 = .ok (.invokevirtual 209, 3) := dk_182 0 209 (dk_at dksX4_all_1 9 rfl rfl)
theorem dX4_all_36 : decode cX4_all 36 = .ok (.goto 7, 3) := dk_167 0 7 (dk_at dksX4_all_1 12 rfl rfl)
theorem dX4_all_39 : decode cX4_all 39 = .ok (.aload_n 0, 1) := dk_42 (dk_at dksX4_all_1 15 rfl rfl)
theorem dX4_all_40 : decode cX4_all 40 = .ok (.invokevirtual 212, 3) := dk_182 0 212 (dk_at dksX4_all_1 16 rfl rfl)
theorem dX4_all_43 : decode cX4_all 43 = .ok (.aload_n 0, 1) := dk_42 (dk_at dksX4_all_1 19 rfl rfl)
theorem dX4_all_44 : decode cX4_all 44 = .ok (.aload_n 0, 1) := dk_42 (dk_at dksX4_all_1 20 rfl rfl)
theorem dX4_all_45 : decode cX4_all 45 = .ok (.getfield 67, 3) := dk_180 0 67 (dk_at dksX4_all_1 21 rfl rfl)
theorem dX4_all_48 : decode cX4_all 48 = .ok (.iconst 3, 1) := dk_6 (dk_at dksX4_all_2 0 rfl rfl)
theorem dX4_all_49 : decode cX4_all 49 = .ok (.if_icmp .ne 7, 3) := dk_160 0 7 (dk_at dksX4_all_2 1 rfl rfl)
theorem dX4_all_52 : decode cX4_all 52 = .ok (.iconst 1, 1) := dk_4 (dk_at dksX4_all_2 4 rfl rfl)
theorem dX4_all_53 : decode cX4_all 53 = .ok (.goto 4, 3) := dk_167 0 4 (dk_at dksX4_all_2 5 rfl rfl)
theorem dX4_all_56 : decode cX4_all 56 = .ok (.iconst 0, 1) := dk_3 (dk_at dksX4_all_2 8 rfl rfl)
theorem dX4_all_57 : decode cX4_all 57 = .ok (.iconst 2, 1) := dk_5 (dk_at dksX4_all_2 9 rfl rfl)
theorem dX4_all_58 : decode cX4_all 58 = .ok (.invokevirtual 107, 3) := dk_182 0 107 (dk_at dksX4_all_2 10 rfl rfl)
theorem dX4_all_61 : decode cX4_all 61 = .ok (.aload_n 0, 1) := dk_42 (dk_at dksX4_all_2 13 rfl rfl)
theorem dX4_all_62 : decode cX4_all 62 = .ok (.invokevirtual 46, 3) := dk_182 0 46 (dk_at dksX4_all_2 14 rfl rfl)
theorem dX4_all_65 : decode cX4_all 65 = .ok (.goto (-65), 3) := dk_167 255 191 (dk_at dksX4_all_2 17 rfl rfl)
theorem dX4_all_68 : decode cX4_all 68 = .ok (.return_, 1) := dk_177 (dk_at dksX4_all_2 20 rfl rfl)
abbrev cX4_is : ByteArray := prog_9_method_5_code
def yX4_is : MethodName := ⟨RX4, "is", "(Ljava/lang/String;)Z"⟩
def dkwX4_is_1 : List UInt8 := [172]
abbrev dktX4_is_1 : List UInt8 := dkwX4_is_1 ++ []
def dkwX4_is_0 : List UInt8 := [42, 180, 0, 67, 4, 160, 0, 18, 42, 180, 0, 17, 43, 182, 0, 90, 153, 0, 7, 4, 167, 0, 4, 3]
abbrev dktX4_is_0 : List UInt8 := dkwX4_is_0 ++ dktX4_is_1
theorem dksX4_is_0 : cX4_is.data.toList.drop 0 = dktX4_is_0 := by decide +kernel
theorem dksX4_is_1 : cX4_is.data.toList.drop 24 = dktX4_is_1 := dk_seg dksX4_is_0 24 rfl rfl
theorem dX4_is_0 : decode cX4_is 0 = .ok (.aload_n 0, 1) := dk_42 (dk_at dksX4_is_0 0 rfl rfl)
theorem dX4_is_1 : decode cX4_is 1 = .ok (.getfield 67, 3) := dk_180 0 67 (dk_at dksX4_is_0 1 rfl rfl)
theorem dX4_is_4 : decode cX4_is 4 = .ok (.iconst 1, 1) := dk_4 (dk_at dksX4_is_0 4 rfl rfl)
theorem dX4_is_5 : decode cX4_is 5 = .ok (.if_icmp .ne 18, 3) := dk_160 0 18 (dk_at dksX4_is_0 5 rfl rfl)
theorem dX4_is_8 : decode cX4_is 8 = .ok (.aload_n 0, 1) := dk_42 (dk_at dksX4_is_0 8 rfl rfl)
theorem dX4_is_9 : decode cX4_is 9 = .ok (.getfield 17, 3) := dk_180 0 17 (dk_at dksX4_is_0 9 rfl rfl)
theorem dX4_is_12 : decode cX4_is 12 = .ok (.aload_n 1, 1) := dk_43 (dk_at dksX4_is_0 12 rfl rfl)
theorem dX4_is_13 : decode cX4_is 13 = .ok (.invokevirtual 90, 3) := dk_182 0 90 (dk_at dksX4_is_0 13 rfl rfl)
theorem dX4_is_16 : decode cX4_is 16 = .ok (.ifCond .eq 7, 3) := dk_153 0 7 (dk_at dksX4_is_0 16 rfl rfl)
theorem dX4_is_19 : decode cX4_is 19 = .ok (.iconst 1, 1) := dk_4 (dk_at dksX4_is_0 19 rfl rfl)
theorem dX4_is_20 : decode cX4_is 20 = .ok (.goto 4, 3) := dk_167 0 4 (dk_at dksX4_is_0 20 rfl rfl)
theorem dX4_is_23 : decode cX4_is 23 = .ok (.iconst 0, 1) := dk_3 (dk_at dksX4_is_0 23 rfl rfl)
theorem dX4_is_24 : decode cX4_is 24 = .ok (.ireturn, 1) := dk_172 (dk_at dksX4_is_1 0 rfl rfl)
abbrev cX4_homeLine : ByteArray := prog_9_method_11_code
def yX4_homeLine : MethodName := ⟨RX4, "homeLine", "()V"⟩
def dkwX4_homeLine_2 : List UInt8 := [28, 42, 3, 16, 7, 182, 0, 152, 183, 0, 156, 182, 0, 159, 87, 177]
abbrev dktX4_homeLine_2 : List UInt8 := dkwX4_homeLine_2 ++ []
def dkwX4_homeLine_1 : List UInt8 := [182, 0, 46, 42, 182, 0, 149, 76, 42, 4, 7, 182, 0, 152, 61, 42, 180, 0, 26, 187, 0, 118, 89, 43]
abbrev dktX4_homeLine_1 : List UInt8 := dkwX4_homeLine_1 ++ dktX4_homeLine_2
def dkwX4_homeLine_0 : List UInt8 := [42, 42, 180, 0, 26, 182, 0, 111, 16, 10, 162, 0, 7, 4, 167, 0, 4, 3, 8, 182, 0, 107, 42]
abbrev dktX4_homeLine_0 : List UInt8 := dkwX4_homeLine_0 ++ dktX4_homeLine_1
theorem dksX4_homeLine_0 : cX4_homeLine.data.toList.drop 0 = dktX4_homeLine_0 := by decide +kernel
theorem dksX4_homeLine_1 : cX4_homeLine.data.toList.drop 23 = dktX4_homeLine_1 := dk_seg dksX4_homeLine_0 23 rfl rfl
theorem dksX4_homeLine_2 : cX4_homeLine.data.toList.drop 47 = dktX4_homeLine_2 := dk_seg dksX4_homeLine_1 24 rfl rfl
theorem dX4_homeLine_0 : decode cX4_homeLine 0 = .ok (.aload_n 0, 1) := dk_42 (dk_at dksX4_homeLine_0 0 rfl rfl)
theorem dX4_homeLine_1 : decode cX4_homeLine 1 = .ok (.aload_n 0, 1) := dk_42 (dk_at dksX4_homeLine_0 1 rfl rfl)
theorem dX4_homeLine_2 : decode cX4_homeLine 2 = .ok (.getfield 26, 3) := dk_180 0 26 (dk_at dksX4_homeLine_0 2 rfl rfl)
theorem dX4_homeLine_5 : decode cX4_homeLine 5 = .ok (.invokevirtual 111, 3) := dk_182 0 111 (dk_at dksX4_homeLine_0 5 rfl rfl)
theorem dX4_homeLine_8 : decode cX4_homeLine 8 = .ok (.bipush 10, 2) := dk_16 10 (dk_at dksX4_homeLine_0 8 rfl rfl)
theorem dX4_homeLine_10 : decode cX4_homeLine 10 = .ok (.if_icmp .ge 7, 3) := dk_162 0 7 (dk_at dksX4_homeLine_0 10 rfl rfl)
theorem dX4_homeLine_13 : decode cX4_homeLine 13 = .ok (.iconst 1, 1) := dk_4 (dk_at dksX4_homeLine_0 13 rfl rfl)
theorem dX4_homeLine_14 : decode cX4_homeLine 14 = .ok (.goto 4, 3) := dk_167 0 4 (dk_at dksX4_homeLine_0 14 rfl rfl)
theorem dX4_homeLine_17 : decode cX4_homeLine 17 = .ok (.iconst 0, 1) := dk_3 (dk_at dksX4_homeLine_0 17 rfl rfl)
theorem dX4_homeLine_18 : decode cX4_homeLine 18 = .ok (.iconst 5, 1) := dk_8 (dk_at dksX4_homeLine_0 18 rfl rfl)
theorem dX4_homeLine_19 : decode cX4_homeLine 19 = .ok (.invokevirtual 107, 3) := dk_182 0 107 (dk_at dksX4_homeLine_0 19 rfl rfl)
theorem dX4_homeLine_22 : decode cX4_homeLine 22 = .ok (.aload_n 0, 1) := dk_42 (dk_at dksX4_homeLine_0 22 rfl rfl)
theorem dX4_homeLine_23 : decode cX4_homeLine 23 = .ok (.invokevirtual 46, 3) := dk_182 0 46 (dk_at dksX4_homeLine_1 0 rfl rfl)
theorem dX4_homeLine_26 : decode cX4_homeLine 26 = .ok (.aload_n 0, 1) := dk_42 (dk_at dksX4_homeLine_1 3 rfl rfl)
theorem dX4_homeLine_27 : decode cX4_homeLine 27 = .ok (.invokevirtual 149, 3) := dk_182 0 149 (dk_at dksX4_homeLine_1 4 rfl rfl)
theorem dX4_homeLine_30 : decode cX4_homeLine 30 = .ok (.astore_n 1, 1) := dk_76 (dk_at dksX4_homeLine_1 7 rfl rfl)
theorem dX4_homeLine_31 : decode cX4_homeLine 31 = .ok (.aload_n 0, 1) := dk_42 (dk_at dksX4_homeLine_1 8 rfl rfl)
theorem dX4_homeLine_32 : decode cX4_homeLine 32 = .ok (.iconst 1, 1) := dk_4 (dk_at dksX4_homeLine_1 9 rfl rfl)
theorem dX4_homeLine_33 : decode cX4_homeLine 33 = .ok (.iconst 4, 1) := dk_7 (dk_at dksX4_homeLine_1 10 rfl rfl)
theorem dX4_homeLine_34 : decode cX4_homeLine 34 = .ok (.invokevirtual 152, 3) := dk_182 0 152 (dk_at dksX4_homeLine_1 11 rfl rfl)
theorem dX4_homeLine_37 : decode cX4_homeLine 37 = .ok (.istore_n 2, 1) := dk_61 (dk_at dksX4_homeLine_1 14 rfl rfl)
theorem dX4_homeLine_38 : decode cX4_homeLine 38 = .ok (.aload_n 0, 1) := dk_42 (dk_at dksX4_homeLine_1 15 rfl rfl)
theorem dX4_homeLine_39 : decode cX4_homeLine 39 = .ok (.getfield 26, 3) := dk_180 0 26 (dk_at dksX4_homeLine_1 16 rfl rfl)
theorem dX4_homeLine_42 : decode cX4_homeLine 42 = .ok (.new 118, 3) := dk_187 0 118 (dk_at dksX4_homeLine_1 19 rfl rfl)
theorem dX4_homeLine_45 : decode cX4_homeLine 45 = .ok (.dup, 1) := dk_89 (dk_at dksX4_homeLine_1 22 rfl rfl)
theorem dX4_homeLine_46 : decode cX4_homeLine 46 = .ok (.aload_n 1, 1) := dk_43 (dk_at dksX4_homeLine_1 23 rfl rfl)
theorem dX4_homeLine_47 : decode cX4_homeLine 47 = .ok (.iload_n 2, 1) := dk_28 (dk_at dksX4_homeLine_2 0 rfl rfl)
theorem dX4_homeLine_48 : decode cX4_homeLine 48 = .ok (.aload_n 0, 1) := dk_42 (dk_at dksX4_homeLine_2 1 rfl rfl)
theorem dX4_homeLine_49 : decode cX4_homeLine 49 = .ok (.iconst 0, 1) := dk_3 (dk_at dksX4_homeLine_2 2 rfl rfl)
theorem dX4_homeLine_50 : decode cX4_homeLine 50 = .ok (.bipush 7, 2) := dk_16 7 (dk_at dksX4_homeLine_2 3 rfl rfl)
theorem dX4_homeLine_52 : decode cX4_homeLine 52 = .ok (.invokevirtual 152, 3) := dk_182 0 152 (dk_at dksX4_homeLine_2 5 rfl rfl)
theorem dX4_homeLine_55 : decode cX4_homeLine 55 = .ok (.invokespecial 156, 3) := dk_183 0 156 (dk_at dksX4_homeLine_2 8 rfl rfl)
theorem dX4_homeLine_58 : decode cX4_homeLine 58 = .ok (.invokevirtual 159, 3) := dk_182 0 159 (dk_at dksX4_homeLine_2 11 rfl rfl)
theorem dX4_homeLine_61 : decode cX4_homeLine 61 = .ok (.pop, 1) := dk_87 (dk_at dksX4_homeLine_2 14 rfl rfl)
theorem dX4_homeLine_62 : decode cX4_homeLine 62 = .ok (.return_, 1) := dk_177 (dk_at dksX4_homeLine_2 15 rfl rfl)
abbrev cX4_needs : ByteArray := prog_9_method_4_code
def yX4_needs : MethodName := ⟨RX4, "needs", "(ZI)V"⟩
def dkwX4_needs_1 : List UInt8 := [180, 0, 60, 183, 0, 86, 167, 0, 15, 187, 0, 84, 89, 28, 42, 180, 0, 60, 183, 0, 87, 191]
abbrev dktX4_needs_1 : List UInt8 := dkwX4_needs_1 ++ []
def dkwX4_needs_0 : List UInt8 := [27, 153, 0, 4, 177, 28, 5, 160, 0, 25, 42, 180, 0, 67, 7, 160, 0, 17, 187, 0, 84, 89, 42]
abbrev dktX4_needs_0 : List UInt8 := dkwX4_needs_0 ++ dktX4_needs_1
theorem dksX4_needs_0 : cX4_needs.data.toList.drop 0 = dktX4_needs_0 := by decide +kernel
theorem dksX4_needs_1 : cX4_needs.data.toList.drop 23 = dktX4_needs_1 := dk_seg dksX4_needs_0 23 rfl rfl
theorem dX4_needs_0 : decode cX4_needs 0 = .ok (.iload_n 1, 1) := dk_27 (dk_at dksX4_needs_0 0 rfl rfl)
theorem dX4_needs_1 : decode cX4_needs 1 = .ok (.ifCond .eq 4, 3) := dk_153 0 4 (dk_at dksX4_needs_0 1 rfl rfl)
theorem dX4_needs_4 : decode cX4_needs 4 = .ok (.return_, 1) := dk_177 (dk_at dksX4_needs_0 4 rfl rfl)
theorem dX4_needs_5 : decode cX4_needs 5 = .ok (.iload_n 2, 1) := dk_28 (dk_at dksX4_needs_0 5 rfl rfl)
theorem dX4_needs_6 : decode cX4_needs 6 = .ok (.iconst 2, 1) := dk_5 (dk_at dksX4_needs_0 6 rfl rfl)
theorem dX4_needs_7 : decode cX4_needs 7 = .ok (.if_icmp .ne 25, 3) := dk_160 0 25 (dk_at dksX4_needs_0 7 rfl rfl)
theorem dX4_needs_10 : decode cX4_needs 10 = .ok (.aload_n 0, 1) := dk_42 (dk_at dksX4_needs_0 10 rfl rfl)
theorem dX4_needs_11 : decode cX4_needs 11 = .ok (.getfield 67, 3) := dk_180 0 67 (dk_at dksX4_needs_0 11 rfl rfl)
theorem dX4_needs_14 : decode cX4_needs 14 = .ok (.iconst 4, 1) := dk_7 (dk_at dksX4_needs_0 14 rfl rfl)
theorem dX4_needs_15 : decode cX4_needs 15 = .ok (.if_icmp .ne 17, 3) := dk_160 0 17 (dk_at dksX4_needs_0 15 rfl rfl)
theorem dX4_needs_18 : decode cX4_needs 18 = .ok (.new 84, 3) := dk_187 0 84 (dk_at dksX4_needs_0 18 rfl rfl)
theorem dX4_needs_21 : decode cX4_needs 21 = .ok (.dup, 1) := dk_89 (dk_at dksX4_needs_0 21 rfl rfl)
theorem dX4_needs_22 : decode cX4_needs 22 = .ok (.aload_n 0, 1) := dk_42 (dk_at dksX4_needs_0 22 rfl rfl)
theorem dX4_needs_23 : decode cX4_needs 23 = .ok (.getfield 60, 3) := dk_180 0 60 (dk_at dksX4_needs_1 0 rfl rfl)
theorem dX4_needs_26 : decode cX4_needs 26 = .ok (.invokespecial 86, 3) := dk_183 0 86 (dk_at dksX4_needs_1 3 rfl rfl)
theorem dX4_needs_29 : decode cX4_needs 29 = .ok (.goto 15, 3) := dk_167 0 15 (dk_at dksX4_needs_1 6 rfl rfl)
theorem dX4_needs_32 : decode cX4_needs 32 = .ok (.new 84, 3) := dk_187 0 84 (dk_at dksX4_needs_1 9 rfl rfl)
theorem dX4_needs_35 : decode cX4_needs 35 = .ok (.dup, 1) := dk_89 (dk_at dksX4_needs_1 12 rfl rfl)
theorem dX4_needs_36 : decode cX4_needs 36 = .ok (.iload_n 2, 1) := dk_28 (dk_at dksX4_needs_1 13 rfl rfl)
theorem dX4_needs_37 : decode cX4_needs 37 = .ok (.aload_n 0, 1) := dk_42 (dk_at dksX4_needs_1 14 rfl rfl)
theorem dX4_needs_38 : decode cX4_needs 38 = .ok (.getfield 60, 3) := dk_180 0 60 (dk_at dksX4_needs_1 15 rfl rfl)
theorem dX4_needs_41 : decode cX4_needs 41 = .ok (.invokespecial 87, 3) := dk_183 0 87 (dk_at dksX4_needs_1 18 rfl rfl)
theorem dX4_needs_44 : decode cX4_needs 44 = .ok (.athrow, 1) := dk_191 (dk_at dksX4_needs_1 21 rfl rfl)
abbrev cX4_fresh : ByteArray := prog_9_method_10_code
def yX4_fresh : MethodName := ⟨RX4, "fresh", "()Ljava/lang/String;"⟩
def dkwX4_fresh_1 : List UInt8 := [182, 0, 107, 42, 180, 0, 17, 76, 42, 182, 0, 46, 43, 176]
abbrev dktX4_fresh_1 : List UInt8 := dkwX4_fresh_1 ++ []
def dkwX4_fresh_0 : List UInt8 := [42, 42, 182, 0, 143, 5, 182, 0, 107, 42, 42, 182, 0, 146, 154, 0, 7, 4, 167, 0, 4, 3, 7]
abbrev dktX4_fresh_0 : List UInt8 := dkwX4_fresh_0 ++ dktX4_fresh_1
theorem dksX4_fresh_0 : cX4_fresh.data.toList.drop 0 = dktX4_fresh_0 := by decide +kernel
theorem dksX4_fresh_1 : cX4_fresh.data.toList.drop 23 = dktX4_fresh_1 := dk_seg dksX4_fresh_0 23 rfl rfl
theorem dX4_fresh_0 : decode cX4_fresh 0 = .ok (.aload_n 0, 1) := dk_42 (dk_at dksX4_fresh_0 0 rfl rfl)
theorem dX4_fresh_1 : decode cX4_fresh 1 = .ok (.aload_n 0, 1) := dk_42 (dk_at dksX4_fresh_0 1 rfl rfl)
theorem dX4_fresh_2 : decode cX4_fresh 2 = .ok (.invokevirtual 143, 3) := dk_182 0 143 (dk_at dksX4_fresh_0 2 rfl rfl)
theorem dX4_fresh_5 : decode cX4_fresh 5 = .ok (.iconst 2, 1) := dk_5 (dk_at dksX4_fresh_0 5 rfl rfl)
theorem dX4_fresh_6 : decode cX4_fresh 6 = .ok (.invokevirtual 107, 3) := dk_182 0 107 (dk_at dksX4_fresh_0 6 rfl rfl)
theorem dX4_fresh_9 : decode cX4_fresh 9 = .ok (.aload_n 0, 1) := dk_42 (dk_at dksX4_fresh_0 9 rfl rfl)
theorem dX4_fresh_10 : decode cX4_fresh 10 = .ok (.aload_n 0, 1) := dk_42 (dk_at dksX4_fresh_0 10 rfl rfl)
theorem dX4_fresh_11 : decode cX4_fresh 11 = .ok (.invokevirtual 146, 3) := dk_182 0 146 (dk_at dksX4_fresh_0 11 rfl rfl)
theorem dX4_fresh_14 : decode cX4_fresh 14 = .ok (.ifCond .ne 7, 3) := dk_154 0 7 (dk_at dksX4_fresh_0 14 rfl rfl)
theorem dX4_fresh_17 : decode cX4_fresh 17 = .ok (.iconst 1, 1) := dk_4 (dk_at dksX4_fresh_0 17 rfl rfl)
theorem dX4_fresh_18 : decode cX4_fresh 18 = .ok (.goto 4, 3) := dk_167 0 4 (dk_at dksX4_fresh_0 18 rfl rfl)
theorem dX4_fresh_21 : decode cX4_fresh 21 = .ok (.iconst 0, 1) := dk_3 (dk_at dksX4_fresh_0 21 rfl rfl)
theorem dX4_fresh_22 : decode cX4_fresh 22 = .ok (.iconst 4, 1) := dk_7 (dk_at dksX4_fresh_0 22 rfl rfl)
theorem dX4_fresh_23 : decode cX4_fresh 23 = .ok (.invokevirtual 107, 3) := dk_182 0 107 (dk_at dksX4_fresh_1 0 rfl rfl)
theorem dX4_fresh_26 : decode cX4_fresh 26 = .ok (.aload_n 0, 1) := dk_42 (dk_at dksX4_fresh_1 3 rfl rfl)
theorem dX4_fresh_27 : decode cX4_fresh 27 = .ok (.getfield 17, 3) := dk_180 0 17 (dk_at dksX4_fresh_1 4 rfl rfl)
theorem dX4_fresh_30 : decode cX4_fresh 30 = .ok (.astore_n 1, 1) := dk_76 (dk_at dksX4_fresh_1 7 rfl rfl)
theorem dX4_fresh_31 : decode cX4_fresh 31 = .ok (.aload_n 0, 1) := dk_42 (dk_at dksX4_fresh_1 8 rfl rfl)
theorem dX4_fresh_32 : decode cX4_fresh 32 = .ok (.invokevirtual 46, 3) := dk_182 0 46 (dk_at dksX4_fresh_1 9 rfl rfl)
theorem dX4_fresh_35 : decode cX4_fresh 35 = .ok (.aload_n 1, 1) := dk_43 (dk_at dksX4_fresh_1 12 rfl rfl)
theorem dX4_fresh_36 : decode cX4_fresh 36 = .ok (.areturn, 1) := dk_176 (dk_at dksX4_fresh_1 13 rfl rfl)
abbrev cX4_isName : ByteArray := prog_9_method_6_code
def yX4_isName : MethodName := ⟨RX4, "isName", "()Z"⟩
def dkwX4_isName_2 : List UInt8 := [3, 172]
abbrev dktX4_isName_2 : List UInt8 := dkwX4_isName_2 ++ []
def dkwX4_isName_1 : List UInt8 := [156, 0, 24, 42, 180, 0, 17, 42, 180, 0, 3, 180, 0, 104, 184, 0, 100, 156, 0, 7, 4, 167, 0, 4]
abbrev dktX4_isName_1 : List UInt8 := dkwX4_isName_1 ++ dktX4_isName_2
def dkwX4_isName_0 : List UInt8 := [42, 180, 0, 67, 4, 160, 0, 41, 42, 180, 0, 17, 42, 180, 0, 3, 180, 0, 96, 184, 0, 100]
abbrev dktX4_isName_0 : List UInt8 := dkwX4_isName_0 ++ dktX4_isName_1
theorem dksX4_isName_0 : cX4_isName.data.toList.drop 0 = dktX4_isName_0 := by decide +kernel
theorem dksX4_isName_1 : cX4_isName.data.toList.drop 22 = dktX4_isName_1 := dk_seg dksX4_isName_0 22 rfl rfl
theorem dksX4_isName_2 : cX4_isName.data.toList.drop 46 = dktX4_isName_2 := dk_seg dksX4_isName_1 24 rfl rfl
theorem dX4_isName_0 : decode cX4_isName 0 = .ok (.aload_n 0, 1) := dk_42 (dk_at dksX4_isName_0 0 rfl rfl)
theorem dX4_isName_1 : decode cX4_isName 1 = .ok (.getfield 67, 3) := dk_180 0 67 (dk_at dksX4_isName_0 1 rfl rfl)
theorem dX4_isName_4 : decode cX4_isName 4 = .ok (.iconst 1, 1) := dk_4 (dk_at dksX4_isName_0 4 rfl rfl)
theorem dX4_isName_5 : decode cX4_isName 5 = .ok (.if_icmp .ne 41, 3) := dk_160 0 41 (dk_at dksX4_isName_0 5 rfl rfl)
theorem dX4_isName_8 : decode cX4_isName 8 = .ok (.aload_n 0, 1) := dk_42 (dk_at dksX4_isName_0 8 rfl rfl)
theorem dX4_isName_9 : decode cX4_isName 9 = .ok (.getfield 17, 3) := dk_180 0 17 (dk_at dksX4_isName_0 9 rfl rfl)
theorem dX4_isName_12 : decode cX4_isName 12 = .ok (.aload_n 0, 1) := dk_42 (dk_at dksX4_isName_0 12 rfl rfl)
theorem dX4_isName_13 : decode cX4_isName 13 = .ok (.getfield 3, 3) := dk_180 0 3 (dk_at dksX4_isName_0 13 rfl rfl)
theorem dX4_isName_16 : decode cX4_isName 16 = .ok (.getfield 96, 3) := dk_180 0 96 (dk_at dksX4_isName_0 16 rfl rfl)
theorem dX4_isName_19 : decode cX4_isName 19 = .ok (.invokestatic 100, 3) := dk_184 0 100 (dk_at dksX4_isName_0 19 rfl rfl)
theorem dX4_isName_22 : decode cX4_isName 22 = .ok (.ifCond .ge 24, 3) := dk_156 0 24 (dk_at dksX4_isName_1 0 rfl rfl)
theorem dX4_isName_25 : decode cX4_isName 25 = .ok (.aload_n 0, 1) := dk_42 (dk_at dksX4_isName_1 3 rfl rfl)
theorem dX4_isName_26 : decode cX4_isName 26 = .ok (.getfield 17, 3) := dk_180 0 17 (dk_at dksX4_isName_1 4 rfl rfl)
theorem dX4_isName_29 : decode cX4_isName 29 = .ok (.aload_n 0, 1) := dk_42 (dk_at dksX4_isName_1 7 rfl rfl)
theorem dX4_isName_30 : decode cX4_isName 30 = .ok (.getfield 3, 3) := dk_180 0 3 (dk_at dksX4_isName_1 8 rfl rfl)
theorem dX4_isName_33 : decode cX4_isName 33 = .ok (.getfield 104, 3) := dk_180 0 104 (dk_at dksX4_isName_1 11 rfl rfl)
theorem dX4_isName_36 : decode cX4_isName 36 = .ok (.invokestatic 100, 3) := dk_184 0 100 (dk_at dksX4_isName_1 14 rfl rfl)
theorem dX4_isName_39 : decode cX4_isName 39 = .ok (.ifCond .ge 7, 3) := dk_156 0 7 (dk_at dksX4_isName_1 17 rfl rfl)
theorem dX4_isName_42 : decode cX4_isName 42 = .ok (.iconst 1, 1) := dk_4 (dk_at dksX4_isName_1 20 rfl rfl)
theorem dX4_isName_43 : decode cX4_isName 43 = .ok (.goto 4, 3) := dk_167 0 4 (dk_at dksX4_isName_1 21 rfl rfl)
theorem dX4_isName_46 : decode cX4_isName 46 = .ok (.iconst 0, 1) := dk_3 (dk_at dksX4_isName_2 0 rfl rfl)
theorem dX4_isName_47 : decode cX4_isName 47 = .ok (.ireturn, 1) := dk_172 (dk_at dksX4_isName_2 1 rfl rfl)
abbrev cX4_isTaken : ByteArray := prog_9_method_9_code
def yX4_isTaken : MethodName := ⟨RX4, "isTaken", "()Z"⟩
def dkwX4_isTaken_2 : List UInt8 := [182, 0, 140, 155, 0, 7, 4, 167, 0, 4, 3, 172]
abbrev dktX4_isTaken_2 : List UInt8 := dkwX4_isTaken_2 ++ []
def dkwX4_isTaken_1 : List UInt8 := [192, 0, 137, 77, 44, 180, 0, 139, 42, 180, 0, 17, 182, 0, 90, 153, 0, 5, 4, 172, 167, 255, 221, 42]
abbrev dktX4_isTaken_1 : List UInt8 := dkwX4_isTaken_1 ++ dktX4_isTaken_2
def dkwX4_isTaken_0 : List UInt8 := [42, 180, 0, 30, 182, 0, 123, 76, 43, 185, 0, 127, 1, 0, 153, 0, 32, 43, 185, 0, 133, 1, 0]
abbrev dktX4_isTaken_0 : List UInt8 := dkwX4_isTaken_0 ++ dktX4_isTaken_1
theorem dksX4_isTaken_0 : cX4_isTaken.data.toList.drop 0 = dktX4_isTaken_0 := by decide +kernel
theorem dksX4_isTaken_1 : cX4_isTaken.data.toList.drop 23 = dktX4_isTaken_1 := dk_seg dksX4_isTaken_0 23 rfl rfl
theorem dksX4_isTaken_2 : cX4_isTaken.data.toList.drop 47 = dktX4_isTaken_2 := dk_seg dksX4_isTaken_1 24 rfl rfl
theorem dX4_isTaken_0 : decode cX4_isTaken 0 = .ok (.aload_n 0, 1) := dk_42 (dk_at dksX4_isTaken_0 0 rfl rfl)
theorem dX4_isTaken_1 : decode cX4_isTaken 1 = .ok (.getfield 30, 3) := dk_180 0 30 (dk_at dksX4_isTaken_0 1 rfl rfl)
theorem dX4_isTaken_4 : decode cX4_isTaken 4 = .ok (.invokevirtual 123, 3) := dk_182 0 123 (dk_at dksX4_isTaken_0 4 rfl rfl)
theorem dX4_isTaken_7 : decode cX4_isTaken 7 = .ok (.astore_n 1, 1) := dk_76 (dk_at dksX4_isTaken_0 7 rfl rfl)
theorem dX4_isTaken_8 : decode cX4_isTaken 8 = .ok (.aload_n 1, 1) := dk_43 (dk_at dksX4_isTaken_0 8 rfl rfl)
theorem dX4_isTaken_9 : decode cX4_isTaken 9 = .ok (.invokeinterface 127 1, 5) := by decide +kernel
theorem dX4_isTaken_14 : decode cX4_isTaken 14 = .ok (.ifCond .eq 32, 3) := dk_153 0 32 (dk_at dksX4_isTaken_0 14 rfl rfl)
theorem dX4_isTaken_17 : decode cX4_isTaken 17 = .ok (.aload_n 1, 1) := dk_43 (dk_at dksX4_isTaken_0 17 rfl rfl)
theorem dX4_isTaken_18 : decode cX4_isTaken 18 = .ok (.invokeinterface 133 1, 5) := by decide +kernel
theorem dX4_isTaken_23 : decode cX4_isTaken 23 = .ok (.checkcast 137, 3) := dk_192 0 137 (dk_at dksX4_isTaken_1 0 rfl rfl)
theorem dX4_isTaken_26 : decode cX4_isTaken 26 = .ok (.astore_n 2, 1) := dk_77 (dk_at dksX4_isTaken_1 3 rfl rfl)
theorem dX4_isTaken_27 : decode cX4_isTaken 27 = .ok (.aload_n 2, 1) := dk_44 (dk_at dksX4_isTaken_1 4 rfl rfl)
theorem dX4_isTaken_28 : decode cX4_isTaken 28 = .ok (.getfield 139, 3) := dk_180 0 139 (dk_at dksX4_isTaken_1 5 rfl rfl)
theorem dX4_isTaken_31 : decode cX4_isTaken 31 = .ok (.aload_n 0, 1) := dk_42 (dk_at dksX4_isTaken_1 8 rfl rfl)
theorem dX4_isTaken_32 : decode cX4_isTaken 32 = .ok (.getfield 17, 3) := dk_180 0 17 (dk_at dksX4_isTaken_1 9 rfl rfl)
theorem dX4_isTaken_35 : decode cX4_isTaken 35 = .ok (.invokevirtual 90, 3) := dk_182 0 90 (dk_at dksX4_isTaken_1 12 rfl rfl)
theorem dX4_isTaken_38 : decode cX4_isTaken 38 = .ok (.ifCond .eq 5, 3) := dk_153 0 5 (dk_at dksX4_isTaken_1 15 rfl rfl)
theorem dX4_isTaken_41 : decode cX4_isTaken 41 = .ok (.iconst 1, 1) := dk_4 (dk_at dksX4_isTaken_1 18 rfl rfl)
theorem dX4_isTaken_42 : decode cX4_isTaken 42 = .ok (.ireturn, 1) := dk_172 (dk_at dksX4_isTaken_1 19 rfl rfl)
theorem dX4_isTaken_43 : decode cX4_isTaken 43 = .ok (.goto (-35), 3) := dk_167 255 221 (dk_at dksX4_isTaken_1 20 rfl rfl)
theorem dX4_isTaken_46 : decode cX4_isTaken 46 = .ok (.aload_n 0, 1) := dk_42 (dk_at dksX4_isTaken_1 23 rfl rfl)
theorem dX4_isTaken_47 : decode cX4_isTaken 47 = .ok (.invokevirtual 140, 3) := dk_182 0 140 (dk_at dksX4_isTaken_2 0 rfl rfl)
theorem dX4_isTaken_50 : decode cX4_isTaken 50 = .ok (.ifCond .lt 7, 3) := dk_155 0 7 (dk_at dksX4_isTaken_2 3 rfl rfl)
theorem dX4_isTaken_53 : decode cX4_isTaken 53 = .ok (.iconst 1, 1) := dk_4 (dk_at dksX4_isTaken_2 6 rfl rfl)
theorem dX4_isTaken_54 : decode cX4_isTaken 54 = .ok (.goto 4, 3) := dk_167 0 4 (dk_at dksX4_isTaken_2 7 rfl rfl)
theorem dX4_isTaken_57 : decode cX4_isTaken 57 = .ok (.iconst 0, 1) := dk_3 (dk_at dksX4_isTaken_2 10 rfl rfl)
theorem dX4_isTaken_58 : decode cX4_isTaken 58 = .ok (.ireturn, 1) := dk_172 (dk_at dksX4_isTaken_2 11 rfl rfl)
abbrev cX4_homeNamed : ByteArray := prog_9_method_8_code
def yX4_homeNamed : MethodName := ⟨RX4, "homeNamed", "()I"⟩
def dkwX4_homeNamed_1 : List UInt8 := [180, 0, 120, 42, 180, 0, 17, 182, 0, 90, 153, 0, 5, 27, 172, 132, 1, 1, 167, 255, 216, 2, 172]
abbrev dktX4_homeNamed_1 : List UInt8 := dkwX4_homeNamed_1 ++ []
def dkwX4_homeNamed_0 : List UInt8 := [3, 60, 27, 42, 180, 0, 26, 182, 0, 111, 162, 0, 35, 42, 180, 0, 26, 27, 182, 0, 114, 192, 0, 118]
abbrev dktX4_homeNamed_0 : List UInt8 := dkwX4_homeNamed_0 ++ dktX4_homeNamed_1
theorem dksX4_homeNamed_0 : cX4_homeNamed.data.toList.drop 0 = dktX4_homeNamed_0 := by decide +kernel
theorem dksX4_homeNamed_1 : cX4_homeNamed.data.toList.drop 24 = dktX4_homeNamed_1 := dk_seg dksX4_homeNamed_0 24 rfl rfl
theorem dX4_homeNamed_0 : decode cX4_homeNamed 0 = .ok (.iconst 0, 1) := dk_3 (dk_at dksX4_homeNamed_0 0 rfl rfl)
theorem dX4_homeNamed_1 : decode cX4_homeNamed 1 = .ok (.istore_n 1, 1) := dk_60 (dk_at dksX4_homeNamed_0 1 rfl rfl)
theorem dX4_homeNamed_2 : decode cX4_homeNamed 2 = .ok (.iload_n 1, 1) := dk_27 (dk_at dksX4_homeNamed_0 2 rfl rfl)
theorem dX4_homeNamed_3 : decode cX4_homeNamed 3 = .ok (.aload_n 0, 1) := dk_42 (dk_at dksX4_homeNamed_0 3 rfl rfl)
theorem dX4_homeNamed_4 : decode cX4_homeNamed 4 = .ok (.getfield 26, 3) := dk_180 0 26 (dk_at dksX4_homeNamed_0 4 rfl rfl)
theorem dX4_homeNamed_7 : decode cX4_homeNamed 7 = .ok (.invokevirtual 111, 3) := dk_182 0 111 (dk_at dksX4_homeNamed_0 7 rfl rfl)
theorem dX4_homeNamed_10 : decode cX4_homeNamed 10 = .ok (.if_icmp .ge 35, 3) := dk_162 0 35 (dk_at dksX4_homeNamed_0 10 rfl rfl)
theorem dX4_homeNamed_13 : decode cX4_homeNamed 13 = .ok (.aload_n 0, 1) := dk_42 (dk_at dksX4_homeNamed_0 13 rfl rfl)
theorem dX4_homeNamed_14 : decode cX4_homeNamed 14 = .ok (.getfield 26, 3) := dk_180 0 26 (dk_at dksX4_homeNamed_0 14 rfl rfl)
theorem dX4_homeNamed_17 : decode cX4_homeNamed 17 = .ok (.iload_n 1, 1) := dk_27 (dk_at dksX4_homeNamed_0 17 rfl rfl)
theorem dX4_homeNamed_18 : decode cX4_homeNamed 18 = .ok (.invokevirtual 114, 3) := dk_182 0 114 (dk_at dksX4_homeNamed_0 18 rfl rfl)
theorem dX4_homeNamed_21 : decode cX4_homeNamed 21 = .ok (.checkcast 118, 3) := dk_192 0 118 (dk_at dksX4_homeNamed_0 21 rfl rfl)
theorem dX4_homeNamed_24 : decode cX4_homeNamed 24 = .ok (.getfield 120, 3) := dk_180 0 120 (dk_at dksX4_homeNamed_1 0 rfl rfl)
theorem dX4_homeNamed_27 : decode cX4_homeNamed 27 = .ok (.aload_n 0, 1) := dk_42 (dk_at dksX4_homeNamed_1 3 rfl rfl)
theorem dX4_homeNamed_28 : decode cX4_homeNamed 28 = .ok (.getfield 17, 3) := dk_180 0 17 (dk_at dksX4_homeNamed_1 4 rfl rfl)
theorem dX4_homeNamed_31 : decode cX4_homeNamed 31 = .ok (.invokevirtual 90, 3) := dk_182 0 90 (dk_at dksX4_homeNamed_1 7 rfl rfl)
theorem dX4_homeNamed_34 : decode cX4_homeNamed 34 = .ok (.ifCond .eq 5, 3) := dk_153 0 5 (dk_at dksX4_homeNamed_1 10 rfl rfl)
theorem dX4_homeNamed_37 : decode cX4_homeNamed 37 = .ok (.iload_n 1, 1) := dk_27 (dk_at dksX4_homeNamed_1 13 rfl rfl)
theorem dX4_homeNamed_38 : decode cX4_homeNamed 38 = .ok (.ireturn, 1) := dk_172 (dk_at dksX4_homeNamed_1 14 rfl rfl)
theorem dX4_homeNamed_39 : decode cX4_homeNamed 39 = .ok (.iinc 1 1, 3) := dk_132 1 1 (dk_at dksX4_homeNamed_1 15 rfl rfl)
theorem dX4_homeNamed_42 : decode cX4_homeNamed 42 = .ok (.goto (-40), 3) := dk_167 255 216 (dk_at dksX4_homeNamed_1 18 rfl rfl)
theorem dX4_homeNamed_45 : decode cX4_homeNamed 45 = .ok (.iconst (-1), 1) := dk_2 (dk_at dksX4_homeNamed_1 21 rfl rfl)
theorem dX4_homeNamed_46 : decode cX4_homeNamed 46 = .ok (.ireturn, 1) := dk_172 (dk_at dksX4_homeNamed_1 22 rfl rfl)
abbrev cX4_digits : ByteArray := prog_9_method_7_code
def yX4_digits : MethodName := ⟨RX4, "digits", "(II)I"⟩
def dkwX4_digits_1 : List UInt8 := [27, 133, 28, 133, 184, 0, 53, 6, 182, 0, 107, 42, 180, 0, 81, 62, 42, 182, 0, 46, 29, 172]
abbrev dktX4_digits_1 : List UInt8 := dkwX4_digits_1 ++ []
def dkwX4_digits_0 : List UInt8 := [42, 42, 180, 0, 67, 5, 160, 0, 7, 4, 167, 0, 4, 3, 5, 182, 0, 107, 42, 42, 180, 0, 81, 133]
abbrev dktX4_digits_0 : List UInt8 := dkwX4_digits_0 ++ dktX4_digits_1
theorem dksX4_digits_0 : cX4_digits.data.toList.drop 0 = dktX4_digits_0 := by decide +kernel
theorem dksX4_digits_1 : cX4_digits.data.toList.drop 24 = dktX4_digits_1 := dk_seg dksX4_digits_0 24 rfl rfl
theorem dX4_digits_0 : decode cX4_digits 0 = .ok (.aload_n 0, 1) := dk_42 (dk_at dksX4_digits_0 0 rfl rfl)
theorem dX4_digits_1 : decode cX4_digits 1 = .ok (.aload_n 0, 1) := dk_42 (dk_at dksX4_digits_0 1 rfl rfl)
theorem dX4_digits_2 : decode cX4_digits 2 = .ok (.getfield 67, 3) := dk_180 0 67 (dk_at dksX4_digits_0 2 rfl rfl)
theorem dX4_digits_5 : decode cX4_digits 5 = .ok (.iconst 2, 1) := dk_5 (dk_at dksX4_digits_0 5 rfl rfl)
theorem dX4_digits_6 : decode cX4_digits 6 = .ok (.if_icmp .ne 7, 3) := dk_160 0 7 (dk_at dksX4_digits_0 6 rfl rfl)
theorem dX4_digits_9 : decode cX4_digits 9 = .ok (.iconst 1, 1) := dk_4 (dk_at dksX4_digits_0 9 rfl rfl)
theorem dX4_digits_10 : decode cX4_digits 10 = .ok (.goto 4, 3) := dk_167 0 4 (dk_at dksX4_digits_0 10 rfl rfl)
theorem dX4_digits_13 : decode cX4_digits 13 = .ok (.iconst 0, 1) := dk_3 (dk_at dksX4_digits_0 13 rfl rfl)
theorem dX4_digits_14 : decode cX4_digits 14 = .ok (.iconst 2, 1) := dk_5 (dk_at dksX4_digits_0 14 rfl rfl)
theorem dX4_digits_15 : decode cX4_digits 15 = .ok (.invokevirtual 107, 3) := dk_182 0 107 (dk_at dksX4_digits_0 15 rfl rfl)
theorem dX4_digits_18 : decode cX4_digits 18 = .ok (.aload_n 0, 1) := dk_42 (dk_at dksX4_digits_0 18 rfl rfl)
theorem dX4_digits_19 : decode cX4_digits 19 = .ok (.aload_n 0, 1) := dk_42 (dk_at dksX4_digits_0 19 rfl rfl)
theorem dX4_digits_20 : decode cX4_digits 20 = .ok (.getfield 81, 3) := dk_180 0 81 (dk_at dksX4_digits_0 20 rfl rfl)
theorem dX4_digits_23 : decode cX4_digits 23 = .ok (.i2l, 1) := dk_133 (dk_at dksX4_digits_0 23 rfl rfl)
theorem dX4_digits_24 : decode cX4_digits 24 = .ok (.iload_n 1, 1) := dk_27 (dk_at dksX4_digits_1 0 rfl rfl)
theorem dX4_digits_25 : decode cX4_digits 25 = .ok (.i2l, 1) := dk_133 (dk_at dksX4_digits_1 1 rfl rfl)
theorem dX4_digits_26 : decode cX4_digits 26 = .ok (.iload_n 2, 1) := dk_28 (dk_at dksX4_digits_1 2 rfl rfl)
theorem dX4_digits_27 : decode cX4_digits 27 = .ok (.i2l, 1) := dk_133 (dk_at dksX4_digits_1 3 rfl rfl)
theorem dX4_digits_28 : decode cX4_digits 28 = .ok (.invokestatic 53, 3) := dk_184 0 53 (dk_at dksX4_digits_1 4 rfl rfl)
theorem dX4_digits_31 : decode cX4_digits 31 = .ok (.iconst 3, 1) := dk_6 (dk_at dksX4_digits_1 7 rfl rfl)
theorem dX4_digits_32 : decode cX4_digits 32 = .ok (.invokevirtual 107, 3) := dk_182 0 107 (dk_at dksX4_digits_1 8 rfl rfl)
theorem dX4_digits_35 : decode cX4_digits 35 = .ok (.aload_n 0, 1) := dk_42 (dk_at dksX4_digits_1 11 rfl rfl)
theorem dX4_digits_36 : decode cX4_digits 36 = .ok (.getfield 81, 3) := dk_180 0 81 (dk_at dksX4_digits_1 12 rfl rfl)
theorem dX4_digits_39 : decode cX4_digits 39 = .ok (.istore_n 3, 1) := dk_62 (dk_at dksX4_digits_1 15 rfl rfl)
theorem dX4_digits_40 : decode cX4_digits 40 = .ok (.aload_n 0, 1) := dk_42 (dk_at dksX4_digits_1 16 rfl rfl)
theorem dX4_digits_41 : decode cX4_digits 41 = .ok (.invokevirtual 46, 3) := dk_182 0 46 (dk_at dksX4_digits_1 17 rfl rfl)
theorem dX4_digits_44 : decode cX4_digits 44 = .ok (.iload_n 3, 1) := dk_29 (dk_at dksX4_digits_1 20 rfl rfl)
theorem dX4_digits_45 : decode cX4_digits 45 = .ok (.ireturn, 1) := dk_172 (dk_at dksX4_digits_1 21 rfl rfl)
abbrev cX4_houseLine : ByteArray := prog_9_method_13_code
def yX4_houseLine : MethodName := ⟨RX4, "houseLine", "()V"⟩
def dkwX4_houseLine_12 : List UInt8 := [182, 0, 159, 87, 177]
abbrev dktX4_houseLine_12 : List UInt8 := dkwX4_houseLine_12 ++ []
def dkwX4_houseLine_11 : List UInt8 := [180, 0, 38, 180, 0, 186, 28, 45, 4, 46, 79, 42, 180, 0, 30, 187, 0, 137, 89, 43, 45, 183, 0, 188]
abbrev dktX4_houseLine_11 : List UInt8 := dkwX4_houseLine_11 ++ dktX4_houseLine_12
def dkwX4_houseLine_10 : List UInt8 := [21, 4, 79, 42, 180, 0, 38, 180, 0, 180, 28, 92, 46, 4, 96, 79, 42, 182, 0, 46, 167, 255, 150, 42]
abbrev dktX4_houseLine_10 : List UInt8 := dkwX4_houseLine_10 ++ dktX4_houseLine_11
def dkwX4_houseLine_9 : List UInt8 := [182, 0, 107, 42, 180, 0, 38, 180, 0, 183, 16, 6, 28, 104, 42, 180, 0, 38, 180, 0, 180, 28, 46, 96]
abbrev dktX4_houseLine_9 : List UInt8 := dkwX4_houseLine_9 ++ dktX4_houseLine_10
def dkwX4_houseLine_8 : List UInt8 := [182, 0, 107, 42, 42, 180, 0, 38, 180, 0, 180, 28, 46, 16, 6, 162, 0, 7, 4, 167, 0, 4, 3, 8]
abbrev dktX4_houseLine_8 : List UInt8 := dkwX4_houseLine_8 ++ dktX4_houseLine_9
def dkwX4_houseLine_7 : List UInt8 := [155, 0, 20, 42, 180, 0, 38, 28, 21, 4, 182, 0, 176, 154, 0, 7, 4, 167, 0, 4, 3, 7]
abbrev dktX4_houseLine_7 : List UInt8 := dkwX4_houseLine_7 ++ dktX4_houseLine_8
def dkwX4_houseLine_6 : List UInt8 := [182, 0, 140, 79, 42, 182, 0, 46, 42, 182, 0, 143, 153, 0, 105, 42, 182, 0, 140, 54, 4, 42, 21, 4]
abbrev dktX4_houseLine_6 : List UInt8 := dkwX4_houseLine_6 ++ dktX4_houseLine_7
def dkwX4_houseLine_5 : List UInt8 := [182, 0, 172, 154, 0, 7, 4, 167, 0, 4, 3, 7, 182, 0, 107, 42, 180, 0, 38, 180, 0, 162, 28, 42]
abbrev dktX4_houseLine_5 : List UInt8 := dkwX4_houseLine_5 ++ dktX4_houseLine_6
def dkwX4_houseLine_4 : List UInt8 := [42, 42, 182, 0, 143, 5, 182, 0, 107, 42, 42, 182, 0, 140, 155, 0, 18, 42, 42, 182, 0, 140]
abbrev dktX4_houseLine_4 : List UInt8 := dkwX4_houseLine_4 ++ dktX4_houseLine_5
def dkwX4_houseLine_3 : List UInt8 := [6, 42, 3, 17, 3, 231, 182, 0, 152, 79, 78, 42, 18, 166, 182, 0, 168, 153, 0, 61, 42, 182, 0, 46]
abbrev dktX4_houseLine_3 : List UInt8 := dkwX4_houseLine_3 ++ dktX4_houseLine_4
def dkwX4_houseLine_2 : List UInt8 := [182, 0, 152, 79, 89, 4, 42, 4, 7, 182, 0, 152, 79, 89, 5, 42, 3, 16, 7, 182, 0, 152, 79, 89]
abbrev dktX4_houseLine_2 : List UInt8 := dkwX4_houseLine_2 ++ dktX4_houseLine_3
def dkwX4_houseLine_1 : List UInt8 := [182, 0, 46, 42, 182, 0, 149, 76, 42, 180, 0, 30, 182, 0, 111, 61, 7, 188, 10, 89, 3, 42, 4, 7]
abbrev dktX4_houseLine_1 : List UInt8 := dkwX4_houseLine_1 ++ dktX4_houseLine_2
def dkwX4_houseLine_0 : List UInt8 := [42, 42, 180, 0, 30, 182, 0, 111, 16, 8, 162, 0, 7, 4, 167, 0, 4, 3, 8, 182, 0, 107, 42]
abbrev dktX4_houseLine_0 : List UInt8 := dkwX4_houseLine_0 ++ dktX4_houseLine_1
theorem dksX4_houseLine_0 : cX4_houseLine.data.toList.drop 0 = dktX4_houseLine_0 := by decide +kernel
theorem dksX4_houseLine_1 : cX4_houseLine.data.toList.drop 23 = dktX4_houseLine_1 := dk_seg dksX4_houseLine_0 23 rfl rfl
theorem dksX4_houseLine_2 : cX4_houseLine.data.toList.drop 47 = dktX4_houseLine_2 := dk_seg dksX4_houseLine_1 24 rfl rfl
theorem dksX4_houseLine_3 : cX4_houseLine.data.toList.drop 71 = dktX4_houseLine_3 := dk_seg dksX4_houseLine_2 24 rfl rfl
theorem dksX4_houseLine_4 : cX4_houseLine.data.toList.drop 95 = dktX4_houseLine_4 := dk_seg dksX4_houseLine_3 24 rfl rfl
theorem dksX4_houseLine_5 : cX4_houseLine.data.toList.drop 117 = dktX4_houseLine_5 := dk_seg dksX4_houseLine_4 22 rfl rfl
theorem dksX4_houseLine_6 : cX4_houseLine.data.toList.drop 141 = dktX4_houseLine_6 := dk_seg dksX4_houseLine_5 24 rfl rfl
theorem dksX4_houseLine_7 : cX4_houseLine.data.toList.drop 165 = dktX4_houseLine_7 := dk_seg dksX4_houseLine_6 24 rfl rfl
theorem dksX4_houseLine_8 : cX4_houseLine.data.toList.drop 187 = dktX4_houseLine_8 := dk_seg dksX4_houseLine_7 22 rfl rfl
theorem dksX4_houseLine_9 : cX4_houseLine.data.toList.drop 211 = dktX4_houseLine_9 := dk_seg dksX4_houseLine_8 24 rfl rfl
theorem dksX4_houseLine_10 : cX4_houseLine.data.toList.drop 235 = dktX4_houseLine_10 := dk_seg dksX4_houseLine_9 24 rfl rfl
theorem dksX4_houseLine_11 : cX4_houseLine.data.toList.drop 259 = dktX4_houseLine_11 := dk_seg dksX4_houseLine_10 24 rfl rfl
theorem dksX4_houseLine_12 : cX4_houseLine.data.toList.drop 283 = dktX4_houseLine_12 := dk_seg dksX4_houseLine_11 24 rfl rfl
theorem dX4_houseLine_0 : decode cX4_houseLine 0 = .ok (.aload_n 0, 1) := dk_42 (dk_at dksX4_houseLine_0 0 rfl rfl)
theorem dX4_houseLine_1 : decode cX4_houseLine 1 = .ok (.aload_n 0, 1) := dk_42 (dk_at dksX4_houseLine_0 1 rfl rfl)
theorem dX4_houseLine_2 : decode cX4_houseLine 2 = .ok (.getfield 30, 3) := dk_180 0 30 (dk_at dksX4_houseLine_0 2 rfl rfl)
theorem dX4_houseLine_5 : decode cX4_houseLine 5 = .ok (.invokevirtual 111, 3) := dk_182 0 111 (dk_at dksX4_houseLine_0 5 rfl rfl)
theorem dX4_houseLine_8 : decode cX4_houseLine 8 = .ok (.bipush 8, 2) := dk_16 8 (dk_at dksX4_houseLine_0 8 rfl rfl)
theorem dX4_houseLine_10 : decode cX4_houseLine 10 = .ok (.if_icmp .ge 7, 3) := dk_162 0 7 (dk_at dksX4_houseLine_0 10 rfl rfl)
theorem dX4_houseLine_13 : decode cX4_houseLine 13 = .ok (.iconst 1, 1) := dk_4 (dk_at dksX4_houseLine_0 13 rfl rfl)
theorem dX4_houseLine_14 : decode cX4_houseLine 14 = .ok (.goto 4, 3) := dk_167 0 4 (dk_at dksX4_houseLine_0 14 rfl rfl)
theorem dX4_houseLine_17 : decode cX4_houseLine 17 = .ok (.iconst 0, 1) := dk_3 (dk_at dksX4_houseLine_0 17 rfl rfl)
theorem dX4_houseLine_18 : decode cX4_houseLine 18 = .ok (.iconst 5, 1) := dk_8 (dk_at dksX4_houseLine_0 18 rfl rfl)
theorem dX4_houseLine_19 : decode cX4_houseLine 19 = .ok (.invokevirtual 107, 3) := dk_182 0 107 (dk_at dksX4_houseLine_0 19 rfl rfl)
theorem dX4_houseLine_22 : decode cX4_houseLine 22 = .ok (.aload_n 0, 1) := dk_42 (dk_at dksX4_houseLine_0 22 rfl rfl)
theorem dX4_houseLine_23 : decode cX4_houseLine 23 = .ok (.invokevirtual 46, 3) := dk_182 0 46 (dk_at dksX4_houseLine_1 0 rfl rfl)
theorem dX4_houseLine_26 : decode cX4_houseLine 26 = .ok (.aload_n 0, 1) := dk_42 (dk_at dksX4_houseLine_1 3 rfl rfl)
theorem dX4_houseLine_27 : decode cX4_houseLine 27 = .ok (.invokevirtual 149, 3) := dk_182 0 149 (dk_at dksX4_houseLine_1 4 rfl rfl)
theorem dX4_houseLine_30 : decode cX4_houseLine 30 = .ok (.astore_n 1, 1) := dk_76 (dk_at dksX4_houseLine_1 7 rfl rfl)
theorem dX4_houseLine_31 : decode cX4_houseLine 31 = .ok (.aload_n 0, 1) := dk_42 (dk_at dksX4_houseLine_1 8 rfl rfl)
theorem dX4_houseLine_32 : decode cX4_houseLine 32 = .ok (.getfield 30, 3) := dk_180 0 30 (dk_at dksX4_houseLine_1 9 rfl rfl)
theorem dX4_houseLine_35 : decode cX4_houseLine 35 = .ok (.invokevirtual 111, 3) := dk_182 0 111 (dk_at dksX4_houseLine_1 12 rfl rfl)
theorem dX4_houseLine_38 : decode cX4_houseLine 38 = .ok (.istore_n 2, 1) := dk_61 (dk_at dksX4_houseLine_1 15 rfl rfl)
theorem dX4_houseLine_39 : decode cX4_houseLine 39 = .ok (.iconst 4, 1) := dk_7 (dk_at dksX4_houseLine_1 16 rfl rfl)
theorem dX4_houseLine_40 : decode cX4_houseLine 40 = .ok (.newarray .int, 2) := dk_188_10 (dk_at dksX4_houseLine_1 17 rfl rfl)
theorem dX4_houseLine_42 : decode cX4_houseLine 42 = .ok (.dup, 1) := dk_89 (dk_at dksX4_houseLine_1 19 rfl rfl)
theorem dX4_houseLine_43 : decode cX4_houseLine 43 = .ok (.iconst 0, 1) := dk_3 (dk_at dksX4_houseLine_1 20 rfl rfl)
theorem dX4_houseLine_44 : decode cX4_houseLine 44 = .ok (.aload_n 0, 1) := dk_42 (dk_at dksX4_houseLine_1 21 rfl rfl)
theorem dX4_houseLine_45 : decode cX4_houseLine 45 = .ok (.iconst 1, 1) := dk_4 (dk_at dksX4_houseLine_1 22 rfl rfl)
theorem dX4_houseLine_46 : decode cX4_houseLine 46 = .ok (.iconst 4, 1) := dk_7 (dk_at dksX4_houseLine_1 23 rfl rfl)
theorem dX4_houseLine_47 : decode cX4_houseLine 47 = .ok (.invokevirtual 152, 3) := dk_182 0 152 (dk_at dksX4_houseLine_2 0 rfl rfl)
theorem dX4_houseLine_50 : decode cX4_houseLine 50 = .ok (.iastore, 1) := dk_79 (dk_at dksX4_houseLine_2 3 rfl rfl)
theorem dX4_houseLine_51 : decode cX4_houseLine 51 = .ok (.dup, 1) := dk_89 (dk_at dksX4_houseLine_2 4 rfl rfl)
theorem dX4_houseLine_52 : decode cX4_houseLine 52 = .ok (.iconst 1, 1) := dk_4 (dk_at dksX4_houseLine_2 5 rfl rfl)
theorem dX4_houseLine_53 : decode cX4_houseLine 53 = .ok (.aload_n 0, 1) := dk_42 (dk_at dksX4_houseLine_2 6 rfl rfl)
theorem dX4_houseLine_54 : decode cX4_houseLine 54 = .ok (.iconst 1, 1) := dk_4 (dk_at dksX4_houseLine_2 7 rfl rfl)
theorem dX4_houseLine_55 : decode cX4_houseLine 55 = .ok (.iconst 4, 1) := dk_7 (dk_at dksX4_houseLine_2 8 rfl rfl)
theorem dX4_houseLine_56 : decode cX4_houseLine 56 = .ok (.invokevirtual 152, 3) := dk_182 0 152 (dk_at dksX4_houseLine_2 9 rfl rfl)
theorem dX4_houseLine_59 : decode cX4_houseLine 59 = .ok (.iastore, 1) := dk_79 (dk_at dksX4_houseLine_2 12 rfl rfl)
theorem dX4_houseLine_60 : decode cX4_houseLine 60 = .ok (.dup, 1) := dk_89 (dk_at dksX4_houseLine_2 13 rfl rfl)
theorem dX4_houseLine_61 : decode cX4_houseLine 61 = .ok (.iconst 2, 1) := dk_5 (dk_at dksX4_houseLine_2 14 rfl rfl)
theorem dX4_houseLine_62 : decode cX4_houseLine 62 = .ok (.aload_n 0, 1) := dk_42 (dk_at dksX4_houseLine_2 15 rfl rfl)
theorem dX4_houseLine_63 : decode cX4_houseLine 63 = .ok (.iconst 0, 1) := dk_3 (dk_at dksX4_houseLine_2 16 rfl rfl)
theorem dX4_houseLine_64 : decode cX4_houseLine 64 = .ok (.bipush 7, 2) := dk_16 7 (dk_at dksX4_houseLine_2 17 rfl rfl)
theorem dX4_houseLine_66 : decode cX4_houseLine 66 = .ok (.invokevirtual 152, 3) := dk_182 0 152 (dk_at dksX4_houseLine_2 19 rfl rfl)
theorem dX4_houseLine_69 : decode cX4_houseLine 69 = .ok (.iastore, 1) := dk_79 (dk_at dksX4_houseLine_2 22 rfl rfl)
theorem dX4_houseLine_70 : decode cX4_houseLine 70 = .ok (.dup, 1) := dk_89 (dk_at dksX4_houseLine_2 23 rfl rfl)
theorem dX4_houseLine_71 : decode cX4_houseLine 71 = .ok (.iconst 3, 1) := dk_6 (dk_at dksX4_houseLine_3 0 rfl rfl)
theorem dX4_houseLine_72 : decode cX4_houseLine 72 = .ok (.aload_n 0, 1) := dk_42 (dk_at dksX4_houseLine_3 1 rfl rfl)
theorem dX4_houseLine_73 : decode cX4_houseLine 73 = .ok (.iconst 0, 1) := dk_3 (dk_at dksX4_houseLine_3 2 rfl rfl)
theorem dX4_houseLine_74 : decode cX4_houseLine 74 = .ok (.sipush 999, 3) := dk_17 3 231 (dk_at dksX4_houseLine_3 3 rfl rfl)
theorem dX4_houseLine_77 : decode cX4_houseLine 77 = .ok (.invokevirtual 152, 3) := dk_182 0 152 (dk_at dksX4_houseLine_3 6 rfl rfl)
theorem dX4_houseLine_80 : decode cX4_houseLine 80 = .ok (.iastore, 1) := dk_79 (dk_at dksX4_houseLine_3 9 rfl rfl)
theorem dX4_houseLine_81 : decode cX4_houseLine 81 = .ok (.astore_n 3, 1) := dk_78 (dk_at dksX4_houseLine_3 10 rfl rfl)
theorem dX4_houseLine_82 : decode cX4_houseLine 82 = .ok (.aload_n 0, 1) := dk_42 (dk_at dksX4_houseLine_3 11 rfl rfl)
theorem dX4_houseLine_83 : decode cX4_houseLine 83 = .ok (.ldc 166, 2) := dk_18 166 (dk_at dksX4_houseLine_3 12 rfl rfl)
theorem dX4_houseLine_85 : decode cX4_houseLine 85 = .ok (.invokevirtual 168, 3) := dk_182 0 168 (dk_at dksX4_houseLine_3 14 rfl rfl)
theorem dX4_houseLine_88 : decode cX4_houseLine 88 = .ok (.ifCond .eq 61, 3) := dk_153 0 61 (dk_at dksX4_houseLine_3 17 rfl rfl)
theorem dX4_houseLine_91 : decode cX4_houseLine 91 = .ok (.aload_n 0, 1) := dk_42 (dk_at dksX4_houseLine_3 20 rfl rfl)
theorem dX4_houseLine_92 : decode cX4_houseLine 92 = .ok (.invokevirtual 46, 3) := dk_182 0 46 (dk_at dksX4_houseLine_3 21 rfl rfl)
theorem dX4_houseLine_95 : decode cX4_houseLine 95 = .ok (.aload_n 0, 1) := dk_42 (dk_at dksX4_houseLine_4 0 rfl rfl)
theorem dX4_houseLine_96 : decode cX4_houseLine 96 = .ok (.aload_n 0, 1) := dk_42 (dk_at dksX4_houseLine_4 1 rfl rfl)
theorem dX4_houseLine_97 : decode cX4_houseLine 97 = .ok (.invokevirtual 143, 3) := dk_182 0 143 (dk_at dksX4_houseLine_4 2 rfl rfl)
theorem dX4_houseLine_100 : decode cX4_houseLine 100 = .ok (.iconst 2, 1) := dk_5 (dk_at dksX4_houseLine_4 5 rfl rfl)
theorem dX4_houseLine_101 : decode cX4_houseLine 101 = .ok (.invokevirtual 107, 3) := dk_182 0 107 (dk_at dksX4_houseLine_4 6 rfl rfl)
theorem dX4_houseLine_104 : decode cX4_houseLine 104 = .ok (.aload_n 0, 1) := dk_42 (dk_at dksX4_houseLine_4 9 rfl rfl)
theorem dX4_houseLine_105 : decode cX4_houseLine 105 = .ok (.aload_n 0, 1) := dk_42 (dk_at dksX4_houseLine_4 10 rfl rfl)
theorem dX4_houseLine_106 : decode cX4_houseLine 106 = .ok (.invokevirtual 140, 3) := dk_182 0 140 (dk_at dksX4_houseLine_4 11 rfl rfl)
theorem dX4_houseLine_109 : decode cX4_houseLine 109 = .ok (.ifCond .lt 18, 3) := dk_155 0 18 (dk_at dksX4_houseLine_4 14 rfl rfl)
theorem dX4_houseLine_112 : decode cX4_houseLine 112 = .ok (.aload_n 0, 1) := dk_42 (dk_at dksX4_houseLine_4 17 rfl rfl)
theorem dX4_houseLine_113 : decode cX4_houseLine 113 = .ok (.aload_n 0, 1) := dk_42 (dk_at dksX4_houseLine_4 18 rfl rfl)
theorem dX4_houseLine_114 : decode cX4_houseLine 114 = .ok (.invokevirtual 140, 3) := dk_182 0 140 (dk_at dksX4_houseLine_4 19 rfl rfl)
theorem dX4_houseLine_117 : decode cX4_houseLine 117 = .ok (.invokevirtual 172, 3) := dk_182 0 172 (dk_at dksX4_houseLine_5 0 rfl rfl)
theorem dX4_houseLine_120 : decode cX4_houseLine 120 = .ok (.ifCond .ne 7, 3) := dk_154 0 7 (dk_at dksX4_houseLine_5 3 rfl rfl)
theorem dX4_houseLine_123 : decode cX4_houseLine 123 = .ok (.iconst 1, 1) := dk_4 (dk_at dksX4_houseLine_5 6 rfl rfl)
theorem dX4_houseLine_124 : decode cX4_houseLine 124 = .ok (.goto 4, 3) := dk_167 0 4 (dk_at dksX4_houseLine_5 7 rfl rfl)
theorem dX4_houseLine_127 : decode cX4_houseLine 127 = .ok (.iconst 0, 1) := dk_3 (dk_at dksX4_houseLine_5 10 rfl rfl)
theorem dX4_houseLine_128 : decode cX4_houseLine 128 = .ok (.iconst 4, 1) := dk_7 (dk_at dksX4_houseLine_5 11 rfl rfl)
theorem dX4_houseLine_129 : decode cX4_houseLine 129 = .ok (.invokevirtual 107, 3) := dk_182 0 107 (dk_at dksX4_houseLine_5 12 rfl rfl)
theorem dX4_houseLine_132 : decode cX4_houseLine 132 = .ok (.aload_n 0, 1) := dk_42 (dk_at dksX4_houseLine_5 15 rfl rfl)
theorem dX4_houseLine_133 : decode cX4_houseLine 133 = .ok (.getfield 38, 3) := dk_180 0 38 (dk_at dksX4_houseLine_5 16 rfl rfl)
theorem dX4_houseLine_136 : decode cX4_houseLine 136 = .ok (.getfield 162, 3) := dk_180 0 162 (dk_at dksX4_houseLine_5 19 rfl rfl)
theorem dX4_houseLine_139 : decode cX4_houseLine 139 = .ok (.iload_n 2, 1) := dk_28 (dk_at dksX4_houseLine_5 22 rfl rfl)
theorem dX4_houseLine_140 : decode cX4_houseLine 140 = .ok (.aload_n 0, 1) := dk_42 (dk_at dksX4_houseLine_5 23 rfl rfl)
theorem dX4_houseLine_141 : decode cX4_houseLine 141 = .ok (.invokevirtual 140, 3) := dk_182 0 140 (dk_at dksX4_houseLine_6 0 rfl rfl)
theorem dX4_houseLine_144 : decode cX4_houseLine 144 = .ok (.iastore, 1) := dk_79 (dk_at dksX4_houseLine_6 3 rfl rfl)
theorem dX4_houseLine_145 : decode cX4_houseLine 145 = .ok (.aload_n 0, 1) := dk_42 (dk_at dksX4_houseLine_6 4 rfl rfl)
theorem dX4_houseLine_146 : decode cX4_houseLine 146 = .ok (.invokevirtual 46, 3) := dk_182 0 46 (dk_at dksX4_houseLine_6 5 rfl rfl)
theorem dX4_houseLine_149 : decode cX4_houseLine 149 = .ok (.aload_n 0, 1) := dk_42 (dk_at dksX4_houseLine_6 8 rfl rfl)
theorem dX4_houseLine_150 : decode cX4_houseLine 150 = .ok (.invokevirtual 143, 3) := dk_182 0 143 (dk_at dksX4_houseLine_6 9 rfl rfl)
theorem dX4_houseLine_153 : decode cX4_houseLine 153 = .ok (.ifCond .eq 105, 3) := dk_153 0 105 (dk_at dksX4_houseLine_6 12 rfl rfl)
theorem dX4_houseLine_156 : decode cX4_houseLine 156 = .ok (.aload_n 0, 1) := dk_42 (dk_at dksX4_houseLine_6 15 rfl rfl)
theorem dX4_houseLine_157 : decode cX4_houseLine 157 = .ok (.invokevirtual 140, 3) := dk_182 0 140 (dk_at dksX4_houseLine_6 16 rfl rfl)
theorem dX4_houseLine_160 : decode cX4_houseLine 160 = .ok (.istore 4, 2) := dk_54 4 (dk_at dksX4_houseLine_6 19 rfl rfl)
theorem dX4_houseLine_162 : decode cX4_houseLine 162 = .ok (.aload_n 0, 1) := dk_42 (dk_at dksX4_houseLine_6 21 rfl rfl)
theorem dX4_houseLine_163 : decode cX4_houseLine 163 = .ok (.iload 4, 2) := dk_21 4 (dk_at dksX4_houseLine_6 22 rfl rfl)
theorem dX4_houseLine_165 : decode cX4_houseLine 165 = .ok (.ifCond .lt 20, 3) := dk_155 0 20 (dk_at dksX4_houseLine_7 0 rfl rfl)
theorem dX4_houseLine_168 : decode cX4_houseLine 168 = .ok (.aload_n 0, 1) := dk_42 (dk_at dksX4_houseLine_7 3 rfl rfl)
theorem dX4_houseLine_169 : decode cX4_houseLine 169 = .ok (.getfield 38, 3) := dk_180 0 38 (dk_at dksX4_houseLine_7 4 rfl rfl)
theorem dX4_houseLine_172 : decode cX4_houseLine 172 = .ok (.iload_n 2, 1) := dk_28 (dk_at dksX4_houseLine_7 7 rfl rfl)
theorem dX4_houseLine_173 : decode cX4_houseLine 173 = .ok (.iload 4, 2) := dk_21 4 (dk_at dksX4_houseLine_7 8 rfl rfl)
theorem dX4_houseLine_175 : decode cX4_houseLine 175 = .ok (.invokevirtual 176, 3) := dk_182 0 176 (dk_at dksX4_houseLine_7 10 rfl rfl)
theorem dX4_houseLine_178 : decode cX4_houseLine 178 = .ok (.ifCond .ne 7, 3) := dk_154 0 7 (dk_at dksX4_houseLine_7 13 rfl rfl)
theorem dX4_houseLine_181 : decode cX4_houseLine 181 = .ok (.iconst 1, 1) := dk_4 (dk_at dksX4_houseLine_7 16 rfl rfl)
theorem dX4_houseLine_182 : decode cX4_houseLine 182 = .ok (.goto 4, 3) := dk_167 0 4 (dk_at dksX4_houseLine_7 17 rfl rfl)
theorem dX4_houseLine_185 : decode cX4_houseLine 185 = .ok (.iconst 0, 1) := dk_3 (dk_at dksX4_houseLine_7 20 rfl rfl)
theorem dX4_houseLine_186 : decode cX4_houseLine 186 = .ok (.iconst 4, 1) := dk_7 (dk_at dksX4_houseLine_7 21 rfl rfl)
theorem dX4_houseLine_187 : decode cX4_houseLine 187 = .ok (.invokevirtual 107, 3) := dk_182 0 107 (dk_at dksX4_houseLine_8 0 rfl rfl)
theorem dX4_houseLine_190 : decode cX4_houseLine 190 = .ok (.aload_n 0, 1) := dk_42 (dk_at dksX4_houseLine_8 3 rfl rfl)
theorem dX4_houseLine_191 : decode cX4_houseLine 191 = .ok (.aload_n 0, 1) := dk_42 (dk_at dksX4_houseLine_8 4 rfl rfl)
theorem dX4_houseLine_192 : decode cX4_houseLine 192 = .ok (.getfield 38, 3) := dk_180 0 38 (dk_at dksX4_houseLine_8 5 rfl rfl)
theorem dX4_houseLine_195 : decode cX4_houseLine 195 = .ok (.getfield 180, 3) := dk_180 0 180 (dk_at dksX4_houseLine_8 8 rfl rfl)
theorem dX4_houseLine_198 : decode cX4_houseLine 198 = .ok (.iload_n 2, 1) := dk_28 (dk_at dksX4_houseLine_8 11 rfl rfl)
theorem dX4_houseLine_199 : decode cX4_houseLine 199 = .ok (.iaload, 1) := dk_46 (dk_at dksX4_houseLine_8 12 rfl rfl)
theorem dX4_houseLine_200 : decode cX4_houseLine 200 = .ok (.bipush 6, 2) := dk_16 6 (dk_at dksX4_houseLine_8 13 rfl rfl)
theorem dX4_houseLine_202 : decode cX4_houseLine 202 = .ok (.if_icmp .ge 7, 3) := dk_162 0 7 (dk_at dksX4_houseLine_8 15 rfl rfl)
theorem dX4_houseLine_205 : decode cX4_houseLine 205 = .ok (.iconst 1, 1) := dk_4 (dk_at dksX4_houseLine_8 18 rfl rfl)
theorem dX4_houseLine_206 : decode cX4_houseLine 206 = .ok (.goto 4, 3) := dk_167 0 4 (dk_at dksX4_houseLine_8 19 rfl rfl)
theorem dX4_houseLine_209 : decode cX4_houseLine 209 = .ok (.iconst 0, 1) := dk_3 (dk_at dksX4_houseLine_8 22 rfl rfl)
theorem dX4_houseLine_210 : decode cX4_houseLine 210 = .ok (.iconst 5, 1) := dk_8 (dk_at dksX4_houseLine_8 23 rfl rfl)
theorem dX4_houseLine_211 : decode cX4_houseLine 211 = .ok (.invokevirtual 107, 3) := dk_182 0 107 (dk_at dksX4_houseLine_9 0 rfl rfl)
theorem dX4_houseLine_214 : decode cX4_houseLine 214 = .ok (.aload_n 0, 1) := dk_42 (dk_at dksX4_houseLine_9 3 rfl rfl)
theorem dX4_houseLine_215 : decode cX4_houseLine 215 = .ok (.getfield 38, 3) := dk_180 0 38 (dk_at dksX4_houseLine_9 4 rfl rfl)
theorem dX4_houseLine_218 : decode cX4_houseLine 218 = .ok (.getfield 183, 3) := dk_180 0 183 (dk_at dksX4_houseLine_9 7 rfl rfl)
theorem dX4_houseLine_221 : decode cX4_houseLine 221 = .ok (.bipush 6, 2) := dk_16 6 (dk_at dksX4_houseLine_9 10 rfl rfl)
theorem dX4_houseLine_223 : decode cX4_houseLine 223 = .ok (.iload_n 2, 1) := dk_28 (dk_at dksX4_houseLine_9 12 rfl rfl)
theorem dX4_houseLine_224 : decode cX4_houseLine 224 = .ok (.imul, 1) := dk_104 (dk_at dksX4_houseLine_9 13 rfl rfl)
theorem dX4_houseLine_225 : decode cX4_houseLine 225 = .ok (.aload_n 0, 1) := dk_42 (dk_at dksX4_houseLine_9 14 rfl rfl)
theorem dX4_houseLine_226 : decode cX4_houseLine 226 = .ok (.getfield 38, 3) := dk_180 0 38 (dk_at dksX4_houseLine_9 15 rfl rfl)
theorem dX4_houseLine_229 : decode cX4_houseLine 229 = .ok (.getfield 180, 3) := dk_180 0 180 (dk_at dksX4_houseLine_9 18 rfl rfl)
theorem dX4_houseLine_232 : decode cX4_houseLine 232 = .ok (.iload_n 2, 1) := dk_28 (dk_at dksX4_houseLine_9 21 rfl rfl)
theorem dX4_houseLine_233 : decode cX4_houseLine 233 = .ok (.iaload, 1) := dk_46 (dk_at dksX4_houseLine_9 22 rfl rfl)
theorem dX4_houseLine_234 : decode cX4_houseLine 234 = .ok (.iadd, 1) := dk_96 (dk_at dksX4_houseLine_9 23 rfl rfl)
theorem dX4_houseLine_235 : decode cX4_houseLine 235 = .ok (.iload 4, 2) := dk_21 4 (dk_at dksX4_houseLine_10 0 rfl rfl)
theorem dX4_houseLine_237 : decode cX4_houseLine 237 = .ok (.iastore, 1) := dk_79 (dk_at dksX4_houseLine_10 2 rfl rfl)
theorem dX4_houseLine_238 : decode cX4_houseLine 238 = .ok (.aload_n 0, 1) := dk_42 (dk_at dksX4_houseLine_10 3 rfl rfl)
theorem dX4_houseLine_239 : decode cX4_houseLine 239 = .ok (.getfield 38, 3) := dk_180 0 38 (dk_at dksX4_houseLine_10 4 rfl rfl)
theorem dX4_houseLine_242 : decode cX4_houseLine 242 = .ok (.getfield 180, 3) := dk_180 0 180 (dk_at dksX4_houseLine_10 7 rfl rfl)
theorem dX4_houseLine_245 : decode cX4_houseLine 245 = .ok (.iload_n 2, 1) := dk_28 (dk_at dksX4_houseLine_10 10 rfl rfl)
theorem dX4_houseLine_246 : decode cX4_houseLine 246 = .ok (.dup2, 1) := dk_92 (dk_at dksX4_houseLine_10 11 rfl rfl)
theorem dX4_houseLine_247 : decode cX4_houseLine 247 = .ok (.iaload, 1) := dk_46 (dk_at dksX4_houseLine_10 12 rfl rfl)
theorem dX4_houseLine_248 : decode cX4_houseLine 248 = .ok (.iconst 1, 1) := dk_4 (dk_at dksX4_houseLine_10 13 rfl rfl)
theorem dX4_houseLine_249 : decode cX4_houseLine 249 = .ok (.iadd, 1) := dk_96 (dk_at dksX4_houseLine_10 14 rfl rfl)
theorem dX4_houseLine_250 : decode cX4_houseLine 250 = .ok (.iastore, 1) := dk_79 (dk_at dksX4_houseLine_10 15 rfl rfl)
theorem dX4_houseLine_251 : decode cX4_houseLine 251 = .ok (.aload_n 0, 1) := dk_42 (dk_at dksX4_houseLine_10 16 rfl rfl)
theorem dX4_houseLine_252 : decode cX4_houseLine 252 = .ok (.invokevirtual 46, 3) := dk_182 0 46 (dk_at dksX4_houseLine_10 17 rfl rfl)
theorem dX4_houseLine_255 : decode cX4_houseLine 255 = .ok (.goto (-106), 3) := dk_167 255 150 (dk_at dksX4_houseLine_10 20 rfl rfl)
theorem dX4_houseLine_258 : decode cX4_houseLine 258 = .ok (.aload_n 0, 1) := dk_42 (dk_at dksX4_houseLine_10 23 rfl rfl)
theorem dX4_houseLine_259 : decode cX4_houseLine 259 = .ok (.getfield 38, 3) := dk_180 0 38 (dk_at dksX4_houseLine_11 0 rfl rfl)
theorem dX4_houseLine_262 : decode cX4_houseLine 262 = .ok (.getfield 186, 3) := dk_180 0 186 (dk_at dksX4_houseLine_11 3 rfl rfl)
theorem dX4_houseLine_265 : decode cX4_houseLine 265 = .ok (.iload_n 2, 1) := dk_28 (dk_at dksX4_houseLine_11 6 rfl rfl)
theorem dX4_houseLine_266 : decode cX4_houseLine 266 = .ok (.aload_n 3, 1) := dk_45 (dk_at dksX4_houseLine_11 7 rfl rfl)
theorem dX4_houseLine_267 : decode cX4_houseLine 267 = .ok (.iconst 1, 1) := dk_4 (dk_at dksX4_houseLine_11 8 rfl rfl)
theorem dX4_houseLine_268 : decode cX4_houseLine 268 = .ok (.iaload, 1) := dk_46 (dk_at dksX4_houseLine_11 9 rfl rfl)
theorem dX4_houseLine_269 : decode cX4_houseLine 269 = .ok (.iastore, 1) := dk_79 (dk_at dksX4_houseLine_11 10 rfl rfl)
theorem dX4_houseLine_270 : decode cX4_houseLine 270 = .ok (.aload_n 0, 1) := dk_42 (dk_at dksX4_houseLine_11 11 rfl rfl)
theorem dX4_houseLine_271 : decode cX4_houseLine 271 = .ok (.getfield 30, 3) := dk_180 0 30 (dk_at dksX4_houseLine_11 12 rfl rfl)
theorem dX4_houseLine_274 : decode cX4_houseLine 274 = .ok (.new 137, 3) := dk_187 0 137 (dk_at dksX4_houseLine_11 15 rfl rfl)
theorem dX4_houseLine_277 : decode cX4_houseLine 277 = .ok (.dup, 1) := dk_89 (dk_at dksX4_houseLine_11 18 rfl rfl)
theorem dX4_houseLine_278 : decode cX4_houseLine 278 = .ok (.aload_n 1, 1) := dk_43 (dk_at dksX4_houseLine_11 19 rfl rfl)
theorem dX4_houseLine_279 : decode cX4_houseLine 279 = .ok (.aload_n 3, 1) := dk_45 (dk_at dksX4_houseLine_11 20 rfl rfl)
theorem dX4_houseLine_280 : decode cX4_houseLine 280 = .ok (.invokespecial 188, 3) := dk_183 0 188 (dk_at dksX4_houseLine_11 21 rfl rfl)
theorem dX4_houseLine_283 : decode cX4_houseLine 283 = .ok (.invokevirtual 159, 3) := dk_182 0 159 (dk_at dksX4_houseLine_12 0 rfl rfl)
theorem dX4_houseLine_286 : decode cX4_houseLine 286 = .ok (.pop, 1) := dk_87 (dk_at dksX4_houseLine_12 3 rfl rfl)
theorem dX4_houseLine_287 : decode cX4_houseLine 287 = .ok (.return_, 1) := dk_177 (dk_at dksX4_houseLine_12 4 rfl rfl)
abbrev cX4_isLivedIn : ByteArray := prog_9_method_12_code
def yX4_isLivedIn : MethodName := ⟨RX4, "isLivedIn", "(I)Z"⟩
def dkwX4_isLivedIn_1 : List UInt8 := [160, 0, 5, 4, 172, 132, 2, 1, 167, 255, 227, 3, 172]
abbrev dktX4_isLivedIn_1 : List UInt8 := dkwX4_isLivedIn_1 ++ []
def dkwX4_isLivedIn_0 : List UInt8 := [3, 61, 28, 42, 180, 0, 30, 182, 0, 111, 162, 0, 24, 42, 180, 0, 38, 180, 0, 162, 28, 46, 27]
abbrev dktX4_isLivedIn_0 : List UInt8 := dkwX4_isLivedIn_0 ++ dktX4_isLivedIn_1
theorem dksX4_isLivedIn_0 : cX4_isLivedIn.data.toList.drop 0 = dktX4_isLivedIn_0 := by decide +kernel
theorem dksX4_isLivedIn_1 : cX4_isLivedIn.data.toList.drop 23 = dktX4_isLivedIn_1 := dk_seg dksX4_isLivedIn_0 23 rfl rfl
theorem dX4_isLivedIn_0 : decode cX4_isLivedIn 0 = .ok (.iconst 0, 1) := dk_3 (dk_at dksX4_isLivedIn_0 0 rfl rfl)
theorem dX4_isLivedIn_1 : decode cX4_isLivedIn 1 = .ok (.istore_n 2, 1) := dk_61 (dk_at dksX4_isLivedIn_0 1 rfl rfl)
theorem dX4_isLivedIn_2 : decode cX4_isLivedIn 2 = .ok (.iload_n 2, 1) := dk_28 (dk_at dksX4_isLivedIn_0 2 rfl rfl)
theorem dX4_isLivedIn_3 : decode cX4_isLivedIn 3 = .ok (.aload_n 0, 1) := dk_42 (dk_at dksX4_isLivedIn_0 3 rfl rfl)
theorem dX4_isLivedIn_4 : decode cX4_isLivedIn 4 = .ok (.getfield 30, 3) := dk_180 0 30 (dk_at dksX4_isLivedIn_0 4 rfl rfl)
theorem dX4_isLivedIn_7 : decode cX4_isLivedIn 7 = .ok (.invokevirtual 111, 3) := dk_182 0 111 (dk_at dksX4_isLivedIn_0 7 rfl rfl)
theorem dX4_isLivedIn_10 : decode cX4_isLivedIn 10 = .ok (.if_icmp .ge 24, 3) := dk_162 0 24 (dk_at dksX4_isLivedIn_0 10 rfl rfl)
theorem dX4_isLivedIn_13 : decode cX4_isLivedIn 13 = .ok (.aload_n 0, 1) := dk_42 (dk_at dksX4_isLivedIn_0 13 rfl rfl)
theorem dX4_isLivedIn_14 : decode cX4_isLivedIn 14 = .ok (.getfield 38, 3) := dk_180 0 38 (dk_at dksX4_isLivedIn_0 14 rfl rfl)
theorem dX4_isLivedIn_17 : decode cX4_isLivedIn 17 = .ok (.getfield 162, 3) := dk_180 0 162 (dk_at dksX4_isLivedIn_0 17 rfl rfl)
theorem dX4_isLivedIn_20 : decode cX4_isLivedIn 20 = .ok (.iload_n 2, 1) := dk_28 (dk_at dksX4_isLivedIn_0 20 rfl rfl)
theorem dX4_isLivedIn_21 : decode cX4_isLivedIn 21 = .ok (.iaload, 1) := dk_46 (dk_at dksX4_isLivedIn_0 21 rfl rfl)
theorem dX4_isLivedIn_22 : decode cX4_isLivedIn 22 = .ok (.iload_n 1, 1) := dk_27 (dk_at dksX4_isLivedIn_0 22 rfl rfl)
theorem dX4_isLivedIn_23 : decode cX4_isLivedIn 23 = .ok (.if_icmp .ne 5, 3) := dk_160 0 5 (dk_at dksX4_isLivedIn_1 0 rfl rfl)
theorem dX4_isLivedIn_26 : decode cX4_isLivedIn 26 = .ok (.iconst 1, 1) := dk_4 (dk_at dksX4_isLivedIn_1 3 rfl rfl)
theorem dX4_isLivedIn_27 : decode cX4_isLivedIn 27 = .ok (.ireturn, 1) := dk_172 (dk_at dksX4_isLivedIn_1 4 rfl rfl)
theorem dX4_isLivedIn_28 : decode cX4_isLivedIn 28 = .ok (.iinc 2 1, 3) := dk_132 2 1 (dk_at dksX4_isLivedIn_1 5 rfl rfl)
theorem dX4_isLivedIn_31 : decode cX4_isLivedIn 31 = .ok (.goto (-29), 3) := dk_167 255 227 (dk_at dksX4_isLivedIn_1 8 rfl rfl)
theorem dX4_isLivedIn_34 : decode cX4_isLivedIn 34 = .ok (.iconst 0, 1) := dk_3 (dk_at dksX4_isLivedIn_1 11 rfl rfl)
theorem dX4_isLivedIn_35 : decode cX4_isLivedIn 35 = .ok (.ireturn, 1) := dk_172 (dk_at dksX4_isLivedIn_1 12 rfl rfl)
abbrev cX4_ruleLine : ByteArray := prog_9_method_14_code
def yX4_ruleLine : MethodName := ⟨RX4, "ruleLine", "()V"⟩
def dkwX4_ruleLine_3 : List UInt8 := [27, 46, 178, 0, 199, 27, 46, 182, 0, 152, 79, 177]
abbrev dktX4_ruleLine_3 : List UInt8 := dkwX4_ruleLine_3 ++ []
def dkwX4_ruleLine_2 : List UInt8 := [167, 0, 4, 3, 5, 182, 0, 107, 42, 182, 0, 46, 42, 180, 0, 38, 180, 0, 193, 27, 42, 178, 0, 196]
abbrev dktX4_ruleLine_2 : List UInt8 := dkwX4_ruleLine_2 ++ dktX4_ruleLine_3
def dkwX4_ruleLine_1 : List UInt8 := [180, 0, 17, 42, 180, 0, 3, 180, 0, 96, 184, 0, 100, 167, 0, 4, 2, 60, 42, 27, 155, 0, 7, 4]
abbrev dktX4_ruleLine_1 : List UInt8 := dkwX4_ruleLine_1 ++ dktX4_ruleLine_2
def dkwX4_ruleLine_0 : List UInt8 := [42, 42, 18, 191, 182, 0, 168, 5, 182, 0, 107, 42, 182, 0, 46, 42, 180, 0, 67, 4, 160, 0, 20, 42]
abbrev dktX4_ruleLine_0 : List UInt8 := dkwX4_ruleLine_0 ++ dktX4_ruleLine_1
theorem dksX4_ruleLine_0 : cX4_ruleLine.data.toList.drop 0 = dktX4_ruleLine_0 := by decide +kernel
theorem dksX4_ruleLine_1 : cX4_ruleLine.data.toList.drop 24 = dktX4_ruleLine_1 := dk_seg dksX4_ruleLine_0 24 rfl rfl
theorem dksX4_ruleLine_2 : cX4_ruleLine.data.toList.drop 48 = dktX4_ruleLine_2 := dk_seg dksX4_ruleLine_1 24 rfl rfl
theorem dksX4_ruleLine_3 : cX4_ruleLine.data.toList.drop 72 = dktX4_ruleLine_3 := dk_seg dksX4_ruleLine_2 24 rfl rfl
theorem dX4_ruleLine_0 : decode cX4_ruleLine 0 = .ok (.aload_n 0, 1) := dk_42 (dk_at dksX4_ruleLine_0 0 rfl rfl)
theorem dX4_ruleLine_1 : decode cX4_ruleLine 1 = .ok (.aload_n 0, 1) := dk_42 (dk_at dksX4_ruleLine_0 1 rfl rfl)
theorem dX4_ruleLine_2 : decode cX4_ruleLine 2 = .ok (.ldc 191, 2) := dk_18 191 (dk_at dksX4_ruleLine_0 2 rfl rfl)
theorem dX4_ruleLine_4 : decode cX4_ruleLine 4 = .ok (.invokevirtual 168, 3) := dk_182 0 168 (dk_at dksX4_ruleLine_0 4 rfl rfl)
theorem dX4_ruleLine_7 : decode cX4_ruleLine 7 = .ok (.iconst 2, 1) := dk_5 (dk_at dksX4_ruleLine_0 7 rfl rfl)
theorem dX4_ruleLine_8 : decode cX4_ruleLine 8 = .ok (.invokevirtual 107, 3) := dk_182 0 107 (dk_at dksX4_ruleLine_0 8 rfl rfl)
theorem dX4_ruleLine_11 : decode cX4_ruleLine 11 = .ok (.aload_n 0, 1) := dk_42 (dk_at dksX4_ruleLine_0 11 rfl rfl)
theorem dX4_ruleLine_12 : decode cX4_ruleLine 12 = .ok (.invokevirtual 46, 3) := dk_182 0 46 (dk_at dksX4_ruleLine_0 12 rfl rfl)
theorem dX4_ruleLine_15 : decode cX4_ruleLine 15 = .ok (.aload_n 0, 1) := dk_42 (dk_at dksX4_ruleLine_0 15 rfl rfl)
theorem dX4_ruleLine_16 : decode cX4_ruleLine 16 = .ok (.getfield 67, 3) := dk_180 0 67 (dk_at dksX4_ruleLine_0 16 rfl rfl)
theorem dX4_ruleLine_19 : decode cX4_ruleLine 19 = .ok (.iconst 1, 1) := dk_4 (dk_at dksX4_ruleLine_0 19 rfl rfl)
theorem dX4_ruleLine_20 : decode cX4_ruleLine 20 = .ok (.if_icmp .ne 20, 3) := dk_160 0 20 (dk_at dksX4_ruleLine_0 20 rfl rfl)
theorem dX4_ruleLine_23 : decode cX4_ruleLine 23 = .ok (.aload_n 0, 1) := dk_42 (dk_at dksX4_ruleLine_0 23 rfl rfl)
theorem dX4_ruleLine_24 : decode cX4_ruleLine 24 = .ok (.getfield 17, 3) := dk_180 0 17 (dk_at dksX4_ruleLine_1 0 rfl rfl)
theorem dX4_ruleLine_27 : decode cX4_ruleLine 27 = .ok (.aload_n 0, 1) := dk_42 (dk_at dksX4_ruleLine_1 3 rfl rfl)
theorem dX4_ruleLine_28 : decode cX4_ruleLine 28 = .ok (.getfield 3, 3) := dk_180 0 3 (dk_at dksX4_ruleLine_1 4 rfl rfl)
theorem dX4_ruleLine_31 : decode cX4_ruleLine 31 = .ok (.getfield 96, 3) := dk_180 0 96 (dk_at dksX4_ruleLine_1 7 rfl rfl)
theorem dX4_ruleLine_34 : decode cX4_ruleLine 34 = .ok (.invokestatic 100, 3) := dk_184 0 100 (dk_at dksX4_ruleLine_1 10 rfl rfl)
theorem dX4_ruleLine_37 : decode cX4_ruleLine 37 = .ok (.goto 4, 3) := dk_167 0 4 (dk_at dksX4_ruleLine_1 13 rfl rfl)
theorem dX4_ruleLine_40 : decode cX4_ruleLine 40 = .ok (.iconst (-1), 1) := dk_2 (dk_at dksX4_ruleLine_1 16 rfl rfl)
theorem dX4_ruleLine_41 : decode cX4_ruleLine 41 = .ok (.istore_n 1, 1) := dk_60 (dk_at dksX4_ruleLine_1 17 rfl rfl)
theorem dX4_ruleLine_42 : decode cX4_ruleLine 42 = .ok (.aload_n 0, 1) := dk_42 (dk_at dksX4_ruleLine_1 18 rfl rfl)
theorem dX4_ruleLine_43 : decode cX4_ruleLine 43 = .ok (.iload_n 1, 1) := dk_27 (dk_at dksX4_ruleLine_1 19 rfl rfl)
theorem dX4_ruleLine_44 : decode cX4_ruleLine 44 = .ok (.ifCond .lt 7, 3) := dk_155 0 7 (dk_at dksX4_ruleLine_1 20 rfl rfl)
theorem dX4_ruleLine_47 : decode cX4_ruleLine 47 = .ok (.iconst 1, 1) := dk_4 (dk_at dksX4_ruleLine_1 23 rfl rfl)
theorem dX4_ruleLine_48 : decode cX4_ruleLine 48 = .ok (.goto 4, 3) := dk_167 0 4 (dk_at dksX4_ruleLine_2 0 rfl rfl)
theorem dX4_ruleLine_51 : decode cX4_ruleLine 51 = .ok (.iconst 0, 1) := dk_3 (dk_at dksX4_ruleLine_2 3 rfl rfl)
theorem dX4_ruleLine_52 : decode cX4_ruleLine 52 = .ok (.iconst 2, 1) := dk_5 (dk_at dksX4_ruleLine_2 4 rfl rfl)
theorem dX4_ruleLine_53 : decode cX4_ruleLine 53 = .ok (.invokevirtual 107, 3) := dk_182 0 107 (dk_at dksX4_ruleLine_2 5 rfl rfl)
theorem dX4_ruleLine_56 : decode cX4_ruleLine 56 = .ok (.aload_n 0, 1) := dk_42 (dk_at dksX4_ruleLine_2 8 rfl rfl)
theorem dX4_ruleLine_57 : decode cX4_ruleLine 57 = .ok (.invokevirtual 46, 3) := dk_182 0 46 (dk_at dksX4_ruleLine_2 9 rfl rfl)
theorem dX4_ruleLine_60 : decode cX4_ruleLine 60 = .ok (.aload_n 0, 1) := dk_42 (dk_at dksX4_ruleLine_2 12 rfl rfl)
theorem dX4_ruleLine_61 : decode cX4_ruleLine 61 = .ok (.getfield 38, 3) := dk_180 0 38 (dk_at dksX4_ruleLine_2 13 rfl rfl)
theorem dX4_ruleLine_64 : decode cX4_ruleLine 64 = .ok (.getfield 193, 3) := dk_180 0 193 (dk_at dksX4_ruleLine_2 16 rfl rfl)
theorem dX4_ruleLine_67 : decode cX4_ruleLine 67 = .ok (.iload_n 1, 1) := dk_27 (dk_at dksX4_ruleLine_2 19 rfl rfl)
theorem dX4_ruleLine_68 : decode cX4_ruleLine 68 = .ok (.aload_n 0, 1) := dk_42 (dk_at dksX4_ruleLine_2 20 rfl rfl)
theorem dX4_ruleLine_69 : decode cX4_ruleLine 69 = .ok (.getstatic 196, 3) := dk_178 0 196 (dk_at dksX4_ruleLine_2 21 rfl rfl)
theorem dX4_ruleLine_72 : decode cX4_ruleLine 72 = .ok (.iload_n 1, 1) := dk_27 (dk_at dksX4_ruleLine_3 0 rfl rfl)
theorem dX4_ruleLine_73 : decode cX4_ruleLine 73 = .ok (.iaload, 1) := dk_46 (dk_at dksX4_ruleLine_3 1 rfl rfl)
theorem dX4_ruleLine_74 : decode cX4_ruleLine 74 = .ok (.getstatic 199, 3) := dk_178 0 199 (dk_at dksX4_ruleLine_3 2 rfl rfl)
theorem dX4_ruleLine_77 : decode cX4_ruleLine 77 = .ok (.iload_n 1, 1) := dk_27 (dk_at dksX4_ruleLine_3 5 rfl rfl)
theorem dX4_ruleLine_78 : decode cX4_ruleLine 78 = .ok (.iaload, 1) := dk_46 (dk_at dksX4_ruleLine_3 6 rfl rfl)
theorem dX4_ruleLine_79 : decode cX4_ruleLine 79 = .ok (.invokevirtual 152, 3) := dk_182 0 152 (dk_at dksX4_ruleLine_3 7 rfl rfl)
theorem dX4_ruleLine_82 : decode cX4_ruleLine 82 = .ok (.iastore, 1) := dk_79 (dk_at dksX4_ruleLine_3 10 rfl rfl)
theorem dX4_ruleLine_83 : decode cX4_ruleLine 83 = .ok (.return_, 1) := dk_177 (dk_at dksX4_ruleLine_3 11 rfl rfl)
theorem q190 : (Jvm.Cond.initialized "HomesQueue$Reader") ∈ lw_all := lw_g (lw_at lw_m1 17 rfl) rfl
theorem q429 : (Jvm.Cond.fieldLinkNest "HomesQueue$Reader" (193 : Nat) "HomesQueue$Register" "rules" "[I" "HomesQueue") ∈ lw_tbl := lw_at lw_m2 16 rfl
theorem q434 : (Jvm.Cond.fieldLinkNest "HomesQueue$Reader" (162 : Nat) "HomesQueue$Register" "livesIn" "[I" "HomesQueue") ∈ lw_tbl := lw_at lw_m2 21 rfl
theorem q446 : (Jvm.Cond.fieldLinkNest "HomesQueue$Reader" (180 : Nat) "HomesQueue$Register" "wishMany" "[I" "HomesQueue") ∈ lw_tbl := lw_at lw_m2 33 rfl
theorem q449 : (Jvm.Cond.fieldLinkNest "HomesQueue$Reader" (183 : Nat) "HomesQueue$Register" "wishes" "[I" "HomesQueue") ∈ lw_tbl := lw_at lw_m2 36 rfl
theorem q454 : (Jvm.Cond.fieldLinkNest "HomesQueue$Reader" (186 : Nat) "HomesQueue$Register" "needs" "[I" "HomesQueue") ∈ lw_tbl := lw_at lw_m2 41 rfl
theorem q600 : (Jvm.Cond.fieldLinkNest "HomesQueue$Reader" (96 : Nat) "HomesQueue" "kindNames" "[Ljava/lang/String;" "HomesQueue") ∈ lw_tbl := lw_at lw_m2 187 rfl
theorem q602 : (Jvm.Cond.fieldLinkNest "HomesQueue$Reader" (104 : Nat) "HomesQueue" "lineNames" "[Ljava/lang/String;" "HomesQueue") ∈ lw_tbl := lw_at lw_m2 189 rfl
theorem q604 : (Jvm.Cond.fieldLinkNest "HomesQueue$Reader" (49 : Nat) "HomesQueue" "tape" "[B" "HomesQueue") ∈ lw_tbl := lw_at lw_m2 191 rfl
theorem q658 : (Jvm.Cond.instantiable "HomesQueue$Reader" (10 : Nat)) ∈ lw_all := lw_g (lw_at lw_m3 5 rfl) rfl
theorem q660 : (Jvm.Cond.instanceMethod ({ cls := "HomesQueue$Reader", name := "<init>", desc := "(LHomesQueue;I)V" } : Jvm.MethodName)) ∈ lw_all := lw_g (lw_at lw_m3 7 rfl) rfl
theorem q661 : (Jvm.Cond.code ({ cls := "HomesQueue$Reader", name := "<init>", desc := "(LHomesQueue;I)V" } : Jvm.MethodName) prog_9_method_1_code (3 : Nat) (Option.none : Option Jvm.ClassFile.FieldType)) ∈ lw_all := lw_g (lw_at lw_m3 8 rfl) rfl
theorem q662 : (Jvm.Cond.methodLink "HomesQueue$Reader" (9 : Nat) ({ cls := "java/lang/Object", name := "<init>", desc := "()V" } : Jvm.MethodName)) ∈ lw_all := lw_g (lw_at lw_m3 9 rfl) rfl
theorem q663 : (Jvm.Cond.stringRef "HomesQueue$Reader" (15 : Nat) "") ∈ lw_tbl := lw_at lw_m3 10 rfl
theorem q664 : (Jvm.Cond.classLink "HomesQueue$Reader" (21 : Nat) "java/util/ArrayList") ∈ lw_all := lw_g (lw_at lw_m3 11 rfl) rfl
theorem q665 : (Jvm.Cond.methodLink "HomesQueue$Reader" (23 : Nat) ({ cls := "java/util/ArrayList", name := "<init>", desc := "(I)V" } : Jvm.MethodName)) ∈ lw_all := lw_g (lw_at lw_m3 12 rfl) rfl
theorem q666 : (Jvm.Cond.classLink "HomesQueue$Reader" (33 : Nat) "HomesQueue$Register") ∈ lw_all := lw_g (lw_at lw_m3 13 rfl) rfl
theorem q667 : (Jvm.Cond.methodLinkNest "HomesQueue$Reader" (35 : Nat) ({ cls := "HomesQueue$Register", name := "<init>", desc := "(LHomesQueue;)V" } : Jvm.MethodName) "HomesQueue") ∈ lw_tbl := lw_at lw_m3 14 rfl
theorem q668 : (Jvm.Cond.methodLink "HomesQueue$Reader" (46 : Nat) ({ cls := "HomesQueue$Reader", name := "goesOn", desc := "()V" } : Jvm.MethodName)) ∈ lw_all := lw_g (lw_at lw_m3 15 rfl) rfl
theorem q669 : (Jvm.Cond.privateMethod ({ cls := "HomesQueue$Reader", name := "goesOn", desc := "()V" } : Jvm.MethodName)) ∈ lw_tbl := lw_at lw_m3 16 rfl
theorem q670 : (Jvm.Cond.instanceMethod ({ cls := "HomesQueue$Reader", name := "goesOn", desc := "()V" } : Jvm.MethodName)) ∈ lw_all := lw_g (lw_at lw_m3 17 rfl) rfl
theorem q671 : (Jvm.Cond.code ({ cls := "HomesQueue$Reader", name := "goesOn", desc := "()V" } : Jvm.MethodName) prog_9_method_3_code (2 : Nat) (Option.none : Option Jvm.ClassFile.FieldType)) ∈ lw_all := lw_g (lw_at lw_m3 18 rfl) rfl
theorem q672 : (Jvm.Cond.methodLink "HomesQueue$Reader" (63 : Nat) ({ cls := "HomesQueue$Reader", name := "isAt", desc := "(III)Z" } : Jvm.MethodName)) ∈ lw_all := lw_g (lw_at lw_m3 19 rfl) rfl
theorem q673 : (Jvm.Cond.privateMethod ({ cls := "HomesQueue$Reader", name := "isAt", desc := "(III)Z" } : Jvm.MethodName)) ∈ lw_tbl := lw_at lw_m3 20 rfl
theorem q674 : (Jvm.Cond.instanceMethod ({ cls := "HomesQueue$Reader", name := "isAt", desc := "(III)Z" } : Jvm.MethodName)) ∈ lw_all := lw_g (lw_at lw_m3 21 rfl) rfl
theorem q675 : (Jvm.Cond.code ({ cls := "HomesQueue$Reader", name := "isAt", desc := "(III)Z" } : Jvm.MethodName) prog_9_method_2_code (4 : Nat) (Option.some Jvm.ClassFile.FieldType.boolean)) ∈ lw_all := lw_g (lw_at lw_m3 22 rfl) rfl
theorem q676 : (Jvm.Cond.methodLinkNest "HomesQueue$Reader" (53 : Nat) ({ cls := "HomesQueue", name := "isIn", desc := "(JJJ)Z" } : Jvm.MethodName) "HomesQueue") ∈ lw_tbl := lw_at lw_m3 23 rfl
theorem q677 : (Jvm.Cond.classLink "HomesQueue$Reader" (70 : Nat) "java/lang/StringBuilder") ∈ lw_all := lw_g (lw_at lw_m3 24 rfl) rfl
theorem q678 : (Jvm.Cond.methodLink "HomesQueue$Reader" (72 : Nat) ({ cls := "java/lang/StringBuilder", name := "<init>", desc := "()V" } : Jvm.MethodName)) ∈ lw_all := lw_g (lw_at lw_m3 25 rfl) rfl
theorem q679 : (Jvm.Cond.methodLink "HomesQueue$Reader" (73 : Nat) ({ cls := "java/lang/StringBuilder", name := "append", desc := "(C)Ljava/lang/StringBuilder;" } : Jvm.MethodName)) ∈ lw_all := lw_g (lw_at lw_m3 26 rfl) rfl
theorem q768 : (Jvm.Cond.methodLink "HomesQueue$Reader" (77 : Nat) ({ cls := "java/lang/StringBuilder", name := "toString", desc := "()Ljava/lang/String;" } : Jvm.MethodName)) ∈ lw_all := lw_g (lw_at lw_m3 115 rfl) rfl
theorem q829 : (Jvm.Cond.fieldLink "HomesQueue$Reader" (42 : Nat) "HomesQueue$Reader" "size" "I") ∈ lw_all := lw_g (lw_at lw_m3 176 rfl) rfl
theorem q830 : (Jvm.Cond.fieldLink "HomesQueue$Reader" (60 : Nat) "HomesQueue$Reader" "from" "I") ∈ lw_all := lw_g (lw_at lw_m3 177 rfl) rfl
theorem q831 : (Jvm.Cond.fieldLink "HomesQueue$Reader" (57 : Nat) "HomesQueue$Reader" "to" "I") ∈ lw_all := lw_g (lw_at lw_m3 178 rfl) rfl
theorem q832 : (Jvm.Cond.fieldLink "HomesQueue$Reader" (67 : Nat) "HomesQueue$Reader" "sort" "I") ∈ lw_all := lw_g (lw_at lw_m3 179 rfl) rfl
theorem q833 : (Jvm.Cond.fieldLink "HomesQueue$Reader" (81 : Nat) "HomesQueue$Reader" "number" "I") ∈ lw_all := lw_g (lw_at lw_m3 180 rfl) rfl
theorem q834 : (Jvm.Cond.fieldLink "HomesQueue$Reader" (17 : Nat) "HomesQueue$Reader" "word" "Ljava/lang/String;") ∈ lw_all := lw_g (lw_at lw_m3 181 rfl) rfl
theorem q835 : (Jvm.Cond.fieldLink "HomesQueue$Reader" (26 : Nat) "HomesQueue$Reader" "newHomes" "Ljava/util/ArrayList;") ∈ lw_all := lw_g (lw_at lw_m3 182 rfl) rfl
theorem q837 : (Jvm.Cond.fieldLink "HomesQueue$Reader" (30 : Nat) "HomesQueue$Reader" "newHouses" "Ljava/util/ArrayList;") ∈ lw_all := lw_g (lw_at lw_m3 184 rfl) rfl
theorem q839 : (Jvm.Cond.fieldLink "HomesQueue$Reader" (38 : Nat) "HomesQueue$Reader" "made" "LHomesQueue$Register;") ∈ lw_all := lw_g (lw_at lw_m3 186 rfl) rfl
theorem q841 : (Jvm.Cond.fieldLink "HomesQueue$Reader" (3 : Nat) "HomesQueue$Reader" "this$0" "LHomesQueue;") ∈ lw_all := lw_g (lw_at lw_m3 188 rfl) rfl
theorem q842 : (Jvm.Cond.laysFinal "HomesQueue$Reader" "HomesQueue$Reader" "size" "I") ∈ lw_all := lw_g (lw_at lw_m3 189 rfl) rfl
theorem q843 : (Jvm.Cond.soleField "HomesQueue$Reader" "size") ∈ lw_all := lw_g (lw_at lw_m3 190 rfl) rfl
theorem q844 : (Jvm.Cond.lays "HomesQueue$Reader" "HomesQueue$Reader" "from" "I") ∈ lw_all := lw_g (lw_at lw_m3 191 rfl) rfl
theorem q845 : (Jvm.Cond.soleField "HomesQueue$Reader" "from") ∈ lw_all := lw_g (lw_at lw_m3 192 rfl) rfl
theorem q846 : (Jvm.Cond.lays "HomesQueue$Reader" "HomesQueue$Reader" "to" "I") ∈ lw_all := lw_g (lw_at lw_m3 193 rfl) rfl
theorem q847 : (Jvm.Cond.soleField "HomesQueue$Reader" "to") ∈ lw_all := lw_g (lw_at lw_m3 194 rfl) rfl
theorem q848 : (Jvm.Cond.lays "HomesQueue$Reader" "HomesQueue$Reader" "sort" "I") ∈ lw_all := lw_g (lw_at lw_m3 195 rfl) rfl
theorem q849 : (Jvm.Cond.soleField "HomesQueue$Reader" "sort") ∈ lw_all := lw_g (lw_at lw_m3 196 rfl) rfl
theorem q850 : (Jvm.Cond.lays "HomesQueue$Reader" "HomesQueue$Reader" "number" "I") ∈ lw_all := lw_g (lw_at lw_m3 197 rfl) rfl
theorem q851 : (Jvm.Cond.soleField "HomesQueue$Reader" "number") ∈ lw_all := lw_g (lw_at lw_m3 198 rfl) rfl
theorem q852 : (Jvm.Cond.lays "HomesQueue$Reader" "HomesQueue$Reader" "word" "Ljava/lang/String;") ∈ lw_all := lw_g (lw_at lw_m3 199 rfl) rfl
theorem q853 : (Jvm.Cond.soleField "HomesQueue$Reader" "word") ∈ lw_all := lw_g (lw_at lw_m3 200 rfl) rfl
theorem q854 : (Jvm.Cond.laysFinal "HomesQueue$Reader" "HomesQueue$Reader" "newHomes" "Ljava/util/ArrayList;") ∈ lw_all := lw_g (lw_at lw_m3 201 rfl) rfl
theorem q855 : (Jvm.Cond.soleField "HomesQueue$Reader" "newHomes") ∈ lw_all := lw_g (lw_at lw_m3 202 rfl) rfl
theorem q856 : (Jvm.Cond.laysFinal "HomesQueue$Reader" "HomesQueue$Reader" "newHouses" "Ljava/util/ArrayList;") ∈ lw_all := lw_g (lw_at lw_m3 203 rfl) rfl
theorem q857 : (Jvm.Cond.soleField "HomesQueue$Reader" "newHouses") ∈ lw_all := lw_g (lw_at lw_m3 204 rfl) rfl
theorem q858 : (Jvm.Cond.laysFinal "HomesQueue$Reader" "HomesQueue$Reader" "made" "LHomesQueue$Register;") ∈ lw_all := lw_g (lw_at lw_m3 205 rfl) rfl
theorem q859 : (Jvm.Cond.soleField "HomesQueue$Reader" "made") ∈ lw_all := lw_g (lw_at lw_m3 206 rfl) rfl
theorem q860 : (Jvm.Cond.laysFinal "HomesQueue$Reader" "HomesQueue$Reader" "this$0" "LHomesQueue;") ∈ lw_all := lw_g (lw_at lw_m3 207 rfl) rfl
theorem q861 : (Jvm.Cond.soleField "HomesQueue$Reader" "this$0") ∈ lw_all := lw_g (lw_at lw_m3 208 rfl) rfl
theorem q862 : (Jvm.Cond.superclass "HomesQueue$Reader" "java/lang/Object") ∈ lw_all := lw_g (lw_at lw_m3 209 rfl) rfl
theorem q864 : (Jvm.Cond.instanceMethod ({ cls := "HomesQueue$Reader", name := "all", desc := "()V" } : Jvm.MethodName)) ∈ lw_all := lw_g (lw_at lw_m3 211 rfl) rfl
theorem q865 : (Jvm.Cond.selects "HomesQueue$Reader" ({ cls := "HomesQueue$Reader", name := "all", desc := "()V" } : Jvm.MethodName) ({ cls := "HomesQueue$Reader", name := "all", desc := "()V" } : Jvm.MethodName)) ∈ lw_all := lw_g (lw_at lw_m3 212 rfl) rfl
theorem q866 : (Jvm.Cond.code ({ cls := "HomesQueue$Reader", name := "all", desc := "()V" } : Jvm.MethodName) prog_9_method_15_code (1 : Nat) (Option.none : Option Jvm.ClassFile.FieldType)) ∈ lw_all := lw_g (lw_at lw_m3 213 rfl) rfl
theorem q867 : (Jvm.Cond.stringRef "HomesQueue$Reader" (202 : Nat) "home") ∈ lw_tbl := lw_at lw_m3 214 rfl
theorem q868 : (Jvm.Cond.methodLink "HomesQueue$Reader" (168 : Nat) ({ cls := "HomesQueue$Reader", name := "is", desc := "(Ljava/lang/String;)Z" } : Jvm.MethodName)) ∈ lw_all := lw_g (lw_at lw_m3 215 rfl) rfl
theorem q869 : (Jvm.Cond.privateMethod ({ cls := "HomesQueue$Reader", name := "is", desc := "(Ljava/lang/String;)Z" } : Jvm.MethodName)) ∈ lw_tbl := lw_at lw_m3 216 rfl
theorem q870 : (Jvm.Cond.instanceMethod ({ cls := "HomesQueue$Reader", name := "is", desc := "(Ljava/lang/String;)Z" } : Jvm.MethodName)) ∈ lw_all := lw_g (lw_at lw_m3 217 rfl) rfl
theorem q871 : (Jvm.Cond.code ({ cls := "HomesQueue$Reader", name := "is", desc := "(Ljava/lang/String;)Z" } : Jvm.MethodName) prog_9_method_5_code (2 : Nat) (Option.some Jvm.ClassFile.FieldType.boolean)) ∈ lw_all := lw_g (lw_at lw_m3 218 rfl) rfl
theorem q872 : (Jvm.Cond.methodLink "HomesQueue$Reader" (90 : Nat) ({ cls := "java/lang/String", name := "equals", desc := "(Ljava/lang/Object;)Z" } : Jvm.MethodName)) ∈ lw_all := lw_g (lw_at lw_m3 219 rfl) rfl
theorem q880 : (Jvm.Cond.methodLink "HomesQueue$Reader" (204 : Nat) ({ cls := "HomesQueue$Reader", name := "homeLine", desc := "()V" } : Jvm.MethodName)) ∈ lw_all := lw_g (lw_at lw_m3 227 rfl) rfl
theorem q881 : (Jvm.Cond.privateMethod ({ cls := "HomesQueue$Reader", name := "homeLine", desc := "()V" } : Jvm.MethodName)) ∈ lw_tbl := lw_at lw_m3 228 rfl
theorem q882 : (Jvm.Cond.instanceMethod ({ cls := "HomesQueue$Reader", name := "homeLine", desc := "()V" } : Jvm.MethodName)) ∈ lw_all := lw_g (lw_at lw_m3 229 rfl) rfl
theorem q883 : (Jvm.Cond.code ({ cls := "HomesQueue$Reader", name := "homeLine", desc := "()V" } : Jvm.MethodName) prog_9_method_11_code (3 : Nat) (Option.none : Option Jvm.ClassFile.FieldType)) ∈ lw_all := lw_g (lw_at lw_m3 230 rfl) rfl
theorem q884 : (Jvm.Cond.methodLink "HomesQueue$Reader" (111 : Nat) ({ cls := "java/util/ArrayList", name := "size", desc := "()I" } : Jvm.MethodName)) ∈ lw_all := lw_g (lw_at lw_m3 231 rfl) rfl
theorem q885 : (Jvm.Cond.methodLink "HomesQueue$Reader" (107 : Nat) ({ cls := "HomesQueue$Reader", name := "needs", desc := "(ZI)V" } : Jvm.MethodName)) ∈ lw_all := lw_g (lw_at lw_m3 232 rfl) rfl
theorem q886 : (Jvm.Cond.privateMethod ({ cls := "HomesQueue$Reader", name := "needs", desc := "(ZI)V" } : Jvm.MethodName)) ∈ lw_tbl := lw_at lw_m3 233 rfl
theorem q887 : (Jvm.Cond.instanceMethod ({ cls := "HomesQueue$Reader", name := "needs", desc := "(ZI)V" } : Jvm.MethodName)) ∈ lw_all := lw_g (lw_at lw_m3 234 rfl) rfl
theorem q888 : (Jvm.Cond.code ({ cls := "HomesQueue$Reader", name := "needs", desc := "(ZI)V" } : Jvm.MethodName) prog_9_method_4_code (3 : Nat) (Option.none : Option Jvm.ClassFile.FieldType)) ∈ lw_all := lw_g (lw_at lw_m3 235 rfl) rfl
theorem q889 : (Jvm.Cond.classLink "HomesQueue$Reader" (84 : Nat) "HomesQueue$Wrong") ∈ lw_all := lw_g (lw_at lw_m3 236 rfl) rfl
theorem q927 : (Jvm.Cond.methodLink "HomesQueue$Reader" (86 : Nat) ({ cls := "HomesQueue$Wrong", name := "<init>", desc := "(I)V" } : Jvm.MethodName)) ∈ lw_all := lw_g (lw_at lw_m4 34 rfl) rfl
theorem q960 : (Jvm.Cond.methodLink "HomesQueue$Reader" (87 : Nat) ({ cls := "HomesQueue$Wrong", name := "<init>", desc := "(II)V" } : Jvm.MethodName)) ∈ lw_all := lw_g (lw_at lw_m4 67 rfl) rfl
theorem q961 : (Jvm.Cond.methodLink "HomesQueue$Reader" (149 : Nat) ({ cls := "HomesQueue$Reader", name := "fresh", desc := "()Ljava/lang/String;" } : Jvm.MethodName)) ∈ lw_all := lw_g (lw_at lw_m4 68 rfl) rfl
theorem q962 : (Jvm.Cond.privateMethod ({ cls := "HomesQueue$Reader", name := "fresh", desc := "()Ljava/lang/String;" } : Jvm.MethodName)) ∈ lw_tbl := lw_at lw_m4 69 rfl
theorem q963 : (Jvm.Cond.instanceMethod ({ cls := "HomesQueue$Reader", name := "fresh", desc := "()Ljava/lang/String;" } : Jvm.MethodName)) ∈ lw_all := lw_g (lw_at lw_m4 70 rfl) rfl
theorem q964 : (Jvm.Cond.code ({ cls := "HomesQueue$Reader", name := "fresh", desc := "()Ljava/lang/String;" } : Jvm.MethodName) prog_9_method_10_code (2 : Nat) (Option.some (Jvm.ClassFile.FieldType.object "java/lang/String"))) ∈ lw_all := lw_g (lw_at lw_m4 71 rfl) rfl
theorem q965 : (Jvm.Cond.methodLink "HomesQueue$Reader" (143 : Nat) ({ cls := "HomesQueue$Reader", name := "isName", desc := "()Z" } : Jvm.MethodName)) ∈ lw_all := lw_g (lw_at lw_m4 72 rfl) rfl
theorem q966 : (Jvm.Cond.privateMethod ({ cls := "HomesQueue$Reader", name := "isName", desc := "()Z" } : Jvm.MethodName)) ∈ lw_tbl := lw_at lw_m4 73 rfl
theorem q967 : (Jvm.Cond.instanceMethod ({ cls := "HomesQueue$Reader", name := "isName", desc := "()Z" } : Jvm.MethodName)) ∈ lw_all := lw_g (lw_at lw_m4 74 rfl) rfl
theorem q968 : (Jvm.Cond.code ({ cls := "HomesQueue$Reader", name := "isName", desc := "()Z" } : Jvm.MethodName) prog_9_method_6_code (1 : Nat) (Option.some Jvm.ClassFile.FieldType.boolean)) ∈ lw_all := lw_g (lw_at lw_m4 75 rfl) rfl
theorem q969 : (Jvm.Cond.methodLinkNest "HomesQueue$Reader" (100 : Nat) ({ cls := "HomesQueue", name := "place", desc := "(Ljava/lang/String;[Ljava/lang/String;)I" } : Jvm.MethodName) "HomesQueue") ∈ lw_tbl := lw_at lw_m4 76 rfl
theorem q973 : (Jvm.Cond.methodLink "HomesQueue$Reader" (146 : Nat) ({ cls := "HomesQueue$Reader", name := "isTaken", desc := "()Z" } : Jvm.MethodName)) ∈ lw_all := lw_g (lw_at lw_m4 80 rfl) rfl
theorem q974 : (Jvm.Cond.privateMethod ({ cls := "HomesQueue$Reader", name := "isTaken", desc := "()Z" } : Jvm.MethodName)) ∈ lw_tbl := lw_at lw_m4 81 rfl
theorem q975 : (Jvm.Cond.instanceMethod ({ cls := "HomesQueue$Reader", name := "isTaken", desc := "()Z" } : Jvm.MethodName)) ∈ lw_all := lw_g (lw_at lw_m4 82 rfl) rfl
theorem q976 : (Jvm.Cond.code ({ cls := "HomesQueue$Reader", name := "isTaken", desc := "()Z" } : Jvm.MethodName) prog_9_method_9_code (3 : Nat) (Option.some Jvm.ClassFile.FieldType.boolean)) ∈ lw_all := lw_g (lw_at lw_m4 83 rfl) rfl
theorem q977 : (Jvm.Cond.methodLink "HomesQueue$Reader" (123 : Nat) ({ cls := "java/util/ArrayList", name := "iterator", desc := "()Ljava/util/Iterator;" } : Jvm.MethodName)) ∈ lw_all := lw_g (lw_at lw_m4 84 rfl) rfl
theorem q1000 : (Jvm.Cond.interfaceEntry "HomesQueue$Reader" (127 : Nat)) ∈ lw_tbl := lw_at lw_m4 107 rfl
theorem q1001 : (Jvm.Cond.methodLink "HomesQueue$Reader" (127 : Nat) ({ cls := "java/util/Iterator", name := "hasNext", desc := "()Z" } : Jvm.MethodName)) ∈ lw_all := lw_g (lw_at lw_m4 108 rfl) rfl
theorem q1010 : (Jvm.Cond.interfaceEntry "HomesQueue$Reader" (133 : Nat)) ∈ lw_tbl := lw_at lw_m4 117 rfl
theorem q1011 : (Jvm.Cond.methodLink "HomesQueue$Reader" (133 : Nat) ({ cls := "java/util/Iterator", name := "next", desc := "()Ljava/lang/Object;" } : Jvm.MethodName)) ∈ lw_all := lw_g (lw_at lw_m4 118 rfl) rfl
theorem q1046 : (Jvm.Cond.classLink "HomesQueue$Reader" (137 : Nat) "HomesQueue$House") ∈ lw_all := lw_g (lw_at lw_m4 153 rfl) rfl
theorem q1047 : (Jvm.Cond.methodLink "HomesQueue$Reader" (140 : Nat) ({ cls := "HomesQueue$Reader", name := "homeNamed", desc := "()I" } : Jvm.MethodName)) ∈ lw_all := lw_g (lw_at lw_m4 154 rfl) rfl
theorem q1048 : (Jvm.Cond.privateMethod ({ cls := "HomesQueue$Reader", name := "homeNamed", desc := "()I" } : Jvm.MethodName)) ∈ lw_tbl := lw_at lw_m4 155 rfl
theorem q1049 : (Jvm.Cond.instanceMethod ({ cls := "HomesQueue$Reader", name := "homeNamed", desc := "()I" } : Jvm.MethodName)) ∈ lw_all := lw_g (lw_at lw_m4 156 rfl) rfl
theorem q1050 : (Jvm.Cond.code ({ cls := "HomesQueue$Reader", name := "homeNamed", desc := "()I" } : Jvm.MethodName) prog_9_method_8_code (2 : Nat) (Option.some Jvm.ClassFile.FieldType.int)) ∈ lw_all := lw_g (lw_at lw_m4 157 rfl) rfl
theorem q1051 : (Jvm.Cond.methodLink "HomesQueue$Reader" (114 : Nat) ({ cls := "java/util/ArrayList", name := "get", desc := "(I)Ljava/lang/Object;" } : Jvm.MethodName)) ∈ lw_all := lw_g (lw_at lw_m4 158 rfl) rfl
theorem q1052 : (Jvm.Cond.classLink "HomesQueue$Reader" (118 : Nat) "HomesQueue$Home") ∈ lw_all := lw_g (lw_at lw_m4 159 rfl) rfl
theorem q1053 : (Jvm.Cond.methodLink "HomesQueue$Reader" (152 : Nat) ({ cls := "HomesQueue$Reader", name := "digits", desc := "(II)I" } : Jvm.MethodName)) ∈ lw_all := lw_g (lw_at lw_m4 160 rfl) rfl
theorem q1054 : (Jvm.Cond.privateMethod ({ cls := "HomesQueue$Reader", name := "digits", desc := "(II)I" } : Jvm.MethodName)) ∈ lw_tbl := lw_at lw_m4 161 rfl
theorem q1055 : (Jvm.Cond.instanceMethod ({ cls := "HomesQueue$Reader", name := "digits", desc := "(II)I" } : Jvm.MethodName)) ∈ lw_all := lw_g (lw_at lw_m4 162 rfl) rfl
theorem q1056 : (Jvm.Cond.code ({ cls := "HomesQueue$Reader", name := "digits", desc := "(II)I" } : Jvm.MethodName) prog_9_method_7_code (4 : Nat) (Option.some Jvm.ClassFile.FieldType.int)) ∈ lw_all := lw_g (lw_at lw_m4 163 rfl) rfl
theorem q1058 : (Jvm.Cond.methodLink "HomesQueue$Reader" (156 : Nat) ({ cls := "HomesQueue$Home", name := "<init>", desc := "(Ljava/lang/String;II)V" } : Jvm.MethodName)) ∈ lw_all := lw_g (lw_at lw_m4 165 rfl) rfl
theorem q1063 : (Jvm.Cond.fieldLinkNest "HomesQueue$Reader" (120 : Nat) "HomesQueue$Home" "name" "Ljava/lang/String;" "HomesQueue") ∈ lw_tbl := lw_at lw_m4 170 rfl
theorem q1078 : (Jvm.Cond.methodLink "HomesQueue$Reader" (159 : Nat) ({ cls := "java/util/ArrayList", name := "add", desc := "(Ljava/lang/Object;)Z" } : Jvm.MethodName)) ∈ lw_all := lw_g (lw_at lw_m4 185 rfl) rfl
theorem q1109 : (Jvm.Cond.selects "HomesQueue$Reader" ({ cls := "java/lang/Object", name := "getClass", desc := "()Ljava/lang/Class;" } : Jvm.MethodName) ({ cls := "java/lang/Object", name := "getClass", desc := "()Ljava/lang/Class;" } : Jvm.MethodName)) ∈ lw_all := lw_g (lw_at lw_m4 216 rfl) rfl
theorem q1126 : (Jvm.Cond.stringRef "HomesQueue$Reader" (207 : Nat) "house") ∈ lw_tbl := lw_at lw_m4 233 rfl
theorem q1127 : (Jvm.Cond.methodLink "HomesQueue$Reader" (209 : Nat) ({ cls := "HomesQueue$Reader", name := "houseLine", desc := "()V" } : Jvm.MethodName)) ∈ lw_all := lw_g (lw_at lw_m4 234 rfl) rfl
theorem q1128 : (Jvm.Cond.privateMethod ({ cls := "HomesQueue$Reader", name := "houseLine", desc := "()V" } : Jvm.MethodName)) ∈ lw_tbl := lw_at lw_m4 235 rfl
theorem q1129 : (Jvm.Cond.instanceMethod ({ cls := "HomesQueue$Reader", name := "houseLine", desc := "()V" } : Jvm.MethodName)) ∈ lw_all := lw_g (lw_at lw_m4 236 rfl) rfl
theorem q1130 : (Jvm.Cond.code ({ cls := "HomesQueue$Reader", name := "houseLine", desc := "()V" } : Jvm.MethodName) prog_9_method_13_code (5 : Nat) (Option.none : Option Jvm.ClassFile.FieldType)) ∈ lw_all := lw_g (lw_at lw_m4 237 rfl) rfl
theorem q1131 : (Jvm.Cond.stringRef "HomesQueue$Reader" (166 : Nat) "in") ∈ lw_tbl := lw_at lw_m4 238 rfl
theorem q1132 : (Jvm.Cond.methodLink "HomesQueue$Reader" (172 : Nat) ({ cls := "HomesQueue$Reader", name := "isLivedIn", desc := "(I)Z" } : Jvm.MethodName)) ∈ lw_all := lw_g (lw_at lw_m4 239 rfl) rfl
theorem q1133 : (Jvm.Cond.privateMethod ({ cls := "HomesQueue$Reader", name := "isLivedIn", desc := "(I)Z" } : Jvm.MethodName)) ∈ lw_tbl := lw_at lw_m5 0 rfl
theorem q1134 : (Jvm.Cond.instanceMethod ({ cls := "HomesQueue$Reader", name := "isLivedIn", desc := "(I)Z" } : Jvm.MethodName)) ∈ lw_all := lw_g (lw_at lw_m5 1 rfl) rfl
theorem q1135 : (Jvm.Cond.code ({ cls := "HomesQueue$Reader", name := "isLivedIn", desc := "(I)Z" } : Jvm.MethodName) prog_9_method_12_code (3 : Nat) (Option.some Jvm.ClassFile.FieldType.boolean)) ∈ lw_all := lw_g (lw_at lw_m5 2 rfl) rfl
theorem q1136 : (Jvm.Cond.methodLink "HomesQueue$Reader" (176 : Nat) ({ cls := "HomesQueue$Register", name := "isWish", desc := "(II)Z" } : Jvm.MethodName)) ∈ lw_all := lw_g (lw_at lw_m5 3 rfl) rfl
theorem q1145 : (Jvm.Cond.methodLink "HomesQueue$Reader" (188 : Nat) ({ cls := "HomesQueue$House", name := "<init>", desc := "(Ljava/lang/String;[I)V" } : Jvm.MethodName)) ∈ lw_all := lw_g (lw_at lw_m5 12 rfl) rfl
theorem q1150 : (Jvm.Cond.fieldLinkNest "HomesQueue$Reader" (139 : Nat) "HomesQueue$House" "name" "Ljava/lang/String;" "HomesQueue") ∈ lw_tbl := lw_at lw_m5 17 rfl
theorem q1158 : (Jvm.Cond.methodLink "HomesQueue$Reader" (212 : Nat) ({ cls := "HomesQueue$Reader", name := "ruleLine", desc := "()V" } : Jvm.MethodName)) ∈ lw_all := lw_g (lw_at lw_m5 25 rfl) rfl
theorem q1159 : (Jvm.Cond.privateMethod ({ cls := "HomesQueue$Reader", name := "ruleLine", desc := "()V" } : Jvm.MethodName)) ∈ lw_tbl := lw_at lw_m5 26 rfl
theorem q1160 : (Jvm.Cond.instanceMethod ({ cls := "HomesQueue$Reader", name := "ruleLine", desc := "()V" } : Jvm.MethodName)) ∈ lw_all := lw_g (lw_at lw_m5 27 rfl) rfl
theorem q1161 : (Jvm.Cond.code ({ cls := "HomesQueue$Reader", name := "ruleLine", desc := "()V" } : Jvm.MethodName) prog_9_method_14_code (2 : Nat) (Option.none : Option Jvm.ClassFile.FieldType)) ∈ lw_all := lw_g (lw_at lw_m5 28 rfl) rfl
theorem q1162 : (Jvm.Cond.stringRef "HomesQueue$Reader" (191 : Nat) "rule") ∈ lw_tbl := lw_at lw_m5 29 rfl
theorem q1163 : (Jvm.Cond.fieldLinkNest "HomesQueue$Reader" (196 : Nat) "HomesQueue" "LOWS" "[I" "HomesQueue") ∈ lw_tbl := lw_at lw_m5 30 rfl
theorem q1165 : (Jvm.Cond.fieldLinkNest "HomesQueue$Reader" (199 : Nat) "HomesQueue" "HIGHS" "[I" "HomesQueue") ∈ lw_tbl := lw_at lw_m5 32 rfl
theorem q2669 : (Jvm.Cond.castable "HomesQueue$Reader" "java/lang/Object") ∈ lw_tbl := lw_at lw_m11 96 rfl
theorem in_X4 : ∀ w ∈ wsX40, w ∈ lw_all := lw_in wsX40 [842, 844, 846, 848, 850, 852, 854, 856, 858, 860] (by decide +kernel) (by decide +kernel)

/-! HomesQueue$Wrong -/
set_option maxRecDepth 100000
def RX5 : String := "HomesQueue$Wrong"
def TX5 : u_T := fun k => match k with
  | 0 => ("java/lang/Throwable", "cause", "Ljava/lang/Throwable;", false)
  | 1 => ("java/lang/Throwable", "stackTrace", "[Ljava/lang/StackTraceElement;", false)
  | 2 => ("java/lang/Throwable", "suppressedExceptions", "Ljava/util/List;", false)
  | 3 => ("java/lang/Throwable", "detailMessage", "Ljava/lang/String;", false)
  | 4 => ("java/lang/Throwable", "backtrace", "Ljava/lang/Object;", false)
  | 5 => ("java/lang/Throwable", "depth", "I", false)
  | 6 => ("HomesQueue$Wrong", "kind", "I", true)
  | _ => ("HomesQueue$Wrong", "place", "I", true)
def tyX5 : Nat → FieldType := fun k => match k with
  | 0 => .object "java/lang/Throwable"
  | 1 => .array (.object "java/lang/StackTraceElement")
  | 2 => .object "java/util/List"
  | 3 => .object "java/lang/String"
  | 4 => .object "java/lang/Object"
  | 5 => .int
  | 6 => .int
  | _ => .int
abbrev wsX50 : List Cond := u_ws RX5 TX5 8
theorem nmX5 : ∀ a, a < 8 → ∀ b, b < 8 → a ≠ b → (TX5 a).2.1 ≠ (TX5 b).2.1 := by decide +kernel
theorem tyX5_ok : ∀ k, k < 8 → parseFieldDescriptor (TX5 k).2.2.1 = some (tyX5 k) := by decide +kernel
abbrev cX5_init : ByteArray := prog_13_method_2_code
def yX5_init : MethodName := ⟨RX5, "<init>", "(I)V"⟩
def dkwX5_init_0 : List UInt8 := [42, 4, 27, 183, 0, 16, 177]
abbrev dktX5_init_0 : List UInt8 := dkwX5_init_0 ++ []
theorem dksX5_init_0 : cX5_init.data.toList.drop 0 = dktX5_init_0 := by decide +kernel
theorem dX5_init_0 : decode cX5_init 0 = .ok (.aload_n 0, 1) := dk_42 (dk_at dksX5_init_0 0 rfl rfl)
theorem dX5_init_1 : decode cX5_init 1 = .ok (.iconst 1, 1) := dk_4 (dk_at dksX5_init_0 1 rfl rfl)
theorem dX5_init_2 : decode cX5_init 2 = .ok (.iload_n 1, 1) := dk_27 (dk_at dksX5_init_0 2 rfl rfl)
theorem dX5_init_3 : decode cX5_init 3 = .ok (.invokespecial 16, 3) := dk_183 0 16 (dk_at dksX5_init_0 3 rfl rfl)
theorem dX5_init_6 : decode cX5_init 6 = .ok (.return_, 1) := dk_177 (dk_at dksX5_init_0 6 rfl rfl)
abbrev cX5_init_2 : ByteArray := prog_13_method_1_code
def yX5_init_2 : MethodName := ⟨RX5, "<init>", "(II)V"⟩
def dkwX5_init_2_0 : List UInt8 := [42, 1, 1, 3, 3, 183, 0, 1, 42, 27, 181, 0, 7, 42, 28, 181, 0, 13, 177]
abbrev dktX5_init_2_0 : List UInt8 := dkwX5_init_2_0 ++ []
theorem dksX5_init_2_0 : cX5_init_2.data.toList.drop 0 = dktX5_init_2_0 := by decide +kernel
theorem dX5_init_2_0 : decode cX5_init_2 0 = .ok (.aload_n 0, 1) := dk_42 (dk_at dksX5_init_2_0 0 rfl rfl)
theorem dX5_init_2_1 : decode cX5_init_2 1 = .ok (.aconst_null, 1) := dk_1 (dk_at dksX5_init_2_0 1 rfl rfl)
theorem dX5_init_2_2 : decode cX5_init_2 2 = .ok (.aconst_null, 1) := dk_1 (dk_at dksX5_init_2_0 2 rfl rfl)
theorem dX5_init_2_3 : decode cX5_init_2 3 = .ok (.iconst 0, 1) := dk_3 (dk_at dksX5_init_2_0 3 rfl rfl)
theorem dX5_init_2_4 : decode cX5_init_2 4 = .ok (.iconst 0, 1) := dk_3 (dk_at dksX5_init_2_0 4 rfl rfl)
theorem dX5_init_2_5 : decode cX5_init_2 5 = .ok (.invokespecial 1, 3) := dk_183 0 1 (dk_at dksX5_init_2_0 5 rfl rfl)
theorem dX5_init_2_8 : decode cX5_init_2 8 = .ok (.aload_n 0, 1) := dk_42 (dk_at dksX5_init_2_0 8 rfl rfl)
theorem dX5_init_2_9 : decode cX5_init_2 9 = .ok (.iload_n 1, 1) := dk_27 (dk_at dksX5_init_2_0 9 rfl rfl)
theorem dX5_init_2_10 : decode cX5_init_2 10 = .ok (.putfield 7, 3) := dk_181 0 7 (dk_at dksX5_init_2_0 10 rfl rfl)
theorem dX5_init_2_13 : decode cX5_init_2 13 = .ok (.aload_n 0, 1) := dk_42 (dk_at dksX5_init_2_0 13 rfl rfl)
theorem dX5_init_2_14 : decode cX5_init_2 14 = .ok (.iload_n 2, 1) := dk_28 (dk_at dksX5_init_2_0 14 rfl rfl)
theorem dX5_init_2_15 : decode cX5_init_2 15 = .ok (.putfield 13, 3) := dk_181 0 13 (dk_at dksX5_init_2_0 15 rfl rfl)
theorem dX5_init_2_18 : decode cX5_init_2 18 = .ok (.return_, 1) := dk_177 (dk_at dksX5_init_2_0 18 rfl rfl)
theorem q196 : (Jvm.Cond.initialized "HomesQueue$Wrong") ∈ lw_all := lw_g (lw_at lw_m1 23 rfl) rfl
theorem q890 : (Jvm.Cond.instantiable "HomesQueue$Wrong" (8 : Nat)) ∈ lw_all := lw_g (lw_at lw_m3 237 rfl) rfl
theorem q891 : (Jvm.Cond.castable "HomesQueue$Wrong" "HomesQueue$Wrong") ∈ lw_tbl := lw_at lw_m3 238 rfl
theorem q896 : (Jvm.Cond.selects "HomesQueue$Wrong" ({ cls := "java/lang/Throwable", name := "fillInStackTrace", desc := "(I)Ljava/lang/Throwable;" } : Jvm.MethodName) ({ cls := "java/lang/Throwable", name := "fillInStackTrace", desc := "(I)Ljava/lang/Throwable;" } : Jvm.MethodName)) ∈ lw_all := lw_g (lw_at lw_m4 3 rfl) rfl
theorem q897 : (Jvm.Cond.selects "HomesQueue$Wrong" ({ cls := "java/lang/Throwable", name := "fillInStackTrace", desc := "()Ljava/lang/Throwable;" } : Jvm.MethodName) ({ cls := "java/lang/Throwable", name := "fillInStackTrace", desc := "()Ljava/lang/Throwable;" } : Jvm.MethodName)) ∈ lw_all := lw_g (lw_at lw_m4 4 rfl) rfl
theorem q898 : (Jvm.Cond.lays "HomesQueue$Wrong" "java/lang/Throwable" "cause" "Ljava/lang/Throwable;") ∈ lw_all := lw_g (lw_at lw_m4 5 rfl) rfl
theorem q900 : (Jvm.Cond.lays "HomesQueue$Wrong" "java/lang/Throwable" "stackTrace" "[Ljava/lang/StackTraceElement;") ∈ lw_all := lw_g (lw_at lw_m4 7 rfl) rfl
theorem q902 : (Jvm.Cond.lays "HomesQueue$Wrong" "java/lang/Throwable" "suppressedExceptions" "Ljava/util/List;") ∈ lw_all := lw_g (lw_at lw_m4 9 rfl) rfl
theorem q904 : (Jvm.Cond.lays "HomesQueue$Wrong" "java/lang/Throwable" "detailMessage" "Ljava/lang/String;") ∈ lw_all := lw_g (lw_at lw_m4 11 rfl) rfl
theorem q906 : (Jvm.Cond.lays "HomesQueue$Wrong" "java/lang/Throwable" "backtrace" "Ljava/lang/Object;") ∈ lw_all := lw_g (lw_at lw_m4 13 rfl) rfl
theorem q928 : (Jvm.Cond.instanceMethod ({ cls := "HomesQueue$Wrong", name := "<init>", desc := "(I)V" } : Jvm.MethodName)) ∈ lw_all := lw_g (lw_at lw_m4 35 rfl) rfl
theorem q929 : (Jvm.Cond.code ({ cls := "HomesQueue$Wrong", name := "<init>", desc := "(I)V" } : Jvm.MethodName) prog_13_method_2_code (2 : Nat) (Option.none : Option Jvm.ClassFile.FieldType)) ∈ lw_all := lw_g (lw_at lw_m4 36 rfl) rfl
theorem q930 : (Jvm.Cond.methodLink "HomesQueue$Wrong" (16 : Nat) ({ cls := "HomesQueue$Wrong", name := "<init>", desc := "(II)V" } : Jvm.MethodName)) ∈ lw_all := lw_g (lw_at lw_m4 37 rfl) rfl
theorem q931 : (Jvm.Cond.instanceMethod ({ cls := "HomesQueue$Wrong", name := "<init>", desc := "(II)V" } : Jvm.MethodName)) ∈ lw_all := lw_g (lw_at lw_m4 38 rfl) rfl
theorem q932 : (Jvm.Cond.code ({ cls := "HomesQueue$Wrong", name := "<init>", desc := "(II)V" } : Jvm.MethodName) prog_13_method_1_code (3 : Nat) (Option.none : Option Jvm.ClassFile.FieldType)) ∈ lw_all := lw_g (lw_at lw_m4 39 rfl) rfl
theorem q933 : (Jvm.Cond.methodLink "HomesQueue$Wrong" (1 : Nat) ({ cls := "java/lang/Exception", name := "<init>", desc := "(Ljava/lang/String;Ljava/lang/Throwable;ZZ)V" } : Jvm.MethodName)) ∈ lw_all := lw_g (lw_at lw_m4 40 rfl) rfl
theorem q939 : (Jvm.Cond.fieldLink "HomesQueue$Wrong" (7 : Nat) "HomesQueue$Wrong" "kind" "I") ∈ lw_all := lw_g (lw_at lw_m4 46 rfl) rfl
theorem q941 : (Jvm.Cond.fieldLink "HomesQueue$Wrong" (13 : Nat) "HomesQueue$Wrong" "place" "I") ∈ lw_all := lw_g (lw_at lw_m4 48 rfl) rfl
theorem q948 : (Jvm.Cond.laysFinal "HomesQueue$Wrong" "HomesQueue$Wrong" "kind" "I") ∈ lw_all := lw_g (lw_at lw_m4 55 rfl) rfl
theorem q949 : (Jvm.Cond.soleField "HomesQueue$Wrong" "kind") ∈ lw_all := lw_g (lw_at lw_m4 56 rfl) rfl
theorem q950 : (Jvm.Cond.laysFinal "HomesQueue$Wrong" "HomesQueue$Wrong" "place" "I") ∈ lw_all := lw_g (lw_at lw_m4 57 rfl) rfl
theorem q951 : (Jvm.Cond.soleField "HomesQueue$Wrong" "place") ∈ lw_all := lw_g (lw_at lw_m4 58 rfl) rfl
theorem q956 : (Jvm.Cond.lays "HomesQueue$Wrong" "java/lang/Throwable" "depth" "I") ∈ lw_all := lw_g (lw_at lw_m4 63 rfl) rfl
theorem q959 : (Jvm.Cond.superclass "HomesQueue$Wrong" "java/lang/Exception") ∈ lw_all := lw_g (lw_at lw_m4 66 rfl) rfl
theorem q1112 : (Jvm.Cond.selects "HomesQueue$Wrong" ({ cls := "java/lang/Object", name := "getClass", desc := "()Ljava/lang/Class;" } : Jvm.MethodName) ({ cls := "java/lang/Object", name := "getClass", desc := "()Ljava/lang/Class;" } : Jvm.MethodName)) ∈ lw_all := lw_g (lw_at lw_m4 219 rfl) rfl
theorem q2670 : (Jvm.Cond.castable "HomesQueue$Wrong" "java/lang/Object") ∈ lw_tbl := lw_at lw_m11 97 rfl
theorem in_X5 : ∀ w ∈ wsX50, w ∈ lw_all := lw_in wsX50 [898, 900, 902, 904, 906, 956, 948, 950] (by decide +kernel) (by decide +kernel)

/-! HomesQueue$Home -/
set_option maxRecDepth 100000
def RX6 : String := "HomesQueue$Home"
def TX6 : u_T := fun k => match k with
  | 0 => ("HomesQueue$Home", "name", "Ljava/lang/String;", true)
  | 1 => ("HomesQueue$Home", "rooms", "I", true)
  | _ => ("HomesQueue$Home", "ward", "I", true)
def tyX6 : Nat → FieldType := fun k => match k with
  | 0 => .object "java/lang/String"
  | 1 => .int
  | _ => .int
abbrev wsX60 : List Cond := u_ws RX6 TX6 3
theorem nmX6 : ∀ a, a < 3 → ∀ b, b < 3 → a ≠ b → (TX6 a).2.1 ≠ (TX6 b).2.1 := by decide +kernel
theorem tyX6_ok : ∀ k, k < 3 → parseFieldDescriptor (TX6 k).2.2.1 = some (tyX6 k) := by decide +kernel
abbrev cX6_init : ByteArray := prog_4_method_1_code
def yX6_init : MethodName := ⟨RX6, "<init>", "(Ljava/lang/String;II)V"⟩
def dkwX6_init_0 : List UInt8 := [42, 183, 0, 1, 42, 43, 181, 0, 7, 42, 28, 181, 0, 13, 42, 29, 181, 0, 17, 177]
abbrev dktX6_init_0 : List UInt8 := dkwX6_init_0 ++ []
theorem dksX6_init_0 : cX6_init.data.toList.drop 0 = dktX6_init_0 := by decide +kernel
theorem dX6_init_0 : decode cX6_init 0 = .ok (.aload_n 0, 1) := dk_42 (dk_at dksX6_init_0 0 rfl rfl)
theorem dX6_init_1 : decode cX6_init 1 = .ok (.invokespecial 1, 3) := dk_183 0 1 (dk_at dksX6_init_0 1 rfl rfl)
theorem dX6_init_4 : decode cX6_init 4 = .ok (.aload_n 0, 1) := dk_42 (dk_at dksX6_init_0 4 rfl rfl)
theorem dX6_init_5 : decode cX6_init 5 = .ok (.aload_n 1, 1) := dk_43 (dk_at dksX6_init_0 5 rfl rfl)
theorem dX6_init_6 : decode cX6_init 6 = .ok (.putfield 7, 3) := dk_181 0 7 (dk_at dksX6_init_0 6 rfl rfl)
theorem dX6_init_9 : decode cX6_init 9 = .ok (.aload_n 0, 1) := dk_42 (dk_at dksX6_init_0 9 rfl rfl)
theorem dX6_init_10 : decode cX6_init 10 = .ok (.iload_n 2, 1) := dk_28 (dk_at dksX6_init_0 10 rfl rfl)
theorem dX6_init_11 : decode cX6_init 11 = .ok (.putfield 13, 3) := dk_181 0 13 (dk_at dksX6_init_0 11 rfl rfl)
theorem dX6_init_14 : decode cX6_init 14 = .ok (.aload_n 0, 1) := dk_42 (dk_at dksX6_init_0 14 rfl rfl)
theorem dX6_init_15 : decode cX6_init 15 = .ok (.iload_n 3, 1) := dk_29 (dk_at dksX6_init_0 15 rfl rfl)
theorem dX6_init_16 : decode cX6_init 16 = .ok (.putfield 17, 3) := dk_181 0 17 (dk_at dksX6_init_0 16 rfl rfl)
theorem dX6_init_19 : decode cX6_init 19 = .ok (.return_, 1) := dk_177 (dk_at dksX6_init_0 19 rfl rfl)
theorem q200 : (Jvm.Cond.initialized "HomesQueue$Home") ∈ lw_all := lw_g (lw_at lw_m1 27 rfl) rfl
theorem q1057 : (Jvm.Cond.instantiable "HomesQueue$Home" (3 : Nat)) ∈ lw_all := lw_g (lw_at lw_m4 164 rfl) rfl
theorem q1059 : (Jvm.Cond.instanceMethod ({ cls := "HomesQueue$Home", name := "<init>", desc := "(Ljava/lang/String;II)V" } : Jvm.MethodName)) ∈ lw_all := lw_g (lw_at lw_m4 166 rfl) rfl
theorem q1060 : (Jvm.Cond.code ({ cls := "HomesQueue$Home", name := "<init>", desc := "(Ljava/lang/String;II)V" } : Jvm.MethodName) prog_4_method_1_code (4 : Nat) (Option.none : Option Jvm.ClassFile.FieldType)) ∈ lw_all := lw_g (lw_at lw_m4 167 rfl) rfl
theorem q1061 : (Jvm.Cond.methodLink "HomesQueue$Home" (1 : Nat) ({ cls := "java/lang/Object", name := "<init>", desc := "()V" } : Jvm.MethodName)) ∈ lw_all := lw_g (lw_at lw_m4 168 rfl) rfl
theorem q1062 : (Jvm.Cond.fieldLink "HomesQueue$Home" (7 : Nat) "HomesQueue$Home" "name" "Ljava/lang/String;") ∈ lw_all := lw_g (lw_at lw_m4 169 rfl) rfl
theorem q1065 : (Jvm.Cond.fieldLink "HomesQueue$Home" (13 : Nat) "HomesQueue$Home" "rooms" "I") ∈ lw_all := lw_g (lw_at lw_m4 172 rfl) rfl
theorem q1068 : (Jvm.Cond.fieldLink "HomesQueue$Home" (17 : Nat) "HomesQueue$Home" "ward" "I") ∈ lw_all := lw_g (lw_at lw_m4 175 rfl) rfl
theorem q1071 : (Jvm.Cond.laysFinal "HomesQueue$Home" "HomesQueue$Home" "name" "Ljava/lang/String;") ∈ lw_all := lw_g (lw_at lw_m4 178 rfl) rfl
theorem q1072 : (Jvm.Cond.soleField "HomesQueue$Home" "name") ∈ lw_all := lw_g (lw_at lw_m4 179 rfl) rfl
theorem q1073 : (Jvm.Cond.laysFinal "HomesQueue$Home" "HomesQueue$Home" "rooms" "I") ∈ lw_all := lw_g (lw_at lw_m4 180 rfl) rfl
theorem q1074 : (Jvm.Cond.soleField "HomesQueue$Home" "rooms") ∈ lw_all := lw_g (lw_at lw_m4 181 rfl) rfl
theorem q1075 : (Jvm.Cond.laysFinal "HomesQueue$Home" "HomesQueue$Home" "ward" "I") ∈ lw_all := lw_g (lw_at lw_m4 182 rfl) rfl
theorem q1076 : (Jvm.Cond.soleField "HomesQueue$Home" "ward") ∈ lw_all := lw_g (lw_at lw_m4 183 rfl) rfl
theorem q1077 : (Jvm.Cond.superclass "HomesQueue$Home" "java/lang/Object") ∈ lw_all := lw_g (lw_at lw_m4 184 rfl) rfl
theorem q1105 : (Jvm.Cond.selects "HomesQueue$Home" ({ cls := "java/lang/Object", name := "getClass", desc := "()Ljava/lang/Class;" } : Jvm.MethodName) ({ cls := "java/lang/Object", name := "getClass", desc := "()Ljava/lang/Class;" } : Jvm.MethodName)) ∈ lw_all := lw_g (lw_at lw_m4 212 rfl) rfl
theorem q2673 : (Jvm.Cond.castable "HomesQueue$Home" "java/lang/Object") ∈ lw_tbl := lw_at lw_m11 100 rfl
theorem in_X6 : ∀ w ∈ wsX60, w ∈ lw_all := lw_in wsX60 [1071, 1073, 1075] (by decide +kernel) (by decide +kernel)

/-! HomesQueue$House -/
set_option maxRecDepth 100000
def RX7 : String := "HomesQueue$House"
def TX7 : u_T := fun k => match k with
  | 0 => ("HomesQueue$House", "name", "Ljava/lang/String;", true)
  | _ => ("HomesQueue$House", "told", "[I", true)
def tyX7 : Nat → FieldType := fun k => match k with
  | 0 => .object "java/lang/String"
  | _ => .array .int
abbrev wsX70 : List Cond := u_ws RX7 TX7 2
theorem nmX7 : ∀ a, a < 2 → ∀ b, b < 2 → a ≠ b → (TX7 a).2.1 ≠ (TX7 b).2.1 := by decide +kernel
theorem tyX7_ok : ∀ k, k < 2 → parseFieldDescriptor (TX7 k).2.2.1 = some (tyX7 k) := by decide +kernel
abbrev cX7_band : ByteArray := prog_5_method_2_code
def yX7_band : MethodName := ⟨RX7, "band", "()I"⟩
def dkwX7_band_0 : List UInt8 := [42, 180, 0, 13, 3, 46, 172]
abbrev dktX7_band_0 : List UInt8 := dkwX7_band_0 ++ []
theorem dksX7_band_0 : cX7_band.data.toList.drop 0 = dktX7_band_0 := by decide +kernel
theorem dX7_band_0 : decode cX7_band 0 = .ok (.aload_n 0, 1) := dk_42 (dk_at dksX7_band_0 0 rfl rfl)
theorem dX7_band_1 : decode cX7_band 1 = .ok (.getfield 13, 3) := dk_180 0 13 (dk_at dksX7_band_0 1 rfl rfl)
theorem dX7_band_4 : decode cX7_band 4 = .ok (.iconst 0, 1) := dk_3 (dk_at dksX7_band_0 4 rfl rfl)
theorem dX7_band_5 : decode cX7_band 5 = .ok (.iaload, 1) := dk_46 (dk_at dksX7_band_0 5 rfl rfl)
theorem dX7_band_6 : decode cX7_band 6 = .ok (.ireturn, 1) := dk_172 (dk_at dksX7_band_0 6 rfl rfl)
abbrev cX7_day : ByteArray := prog_5_method_4_code
def yX7_day : MethodName := ⟨RX7, "day", "()I"⟩
def dkwX7_day_0 : List UInt8 := [42, 180, 0, 13, 6, 46, 172]
abbrev dktX7_day_0 : List UInt8 := dkwX7_day_0 ++ []
theorem dksX7_day_0 : cX7_day.data.toList.drop 0 = dktX7_day_0 := by decide +kernel
theorem dX7_day_0 : decode cX7_day 0 = .ok (.aload_n 0, 1) := dk_42 (dk_at dksX7_day_0 0 rfl rfl)
theorem dX7_day_1 : decode cX7_day 1 = .ok (.getfield 13, 3) := dk_180 0 13 (dk_at dksX7_day_0 1 rfl rfl)
theorem dX7_day_4 : decode cX7_day 4 = .ok (.iconst 3, 1) := dk_6 (dk_at dksX7_day_0 4 rfl rfl)
theorem dX7_day_5 : decode cX7_day 5 = .ok (.iaload, 1) := dk_46 (dk_at dksX7_day_0 5 rfl rfl)
theorem dX7_day_6 : decode cX7_day 6 = .ok (.ireturn, 1) := dk_172 (dk_at dksX7_day_0 6 rfl rfl)
abbrev cX7_tie : ByteArray := prog_5_method_3_code
def yX7_tie : MethodName := ⟨RX7, "tie", "()I"⟩
def dkwX7_tie_0 : List UInt8 := [42, 180, 0, 13, 5, 46, 172]
abbrev dktX7_tie_0 : List UInt8 := dkwX7_tie_0 ++ []
theorem dksX7_tie_0 : cX7_tie.data.toList.drop 0 = dktX7_tie_0 := by decide +kernel
theorem dX7_tie_0 : decode cX7_tie 0 = .ok (.aload_n 0, 1) := dk_42 (dk_at dksX7_tie_0 0 rfl rfl)
theorem dX7_tie_1 : decode cX7_tie 1 = .ok (.getfield 13, 3) := dk_180 0 13 (dk_at dksX7_tie_0 1 rfl rfl)
theorem dX7_tie_4 : decode cX7_tie 4 = .ok (.iconst 2, 1) := dk_5 (dk_at dksX7_tie_0 4 rfl rfl)
theorem dX7_tie_5 : decode cX7_tie 5 = .ok (.iaload, 1) := dk_46 (dk_at dksX7_tie_0 5 rfl rfl)
theorem dX7_tie_6 : decode cX7_tie 6 = .ok (.ireturn, 1) := dk_172 (dk_at dksX7_tie_0 6 rfl rfl)
abbrev cX7_init : ByteArray := prog_5_method_1_code
def yX7_init : MethodName := ⟨RX7, "<init>", "(Ljava/lang/String;[I)V"⟩
def dkwX7_init_0 : List UInt8 := [42, 183, 0, 1, 42, 43, 181, 0, 7, 42, 44, 181, 0, 13, 177]
abbrev dktX7_init_0 : List UInt8 := dkwX7_init_0 ++ []
theorem dksX7_init_0 : cX7_init.data.toList.drop 0 = dktX7_init_0 := by decide +kernel
theorem dX7_init_0 : decode cX7_init 0 = .ok (.aload_n 0, 1) := dk_42 (dk_at dksX7_init_0 0 rfl rfl)
theorem dX7_init_1 : decode cX7_init 1 = .ok (.invokespecial 1, 3) := dk_183 0 1 (dk_at dksX7_init_0 1 rfl rfl)
theorem dX7_init_4 : decode cX7_init 4 = .ok (.aload_n 0, 1) := dk_42 (dk_at dksX7_init_0 4 rfl rfl)
theorem dX7_init_5 : decode cX7_init 5 = .ok (.aload_n 1, 1) := dk_43 (dk_at dksX7_init_0 5 rfl rfl)
theorem dX7_init_6 : decode cX7_init 6 = .ok (.putfield 7, 3) := dk_181 0 7 (dk_at dksX7_init_0 6 rfl rfl)
theorem dX7_init_9 : decode cX7_init 9 = .ok (.aload_n 0, 1) := dk_42 (dk_at dksX7_init_0 9 rfl rfl)
theorem dX7_init_10 : decode cX7_init 10 = .ok (.aload_n 2, 1) := dk_44 (dk_at dksX7_init_0 10 rfl rfl)
theorem dX7_init_11 : decode cX7_init 11 = .ok (.putfield 13, 3) := dk_181 0 13 (dk_at dksX7_init_0 11 rfl rfl)
theorem dX7_init_14 : decode cX7_init 14 = .ok (.return_, 1) := dk_177 (dk_at dksX7_init_0 14 rfl rfl)
theorem q201 : (Jvm.Cond.initialized "HomesQueue$House") ∈ lw_all := lw_g (lw_at lw_m1 28 rfl) rfl
theorem q345 : (Jvm.Cond.instanceMethod ({ cls := "HomesQueue$House", name := "band", desc := "()I" } : Jvm.MethodName)) ∈ lw_all := lw_g (lw_at lw_m1 172 rfl) rfl
theorem q346 : (Jvm.Cond.selects "HomesQueue$House" ({ cls := "HomesQueue$House", name := "band", desc := "()I" } : Jvm.MethodName) ({ cls := "HomesQueue$House", name := "band", desc := "()I" } : Jvm.MethodName)) ∈ lw_all := lw_g (lw_at lw_m1 173 rfl) rfl
theorem q347 : (Jvm.Cond.code ({ cls := "HomesQueue$House", name := "band", desc := "()I" } : Jvm.MethodName) prog_5_method_2_code (1 : Nat) (Option.some Jvm.ClassFile.FieldType.int)) ∈ lw_all := lw_g (lw_at lw_m1 174 rfl) rfl
theorem q353 : (Jvm.Cond.instanceMethod ({ cls := "HomesQueue$House", name := "day", desc := "()I" } : Jvm.MethodName)) ∈ lw_all := lw_g (lw_at lw_m1 180 rfl) rfl
theorem q354 : (Jvm.Cond.selects "HomesQueue$House" ({ cls := "HomesQueue$House", name := "day", desc := "()I" } : Jvm.MethodName) ({ cls := "HomesQueue$House", name := "day", desc := "()I" } : Jvm.MethodName)) ∈ lw_all := lw_g (lw_at lw_m1 181 rfl) rfl
theorem q355 : (Jvm.Cond.code ({ cls := "HomesQueue$House", name := "day", desc := "()I" } : Jvm.MethodName) prog_5_method_4_code (1 : Nat) (Option.some Jvm.ClassFile.FieldType.int)) ∈ lw_all := lw_g (lw_at lw_m1 182 rfl) rfl
theorem q404 : (Jvm.Cond.instanceMethod ({ cls := "HomesQueue$House", name := "tie", desc := "()I" } : Jvm.MethodName)) ∈ lw_all := lw_g (lw_at lw_m1 231 rfl) rfl
theorem q405 : (Jvm.Cond.selects "HomesQueue$House" ({ cls := "HomesQueue$House", name := "tie", desc := "()I" } : Jvm.MethodName) ({ cls := "HomesQueue$House", name := "tie", desc := "()I" } : Jvm.MethodName)) ∈ lw_all := lw_g (lw_at lw_m1 232 rfl) rfl
theorem q406 : (Jvm.Cond.code ({ cls := "HomesQueue$House", name := "tie", desc := "()I" } : Jvm.MethodName) prog_5_method_3_code (1 : Nat) (Option.some Jvm.ClassFile.FieldType.int)) ∈ lw_all := lw_g (lw_at lw_m1 233 rfl) rfl
theorem q1106 : (Jvm.Cond.selects "HomesQueue$House" ({ cls := "java/lang/Object", name := "getClass", desc := "()Ljava/lang/Class;" } : Jvm.MethodName) ({ cls := "java/lang/Object", name := "getClass", desc := "()Ljava/lang/Class;" } : Jvm.MethodName)) ∈ lw_all := lw_g (lw_at lw_m4 213 rfl) rfl
theorem q1144 : (Jvm.Cond.instantiable "HomesQueue$House" (2 : Nat)) ∈ lw_all := lw_g (lw_at lw_m5 11 rfl) rfl
theorem q1146 : (Jvm.Cond.instanceMethod ({ cls := "HomesQueue$House", name := "<init>", desc := "(Ljava/lang/String;[I)V" } : Jvm.MethodName)) ∈ lw_all := lw_g (lw_at lw_m5 13 rfl) rfl
theorem q1147 : (Jvm.Cond.code ({ cls := "HomesQueue$House", name := "<init>", desc := "(Ljava/lang/String;[I)V" } : Jvm.MethodName) prog_5_method_1_code (3 : Nat) (Option.none : Option Jvm.ClassFile.FieldType)) ∈ lw_all := lw_g (lw_at lw_m5 14 rfl) rfl
theorem q1148 : (Jvm.Cond.methodLink "HomesQueue$House" (1 : Nat) ({ cls := "java/lang/Object", name := "<init>", desc := "()V" } : Jvm.MethodName)) ∈ lw_all := lw_g (lw_at lw_m5 15 rfl) rfl
theorem q1149 : (Jvm.Cond.fieldLink "HomesQueue$House" (7 : Nat) "HomesQueue$House" "name" "Ljava/lang/String;") ∈ lw_all := lw_g (lw_at lw_m5 16 rfl) rfl
theorem q1152 : (Jvm.Cond.fieldLink "HomesQueue$House" (13 : Nat) "HomesQueue$House" "told" "[I") ∈ lw_all := lw_g (lw_at lw_m5 19 rfl) rfl
theorem q1153 : (Jvm.Cond.laysFinal "HomesQueue$House" "HomesQueue$House" "name" "Ljava/lang/String;") ∈ lw_all := lw_g (lw_at lw_m5 20 rfl) rfl
theorem q1154 : (Jvm.Cond.soleField "HomesQueue$House" "name") ∈ lw_all := lw_g (lw_at lw_m5 21 rfl) rfl
theorem q1155 : (Jvm.Cond.laysFinal "HomesQueue$House" "HomesQueue$House" "told" "[I") ∈ lw_all := lw_g (lw_at lw_m5 22 rfl) rfl
theorem q1156 : (Jvm.Cond.soleField "HomesQueue$House" "told") ∈ lw_all := lw_g (lw_at lw_m5 23 rfl) rfl
theorem q1157 : (Jvm.Cond.superclass "HomesQueue$House" "java/lang/Object") ∈ lw_all := lw_g (lw_at lw_m5 24 rfl) rfl
theorem q2674 : (Jvm.Cond.castable "HomesQueue$House" "java/lang/Object") ∈ lw_tbl := lw_at lw_m11 101 rfl
theorem in_X7 : ∀ w ∈ wsX70, w ∈ lw_all := lw_in wsX70 [1153, 1155] (by decide +kernel) (by decide +kernel)

/-! HomesQueue$Let -/
set_option maxRecDepth 100000
def RX8 : String := "HomesQueue$Let"
def TX8 : u_T := fun k => match k with
  | 0 => ("HomesQueue$Let", "house", "I", true)
  | 1 => ("HomesQueue$Let", "home", "I", true)
  | 2 => ("HomesQueue$Let", "week", "I", true)
  | 3 => ("HomesQueue$Let", "chain", "I", true)
  | 4 => ("HomesQueue$Let", "offer", "I", true)
  | 5 => ("HomesQueue$Let", "band", "I", true)
  | 6 => ("HomesQueue$Let", "local", "Z", true)
  | 7 => ("HomesQueue$Let", "quota", "Z", true)
  | 8 => ("HomesQueue$Let", "moved", "Z", true)
  | _ => ("HomesQueue$Let", "tied", "Z", true)
def tyX8 : Nat → FieldType := fun k => match k with
  | 0 => .int
  | 1 => .int
  | 2 => .int
  | 3 => .int
  | 4 => .int
  | 5 => .int
  | 6 => .boolean
  | 7 => .boolean
  | 8 => .boolean
  | _ => .boolean
abbrev wsX80 : List Cond := u_ws RX8 TX8 10
theorem nmX8 : ∀ a, a < 10 → ∀ b, b < 10 → a ≠ b → (TX8 a).2.1 ≠ (TX8 b).2.1 := by decide +kernel
theorem tyX8_ok : ∀ k, k < 10 → parseFieldDescriptor (TX8 k).2.2.1 = some (tyX8 k) := by decide +kernel
abbrev cX8_init : ByteArray := prog_6_method_1_code
def yX8_init : MethodName := ⟨RX8, "<init>", "(IIIIII[Z)V"⟩
def dkwX8_init_2 : List UInt8 := [25, 7, 4, 51, 181, 0, 32, 42, 25, 7, 5, 51, 181, 0, 35, 42, 25, 7, 6, 51, 181, 0, 38, 177]
abbrev dktX8_init_2 : List UInt8 := dkwX8_init_2 ++ []
def dkwX8_init_1 : List UInt8 := [181, 0, 19, 42, 21, 5, 181, 0, 22, 42, 21, 6, 181, 0, 25, 42, 25, 7, 3, 51, 181, 0, 28, 42]
abbrev dktX8_init_1 : List UInt8 := dkwX8_init_1 ++ dktX8_init_2
def dkwX8_init_0 : List UInt8 := [42, 183, 0, 1, 42, 27, 181, 0, 7, 42, 28, 181, 0, 13, 42, 29, 181, 0, 16, 42, 21, 4]
abbrev dktX8_init_0 : List UInt8 := dkwX8_init_0 ++ dktX8_init_1
theorem dksX8_init_0 : cX8_init.data.toList.drop 0 = dktX8_init_0 := by decide +kernel
theorem dksX8_init_1 : cX8_init.data.toList.drop 22 = dktX8_init_1 := dk_seg dksX8_init_0 22 rfl rfl
theorem dksX8_init_2 : cX8_init.data.toList.drop 46 = dktX8_init_2 := dk_seg dksX8_init_1 24 rfl rfl
theorem dX8_init_0 : decode cX8_init 0 = .ok (.aload_n 0, 1) := dk_42 (dk_at dksX8_init_0 0 rfl rfl)
theorem dX8_init_1 : decode cX8_init 1 = .ok (.invokespecial 1, 3) := dk_183 0 1 (dk_at dksX8_init_0 1 rfl rfl)
theorem dX8_init_4 : decode cX8_init 4 = .ok (.aload_n 0, 1) := dk_42 (dk_at dksX8_init_0 4 rfl rfl)
theorem dX8_init_5 : decode cX8_init 5 = .ok (.iload_n 1, 1) := dk_27 (dk_at dksX8_init_0 5 rfl rfl)
theorem dX8_init_6 : decode cX8_init 6 = .ok (.putfield 7, 3) := dk_181 0 7 (dk_at dksX8_init_0 6 rfl rfl)
theorem dX8_init_9 : decode cX8_init 9 = .ok (.aload_n 0, 1) := dk_42 (dk_at dksX8_init_0 9 rfl rfl)
theorem dX8_init_10 : decode cX8_init 10 = .ok (.iload_n 2, 1) := dk_28 (dk_at dksX8_init_0 10 rfl rfl)
theorem dX8_init_11 : decode cX8_init 11 = .ok (.putfield 13, 3) := dk_181 0 13 (dk_at dksX8_init_0 11 rfl rfl)
theorem dX8_init_14 : decode cX8_init 14 = .ok (.aload_n 0, 1) := dk_42 (dk_at dksX8_init_0 14 rfl rfl)
theorem dX8_init_15 : decode cX8_init 15 = .ok (.iload_n 3, 1) := dk_29 (dk_at dksX8_init_0 15 rfl rfl)
theorem dX8_init_16 : decode cX8_init 16 = .ok (.putfield 16, 3) := dk_181 0 16 (dk_at dksX8_init_0 16 rfl rfl)
theorem dX8_init_19 : decode cX8_init 19 = .ok (.aload_n 0, 1) := dk_42 (dk_at dksX8_init_0 19 rfl rfl)
theorem dX8_init_20 : decode cX8_init 20 = .ok (.iload 4, 2) := dk_21 4 (dk_at dksX8_init_0 20 rfl rfl)
theorem dX8_init_22 : decode cX8_init 22 = .ok (.putfield 19, 3) := dk_181 0 19 (dk_at dksX8_init_1 0 rfl rfl)
theorem dX8_init_25 : decode cX8_init 25 = .ok (.aload_n 0, 1) := dk_42 (dk_at dksX8_init_1 3 rfl rfl)
theorem dX8_init_26 : decode cX8_init 26 = .ok (.iload 5, 2) := dk_21 5 (dk_at dksX8_init_1 4 rfl rfl)
theorem dX8_init_28 : decode cX8_init 28 = .ok (.putfield 22, 3) := dk_181 0 22 (dk_at dksX8_init_1 6 rfl rfl)
theorem dX8_init_31 : decode cX8_init 31 = .ok (.aload_n 0, 1) := dk_42 (dk_at dksX8_init_1 9 rfl rfl)
theorem dX8_init_32 : decode cX8_init 32 = .ok (.iload 6, 2) := dk_21 6 (dk_at dksX8_init_1 10 rfl rfl)
theorem dX8_init_34 : decode cX8_init 34 = .ok (.putfield 25, 3) := dk_181 0 25 (dk_at dksX8_init_1 12 rfl rfl)
theorem dX8_init_37 : decode cX8_init 37 = .ok (.aload_n 0, 1) := dk_42 (dk_at dksX8_init_1 15 rfl rfl)
theorem dX8_init_38 : decode cX8_init 38 = .ok (.aload 7, 2) := dk_25 7 (dk_at dksX8_init_1 16 rfl rfl)
theorem dX8_init_40 : decode cX8_init 40 = .ok (.iconst 0, 1) := dk_3 (dk_at dksX8_init_1 18 rfl rfl)
theorem dX8_init_41 : decode cX8_init 41 = .ok (.baload, 1) := dk_51 (dk_at dksX8_init_1 19 rfl rfl)
theorem dX8_init_42 : decode cX8_init 42 = .ok (.putfield 28, 3) := dk_181 0 28 (dk_at dksX8_init_1 20 rfl rfl)
theorem dX8_init_45 : decode cX8_init 45 = .ok (.aload_n 0, 1) := dk_42 (dk_at dksX8_init_1 23 rfl rfl)
theorem dX8_init_46 : decode cX8_init 46 = .ok (.aload 7, 2) := dk_25 7 (dk_at dksX8_init_2 0 rfl rfl)
theorem dX8_init_48 : decode cX8_init 48 = .ok (.iconst 1, 1) := dk_4 (dk_at dksX8_init_2 2 rfl rfl)
theorem dX8_init_49 : decode cX8_init 49 = .ok (.baload, 1) := dk_51 (dk_at dksX8_init_2 3 rfl rfl)
theorem dX8_init_50 : decode cX8_init 50 = .ok (.putfield 32, 3) := dk_181 0 32 (dk_at dksX8_init_2 4 rfl rfl)
theorem dX8_init_53 : decode cX8_init 53 = .ok (.aload_n 0, 1) := dk_42 (dk_at dksX8_init_2 7 rfl rfl)
theorem dX8_init_54 : decode cX8_init 54 = .ok (.aload 7, 2) := dk_25 7 (dk_at dksX8_init_2 8 rfl rfl)
theorem dX8_init_56 : decode cX8_init 56 = .ok (.iconst 2, 1) := dk_5 (dk_at dksX8_init_2 10 rfl rfl)
theorem dX8_init_57 : decode cX8_init 57 = .ok (.baload, 1) := dk_51 (dk_at dksX8_init_2 11 rfl rfl)
theorem dX8_init_58 : decode cX8_init 58 = .ok (.putfield 35, 3) := dk_181 0 35 (dk_at dksX8_init_2 12 rfl rfl)
theorem dX8_init_61 : decode cX8_init 61 = .ok (.aload_n 0, 1) := dk_42 (dk_at dksX8_init_2 15 rfl rfl)
theorem dX8_init_62 : decode cX8_init 62 = .ok (.aload 7, 2) := dk_25 7 (dk_at dksX8_init_2 16 rfl rfl)
theorem dX8_init_64 : decode cX8_init 64 = .ok (.iconst 3, 1) := dk_6 (dk_at dksX8_init_2 18 rfl rfl)
theorem dX8_init_65 : decode cX8_init 65 = .ok (.baload, 1) := dk_51 (dk_at dksX8_init_2 19 rfl rfl)
theorem dX8_init_66 : decode cX8_init 66 = .ok (.putfield 38, 3) := dk_181 0 38 (dk_at dksX8_init_2 20 rfl rfl)
theorem dX8_init_69 : decode cX8_init 69 = .ok (.return_, 1) := dk_177 (dk_at dksX8_init_2 23 rfl rfl)
theorem q202 : (Jvm.Cond.initialized "HomesQueue$Let") ∈ lw_all := lw_g (lw_at lw_m1 29 rfl) rfl
theorem q1107 : (Jvm.Cond.selects "HomesQueue$Let" ({ cls := "java/lang/Object", name := "getClass", desc := "()Ljava/lang/Class;" } : Jvm.MethodName) ({ cls := "java/lang/Object", name := "getClass", desc := "()Ljava/lang/Class;" } : Jvm.MethodName)) ∈ lw_all := lw_g (lw_at lw_m4 214 rfl) rfl
theorem q1442 : (Jvm.Cond.instantiable "HomesQueue$Let" (10 : Nat)) ∈ lw_all := lw_g (lw_at lw_m6 69 rfl) rfl
theorem q1444 : (Jvm.Cond.instanceMethod ({ cls := "HomesQueue$Let", name := "<init>", desc := "(IIIIII[Z)V" } : Jvm.MethodName)) ∈ lw_all := lw_g (lw_at lw_m6 71 rfl) rfl
theorem q1445 : (Jvm.Cond.code ({ cls := "HomesQueue$Let", name := "<init>", desc := "(IIIIII[Z)V" } : Jvm.MethodName) prog_6_method_1_code (8 : Nat) (Option.none : Option Jvm.ClassFile.FieldType)) ∈ lw_all := lw_g (lw_at lw_m6 72 rfl) rfl
theorem q1446 : (Jvm.Cond.methodLink "HomesQueue$Let" (1 : Nat) ({ cls := "java/lang/Object", name := "<init>", desc := "()V" } : Jvm.MethodName)) ∈ lw_all := lw_g (lw_at lw_m6 73 rfl) rfl
theorem q1447 : (Jvm.Cond.fieldLink "HomesQueue$Let" (7 : Nat) "HomesQueue$Let" "house" "I") ∈ lw_all := lw_g (lw_at lw_m6 74 rfl) rfl
theorem q1449 : (Jvm.Cond.fieldLink "HomesQueue$Let" (13 : Nat) "HomesQueue$Let" "home" "I") ∈ lw_all := lw_g (lw_at lw_m6 76 rfl) rfl
theorem q1452 : (Jvm.Cond.fieldLink "HomesQueue$Let" (16 : Nat) "HomesQueue$Let" "week" "I") ∈ lw_all := lw_g (lw_at lw_m6 79 rfl) rfl
theorem q1454 : (Jvm.Cond.fieldLink "HomesQueue$Let" (19 : Nat) "HomesQueue$Let" "chain" "I") ∈ lw_all := lw_g (lw_at lw_m6 81 rfl) rfl
theorem q1457 : (Jvm.Cond.fieldLink "HomesQueue$Let" (22 : Nat) "HomesQueue$Let" "offer" "I") ∈ lw_all := lw_g (lw_at lw_m6 84 rfl) rfl
theorem q1459 : (Jvm.Cond.fieldLink "HomesQueue$Let" (25 : Nat) "HomesQueue$Let" "band" "I") ∈ lw_all := lw_g (lw_at lw_m6 86 rfl) rfl
theorem q1461 : (Jvm.Cond.fieldLink "HomesQueue$Let" (28 : Nat) "HomesQueue$Let" "local" "Z") ∈ lw_all := lw_g (lw_at lw_m6 88 rfl) rfl
theorem q1463 : (Jvm.Cond.fieldLink "HomesQueue$Let" (32 : Nat) "HomesQueue$Let" "quota" "Z") ∈ lw_all := lw_g (lw_at lw_m6 90 rfl) rfl
theorem q1465 : (Jvm.Cond.fieldLink "HomesQueue$Let" (35 : Nat) "HomesQueue$Let" "moved" "Z") ∈ lw_all := lw_g (lw_at lw_m6 92 rfl) rfl
theorem q1467 : (Jvm.Cond.fieldLink "HomesQueue$Let" (38 : Nat) "HomesQueue$Let" "tied" "Z") ∈ lw_all := lw_g (lw_at lw_m6 94 rfl) rfl
theorem q1469 : (Jvm.Cond.laysFinal "HomesQueue$Let" "HomesQueue$Let" "house" "I") ∈ lw_all := lw_g (lw_at lw_m6 96 rfl) rfl
theorem q1470 : (Jvm.Cond.soleField "HomesQueue$Let" "house") ∈ lw_all := lw_g (lw_at lw_m6 97 rfl) rfl
theorem q1471 : (Jvm.Cond.laysFinal "HomesQueue$Let" "HomesQueue$Let" "home" "I") ∈ lw_all := lw_g (lw_at lw_m6 98 rfl) rfl
theorem q1472 : (Jvm.Cond.soleField "HomesQueue$Let" "home") ∈ lw_all := lw_g (lw_at lw_m6 99 rfl) rfl
theorem q1473 : (Jvm.Cond.laysFinal "HomesQueue$Let" "HomesQueue$Let" "week" "I") ∈ lw_all := lw_g (lw_at lw_m6 100 rfl) rfl
theorem q1474 : (Jvm.Cond.soleField "HomesQueue$Let" "week") ∈ lw_all := lw_g (lw_at lw_m6 101 rfl) rfl
theorem q1475 : (Jvm.Cond.laysFinal "HomesQueue$Let" "HomesQueue$Let" "chain" "I") ∈ lw_all := lw_g (lw_at lw_m6 102 rfl) rfl
theorem q1476 : (Jvm.Cond.soleField "HomesQueue$Let" "chain") ∈ lw_all := lw_g (lw_at lw_m6 103 rfl) rfl
theorem q1477 : (Jvm.Cond.laysFinal "HomesQueue$Let" "HomesQueue$Let" "offer" "I") ∈ lw_all := lw_g (lw_at lw_m6 104 rfl) rfl
theorem q1478 : (Jvm.Cond.soleField "HomesQueue$Let" "offer") ∈ lw_all := lw_g (lw_at lw_m6 105 rfl) rfl
theorem q1479 : (Jvm.Cond.laysFinal "HomesQueue$Let" "HomesQueue$Let" "band" "I") ∈ lw_all := lw_g (lw_at lw_m6 106 rfl) rfl
theorem q1480 : (Jvm.Cond.soleField "HomesQueue$Let" "band") ∈ lw_all := lw_g (lw_at lw_m6 107 rfl) rfl
theorem q1481 : (Jvm.Cond.laysFinal "HomesQueue$Let" "HomesQueue$Let" "local" "Z") ∈ lw_all := lw_g (lw_at lw_m6 108 rfl) rfl
theorem q1482 : (Jvm.Cond.soleField "HomesQueue$Let" "local") ∈ lw_all := lw_g (lw_at lw_m6 109 rfl) rfl
theorem q1483 : (Jvm.Cond.laysFinal "HomesQueue$Let" "HomesQueue$Let" "quota" "Z") ∈ lw_all := lw_g (lw_at lw_m6 110 rfl) rfl
theorem q1484 : (Jvm.Cond.soleField "HomesQueue$Let" "quota") ∈ lw_all := lw_g (lw_at lw_m6 111 rfl) rfl
theorem q1485 : (Jvm.Cond.laysFinal "HomesQueue$Let" "HomesQueue$Let" "moved" "Z") ∈ lw_all := lw_g (lw_at lw_m6 112 rfl) rfl
theorem q1486 : (Jvm.Cond.soleField "HomesQueue$Let" "moved") ∈ lw_all := lw_g (lw_at lw_m6 113 rfl) rfl
theorem q1487 : (Jvm.Cond.laysFinal "HomesQueue$Let" "HomesQueue$Let" "tied" "Z") ∈ lw_all := lw_g (lw_at lw_m6 114 rfl) rfl
theorem q1488 : (Jvm.Cond.soleField "HomesQueue$Let" "tied") ∈ lw_all := lw_g (lw_at lw_m6 115 rfl) rfl
theorem q1489 : (Jvm.Cond.superclass "HomesQueue$Let" "java/lang/Object") ∈ lw_all := lw_g (lw_at lw_m6 116 rfl) rfl
theorem q2675 : (Jvm.Cond.castable "HomesQueue$Let" "java/lang/Object") ∈ lw_tbl := lw_at lw_m11 102 rfl
theorem in_X8 : ∀ w ∈ wsX80, w ∈ lw_all := lw_in wsX80 [1469, 1471, 1473, 1475, 1477, 1479, 1481, 1483, 1485, 1487] (by decide +kernel) (by decide +kernel)

/-! HomesQueue$Giving -/
set_option maxRecDepth 100000
def RX9 : String := "HomesQueue$Giving"
def TX9 : u_T := fun k => match k with
  | 0 => ("HomesQueue$Giving", "givenTo", "[I", true)
  | 1 => ("HomesQueue$Giving", "gift", "[I", true)
  | 2 => ("HomesQueue$Giving", "most", "I", false)
  | _ => ("HomesQueue$Giving", "this$0", "LHomesQueue;", true)
def tyX9 : Nat → FieldType := fun k => match k with
  | 0 => .array .int
  | 1 => .array .int
  | 2 => .int
  | _ => .object "HomesQueue"
abbrev wsX90 : List Cond := u_ws RX9 TX9 4
theorem nmX9 : ∀ a, a < 4 → ∀ b, b < 4 → a ≠ b → (TX9 a).2.1 ≠ (TX9 b).2.1 := by decide +kernel
theorem tyX9_ok : ∀ k, k < 4 → parseFieldDescriptor (TX9 k).2.2.1 = some (tyX9 k) := by decide +kernel
abbrev cX9_init : ByteArray := prog_3_method_1_code
def yX9_init : MethodName := ⟨RX9, "<init>", "(LHomesQueue;)V"⟩
def dkwX9_init_8 : List UInt8 := [132, 4, 1, 167, 255, 133, 177]
abbrev dktX9_init_8 : List UInt8 := dkwX9_init_8 ++ []
def dkwX9_init_7 : List UInt8 := [46, 156, 0, 6, 167, 0, 18, 28, 4, 42, 180, 0, 19, 21, 4, 46, 120, 128, 61, 132, 3, 255]
abbrev dktX9_init_7 : List UInt8 := dkwX9_init_7 ++ dktX9_init_8
def dkwX9_init_6 : List UInt8 := [160, 0, 12, 42, 180, 0, 19, 21, 4, 21, 5, 79, 132, 5, 1, 167, 255, 190, 42, 180, 0, 19, 21, 4]
abbrev dktX9_init_6 : List UInt8 := dkwX9_init_6 ++ dktX9_init_7
def dkwX9_init_5 : List UInt8 := [28, 182, 0, 43, 153, 0, 32, 4, 42, 21, 4, 4, 96, 28, 4, 21, 5, 120, 128, 182, 0, 22, 96, 29]
abbrev dktX9_init_5 : List UInt8 := dkwX9_init_5 ++ dktX9_init_6
def dkwX9_init_4 : List UInt8 := [180, 0, 40, 182, 0, 34, 162, 0, 60, 42, 180, 0, 19, 21, 4, 46, 156, 0, 50, 42, 21, 4, 21, 5]
abbrev dktX9_init_4 : List UInt8 := dkwX9_init_4 ++ dktX9_init_5
def dkwX9_init_3 : List UInt8 := [180, 0, 30, 182, 0, 34, 162, 0, 117, 42, 180, 0, 19, 21, 4, 2, 79, 3, 54, 5, 21, 5, 43]
abbrev dktX9_init_3 : List UInt8 := dkwX9_init_3 ++ dktX9_init_4
def dkwX9_init_2 : List UInt8 := [42, 42, 3, 3, 182, 0, 22, 181, 0, 26, 3, 61, 42, 180, 0, 26, 62, 3, 54, 4, 21, 4, 43]
abbrev dktX9_init_2 : List UInt8 := dkwX9_init_2 ++ dktX9_init_3
def dkwX9_init_1 : List UInt8 := [181, 0, 19, 3, 61, 28, 16, 10, 162, 0, 16, 42, 180, 0, 15, 28, 2, 79, 132, 2, 1, 167, 255, 240]
abbrev dktX9_init_1 : List UInt8 := dkwX9_init_1 ++ dktX9_init_2
def dkwX9_init_0 : List UInt8 := [42, 43, 181, 0, 3, 42, 183, 0, 9, 42, 16, 10, 188, 10, 181, 0, 15, 42, 16, 8, 188, 10]
abbrev dktX9_init_0 : List UInt8 := dkwX9_init_0 ++ dktX9_init_1
theorem dksX9_init_0 : cX9_init.data.toList.drop 0 = dktX9_init_0 := by decide +kernel
theorem dksX9_init_1 : cX9_init.data.toList.drop 22 = dktX9_init_1 := dk_seg dksX9_init_0 22 rfl rfl
theorem dksX9_init_2 : cX9_init.data.toList.drop 46 = dktX9_init_2 := dk_seg dksX9_init_1 24 rfl rfl
theorem dksX9_init_3 : cX9_init.data.toList.drop 69 = dktX9_init_3 := dk_seg dksX9_init_2 23 rfl rfl
theorem dksX9_init_4 : cX9_init.data.toList.drop 92 = dktX9_init_4 := dk_seg dksX9_init_3 23 rfl rfl
theorem dksX9_init_5 : cX9_init.data.toList.drop 116 = dktX9_init_5 := dk_seg dksX9_init_4 24 rfl rfl
theorem dksX9_init_6 : cX9_init.data.toList.drop 140 = dktX9_init_6 := dk_seg dksX9_init_5 24 rfl rfl
theorem dksX9_init_7 : cX9_init.data.toList.drop 164 = dktX9_init_7 := dk_seg dksX9_init_6 24 rfl rfl
theorem dksX9_init_8 : cX9_init.data.toList.drop 186 = dktX9_init_8 := dk_seg dksX9_init_7 22 rfl rfl
theorem dX9_init_0 : decode cX9_init 0 = .ok (.aload_n 0, 1) := dk_42 (dk_at dksX9_init_0 0 rfl rfl)
theorem dX9_init_1 : decode cX9_init 1 = .ok (.aload_n 1, 1) := dk_43 (dk_at dksX9_init_0 1 rfl rfl)
theorem dX9_init_2 : decode cX9_init 2 = .ok (.putfield 3, 3) := dk_181 0 3 (dk_at dksX9_init_0 2 rfl rfl)
theorem dX9_init_5 : decode cX9_init 5 = .ok (.aload_n 0, 1) := dk_42 (dk_at dksX9_init_0 5 rfl rfl)
theorem dX9_init_6 : decode cX9_init 6 = .ok (.invokespecial 9, 3) := dk_183 0 9 (dk_at dksX9_init_0 6 rfl rfl)
theorem dX9_init_9 : decode cX9_init 9 = .ok (.aload_n 0, 1) := dk_42 (dk_at dksX9_init_0 9 rfl rfl)
theorem dX9_init_10 : decode cX9_init 10 = .ok (.bipush 10, 2) := dk_16 10 (dk_at dksX9_init_0 10 rfl rfl)
theorem dX9_init_12 : decode cX9_init 12 = .ok (.newarray .int, 2) := dk_188_10 (dk_at dksX9_init_0 12 rfl rfl)
theorem dX9_init_14 : decode cX9_init 14 = .ok (.putfield 15, 3) := dk_181 0 15 (dk_at dksX9_init_0 14 rfl rfl)
theorem dX9_init_17 : decode cX9_init 17 = .ok (.aload_n 0, 1) := dk_42 (dk_at dksX9_init_0 17 rfl rfl)
theorem dX9_init_18 : decode cX9_init 18 = .ok (.bipush 8, 2) := dk_16 8 (dk_at dksX9_init_0 18 rfl rfl)
theorem dX9_init_20 : decode cX9_init 20 = .ok (.newarray .int, 2) := dk_188_10 (dk_at dksX9_init_0 20 rfl rfl)
theorem dX9_init_22 : decode cX9_init 22 = .ok (.putfield 19, 3) := dk_181 0 19 (dk_at dksX9_init_1 0 rfl rfl)
theorem dX9_init_25 : decode cX9_init 25 = .ok (.iconst 0, 1) := dk_3 (dk_at dksX9_init_1 3 rfl rfl)
theorem dX9_init_26 : decode cX9_init 26 = .ok (.istore_n 2, 1) := dk_61 (dk_at dksX9_init_1 4 rfl rfl)
theorem dX9_init_27 : decode cX9_init 27 = .ok (.iload_n 2, 1) := dk_28 (dk_at dksX9_init_1 5 rfl rfl)
theorem dX9_init_28 : decode cX9_init 28 = .ok (.bipush 10, 2) := dk_16 10 (dk_at dksX9_init_1 6 rfl rfl)
theorem dX9_init_30 : decode cX9_init 30 = .ok (.if_icmp .ge 16, 3) := dk_162 0 16 (dk_at dksX9_init_1 8 rfl rfl)
theorem dX9_init_33 : decode cX9_init 33 = .ok (.aload_n 0, 1) := dk_42 (dk_at dksX9_init_1 11 rfl rfl)
theorem dX9_init_34 : decode cX9_init 34 = .ok (.getfield 15, 3) := dk_180 0 15 (dk_at dksX9_init_1 12 rfl rfl)
theorem dX9_init_37 : decode cX9_init 37 = .ok (.iload_n 2, 1) := dk_28 (dk_at dksX9_init_1 15 rfl rfl)
theorem dX9_init_38 : decode cX9_init 38 = .ok (.iconst (-1), 1) := dk_2 (dk_at dksX9_init_1 16 rfl rfl)
theorem dX9_init_39 : decode cX9_init 39 = .ok (.iastore, 1) := dk_79 (dk_at dksX9_init_1 17 rfl rfl)
theorem dX9_init_40 : decode cX9_init 40 = .ok (.iinc 2 1, 3) := dk_132 2 1 (dk_at dksX9_init_1 18 rfl rfl)
theorem dX9_init_43 : decode cX9_init 43 = .ok (.goto (-16), 3) := dk_167 255 240 (dk_at dksX9_init_1 21 rfl rfl)
theorem dX9_init_46 : decode cX9_init 46 = .ok (.aload_n 0, 1) := dk_42 (dk_at dksX9_init_2 0 rfl rfl)
theorem dX9_init_47 : decode cX9_init 47 = .ok (.aload_n 0, 1) := dk_42 (dk_at dksX9_init_2 1 rfl rfl)
theorem dX9_init_48 : decode cX9_init 48 = .ok (.iconst 0, 1) := dk_3 (dk_at dksX9_init_2 2 rfl rfl)
theorem dX9_init_49 : decode cX9_init 49 = .ok (.iconst 0, 1) := dk_3 (dk_at dksX9_init_2 3 rfl rfl)
theorem dX9_init_50 : decode cX9_init 50 = .ok (.invokevirtual 22, 3) := dk_182 0 22 (dk_at dksX9_init_2 4 rfl rfl)
theorem dX9_init_53 : decode cX9_init 53 = .ok (.putfield 26, 3) := dk_181 0 26 (dk_at dksX9_init_2 7 rfl rfl)
theorem dX9_init_56 : decode cX9_init 56 = .ok (.iconst 0, 1) := dk_3 (dk_at dksX9_init_2 10 rfl rfl)
theorem dX9_init_57 : decode cX9_init 57 = .ok (.istore_n 2, 1) := dk_61 (dk_at dksX9_init_2 11 rfl rfl)
theorem dX9_init_58 : decode cX9_init 58 = .ok (.aload_n 0, 1) := dk_42 (dk_at dksX9_init_2 12 rfl rfl)
theorem dX9_init_59 : decode cX9_init 59 = .ok (.getfield 26, 3) := dk_180 0 26 (dk_at dksX9_init_2 13 rfl rfl)
theorem dX9_init_62 : decode cX9_init 62 = .ok (.istore_n 3, 1) := dk_62 (dk_at dksX9_init_2 16 rfl rfl)
theorem dX9_init_63 : decode cX9_init 63 = .ok (.iconst 0, 1) := dk_3 (dk_at dksX9_init_2 17 rfl rfl)
theorem dX9_init_64 : decode cX9_init 64 = .ok (.istore 4, 2) := dk_54 4 (dk_at dksX9_init_2 18 rfl rfl)
theorem dX9_init_66 : decode cX9_init 66 = .ok (.iload 4, 2) := dk_21 4 (dk_at dksX9_init_2 20 rfl rfl)
theorem dX9_init_68 : decode cX9_init 68 = .ok (.aload_n 1, 1) := dk_43 (dk_at dksX9_init_2 22 rfl rfl)
theorem dX9_init_69 : decode cX9_init 69 = .ok (.getfield 30, 3) := dk_180 0 30 (dk_at dksX9_init_3 0 rfl rfl)
theorem dX9_init_72 : decode cX9_init 72 = .ok (.invokevirtual 34, 3) := dk_182 0 34 (dk_at dksX9_init_3 3 rfl rfl)
theorem dX9_init_75 : decode cX9_init 75 = .ok (.if_icmp .ge 117, 3) := dk_162 0 117 (dk_at dksX9_init_3 6 rfl rfl)
theorem dX9_init_78 : decode cX9_init 78 = .ok (.aload_n 0, 1) := dk_42 (dk_at dksX9_init_3 9 rfl rfl)
theorem dX9_init_79 : decode cX9_init 79 = .ok (.getfield 19, 3) := dk_180 0 19 (dk_at dksX9_init_3 10 rfl rfl)
theorem dX9_init_82 : decode cX9_init 82 = .ok (.iload 4, 2) := dk_21 4 (dk_at dksX9_init_3 13 rfl rfl)
theorem dX9_init_84 : decode cX9_init 84 = .ok (.iconst (-1), 1) := dk_2 (dk_at dksX9_init_3 15 rfl rfl)
theorem dX9_init_85 : decode cX9_init 85 = .ok (.iastore, 1) := dk_79 (dk_at dksX9_init_3 16 rfl rfl)
theorem dX9_init_86 : decode cX9_init 86 = .ok (.iconst 0, 1) := dk_3 (dk_at dksX9_init_3 17 rfl rfl)
theorem dX9_init_87 : decode cX9_init 87 = .ok (.istore 5, 2) := dk_54 5 (dk_at dksX9_init_3 18 rfl rfl)
theorem dX9_init_89 : decode cX9_init 89 = .ok (.iload 5, 2) := dk_21 5 (dk_at dksX9_init_3 20 rfl rfl)
theorem dX9_init_91 : decode cX9_init 91 = .ok (.aload_n 1, 1) := dk_43 (dk_at dksX9_init_3 22 rfl rfl)
theorem dX9_init_92 : decode cX9_init 92 = .ok (.getfield 40, 3) := dk_180 0 40 (dk_at dksX9_init_4 0 rfl rfl)
theorem dX9_init_95 : decode cX9_init 95 = .ok (.invokevirtual 34, 3) := dk_182 0 34 (dk_at dksX9_init_4 3 rfl rfl)
theorem dX9_init_98 : decode cX9_init 98 = .ok (.if_icmp .ge 60, 3) := dk_162 0 60 (dk_at dksX9_init_4 6 rfl rfl)
theorem dX9_init_101 : decode cX9_init 101 = .ok (.aload_n 0, 1) := dk_42 (dk_at dksX9_init_4 9 rfl rfl)
theorem dX9_init_102 : decode cX9_init 102 = .ok (.getfield 19, 3) := dk_180 0 19 (dk_at dksX9_init_4 10 rfl rfl)
theorem dX9_init_105 : decode cX9_init 105 = .ok (.iload 4, 2) := dk_21 4 (dk_at dksX9_init_4 13 rfl rfl)
theorem dX9_init_107 : decode cX9_init 107 = .ok (.iaload, 1) := dk_46 (dk_at dksX9_init_4 15 rfl rfl)
theorem dX9_init_108 : decode cX9_init 108 = .ok (.ifCond .ge 50, 3) := dk_156 0 50 (dk_at dksX9_init_4 16 rfl rfl)
theorem dX9_init_111 : decode cX9_init 111 = .ok (.aload_n 0, 1) := dk_42 (dk_at dksX9_init_4 19 rfl rfl)
theorem dX9_init_112 : decode cX9_init 112 = .ok (.iload 4, 2) := dk_21 4 (dk_at dksX9_init_4 20 rfl rfl)
theorem dX9_init_114 : decode cX9_init 114 = .ok (.iload 5, 2) := dk_21 5 (dk_at dksX9_init_4 22 rfl rfl)
theorem dX9_init_116 : decode cX9_init 116 = .ok (.iload_n 2, 1) := dk_28 (dk_at dksX9_init_5 0 rfl rfl)
theorem dX9_init_117 : decode cX9_init 117 = .ok (.invokevirtual 43, 3) := dk_182 0 43 (dk_at dksX9_init_5 1 rfl rfl)
theorem dX9_init_120 : decode cX9_init 120 = .ok (.ifCond .eq 32, 3) := dk_153 0 32 (dk_at dksX9_init_5 4 rfl rfl)
theorem dX9_init_123 : decode cX9_init 123 = .ok (.iconst 1, 1) := dk_4 (dk_at dksX9_init_5 7 rfl rfl)
theorem dX9_init_124 : decode cX9_init 124 = .ok (.aload_n 0, 1) := dk_42 (dk_at dksX9_init_5 8 rfl rfl)
theorem dX9_init_125 : decode cX9_init 125 = .ok (.iload 4, 2) := dk_21 4 (dk_at dksX9_init_5 9 rfl rfl)
theorem dX9_init_127 : decode cX9_init 127 = .ok (.iconst 1, 1) := dk_4 (dk_at dksX9_init_5 11 rfl rfl)
theorem dX9_init_128 : decode cX9_init 128 = .ok (.iadd, 1) := dk_96 (dk_at dksX9_init_5 12 rfl rfl)
theorem dX9_init_129 : decode cX9_init 129 = .ok (.iload_n 2, 1) := dk_28 (dk_at dksX9_init_5 13 rfl rfl)
theorem dX9_init_130 : decode cX9_init 130 = .ok (.iconst 1, 1) := dk_4 (dk_at dksX9_init_5 14 rfl rfl)
theorem dX9_init_131 : decode cX9_init 131 = .ok (.iload 5, 2) := dk_21 5 (dk_at dksX9_init_5 15 rfl rfl)
theorem dX9_init_133 : decode cX9_init 133 = .ok (.ishl, 1) := dk_120 (dk_at dksX9_init_5 17 rfl rfl)
theorem dX9_init_134 : decode cX9_init 134 = .ok (.ior, 1) := dk_128 (dk_at dksX9_init_5 18 rfl rfl)
theorem dX9_init_135 : decode cX9_init 135 = .ok (.invokevirtual 22, 3) := dk_182 0 22 (dk_at dksX9_init_5 19 rfl rfl)
theorem dX9_init_138 : decode cX9_init 138 = .ok (.iadd, 1) := dk_96 (dk_at dksX9_init_5 22 rfl rfl)
theorem dX9_init_139 : decode cX9_init 139 = .ok (.iload_n 3, 1) := dk_29 (dk_at dksX9_init_5 23 rfl rfl)
theorem dX9_init_140 : decode cX9_init 140 = .ok (.if_icmp .ne 12, 3) := dk_160 0 12 (dk_at dksX9_init_6 0 rfl rfl)
theorem dX9_init_143 : decode cX9_init 143 = .ok (.aload_n 0, 1) := dk_42 (dk_at dksX9_init_6 3 rfl rfl)
theorem dX9_init_144 : decode cX9_init 144 = .ok (.getfield 19, 3) := dk_180 0 19 (dk_at dksX9_init_6 4 rfl rfl)
theorem dX9_init_147 : decode cX9_init 147 = .ok (.iload 4, 2) := dk_21 4 (dk_at dksX9_init_6 7 rfl rfl)
theorem dX9_init_149 : decode cX9_init 149 = .ok (.iload 5, 2) := dk_21 5 (dk_at dksX9_init_6 9 rfl rfl)
theorem dX9_init_151 : decode cX9_init 151 = .ok (.iastore, 1) := dk_79 (dk_at dksX9_init_6 11 rfl rfl)
theorem dX9_init_152 : decode cX9_init 152 = .ok (.iinc 5 1, 3) := dk_132 5 1 (dk_at dksX9_init_6 12 rfl rfl)
theorem dX9_init_155 : decode cX9_init 155 = .ok (.goto (-66), 3) := dk_167 255 190 (dk_at dksX9_init_6 15 rfl rfl)
theorem dX9_init_158 : decode cX9_init 158 = .ok (.aload_n 0, 1) := dk_42 (dk_at dksX9_init_6 18 rfl rfl)
theorem dX9_init_159 : decode cX9_init 159 = .ok (.getfield 19, 3) := dk_180 0 19 (dk_at dksX9_init_6 19 rfl rfl)
theorem dX9_init_162 : decode cX9_init 162 = .ok (.iload 4, 2) := dk_21 4 (dk_at dksX9_init_6 22 rfl rfl)
theorem dX9_init_164 : decode cX9_init 164 = .ok (.iaload, 1) := dk_46 (dk_at dksX9_init_7 0 rfl rfl)
theorem dX9_init_165 : decode cX9_init 165 = .ok (.ifCond .ge 6, 3) := dk_156 0 6 (dk_at dksX9_init_7 1 rfl rfl)
theorem dX9_init_168 : decode cX9_init 168 = .ok (.goto 18, 3) := dk_167 0 18 (dk_at dksX9_init_7 4 rfl rfl)
theorem dX9_init_171 : decode cX9_init 171 = .ok (.iload_n 2, 1) := dk_28 (dk_at dksX9_init_7 7 rfl rfl)
theorem dX9_init_172 : decode cX9_init 172 = .ok (.iconst 1, 1) := dk_4 (dk_at dksX9_init_7 8 rfl rfl)
theorem dX9_init_173 : decode cX9_init 173 = .ok (.aload_n 0, 1) := dk_42 (dk_at dksX9_init_7 9 rfl rfl)
theorem dX9_init_174 : decode cX9_init 174 = .ok (.getfield 19, 3) := dk_180 0 19 (dk_at dksX9_init_7 10 rfl rfl)
theorem dX9_init_177 : decode cX9_init 177 = .ok (.iload 4, 2) := dk_21 4 (dk_at dksX9_init_7 13 rfl rfl)
theorem dX9_init_179 : decode cX9_init 179 = .ok (.iaload, 1) := dk_46 (dk_at dksX9_init_7 15 rfl rfl)
theorem dX9_init_180 : decode cX9_init 180 = .ok (.ishl, 1) := dk_120 (dk_at dksX9_init_7 16 rfl rfl)
theorem dX9_init_181 : decode cX9_init 181 = .ok (.ior, 1) := dk_128 (dk_at dksX9_init_7 17 rfl rfl)
theorem dX9_init_182 : decode cX9_init 182 = .ok (.istore_n 2, 1) := dk_61 (dk_at dksX9_init_7 18 rfl rfl)
theorem dX9_init_183 : decode cX9_init 183 = .ok (.iinc 3 (-1), 3) := dk_132 3 255 (dk_at dksX9_init_7 19 rfl rfl)
theorem dX9_init_186 : decode cX9_init 186 = .ok (.iinc 4 1, 3) := dk_132 4 1 (dk_at dksX9_init_8 0 rfl rfl)
theorem dX9_init_189 : decode cX9_init 189 = .ok (.goto (-123), 3) := dk_167 255 133 (dk_at dksX9_init_8 3 rfl rfl)
theorem dX9_init_192 : decode cX9_init 192 = .ok (.return_, 1) := dk_177 (dk_at dksX9_init_8 6 rfl rfl)
abbrev cX9_mostFrom : ByteArray := prog_3_method_3_code
def yX9_mostFrom : MethodName := ⟨RX9, "mostFrom", "(II)I"⟩
def dkwX9_mostFrom_2 : List UInt8 := [188, 4, 182, 0, 61, 184, 0, 65, 96, 62, 132, 4, 1, 167, 255, 221, 29, 172]
abbrev dktX9_mostFrom_2 : List UInt8 := dkwX9_mostFrom_2 ++ []
def dkwX9_mostFrom_1 : List UInt8 := [54, 4, 21, 4, 42, 180, 0, 3, 180, 0, 30, 182, 0, 34, 162, 0, 26, 29, 42, 21, 4, 28, 16, 10]
abbrev dktX9_mostFrom_1 : List UInt8 := dkwX9_mostFrom_1 ++ dktX9_mostFrom_2
def dkwX9_mostFrom_0 : List UInt8 := [3, 62, 29, 16, 10, 162, 0, 16, 42, 180, 0, 15, 29, 2, 79, 132, 3, 1, 167, 255, 240, 3, 62, 27]
abbrev dktX9_mostFrom_0 : List UInt8 := dkwX9_mostFrom_0 ++ dktX9_mostFrom_1
theorem dksX9_mostFrom_0 : cX9_mostFrom.data.toList.drop 0 = dktX9_mostFrom_0 := by decide +kernel
theorem dksX9_mostFrom_1 : cX9_mostFrom.data.toList.drop 24 = dktX9_mostFrom_1 := dk_seg dksX9_mostFrom_0 24 rfl rfl
theorem dksX9_mostFrom_2 : cX9_mostFrom.data.toList.drop 48 = dktX9_mostFrom_2 := dk_seg dksX9_mostFrom_1 24 rfl rfl
theorem dX9_mostFrom_0 : decode cX9_mostFrom 0 = .ok (.iconst 0, 1) := dk_3 (dk_at dksX9_mostFrom_0 0 rfl rfl)
theorem dX9_mostFrom_1 : decode cX9_mostFrom 1 = .ok (.istore_n 3, 1) := dk_62 (dk_at dksX9_mostFrom_0 1 rfl rfl)
theorem dX9_mostFrom_2 : decode cX9_mostFrom 2 = .ok (.iload_n 3, 1) := dk_29 (dk_at dksX9_mostFrom_0 2 rfl rfl)
theorem dX9_mostFrom_3 : decode cX9_mostFrom 3 = .ok (.bipush 10, 2) := dk_16 10 (dk_at dksX9_mostFrom_0 3 rfl rfl)
theorem dX9_mostFrom_5 : decode cX9_mostFrom 5 = .ok (.if_icmp .ge 16, 3) := dk_162 0 16 (dk_at dksX9_mostFrom_0 5 rfl rfl)
theorem dX9_mostFrom_8 : decode cX9_mostFrom 8 = .ok (.aload_n 0, 1) := dk_42 (dk_at dksX9_mostFrom_0 8 rfl rfl)
theorem dX9_mostFrom_9 : decode cX9_mostFrom 9 = .ok (.getfield 15, 3) := dk_180 0 15 (dk_at dksX9_mostFrom_0 9 rfl rfl)
theorem dX9_mostFrom_12 : decode cX9_mostFrom 12 = .ok (.iload_n 3, 1) := dk_29 (dk_at dksX9_mostFrom_0 12 rfl rfl)
theorem dX9_mostFrom_13 : decode cX9_mostFrom 13 = .ok (.iconst (-1), 1) := dk_2 (dk_at dksX9_mostFrom_0 13 rfl rfl)
theorem dX9_mostFrom_14 : decode cX9_mostFrom 14 = .ok (.iastore, 1) := dk_79 (dk_at dksX9_mostFrom_0 14 rfl rfl)
theorem dX9_mostFrom_15 : decode cX9_mostFrom 15 = .ok (.iinc 3 1, 3) := dk_132 3 1 (dk_at dksX9_mostFrom_0 15 rfl rfl)
theorem dX9_mostFrom_18 : decode cX9_mostFrom 18 = .ok (.goto (-16), 3) := dk_167 255 240 (dk_at dksX9_mostFrom_0 18 rfl rfl)
theorem dX9_mostFrom_21 : decode cX9_mostFrom 21 = .ok (.iconst 0, 1) := dk_3 (dk_at dksX9_mostFrom_0 21 rfl rfl)
theorem dX9_mostFrom_22 : decode cX9_mostFrom 22 = .ok (.istore_n 3, 1) := dk_62 (dk_at dksX9_mostFrom_0 22 rfl rfl)
theorem dX9_mostFrom_23 : decode cX9_mostFrom 23 = .ok (.iload_n 1, 1) := dk_27 (dk_at dksX9_mostFrom_0 23 rfl rfl)
theorem dX9_mostFrom_24 : decode cX9_mostFrom 24 = .ok (.istore 4, 2) := dk_54 4 (dk_at dksX9_mostFrom_1 0 rfl rfl)
theorem dX9_mostFrom_26 : decode cX9_mostFrom 26 = .ok (.iload 4, 2) := dk_21 4 (dk_at dksX9_mostFrom_1 2 rfl rfl)
theorem dX9_mostFrom_28 : decode cX9_mostFrom 28 = .ok (.aload_n 0, 1) := dk_42 (dk_at dksX9_mostFrom_1 4 rfl rfl)
theorem dX9_mostFrom_29 : decode cX9_mostFrom 29 = .ok (.getfield 3, 3) := dk_180 0 3 (dk_at dksX9_mostFrom_1 5 rfl rfl)
theorem dX9_mostFrom_32 : decode cX9_mostFrom 32 = .ok (.getfield 30, 3) := dk_180 0 30 (dk_at dksX9_mostFrom_1 8 rfl rfl)
theorem dX9_mostFrom_35 : decode cX9_mostFrom 35 = .ok (.invokevirtual 34, 3) := dk_182 0 34 (dk_at dksX9_mostFrom_1 11 rfl rfl)
theorem dX9_mostFrom_38 : decode cX9_mostFrom 38 = .ok (.if_icmp .ge 26, 3) := dk_162 0 26 (dk_at dksX9_mostFrom_1 14 rfl rfl)
theorem dX9_mostFrom_41 : decode cX9_mostFrom 41 = .ok (.iload_n 3, 1) := dk_29 (dk_at dksX9_mostFrom_1 17 rfl rfl)
theorem dX9_mostFrom_42 : decode cX9_mostFrom 42 = .ok (.aload_n 0, 1) := dk_42 (dk_at dksX9_mostFrom_1 18 rfl rfl)
theorem dX9_mostFrom_43 : decode cX9_mostFrom 43 = .ok (.iload 4, 2) := dk_21 4 (dk_at dksX9_mostFrom_1 19 rfl rfl)
theorem dX9_mostFrom_45 : decode cX9_mostFrom 45 = .ok (.iload_n 2, 1) := dk_28 (dk_at dksX9_mostFrom_1 21 rfl rfl)
theorem dX9_mostFrom_46 : decode cX9_mostFrom 46 = .ok (.bipush 10, 2) := dk_16 10 (dk_at dksX9_mostFrom_1 22 rfl rfl)
theorem dX9_mostFrom_48 : decode cX9_mostFrom 48 = .ok (.newarray .boolean, 2) := dk_188_4 (dk_at dksX9_mostFrom_2 0 rfl rfl)
theorem dX9_mostFrom_50 : decode cX9_mostFrom 50 = .ok (.invokevirtual 61, 3) := dk_182 0 61 (dk_at dksX9_mostFrom_2 2 rfl rfl)
theorem dX9_mostFrom_53 : decode cX9_mostFrom 53 = .ok (.invokestatic 65, 3) := dk_184 0 65 (dk_at dksX9_mostFrom_2 5 rfl rfl)
theorem dX9_mostFrom_56 : decode cX9_mostFrom 56 = .ok (.iadd, 1) := dk_96 (dk_at dksX9_mostFrom_2 8 rfl rfl)
theorem dX9_mostFrom_57 : decode cX9_mostFrom 57 = .ok (.istore_n 3, 1) := dk_62 (dk_at dksX9_mostFrom_2 9 rfl rfl)
theorem dX9_mostFrom_58 : decode cX9_mostFrom 58 = .ok (.iinc 4 1, 3) := dk_132 4 1 (dk_at dksX9_mostFrom_2 10 rfl rfl)
theorem dX9_mostFrom_61 : decode cX9_mostFrom 61 = .ok (.goto (-35), 3) := dk_167 255 221 (dk_at dksX9_mostFrom_2 13 rfl rfl)
theorem dX9_mostFrom_64 : decode cX9_mostFrom 64 = .ok (.iload_n 3, 1) := dk_29 (dk_at dksX9_mostFrom_2 16 rfl rfl)
theorem dX9_mostFrom_65 : decode cX9_mostFrom 65 = .ok (.ireturn, 1) := dk_172 (dk_at dksX9_mostFrom_2 17 rfl rfl)
abbrev cX9_finds : ByteArray := prog_3_method_4_code
def yX9_finds : MethodName := ⟨RX9, "finds", "(II[Z)Z"⟩
def dkwX9_finds_3 : List UInt8 := [154, 0, 6, 167, 0, 13, 42, 180, 0, 15, 21, 4, 27, 79, 4, 172, 132, 4, 1, 167, 255, 173, 3, 172]
abbrev dktX9_finds_3 : List UInt8 := dkwX9_finds_3 ++ []
def dkwX9_finds_2 : List UInt8 := [180, 0, 15, 21, 4, 46, 155, 0, 22, 42, 42, 180, 0, 15, 21, 4, 46, 28, 45, 182, 0, 61]
abbrev dktX9_finds_2 : List UInt8 := dkwX9_finds_2 ++ dktX9_finds_3
def dkwX9_finds_1 : List UInt8 := [154, 0, 61, 42, 27, 21, 4, 28, 182, 0, 43, 154, 0, 6, 167, 0, 47, 45, 21, 4, 4, 84, 42]
abbrev dktX9_finds_1 : List UInt8 := dkwX9_finds_1 ++ dktX9_finds_2
def dkwX9_finds_0 : List UInt8 := [3, 54, 4, 21, 4, 42, 180, 0, 3, 180, 0, 40, 182, 0, 34, 162, 0, 74, 45, 21, 4, 51]
abbrev dktX9_finds_0 : List UInt8 := dkwX9_finds_0 ++ dktX9_finds_1
theorem dksX9_finds_0 : cX9_finds.data.toList.drop 0 = dktX9_finds_0 := by decide +kernel
theorem dksX9_finds_1 : cX9_finds.data.toList.drop 22 = dktX9_finds_1 := dk_seg dksX9_finds_0 22 rfl rfl
theorem dksX9_finds_2 : cX9_finds.data.toList.drop 45 = dktX9_finds_2 := dk_seg dksX9_finds_1 23 rfl rfl
theorem dksX9_finds_3 : cX9_finds.data.toList.drop 67 = dktX9_finds_3 := dk_seg dksX9_finds_2 22 rfl rfl
theorem dX9_finds_0 : decode cX9_finds 0 = .ok (.iconst 0, 1) := dk_3 (dk_at dksX9_finds_0 0 rfl rfl)
theorem dX9_finds_1 : decode cX9_finds 1 = .ok (.istore 4, 2) := dk_54 4 (dk_at dksX9_finds_0 1 rfl rfl)
theorem dX9_finds_3 : decode cX9_finds 3 = .ok (.iload 4, 2) := dk_21 4 (dk_at dksX9_finds_0 3 rfl rfl)
theorem dX9_finds_5 : decode cX9_finds 5 = .ok (.aload_n 0, 1) := dk_42 (dk_at dksX9_finds_0 5 rfl rfl)
theorem dX9_finds_6 : decode cX9_finds 6 = .ok (.getfield 3, 3) := dk_180 0 3 (dk_at dksX9_finds_0 6 rfl rfl)
theorem dX9_finds_9 : decode cX9_finds 9 = .ok (.getfield 40, 3) := dk_180 0 40 (dk_at dksX9_finds_0 9 rfl rfl)
theorem dX9_finds_12 : decode cX9_finds 12 = .ok (.invokevirtual 34, 3) := dk_182 0 34 (dk_at dksX9_finds_0 12 rfl rfl)
theorem dX9_finds_15 : decode cX9_finds 15 = .ok (.if_icmp .ge 74, 3) := dk_162 0 74 (dk_at dksX9_finds_0 15 rfl rfl)
theorem dX9_finds_18 : decode cX9_finds 18 = .ok (.aload_n 3, 1) := dk_45 (dk_at dksX9_finds_0 18 rfl rfl)
theorem dX9_finds_19 : decode cX9_finds 19 = .ok (.iload 4, 2) := dk_21 4 (dk_at dksX9_finds_0 19 rfl rfl)
theorem dX9_finds_21 : decode cX9_finds 21 = .ok (.baload, 1) := dk_51 (dk_at dksX9_finds_0 21 rfl rfl)
theorem dX9_finds_22 : decode cX9_finds 22 = .ok (.ifCond .ne 61, 3) := dk_154 0 61 (dk_at dksX9_finds_1 0 rfl rfl)
theorem dX9_finds_25 : decode cX9_finds 25 = .ok (.aload_n 0, 1) := dk_42 (dk_at dksX9_finds_1 3 rfl rfl)
theorem dX9_finds_26 : decode cX9_finds 26 = .ok (.iload_n 1, 1) := dk_27 (dk_at dksX9_finds_1 4 rfl rfl)
theorem dX9_finds_27 : decode cX9_finds 27 = .ok (.iload 4, 2) := dk_21 4 (dk_at dksX9_finds_1 5 rfl rfl)
theorem dX9_finds_29 : decode cX9_finds 29 = .ok (.iload_n 2, 1) := dk_28 (dk_at dksX9_finds_1 7 rfl rfl)
theorem dX9_finds_30 : decode cX9_finds 30 = .ok (.invokevirtual 43, 3) := dk_182 0 43 (dk_at dksX9_finds_1 8 rfl rfl)
theorem dX9_finds_33 : decode cX9_finds 33 = .ok (.ifCond .ne 6, 3) := dk_154 0 6 (dk_at dksX9_finds_1 11 rfl rfl)
theorem dX9_finds_36 : decode cX9_finds 36 = .ok (.goto 47, 3) := dk_167 0 47 (dk_at dksX9_finds_1 14 rfl rfl)
theorem dX9_finds_39 : decode cX9_finds 39 = .ok (.aload_n 3, 1) := dk_45 (dk_at dksX9_finds_1 17 rfl rfl)
theorem dX9_finds_40 : decode cX9_finds 40 = .ok (.iload 4, 2) := dk_21 4 (dk_at dksX9_finds_1 18 rfl rfl)
theorem dX9_finds_42 : decode cX9_finds 42 = .ok (.iconst 1, 1) := dk_4 (dk_at dksX9_finds_1 20 rfl rfl)
theorem dX9_finds_43 : decode cX9_finds 43 = .ok (.bastore, 1) := dk_84 (dk_at dksX9_finds_1 21 rfl rfl)
theorem dX9_finds_44 : decode cX9_finds 44 = .ok (.aload_n 0, 1) := dk_42 (dk_at dksX9_finds_1 22 rfl rfl)
theorem dX9_finds_45 : decode cX9_finds 45 = .ok (.getfield 15, 3) := dk_180 0 15 (dk_at dksX9_finds_2 0 rfl rfl)
theorem dX9_finds_48 : decode cX9_finds 48 = .ok (.iload 4, 2) := dk_21 4 (dk_at dksX9_finds_2 3 rfl rfl)
theorem dX9_finds_50 : decode cX9_finds 50 = .ok (.iaload, 1) := dk_46 (dk_at dksX9_finds_2 5 rfl rfl)
theorem dX9_finds_51 : decode cX9_finds 51 = .ok (.ifCond .lt 22, 3) := dk_155 0 22 (dk_at dksX9_finds_2 6 rfl rfl)
theorem dX9_finds_54 : decode cX9_finds 54 = .ok (.aload_n 0, 1) := dk_42 (dk_at dksX9_finds_2 9 rfl rfl)
theorem dX9_finds_55 : decode cX9_finds 55 = .ok (.aload_n 0, 1) := dk_42 (dk_at dksX9_finds_2 10 rfl rfl)
theorem dX9_finds_56 : decode cX9_finds 56 = .ok (.getfield 15, 3) := dk_180 0 15 (dk_at dksX9_finds_2 11 rfl rfl)
theorem dX9_finds_59 : decode cX9_finds 59 = .ok (.iload 4, 2) := dk_21 4 (dk_at dksX9_finds_2 14 rfl rfl)
theorem dX9_finds_61 : decode cX9_finds 61 = .ok (.iaload, 1) := dk_46 (dk_at dksX9_finds_2 16 rfl rfl)
theorem dX9_finds_62 : decode cX9_finds 62 = .ok (.iload_n 2, 1) := dk_28 (dk_at dksX9_finds_2 17 rfl rfl)
theorem dX9_finds_63 : decode cX9_finds 63 = .ok (.aload_n 3, 1) := dk_45 (dk_at dksX9_finds_2 18 rfl rfl)
theorem dX9_finds_64 : decode cX9_finds 64 = .ok (.invokevirtual 61, 3) := dk_182 0 61 (dk_at dksX9_finds_2 19 rfl rfl)
theorem dX9_finds_67 : decode cX9_finds 67 = .ok (.ifCond .ne 6, 3) := dk_154 0 6 (dk_at dksX9_finds_3 0 rfl rfl)
theorem dX9_finds_70 : decode cX9_finds 70 = .ok (.goto 13, 3) := dk_167 0 13 (dk_at dksX9_finds_3 3 rfl rfl)
theorem dX9_finds_73 : decode cX9_finds 73 = .ok (.aload_n 0, 1) := dk_42 (dk_at dksX9_finds_3 6 rfl rfl)
theorem dX9_finds_74 : decode cX9_finds 74 = .ok (.getfield 15, 3) := dk_180 0 15 (dk_at dksX9_finds_3 7 rfl rfl)
theorem dX9_finds_77 : decode cX9_finds 77 = .ok (.iload 4, 2) := dk_21 4 (dk_at dksX9_finds_3 10 rfl rfl)
theorem dX9_finds_79 : decode cX9_finds 79 = .ok (.iload_n 1, 1) := dk_27 (dk_at dksX9_finds_3 12 rfl rfl)
theorem dX9_finds_80 : decode cX9_finds 80 = .ok (.iastore, 1) := dk_79 (dk_at dksX9_finds_3 13 rfl rfl)
theorem dX9_finds_81 : decode cX9_finds 81 = .ok (.iconst 1, 1) := dk_4 (dk_at dksX9_finds_3 14 rfl rfl)
theorem dX9_finds_82 : decode cX9_finds 82 = .ok (.ireturn, 1) := dk_172 (dk_at dksX9_finds_3 15 rfl rfl)
theorem dX9_finds_83 : decode cX9_finds 83 = .ok (.iinc 4 1, 3) := dk_132 4 1 (dk_at dksX9_finds_3 16 rfl rfl)
theorem dX9_finds_86 : decode cX9_finds 86 = .ok (.goto (-83), 3) := dk_167 255 173 (dk_at dksX9_finds_3 19 rfl rfl)
theorem dX9_finds_89 : decode cX9_finds 89 = .ok (.iconst 0, 1) := dk_3 (dk_at dksX9_finds_3 22 rfl rfl)
theorem dX9_finds_90 : decode cX9_finds 90 = .ok (.ireturn, 1) := dk_172 (dk_at dksX9_finds_3 23 rfl rfl)
abbrev cX9_isGood : ByteArray := prog_3_method_2_code
def yX9_isGood : MethodName := ⟨RX9, "isGood", "(III)Z"⟩
def dkwX9_isGood_1 : List UInt8 := [180, 0, 3, 180, 0, 47, 27, 28, 182, 0, 57, 153, 0, 7, 4, 167, 0, 4, 3, 172]
abbrev dktX9_isGood_1 : List UInt8 := dkwX9_isGood_1 ++ []
def dkwX9_isGood_0 : List UInt8 := [29, 28, 122, 4, 126, 154, 0, 36, 42, 180, 0, 3, 180, 0, 47, 28, 182, 0, 51, 153, 0, 22, 42]
abbrev dktX9_isGood_0 : List UInt8 := dkwX9_isGood_0 ++ dktX9_isGood_1
theorem dksX9_isGood_0 : cX9_isGood.data.toList.drop 0 = dktX9_isGood_0 := by decide +kernel
theorem dksX9_isGood_1 : cX9_isGood.data.toList.drop 23 = dktX9_isGood_1 := dk_seg dksX9_isGood_0 23 rfl rfl
theorem dX9_isGood_0 : decode cX9_isGood 0 = .ok (.iload_n 3, 1) := dk_29 (dk_at dksX9_isGood_0 0 rfl rfl)
theorem dX9_isGood_1 : decode cX9_isGood 1 = .ok (.iload_n 2, 1) := dk_28 (dk_at dksX9_isGood_0 1 rfl rfl)
theorem dX9_isGood_2 : decode cX9_isGood 2 = .ok (.ishr, 1) := dk_122 (dk_at dksX9_isGood_0 2 rfl rfl)
theorem dX9_isGood_3 : decode cX9_isGood 3 = .ok (.iconst 1, 1) := dk_4 (dk_at dksX9_isGood_0 3 rfl rfl)
theorem dX9_isGood_4 : decode cX9_isGood 4 = .ok (.iand, 1) := dk_126 (dk_at dksX9_isGood_0 4 rfl rfl)
theorem dX9_isGood_5 : decode cX9_isGood 5 = .ok (.ifCond .ne 36, 3) := dk_154 0 36 (dk_at dksX9_isGood_0 5 rfl rfl)
theorem dX9_isGood_8 : decode cX9_isGood 8 = .ok (.aload_n 0, 1) := dk_42 (dk_at dksX9_isGood_0 8 rfl rfl)
theorem dX9_isGood_9 : decode cX9_isGood 9 = .ok (.getfield 3, 3) := dk_180 0 3 (dk_at dksX9_isGood_0 9 rfl rfl)
theorem dX9_isGood_12 : decode cX9_isGood 12 = .ok (.getfield 47, 3) := dk_180 0 47 (dk_at dksX9_isGood_0 12 rfl rfl)
theorem dX9_isGood_15 : decode cX9_isGood 15 = .ok (.iload_n 2, 1) := dk_28 (dk_at dksX9_isGood_0 15 rfl rfl)
theorem dX9_isGood_16 : decode cX9_isGood 16 = .ok (.invokevirtual 51, 3) := dk_182 0 51 (dk_at dksX9_isGood_0 16 rfl rfl)
theorem dX9_isGood_19 : decode cX9_isGood 19 = .ok (.ifCond .eq 22, 3) := dk_153 0 22 (dk_at dksX9_isGood_0 19 rfl rfl)
theorem dX9_isGood_22 : decode cX9_isGood 22 = .ok (.aload_n 0, 1) := dk_42 (dk_at dksX9_isGood_0 22 rfl rfl)
theorem dX9_isGood_23 : decode cX9_isGood 23 = .ok (.getfield 3, 3) := dk_180 0 3 (dk_at dksX9_isGood_1 0 rfl rfl)
theorem dX9_isGood_26 : decode cX9_isGood 26 = .ok (.getfield 47, 3) := dk_180 0 47 (dk_at dksX9_isGood_1 3 rfl rfl)
theorem dX9_isGood_29 : decode cX9_isGood 29 = .ok (.iload_n 1, 1) := dk_27 (dk_at dksX9_isGood_1 6 rfl rfl)
theorem dX9_isGood_30 : decode cX9_isGood 30 = .ok (.iload_n 2, 1) := dk_28 (dk_at dksX9_isGood_1 7 rfl rfl)
theorem dX9_isGood_31 : decode cX9_isGood 31 = .ok (.invokevirtual 57, 3) := dk_182 0 57 (dk_at dksX9_isGood_1 8 rfl rfl)
theorem dX9_isGood_34 : decode cX9_isGood 34 = .ok (.ifCond .eq 7, 3) := dk_153 0 7 (dk_at dksX9_isGood_1 11 rfl rfl)
theorem dX9_isGood_37 : decode cX9_isGood 37 = .ok (.iconst 1, 1) := dk_4 (dk_at dksX9_isGood_1 14 rfl rfl)
theorem dX9_isGood_38 : decode cX9_isGood 38 = .ok (.goto 4, 3) := dk_167 0 4 (dk_at dksX9_isGood_1 15 rfl rfl)
theorem dX9_isGood_41 : decode cX9_isGood 41 = .ok (.iconst 0, 1) := dk_3 (dk_at dksX9_isGood_1 18 rfl rfl)
theorem dX9_isGood_42 : decode cX9_isGood 42 = .ok (.ireturn, 1) := dk_172 (dk_at dksX9_isGood_1 19 rfl rfl)
theorem q203 : (Jvm.Cond.initialized "HomesQueue$Giving") ∈ lw_all := lw_g (lw_at lw_m1 30 rfl) rfl
theorem q583 : (Jvm.Cond.fieldLinkNest "HomesQueue$Giving" (40 : Nat) "HomesQueue" "homes" "Ljava/util/ArrayList;" "HomesQueue") ∈ lw_tbl := lw_at lw_m2 170 rfl
theorem q587 : (Jvm.Cond.fieldLinkNest "HomesQueue$Giving" (30 : Nat) "HomesQueue" "houses" "Ljava/util/ArrayList;" "HomesQueue") ∈ lw_tbl := lw_at lw_m2 174 rfl
theorem q593 : (Jvm.Cond.fieldLinkNest "HomesQueue$Giving" (47 : Nat) "HomesQueue" "now" "LHomesQueue$Register;" "HomesQueue") ∈ lw_tbl := lw_at lw_m2 180 rfl
theorem q1104 : (Jvm.Cond.selects "HomesQueue$Giving" ({ cls := "java/lang/Object", name := "getClass", desc := "()Ljava/lang/Class;" } : Jvm.MethodName) ({ cls := "java/lang/Object", name := "getClass", desc := "()Ljava/lang/Class;" } : Jvm.MethodName)) ∈ lw_all := lw_g (lw_at lw_m4 211 rfl) rfl
theorem q1633 : (Jvm.Cond.instantiable "HomesQueue$Giving" (4 : Nat)) ∈ lw_all := lw_g (lw_at lw_m7 20 rfl) rfl
theorem q1635 : (Jvm.Cond.instanceMethod ({ cls := "HomesQueue$Giving", name := "<init>", desc := "(LHomesQueue;)V" } : Jvm.MethodName)) ∈ lw_all := lw_g (lw_at lw_m7 22 rfl) rfl
theorem q1636 : (Jvm.Cond.code ({ cls := "HomesQueue$Giving", name := "<init>", desc := "(LHomesQueue;)V" } : Jvm.MethodName) prog_3_method_1_code (6 : Nat) (Option.none : Option Jvm.ClassFile.FieldType)) ∈ lw_all := lw_g (lw_at lw_m7 23 rfl) rfl
theorem q1637 : (Jvm.Cond.methodLink "HomesQueue$Giving" (9 : Nat) ({ cls := "java/lang/Object", name := "<init>", desc := "()V" } : Jvm.MethodName)) ∈ lw_all := lw_g (lw_at lw_m7 24 rfl) rfl
theorem q1638 : (Jvm.Cond.methodLink "HomesQueue$Giving" (22 : Nat) ({ cls := "HomesQueue$Giving", name := "mostFrom", desc := "(II)I" } : Jvm.MethodName)) ∈ lw_all := lw_g (lw_at lw_m7 25 rfl) rfl
theorem q1639 : (Jvm.Cond.privateMethod ({ cls := "HomesQueue$Giving", name := "mostFrom", desc := "(II)I" } : Jvm.MethodName)) ∈ lw_tbl := lw_at lw_m7 26 rfl
theorem q1640 : (Jvm.Cond.instanceMethod ({ cls := "HomesQueue$Giving", name := "mostFrom", desc := "(II)I" } : Jvm.MethodName)) ∈ lw_all := lw_g (lw_at lw_m7 27 rfl) rfl
theorem q1641 : (Jvm.Cond.code ({ cls := "HomesQueue$Giving", name := "mostFrom", desc := "(II)I" } : Jvm.MethodName) prog_3_method_3_code (5 : Nat) (Option.some Jvm.ClassFile.FieldType.int)) ∈ lw_all := lw_g (lw_at lw_m7 28 rfl) rfl
theorem q1642 : (Jvm.Cond.methodLink "HomesQueue$Giving" (34 : Nat) ({ cls := "java/util/ArrayList", name := "size", desc := "()I" } : Jvm.MethodName)) ∈ lw_all := lw_g (lw_at lw_m7 29 rfl) rfl
theorem q1643 : (Jvm.Cond.methodLink "HomesQueue$Giving" (61 : Nat) ({ cls := "HomesQueue$Giving", name := "finds", desc := "(II[Z)Z" } : Jvm.MethodName)) ∈ lw_all := lw_g (lw_at lw_m7 30 rfl) rfl
theorem q1644 : (Jvm.Cond.privateMethod ({ cls := "HomesQueue$Giving", name := "finds", desc := "(II[Z)Z" } : Jvm.MethodName)) ∈ lw_tbl := lw_at lw_m7 31 rfl
theorem q1645 : (Jvm.Cond.instanceMethod ({ cls := "HomesQueue$Giving", name := "finds", desc := "(II[Z)Z" } : Jvm.MethodName)) ∈ lw_all := lw_g (lw_at lw_m7 32 rfl) rfl
theorem q1646 : (Jvm.Cond.code ({ cls := "HomesQueue$Giving", name := "finds", desc := "(II[Z)Z" } : Jvm.MethodName) prog_3_method_4_code (5 : Nat) (Option.some Jvm.ClassFile.FieldType.boolean)) ∈ lw_all := lw_g (lw_at lw_m7 33 rfl) rfl
theorem q1647 : (Jvm.Cond.methodLink "HomesQueue$Giving" (43 : Nat) ({ cls := "HomesQueue$Giving", name := "isGood", desc := "(III)Z" } : Jvm.MethodName)) ∈ lw_all := lw_g (lw_at lw_m7 34 rfl) rfl
theorem q1648 : (Jvm.Cond.privateMethod ({ cls := "HomesQueue$Giving", name := "isGood", desc := "(III)Z" } : Jvm.MethodName)) ∈ lw_tbl := lw_at lw_m7 35 rfl
theorem q1649 : (Jvm.Cond.instanceMethod ({ cls := "HomesQueue$Giving", name := "isGood", desc := "(III)Z" } : Jvm.MethodName)) ∈ lw_all := lw_g (lw_at lw_m7 36 rfl) rfl
theorem q1650 : (Jvm.Cond.code ({ cls := "HomesQueue$Giving", name := "isGood", desc := "(III)Z" } : Jvm.MethodName) prog_3_method_2_code (4 : Nat) (Option.some Jvm.ClassFile.FieldType.boolean)) ∈ lw_all := lw_g (lw_at lw_m7 37 rfl) rfl
theorem q1651 : (Jvm.Cond.methodLink "HomesQueue$Giving" (51 : Nat) ({ cls := "HomesQueue$Register", name := "isFree", desc := "(I)Z" } : Jvm.MethodName)) ∈ lw_all := lw_g (lw_at lw_m7 38 rfl) rfl
theorem q1652 : (Jvm.Cond.methodLink "HomesQueue$Giving" (57 : Nat) ({ cls := "HomesQueue$Register", name := "couldHave", desc := "(II)Z" } : Jvm.MethodName)) ∈ lw_all := lw_g (lw_at lw_m7 39 rfl) rfl
theorem q1653 : (Jvm.Cond.methodLinkNest "HomesQueue$Giving" (65 : Nat) ({ cls := "HomesQueue", name := "one", desc := "(Z)I" } : Jvm.MethodName) "HomesQueue") ∈ lw_tbl := lw_at lw_m7 40 rfl
theorem q1654 : (Jvm.Cond.fieldLink "HomesQueue$Giving" (15 : Nat) "HomesQueue$Giving" "givenTo" "[I") ∈ lw_all := lw_g (lw_at lw_m7 41 rfl) rfl
theorem q1655 : (Jvm.Cond.fieldLink "HomesQueue$Giving" (19 : Nat) "HomesQueue$Giving" "gift" "[I") ∈ lw_all := lw_g (lw_at lw_m7 42 rfl) rfl
theorem q1657 : (Jvm.Cond.fieldLink "HomesQueue$Giving" (26 : Nat) "HomesQueue$Giving" "most" "I") ∈ lw_all := lw_g (lw_at lw_m7 44 rfl) rfl
theorem q1659 : (Jvm.Cond.fieldLink "HomesQueue$Giving" (3 : Nat) "HomesQueue$Giving" "this$0" "LHomesQueue;") ∈ lw_all := lw_g (lw_at lw_m7 46 rfl) rfl
theorem q1660 : (Jvm.Cond.laysFinal "HomesQueue$Giving" "HomesQueue$Giving" "givenTo" "[I") ∈ lw_all := lw_g (lw_at lw_m7 47 rfl) rfl
theorem q1661 : (Jvm.Cond.soleField "HomesQueue$Giving" "givenTo") ∈ lw_all := lw_g (lw_at lw_m7 48 rfl) rfl
theorem q1662 : (Jvm.Cond.laysFinal "HomesQueue$Giving" "HomesQueue$Giving" "gift" "[I") ∈ lw_all := lw_g (lw_at lw_m7 49 rfl) rfl
theorem q1663 : (Jvm.Cond.soleField "HomesQueue$Giving" "gift") ∈ lw_all := lw_g (lw_at lw_m7 50 rfl) rfl
theorem q1664 : (Jvm.Cond.lays "HomesQueue$Giving" "HomesQueue$Giving" "most" "I") ∈ lw_all := lw_g (lw_at lw_m7 51 rfl) rfl
theorem q1665 : (Jvm.Cond.soleField "HomesQueue$Giving" "most") ∈ lw_all := lw_g (lw_at lw_m7 52 rfl) rfl
theorem q1666 : (Jvm.Cond.laysFinal "HomesQueue$Giving" "HomesQueue$Giving" "this$0" "LHomesQueue;") ∈ lw_all := lw_g (lw_at lw_m7 53 rfl) rfl
theorem q1667 : (Jvm.Cond.soleField "HomesQueue$Giving" "this$0") ∈ lw_all := lw_g (lw_at lw_m7 54 rfl) rfl
theorem q1668 : (Jvm.Cond.superclass "HomesQueue$Giving" "java/lang/Object") ∈ lw_all := lw_g (lw_at lw_m7 55 rfl) rfl
theorem q2676 : (Jvm.Cond.castable "HomesQueue$Giving" "java/lang/Object") ∈ lw_tbl := lw_at lw_m11 103 rfl
theorem in_X9 : ∀ w ∈ wsX90, w ∈ lw_all := lw_in wsX90 [1660, 1662, 1664, 1666] (by decide +kernel) (by decide +kernel)

/-! HomesQueue$Trading -/
set_option maxRecDepth 100000
def RX10 : String := "HomesQueue$Trading"
def TX10 : u_T := fun k => match k with
  | 0 => ("HomesQueue$Trading", "gets", "[I", true)
  | 1 => ("HomesQueue$Trading", "circles", "I", false)
  | 2 => ("HomesQueue$Trading", "largest", "I", false)
  | _ => ("HomesQueue$Trading", "this$0", "LHomesQueue;", true)
def tyX10 : Nat → FieldType := fun k => match k with
  | 0 => .array .int
  | 1 => .int
  | 2 => .int
  | _ => .object "HomesQueue"
abbrev wsX100 : List Cond := u_ws RX10 TX10 4
theorem nmX10 : ∀ a, a < 4 → ∀ b, b < 4 → a ≠ b → (TX10 a).2.1 ≠ (TX10 b).2.1 := by decide +kernel
theorem tyX10_ok : ∀ k, k < 4 → parseFieldDescriptor (TX10 k).2.2.1 = some (tyX10 k) := by decide +kernel
abbrev cX10_init : ByteArray := prog_12_method_1_code
def yX10_init : MethodName := ⟨RX10, "<init>", "(LHomesQueue;)V"⟩
def dkwX10_init_4 : List UInt8 := [184, 0, 42, 28, 182, 0, 48, 2, 130, 126, 61, 167, 255, 238, 177]
abbrev dktX10_init_4 : List UInt8 := dkwX10_init_4 ++ []
def dkwX10_init_3 : List UInt8 := [167, 0, 4, 3, 184, 0, 38, 29, 120, 128, 61, 132, 3, 1, 167, 255, 217, 28, 158, 0, 20, 28, 42, 28]
abbrev dktX10_init_3 : List UInt8 := dkwX10_init_3 ++ dktX10_init_4
def dkwX10_init_2 : List UInt8 := [180, 0, 19, 182, 0, 23, 162, 0, 34, 28, 43, 180, 0, 29, 180, 0, 33, 29, 46, 155, 0, 7, 4]
abbrev dktX10_init_2 : List UInt8 := dkwX10_init_2 ++ dktX10_init_3
def dkwX10_init_1 : List UInt8 := [162, 0, 16, 42, 180, 0, 15, 28, 2, 79, 132, 2, 1, 167, 255, 240, 3, 61, 3, 62, 29, 43]
abbrev dktX10_init_1 : List UInt8 := dkwX10_init_1 ++ dktX10_init_2
def dkwX10_init_0 : List UInt8 := [42, 43, 181, 0, 3, 42, 183, 0, 9, 42, 16, 8, 188, 10, 181, 0, 15, 3, 61, 28, 16, 8]
abbrev dktX10_init_0 : List UInt8 := dkwX10_init_0 ++ dktX10_init_1
theorem dksX10_init_0 : cX10_init.data.toList.drop 0 = dktX10_init_0 := by decide +kernel
theorem dksX10_init_1 : cX10_init.data.toList.drop 22 = dktX10_init_1 := dk_seg dksX10_init_0 22 rfl rfl
theorem dksX10_init_2 : cX10_init.data.toList.drop 44 = dktX10_init_2 := dk_seg dksX10_init_1 22 rfl rfl
theorem dksX10_init_3 : cX10_init.data.toList.drop 67 = dktX10_init_3 := dk_seg dksX10_init_2 23 rfl rfl
theorem dksX10_init_4 : cX10_init.data.toList.drop 91 = dktX10_init_4 := dk_seg dksX10_init_3 24 rfl rfl
theorem dX10_init_0 : decode cX10_init 0 = .ok (.aload_n 0, 1) := dk_42 (dk_at dksX10_init_0 0 rfl rfl)
theorem dX10_init_1 : decode cX10_init 1 = .ok (.aload_n 1, 1) := dk_43 (dk_at dksX10_init_0 1 rfl rfl)
theorem dX10_init_2 : decode cX10_init 2 = .ok (.putfield 3, 3) := dk_181 0 3 (dk_at dksX10_init_0 2 rfl rfl)
theorem dX10_init_5 : decode cX10_init 5 = .ok (.aload_n 0, 1) := dk_42 (dk_at dksX10_init_0 5 rfl rfl)
theorem dX10_init_6 : decode cX10_init 6 = .ok (.invokespecial 9, 3) := dk_183 0 9 (dk_at dksX10_init_0 6 rfl rfl)
theorem dX10_init_9 : decode cX10_init 9 = .ok (.aload_n 0, 1) := dk_42 (dk_at dksX10_init_0 9 rfl rfl)
theorem dX10_init_10 : decode cX10_init 10 = .ok (.bipush 8, 2) := dk_16 8 (dk_at dksX10_init_0 10 rfl rfl)
theorem dX10_init_12 : decode cX10_init 12 = .ok (.newarray .int, 2) := dk_188_10 (dk_at dksX10_init_0 12 rfl rfl)
theorem dX10_init_14 : decode cX10_init 14 = .ok (.putfield 15, 3) := dk_181 0 15 (dk_at dksX10_init_0 14 rfl rfl)
theorem dX10_init_17 : decode cX10_init 17 = .ok (.iconst 0, 1) := dk_3 (dk_at dksX10_init_0 17 rfl rfl)
theorem dX10_init_18 : decode cX10_init 18 = .ok (.istore_n 2, 1) := dk_61 (dk_at dksX10_init_0 18 rfl rfl)
theorem dX10_init_19 : decode cX10_init 19 = .ok (.iload_n 2, 1) := dk_28 (dk_at dksX10_init_0 19 rfl rfl)
theorem dX10_init_20 : decode cX10_init 20 = .ok (.bipush 8, 2) := dk_16 8 (dk_at dksX10_init_0 20 rfl rfl)
theorem dX10_init_22 : decode cX10_init 22 = .ok (.if_icmp .ge 16, 3) := dk_162 0 16 (dk_at dksX10_init_1 0 rfl rfl)
theorem dX10_init_25 : decode cX10_init 25 = .ok (.aload_n 0, 1) := dk_42 (dk_at dksX10_init_1 3 rfl rfl)
theorem dX10_init_26 : decode cX10_init 26 = .ok (.getfield 15, 3) := dk_180 0 15 (dk_at dksX10_init_1 4 rfl rfl)
theorem dX10_init_29 : decode cX10_init 29 = .ok (.iload_n 2, 1) := dk_28 (dk_at dksX10_init_1 7 rfl rfl)
theorem dX10_init_30 : decode cX10_init 30 = .ok (.iconst (-1), 1) := dk_2 (dk_at dksX10_init_1 8 rfl rfl)
theorem dX10_init_31 : decode cX10_init 31 = .ok (.iastore, 1) := dk_79 (dk_at dksX10_init_1 9 rfl rfl)
theorem dX10_init_32 : decode cX10_init 32 = .ok (.iinc 2 1, 3) := dk_132 2 1 (dk_at dksX10_init_1 10 rfl rfl)
theorem dX10_init_35 : decode cX10_init 35 = .ok (.goto (-16), 3) := dk_167 255 240 (dk_at dksX10_init_1 13 rfl rfl)
theorem dX10_init_38 : decode cX10_init 38 = .ok (.iconst 0, 1) := dk_3 (dk_at dksX10_init_1 16 rfl rfl)
theorem dX10_init_39 : decode cX10_init 39 = .ok (.istore_n 2, 1) := dk_61 (dk_at dksX10_init_1 17 rfl rfl)
theorem dX10_init_40 : decode cX10_init 40 = .ok (.iconst 0, 1) := dk_3 (dk_at dksX10_init_1 18 rfl rfl)
theorem dX10_init_41 : decode cX10_init 41 = .ok (.istore_n 3, 1) := dk_62 (dk_at dksX10_init_1 19 rfl rfl)
theorem dX10_init_42 : decode cX10_init 42 = .ok (.iload_n 3, 1) := dk_29 (dk_at dksX10_init_1 20 rfl rfl)
theorem dX10_init_43 : decode cX10_init 43 = .ok (.aload_n 1, 1) := dk_43 (dk_at dksX10_init_1 21 rfl rfl)
theorem dX10_init_44 : decode cX10_init 44 = .ok (.getfield 19, 3) := dk_180 0 19 (dk_at dksX10_init_2 0 rfl rfl)
theorem dX10_init_47 : decode cX10_init 47 = .ok (.invokevirtual 23, 3) := dk_182 0 23 (dk_at dksX10_init_2 3 rfl rfl)
theorem dX10_init_50 : decode cX10_init 50 = .ok (.if_icmp .ge 34, 3) := dk_162 0 34 (dk_at dksX10_init_2 6 rfl rfl)
theorem dX10_init_53 : decode cX10_init 53 = .ok (.iload_n 2, 1) := dk_28 (dk_at dksX10_init_2 9 rfl rfl)
theorem dX10_init_54 : decode cX10_init 54 = .ok (.aload_n 1, 1) := dk_43 (dk_at dksX10_init_2 10 rfl rfl)
theorem dX10_init_55 : decode cX10_init 55 = .ok (.getfield 29, 3) := dk_180 0 29 (dk_at dksX10_init_2 11 rfl rfl)
theorem dX10_init_58 : decode cX10_init 58 = .ok (.getfield 33, 3) := dk_180 0 33 (dk_at dksX10_init_2 14 rfl rfl)
theorem dX10_init_61 : decode cX10_init 61 = .ok (.iload_n 3, 1) := dk_29 (dk_at dksX10_init_2 17 rfl rfl)
theorem dX10_init_62 : decode cX10_init 62 = .ok (.iaload, 1) := dk_46 (dk_at dksX10_init_2 18 rfl rfl)
theorem dX10_init_63 : decode cX10_init 63 = .ok (.ifCond .lt 7, 3) := dk_155 0 7 (dk_at dksX10_init_2 19 rfl rfl)
theorem dX10_init_66 : decode cX10_init 66 = .ok (.iconst 1, 1) := dk_4 (dk_at dksX10_init_2 22 rfl rfl)
theorem dX10_init_67 : decode cX10_init 67 = .ok (.goto 4, 3) := dk_167 0 4 (dk_at dksX10_init_3 0 rfl rfl)
theorem dX10_init_70 : decode cX10_init 70 = .ok (.iconst 0, 1) := dk_3 (dk_at dksX10_init_3 3 rfl rfl)
theorem dX10_init_71 : decode cX10_init 71 = .ok (.invokestatic 38, 3) := dk_184 0 38 (dk_at dksX10_init_3 4 rfl rfl)
theorem dX10_init_74 : decode cX10_init 74 = .ok (.iload_n 3, 1) := dk_29 (dk_at dksX10_init_3 7 rfl rfl)
theorem dX10_init_75 : decode cX10_init 75 = .ok (.ishl, 1) := dk_120 (dk_at dksX10_init_3 8 rfl rfl)
theorem dX10_init_76 : decode cX10_init 76 = .ok (.ior, 1) := dk_128 (dk_at dksX10_init_3 9 rfl rfl)
theorem dX10_init_77 : decode cX10_init 77 = .ok (.istore_n 2, 1) := dk_61 (dk_at dksX10_init_3 10 rfl rfl)
theorem dX10_init_78 : decode cX10_init 78 = .ok (.iinc 3 1, 3) := dk_132 3 1 (dk_at dksX10_init_3 11 rfl rfl)
theorem dX10_init_81 : decode cX10_init 81 = .ok (.goto (-39), 3) := dk_167 255 217 (dk_at dksX10_init_3 14 rfl rfl)
theorem dX10_init_84 : decode cX10_init 84 = .ok (.iload_n 2, 1) := dk_28 (dk_at dksX10_init_3 17 rfl rfl)
theorem dX10_init_85 : decode cX10_init 85 = .ok (.ifCond .le 20, 3) := dk_158 0 20 (dk_at dksX10_init_3 18 rfl rfl)
theorem dX10_init_88 : decode cX10_init 88 = .ok (.iload_n 2, 1) := dk_28 (dk_at dksX10_init_3 21 rfl rfl)
theorem dX10_init_89 : decode cX10_init 89 = .ok (.aload_n 0, 1) := dk_42 (dk_at dksX10_init_3 22 rfl rfl)
theorem dX10_init_90 : decode cX10_init 90 = .ok (.iload_n 2, 1) := dk_28 (dk_at dksX10_init_3 23 rfl rfl)
theorem dX10_init_91 : decode cX10_init 91 = .ok (.invokestatic 42, 3) := dk_184 0 42 (dk_at dksX10_init_4 0 rfl rfl)
theorem dX10_init_94 : decode cX10_init 94 = .ok (.iload_n 2, 1) := dk_28 (dk_at dksX10_init_4 3 rfl rfl)
theorem dX10_init_95 : decode cX10_init 95 = .ok (.invokevirtual 48, 3) := dk_182 0 48 (dk_at dksX10_init_4 4 rfl rfl)
theorem dX10_init_98 : decode cX10_init 98 = .ok (.iconst (-1), 1) := dk_2 (dk_at dksX10_init_4 7 rfl rfl)
theorem dX10_init_99 : decode cX10_init 99 = .ok (.ixor, 1) := dk_130 (dk_at dksX10_init_4 8 rfl rfl)
theorem dX10_init_100 : decode cX10_init 100 = .ok (.iand, 1) := dk_126 (dk_at dksX10_init_4 9 rfl rfl)
theorem dX10_init_101 : decode cX10_init 101 = .ok (.istore_n 2, 1) := dk_61 (dk_at dksX10_init_4 10 rfl rfl)
theorem dX10_init_102 : decode cX10_init 102 = .ok (.goto (-18), 3) := dk_167 255 238 (dk_at dksX10_init_4 11 rfl rfl)
theorem dX10_init_105 : decode cX10_init 105 = .ok (.return_, 1) := dk_177 (dk_at dksX10_init_4 14 rfl rfl)
abbrev cX10_circleFrom : ByteArray := prog_12_method_3_code
def yX10_circleFrom : MethodName := ⟨RX10, "circleFrom", "(II)I"⟩
def dkwX10_circleFrom_5 : List UInt8 := [42, 180, 0, 75, 21, 5, 184, 0, 78, 181, 0, 75, 21, 4, 172]
abbrev dktX10_circleFrom_5 : List UInt8 := dkwX10_circleFrom_5 ++ []
def dkwX10_circleFrom_4 : List UInt8 := [42, 89, 180, 0, 71, 21, 5, 4, 164, 0, 7, 4, 167, 0, 4, 3, 184, 0, 38, 96, 181, 0, 71, 42]
abbrev dktX10_circleFrom_4 : List UInt8 := dkwX10_circleFrom_4 ++ dktX10_circleFrom_5
def dkwX10_circleFrom_3 : List UInt8 := [182, 0, 65, 46, 79, 42, 21, 5, 28, 182, 0, 65, 54, 5, 167, 255, 203, 21, 4, 184, 0, 68, 54, 5]
abbrev dktX10_circleFrom_3 : List UInt8 := dkwX10_circleFrom_3 ++ dktX10_circleFrom_4
def dkwX10_circleFrom_2 : List UInt8 := [120, 128, 54, 4, 42, 180, 0, 15, 21, 5, 42, 180, 0, 3, 180, 0, 29, 180, 0, 33, 42, 21, 5, 28]
abbrev dktX10_circleFrom_2 : List UInt8 := dkwX10_circleFrom_2 ++ dktX10_circleFrom_3
def dkwX10_circleFrom_1 : List UInt8 := [167, 255, 239, 3, 54, 4, 29, 54, 5, 21, 4, 21, 5, 122, 4, 126, 154, 0, 49, 21, 4, 4, 21, 5]
abbrev dktX10_circleFrom_1 : List UInt8 := dkwX10_circleFrom_1 ++ dktX10_circleFrom_2
def dkwX10_circleFrom_0 : List UInt8 := [27, 62, 3, 54, 4, 21, 4, 16, 8, 162, 0, 16, 42, 29, 28, 182, 0, 65, 62, 132, 4, 1]
abbrev dktX10_circleFrom_0 : List UInt8 := dkwX10_circleFrom_0 ++ dktX10_circleFrom_1
theorem dksX10_circleFrom_0 : cX10_circleFrom.data.toList.drop 0 = dktX10_circleFrom_0 := by decide +kernel
theorem dksX10_circleFrom_1 : cX10_circleFrom.data.toList.drop 22 = dktX10_circleFrom_1 := dk_seg dksX10_circleFrom_0 22 rfl rfl
theorem dksX10_circleFrom_2 : cX10_circleFrom.data.toList.drop 46 = dktX10_circleFrom_2 := dk_seg dksX10_circleFrom_1 24 rfl rfl
theorem dksX10_circleFrom_3 : cX10_circleFrom.data.toList.drop 70 = dktX10_circleFrom_3 := dk_seg dksX10_circleFrom_2 24 rfl rfl
theorem dksX10_circleFrom_4 : cX10_circleFrom.data.toList.drop 94 = dktX10_circleFrom_4 := dk_seg dksX10_circleFrom_3 24 rfl rfl
theorem dksX10_circleFrom_5 : cX10_circleFrom.data.toList.drop 118 = dktX10_circleFrom_5 := dk_seg dksX10_circleFrom_4 24 rfl rfl
theorem dX10_circleFrom_0 : decode cX10_circleFrom 0 = .ok (.iload_n 1, 1) := dk_27 (dk_at dksX10_circleFrom_0 0 rfl rfl)
theorem dX10_circleFrom_1 : decode cX10_circleFrom 1 = .ok (.istore_n 3, 1) := dk_62 (dk_at dksX10_circleFrom_0 1 rfl rfl)
theorem dX10_circleFrom_2 : decode cX10_circleFrom 2 = .ok (.iconst 0, 1) := dk_3 (dk_at dksX10_circleFrom_0 2 rfl rfl)
theorem dX10_circleFrom_3 : decode cX10_circleFrom 3 = .ok (.istore 4, 2) := dk_54 4 (dk_at dksX10_circleFrom_0 3 rfl rfl)
theorem dX10_circleFrom_5 : decode cX10_circleFrom 5 = .ok (.iload 4, 2) := dk_21 4 (dk_at dksX10_circleFrom_0 5 rfl rfl)
theorem dX10_circleFrom_7 : decode cX10_circleFrom 7 = .ok (.bipush 8, 2) := dk_16 8 (dk_at dksX10_circleFrom_0 7 rfl rfl)
theorem dX10_circleFrom_9 : decode cX10_circleFrom 9 = .ok (.if_icmp .ge 16, 3) := dk_162 0 16 (dk_at dksX10_circleFrom_0 9 rfl rfl)
theorem dX10_circleFrom_12 : decode cX10_circleFrom 12 = .ok (.aload_n 0, 1) := dk_42 (dk_at dksX10_circleFrom_0 12 rfl rfl)
theorem dX10_circleFrom_13 : decode cX10_circleFrom 13 = .ok (.iload_n 3, 1) := dk_29 (dk_at dksX10_circleFrom_0 13 rfl rfl)
theorem dX10_circleFrom_14 : decode cX10_circleFrom 14 = .ok (.iload_n 2, 1) := dk_28 (dk_at dksX10_circleFrom_0 14 rfl rfl)
theorem dX10_circleFrom_15 : decode cX10_circleFrom 15 = .ok (.invokevirtual 65, 3) := dk_182 0 65 (dk_at dksX10_circleFrom_0 15 rfl rfl)
theorem dX10_circleFrom_18 : decode cX10_circleFrom 18 = .ok (.istore_n 3, 1) := dk_62 (dk_at dksX10_circleFrom_0 18 rfl rfl)
theorem dX10_circleFrom_19 : decode cX10_circleFrom 19 = .ok (.iinc 4 1, 3) := dk_132 4 1 (dk_at dksX10_circleFrom_0 19 rfl rfl)
theorem dX10_circleFrom_22 : decode cX10_circleFrom 22 = .ok (.goto (-17), 3) := dk_167 255 239 (dk_at dksX10_circleFrom_1 0 rfl rfl)
theorem dX10_circleFrom_25 : decode cX10_circleFrom 25 = .ok (.iconst 0, 1) := dk_3 (dk_at dksX10_circleFrom_1 3 rfl rfl)
theorem dX10_circleFrom_26 : decode cX10_circleFrom 26 = .ok (.istore 4, 2) := dk_54 4 (dk_at dksX10_circleFrom_1 4 rfl rfl)
theorem dX10_circleFrom_28 : decode cX10_circleFrom 28 = .ok (.iload_n 3, 1) := dk_29 (dk_at dksX10_circleFrom_1 6 rfl rfl)
theorem dX10_circleFrom_29 : decode cX10_circleFrom 29 = .ok (.istore 5, 2) := dk_54 5 (dk_at dksX10_circleFrom_1 7 rfl rfl)
theorem dX10_circleFrom_31 : decode cX10_circleFrom 31 = .ok (.iload 4, 2) := dk_21 4 (dk_at dksX10_circleFrom_1 9 rfl rfl)
theorem dX10_circleFrom_33 : decode cX10_circleFrom 33 = .ok (.iload 5, 2) := dk_21 5 (dk_at dksX10_circleFrom_1 11 rfl rfl)
theorem dX10_circleFrom_35 : decode cX10_circleFrom 35 = .ok (.ishr, 1) := dk_122 (dk_at dksX10_circleFrom_1 13 rfl rfl)
theorem dX10_circleFrom_36 : decode cX10_circleFrom 36 = .ok (.iconst 1, 1) := dk_4 (dk_at dksX10_circleFrom_1 14 rfl rfl)
theorem dX10_circleFrom_37 : decode cX10_circleFrom 37 = .ok (.iand, 1) := dk_126 (dk_at dksX10_circleFrom_1 15 rfl rfl)
theorem dX10_circleFrom_38 : decode cX10_circleFrom 38 = .ok (.ifCond .ne 49, 3) := dk_154 0 49 (dk_at dksX10_circleFrom_1 16 rfl rfl)
theorem dX10_circleFrom_41 : decode cX10_circleFrom 41 = .ok (.iload 4, 2) := dk_21 4 (dk_at dksX10_circleFrom_1 19 rfl rfl)
theorem dX10_circleFrom_43 : decode cX10_circleFrom 43 = .ok (.iconst 1, 1) := dk_4 (dk_at dksX10_circleFrom_1 21 rfl rfl)
theorem dX10_circleFrom_44 : decode cX10_circleFrom 44 = .ok (.iload 5, 2) := dk_21 5 (dk_at dksX10_circleFrom_1 22 rfl rfl)
theorem dX10_circleFrom_46 : decode cX10_circleFrom 46 = .ok (.ishl, 1) := dk_120 (dk_at dksX10_circleFrom_2 0 rfl rfl)
theorem dX10_circleFrom_47 : decode cX10_circleFrom 47 = .ok (.ior, 1) := dk_128 (dk_at dksX10_circleFrom_2 1 rfl rfl)
theorem dX10_circleFrom_48 : decode cX10_circleFrom 48 = .ok (.istore 4, 2) := dk_54 4 (dk_at dksX10_circleFrom_2 2 rfl rfl)
theorem dX10_circleFrom_50 : decode cX10_circleFrom 50 = .ok (.aload_n 0, 1) := dk_42 (dk_at dksX10_circleFrom_2 4 rfl rfl)
theorem dX10_circleFrom_51 : decode cX10_circleFrom 51 = .ok (.getfield 15, 3) := dk_180 0 15 (dk_at dksX10_circleFrom_2 5 rfl rfl)
theorem dX10_circleFrom_54 : decode cX10_circleFrom 54 = .ok (.iload 5, 2) := dk_21 5 (dk_at dksX10_circleFrom_2 8 rfl rfl)
theorem dX10_circleFrom_56 : decode cX10_circleFrom 56 = .ok (.aload_n 0, 1) := dk_42 (dk_at dksX10_circleFrom_2 10 rfl rfl)
theorem dX10_circleFrom_57 : decode cX10_circleFrom 57 = .ok (.getfield 3, 3) := dk_180 0 3 (dk_at dksX10_circleFrom_2 11 rfl rfl)
theorem dX10_circleFrom_60 : decode cX10_circleFrom 60 = .ok (.getfield 29, 3) := dk_180 0 29 (dk_at dksX10_circleFrom_2 14 rfl rfl)
theorem dX10_circleFrom_63 : decode cX10_circleFrom 63 = .ok (.getfield 33, 3) := dk_180 0 33 (dk_at dksX10_circleFrom_2 17 rfl rfl)
theorem dX10_circleFrom_66 : decode cX10_circleFrom 66 = .ok (.aload_n 0, 1) := dk_42 (dk_at dksX10_circleFrom_2 20 rfl rfl)
theorem dX10_circleFrom_67 : decode cX10_circleFrom 67 = .ok (.iload 5, 2) := dk_21 5 (dk_at dksX10_circleFrom_2 21 rfl rfl)
theorem dX10_circleFrom_69 : decode cX10_circleFrom 69 = .ok (.iload_n 2, 1) := dk_28 (dk_at dksX10_circleFrom_2 23 rfl rfl)
theorem dX10_circleFrom_70 : decode cX10_circleFrom 70 = .ok (.invokevirtual 65, 3) := dk_182 0 65 (dk_at dksX10_circleFrom_3 0 rfl rfl)
theorem dX10_circleFrom_73 : decode cX10_circleFrom 73 = .ok (.iaload, 1) := dk_46 (dk_at dksX10_circleFrom_3 3 rfl rfl)
theorem dX10_circleFrom_74 : decode cX10_circleFrom 74 = .ok (.iastore, 1) := dk_79 (dk_at dksX10_circleFrom_3 4 rfl rfl)
theorem dX10_circleFrom_75 : decode cX10_circleFrom 75 = .ok (.aload_n 0, 1) := dk_42 (dk_at dksX10_circleFrom_3 5 rfl rfl)
theorem dX10_circleFrom_76 : decode cX10_circleFrom 76 = .ok (.iload 5, 2) := dk_21 5 (dk_at dksX10_circleFrom_3 6 rfl rfl)
theorem dX10_circleFrom_78 : decode cX10_circleFrom 78 = .ok (.iload_n 2, 1) := dk_28 (dk_at dksX10_circleFrom_3 8 rfl rfl)
theorem dX10_circleFrom_79 : decode cX10_circleFrom 79 = .ok (.invokevirtual 65, 3) := dk_182 0 65 (dk_at dksX10_circleFrom_3 9 rfl rfl)
theorem dX10_circleFrom_82 : decode cX10_circleFrom 82 = .ok (.istore 5, 2) := dk_54 5 (dk_at dksX10_circleFrom_3 12 rfl rfl)
theorem dX10_circleFrom_84 : decode cX10_circleFrom 84 = .ok (.goto (-53), 3) := dk_167 255 203 (dk_at dksX10_circleFrom_3 14 rfl rfl)
theorem dX10_circleFrom_87 : decode cX10_circleFrom 87 = .ok (.iload 4, 2) := dk_21 4 (dk_at dksX10_circleFrom_3 17 rfl rfl)
theorem dX10_circleFrom_89 : decode cX10_circleFrom 89 = .ok (.invokestatic 68, 3) := dk_184 0 68 (dk_at dksX10_circleFrom_3 19 rfl rfl)
theorem dX10_circleFrom_92 : decode cX10_circleFrom 92 = .ok (.istore 5, 2) := dk_54 5 (dk_at dksX10_circleFrom_3 22 rfl rfl)
theorem dX10_circleFrom_94 : decode cX10_circleFrom 94 = .ok (.aload_n 0, 1) := dk_42 (dk_at dksX10_circleFrom_4 0 rfl rfl)
theorem dX10_circleFrom_95 : decode cX10_circleFrom 95 = .ok (.dup, 1) := dk_89 (dk_at dksX10_circleFrom_4 1 rfl rfl)
theorem dX10_circleFrom_96 : decode cX10_circleFrom 96 = .ok (.getfield 71, 3) := dk_180 0 71 (dk_at dksX10_circleFrom_4 2 rfl rfl)
theorem dX10_circleFrom_99 : decode cX10_circleFrom 99 = .ok (.iload 5, 2) := dk_21 5 (dk_at dksX10_circleFrom_4 5 rfl rfl)
theorem dX10_circleFrom_101 : decode cX10_circleFrom 101 = .ok (.iconst 1, 1) := dk_4 (dk_at dksX10_circleFrom_4 7 rfl rfl)
theorem dX10_circleFrom_102 : decode cX10_circleFrom 102 = .ok (.if_icmp .le 7, 3) := dk_164 0 7 (dk_at dksX10_circleFrom_4 8 rfl rfl)
theorem dX10_circleFrom_105 : decode cX10_circleFrom 105 = .ok (.iconst 1, 1) := dk_4 (dk_at dksX10_circleFrom_4 11 rfl rfl)
theorem dX10_circleFrom_106 : decode cX10_circleFrom 106 = .ok (.goto 4, 3) := dk_167 0 4 (dk_at dksX10_circleFrom_4 12 rfl rfl)
theorem dX10_circleFrom_109 : decode cX10_circleFrom 109 = .ok (.iconst 0, 1) := dk_3 (dk_at dksX10_circleFrom_4 15 rfl rfl)
theorem dX10_circleFrom_110 : decode cX10_circleFrom 110 = .ok (.invokestatic 38, 3) := dk_184 0 38 (dk_at dksX10_circleFrom_4 16 rfl rfl)
theorem dX10_circleFrom_113 : decode cX10_circleFrom 113 = .ok (.iadd, 1) := dk_96 (dk_at dksX10_circleFrom_4 19 rfl rfl)
theorem dX10_circleFrom_114 : decode cX10_circleFrom 114 = .ok (.putfield 71, 3) := dk_181 0 71 (dk_at dksX10_circleFrom_4 20 rfl rfl)
theorem dX10_circleFrom_117 : decode cX10_circleFrom 117 = .ok (.aload_n 0, 1) := dk_42 (dk_at dksX10_circleFrom_4 23 rfl rfl)
theorem dX10_circleFrom_118 : decode cX10_circleFrom 118 = .ok (.aload_n 0, 1) := dk_42 (dk_at dksX10_circleFrom_5 0 rfl rfl)
theorem dX10_circleFrom_119 : decode cX10_circleFrom 119 = .ok (.getfield 75, 3) := dk_180 0 75 (dk_at dksX10_circleFrom_5 1 rfl rfl)
theorem dX10_circleFrom_122 : decode cX10_circleFrom 122 = .ok (.iload 5, 2) := dk_21 5 (dk_at dksX10_circleFrom_5 4 rfl rfl)
theorem dX10_circleFrom_124 : decode cX10_circleFrom 124 = .ok (.invokestatic 78, 3) := dk_184 0 78 (dk_at dksX10_circleFrom_5 6 rfl rfl)
theorem dX10_circleFrom_127 : decode cX10_circleFrom 127 = .ok (.putfield 75, 3) := dk_181 0 75 (dk_at dksX10_circleFrom_5 9 rfl rfl)
theorem dX10_circleFrom_130 : decode cX10_circleFrom 130 = .ok (.iload 4, 2) := dk_21 4 (dk_at dksX10_circleFrom_5 12 rfl rfl)
theorem dX10_circleFrom_132 : decode cX10_circleFrom 132 = .ok (.ireturn, 1) := dk_172 (dk_at dksX10_circleFrom_5 14 rfl rfl)
abbrev cX10_looksAt : ByteArray := prog_12_method_2_code
def yX10_looksAt : MethodName := ⟨RX10, "looksAt", "(II)I"⟩
def dkwX10_looksAt_3 : List UInt8 := [21, 4, 182, 0, 61, 153, 0, 6, 21, 5, 172, 132, 3, 1, 167, 255, 175, 27, 172]
abbrev dktX10_looksAt_3 : List UInt8 := dkwX10_looksAt_3 ++ []
def dkwX10_looksAt_2 : List UInt8 := [21, 5, 155, 0, 32, 28, 21, 5, 122, 4, 126, 4, 160, 0, 22, 42, 180, 0, 3, 180, 0, 29, 27]
abbrev dktX10_looksAt_2 : List UInt8 := dkwX10_looksAt_2 ++ dktX10_looksAt_3
def dkwX10_looksAt_1 : List UInt8 := [180, 0, 29, 27, 29, 182, 0, 55, 54, 4, 42, 180, 0, 3, 180, 0, 29, 21, 4, 182, 0, 58, 54, 5]
abbrev dktX10_looksAt_1 : List UInt8 := dkwX10_looksAt_1 ++ dktX10_looksAt_2
def dkwX10_looksAt_0 : List UInt8 := [3, 62, 29, 42, 180, 0, 3, 180, 0, 29, 180, 0, 52, 27, 46, 162, 0, 71, 42, 180, 0, 3]
abbrev dktX10_looksAt_0 : List UInt8 := dkwX10_looksAt_0 ++ dktX10_looksAt_1
theorem dksX10_looksAt_0 : cX10_looksAt.data.toList.drop 0 = dktX10_looksAt_0 := by decide +kernel
theorem dksX10_looksAt_1 : cX10_looksAt.data.toList.drop 22 = dktX10_looksAt_1 := dk_seg dksX10_looksAt_0 22 rfl rfl
theorem dksX10_looksAt_2 : cX10_looksAt.data.toList.drop 46 = dktX10_looksAt_2 := dk_seg dksX10_looksAt_1 24 rfl rfl
theorem dksX10_looksAt_3 : cX10_looksAt.data.toList.drop 69 = dktX10_looksAt_3 := dk_seg dksX10_looksAt_2 23 rfl rfl
theorem dX10_looksAt_0 : decode cX10_looksAt 0 = .ok (.iconst 0, 1) := dk_3 (dk_at dksX10_looksAt_0 0 rfl rfl)
theorem dX10_looksAt_1 : decode cX10_looksAt 1 = .ok (.istore_n 3, 1) := dk_62 (dk_at dksX10_looksAt_0 1 rfl rfl)
theorem dX10_looksAt_2 : decode cX10_looksAt 2 = .ok (.iload_n 3, 1) := dk_29 (dk_at dksX10_looksAt_0 2 rfl rfl)
theorem dX10_looksAt_3 : decode cX10_looksAt 3 = .ok (.aload_n 0, 1) := dk_42 (dk_at dksX10_looksAt_0 3 rfl rfl)
theorem dX10_looksAt_4 : decode cX10_looksAt 4 = .ok (.getfield 3, 3) := dk_180 0 3 (dk_at dksX10_looksAt_0 4 rfl rfl)
theorem dX10_looksAt_7 : decode cX10_looksAt 7 = .ok (.getfield 29, 3) := dk_180 0 29 (dk_at dksX10_looksAt_0 7 rfl rfl)
theorem dX10_looksAt_10 : decode cX10_looksAt 10 = .ok (.getfield 52, 3) := dk_180 0 52 (dk_at dksX10_looksAt_0 10 rfl rfl)
theorem dX10_looksAt_13 : decode cX10_looksAt 13 = .ok (.iload_n 1, 1) := dk_27 (dk_at dksX10_looksAt_0 13 rfl rfl)
theorem dX10_looksAt_14 : decode cX10_looksAt 14 = .ok (.iaload, 1) := dk_46 (dk_at dksX10_looksAt_0 14 rfl rfl)
theorem dX10_looksAt_15 : decode cX10_looksAt 15 = .ok (.if_icmp .ge 71, 3) := dk_162 0 71 (dk_at dksX10_looksAt_0 15 rfl rfl)
theorem dX10_looksAt_18 : decode cX10_looksAt 18 = .ok (.aload_n 0, 1) := dk_42 (dk_at dksX10_looksAt_0 18 rfl rfl)
theorem dX10_looksAt_19 : decode cX10_looksAt 19 = .ok (.getfield 3, 3) := dk_180 0 3 (dk_at dksX10_looksAt_0 19 rfl rfl)
theorem dX10_looksAt_22 : decode cX10_looksAt 22 = .ok (.getfield 29, 3) := dk_180 0 29 (dk_at dksX10_looksAt_1 0 rfl rfl)
theorem dX10_looksAt_25 : decode cX10_looksAt 25 = .ok (.iload_n 1, 1) := dk_27 (dk_at dksX10_looksAt_1 3 rfl rfl)
theorem dX10_looksAt_26 : decode cX10_looksAt 26 = .ok (.iload_n 3, 1) := dk_29 (dk_at dksX10_looksAt_1 4 rfl rfl)
theorem dX10_looksAt_27 : decode cX10_looksAt 27 = .ok (.invokevirtual 55, 3) := dk_182 0 55 (dk_at dksX10_looksAt_1 5 rfl rfl)
theorem dX10_looksAt_30 : decode cX10_looksAt 30 = .ok (.istore 4, 2) := dk_54 4 (dk_at dksX10_looksAt_1 8 rfl rfl)
theorem dX10_looksAt_32 : decode cX10_looksAt 32 = .ok (.aload_n 0, 1) := dk_42 (dk_at dksX10_looksAt_1 10 rfl rfl)
theorem dX10_looksAt_33 : decode cX10_looksAt 33 = .ok (.getfield 3, 3) := dk_180 0 3 (dk_at dksX10_looksAt_1 11 rfl rfl)
theorem dX10_looksAt_36 : decode cX10_looksAt 36 = .ok (.getfield 29, 3) := dk_180 0 29 (dk_at dksX10_looksAt_1 14 rfl rfl)
theorem dX10_looksAt_39 : decode cX10_looksAt 39 = .ok (.iload 4, 2) := dk_21 4 (dk_at dksX10_looksAt_1 17 rfl rfl)
theorem dX10_looksAt_41 : decode cX10_looksAt 41 = .ok (.invokevirtual 58, 3) := dk_182 0 58 (dk_at dksX10_looksAt_1 19 rfl rfl)
theorem dX10_looksAt_44 : decode cX10_looksAt 44 = .ok (.istore 5, 2) := dk_54 5 (dk_at dksX10_looksAt_1 22 rfl rfl)
theorem dX10_looksAt_46 : decode cX10_looksAt 46 = .ok (.iload 5, 2) := dk_21 5 (dk_at dksX10_looksAt_2 0 rfl rfl)
theorem dX10_looksAt_48 : decode cX10_looksAt 48 = .ok (.ifCond .lt 32, 3) := dk_155 0 32 (dk_at dksX10_looksAt_2 2 rfl rfl)
theorem dX10_looksAt_51 : decode cX10_looksAt 51 = .ok (.iload_n 2, 1) := dk_28 (dk_at dksX10_looksAt_2 5 rfl rfl)
theorem dX10_looksAt_52 : decode cX10_looksAt 52 = .ok (.iload 5, 2) := dk_21 5 (dk_at dksX10_looksAt_2 6 rfl rfl)
theorem dX10_looksAt_54 : decode cX10_looksAt 54 = .ok (.ishr, 1) := dk_122 (dk_at dksX10_looksAt_2 8 rfl rfl)
theorem dX10_looksAt_55 : decode cX10_looksAt 55 = .ok (.iconst 1, 1) := dk_4 (dk_at dksX10_looksAt_2 9 rfl rfl)
theorem dX10_looksAt_56 : decode cX10_looksAt 56 = .ok (.iand, 1) := dk_126 (dk_at dksX10_looksAt_2 10 rfl rfl)
theorem dX10_looksAt_57 : decode cX10_looksAt 57 = .ok (.iconst 1, 1) := dk_4 (dk_at dksX10_looksAt_2 11 rfl rfl)
theorem dX10_looksAt_58 : decode cX10_looksAt 58 = .ok (.if_icmp .ne 22, 3) := dk_160 0 22 (dk_at dksX10_looksAt_2 12 rfl rfl)
theorem dX10_looksAt_61 : decode cX10_looksAt 61 = .ok (.aload_n 0, 1) := dk_42 (dk_at dksX10_looksAt_2 15 rfl rfl)
theorem dX10_looksAt_62 : decode cX10_looksAt 62 = .ok (.getfield 3, 3) := dk_180 0 3 (dk_at dksX10_looksAt_2 16 rfl rfl)
theorem dX10_looksAt_65 : decode cX10_looksAt 65 = .ok (.getfield 29, 3) := dk_180 0 29 (dk_at dksX10_looksAt_2 19 rfl rfl)
theorem dX10_looksAt_68 : decode cX10_looksAt 68 = .ok (.iload_n 1, 1) := dk_27 (dk_at dksX10_looksAt_2 22 rfl rfl)
theorem dX10_looksAt_69 : decode cX10_looksAt 69 = .ok (.iload 4, 2) := dk_21 4 (dk_at dksX10_looksAt_3 0 rfl rfl)
theorem dX10_looksAt_71 : decode cX10_looksAt 71 = .ok (.invokevirtual 61, 3) := dk_182 0 61 (dk_at dksX10_looksAt_3 2 rfl rfl)
theorem dX10_looksAt_74 : decode cX10_looksAt 74 = .ok (.ifCond .eq 6, 3) := dk_153 0 6 (dk_at dksX10_looksAt_3 5 rfl rfl)
theorem dX10_looksAt_77 : decode cX10_looksAt 77 = .ok (.iload 5, 2) := dk_21 5 (dk_at dksX10_looksAt_3 8 rfl rfl)
theorem dX10_looksAt_79 : decode cX10_looksAt 79 = .ok (.ireturn, 1) := dk_172 (dk_at dksX10_looksAt_3 10 rfl rfl)
theorem dX10_looksAt_80 : decode cX10_looksAt 80 = .ok (.iinc 3 1, 3) := dk_132 3 1 (dk_at dksX10_looksAt_3 11 rfl rfl)
theorem dX10_looksAt_83 : decode cX10_looksAt 83 = .ok (.goto (-81), 3) := dk_167 255 175 (dk_at dksX10_looksAt_3 14 rfl rfl)
theorem dX10_looksAt_86 : decode cX10_looksAt 86 = .ok (.iload_n 1, 1) := dk_27 (dk_at dksX10_looksAt_3 17 rfl rfl)
theorem dX10_looksAt_87 : decode cX10_looksAt 87 = .ok (.ireturn, 1) := dk_172 (dk_at dksX10_looksAt_3 18 rfl rfl)
theorem q204 : (Jvm.Cond.initialized "HomesQueue$Trading") ∈ lw_all := lw_g (lw_at lw_m1 31 rfl) rfl
theorem q432 : (Jvm.Cond.fieldLinkNest "HomesQueue$Trading" (33 : Nat) "HomesQueue$Register" "livesIn" "[I" "HomesQueue") ∈ lw_tbl := lw_at lw_m2 19 rfl
theorem q445 : (Jvm.Cond.fieldLinkNest "HomesQueue$Trading" (52 : Nat) "HomesQueue$Register" "wishMany" "[I" "HomesQueue") ∈ lw_tbl := lw_at lw_m2 32 rfl
theorem q586 : (Jvm.Cond.fieldLinkNest "HomesQueue$Trading" (19 : Nat) "HomesQueue" "houses" "Ljava/util/ArrayList;" "HomesQueue") ∈ lw_tbl := lw_at lw_m2 173 rfl
theorem q592 : (Jvm.Cond.fieldLinkNest "HomesQueue$Trading" (29 : Nat) "HomesQueue" "now" "LHomesQueue$Register;" "HomesQueue") ∈ lw_tbl := lw_at lw_m2 179 rfl
theorem q1111 : (Jvm.Cond.selects "HomesQueue$Trading" ({ cls := "java/lang/Object", name := "getClass", desc := "()Ljava/lang/Class;" } : Jvm.MethodName) ({ cls := "java/lang/Object", name := "getClass", desc := "()Ljava/lang/Class;" } : Jvm.MethodName)) ∈ lw_all := lw_g (lw_at lw_m4 218 rfl) rfl
theorem q1678 : (Jvm.Cond.instantiable "HomesQueue$Trading" (4 : Nat)) ∈ lw_all := lw_g (lw_at lw_m7 65 rfl) rfl
theorem q1680 : (Jvm.Cond.instanceMethod ({ cls := "HomesQueue$Trading", name := "<init>", desc := "(LHomesQueue;)V" } : Jvm.MethodName)) ∈ lw_all := lw_g (lw_at lw_m7 67 rfl) rfl
theorem q1681 : (Jvm.Cond.code ({ cls := "HomesQueue$Trading", name := "<init>", desc := "(LHomesQueue;)V" } : Jvm.MethodName) prog_12_method_1_code (4 : Nat) (Option.none : Option Jvm.ClassFile.FieldType)) ∈ lw_all := lw_g (lw_at lw_m7 68 rfl) rfl
theorem q1682 : (Jvm.Cond.methodLink "HomesQueue$Trading" (9 : Nat) ({ cls := "java/lang/Object", name := "<init>", desc := "()V" } : Jvm.MethodName)) ∈ lw_all := lw_g (lw_at lw_m7 69 rfl) rfl
theorem q1683 : (Jvm.Cond.methodLink "HomesQueue$Trading" (23 : Nat) ({ cls := "java/util/ArrayList", name := "size", desc := "()I" } : Jvm.MethodName)) ∈ lw_all := lw_g (lw_at lw_m7 70 rfl) rfl
theorem q1684 : (Jvm.Cond.methodLinkNest "HomesQueue$Trading" (38 : Nat) ({ cls := "HomesQueue", name := "one", desc := "(Z)I" } : Jvm.MethodName) "HomesQueue") ∈ lw_tbl := lw_at lw_m7 71 rfl
theorem q1685 : (Jvm.Cond.methodLink "HomesQueue$Trading" (42 : Nat) ({ cls := "java/lang/Integer", name := "numberOfTrailingZeros", desc := "(I)I" } : Jvm.MethodName)) ∈ lw_all := lw_g (lw_at lw_m7 72 rfl) rfl
theorem q1689 : (Jvm.Cond.methodLink "HomesQueue$Trading" (48 : Nat) ({ cls := "HomesQueue$Trading", name := "circleFrom", desc := "(II)I" } : Jvm.MethodName)) ∈ lw_all := lw_g (lw_at lw_m7 76 rfl) rfl
theorem q1690 : (Jvm.Cond.privateMethod ({ cls := "HomesQueue$Trading", name := "circleFrom", desc := "(II)I" } : Jvm.MethodName)) ∈ lw_tbl := lw_at lw_m7 77 rfl
theorem q1691 : (Jvm.Cond.instanceMethod ({ cls := "HomesQueue$Trading", name := "circleFrom", desc := "(II)I" } : Jvm.MethodName)) ∈ lw_all := lw_g (lw_at lw_m7 78 rfl) rfl
theorem q1692 : (Jvm.Cond.code ({ cls := "HomesQueue$Trading", name := "circleFrom", desc := "(II)I" } : Jvm.MethodName) prog_12_method_3_code (6 : Nat) (Option.some Jvm.ClassFile.FieldType.int)) ∈ lw_all := lw_g (lw_at lw_m7 79 rfl) rfl
theorem q1693 : (Jvm.Cond.methodLink "HomesQueue$Trading" (65 : Nat) ({ cls := "HomesQueue$Trading", name := "looksAt", desc := "(II)I" } : Jvm.MethodName)) ∈ lw_all := lw_g (lw_at lw_m7 80 rfl) rfl
theorem q1694 : (Jvm.Cond.privateMethod ({ cls := "HomesQueue$Trading", name := "looksAt", desc := "(II)I" } : Jvm.MethodName)) ∈ lw_tbl := lw_at lw_m7 81 rfl
theorem q1695 : (Jvm.Cond.instanceMethod ({ cls := "HomesQueue$Trading", name := "looksAt", desc := "(II)I" } : Jvm.MethodName)) ∈ lw_all := lw_g (lw_at lw_m7 82 rfl) rfl
theorem q1696 : (Jvm.Cond.code ({ cls := "HomesQueue$Trading", name := "looksAt", desc := "(II)I" } : Jvm.MethodName) prog_12_method_2_code (6 : Nat) (Option.some Jvm.ClassFile.FieldType.int)) ∈ lw_all := lw_g (lw_at lw_m7 83 rfl) rfl
theorem q1697 : (Jvm.Cond.methodLink "HomesQueue$Trading" (55 : Nat) ({ cls := "HomesQueue$Register", name := "wishAt", desc := "(II)I" } : Jvm.MethodName)) ∈ lw_all := lw_g (lw_at lw_m7 84 rfl) rfl
theorem q1698 : (Jvm.Cond.methodLink "HomesQueue$Trading" (58 : Nat) ({ cls := "HomesQueue$Register", name := "whoIn", desc := "(I)I" } : Jvm.MethodName)) ∈ lw_all := lw_g (lw_at lw_m7 85 rfl) rfl
theorem q1699 : (Jvm.Cond.methodLink "HomesQueue$Trading" (61 : Nat) ({ cls := "HomesQueue$Register", name := "isFitting", desc := "(II)Z" } : Jvm.MethodName)) ∈ lw_all := lw_g (lw_at lw_m7 86 rfl) rfl
theorem q1700 : (Jvm.Cond.methodLink "HomesQueue$Trading" (68 : Nat) ({ cls := "java/lang/Integer", name := "bitCount", desc := "(I)I" } : Jvm.MethodName)) ∈ lw_all := lw_g (lw_at lw_m7 87 rfl) rfl
theorem q1701 : (Jvm.Cond.methodLink "HomesQueue$Trading" (78 : Nat) ({ cls := "java/lang/Math", name := "max", desc := "(II)I" } : Jvm.MethodName)) ∈ lw_all := lw_g (lw_at lw_m7 88 rfl) rfl
theorem q1702 : (Jvm.Cond.fieldLink "HomesQueue$Trading" (15 : Nat) "HomesQueue$Trading" "gets" "[I") ∈ lw_all := lw_g (lw_at lw_m7 89 rfl) rfl
theorem q1704 : (Jvm.Cond.fieldLink "HomesQueue$Trading" (71 : Nat) "HomesQueue$Trading" "circles" "I") ∈ lw_all := lw_g (lw_at lw_m7 91 rfl) rfl
theorem q1706 : (Jvm.Cond.fieldLink "HomesQueue$Trading" (75 : Nat) "HomesQueue$Trading" "largest" "I") ∈ lw_all := lw_g (lw_at lw_m7 93 rfl) rfl
theorem q1708 : (Jvm.Cond.fieldLink "HomesQueue$Trading" (3 : Nat) "HomesQueue$Trading" "this$0" "LHomesQueue;") ∈ lw_all := lw_g (lw_at lw_m7 95 rfl) rfl
theorem q1709 : (Jvm.Cond.laysFinal "HomesQueue$Trading" "HomesQueue$Trading" "gets" "[I") ∈ lw_all := lw_g (lw_at lw_m7 96 rfl) rfl
theorem q1710 : (Jvm.Cond.soleField "HomesQueue$Trading" "gets") ∈ lw_all := lw_g (lw_at lw_m7 97 rfl) rfl
theorem q1711 : (Jvm.Cond.lays "HomesQueue$Trading" "HomesQueue$Trading" "circles" "I") ∈ lw_all := lw_g (lw_at lw_m7 98 rfl) rfl
theorem q1712 : (Jvm.Cond.soleField "HomesQueue$Trading" "circles") ∈ lw_all := lw_g (lw_at lw_m7 99 rfl) rfl
theorem q1713 : (Jvm.Cond.lays "HomesQueue$Trading" "HomesQueue$Trading" "largest" "I") ∈ lw_all := lw_g (lw_at lw_m7 100 rfl) rfl
theorem q1714 : (Jvm.Cond.soleField "HomesQueue$Trading" "largest") ∈ lw_all := lw_g (lw_at lw_m7 101 rfl) rfl
theorem q1715 : (Jvm.Cond.laysFinal "HomesQueue$Trading" "HomesQueue$Trading" "this$0" "LHomesQueue;") ∈ lw_all := lw_g (lw_at lw_m7 102 rfl) rfl
theorem q1716 : (Jvm.Cond.soleField "HomesQueue$Trading" "this$0") ∈ lw_all := lw_g (lw_at lw_m7 103 rfl) rfl
theorem q1717 : (Jvm.Cond.superclass "HomesQueue$Trading" "java/lang/Object") ∈ lw_all := lw_g (lw_at lw_m7 104 rfl) rfl
theorem q2677 : (Jvm.Cond.castable "HomesQueue$Trading" "java/lang/Object") ∈ lw_tbl := lw_at lw_m11 104 rfl
theorem in_X10 : ∀ w ∈ wsX100, w ∈ lw_all := lw_in wsX100 [1709, 1711, 1713, 1715] (by decide +kernel) (by decide +kernel)

/-! HomesQueue$Moves -/
set_option maxRecDepth 100000
def RX11 : String := "HomesQueue$Moves"
def TX11 : u_T := fun k => match k with
  | 0 => ("HomesQueue$Moves", "row", "[I", true)
  | 1 => ("HomesQueue$Moves", "bestRow", "[I", true)
  | 2 => ("HomesQueue$Moves", "best", "I", false)
  | 3 => ("HomesQueue$Moves", "begin", "I", false)
  | 4 => ("HomesQueue$Moves", "bestBegin", "I", false)
  | _ => ("HomesQueue$Moves", "this$0", "LHomesQueue;", true)
def tyX11 : Nat → FieldType := fun k => match k with
  | 0 => .array .int
  | 1 => .array .int
  | 2 => .int
  | 3 => .int
  | 4 => .int
  | _ => .object "HomesQueue"
abbrev wsX110 : List Cond := u_ws RX11 TX11 6
theorem nmX11 : ∀ a, a < 6 → ∀ b, b < 6 → a ≠ b → (TX11 a).2.1 ≠ (TX11 b).2.1 := by decide +kernel
theorem tyX11_ok : ∀ k, k < 6 → parseFieldDescriptor (TX11 k).2.2.1 = some (tyX11 k) := by decide +kernel
abbrev cX11_init : ByteArray := prog_7_method_1_code
def yX11_init : MethodName := ⟨RX11, "<init>", "(LHomesQueue;)V"⟩
def dkwX11_init_3 : List UInt8 := [182, 0, 49, 132, 2, 1, 167, 255, 219, 177]
abbrev dktX11_init_3 : List UInt8 := dkwX11_init_3 ++ []
def dkwX11_init_2 : List UInt8 := [162, 0, 32, 42, 28, 181, 0, 22, 43, 180, 0, 39, 28, 182, 0, 43, 153, 0, 10, 42, 28, 3, 3]
abbrev dktX11_init_2 : List UInt8 := dkwX11_init_2 ++ dktX11_init_3
def dkwX11_init_1 : List UInt8 := [181, 0, 19, 42, 2, 181, 0, 22, 42, 2, 181, 0, 26, 3, 61, 28, 43, 180, 0, 29, 182, 0, 33]
abbrev dktX11_init_1 : List UInt8 := dkwX11_init_1 ++ dktX11_init_2
def dkwX11_init_0 : List UInt8 := [42, 43, 181, 0, 3, 42, 183, 0, 9, 42, 16, 9, 188, 10, 181, 0, 15, 42, 16, 9, 188, 10]
abbrev dktX11_init_0 : List UInt8 := dkwX11_init_0 ++ dktX11_init_1
theorem dksX11_init_0 : cX11_init.data.toList.drop 0 = dktX11_init_0 := by decide +kernel
theorem dksX11_init_1 : cX11_init.data.toList.drop 22 = dktX11_init_1 := dk_seg dksX11_init_0 22 rfl rfl
theorem dksX11_init_2 : cX11_init.data.toList.drop 45 = dktX11_init_2 := dk_seg dksX11_init_1 23 rfl rfl
theorem dksX11_init_3 : cX11_init.data.toList.drop 68 = dktX11_init_3 := dk_seg dksX11_init_2 23 rfl rfl
theorem dX11_init_0 : decode cX11_init 0 = .ok (.aload_n 0, 1) := dk_42 (dk_at dksX11_init_0 0 rfl rfl)
theorem dX11_init_1 : decode cX11_init 1 = .ok (.aload_n 1, 1) := dk_43 (dk_at dksX11_init_0 1 rfl rfl)
theorem dX11_init_2 : decode cX11_init 2 = .ok (.putfield 3, 3) := dk_181 0 3 (dk_at dksX11_init_0 2 rfl rfl)
theorem dX11_init_5 : decode cX11_init 5 = .ok (.aload_n 0, 1) := dk_42 (dk_at dksX11_init_0 5 rfl rfl)
theorem dX11_init_6 : decode cX11_init 6 = .ok (.invokespecial 9, 3) := dk_183 0 9 (dk_at dksX11_init_0 6 rfl rfl)
theorem dX11_init_9 : decode cX11_init 9 = .ok (.aload_n 0, 1) := dk_42 (dk_at dksX11_init_0 9 rfl rfl)
theorem dX11_init_10 : decode cX11_init 10 = .ok (.bipush 9, 2) := dk_16 9 (dk_at dksX11_init_0 10 rfl rfl)
theorem dX11_init_12 : decode cX11_init 12 = .ok (.newarray .int, 2) := dk_188_10 (dk_at dksX11_init_0 12 rfl rfl)
theorem dX11_init_14 : decode cX11_init 14 = .ok (.putfield 15, 3) := dk_181 0 15 (dk_at dksX11_init_0 14 rfl rfl)
theorem dX11_init_17 : decode cX11_init 17 = .ok (.aload_n 0, 1) := dk_42 (dk_at dksX11_init_0 17 rfl rfl)
theorem dX11_init_18 : decode cX11_init 18 = .ok (.bipush 9, 2) := dk_16 9 (dk_at dksX11_init_0 18 rfl rfl)
theorem dX11_init_20 : decode cX11_init 20 = .ok (.newarray .int, 2) := dk_188_10 (dk_at dksX11_init_0 20 rfl rfl)
theorem dX11_init_22 : decode cX11_init 22 = .ok (.putfield 19, 3) := dk_181 0 19 (dk_at dksX11_init_1 0 rfl rfl)
theorem dX11_init_25 : decode cX11_init 25 = .ok (.aload_n 0, 1) := dk_42 (dk_at dksX11_init_1 3 rfl rfl)
theorem dX11_init_26 : decode cX11_init 26 = .ok (.iconst (-1), 1) := dk_2 (dk_at dksX11_init_1 4 rfl rfl)
theorem dX11_init_27 : decode cX11_init 27 = .ok (.putfield 22, 3) := dk_181 0 22 (dk_at dksX11_init_1 5 rfl rfl)
theorem dX11_init_30 : decode cX11_init 30 = .ok (.aload_n 0, 1) := dk_42 (dk_at dksX11_init_1 8 rfl rfl)
theorem dX11_init_31 : decode cX11_init 31 = .ok (.iconst (-1), 1) := dk_2 (dk_at dksX11_init_1 9 rfl rfl)
theorem dX11_init_32 : decode cX11_init 32 = .ok (.putfield 26, 3) := dk_181 0 26 (dk_at dksX11_init_1 10 rfl rfl)
theorem dX11_init_35 : decode cX11_init 35 = .ok (.iconst 0, 1) := dk_3 (dk_at dksX11_init_1 13 rfl rfl)
theorem dX11_init_36 : decode cX11_init 36 = .ok (.istore_n 2, 1) := dk_61 (dk_at dksX11_init_1 14 rfl rfl)
theorem dX11_init_37 : decode cX11_init 37 = .ok (.iload_n 2, 1) := dk_28 (dk_at dksX11_init_1 15 rfl rfl)
theorem dX11_init_38 : decode cX11_init 38 = .ok (.aload_n 1, 1) := dk_43 (dk_at dksX11_init_1 16 rfl rfl)
theorem dX11_init_39 : decode cX11_init 39 = .ok (.getfield 29, 3) := dk_180 0 29 (dk_at dksX11_init_1 17 rfl rfl)
theorem dX11_init_42 : decode cX11_init 42 = .ok (.invokevirtual 33, 3) := dk_182 0 33 (dk_at dksX11_init_1 20 rfl rfl)
theorem dX11_init_45 : decode cX11_init 45 = .ok (.if_icmp .ge 32, 3) := dk_162 0 32 (dk_at dksX11_init_2 0 rfl rfl)
theorem dX11_init_48 : decode cX11_init 48 = .ok (.aload_n 0, 1) := dk_42 (dk_at dksX11_init_2 3 rfl rfl)
theorem dX11_init_49 : decode cX11_init 49 = .ok (.iload_n 2, 1) := dk_28 (dk_at dksX11_init_2 4 rfl rfl)
theorem dX11_init_50 : decode cX11_init 50 = .ok (.putfield 22, 3) := dk_181 0 22 (dk_at dksX11_init_2 5 rfl rfl)
theorem dX11_init_53 : decode cX11_init 53 = .ok (.aload_n 1, 1) := dk_43 (dk_at dksX11_init_2 8 rfl rfl)
theorem dX11_init_54 : decode cX11_init 54 = .ok (.getfield 39, 3) := dk_180 0 39 (dk_at dksX11_init_2 9 rfl rfl)
theorem dX11_init_57 : decode cX11_init 57 = .ok (.iload_n 2, 1) := dk_28 (dk_at dksX11_init_2 12 rfl rfl)
theorem dX11_init_58 : decode cX11_init 58 = .ok (.invokevirtual 43, 3) := dk_182 0 43 (dk_at dksX11_init_2 13 rfl rfl)
theorem dX11_init_61 : decode cX11_init 61 = .ok (.ifCond .eq 10, 3) := dk_153 0 10 (dk_at dksX11_init_2 16 rfl rfl)
theorem dX11_init_64 : decode cX11_init 64 = .ok (.aload_n 0, 1) := dk_42 (dk_at dksX11_init_2 19 rfl rfl)
theorem dX11_init_65 : decode cX11_init 65 = .ok (.iload_n 2, 1) := dk_28 (dk_at dksX11_init_2 20 rfl rfl)
theorem dX11_init_66 : decode cX11_init 66 = .ok (.iconst 0, 1) := dk_3 (dk_at dksX11_init_2 21 rfl rfl)
theorem dX11_init_67 : decode cX11_init 67 = .ok (.iconst 0, 1) := dk_3 (dk_at dksX11_init_2 22 rfl rfl)
theorem dX11_init_68 : decode cX11_init 68 = .ok (.invokevirtual 49, 3) := dk_182 0 49 (dk_at dksX11_init_3 0 rfl rfl)
theorem dX11_init_71 : decode cX11_init 71 = .ok (.iinc 2 1, 3) := dk_132 2 1 (dk_at dksX11_init_3 3 rfl rfl)
theorem dX11_init_74 : decode cX11_init 74 = .ok (.goto (-37), 3) := dk_167 255 219 (dk_at dksX11_init_3 6 rfl rfl)
theorem dX11_init_77 : decode cX11_init 77 = .ok (.return_, 1) := dk_177 (dk_at dksX11_init_3 9 rfl rfl)
abbrev cX11_goes : ByteArray := prog_7_method_2_code
def yX11_goes : MethodName := ⟨RX11, "goes", "(III)V"⟩
def dkwX11_goes_6 : List UInt8 := [96, 182, 0, 72, 132, 4, 1, 167, 255, 149, 177]
abbrev dktX11_goes_6 : List UInt8 := dkwX11_goes_6 ++ []
def dkwX11_goes_5 : List UInt8 := [180, 0, 69, 21, 4, 46, 28, 4, 21, 4, 120, 128, 29, 4, 96, 182, 0, 49, 167, 0, 10, 42, 29, 4]
abbrev dktX11_goes_5 : List UInt8 := dkwX11_goes_5 ++ dktX11_goes_6
def dkwX11_goes_4 : List UInt8 := [180, 0, 3, 180, 0, 39, 180, 0, 69, 21, 4, 46, 155, 0, 32, 42, 42, 180, 0, 3, 180, 0, 39]
abbrev dktX11_goes_4 : List UInt8 := dkwX11_goes_4 ++ dktX11_goes_5
def dkwX11_goes_3 : List UInt8 := [180, 0, 39, 21, 4, 27, 182, 0, 65, 154, 0, 6, 167, 0, 63, 42, 180, 0, 15, 29, 21, 4, 79, 42]
abbrev dktX11_goes_3 : List UInt8 := dkwX11_goes_3 ++ dktX11_goes_4
def dkwX11_goes_2 : List UInt8 := [180, 0, 62, 182, 0, 33, 162, 0, 98, 28, 21, 4, 122, 4, 126, 4, 159, 0, 82, 42, 180, 0, 3]
abbrev dktX11_goes_2 : List UInt8 := dkwX11_goes_2 ++ dktX11_goes_3
def dkwX11_goes_1 : List UInt8 := [180, 0, 15, 3, 42, 180, 0, 19, 3, 29, 184, 0, 56, 3, 54, 4, 21, 4, 42, 180, 0, 3]
abbrev dktX11_goes_1 : List UInt8 := dkwX11_goes_1 ++ dktX11_goes_2
def dkwX11_goes_0 : List UInt8 := [29, 42, 180, 0, 53, 164, 0, 30, 42, 29, 181, 0, 53, 42, 42, 180, 0, 22, 181, 0, 26, 42]
abbrev dktX11_goes_0 : List UInt8 := dkwX11_goes_0 ++ dktX11_goes_1
theorem dksX11_goes_0 : cX11_goes.data.toList.drop 0 = dktX11_goes_0 := by decide +kernel
theorem dksX11_goes_1 : cX11_goes.data.toList.drop 22 = dktX11_goes_1 := dk_seg dksX11_goes_0 22 rfl rfl
theorem dksX11_goes_2 : cX11_goes.data.toList.drop 44 = dktX11_goes_2 := dk_seg dksX11_goes_1 22 rfl rfl
theorem dksX11_goes_3 : cX11_goes.data.toList.drop 67 = dktX11_goes_3 := dk_seg dksX11_goes_2 23 rfl rfl
theorem dksX11_goes_4 : cX11_goes.data.toList.drop 91 = dktX11_goes_4 := dk_seg dksX11_goes_3 24 rfl rfl
theorem dksX11_goes_5 : cX11_goes.data.toList.drop 114 = dktX11_goes_5 := dk_seg dksX11_goes_4 23 rfl rfl
theorem dksX11_goes_6 : cX11_goes.data.toList.drop 138 = dktX11_goes_6 := dk_seg dksX11_goes_5 24 rfl rfl
theorem dX11_goes_0 : decode cX11_goes 0 = .ok (.iload_n 3, 1) := dk_29 (dk_at dksX11_goes_0 0 rfl rfl)
theorem dX11_goes_1 : decode cX11_goes 1 = .ok (.aload_n 0, 1) := dk_42 (dk_at dksX11_goes_0 1 rfl rfl)
theorem dX11_goes_2 : decode cX11_goes 2 = .ok (.getfield 53, 3) := dk_180 0 53 (dk_at dksX11_goes_0 2 rfl rfl)
theorem dX11_goes_5 : decode cX11_goes 5 = .ok (.if_icmp .le 30, 3) := dk_164 0 30 (dk_at dksX11_goes_0 5 rfl rfl)
theorem dX11_goes_8 : decode cX11_goes 8 = .ok (.aload_n 0, 1) := dk_42 (dk_at dksX11_goes_0 8 rfl rfl)
theorem dX11_goes_9 : decode cX11_goes 9 = .ok (.iload_n 3, 1) := dk_29 (dk_at dksX11_goes_0 9 rfl rfl)
theorem dX11_goes_10 : decode cX11_goes 10 = .ok (.putfield 53, 3) := dk_181 0 53 (dk_at dksX11_goes_0 10 rfl rfl)
theorem dX11_goes_13 : decode cX11_goes 13 = .ok (.aload_n 0, 1) := dk_42 (dk_at dksX11_goes_0 13 rfl rfl)
theorem dX11_goes_14 : decode cX11_goes 14 = .ok (.aload_n 0, 1) := dk_42 (dk_at dksX11_goes_0 14 rfl rfl)
theorem dX11_goes_15 : decode cX11_goes 15 = .ok (.getfield 22, 3) := dk_180 0 22 (dk_at dksX11_goes_0 15 rfl rfl)
theorem dX11_goes_18 : decode cX11_goes 18 = .ok (.putfield 26, 3) := dk_181 0 26 (dk_at dksX11_goes_0 18 rfl rfl)
theorem dX11_goes_21 : decode cX11_goes 21 = .ok (.aload_n 0, 1) := dk_42 (dk_at dksX11_goes_0 21 rfl rfl)
theorem dX11_goes_22 : decode cX11_goes 22 = .ok (.getfield 15, 3) := dk_180 0 15 (dk_at dksX11_goes_1 0 rfl rfl)
theorem dX11_goes_25 : decode cX11_goes 25 = .ok (.iconst 0, 1) := dk_3 (dk_at dksX11_goes_1 3 rfl rfl)
theorem dX11_goes_26 : decode cX11_goes 26 = .ok (.aload_n 0, 1) := dk_42 (dk_at dksX11_goes_1 4 rfl rfl)
theorem dX11_goes_27 : decode cX11_goes 27 = .ok (.getfield 19, 3) := dk_180 0 19 (dk_at dksX11_goes_1 5 rfl rfl)
theorem dX11_goes_30 : decode cX11_goes 30 = .ok (.iconst 0, 1) := dk_3 (dk_at dksX11_goes_1 8 rfl rfl)
theorem dX11_goes_31 : decode cX11_goes 31 = .ok (.iload_n 3, 1) := dk_29 (dk_at dksX11_goes_1 9 rfl rfl)
theorem dX11_goes_32 : decode cX11_goes 32 = .ok (.invokestatic 56, 3) := dk_184 0 56 (dk_at dksX11_goes_1 10 rfl rfl)
theorem dX11_goes_35 : decode cX11_goes 35 = .ok (.iconst 0, 1) := dk_3 (dk_at dksX11_goes_1 13 rfl rfl)
theorem dX11_goes_36 : decode cX11_goes 36 = .ok (.istore 4, 2) := dk_54 4 (dk_at dksX11_goes_1 14 rfl rfl)
theorem dX11_goes_38 : decode cX11_goes 38 = .ok (.iload 4, 2) := dk_21 4 (dk_at dksX11_goes_1 16 rfl rfl)
theorem dX11_goes_40 : decode cX11_goes 40 = .ok (.aload_n 0, 1) := dk_42 (dk_at dksX11_goes_1 18 rfl rfl)
theorem dX11_goes_41 : decode cX11_goes 41 = .ok (.getfield 3, 3) := dk_180 0 3 (dk_at dksX11_goes_1 19 rfl rfl)
theorem dX11_goes_44 : decode cX11_goes 44 = .ok (.getfield 62, 3) := dk_180 0 62 (dk_at dksX11_goes_2 0 rfl rfl)
theorem dX11_goes_47 : decode cX11_goes 47 = .ok (.invokevirtual 33, 3) := dk_182 0 33 (dk_at dksX11_goes_2 3 rfl rfl)
theorem dX11_goes_50 : decode cX11_goes 50 = .ok (.if_icmp .ge 98, 3) := dk_162 0 98 (dk_at dksX11_goes_2 6 rfl rfl)
theorem dX11_goes_53 : decode cX11_goes 53 = .ok (.iload_n 2, 1) := dk_28 (dk_at dksX11_goes_2 9 rfl rfl)
theorem dX11_goes_54 : decode cX11_goes 54 = .ok (.iload 4, 2) := dk_21 4 (dk_at dksX11_goes_2 10 rfl rfl)
theorem dX11_goes_56 : decode cX11_goes 56 = .ok (.ishr, 1) := dk_122 (dk_at dksX11_goes_2 12 rfl rfl)
theorem dX11_goes_57 : decode cX11_goes 57 = .ok (.iconst 1, 1) := dk_4 (dk_at dksX11_goes_2 13 rfl rfl)
theorem dX11_goes_58 : decode cX11_goes 58 = .ok (.iand, 1) := dk_126 (dk_at dksX11_goes_2 14 rfl rfl)
theorem dX11_goes_59 : decode cX11_goes 59 = .ok (.iconst 1, 1) := dk_4 (dk_at dksX11_goes_2 15 rfl rfl)
theorem dX11_goes_60 : decode cX11_goes 60 = .ok (.if_icmp .eq 82, 3) := dk_159 0 82 (dk_at dksX11_goes_2 16 rfl rfl)
theorem dX11_goes_63 : decode cX11_goes 63 = .ok (.aload_n 0, 1) := dk_42 (dk_at dksX11_goes_2 19 rfl rfl)
theorem dX11_goes_64 : decode cX11_goes 64 = .ok (.getfield 3, 3) := dk_180 0 3 (dk_at dksX11_goes_2 20 rfl rfl)
theorem dX11_goes_67 : decode cX11_goes 67 = .ok (.getfield 39, 3) := dk_180 0 39 (dk_at dksX11_goes_3 0 rfl rfl)
theorem dX11_goes_70 : decode cX11_goes 70 = .ok (.iload 4, 2) := dk_21 4 (dk_at dksX11_goes_3 3 rfl rfl)
theorem dX11_goes_72 : decode cX11_goes 72 = .ok (.iload_n 1, 1) := dk_27 (dk_at dksX11_goes_3 5 rfl rfl)
theorem dX11_goes_73 : decode cX11_goes 73 = .ok (.invokevirtual 65, 3) := dk_182 0 65 (dk_at dksX11_goes_3 6 rfl rfl)
theorem dX11_goes_76 : decode cX11_goes 76 = .ok (.ifCond .ne 6, 3) := dk_154 0 6 (dk_at dksX11_goes_3 9 rfl rfl)
theorem dX11_goes_79 : decode cX11_goes 79 = .ok (.goto 63, 3) := dk_167 0 63 (dk_at dksX11_goes_3 12 rfl rfl)
theorem dX11_goes_82 : decode cX11_goes 82 = .ok (.aload_n 0, 1) := dk_42 (dk_at dksX11_goes_3 15 rfl rfl)
theorem dX11_goes_83 : decode cX11_goes 83 = .ok (.getfield 15, 3) := dk_180 0 15 (dk_at dksX11_goes_3 16 rfl rfl)
theorem dX11_goes_86 : decode cX11_goes 86 = .ok (.iload_n 3, 1) := dk_29 (dk_at dksX11_goes_3 19 rfl rfl)
theorem dX11_goes_87 : decode cX11_goes 87 = .ok (.iload 4, 2) := dk_21 4 (dk_at dksX11_goes_3 20 rfl rfl)
theorem dX11_goes_89 : decode cX11_goes 89 = .ok (.iastore, 1) := dk_79 (dk_at dksX11_goes_3 22 rfl rfl)
theorem dX11_goes_90 : decode cX11_goes 90 = .ok (.aload_n 0, 1) := dk_42 (dk_at dksX11_goes_3 23 rfl rfl)
theorem dX11_goes_91 : decode cX11_goes 91 = .ok (.getfield 3, 3) := dk_180 0 3 (dk_at dksX11_goes_4 0 rfl rfl)
theorem dX11_goes_94 : decode cX11_goes 94 = .ok (.getfield 39, 3) := dk_180 0 39 (dk_at dksX11_goes_4 3 rfl rfl)
theorem dX11_goes_97 : decode cX11_goes 97 = .ok (.getfield 69, 3) := dk_180 0 69 (dk_at dksX11_goes_4 6 rfl rfl)
theorem dX11_goes_100 : decode cX11_goes 100 = .ok (.iload 4, 2) := dk_21 4 (dk_at dksX11_goes_4 9 rfl rfl)
theorem dX11_goes_102 : decode cX11_goes 102 = .ok (.iaload, 1) := dk_46 (dk_at dksX11_goes_4 11 rfl rfl)
theorem dX11_goes_103 : decode cX11_goes 103 = .ok (.ifCond .lt 32, 3) := dk_155 0 32 (dk_at dksX11_goes_4 12 rfl rfl)
theorem dX11_goes_106 : decode cX11_goes 106 = .ok (.aload_n 0, 1) := dk_42 (dk_at dksX11_goes_4 15 rfl rfl)
theorem dX11_goes_107 : decode cX11_goes 107 = .ok (.aload_n 0, 1) := dk_42 (dk_at dksX11_goes_4 16 rfl rfl)
theorem dX11_goes_108 : decode cX11_goes 108 = .ok (.getfield 3, 3) := dk_180 0 3 (dk_at dksX11_goes_4 17 rfl rfl)
theorem dX11_goes_111 : decode cX11_goes 111 = .ok (.getfield 39, 3) := dk_180 0 39 (dk_at dksX11_goes_4 20 rfl rfl)
theorem dX11_goes_114 : decode cX11_goes 114 = .ok (.getfield 69, 3) := dk_180 0 69 (dk_at dksX11_goes_5 0 rfl rfl)
theorem dX11_goes_117 : decode cX11_goes 117 = .ok (.iload 4, 2) := dk_21 4 (dk_at dksX11_goes_5 3 rfl rfl)
theorem dX11_goes_119 : decode cX11_goes 119 = .ok (.iaload, 1) := dk_46 (dk_at dksX11_goes_5 5 rfl rfl)
theorem dX11_goes_120 : decode cX11_goes 120 = .ok (.iload_n 2, 1) := dk_28 (dk_at dksX11_goes_5 6 rfl rfl)
theorem dX11_goes_121 : decode cX11_goes 121 = .ok (.iconst 1, 1) := dk_4 (dk_at dksX11_goes_5 7 rfl rfl)
theorem dX11_goes_122 : decode cX11_goes 122 = .ok (.iload 4, 2) := dk_21 4 (dk_at dksX11_goes_5 8 rfl rfl)
theorem dX11_goes_124 : decode cX11_goes 124 = .ok (.ishl, 1) := dk_120 (dk_at dksX11_goes_5 10 rfl rfl)
theorem dX11_goes_125 : decode cX11_goes 125 = .ok (.ior, 1) := dk_128 (dk_at dksX11_goes_5 11 rfl rfl)
theorem dX11_goes_126 : decode cX11_goes 126 = .ok (.iload_n 3, 1) := dk_29 (dk_at dksX11_goes_5 12 rfl rfl)
theorem dX11_goes_127 : decode cX11_goes 127 = .ok (.iconst 1, 1) := dk_4 (dk_at dksX11_goes_5 13 rfl rfl)
theorem dX11_goes_128 : decode cX11_goes 128 = .ok (.iadd, 1) := dk_96 (dk_at dksX11_goes_5 14 rfl rfl)
theorem dX11_goes_129 : decode cX11_goes 129 = .ok (.invokevirtual 49, 3) := dk_182 0 49 (dk_at dksX11_goes_5 15 rfl rfl)
theorem dX11_goes_132 : decode cX11_goes 132 = .ok (.goto 10, 3) := dk_167 0 10 (dk_at dksX11_goes_5 18 rfl rfl)
theorem dX11_goes_135 : decode cX11_goes 135 = .ok (.aload_n 0, 1) := dk_42 (dk_at dksX11_goes_5 21 rfl rfl)
theorem dX11_goes_136 : decode cX11_goes 136 = .ok (.iload_n 3, 1) := dk_29 (dk_at dksX11_goes_5 22 rfl rfl)
theorem dX11_goes_137 : decode cX11_goes 137 = .ok (.iconst 1, 1) := dk_4 (dk_at dksX11_goes_5 23 rfl rfl)
theorem dX11_goes_138 : decode cX11_goes 138 = .ok (.iadd, 1) := dk_96 (dk_at dksX11_goes_6 0 rfl rfl)
theorem dX11_goes_139 : decode cX11_goes 139 = .ok (.invokevirtual 72, 3) := dk_182 0 72 (dk_at dksX11_goes_6 1 rfl rfl)
theorem dX11_goes_142 : decode cX11_goes 142 = .ok (.iinc 4 1, 3) := dk_132 4 1 (dk_at dksX11_goes_6 4 rfl rfl)
theorem dX11_goes_145 : decode cX11_goes 145 = .ok (.goto (-107), 3) := dk_167 255 149 (dk_at dksX11_goes_6 7 rfl rfl)
theorem dX11_goes_148 : decode cX11_goes 148 = .ok (.return_, 1) := dk_177 (dk_at dksX11_goes_6 10 rfl rfl)
abbrev cX11_ends : ByteArray := prog_7_method_3_code
def yX11_ends : MethodName := ⟨RX11, "ends", "(I)V"⟩
def dkwX11_ends_1 : List UInt8 := [180, 0, 15, 3, 42, 180, 0, 19, 3, 27, 184, 0, 56, 177]
abbrev dktX11_ends_1 : List UInt8 := dkwX11_ends_1 ++ []
def dkwX11_ends_0 : List UInt8 := [27, 42, 180, 0, 53, 163, 0, 4, 177, 42, 27, 181, 0, 53, 42, 42, 180, 0, 22, 181, 0, 26, 42]
abbrev dktX11_ends_0 : List UInt8 := dkwX11_ends_0 ++ dktX11_ends_1
theorem dksX11_ends_0 : cX11_ends.data.toList.drop 0 = dktX11_ends_0 := by decide +kernel
theorem dksX11_ends_1 : cX11_ends.data.toList.drop 23 = dktX11_ends_1 := dk_seg dksX11_ends_0 23 rfl rfl
theorem dX11_ends_0 : decode cX11_ends 0 = .ok (.iload_n 1, 1) := dk_27 (dk_at dksX11_ends_0 0 rfl rfl)
theorem dX11_ends_1 : decode cX11_ends 1 = .ok (.aload_n 0, 1) := dk_42 (dk_at dksX11_ends_0 1 rfl rfl)
theorem dX11_ends_2 : decode cX11_ends 2 = .ok (.getfield 53, 3) := dk_180 0 53 (dk_at dksX11_ends_0 2 rfl rfl)
theorem dX11_ends_5 : decode cX11_ends 5 = .ok (.if_icmp .gt 4, 3) := dk_163 0 4 (dk_at dksX11_ends_0 5 rfl rfl)
theorem dX11_ends_8 : decode cX11_ends 8 = .ok (.return_, 1) := dk_177 (dk_at dksX11_ends_0 8 rfl rfl)
theorem dX11_ends_9 : decode cX11_ends 9 = .ok (.aload_n 0, 1) := dk_42 (dk_at dksX11_ends_0 9 rfl rfl)
theorem dX11_ends_10 : decode cX11_ends 10 = .ok (.iload_n 1, 1) := dk_27 (dk_at dksX11_ends_0 10 rfl rfl)
theorem dX11_ends_11 : decode cX11_ends 11 = .ok (.putfield 53, 3) := dk_181 0 53 (dk_at dksX11_ends_0 11 rfl rfl)
theorem dX11_ends_14 : decode cX11_ends 14 = .ok (.aload_n 0, 1) := dk_42 (dk_at dksX11_ends_0 14 rfl rfl)
theorem dX11_ends_15 : decode cX11_ends 15 = .ok (.aload_n 0, 1) := dk_42 (dk_at dksX11_ends_0 15 rfl rfl)
theorem dX11_ends_16 : decode cX11_ends 16 = .ok (.getfield 22, 3) := dk_180 0 22 (dk_at dksX11_ends_0 16 rfl rfl)
theorem dX11_ends_19 : decode cX11_ends 19 = .ok (.putfield 26, 3) := dk_181 0 26 (dk_at dksX11_ends_0 19 rfl rfl)
theorem dX11_ends_22 : decode cX11_ends 22 = .ok (.aload_n 0, 1) := dk_42 (dk_at dksX11_ends_0 22 rfl rfl)
theorem dX11_ends_23 : decode cX11_ends 23 = .ok (.getfield 15, 3) := dk_180 0 15 (dk_at dksX11_ends_1 0 rfl rfl)
theorem dX11_ends_26 : decode cX11_ends 26 = .ok (.iconst 0, 1) := dk_3 (dk_at dksX11_ends_1 3 rfl rfl)
theorem dX11_ends_27 : decode cX11_ends 27 = .ok (.aload_n 0, 1) := dk_42 (dk_at dksX11_ends_1 4 rfl rfl)
theorem dX11_ends_28 : decode cX11_ends 28 = .ok (.getfield 19, 3) := dk_180 0 19 (dk_at dksX11_ends_1 5 rfl rfl)
theorem dX11_ends_31 : decode cX11_ends 31 = .ok (.iconst 0, 1) := dk_3 (dk_at dksX11_ends_1 8 rfl rfl)
theorem dX11_ends_32 : decode cX11_ends 32 = .ok (.iload_n 1, 1) := dk_27 (dk_at dksX11_ends_1 9 rfl rfl)
theorem dX11_ends_33 : decode cX11_ends 33 = .ok (.invokestatic 56, 3) := dk_184 0 56 (dk_at dksX11_ends_1 10 rfl rfl)
theorem dX11_ends_36 : decode cX11_ends 36 = .ok (.return_, 1) := dk_177 (dk_at dksX11_ends_1 13 rfl rfl)
abbrev cX11_homeOf : ByteArray := prog_7_method_4_code
def yX11_homeOf : MethodName := ⟨RX11, "homeOf", "(I)I"⟩
def dkwX11_homeOf_1 : List UInt8 := [180, 0, 19, 27, 4, 100, 46, 46, 172]
abbrev dktX11_homeOf_1 : List UInt8 := dkwX11_homeOf_1 ++ []
def dkwX11_homeOf_0 : List UInt8 := [27, 154, 0, 10, 42, 180, 0, 26, 167, 0, 22, 42, 180, 0, 3, 180, 0, 39, 180, 0, 69, 42]
abbrev dktX11_homeOf_0 : List UInt8 := dkwX11_homeOf_0 ++ dktX11_homeOf_1
theorem dksX11_homeOf_0 : cX11_homeOf.data.toList.drop 0 = dktX11_homeOf_0 := by decide +kernel
theorem dksX11_homeOf_1 : cX11_homeOf.data.toList.drop 22 = dktX11_homeOf_1 := dk_seg dksX11_homeOf_0 22 rfl rfl
theorem dX11_homeOf_0 : decode cX11_homeOf 0 = .ok (.iload_n 1, 1) := dk_27 (dk_at dksX11_homeOf_0 0 rfl rfl)
theorem dX11_homeOf_1 : decode cX11_homeOf 1 = .ok (.ifCond .ne 10, 3) := dk_154 0 10 (dk_at dksX11_homeOf_0 1 rfl rfl)
theorem dX11_homeOf_4 : decode cX11_homeOf 4 = .ok (.aload_n 0, 1) := dk_42 (dk_at dksX11_homeOf_0 4 rfl rfl)
theorem dX11_homeOf_5 : decode cX11_homeOf 5 = .ok (.getfield 26, 3) := dk_180 0 26 (dk_at dksX11_homeOf_0 5 rfl rfl)
theorem dX11_homeOf_8 : decode cX11_homeOf 8 = .ok (.goto 22, 3) := dk_167 0 22 (dk_at dksX11_homeOf_0 8 rfl rfl)
theorem dX11_homeOf_11 : decode cX11_homeOf 11 = .ok (.aload_n 0, 1) := dk_42 (dk_at dksX11_homeOf_0 11 rfl rfl)
theorem dX11_homeOf_12 : decode cX11_homeOf 12 = .ok (.getfield 3, 3) := dk_180 0 3 (dk_at dksX11_homeOf_0 12 rfl rfl)
theorem dX11_homeOf_15 : decode cX11_homeOf 15 = .ok (.getfield 39, 3) := dk_180 0 39 (dk_at dksX11_homeOf_0 15 rfl rfl)
theorem dX11_homeOf_18 : decode cX11_homeOf 18 = .ok (.getfield 69, 3) := dk_180 0 69 (dk_at dksX11_homeOf_0 18 rfl rfl)
theorem dX11_homeOf_21 : decode cX11_homeOf 21 = .ok (.aload_n 0, 1) := dk_42 (dk_at dksX11_homeOf_0 21 rfl rfl)
theorem dX11_homeOf_22 : decode cX11_homeOf 22 = .ok (.getfield 19, 3) := dk_180 0 19 (dk_at dksX11_homeOf_1 0 rfl rfl)
theorem dX11_homeOf_25 : decode cX11_homeOf 25 = .ok (.iload_n 1, 1) := dk_27 (dk_at dksX11_homeOf_1 3 rfl rfl)
theorem dX11_homeOf_26 : decode cX11_homeOf 26 = .ok (.iconst 1, 1) := dk_4 (dk_at dksX11_homeOf_1 4 rfl rfl)
theorem dX11_homeOf_27 : decode cX11_homeOf 27 = .ok (.isub, 1) := dk_100 (dk_at dksX11_homeOf_1 5 rfl rfl)
theorem dX11_homeOf_28 : decode cX11_homeOf 28 = .ok (.iaload, 1) := dk_46 (dk_at dksX11_homeOf_1 6 rfl rfl)
theorem dX11_homeOf_29 : decode cX11_homeOf 29 = .ok (.iaload, 1) := dk_46 (dk_at dksX11_homeOf_1 7 rfl rfl)
theorem dX11_homeOf_30 : decode cX11_homeOf 30 = .ok (.ireturn, 1) := dk_172 (dk_at dksX11_homeOf_1 8 rfl rfl)
theorem q205 : (Jvm.Cond.initialized "HomesQueue$Moves") ∈ lw_all := lw_g (lw_at lw_m1 32 rfl) rfl
theorem q433 : (Jvm.Cond.fieldLinkNest "HomesQueue$Moves" (69 : Nat) "HomesQueue$Register" "livesIn" "[I" "HomesQueue") ∈ lw_tbl := lw_at lw_m2 20 rfl
theorem q582 : (Jvm.Cond.fieldLinkNest "HomesQueue$Moves" (29 : Nat) "HomesQueue" "homes" "Ljava/util/ArrayList;" "HomesQueue") ∈ lw_tbl := lw_at lw_m2 169 rfl
theorem q588 : (Jvm.Cond.fieldLinkNest "HomesQueue$Moves" (62 : Nat) "HomesQueue" "houses" "Ljava/util/ArrayList;" "HomesQueue") ∈ lw_tbl := lw_at lw_m2 175 rfl
theorem q591 : (Jvm.Cond.fieldLinkNest "HomesQueue$Moves" (39 : Nat) "HomesQueue" "now" "LHomesQueue$Register;" "HomesQueue") ∈ lw_tbl := lw_at lw_m2 178 rfl
theorem q1108 : (Jvm.Cond.selects "HomesQueue$Moves" ({ cls := "java/lang/Object", name := "getClass", desc := "()Ljava/lang/Class;" } : Jvm.MethodName) ({ cls := "java/lang/Object", name := "getClass", desc := "()Ljava/lang/Class;" } : Jvm.MethodName)) ∈ lw_all := lw_g (lw_at lw_m4 215 rfl) rfl
theorem q1730 : (Jvm.Cond.instantiable "HomesQueue$Moves" (6 : Nat)) ∈ lw_all := lw_g (lw_at lw_m7 117 rfl) rfl
theorem q1732 : (Jvm.Cond.instanceMethod ({ cls := "HomesQueue$Moves", name := "<init>", desc := "(LHomesQueue;)V" } : Jvm.MethodName)) ∈ lw_all := lw_g (lw_at lw_m7 119 rfl) rfl
theorem q1733 : (Jvm.Cond.code ({ cls := "HomesQueue$Moves", name := "<init>", desc := "(LHomesQueue;)V" } : Jvm.MethodName) prog_7_method_1_code (3 : Nat) (Option.none : Option Jvm.ClassFile.FieldType)) ∈ lw_all := lw_g (lw_at lw_m7 120 rfl) rfl
theorem q1734 : (Jvm.Cond.methodLink "HomesQueue$Moves" (9 : Nat) ({ cls := "java/lang/Object", name := "<init>", desc := "()V" } : Jvm.MethodName)) ∈ lw_all := lw_g (lw_at lw_m7 121 rfl) rfl
theorem q1735 : (Jvm.Cond.methodLink "HomesQueue$Moves" (33 : Nat) ({ cls := "java/util/ArrayList", name := "size", desc := "()I" } : Jvm.MethodName)) ∈ lw_all := lw_g (lw_at lw_m7 122 rfl) rfl
theorem q1736 : (Jvm.Cond.methodLink "HomesQueue$Moves" (43 : Nat) ({ cls := "HomesQueue$Register", name := "isFree", desc := "(I)Z" } : Jvm.MethodName)) ∈ lw_all := lw_g (lw_at lw_m7 123 rfl) rfl
theorem q1737 : (Jvm.Cond.methodLink "HomesQueue$Moves" (49 : Nat) ({ cls := "HomesQueue$Moves", name := "goes", desc := "(III)V" } : Jvm.MethodName)) ∈ lw_all := lw_g (lw_at lw_m7 124 rfl) rfl
theorem q1738 : (Jvm.Cond.privateMethod ({ cls := "HomesQueue$Moves", name := "goes", desc := "(III)V" } : Jvm.MethodName)) ∈ lw_tbl := lw_at lw_m7 125 rfl
theorem q1739 : (Jvm.Cond.instanceMethod ({ cls := "HomesQueue$Moves", name := "goes", desc := "(III)V" } : Jvm.MethodName)) ∈ lw_all := lw_g (lw_at lw_m7 126 rfl) rfl
theorem q1740 : (Jvm.Cond.code ({ cls := "HomesQueue$Moves", name := "goes", desc := "(III)V" } : Jvm.MethodName) prog_7_method_2_code (5 : Nat) (Option.none : Option Jvm.ClassFile.FieldType)) ∈ lw_all := lw_g (lw_at lw_m7 127 rfl) rfl
theorem q1741 : (Jvm.Cond.methodLink "HomesQueue$Moves" (56 : Nat) ({ cls := "java/lang/System", name := "arraycopy", desc := "(Ljava/lang/Object;ILjava/lang/Object;II)V" } : Jvm.MethodName)) ∈ lw_all := lw_g (lw_at lw_m7 128 rfl) rfl
theorem q1742 : (Jvm.Cond.methodLink "HomesQueue$Moves" (65 : Nat) ({ cls := "HomesQueue$Register", name := "couldHave", desc := "(II)Z" } : Jvm.MethodName)) ∈ lw_all := lw_g (lw_at lw_m7 129 rfl) rfl
theorem q1743 : (Jvm.Cond.methodLink "HomesQueue$Moves" (72 : Nat) ({ cls := "HomesQueue$Moves", name := "ends", desc := "(I)V" } : Jvm.MethodName)) ∈ lw_all := lw_g (lw_at lw_m7 130 rfl) rfl
theorem q1744 : (Jvm.Cond.privateMethod ({ cls := "HomesQueue$Moves", name := "ends", desc := "(I)V" } : Jvm.MethodName)) ∈ lw_tbl := lw_at lw_m7 131 rfl
theorem q1745 : (Jvm.Cond.instanceMethod ({ cls := "HomesQueue$Moves", name := "ends", desc := "(I)V" } : Jvm.MethodName)) ∈ lw_all := lw_g (lw_at lw_m7 132 rfl) rfl
theorem q1746 : (Jvm.Cond.code ({ cls := "HomesQueue$Moves", name := "ends", desc := "(I)V" } : Jvm.MethodName) prog_7_method_3_code (2 : Nat) (Option.none : Option Jvm.ClassFile.FieldType)) ∈ lw_all := lw_g (lw_at lw_m7 133 rfl) rfl
theorem q1747 : (Jvm.Cond.fieldLink "HomesQueue$Moves" (15 : Nat) "HomesQueue$Moves" "row" "[I") ∈ lw_all := lw_g (lw_at lw_m7 134 rfl) rfl
theorem q1748 : (Jvm.Cond.fieldLink "HomesQueue$Moves" (19 : Nat) "HomesQueue$Moves" "bestRow" "[I") ∈ lw_all := lw_g (lw_at lw_m7 135 rfl) rfl
theorem q1750 : (Jvm.Cond.fieldLink "HomesQueue$Moves" (53 : Nat) "HomesQueue$Moves" "best" "I") ∈ lw_all := lw_g (lw_at lw_m7 137 rfl) rfl
theorem q1752 : (Jvm.Cond.fieldLink "HomesQueue$Moves" (22 : Nat) "HomesQueue$Moves" "begin" "I") ∈ lw_all := lw_g (lw_at lw_m7 139 rfl) rfl
theorem q1753 : (Jvm.Cond.fieldLink "HomesQueue$Moves" (26 : Nat) "HomesQueue$Moves" "bestBegin" "I") ∈ lw_all := lw_g (lw_at lw_m7 140 rfl) rfl
theorem q1754 : (Jvm.Cond.fieldLink "HomesQueue$Moves" (3 : Nat) "HomesQueue$Moves" "this$0" "LHomesQueue;") ∈ lw_all := lw_g (lw_at lw_m7 141 rfl) rfl
theorem q1755 : (Jvm.Cond.laysFinal "HomesQueue$Moves" "HomesQueue$Moves" "row" "[I") ∈ lw_all := lw_g (lw_at lw_m7 142 rfl) rfl
theorem q1756 : (Jvm.Cond.soleField "HomesQueue$Moves" "row") ∈ lw_all := lw_g (lw_at lw_m7 143 rfl) rfl
theorem q1757 : (Jvm.Cond.laysFinal "HomesQueue$Moves" "HomesQueue$Moves" "bestRow" "[I") ∈ lw_all := lw_g (lw_at lw_m7 144 rfl) rfl
theorem q1758 : (Jvm.Cond.soleField "HomesQueue$Moves" "bestRow") ∈ lw_all := lw_g (lw_at lw_m7 145 rfl) rfl
theorem q1759 : (Jvm.Cond.lays "HomesQueue$Moves" "HomesQueue$Moves" "best" "I") ∈ lw_all := lw_g (lw_at lw_m7 146 rfl) rfl
theorem q1760 : (Jvm.Cond.soleField "HomesQueue$Moves" "best") ∈ lw_all := lw_g (lw_at lw_m7 147 rfl) rfl
theorem q1761 : (Jvm.Cond.lays "HomesQueue$Moves" "HomesQueue$Moves" "begin" "I") ∈ lw_all := lw_g (lw_at lw_m7 148 rfl) rfl
theorem q1762 : (Jvm.Cond.soleField "HomesQueue$Moves" "begin") ∈ lw_all := lw_g (lw_at lw_m7 149 rfl) rfl
theorem q1763 : (Jvm.Cond.lays "HomesQueue$Moves" "HomesQueue$Moves" "bestBegin" "I") ∈ lw_all := lw_g (lw_at lw_m7 150 rfl) rfl
theorem q1764 : (Jvm.Cond.soleField "HomesQueue$Moves" "bestBegin") ∈ lw_all := lw_g (lw_at lw_m7 151 rfl) rfl
theorem q1765 : (Jvm.Cond.laysFinal "HomesQueue$Moves" "HomesQueue$Moves" "this$0" "LHomesQueue;") ∈ lw_all := lw_g (lw_at lw_m7 152 rfl) rfl
theorem q1766 : (Jvm.Cond.soleField "HomesQueue$Moves" "this$0") ∈ lw_all := lw_g (lw_at lw_m7 153 rfl) rfl
theorem q1767 : (Jvm.Cond.superclass "HomesQueue$Moves" "java/lang/Object") ∈ lw_all := lw_g (lw_at lw_m7 154 rfl) rfl
theorem q1769 : (Jvm.Cond.instanceMethod ({ cls := "HomesQueue$Moves", name := "homeOf", desc := "(I)I" } : Jvm.MethodName)) ∈ lw_all := lw_g (lw_at lw_m7 156 rfl) rfl
theorem q1770 : (Jvm.Cond.selects "HomesQueue$Moves" ({ cls := "HomesQueue$Moves", name := "homeOf", desc := "(I)I" } : Jvm.MethodName) ({ cls := "HomesQueue$Moves", name := "homeOf", desc := "(I)I" } : Jvm.MethodName)) ∈ lw_all := lw_g (lw_at lw_m7 157 rfl) rfl
theorem q1771 : (Jvm.Cond.code ({ cls := "HomesQueue$Moves", name := "homeOf", desc := "(I)I" } : Jvm.MethodName) prog_7_method_4_code (2 : Nat) (Option.some Jvm.ClassFile.FieldType.int)) ∈ lw_all := lw_g (lw_at lw_m7 158 rfl) rfl
theorem q2678 : (Jvm.Cond.castable "HomesQueue$Moves" "java/lang/Object") ∈ lw_tbl := lw_at lw_m11 105 rfl
theorem in_X11 : ∀ w ∈ wsX110, w ∈ lw_all := lw_in wsX110 [1755, 1757, 1759, 1761, 1763, 1765] (by decide +kernel) (by decide +kernel)

/-! java/util/AbstractCollection -/
set_option maxRecDepth 100000
def RJ0 : String := "java/util/AbstractCollection"
abbrev cJ0_init : ByteArray := prog_36_method_1_code
def yJ0_init : MethodName := ⟨RJ0, "<init>", "()V"⟩
theorem dJ0_init_0 : decode cJ0_init 0 = .ok (.aload_n 0, 1) := by decide +kernel
theorem dJ0_init_1 : decode cJ0_init 1 = .ok (.invokespecial 1, 3) := by decide +kernel
theorem dJ0_init_4 : decode cJ0_init 4 = .ok (.return_, 1) := by decide +kernel
theorem q175 : (Jvm.Cond.initialized "java/util/AbstractCollection") ∈ lw_all := lw_g (lw_at lw_m1 2 rfl) rfl
theorem q223 : (Jvm.Cond.instanceMethod ({ cls := "java/util/AbstractCollection", name := "<init>", desc := "()V" } : Jvm.MethodName)) ∈ lw_all := lw_g (lw_at lw_m1 50 rfl) rfl
theorem q224 : (Jvm.Cond.code ({ cls := "java/util/AbstractCollection", name := "<init>", desc := "()V" } : Jvm.MethodName) prog_36_method_1_code (1 : Nat) (Option.none : Option Jvm.ClassFile.FieldType)) ∈ lw_all := lw_g (lw_at lw_m1 51 rfl) rfl
theorem q225 : (Jvm.Cond.methodLink "java/util/AbstractCollection" (1 : Nat) ({ cls := "java/lang/Object", name := "<init>", desc := "()V" } : Jvm.MethodName)) ∈ lw_all := lw_g (lw_at lw_m1 52 rfl) rfl

/-! java/util/AbstractList -/
set_option maxRecDepth 100000
def RJ1 : String := "java/util/AbstractList"
abbrev cJ1_init : ByteArray := prog_37_method_1_code
def yJ1_init : MethodName := ⟨RJ1, "<init>", "()V"⟩
def dkwJ1_init_0 : List UInt8 := [42, 183, 0, 1, 42, 3, 181, 0, 7, 177]
abbrev dktJ1_init_0 : List UInt8 := dkwJ1_init_0 ++ []
theorem dksJ1_init_0 : cJ1_init.data.toList.drop 0 = dktJ1_init_0 := by decide +kernel
theorem dJ1_init_0 : decode cJ1_init 0 = .ok (.aload_n 0, 1) := dk_42 (dk_at dksJ1_init_0 0 rfl rfl)
theorem dJ1_init_1 : decode cJ1_init 1 = .ok (.invokespecial 1, 3) := dk_183 0 1 (dk_at dksJ1_init_0 1 rfl rfl)
theorem dJ1_init_4 : decode cJ1_init 4 = .ok (.aload_n 0, 1) := dk_42 (dk_at dksJ1_init_0 4 rfl rfl)
theorem dJ1_init_5 : decode cJ1_init 5 = .ok (.iconst 0, 1) := dk_3 (dk_at dksJ1_init_0 5 rfl rfl)
theorem dJ1_init_6 : decode cJ1_init 6 = .ok (.putfield 7, 3) := dk_181 0 7 (dk_at dksJ1_init_0 6 rfl rfl)
theorem dJ1_init_9 : decode cJ1_init 9 = .ok (.return_, 1) := dk_177 (dk_at dksJ1_init_0 9 rfl rfl)
theorem q176 : (Jvm.Cond.initialized "java/util/AbstractList") ∈ lw_all := lw_g (lw_at lw_m1 3 rfl) rfl
theorem q220 : (Jvm.Cond.instanceMethod ({ cls := "java/util/AbstractList", name := "<init>", desc := "()V" } : Jvm.MethodName)) ∈ lw_all := lw_g (lw_at lw_m1 47 rfl) rfl
theorem q221 : (Jvm.Cond.code ({ cls := "java/util/AbstractList", name := "<init>", desc := "()V" } : Jvm.MethodName) prog_37_method_1_code (1 : Nat) (Option.none : Option Jvm.ClassFile.FieldType)) ∈ lw_all := lw_g (lw_at lw_m1 48 rfl) rfl
theorem q222 : (Jvm.Cond.methodLink "java/util/AbstractList" (1 : Nat) ({ cls := "java/util/AbstractCollection", name := "<init>", desc := "()V" } : Jvm.MethodName)) ∈ lw_all := lw_g (lw_at lw_m1 49 rfl) rfl
theorem q234 : (Jvm.Cond.fieldLink "java/util/AbstractList" (7 : Nat) "java/util/AbstractList" "modCount" "I") ∈ lw_all := lw_g (lw_at lw_m1 61 rfl) rfl
theorem q243 : (Jvm.Cond.soleField "java/util/AbstractList" "modCount") ∈ lw_all := lw_g (lw_at lw_m1 70 rfl) rfl

/-! java/util/ArrayList -/
set_option maxRecDepth 100000
def RJ2 : String := "java/util/ArrayList"
def TJ2 : u_T := fun k => match k with
  | 0 => ("java/util/AbstractList", "modCount", "I", false)
  | 1 => ("java/util/ArrayList", "elementData", "[Ljava/lang/Object;", false)
  | _ => ("java/util/ArrayList", "size", "I", false)
def tyJ2 : Nat → FieldType := fun k => match k with
  | 0 => .int
  | 1 => .array (.object "java/lang/Object")
  | _ => .int
abbrev wsJ20 : List Cond := u_ws RJ2 TJ2 3
theorem nmJ2 : ∀ a, a < 3 → ∀ b, b < 3 → a ≠ b → (TJ2 a).2.1 ≠ (TJ2 b).2.1 := by decide +kernel
theorem tyJ2_ok : ∀ k, k < 3 → parseFieldDescriptor (TJ2 k).2.2.1 = some (tyJ2 k) := by decide +kernel
abbrev cJ2_init : ByteArray := prog_38_method_1_code
def yJ2_init : MethodName := ⟨RJ2, "<init>", "(I)V"⟩
def dkwJ2_init_2 : List UInt8 := [182, 0, 25, 27, 182, 0, 29, 182, 0, 32, 183, 0, 36, 191, 177]
abbrev dktJ2_init_2 : List UInt8 := dkwJ2_init_2 ++ []
def dkwJ2_init_1 : List UInt8 := [178, 0, 15, 181, 0, 9, 167, 0, 30, 187, 0, 18, 89, 187, 0, 20, 89, 183, 0, 22, 18, 23]
abbrev dktJ2_init_1 : List UInt8 := dkwJ2_init_1 ++ dktJ2_init_2
def dkwJ2_init_0 : List UInt8 := [42, 183, 0, 1, 27, 158, 0, 14, 42, 27, 189, 0, 7, 181, 0, 9, 167, 0, 44, 27, 154, 0, 13, 42]
abbrev dktJ2_init_0 : List UInt8 := dkwJ2_init_0 ++ dktJ2_init_1
theorem dksJ2_init_0 : cJ2_init.data.toList.drop 0 = dktJ2_init_0 := by decide +kernel
theorem dksJ2_init_1 : cJ2_init.data.toList.drop 24 = dktJ2_init_1 := dk_seg dksJ2_init_0 24 rfl rfl
theorem dksJ2_init_2 : cJ2_init.data.toList.drop 46 = dktJ2_init_2 := dk_seg dksJ2_init_1 22 rfl rfl
theorem dJ2_init_0 : decode cJ2_init 0 = .ok (.aload_n 0, 1) := dk_42 (dk_at dksJ2_init_0 0 rfl rfl)
theorem dJ2_init_1 : decode cJ2_init 1 = .ok (.invokespecial 1, 3) := dk_183 0 1 (dk_at dksJ2_init_0 1 rfl rfl)
theorem dJ2_init_4 : decode cJ2_init 4 = .ok (.iload_n 1, 1) := dk_27 (dk_at dksJ2_init_0 4 rfl rfl)
theorem dJ2_init_5 : decode cJ2_init 5 = .ok (.ifCond .le 14, 3) := dk_158 0 14 (dk_at dksJ2_init_0 5 rfl rfl)
theorem dJ2_init_8 : decode cJ2_init 8 = .ok (.aload_n 0, 1) := dk_42 (dk_at dksJ2_init_0 8 rfl rfl)
theorem dJ2_init_9 : decode cJ2_init 9 = .ok (.iload_n 1, 1) := dk_27 (dk_at dksJ2_init_0 9 rfl rfl)
theorem dJ2_init_10 : decode cJ2_init 10 = .ok (.anewarray 7, 3) := dk_189 0 7 (dk_at dksJ2_init_0 10 rfl rfl)
theorem dJ2_init_13 : decode cJ2_init 13 = .ok (.putfield 9, 3) := dk_181 0 9 (dk_at dksJ2_init_0 13 rfl rfl)
theorem dJ2_init_16 : decode cJ2_init 16 = .ok (.goto 44, 3) := dk_167 0 44 (dk_at dksJ2_init_0 16 rfl rfl)
theorem dJ2_init_19 : decode cJ2_init 19 = .ok (.iload_n 1, 1) := dk_27 (dk_at dksJ2_init_0 19 rfl rfl)
theorem dJ2_init_20 : decode cJ2_init 20 = .ok (.ifCond .ne 13, 3) := dk_154 0 13 (dk_at dksJ2_init_0 20 rfl rfl)
theorem dJ2_init_23 : decode cJ2_init 23 = .ok (.aload_n 0, 1) := dk_42 (dk_at dksJ2_init_0 23 rfl rfl)
theorem dJ2_init_24 : decode cJ2_init 24 = .ok (.getstatic 15, 3) := dk_178 0 15 (dk_at dksJ2_init_1 0 rfl rfl)
theorem dJ2_init_27 : decode cJ2_init 27 = .ok (.putfield 9, 3) := dk_181 0 9 (dk_at dksJ2_init_1 3 rfl rfl)
theorem dJ2_init_30 : decode cJ2_init 30 = .ok (.goto 30, 3) := dk_167 0 30 (dk_at dksJ2_init_1 6 rfl rfl)
theorem dJ2_init_33 : decode cJ2_init 33 = .ok (.new 18, 3) := dk_187 0 18 (dk_at dksJ2_init_1 9 rfl rfl)
theorem dJ2_init_36 : decode cJ2_init 36 = .ok (.dup, 1) := dk_89 (dk_at dksJ2_init_1 12 rfl rfl)
theorem dJ2_init_37 : decode cJ2_init 37 = .ok (.new 20, 3) := dk_187 0 20 (dk_at dksJ2_init_1 13 rfl rfl)
theorem dJ2_init_40 : decode cJ2_init 40 = .ok (.dup, 1) := dk_89 (dk_at dksJ2_init_1 16 rfl rfl)
theorem dJ2_init_41 : decode cJ2_init 41 = .ok (.invokespecial 22, 3) := dk_183 0 22 (dk_at dksJ2_init_1 17 rfl rfl)
theorem dJ2_init_44 : decode cJ2_init 44 = .ok (.ldc 23, 2) := dk_18 23 (dk_at dksJ2_init_1 20 rfl rfl)
theorem dJ2_init_46 : decode cJ2_init 46 = .ok (.invokevirtual 25, 3) := dk_182 0 25 (dk_at dksJ2_init_2 0 rfl rfl)
theorem dJ2_init_49 : decode cJ2_init 49 = .ok (.iload_n 1, 1) := dk_27 (dk_at dksJ2_init_2 3 rfl rfl)
theorem dJ2_init_50 : decode cJ2_init 50 = .ok (.invokevirtual 29, 3) := dk_182 0 29 (dk_at dksJ2_init_2 4 rfl rfl)
theorem dJ2_init_53 : decode cJ2_init 53 = .ok (.invokevirtual 32, 3) := dk_182 0 32 (dk_at dksJ2_init_2 7 rfl rfl)
theorem dJ2_init_56 : decode cJ2_init 56 = .ok (.invokespecial 36, 3) := dk_183 0 36 (dk_at dksJ2_init_2 10 rfl rfl)
theorem dJ2_init_59 : decode cJ2_init 59 = .ok (.athrow, 1) := dk_191 (dk_at dksJ2_init_2 13 rfl rfl)
theorem dJ2_init_60 : decode cJ2_init 60 = .ok (.return_, 1) := dk_177 (dk_at dksJ2_init_2 14 rfl rfl)
abbrev cJ2_size : ByteArray := prog_38_method_8_code
def yJ2_size : MethodName := ⟨RJ2, "size", "()I"⟩
theorem dJ2_size_0 : decode cJ2_size 0 = .ok (.aload_n 0, 1) := by decide +kernel
theorem dJ2_size_1 : decode cJ2_size 1 = .ok (.getfield 48, 3) := by decide +kernel
theorem dJ2_size_4 : decode cJ2_size 4 = .ok (.ireturn, 1) := by decide +kernel
abbrev cJ2_get : ByteArray := prog_38_method_20_code
def yJ2_get : MethodName := ⟨RJ2, "get", "(I)Ljava/lang/Object;"⟩
def dkwJ2_get_0 : List UInt8 := [27, 42, 180, 0, 48, 184, 0, 118, 87, 42, 27, 182, 0, 123, 176]
abbrev dktJ2_get_0 : List UInt8 := dkwJ2_get_0 ++ []
theorem dksJ2_get_0 : cJ2_get.data.toList.drop 0 = dktJ2_get_0 := by decide +kernel
theorem dJ2_get_0 : decode cJ2_get 0 = .ok (.iload_n 1, 1) := dk_27 (dk_at dksJ2_get_0 0 rfl rfl)
theorem dJ2_get_1 : decode cJ2_get 1 = .ok (.aload_n 0, 1) := dk_42 (dk_at dksJ2_get_0 1 rfl rfl)
theorem dJ2_get_2 : decode cJ2_get 2 = .ok (.getfield 48, 3) := dk_180 0 48 (dk_at dksJ2_get_0 2 rfl rfl)
theorem dJ2_get_5 : decode cJ2_get 5 = .ok (.invokestatic 118, 3) := dk_184 0 118 (dk_at dksJ2_get_0 5 rfl rfl)
theorem dJ2_get_8 : decode cJ2_get 8 = .ok (.pop, 1) := dk_87 (dk_at dksJ2_get_0 8 rfl rfl)
theorem dJ2_get_9 : decode cJ2_get 9 = .ok (.aload_n 0, 1) := dk_42 (dk_at dksJ2_get_0 9 rfl rfl)
theorem dJ2_get_10 : decode cJ2_get 10 = .ok (.iload_n 1, 1) := dk_27 (dk_at dksJ2_get_0 10 rfl rfl)
theorem dJ2_get_11 : decode cJ2_get 11 = .ok (.invokevirtual 123, 3) := dk_182 0 123 (dk_at dksJ2_get_0 11 rfl rfl)
theorem dJ2_get_14 : decode cJ2_get 14 = .ok (.areturn, 1) := dk_176 (dk_at dksJ2_get_0 14 rfl rfl)
abbrev cJ2_elementData : ByteArray := prog_38_method_18_code
def yJ2_elementData : MethodName := ⟨RJ2, "elementData", "(I)Ljava/lang/Object;"⟩
def dkwJ2_elementData_0 : List UInt8 := [42, 180, 0, 9, 27, 50, 176]
abbrev dktJ2_elementData_0 : List UInt8 := dkwJ2_elementData_0 ++ []
theorem dksJ2_elementData_0 : cJ2_elementData.data.toList.drop 0 = dktJ2_elementData_0 := by decide +kernel
theorem dJ2_elementData_0 : decode cJ2_elementData 0 = .ok (.aload_n 0, 1) := dk_42 (dk_at dksJ2_elementData_0 0 rfl rfl)
theorem dJ2_elementData_1 : decode cJ2_elementData 1 = .ok (.getfield 9, 3) := dk_180 0 9 (dk_at dksJ2_elementData_0 1 rfl rfl)
theorem dJ2_elementData_4 : decode cJ2_elementData 4 = .ok (.iload_n 1, 1) := dk_27 (dk_at dksJ2_elementData_0 4 rfl rfl)
theorem dJ2_elementData_5 : decode cJ2_elementData 5 = .ok (.aaload, 1) := dk_50 (dk_at dksJ2_elementData_0 5 rfl rfl)
theorem dJ2_elementData_6 : decode cJ2_elementData 6 = .ok (.areturn, 1) := dk_176 (dk_at dksJ2_elementData_0 6 rfl rfl)
abbrev cJ2_iterator : ByteArray := prog_38_method_55_code
def yJ2_iterator : MethodName := ⟨RJ2, "iterator", "()Ljava/util/Iterator;"⟩
def dkwJ2_iterator_0 : List UInt8 := [187, 1, 11, 89, 42, 183, 1, 13, 176]
abbrev dktJ2_iterator_0 : List UInt8 := dkwJ2_iterator_0 ++ []
theorem dksJ2_iterator_0 : cJ2_iterator.data.toList.drop 0 = dktJ2_iterator_0 := by decide +kernel
theorem dJ2_iterator_0 : decode cJ2_iterator 0 = .ok (.new 267, 3) := dk_187 1 11 (dk_at dksJ2_iterator_0 0 rfl rfl)
theorem dJ2_iterator_3 : decode cJ2_iterator 3 = .ok (.dup, 1) := dk_89 (dk_at dksJ2_iterator_0 3 rfl rfl)
theorem dJ2_iterator_4 : decode cJ2_iterator 4 = .ok (.aload_n 0, 1) := dk_42 (dk_at dksJ2_iterator_0 4 rfl rfl)
theorem dJ2_iterator_5 : decode cJ2_iterator 5 = .ok (.invokespecial 269, 3) := dk_183 1 13 (dk_at dksJ2_iterator_0 5 rfl rfl)
theorem dJ2_iterator_8 : decode cJ2_iterator 8 = .ok (.areturn, 1) := dk_176 (dk_at dksJ2_iterator_0 8 rfl rfl)
abbrev cJ2_add : ByteArray := prog_38_method_25_code
def yJ2_add : MethodName := ⟨RJ2, "add", "(Ljava/lang/Object;)Z"⟩
def dkwJ2_add_1 : List UInt8 := [172]
abbrev dktJ2_add_1 : List UInt8 := dkwJ2_add_1 ++ []
def dkwJ2_add_0 : List UInt8 := [42, 89, 180, 0, 63, 4, 96, 181, 0, 63, 42, 43, 42, 180, 0, 9, 42, 180, 0, 48, 182, 0, 131, 4]
abbrev dktJ2_add_0 : List UInt8 := dkwJ2_add_0 ++ dktJ2_add_1
theorem dksJ2_add_0 : cJ2_add.data.toList.drop 0 = dktJ2_add_0 := by decide +kernel
theorem dksJ2_add_1 : cJ2_add.data.toList.drop 24 = dktJ2_add_1 := dk_seg dksJ2_add_0 24 rfl rfl
theorem dJ2_add_0 : decode cJ2_add 0 = .ok (.aload_n 0, 1) := dk_42 (dk_at dksJ2_add_0 0 rfl rfl)
theorem dJ2_add_1 : decode cJ2_add 1 = .ok (.dup, 1) := dk_89 (dk_at dksJ2_add_0 1 rfl rfl)
theorem dJ2_add_2 : decode cJ2_add 2 = .ok (.getfield 63, 3) := dk_180 0 63 (dk_at dksJ2_add_0 2 rfl rfl)
theorem dJ2_add_5 : decode cJ2_add 5 = .ok (.iconst 1, 1) := dk_4 (dk_at dksJ2_add_0 5 rfl rfl)
theorem dJ2_add_6 : decode cJ2_add 6 = .ok (.iadd, 1) := dk_96 (dk_at dksJ2_add_0 6 rfl rfl)
theorem dJ2_add_7 : decode cJ2_add 7 = .ok (.putfield 63, 3) := dk_181 0 63 (dk_at dksJ2_add_0 7 rfl rfl)
theorem dJ2_add_10 : decode cJ2_add 10 = .ok (.aload_n 0, 1) := dk_42 (dk_at dksJ2_add_0 10 rfl rfl)
theorem dJ2_add_11 : decode cJ2_add 11 = .ok (.aload_n 1, 1) := dk_43 (dk_at dksJ2_add_0 11 rfl rfl)
theorem dJ2_add_12 : decode cJ2_add 12 = .ok (.aload_n 0, 1) := dk_42 (dk_at dksJ2_add_0 12 rfl rfl)
theorem dJ2_add_13 : decode cJ2_add 13 = .ok (.getfield 9, 3) := dk_180 0 9 (dk_at dksJ2_add_0 13 rfl rfl)
theorem dJ2_add_16 : decode cJ2_add 16 = .ok (.aload_n 0, 1) := dk_42 (dk_at dksJ2_add_0 16 rfl rfl)
theorem dJ2_add_17 : decode cJ2_add 17 = .ok (.getfield 48, 3) := dk_180 0 48 (dk_at dksJ2_add_0 17 rfl rfl)
theorem dJ2_add_20 : decode cJ2_add 20 = .ok (.invokevirtual 131, 3) := dk_182 0 131 (dk_at dksJ2_add_0 20 rfl rfl)
theorem dJ2_add_23 : decode cJ2_add 23 = .ok (.iconst 1, 1) := dk_4 (dk_at dksJ2_add_0 23 rfl rfl)
theorem dJ2_add_24 : decode cJ2_add 24 = .ok (.ireturn, 1) := dk_172 (dk_at dksJ2_add_1 0 rfl rfl)
abbrev cJ2_add_2 : ByteArray := prog_38_method_24_code
def yJ2_add_2 : MethodName := ⟨RJ2, "add", "(Ljava/lang/Object;[Ljava/lang/Object;I)V"⟩
def dkwJ2_add_2_0 : List UInt8 := [29, 44, 190, 160, 0, 8, 42, 182, 0, 129, 77, 44, 29, 43, 83, 42, 29, 4, 96, 181, 0, 48, 177]
abbrev dktJ2_add_2_0 : List UInt8 := dkwJ2_add_2_0 ++ []
theorem dksJ2_add_2_0 : cJ2_add_2.data.toList.drop 0 = dktJ2_add_2_0 := by decide +kernel
theorem dJ2_add_2_0 : decode cJ2_add_2 0 = .ok (.iload_n 3, 1) := dk_29 (dk_at dksJ2_add_2_0 0 rfl rfl)
theorem dJ2_add_2_1 : decode cJ2_add_2 1 = .ok (.aload_n 2, 1) := dk_44 (dk_at dksJ2_add_2_0 1 rfl rfl)
theorem dJ2_add_2_2 : decode cJ2_add_2 2 = .ok (.arraylength, 1) := dk_190 (dk_at dksJ2_add_2_0 2 rfl rfl)
theorem dJ2_add_2_3 : decode cJ2_add_2 3 = .ok (.if_icmp .ne 8, 3) := dk_160 0 8 (dk_at dksJ2_add_2_0 3 rfl rfl)
theorem dJ2_add_2_6 : decode cJ2_add_2 6 = .ok (.aload_n 0, 1) := dk_42 (dk_at dksJ2_add_2_0 6 rfl rfl)
theorem dJ2_add_2_7 : decode cJ2_add_2 7 = .ok (.invokevirtual 129, 3) := dk_182 0 129 (dk_at dksJ2_add_2_0 7 rfl rfl)
theorem dJ2_add_2_10 : decode cJ2_add_2 10 = .ok (.astore_n 2, 1) := dk_77 (dk_at dksJ2_add_2_0 10 rfl rfl)
theorem dJ2_add_2_11 : decode cJ2_add_2 11 = .ok (.aload_n 2, 1) := dk_44 (dk_at dksJ2_add_2_0 11 rfl rfl)
theorem dJ2_add_2_12 : decode cJ2_add_2 12 = .ok (.iload_n 3, 1) := dk_29 (dk_at dksJ2_add_2_0 12 rfl rfl)
theorem dJ2_add_2_13 : decode cJ2_add_2 13 = .ok (.aload_n 1, 1) := dk_43 (dk_at dksJ2_add_2_0 13 rfl rfl)
theorem dJ2_add_2_14 : decode cJ2_add_2 14 = .ok (.aastore, 1) := dk_83 (dk_at dksJ2_add_2_0 14 rfl rfl)
theorem dJ2_add_2_15 : decode cJ2_add_2 15 = .ok (.aload_n 0, 1) := dk_42 (dk_at dksJ2_add_2_0 15 rfl rfl)
theorem dJ2_add_2_16 : decode cJ2_add_2 16 = .ok (.iload_n 3, 1) := dk_29 (dk_at dksJ2_add_2_0 16 rfl rfl)
theorem dJ2_add_2_17 : decode cJ2_add_2 17 = .ok (.iconst 1, 1) := dk_4 (dk_at dksJ2_add_2_0 17 rfl rfl)
theorem dJ2_add_2_18 : decode cJ2_add_2 18 = .ok (.iadd, 1) := dk_96 (dk_at dksJ2_add_2_0 18 rfl rfl)
theorem dJ2_add_2_19 : decode cJ2_add_2 19 = .ok (.putfield 48, 3) := dk_181 0 48 (dk_at dksJ2_add_2_0 19 rfl rfl)
theorem dJ2_add_2_22 : decode cJ2_add_2 22 = .ok (.return_, 1) := dk_177 (dk_at dksJ2_add_2_0 22 rfl rfl)
abbrev cJ2_grow : ByteArray := prog_38_method_7_code
def yJ2_grow : MethodName := ⟨RJ2, "grow", "()[Ljava/lang/Object;"⟩
def dkwJ2_grow_0 : List UInt8 := [42, 42, 180, 0, 48, 4, 96, 182, 0, 69, 176]
abbrev dktJ2_grow_0 : List UInt8 := dkwJ2_grow_0 ++ []
theorem dksJ2_grow_0 : cJ2_grow.data.toList.drop 0 = dktJ2_grow_0 := by decide +kernel
theorem dJ2_grow_0 : decode cJ2_grow 0 = .ok (.aload_n 0, 1) := dk_42 (dk_at dksJ2_grow_0 0 rfl rfl)
theorem dJ2_grow_1 : decode cJ2_grow 1 = .ok (.aload_n 0, 1) := dk_42 (dk_at dksJ2_grow_0 1 rfl rfl)
theorem dJ2_grow_2 : decode cJ2_grow 2 = .ok (.getfield 48, 3) := dk_180 0 48 (dk_at dksJ2_grow_0 2 rfl rfl)
theorem dJ2_grow_5 : decode cJ2_grow 5 = .ok (.iconst 1, 1) := dk_4 (dk_at dksJ2_grow_0 5 rfl rfl)
theorem dJ2_grow_6 : decode cJ2_grow 6 = .ok (.iadd, 1) := dk_96 (dk_at dksJ2_grow_0 6 rfl rfl)
theorem dJ2_grow_7 : decode cJ2_grow 7 = .ok (.invokevirtual 69, 3) := dk_182 0 69 (dk_at dksJ2_grow_0 7 rfl rfl)
theorem dJ2_grow_10 : decode cJ2_grow 10 = .ok (.areturn, 1) := dk_176 (dk_at dksJ2_grow_0 10 rfl rfl)
abbrev cJ2_grow_2 : ByteArray := prog_38_method_6_code
def yJ2_grow_2 : MethodName := ⟨RJ2, "grow", "(I)[Ljava/lang/Object;"⟩
def dkwJ2_grow_2_2 : List UInt8 := [27, 184, 0, 79, 189, 0, 7, 90, 181, 0, 9, 176]
abbrev dktJ2_grow_2_2 : List UInt8 := dkwJ2_grow_2_2 ++ []
def dkwJ2_grow_2_1 : List UInt8 := [28, 4, 122, 184, 0, 73, 62, 42, 42, 180, 0, 9, 29, 184, 0, 66, 90, 181, 0, 9, 176, 42, 16, 10]
abbrev dktJ2_grow_2_1 : List UInt8 := dkwJ2_grow_2_1 ++ dktJ2_grow_2_2
def dkwJ2_grow_2_0 : List UInt8 := [42, 180, 0, 9, 190, 61, 28, 157, 0, 13, 42, 180, 0, 9, 178, 0, 39, 165, 0, 28, 28, 27, 28, 100]
abbrev dktJ2_grow_2_0 : List UInt8 := dkwJ2_grow_2_0 ++ dktJ2_grow_2_1
theorem dksJ2_grow_2_0 : cJ2_grow_2.data.toList.drop 0 = dktJ2_grow_2_0 := by decide +kernel
theorem dksJ2_grow_2_1 : cJ2_grow_2.data.toList.drop 24 = dktJ2_grow_2_1 := dk_seg dksJ2_grow_2_0 24 rfl rfl
theorem dksJ2_grow_2_2 : cJ2_grow_2.data.toList.drop 48 = dktJ2_grow_2_2 := dk_seg dksJ2_grow_2_1 24 rfl rfl
theorem dJ2_grow_2_0 : decode cJ2_grow_2 0 = .ok (.aload_n 0, 1) := dk_42 (dk_at dksJ2_grow_2_0 0 rfl rfl)
theorem dJ2_grow_2_1 : decode cJ2_grow_2 1 = .ok (.getfield 9, 3) := dk_180 0 9 (dk_at dksJ2_grow_2_0 1 rfl rfl)
theorem dJ2_grow_2_4 : decode cJ2_grow_2 4 = .ok (.arraylength, 1) := dk_190 (dk_at dksJ2_grow_2_0 4 rfl rfl)
theorem dJ2_grow_2_5 : decode cJ2_grow_2 5 = .ok (.istore_n 2, 1) := dk_61 (dk_at dksJ2_grow_2_0 5 rfl rfl)
theorem dJ2_grow_2_6 : decode cJ2_grow_2 6 = .ok (.iload_n 2, 1) := dk_28 (dk_at dksJ2_grow_2_0 6 rfl rfl)
theorem dJ2_grow_2_7 : decode cJ2_grow_2 7 = .ok (.ifCond .gt 13, 3) := dk_157 0 13 (dk_at dksJ2_grow_2_0 7 rfl rfl)
theorem dJ2_grow_2_10 : decode cJ2_grow_2 10 = .ok (.aload_n 0, 1) := dk_42 (dk_at dksJ2_grow_2_0 10 rfl rfl)
theorem dJ2_grow_2_11 : decode cJ2_grow_2 11 = .ok (.getfield 9, 3) := dk_180 0 9 (dk_at dksJ2_grow_2_0 11 rfl rfl)
theorem dJ2_grow_2_14 : decode cJ2_grow_2 14 = .ok (.getstatic 39, 3) := dk_178 0 39 (dk_at dksJ2_grow_2_0 14 rfl rfl)
theorem dJ2_grow_2_17 : decode cJ2_grow_2 17 = .ok (.if_acmp .eq 28, 3) := dk_165 0 28 (dk_at dksJ2_grow_2_0 17 rfl rfl)
theorem dJ2_grow_2_20 : decode cJ2_grow_2 20 = .ok (.iload_n 2, 1) := dk_28 (dk_at dksJ2_grow_2_0 20 rfl rfl)
theorem dJ2_grow_2_21 : decode cJ2_grow_2 21 = .ok (.iload_n 1, 1) := dk_27 (dk_at dksJ2_grow_2_0 21 rfl rfl)
theorem dJ2_grow_2_22 : decode cJ2_grow_2 22 = .ok (.iload_n 2, 1) := dk_28 (dk_at dksJ2_grow_2_0 22 rfl rfl)
theorem dJ2_grow_2_23 : decode cJ2_grow_2 23 = .ok (.isub, 1) := dk_100 (dk_at dksJ2_grow_2_0 23 rfl rfl)
theorem dJ2_grow_2_24 : decode cJ2_grow_2 24 = .ok (.iload_n 2, 1) := dk_28 (dk_at dksJ2_grow_2_1 0 rfl rfl)
theorem dJ2_grow_2_25 : decode cJ2_grow_2 25 = .ok (.iconst 1, 1) := dk_4 (dk_at dksJ2_grow_2_1 1 rfl rfl)
theorem dJ2_grow_2_26 : decode cJ2_grow_2 26 = .ok (.ishr, 1) := dk_122 (dk_at dksJ2_grow_2_1 2 rfl rfl)
theorem dJ2_grow_2_27 : decode cJ2_grow_2 27 = .ok (.invokestatic 73, 3) := dk_184 0 73 (dk_at dksJ2_grow_2_1 3 rfl rfl)
theorem dJ2_grow_2_30 : decode cJ2_grow_2 30 = .ok (.istore_n 3, 1) := dk_62 (dk_at dksJ2_grow_2_1 6 rfl rfl)
theorem dJ2_grow_2_31 : decode cJ2_grow_2 31 = .ok (.aload_n 0, 1) := dk_42 (dk_at dksJ2_grow_2_1 7 rfl rfl)
theorem dJ2_grow_2_32 : decode cJ2_grow_2 32 = .ok (.aload_n 0, 1) := dk_42 (dk_at dksJ2_grow_2_1 8 rfl rfl)
theorem dJ2_grow_2_33 : decode cJ2_grow_2 33 = .ok (.getfield 9, 3) := dk_180 0 9 (dk_at dksJ2_grow_2_1 9 rfl rfl)
theorem dJ2_grow_2_36 : decode cJ2_grow_2 36 = .ok (.iload_n 3, 1) := dk_29 (dk_at dksJ2_grow_2_1 12 rfl rfl)
theorem dJ2_grow_2_37 : decode cJ2_grow_2 37 = .ok (.invokestatic 66, 3) := dk_184 0 66 (dk_at dksJ2_grow_2_1 13 rfl rfl)
theorem dJ2_grow_2_40 : decode cJ2_grow_2 40 = .ok (.dup_x1, 1) := dk_90 (dk_at dksJ2_grow_2_1 16 rfl rfl)
theorem dJ2_grow_2_41 : decode cJ2_grow_2 41 = .ok (.putfield 9, 3) := dk_181 0 9 (dk_at dksJ2_grow_2_1 17 rfl rfl)
theorem dJ2_grow_2_44 : decode cJ2_grow_2 44 = .ok (.areturn, 1) := dk_176 (dk_at dksJ2_grow_2_1 20 rfl rfl)
theorem dJ2_grow_2_45 : decode cJ2_grow_2 45 = .ok (.aload_n 0, 1) := dk_42 (dk_at dksJ2_grow_2_1 21 rfl rfl)
theorem dJ2_grow_2_46 : decode cJ2_grow_2 46 = .ok (.bipush 10, 2) := dk_16 10 (dk_at dksJ2_grow_2_1 22 rfl rfl)
theorem dJ2_grow_2_48 : decode cJ2_grow_2 48 = .ok (.iload_n 1, 1) := dk_27 (dk_at dksJ2_grow_2_2 0 rfl rfl)
theorem dJ2_grow_2_49 : decode cJ2_grow_2 49 = .ok (.invokestatic 79, 3) := dk_184 0 79 (dk_at dksJ2_grow_2_2 1 rfl rfl)
theorem dJ2_grow_2_52 : decode cJ2_grow_2 52 = .ok (.anewarray 7, 3) := dk_189 0 7 (dk_at dksJ2_grow_2_2 4 rfl rfl)
theorem dJ2_grow_2_55 : decode cJ2_grow_2 55 = .ok (.dup_x1, 1) := dk_90 (dk_at dksJ2_grow_2_2 7 rfl rfl)
theorem dJ2_grow_2_56 : decode cJ2_grow_2 56 = .ok (.putfield 9, 3) := dk_181 0 9 (dk_at dksJ2_grow_2_2 8 rfl rfl)
theorem dJ2_grow_2_59 : decode cJ2_grow_2 59 = .ok (.areturn, 1) := dk_176 (dk_at dksJ2_grow_2_2 11 rfl rfl)
abbrev cJ2_clear : ByteArray := prog_38_method_40_code
def yJ2_clear : MethodName := ⟨RJ2, "clear", "()V"⟩
def dkwJ2_clear_1 : List UInt8 := [181, 0, 48, 62, 29, 28, 162, 0, 13, 43, 29, 1, 83, 132, 3, 1, 167, 255, 244, 177]
abbrev dktJ2_clear_1 : List UInt8 := dkwJ2_clear_1 ++ []
def dkwJ2_clear_0 : List UInt8 := [42, 89, 180, 0, 63, 4, 96, 181, 0, 63, 42, 180, 0, 9, 76, 42, 180, 0, 48, 61, 42, 3, 90]
abbrev dktJ2_clear_0 : List UInt8 := dkwJ2_clear_0 ++ dktJ2_clear_1
theorem dksJ2_clear_0 : cJ2_clear.data.toList.drop 0 = dktJ2_clear_0 := by decide +kernel
theorem dksJ2_clear_1 : cJ2_clear.data.toList.drop 23 = dktJ2_clear_1 := dk_seg dksJ2_clear_0 23 rfl rfl
theorem dJ2_clear_0 : decode cJ2_clear 0 = .ok (.aload_n 0, 1) := dk_42 (dk_at dksJ2_clear_0 0 rfl rfl)
theorem dJ2_clear_1 : decode cJ2_clear 1 = .ok (.dup, 1) := dk_89 (dk_at dksJ2_clear_0 1 rfl rfl)
theorem dJ2_clear_2 : decode cJ2_clear 2 = .ok (.getfield 63, 3) := dk_180 0 63 (dk_at dksJ2_clear_0 2 rfl rfl)
theorem dJ2_clear_5 : decode cJ2_clear 5 = .ok (.iconst 1, 1) := dk_4 (dk_at dksJ2_clear_0 5 rfl rfl)
theorem dJ2_clear_6 : decode cJ2_clear 6 = .ok (.iadd, 1) := dk_96 (dk_at dksJ2_clear_0 6 rfl rfl)
theorem dJ2_clear_7 : decode cJ2_clear 7 = .ok (.putfield 63, 3) := dk_181 0 63 (dk_at dksJ2_clear_0 7 rfl rfl)
theorem dJ2_clear_10 : decode cJ2_clear 10 = .ok (.aload_n 0, 1) := dk_42 (dk_at dksJ2_clear_0 10 rfl rfl)
theorem dJ2_clear_11 : decode cJ2_clear 11 = .ok (.getfield 9, 3) := dk_180 0 9 (dk_at dksJ2_clear_0 11 rfl rfl)
theorem dJ2_clear_14 : decode cJ2_clear 14 = .ok (.astore_n 1, 1) := dk_76 (dk_at dksJ2_clear_0 14 rfl rfl)
theorem dJ2_clear_15 : decode cJ2_clear 15 = .ok (.aload_n 0, 1) := dk_42 (dk_at dksJ2_clear_0 15 rfl rfl)
theorem dJ2_clear_16 : decode cJ2_clear 16 = .ok (.getfield 48, 3) := dk_180 0 48 (dk_at dksJ2_clear_0 16 rfl rfl)
theorem dJ2_clear_19 : decode cJ2_clear 19 = .ok (.istore_n 2, 1) := dk_61 (dk_at dksJ2_clear_0 19 rfl rfl)
theorem dJ2_clear_20 : decode cJ2_clear 20 = .ok (.aload_n 0, 1) := dk_42 (dk_at dksJ2_clear_0 20 rfl rfl)
theorem dJ2_clear_21 : decode cJ2_clear 21 = .ok (.iconst 0, 1) := dk_3 (dk_at dksJ2_clear_0 21 rfl rfl)
theorem dJ2_clear_22 : decode cJ2_clear 22 = .ok (.dup_x1, 1) := dk_90 (dk_at dksJ2_clear_0 22 rfl rfl)
theorem dJ2_clear_23 : decode cJ2_clear 23 = .ok (.putfield 48, 3) := dk_181 0 48 (dk_at dksJ2_clear_1 0 rfl rfl)
theorem dJ2_clear_26 : decode cJ2_clear 26 = .ok (.istore_n 3, 1) := dk_62 (dk_at dksJ2_clear_1 3 rfl rfl)
theorem dJ2_clear_27 : decode cJ2_clear 27 = .ok (.iload_n 3, 1) := dk_29 (dk_at dksJ2_clear_1 4 rfl rfl)
theorem dJ2_clear_28 : decode cJ2_clear 28 = .ok (.iload_n 2, 1) := dk_28 (dk_at dksJ2_clear_1 5 rfl rfl)
theorem dJ2_clear_29 : decode cJ2_clear 29 = .ok (.if_icmp .ge 13, 3) := dk_162 0 13 (dk_at dksJ2_clear_1 6 rfl rfl)
theorem dJ2_clear_32 : decode cJ2_clear 32 = .ok (.aload_n 1, 1) := dk_43 (dk_at dksJ2_clear_1 9 rfl rfl)
theorem dJ2_clear_33 : decode cJ2_clear 33 = .ok (.iload_n 3, 1) := dk_29 (dk_at dksJ2_clear_1 10 rfl rfl)
theorem dJ2_clear_34 : decode cJ2_clear 34 = .ok (.aconst_null, 1) := dk_1 (dk_at dksJ2_clear_1 11 rfl rfl)
theorem dJ2_clear_35 : decode cJ2_clear 35 = .ok (.aastore, 1) := dk_83 (dk_at dksJ2_clear_1 12 rfl rfl)
theorem dJ2_clear_36 : decode cJ2_clear 36 = .ok (.iinc 3 1, 3) := dk_132 3 1 (dk_at dksJ2_clear_1 13 rfl rfl)
theorem dJ2_clear_39 : decode cJ2_clear 39 = .ok (.goto (-12), 3) := dk_167 255 244 (dk_at dksJ2_clear_1 16 rfl rfl)
theorem dJ2_clear_42 : decode cJ2_clear 42 = .ok (.return_, 1) := dk_177 (dk_at dksJ2_clear_1 19 rfl rfl)
abbrev cJ2_addAll : ByteArray := prog_38_method_41_code
def yJ2_addAll : MethodName := ⟨RJ2, "addAll", "(Ljava/util/Collection;)Z"⟩
def dkwJ2_addAll_3 : List UInt8 := [181, 0, 48, 4, 172]
abbrev dktJ2_addAll_3 : List UInt8 := dkwJ2_addAll_3 ++ []
def dkwJ2_addAll_2 : List UInt8 := [21, 5, 29, 96, 182, 0, 69, 58, 4, 44, 3, 25, 4, 21, 5, 29, 184, 0, 112, 42, 21, 5, 29, 96]
abbrev dktJ2_addAll_2 : List UInt8 := dkwJ2_addAll_2 ++ dktJ2_addAll_3
def dkwJ2_addAll_1 : List UInt8 := [3, 172, 29, 42, 180, 0, 9, 89, 58, 4, 190, 42, 180, 0, 48, 89, 54, 5, 100, 164, 0, 13, 42]
abbrev dktJ2_addAll_1 : List UInt8 := dkwJ2_addAll_1 ++ dktJ2_addAll_2
def dkwJ2_addAll_0 : List UInt8 := [43, 185, 0, 42, 1, 0, 77, 42, 89, 180, 0, 63, 4, 96, 181, 0, 63, 44, 190, 62, 29, 154, 0, 5]
abbrev dktJ2_addAll_0 : List UInt8 := dkwJ2_addAll_0 ++ dktJ2_addAll_1
theorem dksJ2_addAll_0 : cJ2_addAll.data.toList.drop 0 = dktJ2_addAll_0 := by decide +kernel
theorem dksJ2_addAll_1 : cJ2_addAll.data.toList.drop 24 = dktJ2_addAll_1 := dk_seg dksJ2_addAll_0 24 rfl rfl
theorem dksJ2_addAll_2 : cJ2_addAll.data.toList.drop 47 = dktJ2_addAll_2 := dk_seg dksJ2_addAll_1 23 rfl rfl
theorem dksJ2_addAll_3 : cJ2_addAll.data.toList.drop 71 = dktJ2_addAll_3 := dk_seg dksJ2_addAll_2 24 rfl rfl
theorem dJ2_addAll_0 : decode cJ2_addAll 0 = .ok (.aload_n 1, 1) := dk_43 (dk_at dksJ2_addAll_0 0 rfl rfl)
theorem dJ2_addAll_1 : decode cJ2_addAll 1 = .ok (.invokeinterface 42 1, 5) := by decide +kernel
theorem dJ2_addAll_6 : decode cJ2_addAll 6 = .ok (.astore_n 2, 1) := dk_77 (dk_at dksJ2_addAll_0 6 rfl rfl)
theorem dJ2_addAll_7 : decode cJ2_addAll 7 = .ok (.aload_n 0, 1) := dk_42 (dk_at dksJ2_addAll_0 7 rfl rfl)
theorem dJ2_addAll_8 : decode cJ2_addAll 8 = .ok (.dup, 1) := dk_89 (dk_at dksJ2_addAll_0 8 rfl rfl)
theorem dJ2_addAll_9 : decode cJ2_addAll 9 = .ok (.getfield 63, 3) := dk_180 0 63 (dk_at dksJ2_addAll_0 9 rfl rfl)
theorem dJ2_addAll_12 : decode cJ2_addAll 12 = .ok (.iconst 1, 1) := dk_4 (dk_at dksJ2_addAll_0 12 rfl rfl)
theorem dJ2_addAll_13 : decode cJ2_addAll 13 = .ok (.iadd, 1) := dk_96 (dk_at dksJ2_addAll_0 13 rfl rfl)
theorem dJ2_addAll_14 : decode cJ2_addAll 14 = .ok (.putfield 63, 3) := dk_181 0 63 (dk_at dksJ2_addAll_0 14 rfl rfl)
theorem dJ2_addAll_17 : decode cJ2_addAll 17 = .ok (.aload_n 2, 1) := dk_44 (dk_at dksJ2_addAll_0 17 rfl rfl)
theorem dJ2_addAll_18 : decode cJ2_addAll 18 = .ok (.arraylength, 1) := dk_190 (dk_at dksJ2_addAll_0 18 rfl rfl)
theorem dJ2_addAll_19 : decode cJ2_addAll 19 = .ok (.istore_n 3, 1) := dk_62 (dk_at dksJ2_addAll_0 19 rfl rfl)
theorem dJ2_addAll_20 : decode cJ2_addAll 20 = .ok (.iload_n 3, 1) := dk_29 (dk_at dksJ2_addAll_0 20 rfl rfl)
theorem dJ2_addAll_21 : decode cJ2_addAll 21 = .ok (.ifCond .ne 5, 3) := dk_154 0 5 (dk_at dksJ2_addAll_0 21 rfl rfl)
theorem dJ2_addAll_24 : decode cJ2_addAll 24 = .ok (.iconst 0, 1) := dk_3 (dk_at dksJ2_addAll_1 0 rfl rfl)
theorem dJ2_addAll_25 : decode cJ2_addAll 25 = .ok (.ireturn, 1) := dk_172 (dk_at dksJ2_addAll_1 1 rfl rfl)
theorem dJ2_addAll_26 : decode cJ2_addAll 26 = .ok (.iload_n 3, 1) := dk_29 (dk_at dksJ2_addAll_1 2 rfl rfl)
theorem dJ2_addAll_27 : decode cJ2_addAll 27 = .ok (.aload_n 0, 1) := dk_42 (dk_at dksJ2_addAll_1 3 rfl rfl)
theorem dJ2_addAll_28 : decode cJ2_addAll 28 = .ok (.getfield 9, 3) := dk_180 0 9 (dk_at dksJ2_addAll_1 4 rfl rfl)
theorem dJ2_addAll_31 : decode cJ2_addAll 31 = .ok (.dup, 1) := dk_89 (dk_at dksJ2_addAll_1 7 rfl rfl)
theorem dJ2_addAll_32 : decode cJ2_addAll 32 = .ok (.astore 4, 2) := dk_58 4 (dk_at dksJ2_addAll_1 8 rfl rfl)
theorem dJ2_addAll_34 : decode cJ2_addAll 34 = .ok (.arraylength, 1) := dk_190 (dk_at dksJ2_addAll_1 10 rfl rfl)
theorem dJ2_addAll_35 : decode cJ2_addAll 35 = .ok (.aload_n 0, 1) := dk_42 (dk_at dksJ2_addAll_1 11 rfl rfl)
theorem dJ2_addAll_36 : decode cJ2_addAll 36 = .ok (.getfield 48, 3) := dk_180 0 48 (dk_at dksJ2_addAll_1 12 rfl rfl)
theorem dJ2_addAll_39 : decode cJ2_addAll 39 = .ok (.dup, 1) := dk_89 (dk_at dksJ2_addAll_1 15 rfl rfl)
theorem dJ2_addAll_40 : decode cJ2_addAll 40 = .ok (.istore 5, 2) := dk_54 5 (dk_at dksJ2_addAll_1 16 rfl rfl)
theorem dJ2_addAll_42 : decode cJ2_addAll 42 = .ok (.isub, 1) := dk_100 (dk_at dksJ2_addAll_1 18 rfl rfl)
theorem dJ2_addAll_43 : decode cJ2_addAll 43 = .ok (.if_icmp .le 13, 3) := dk_164 0 13 (dk_at dksJ2_addAll_1 19 rfl rfl)
theorem dJ2_addAll_46 : decode cJ2_addAll 46 = .ok (.aload_n 0, 1) := dk_42 (dk_at dksJ2_addAll_1 22 rfl rfl)
theorem dJ2_addAll_47 : decode cJ2_addAll 47 = .ok (.iload 5, 2) := dk_21 5 (dk_at dksJ2_addAll_2 0 rfl rfl)
theorem dJ2_addAll_49 : decode cJ2_addAll 49 = .ok (.iload_n 3, 1) := dk_29 (dk_at dksJ2_addAll_2 2 rfl rfl)
theorem dJ2_addAll_50 : decode cJ2_addAll 50 = .ok (.iadd, 1) := dk_96 (dk_at dksJ2_addAll_2 3 rfl rfl)
theorem dJ2_addAll_51 : decode cJ2_addAll 51 = .ok (.invokevirtual 69, 3) := dk_182 0 69 (dk_at dksJ2_addAll_2 4 rfl rfl)
theorem dJ2_addAll_54 : decode cJ2_addAll 54 = .ok (.astore 4, 2) := dk_58 4 (dk_at dksJ2_addAll_2 7 rfl rfl)
theorem dJ2_addAll_56 : decode cJ2_addAll 56 = .ok (.aload_n 2, 1) := dk_44 (dk_at dksJ2_addAll_2 9 rfl rfl)
theorem dJ2_addAll_57 : decode cJ2_addAll 57 = .ok (.iconst 0, 1) := dk_3 (dk_at dksJ2_addAll_2 10 rfl rfl)
theorem dJ2_addAll_58 : decode cJ2_addAll 58 = .ok (.aload 4, 2) := dk_25 4 (dk_at dksJ2_addAll_2 11 rfl rfl)
theorem dJ2_addAll_60 : decode cJ2_addAll 60 = .ok (.iload 5, 2) := dk_21 5 (dk_at dksJ2_addAll_2 13 rfl rfl)
theorem dJ2_addAll_62 : decode cJ2_addAll 62 = .ok (.iload_n 3, 1) := dk_29 (dk_at dksJ2_addAll_2 15 rfl rfl)
theorem dJ2_addAll_63 : decode cJ2_addAll 63 = .ok (.invokestatic 112, 3) := dk_184 0 112 (dk_at dksJ2_addAll_2 16 rfl rfl)
theorem dJ2_addAll_66 : decode cJ2_addAll 66 = .ok (.aload_n 0, 1) := dk_42 (dk_at dksJ2_addAll_2 19 rfl rfl)
theorem dJ2_addAll_67 : decode cJ2_addAll 67 = .ok (.iload 5, 2) := dk_21 5 (dk_at dksJ2_addAll_2 20 rfl rfl)
theorem dJ2_addAll_69 : decode cJ2_addAll 69 = .ok (.iload_n 3, 1) := dk_29 (dk_at dksJ2_addAll_2 22 rfl rfl)
theorem dJ2_addAll_70 : decode cJ2_addAll 70 = .ok (.iadd, 1) := dk_96 (dk_at dksJ2_addAll_2 23 rfl rfl)
theorem dJ2_addAll_71 : decode cJ2_addAll 71 = .ok (.putfield 48, 3) := dk_181 0 48 (dk_at dksJ2_addAll_3 0 rfl rfl)
theorem dJ2_addAll_74 : decode cJ2_addAll 74 = .ok (.iconst 1, 1) := dk_4 (dk_at dksJ2_addAll_3 3 rfl rfl)
theorem dJ2_addAll_75 : decode cJ2_addAll 75 = .ok (.ireturn, 1) := dk_172 (dk_at dksJ2_addAll_3 4 rfl rfl)
abbrev cJ2_toArray : ByteArray := prog_38_method_16_code
def yJ2_toArray : MethodName := ⟨RJ2, "toArray", "()[Ljava/lang/Object;"⟩
def dkwJ2_toArray_0 : List UInt8 := [42, 180, 0, 9, 42, 180, 0, 48, 184, 0, 66, 176]
abbrev dktJ2_toArray_0 : List UInt8 := dkwJ2_toArray_0 ++ []
theorem dksJ2_toArray_0 : cJ2_toArray.data.toList.drop 0 = dktJ2_toArray_0 := by decide +kernel
theorem dJ2_toArray_0 : decode cJ2_toArray 0 = .ok (.aload_n 0, 1) := dk_42 (dk_at dksJ2_toArray_0 0 rfl rfl)
theorem dJ2_toArray_1 : decode cJ2_toArray 1 = .ok (.getfield 9, 3) := dk_180 0 9 (dk_at dksJ2_toArray_0 1 rfl rfl)
theorem dJ2_toArray_4 : decode cJ2_toArray 4 = .ok (.aload_n 0, 1) := dk_42 (dk_at dksJ2_toArray_0 4 rfl rfl)
theorem dJ2_toArray_5 : decode cJ2_toArray 5 = .ok (.getfield 48, 3) := dk_180 0 48 (dk_at dksJ2_toArray_0 5 rfl rfl)
theorem dJ2_toArray_8 : decode cJ2_toArray 8 = .ok (.invokestatic 66, 3) := dk_184 0 66 (dk_at dksJ2_toArray_0 8 rfl rfl)
theorem dJ2_toArray_11 : decode cJ2_toArray 11 = .ok (.areturn, 1) := dk_176 (dk_at dksJ2_toArray_0 11 rfl rfl)
abbrev cJ2_remove : ByteArray := prog_38_method_29_code
def yJ2_remove : MethodName := ⟨RJ2, "remove", "(I)Ljava/lang/Object;"⟩
def dkwJ2_remove_1 : List UInt8 := [45, 176]
abbrev dktJ2_remove_1 : List UInt8 := dkwJ2_remove_1 ++ []
def dkwJ2_remove_0 : List UInt8 := [27, 42, 180, 0, 48, 184, 0, 118, 87, 42, 180, 0, 9, 77, 44, 27, 50, 78, 42, 44, 27, 182, 0, 144]
abbrev dktJ2_remove_0 : List UInt8 := dkwJ2_remove_0 ++ dktJ2_remove_1
theorem dksJ2_remove_0 : cJ2_remove.data.toList.drop 0 = dktJ2_remove_0 := by decide +kernel
theorem dksJ2_remove_1 : cJ2_remove.data.toList.drop 24 = dktJ2_remove_1 := dk_seg dksJ2_remove_0 24 rfl rfl
theorem dJ2_remove_0 : decode cJ2_remove 0 = .ok (.iload_n 1, 1) := dk_27 (dk_at dksJ2_remove_0 0 rfl rfl)
theorem dJ2_remove_1 : decode cJ2_remove 1 = .ok (.aload_n 0, 1) := dk_42 (dk_at dksJ2_remove_0 1 rfl rfl)
theorem dJ2_remove_2 : decode cJ2_remove 2 = .ok (.getfield 48, 3) := dk_180 0 48 (dk_at dksJ2_remove_0 2 rfl rfl)
theorem dJ2_remove_5 : decode cJ2_remove 5 = .ok (.invokestatic 118, 3) := dk_184 0 118 (dk_at dksJ2_remove_0 5 rfl rfl)
theorem dJ2_remove_8 : decode cJ2_remove 8 = .ok (.pop, 1) := dk_87 (dk_at dksJ2_remove_0 8 rfl rfl)
theorem dJ2_remove_9 : decode cJ2_remove 9 = .ok (.aload_n 0, 1) := dk_42 (dk_at dksJ2_remove_0 9 rfl rfl)
theorem dJ2_remove_10 : decode cJ2_remove 10 = .ok (.getfield 9, 3) := dk_180 0 9 (dk_at dksJ2_remove_0 10 rfl rfl)
theorem dJ2_remove_13 : decode cJ2_remove 13 = .ok (.astore_n 2, 1) := dk_77 (dk_at dksJ2_remove_0 13 rfl rfl)
theorem dJ2_remove_14 : decode cJ2_remove 14 = .ok (.aload_n 2, 1) := dk_44 (dk_at dksJ2_remove_0 14 rfl rfl)
theorem dJ2_remove_15 : decode cJ2_remove 15 = .ok (.iload_n 1, 1) := dk_27 (dk_at dksJ2_remove_0 15 rfl rfl)
theorem dJ2_remove_16 : decode cJ2_remove 16 = .ok (.aaload, 1) := dk_50 (dk_at dksJ2_remove_0 16 rfl rfl)
theorem dJ2_remove_17 : decode cJ2_remove 17 = .ok (.astore_n 3, 1) := dk_78 (dk_at dksJ2_remove_0 17 rfl rfl)
theorem dJ2_remove_18 : decode cJ2_remove 18 = .ok (.aload_n 0, 1) := dk_42 (dk_at dksJ2_remove_0 18 rfl rfl)
theorem dJ2_remove_19 : decode cJ2_remove 19 = .ok (.aload_n 2, 1) := dk_44 (dk_at dksJ2_remove_0 19 rfl rfl)
theorem dJ2_remove_20 : decode cJ2_remove 20 = .ok (.iload_n 1, 1) := dk_27 (dk_at dksJ2_remove_0 20 rfl rfl)
theorem dJ2_remove_21 : decode cJ2_remove 21 = .ok (.invokevirtual 144, 3) := dk_182 0 144 (dk_at dksJ2_remove_0 21 rfl rfl)
theorem dJ2_remove_24 : decode cJ2_remove 24 = .ok (.aload_n 3, 1) := dk_45 (dk_at dksJ2_remove_1 0 rfl rfl)
theorem dJ2_remove_25 : decode cJ2_remove 25 = .ok (.areturn, 1) := dk_176 (dk_at dksJ2_remove_1 1 rfl rfl)
abbrev cJ2_fastRemove : ByteArray := prog_38_method_39_code
def yJ2_fastRemove : MethodName := ⟨RJ2, "fastRemove", "([Ljava/lang/Object;I)V"⟩
def dkwJ2_fastRemove_1 : List UInt8 := [4, 96, 43, 28, 29, 28, 100, 184, 0, 112, 43, 42, 29, 90, 181, 0, 48, 1, 83, 177]
abbrev dktJ2_fastRemove_1 : List UInt8 := dkwJ2_fastRemove_1 ++ []
def dkwJ2_fastRemove_0 : List UInt8 := [42, 89, 180, 0, 63, 4, 96, 181, 0, 63, 42, 180, 0, 48, 4, 100, 89, 62, 28, 164, 0, 15, 43, 28]
abbrev dktJ2_fastRemove_0 : List UInt8 := dkwJ2_fastRemove_0 ++ dktJ2_fastRemove_1
theorem dksJ2_fastRemove_0 : cJ2_fastRemove.data.toList.drop 0 = dktJ2_fastRemove_0 := by decide +kernel
theorem dksJ2_fastRemove_1 : cJ2_fastRemove.data.toList.drop 24 = dktJ2_fastRemove_1 := dk_seg dksJ2_fastRemove_0 24 rfl rfl
theorem dJ2_fastRemove_0 : decode cJ2_fastRemove 0 = .ok (.aload_n 0, 1) := dk_42 (dk_at dksJ2_fastRemove_0 0 rfl rfl)
theorem dJ2_fastRemove_1 : decode cJ2_fastRemove 1 = .ok (.dup, 1) := dk_89 (dk_at dksJ2_fastRemove_0 1 rfl rfl)
theorem dJ2_fastRemove_2 : decode cJ2_fastRemove 2 = .ok (.getfield 63, 3) := dk_180 0 63 (dk_at dksJ2_fastRemove_0 2 rfl rfl)
theorem dJ2_fastRemove_5 : decode cJ2_fastRemove 5 = .ok (.iconst 1, 1) := dk_4 (dk_at dksJ2_fastRemove_0 5 rfl rfl)
theorem dJ2_fastRemove_6 : decode cJ2_fastRemove 6 = .ok (.iadd, 1) := dk_96 (dk_at dksJ2_fastRemove_0 6 rfl rfl)
theorem dJ2_fastRemove_7 : decode cJ2_fastRemove 7 = .ok (.putfield 63, 3) := dk_181 0 63 (dk_at dksJ2_fastRemove_0 7 rfl rfl)
theorem dJ2_fastRemove_10 : decode cJ2_fastRemove 10 = .ok (.aload_n 0, 1) := dk_42 (dk_at dksJ2_fastRemove_0 10 rfl rfl)
theorem dJ2_fastRemove_11 : decode cJ2_fastRemove 11 = .ok (.getfield 48, 3) := dk_180 0 48 (dk_at dksJ2_fastRemove_0 11 rfl rfl)
theorem dJ2_fastRemove_14 : decode cJ2_fastRemove 14 = .ok (.iconst 1, 1) := dk_4 (dk_at dksJ2_fastRemove_0 14 rfl rfl)
theorem dJ2_fastRemove_15 : decode cJ2_fastRemove 15 = .ok (.isub, 1) := dk_100 (dk_at dksJ2_fastRemove_0 15 rfl rfl)
theorem dJ2_fastRemove_16 : decode cJ2_fastRemove 16 = .ok (.dup, 1) := dk_89 (dk_at dksJ2_fastRemove_0 16 rfl rfl)
theorem dJ2_fastRemove_17 : decode cJ2_fastRemove 17 = .ok (.istore_n 3, 1) := dk_62 (dk_at dksJ2_fastRemove_0 17 rfl rfl)
theorem dJ2_fastRemove_18 : decode cJ2_fastRemove 18 = .ok (.iload_n 2, 1) := dk_28 (dk_at dksJ2_fastRemove_0 18 rfl rfl)
theorem dJ2_fastRemove_19 : decode cJ2_fastRemove 19 = .ok (.if_icmp .le 15, 3) := dk_164 0 15 (dk_at dksJ2_fastRemove_0 19 rfl rfl)
theorem dJ2_fastRemove_22 : decode cJ2_fastRemove 22 = .ok (.aload_n 1, 1) := dk_43 (dk_at dksJ2_fastRemove_0 22 rfl rfl)
theorem dJ2_fastRemove_23 : decode cJ2_fastRemove 23 = .ok (.iload_n 2, 1) := dk_28 (dk_at dksJ2_fastRemove_0 23 rfl rfl)
theorem dJ2_fastRemove_24 : decode cJ2_fastRemove 24 = .ok (.iconst 1, 1) := dk_4 (dk_at dksJ2_fastRemove_1 0 rfl rfl)
theorem dJ2_fastRemove_25 : decode cJ2_fastRemove 25 = .ok (.iadd, 1) := dk_96 (dk_at dksJ2_fastRemove_1 1 rfl rfl)
theorem dJ2_fastRemove_26 : decode cJ2_fastRemove 26 = .ok (.aload_n 1, 1) := dk_43 (dk_at dksJ2_fastRemove_1 2 rfl rfl)
theorem dJ2_fastRemove_27 : decode cJ2_fastRemove 27 = .ok (.iload_n 2, 1) := dk_28 (dk_at dksJ2_fastRemove_1 3 rfl rfl)
theorem dJ2_fastRemove_28 : decode cJ2_fastRemove 28 = .ok (.iload_n 3, 1) := dk_29 (dk_at dksJ2_fastRemove_1 4 rfl rfl)
theorem dJ2_fastRemove_29 : decode cJ2_fastRemove 29 = .ok (.iload_n 2, 1) := dk_28 (dk_at dksJ2_fastRemove_1 5 rfl rfl)
theorem dJ2_fastRemove_30 : decode cJ2_fastRemove 30 = .ok (.isub, 1) := dk_100 (dk_at dksJ2_fastRemove_1 6 rfl rfl)
theorem dJ2_fastRemove_31 : decode cJ2_fastRemove 31 = .ok (.invokestatic 112, 3) := dk_184 0 112 (dk_at dksJ2_fastRemove_1 7 rfl rfl)
theorem dJ2_fastRemove_34 : decode cJ2_fastRemove 34 = .ok (.aload_n 1, 1) := dk_43 (dk_at dksJ2_fastRemove_1 10 rfl rfl)
theorem dJ2_fastRemove_35 : decode cJ2_fastRemove 35 = .ok (.aload_n 0, 1) := dk_42 (dk_at dksJ2_fastRemove_1 11 rfl rfl)
theorem dJ2_fastRemove_36 : decode cJ2_fastRemove 36 = .ok (.iload_n 3, 1) := dk_29 (dk_at dksJ2_fastRemove_1 12 rfl rfl)
theorem dJ2_fastRemove_37 : decode cJ2_fastRemove 37 = .ok (.dup_x1, 1) := dk_90 (dk_at dksJ2_fastRemove_1 13 rfl rfl)
theorem dJ2_fastRemove_38 : decode cJ2_fastRemove 38 = .ok (.putfield 48, 3) := dk_181 0 48 (dk_at dksJ2_fastRemove_1 14 rfl rfl)
theorem dJ2_fastRemove_41 : decode cJ2_fastRemove 41 = .ok (.aconst_null, 1) := dk_1 (dk_at dksJ2_fastRemove_1 17 rfl rfl)
theorem dJ2_fastRemove_42 : decode cJ2_fastRemove 42 = .ok (.aastore, 1) := dk_83 (dk_at dksJ2_fastRemove_1 18 rfl rfl)
theorem dJ2_fastRemove_43 : decode cJ2_fastRemove 43 = .ok (.return_, 1) := dk_177 (dk_at dksJ2_fastRemove_1 19 rfl rfl)
abbrev cJ2_isEmpty : ByteArray := prog_38_method_9_code
def yJ2_isEmpty : MethodName := ⟨RJ2, "isEmpty", "()Z"⟩
def dkwJ2_isEmpty_0 : List UInt8 := [42, 180, 0, 48, 154, 0, 7, 4, 167, 0, 4, 3, 172]
abbrev dktJ2_isEmpty_0 : List UInt8 := dkwJ2_isEmpty_0 ++ []
theorem dksJ2_isEmpty_0 : cJ2_isEmpty.data.toList.drop 0 = dktJ2_isEmpty_0 := by decide +kernel
theorem dJ2_isEmpty_0 : decode cJ2_isEmpty 0 = .ok (.aload_n 0, 1) := dk_42 (dk_at dksJ2_isEmpty_0 0 rfl rfl)
theorem dJ2_isEmpty_1 : decode cJ2_isEmpty 1 = .ok (.getfield 48, 3) := dk_180 0 48 (dk_at dksJ2_isEmpty_0 1 rfl rfl)
theorem dJ2_isEmpty_4 : decode cJ2_isEmpty 4 = .ok (.ifCond .ne 7, 3) := dk_154 0 7 (dk_at dksJ2_isEmpty_0 4 rfl rfl)
theorem dJ2_isEmpty_7 : decode cJ2_isEmpty 7 = .ok (.iconst 1, 1) := dk_4 (dk_at dksJ2_isEmpty_0 7 rfl rfl)
theorem dJ2_isEmpty_8 : decode cJ2_isEmpty 8 = .ok (.goto 4, 3) := dk_167 0 4 (dk_at dksJ2_isEmpty_0 8 rfl rfl)
theorem dJ2_isEmpty_11 : decode cJ2_isEmpty 11 = .ok (.iconst 0, 1) := dk_3 (dk_at dksJ2_isEmpty_0 11 rfl rfl)
theorem dJ2_isEmpty_12 : decode cJ2_isEmpty 12 = .ok (.ireturn, 1) := dk_172 (dk_at dksJ2_isEmpty_0 12 rfl rfl)
theorem q177 : (Jvm.Cond.initialized "java/util/ArrayList") ∈ lw_all := lw_g (lw_at lw_m1 4 rfl) rfl
theorem q215 : (Jvm.Cond.instantiable "java/util/ArrayList" (3 : Nat)) ∈ lw_all := lw_g (lw_at lw_m1 42 rfl) rfl
theorem q217 : (Jvm.Cond.instanceMethod ({ cls := "java/util/ArrayList", name := "<init>", desc := "(I)V" } : Jvm.MethodName)) ∈ lw_all := lw_g (lw_at lw_m1 44 rfl) rfl
theorem q218 : (Jvm.Cond.code ({ cls := "java/util/ArrayList", name := "<init>", desc := "(I)V" } : Jvm.MethodName) prog_38_method_1_code (2 : Nat) (Option.none : Option Jvm.ClassFile.FieldType)) ∈ lw_all := lw_g (lw_at lw_m1 45 rfl) rfl
theorem q219 : (Jvm.Cond.methodLink "java/util/ArrayList" (1 : Nat) ({ cls := "java/util/AbstractList", name := "<init>", desc := "()V" } : Jvm.MethodName)) ∈ lw_all := lw_g (lw_at lw_m1 46 rfl) rfl
theorem q226 : (Jvm.Cond.classLink "java/util/ArrayList" (7 : Nat) "java/lang/Object") ∈ lw_all := lw_g (lw_at lw_m1 53 rfl) rfl
theorem q228 : (Jvm.Cond.fieldLink "java/util/ArrayList" (15 : Nat) "java/util/ArrayList" "EMPTY_ELEMENTDATA" "[Ljava/lang/Object;") ∈ lw_all := lw_g (lw_at lw_m1 55 rfl) rfl
theorem q229 : (Jvm.Cond.laysStatic "java/util/ArrayList" "EMPTY_ELEMENTDATA" "[Ljava/lang/Object;") ∈ lw_tbl := lw_at lw_m1 56 rfl
theorem q230 : (Jvm.Cond.fieldLink "java/util/ArrayList" (9 : Nat) "java/util/ArrayList" "elementData" "[Ljava/lang/Object;") ∈ lw_all := lw_g (lw_at lw_m1 57 rfl) rfl
theorem q233 : (Jvm.Cond.fieldLink "java/util/ArrayList" (48 : Nat) "java/util/ArrayList" "size" "I") ∈ lw_all := lw_g (lw_at lw_m1 60 rfl) rfl
theorem q236 : (Jvm.Cond.sameField "java/util/ArrayList" "java/util/AbstractList" "modCount" "I") ∈ lw_all := lw_g (lw_at lw_m1 63 rfl) rfl
theorem q237 : (Jvm.Cond.fieldLink "java/util/ArrayList" (63 : Nat) "java/util/ArrayList" "modCount" "I") ∈ lw_all := lw_g (lw_at lw_m1 64 rfl) rfl
theorem q238 : (Jvm.Cond.lays "java/util/ArrayList" "java/util/ArrayList" "elementData" "[Ljava/lang/Object;") ∈ lw_all := lw_g (lw_at lw_m1 65 rfl) rfl
theorem q239 : (Jvm.Cond.soleField "java/util/ArrayList" "elementData") ∈ lw_all := lw_g (lw_at lw_m1 66 rfl) rfl
theorem q240 : (Jvm.Cond.lays "java/util/ArrayList" "java/util/ArrayList" "size" "I") ∈ lw_all := lw_g (lw_at lw_m1 67 rfl) rfl
theorem q241 : (Jvm.Cond.soleField "java/util/ArrayList" "size") ∈ lw_all := lw_g (lw_at lw_m1 68 rfl) rfl
theorem q242 : (Jvm.Cond.lays "java/util/ArrayList" "java/util/AbstractList" "modCount" "I") ∈ lw_all := lw_g (lw_at lw_m1 69 rfl) rfl
theorem q244 : (Jvm.Cond.superclass "java/util/ArrayList" "java/util/AbstractList") ∈ lw_all := lw_g (lw_at lw_m1 71 rfl) rfl
theorem q278 : (Jvm.Cond.instanceMethod ({ cls := "java/util/ArrayList", name := "size", desc := "()I" } : Jvm.MethodName)) ∈ lw_all := lw_g (lw_at lw_m1 105 rfl) rfl
theorem q279 : (Jvm.Cond.selects "java/util/ArrayList" ({ cls := "java/util/ArrayList", name := "size", desc := "()I" } : Jvm.MethodName) ({ cls := "java/util/ArrayList", name := "size", desc := "()I" } : Jvm.MethodName)) ∈ lw_all := lw_g (lw_at lw_m1 106 rfl) rfl
theorem q280 : (Jvm.Cond.code ({ cls := "java/util/ArrayList", name := "size", desc := "()I" } : Jvm.MethodName) prog_38_method_8_code (1 : Nat) (Option.some Jvm.ClassFile.FieldType.int)) ∈ lw_all := lw_g (lw_at lw_m1 107 rfl) rfl
theorem q293 : (Jvm.Cond.instanceMethod ({ cls := "java/util/ArrayList", name := "get", desc := "(I)Ljava/lang/Object;" } : Jvm.MethodName)) ∈ lw_all := lw_g (lw_at lw_m1 120 rfl) rfl
theorem q294 : (Jvm.Cond.selects "java/util/ArrayList" ({ cls := "java/util/ArrayList", name := "get", desc := "(I)Ljava/lang/Object;" } : Jvm.MethodName) ({ cls := "java/util/ArrayList", name := "get", desc := "(I)Ljava/lang/Object;" } : Jvm.MethodName)) ∈ lw_all := lw_g (lw_at lw_m1 121 rfl) rfl
theorem q295 : (Jvm.Cond.code ({ cls := "java/util/ArrayList", name := "get", desc := "(I)Ljava/lang/Object;" } : Jvm.MethodName) prog_38_method_20_code (2 : Nat) (Option.some (Jvm.ClassFile.FieldType.object "java/lang/Object"))) ∈ lw_all := lw_g (lw_at lw_m1 122 rfl) rfl
theorem q296 : (Jvm.Cond.methodLink "java/util/ArrayList" (118 : Nat) ({ cls := "java/util/Objects", name := "checkIndex", desc := "(II)I" } : Jvm.MethodName)) ∈ lw_all := lw_g (lw_at lw_m1 123 rfl) rfl
theorem q302 : (Jvm.Cond.methodLink "java/util/ArrayList" (123 : Nat) ({ cls := "java/util/ArrayList", name := "elementData", desc := "(I)Ljava/lang/Object;" } : Jvm.MethodName)) ∈ lw_all := lw_g (lw_at lw_m1 129 rfl) rfl
theorem q303 : (Jvm.Cond.instanceMethod ({ cls := "java/util/ArrayList", name := "elementData", desc := "(I)Ljava/lang/Object;" } : Jvm.MethodName)) ∈ lw_all := lw_g (lw_at lw_m1 130 rfl) rfl
theorem q304 : (Jvm.Cond.selects "java/util/ArrayList" ({ cls := "java/util/ArrayList", name := "elementData", desc := "(I)Ljava/lang/Object;" } : Jvm.MethodName) ({ cls := "java/util/ArrayList", name := "elementData", desc := "(I)Ljava/lang/Object;" } : Jvm.MethodName)) ∈ lw_all := lw_g (lw_at lw_m1 131 rfl) rfl
theorem q305 : (Jvm.Cond.code ({ cls := "java/util/ArrayList", name := "elementData", desc := "(I)Ljava/lang/Object;" } : Jvm.MethodName) prog_38_method_18_code (2 : Nat) (Option.some (Jvm.ClassFile.FieldType.object "java/lang/Object"))) ∈ lw_all := lw_g (lw_at lw_m1 132 rfl) rfl
theorem q978 : (Jvm.Cond.instanceMethod ({ cls := "java/util/ArrayList", name := "iterator", desc := "()Ljava/util/Iterator;" } : Jvm.MethodName)) ∈ lw_all := lw_g (lw_at lw_m4 85 rfl) rfl
theorem q979 : (Jvm.Cond.selects "java/util/ArrayList" ({ cls := "java/util/ArrayList", name := "iterator", desc := "()Ljava/util/Iterator;" } : Jvm.MethodName) ({ cls := "java/util/ArrayList", name := "iterator", desc := "()Ljava/util/Iterator;" } : Jvm.MethodName)) ∈ lw_all := lw_g (lw_at lw_m4 86 rfl) rfl
theorem q980 : (Jvm.Cond.code ({ cls := "java/util/ArrayList", name := "iterator", desc := "()Ljava/util/Iterator;" } : Jvm.MethodName) prog_38_method_55_code (1 : Nat) (Option.some (Jvm.ClassFile.FieldType.object "java/util/Iterator"))) ∈ lw_all := lw_g (lw_at lw_m4 87 rfl) rfl
theorem q981 : (Jvm.Cond.classLink "java/util/ArrayList" (267 : Nat) "java/util/ArrayList$Itr") ∈ lw_all := lw_g (lw_at lw_m4 88 rfl) rfl
theorem q983 : (Jvm.Cond.methodLink "java/util/ArrayList" (269 : Nat) ({ cls := "java/util/ArrayList$Itr", name := "<init>", desc := "(Ljava/util/ArrayList;)V" } : Jvm.MethodName)) ∈ lw_all := lw_g (lw_at lw_m4 90 rfl) rfl
theorem q1079 : (Jvm.Cond.instanceMethod ({ cls := "java/util/ArrayList", name := "add", desc := "(Ljava/lang/Object;)Z" } : Jvm.MethodName)) ∈ lw_all := lw_g (lw_at lw_m4 186 rfl) rfl
theorem q1080 : (Jvm.Cond.selects "java/util/ArrayList" ({ cls := "java/util/ArrayList", name := "add", desc := "(Ljava/lang/Object;)Z" } : Jvm.MethodName) ({ cls := "java/util/ArrayList", name := "add", desc := "(Ljava/lang/Object;)Z" } : Jvm.MethodName)) ∈ lw_all := lw_g (lw_at lw_m4 187 rfl) rfl
theorem q1081 : (Jvm.Cond.code ({ cls := "java/util/ArrayList", name := "add", desc := "(Ljava/lang/Object;)Z" } : Jvm.MethodName) prog_38_method_25_code (2 : Nat) (Option.some Jvm.ClassFile.FieldType.boolean)) ∈ lw_all := lw_g (lw_at lw_m4 188 rfl) rfl
theorem q1082 : (Jvm.Cond.methodLink "java/util/ArrayList" (131 : Nat) ({ cls := "java/util/ArrayList", name := "add", desc := "(Ljava/lang/Object;[Ljava/lang/Object;I)V" } : Jvm.MethodName)) ∈ lw_all := lw_g (lw_at lw_m4 189 rfl) rfl
theorem q1083 : (Jvm.Cond.privateMethod ({ cls := "java/util/ArrayList", name := "add", desc := "(Ljava/lang/Object;[Ljava/lang/Object;I)V" } : Jvm.MethodName)) ∈ lw_tbl := lw_at lw_m4 190 rfl
theorem q1084 : (Jvm.Cond.instanceMethod ({ cls := "java/util/ArrayList", name := "add", desc := "(Ljava/lang/Object;[Ljava/lang/Object;I)V" } : Jvm.MethodName)) ∈ lw_all := lw_g (lw_at lw_m4 191 rfl) rfl
theorem q1085 : (Jvm.Cond.code ({ cls := "java/util/ArrayList", name := "add", desc := "(Ljava/lang/Object;[Ljava/lang/Object;I)V" } : Jvm.MethodName) prog_38_method_24_code (4 : Nat) (Option.none : Option Jvm.ClassFile.FieldType)) ∈ lw_all := lw_g (lw_at lw_m4 192 rfl) rfl
theorem q1086 : (Jvm.Cond.methodLink "java/util/ArrayList" (129 : Nat) ({ cls := "java/util/ArrayList", name := "grow", desc := "()[Ljava/lang/Object;" } : Jvm.MethodName)) ∈ lw_all := lw_g (lw_at lw_m4 193 rfl) rfl
theorem q1087 : (Jvm.Cond.privateMethod ({ cls := "java/util/ArrayList", name := "grow", desc := "()[Ljava/lang/Object;" } : Jvm.MethodName)) ∈ lw_tbl := lw_at lw_m4 194 rfl
theorem q1088 : (Jvm.Cond.instanceMethod ({ cls := "java/util/ArrayList", name := "grow", desc := "()[Ljava/lang/Object;" } : Jvm.MethodName)) ∈ lw_all := lw_g (lw_at lw_m4 195 rfl) rfl
theorem q1089 : (Jvm.Cond.code ({ cls := "java/util/ArrayList", name := "grow", desc := "()[Ljava/lang/Object;" } : Jvm.MethodName) prog_38_method_7_code (1 : Nat) (Option.some (Jvm.ClassFile.FieldType.array (Jvm.ClassFile.FieldType.object "java/lang/Object")))) ∈ lw_all := lw_g (lw_at lw_m4 196 rfl) rfl
theorem q1090 : (Jvm.Cond.methodLink "java/util/ArrayList" (69 : Nat) ({ cls := "java/util/ArrayList", name := "grow", desc := "(I)[Ljava/lang/Object;" } : Jvm.MethodName)) ∈ lw_all := lw_g (lw_at lw_m4 197 rfl) rfl
theorem q1091 : (Jvm.Cond.privateMethod ({ cls := "java/util/ArrayList", name := "grow", desc := "(I)[Ljava/lang/Object;" } : Jvm.MethodName)) ∈ lw_tbl := lw_at lw_m4 198 rfl
theorem q1092 : (Jvm.Cond.instanceMethod ({ cls := "java/util/ArrayList", name := "grow", desc := "(I)[Ljava/lang/Object;" } : Jvm.MethodName)) ∈ lw_all := lw_g (lw_at lw_m4 199 rfl) rfl
theorem q1093 : (Jvm.Cond.code ({ cls := "java/util/ArrayList", name := "grow", desc := "(I)[Ljava/lang/Object;" } : Jvm.MethodName) prog_38_method_6_code (4 : Nat) (Option.some (Jvm.ClassFile.FieldType.array (Jvm.ClassFile.FieldType.object "java/lang/Object")))) ∈ lw_all := lw_g (lw_at lw_m4 200 rfl) rfl
theorem q1094 : (Jvm.Cond.fieldLink "java/util/ArrayList" (39 : Nat) "java/util/ArrayList" "DEFAULTCAPACITY_EMPTY_ELEMENTDATA" "[Ljava/lang/Object;") ∈ lw_all := lw_g (lw_at lw_m4 201 rfl) rfl
theorem q1095 : (Jvm.Cond.laysStatic "java/util/ArrayList" "DEFAULTCAPACITY_EMPTY_ELEMENTDATA" "[Ljava/lang/Object;") ∈ lw_tbl := lw_at lw_m4 202 rfl
theorem q1096 : (Jvm.Cond.methodLink "java/util/ArrayList" (73 : Nat) ({ cls := "jdk/internal/util/ArraysSupport", name := "newLength", desc := "(III)I" } : Jvm.MethodName)) ∈ lw_all := lw_g (lw_at lw_m4 203 rfl) rfl
theorem q1097 : (Jvm.Cond.methodLink "java/util/ArrayList" (66 : Nat) ({ cls := "java/util/Arrays", name := "copyOf", desc := "([Ljava/lang/Object;I)[Ljava/lang/Object;" } : Jvm.MethodName)) ∈ lw_all := lw_g (lw_at lw_m4 204 rfl) rfl
theorem q1116 : (Jvm.Cond.selects "java/util/ArrayList" ({ cls := "java/lang/Object", name := "getClass", desc := "()Ljava/lang/Class;" } : Jvm.MethodName) ({ cls := "java/lang/Object", name := "getClass", desc := "()Ljava/lang/Class;" } : Jvm.MethodName)) ∈ lw_all := lw_g (lw_at lw_m4 223 rfl) rfl
theorem q1125 : (Jvm.Cond.methodLink "java/util/ArrayList" (79 : Nat) ({ cls := "java/lang/Math", name := "max", desc := "(II)I" } : Jvm.MethodName)) ∈ lw_all := lw_g (lw_at lw_m4 232 rfl) rfl
theorem q1172 : (Jvm.Cond.instanceMethod ({ cls := "java/util/ArrayList", name := "clear", desc := "()V" } : Jvm.MethodName)) ∈ lw_all := lw_g (lw_at lw_m5 39 rfl) rfl
theorem q1173 : (Jvm.Cond.selects "java/util/ArrayList" ({ cls := "java/util/ArrayList", name := "clear", desc := "()V" } : Jvm.MethodName) ({ cls := "java/util/ArrayList", name := "clear", desc := "()V" } : Jvm.MethodName)) ∈ lw_all := lw_g (lw_at lw_m5 40 rfl) rfl
theorem q1174 : (Jvm.Cond.code ({ cls := "java/util/ArrayList", name := "clear", desc := "()V" } : Jvm.MethodName) prog_38_method_40_code (4 : Nat) (Option.none : Option Jvm.ClassFile.FieldType)) ∈ lw_all := lw_g (lw_at lw_m5 41 rfl) rfl
theorem q1384 : (Jvm.Cond.instanceMethod ({ cls := "java/util/ArrayList", name := "addAll", desc := "(Ljava/util/Collection;)Z" } : Jvm.MethodName)) ∈ lw_all := lw_g (lw_at lw_m6 11 rfl) rfl
theorem q1385 : (Jvm.Cond.selects "java/util/ArrayList" ({ cls := "java/util/ArrayList", name := "addAll", desc := "(Ljava/util/Collection;)Z" } : Jvm.MethodName) ({ cls := "java/util/ArrayList", name := "addAll", desc := "(Ljava/util/Collection;)Z" } : Jvm.MethodName)) ∈ lw_all := lw_g (lw_at lw_m6 12 rfl) rfl
theorem q1386 : (Jvm.Cond.code ({ cls := "java/util/ArrayList", name := "addAll", desc := "(Ljava/util/Collection;)Z" } : Jvm.MethodName) prog_38_method_41_code (6 : Nat) (Option.some Jvm.ClassFile.FieldType.boolean)) ∈ lw_all := lw_g (lw_at lw_m6 13 rfl) rfl
theorem q1387 : (Jvm.Cond.interfaceEntry "java/util/ArrayList" (42 : Nat)) ∈ lw_tbl := lw_at lw_m6 14 rfl
theorem q1388 : (Jvm.Cond.methodLink "java/util/ArrayList" (42 : Nat) ({ cls := "java/util/Collection", name := "toArray", desc := "()[Ljava/lang/Object;" } : Jvm.MethodName)) ∈ lw_all := lw_g (lw_at lw_m6 15 rfl) rfl
theorem q1391 : (Jvm.Cond.castable "java/util/ArrayList" "java/util/Collection") ∈ lw_tbl := lw_at lw_m6 18 rfl
theorem q1392 : (Jvm.Cond.selects "java/util/ArrayList" ({ cls := "java/util/Collection", name := "toArray", desc := "()[Ljava/lang/Object;" } : Jvm.MethodName) ({ cls := "java/util/ArrayList", name := "toArray", desc := "()[Ljava/lang/Object;" } : Jvm.MethodName)) ∈ lw_all := lw_g (lw_at lw_m6 19 rfl) rfl
theorem q1393 : (Jvm.Cond.unhidden "java/util/ArrayList" "toArray" "()[Ljava/lang/Object;") ∈ lw_tbl := lw_at lw_m6 20 rfl
theorem q1394 : (Jvm.Cond.instanceMethod ({ cls := "java/util/ArrayList", name := "toArray", desc := "()[Ljava/lang/Object;" } : Jvm.MethodName)) ∈ lw_all := lw_g (lw_at lw_m6 21 rfl) rfl
theorem q1395 : (Jvm.Cond.publicMethod ({ cls := "java/util/ArrayList", name := "toArray", desc := "()[Ljava/lang/Object;" } : Jvm.MethodName)) ∈ lw_tbl := lw_at lw_m6 22 rfl
theorem q1396 : (Jvm.Cond.code ({ cls := "java/util/ArrayList", name := "toArray", desc := "()[Ljava/lang/Object;" } : Jvm.MethodName) prog_38_method_16_code (1 : Nat) (Option.some (Jvm.ClassFile.FieldType.array (Jvm.ClassFile.FieldType.object "java/lang/Object")))) ∈ lw_all := lw_g (lw_at lw_m6 23 rfl) rfl
theorem q1397 : (Jvm.Cond.methodLink "java/util/ArrayList" (112 : Nat) ({ cls := "java/lang/System", name := "arraycopy", desc := "(Ljava/lang/Object;ILjava/lang/Object;II)V" } : Jvm.MethodName)) ∈ lw_all := lw_g (lw_at lw_m6 24 rfl) rfl
theorem q1793 : (Jvm.Cond.instanceMethod ({ cls := "java/util/ArrayList", name := "remove", desc := "(I)Ljava/lang/Object;" } : Jvm.MethodName)) ∈ lw_all := lw_g (lw_at lw_m7 180 rfl) rfl
theorem q1794 : (Jvm.Cond.selects "java/util/ArrayList" ({ cls := "java/util/ArrayList", name := "remove", desc := "(I)Ljava/lang/Object;" } : Jvm.MethodName) ({ cls := "java/util/ArrayList", name := "remove", desc := "(I)Ljava/lang/Object;" } : Jvm.MethodName)) ∈ lw_all := lw_g (lw_at lw_m7 181 rfl) rfl
theorem q1795 : (Jvm.Cond.code ({ cls := "java/util/ArrayList", name := "remove", desc := "(I)Ljava/lang/Object;" } : Jvm.MethodName) prog_38_method_29_code (4 : Nat) (Option.some (Jvm.ClassFile.FieldType.object "java/lang/Object"))) ∈ lw_all := lw_g (lw_at lw_m7 182 rfl) rfl
theorem q1796 : (Jvm.Cond.methodLink "java/util/ArrayList" (144 : Nat) ({ cls := "java/util/ArrayList", name := "fastRemove", desc := "([Ljava/lang/Object;I)V" } : Jvm.MethodName)) ∈ lw_all := lw_g (lw_at lw_m7 183 rfl) rfl
theorem q1797 : (Jvm.Cond.privateMethod ({ cls := "java/util/ArrayList", name := "fastRemove", desc := "([Ljava/lang/Object;I)V" } : Jvm.MethodName)) ∈ lw_tbl := lw_at lw_m7 184 rfl
theorem q1798 : (Jvm.Cond.instanceMethod ({ cls := "java/util/ArrayList", name := "fastRemove", desc := "([Ljava/lang/Object;I)V" } : Jvm.MethodName)) ∈ lw_all := lw_g (lw_at lw_m7 185 rfl) rfl
theorem q1799 : (Jvm.Cond.code ({ cls := "java/util/ArrayList", name := "fastRemove", desc := "([Ljava/lang/Object;I)V" } : Jvm.MethodName) prog_38_method_39_code (4 : Nat) (Option.none : Option Jvm.ClassFile.FieldType)) ∈ lw_all := lw_g (lw_at lw_m7 186 rfl) rfl
theorem q1848 : (Jvm.Cond.instanceMethod ({ cls := "java/util/ArrayList", name := "isEmpty", desc := "()Z" } : Jvm.MethodName)) ∈ lw_all := lw_g (lw_at lw_m7 235 rfl) rfl
theorem q1849 : (Jvm.Cond.selects "java/util/ArrayList" ({ cls := "java/util/ArrayList", name := "isEmpty", desc := "()Z" } : Jvm.MethodName) ({ cls := "java/util/ArrayList", name := "isEmpty", desc := "()Z" } : Jvm.MethodName)) ∈ lw_all := lw_g (lw_at lw_m7 236 rfl) rfl
theorem q1850 : (Jvm.Cond.code ({ cls := "java/util/ArrayList", name := "isEmpty", desc := "()Z" } : Jvm.MethodName) prog_38_method_9_code (1 : Nat) (Option.some Jvm.ClassFile.FieldType.boolean)) ∈ lw_all := lw_g (lw_at lw_m7 237 rfl) rfl
theorem q2665 : (Jvm.Cond.castable "java/util/ArrayList" "java/lang/Object") ∈ lw_tbl := lw_at lw_m11 92 rfl
theorem in_J2 : ∀ w ∈ wsJ20, w ∈ lw_all := lw_in wsJ20 [242, 238, 240] (by decide +kernel) (by decide +kernel)

/-! java/util/Objects -/
set_option maxRecDepth 100000
def RJ3 : String := "java/util/Objects"
abbrev cJ3_checkIndex : ByteArray := prog_45_method_17_code
def yJ3_checkIndex : MethodName := ⟨RJ3, "checkIndex", "(II)I"⟩
def dkwJ3_checkIndex_0 : List UInt8 := [26, 27, 1, 184, 0, 105, 172]
abbrev dktJ3_checkIndex_0 : List UInt8 := dkwJ3_checkIndex_0 ++ []
theorem dksJ3_checkIndex_0 : cJ3_checkIndex.data.toList.drop 0 = dktJ3_checkIndex_0 := by decide +kernel
theorem dJ3_checkIndex_0 : decode cJ3_checkIndex 0 = .ok (.iload_n 0, 1) := dk_26 (dk_at dksJ3_checkIndex_0 0 rfl rfl)
theorem dJ3_checkIndex_1 : decode cJ3_checkIndex 1 = .ok (.iload_n 1, 1) := dk_27 (dk_at dksJ3_checkIndex_0 1 rfl rfl)
theorem dJ3_checkIndex_2 : decode cJ3_checkIndex 2 = .ok (.aconst_null, 1) := dk_1 (dk_at dksJ3_checkIndex_0 2 rfl rfl)
theorem dJ3_checkIndex_3 : decode cJ3_checkIndex 3 = .ok (.invokestatic 105, 3) := dk_184 0 105 (dk_at dksJ3_checkIndex_0 3 rfl rfl)
theorem dJ3_checkIndex_6 : decode cJ3_checkIndex 6 = .ok (.ireturn, 1) := dk_172 (dk_at dksJ3_checkIndex_0 6 rfl rfl)
theorem q180 : (Jvm.Cond.initialized "java/util/Objects") ∈ lw_all := lw_g (lw_at lw_m1 7 rfl) rfl
theorem q297 : (Jvm.Cond.static ({ cls := "java/util/Objects", name := "checkIndex", desc := "(II)I" } : Jvm.MethodName)) ∈ lw_all := lw_g (lw_at lw_m1 124 rfl) rfl
theorem q298 : (Jvm.Cond.code ({ cls := "java/util/Objects", name := "checkIndex", desc := "(II)I" } : Jvm.MethodName) prog_45_method_17_code (2 : Nat) (Option.some Jvm.ClassFile.FieldType.int)) ∈ lw_all := lw_g (lw_at lw_m1 125 rfl) rfl
theorem q299 : (Jvm.Cond.methodLink "java/util/Objects" (105 : Nat) ({ cls := "jdk/internal/util/Preconditions", name := "checkIndex", desc := "(IILjava/util/function/BiFunction;)I" } : Jvm.MethodName)) ∈ lw_all := lw_g (lw_at lw_m1 126 rfl) rfl

/-! jdk/internal/util/Preconditions -/
set_option maxRecDepth 100000
def RJ4 : String := "jdk/internal/util/Preconditions"
abbrev cJ4_checkIndex : ByteArray := prog_49_method_11_code
def yJ4_checkIndex : MethodName := ⟨RJ4, "checkIndex", "(IILjava/util/function/BiFunction;)I"⟩
def dkwJ4_checkIndex_0 : List UInt8 := [26, 155, 0, 8, 26, 27, 161, 0, 10, 44, 26, 27, 184, 0, 95, 191, 26, 172]
abbrev dktJ4_checkIndex_0 : List UInt8 := dkwJ4_checkIndex_0 ++ []
theorem dksJ4_checkIndex_0 : cJ4_checkIndex.data.toList.drop 0 = dktJ4_checkIndex_0 := by decide +kernel
theorem dJ4_checkIndex_0 : decode cJ4_checkIndex 0 = .ok (.iload_n 0, 1) := dk_26 (dk_at dksJ4_checkIndex_0 0 rfl rfl)
theorem dJ4_checkIndex_1 : decode cJ4_checkIndex 1 = .ok (.ifCond .lt 8, 3) := dk_155 0 8 (dk_at dksJ4_checkIndex_0 1 rfl rfl)
theorem dJ4_checkIndex_4 : decode cJ4_checkIndex 4 = .ok (.iload_n 0, 1) := dk_26 (dk_at dksJ4_checkIndex_0 4 rfl rfl)
theorem dJ4_checkIndex_5 : decode cJ4_checkIndex 5 = .ok (.iload_n 1, 1) := dk_27 (dk_at dksJ4_checkIndex_0 5 rfl rfl)
theorem dJ4_checkIndex_6 : decode cJ4_checkIndex 6 = .ok (.if_icmp .lt 10, 3) := dk_161 0 10 (dk_at dksJ4_checkIndex_0 6 rfl rfl)
theorem dJ4_checkIndex_9 : decode cJ4_checkIndex 9 = .ok (.aload_n 2, 1) := dk_44 (dk_at dksJ4_checkIndex_0 9 rfl rfl)
theorem dJ4_checkIndex_10 : decode cJ4_checkIndex 10 = .ok (.iload_n 0, 1) := dk_26 (dk_at dksJ4_checkIndex_0 10 rfl rfl)
theorem dJ4_checkIndex_11 : decode cJ4_checkIndex 11 = .ok (.iload_n 1, 1) := dk_27 (dk_at dksJ4_checkIndex_0 11 rfl rfl)
theorem dJ4_checkIndex_12 : decode cJ4_checkIndex 12 = .ok (.invokestatic 95, 3) := dk_184 0 95 (dk_at dksJ4_checkIndex_0 12 rfl rfl)
theorem dJ4_checkIndex_15 : decode cJ4_checkIndex 15 = .ok (.athrow, 1) := dk_191 (dk_at dksJ4_checkIndex_0 15 rfl rfl)
theorem dJ4_checkIndex_16 : decode cJ4_checkIndex 16 = .ok (.iload_n 0, 1) := dk_26 (dk_at dksJ4_checkIndex_0 16 rfl rfl)
theorem dJ4_checkIndex_17 : decode cJ4_checkIndex 17 = .ok (.ireturn, 1) := dk_172 (dk_at dksJ4_checkIndex_0 17 rfl rfl)
abbrev cJ4_checkFromIndexSize : ByteArray := prog_49_method_13_code
def yJ4_checkFromIndexSize : MethodName := ⟨RJ4, "checkFromIndexSize", "(IIILjava/util/function/BiFunction;)I"⟩
def dkwJ4_checkFromIndexSize_1 : List UInt8 := [172]
abbrev dktJ4_checkFromIndexSize_1 : List UInt8 := dkwJ4_checkFromIndexSize_1 ++ []
def dkwJ4_checkFromIndexSize_0 : List UInt8 := [28, 26, 128, 27, 128, 155, 0, 10, 27, 28, 26, 100, 164, 0, 11, 45, 26, 27, 28, 184, 0, 103, 191, 26]
abbrev dktJ4_checkFromIndexSize_0 : List UInt8 := dkwJ4_checkFromIndexSize_0 ++ dktJ4_checkFromIndexSize_1
theorem dksJ4_checkFromIndexSize_0 : cJ4_checkFromIndexSize.data.toList.drop 0 = dktJ4_checkFromIndexSize_0 := by decide +kernel
theorem dksJ4_checkFromIndexSize_1 : cJ4_checkFromIndexSize.data.toList.drop 24 = dktJ4_checkFromIndexSize_1 := dk_seg dksJ4_checkFromIndexSize_0 24 rfl rfl
theorem dJ4_checkFromIndexSize_0 : decode cJ4_checkFromIndexSize 0 = .ok (.iload_n 2, 1) := dk_28 (dk_at dksJ4_checkFromIndexSize_0 0 rfl rfl)
theorem dJ4_checkFromIndexSize_1 : decode cJ4_checkFromIndexSize 1 = .ok (.iload_n 0, 1) := dk_26 (dk_at dksJ4_checkFromIndexSize_0 1 rfl rfl)
theorem dJ4_checkFromIndexSize_2 : decode cJ4_checkFromIndexSize 2 = .ok (.ior, 1) := dk_128 (dk_at dksJ4_checkFromIndexSize_0 2 rfl rfl)
theorem dJ4_checkFromIndexSize_3 : decode cJ4_checkFromIndexSize 3 = .ok (.iload_n 1, 1) := dk_27 (dk_at dksJ4_checkFromIndexSize_0 3 rfl rfl)
theorem dJ4_checkFromIndexSize_4 : decode cJ4_checkFromIndexSize 4 = .ok (.ior, 1) := dk_128 (dk_at dksJ4_checkFromIndexSize_0 4 rfl rfl)
theorem dJ4_checkFromIndexSize_5 : decode cJ4_checkFromIndexSize 5 = .ok (.ifCond .lt 10, 3) := dk_155 0 10 (dk_at dksJ4_checkFromIndexSize_0 5 rfl rfl)
theorem dJ4_checkFromIndexSize_8 : decode cJ4_checkFromIndexSize 8 = .ok (.iload_n 1, 1) := dk_27 (dk_at dksJ4_checkFromIndexSize_0 8 rfl rfl)
theorem dJ4_checkFromIndexSize_9 : decode cJ4_checkFromIndexSize 9 = .ok (.iload_n 2, 1) := dk_28 (dk_at dksJ4_checkFromIndexSize_0 9 rfl rfl)
theorem dJ4_checkFromIndexSize_10 : decode cJ4_checkFromIndexSize 10 = .ok (.iload_n 0, 1) := dk_26 (dk_at dksJ4_checkFromIndexSize_0 10 rfl rfl)
theorem dJ4_checkFromIndexSize_11 : decode cJ4_checkFromIndexSize 11 = .ok (.isub, 1) := dk_100 (dk_at dksJ4_checkFromIndexSize_0 11 rfl rfl)
theorem dJ4_checkFromIndexSize_12 : decode cJ4_checkFromIndexSize 12 = .ok (.if_icmp .le 11, 3) := dk_164 0 11 (dk_at dksJ4_checkFromIndexSize_0 12 rfl rfl)
theorem dJ4_checkFromIndexSize_15 : decode cJ4_checkFromIndexSize 15 = .ok (.aload_n 3, 1) := dk_45 (dk_at dksJ4_checkFromIndexSize_0 15 rfl rfl)
theorem dJ4_checkFromIndexSize_16 : decode cJ4_checkFromIndexSize 16 = .ok (.iload_n 0, 1) := dk_26 (dk_at dksJ4_checkFromIndexSize_0 16 rfl rfl)
theorem dJ4_checkFromIndexSize_17 : decode cJ4_checkFromIndexSize 17 = .ok (.iload_n 1, 1) := dk_27 (dk_at dksJ4_checkFromIndexSize_0 17 rfl rfl)
theorem dJ4_checkFromIndexSize_18 : decode cJ4_checkFromIndexSize 18 = .ok (.iload_n 2, 1) := dk_28 (dk_at dksJ4_checkFromIndexSize_0 18 rfl rfl)
theorem dJ4_checkFromIndexSize_19 : decode cJ4_checkFromIndexSize 19 = .ok (.invokestatic 103, 3) := dk_184 0 103 (dk_at dksJ4_checkFromIndexSize_0 19 rfl rfl)
theorem dJ4_checkFromIndexSize_22 : decode cJ4_checkFromIndexSize 22 = .ok (.athrow, 1) := dk_191 (dk_at dksJ4_checkFromIndexSize_0 22 rfl rfl)
theorem dJ4_checkFromIndexSize_23 : decode cJ4_checkFromIndexSize 23 = .ok (.iload_n 0, 1) := dk_26 (dk_at dksJ4_checkFromIndexSize_0 23 rfl rfl)
theorem dJ4_checkFromIndexSize_24 : decode cJ4_checkFromIndexSize 24 = .ok (.ireturn, 1) := dk_172 (dk_at dksJ4_checkFromIndexSize_1 0 rfl rfl)
abbrev cJ4_checkFromToIndex : ByteArray := prog_49_method_12_code
def yJ4_checkFromToIndex : MethodName := ⟨RJ4, "checkFromToIndex", "(IIILjava/util/function/BiFunction;)I"⟩
def dkwJ4_checkFromToIndex_0 : List UInt8 := [26, 155, 0, 13, 26, 27, 163, 0, 8, 27, 28, 164, 0, 11, 45, 26, 27, 28, 184, 0, 99, 191, 26, 172]
abbrev dktJ4_checkFromToIndex_0 : List UInt8 := dkwJ4_checkFromToIndex_0 ++ []
theorem dksJ4_checkFromToIndex_0 : cJ4_checkFromToIndex.data.toList.drop 0 = dktJ4_checkFromToIndex_0 := by decide +kernel
theorem dJ4_checkFromToIndex_0 : decode cJ4_checkFromToIndex 0 = .ok (.iload_n 0, 1) := dk_26 (dk_at dksJ4_checkFromToIndex_0 0 rfl rfl)
theorem dJ4_checkFromToIndex_1 : decode cJ4_checkFromToIndex 1 = .ok (.ifCond .lt 13, 3) := dk_155 0 13 (dk_at dksJ4_checkFromToIndex_0 1 rfl rfl)
theorem dJ4_checkFromToIndex_4 : decode cJ4_checkFromToIndex 4 = .ok (.iload_n 0, 1) := dk_26 (dk_at dksJ4_checkFromToIndex_0 4 rfl rfl)
theorem dJ4_checkFromToIndex_5 : decode cJ4_checkFromToIndex 5 = .ok (.iload_n 1, 1) := dk_27 (dk_at dksJ4_checkFromToIndex_0 5 rfl rfl)
theorem dJ4_checkFromToIndex_6 : decode cJ4_checkFromToIndex 6 = .ok (.if_icmp .gt 8, 3) := dk_163 0 8 (dk_at dksJ4_checkFromToIndex_0 6 rfl rfl)
theorem dJ4_checkFromToIndex_9 : decode cJ4_checkFromToIndex 9 = .ok (.iload_n 1, 1) := dk_27 (dk_at dksJ4_checkFromToIndex_0 9 rfl rfl)
theorem dJ4_checkFromToIndex_10 : decode cJ4_checkFromToIndex 10 = .ok (.iload_n 2, 1) := dk_28 (dk_at dksJ4_checkFromToIndex_0 10 rfl rfl)
theorem dJ4_checkFromToIndex_11 : decode cJ4_checkFromToIndex 11 = .ok (.if_icmp .le 11, 3) := dk_164 0 11 (dk_at dksJ4_checkFromToIndex_0 11 rfl rfl)
theorem dJ4_checkFromToIndex_14 : decode cJ4_checkFromToIndex 14 = .ok (.aload_n 3, 1) := dk_45 (dk_at dksJ4_checkFromToIndex_0 14 rfl rfl)
theorem dJ4_checkFromToIndex_15 : decode cJ4_checkFromToIndex 15 = .ok (.iload_n 0, 1) := dk_26 (dk_at dksJ4_checkFromToIndex_0 15 rfl rfl)
theorem dJ4_checkFromToIndex_16 : decode cJ4_checkFromToIndex 16 = .ok (.iload_n 1, 1) := dk_27 (dk_at dksJ4_checkFromToIndex_0 16 rfl rfl)
theorem dJ4_checkFromToIndex_17 : decode cJ4_checkFromToIndex 17 = .ok (.iload_n 2, 1) := dk_28 (dk_at dksJ4_checkFromToIndex_0 17 rfl rfl)
theorem dJ4_checkFromToIndex_18 : decode cJ4_checkFromToIndex 18 = .ok (.invokestatic 99, 3) := dk_184 0 99 (dk_at dksJ4_checkFromToIndex_0 18 rfl rfl)
theorem dJ4_checkFromToIndex_21 : decode cJ4_checkFromToIndex 21 = .ok (.athrow, 1) := dk_191 (dk_at dksJ4_checkFromToIndex_0 21 rfl rfl)
theorem dJ4_checkFromToIndex_22 : decode cJ4_checkFromToIndex 22 = .ok (.iload_n 0, 1) := dk_26 (dk_at dksJ4_checkFromToIndex_0 22 rfl rfl)
theorem dJ4_checkFromToIndex_23 : decode cJ4_checkFromToIndex 23 = .ok (.ireturn, 1) := dk_172 (dk_at dksJ4_checkFromToIndex_0 23 rfl rfl)
theorem q181 : (Jvm.Cond.initialized "jdk/internal/util/Preconditions") ∈ lw_all := lw_g (lw_at lw_m1 8 rfl) rfl
theorem q300 : (Jvm.Cond.static ({ cls := "jdk/internal/util/Preconditions", name := "checkIndex", desc := "(IILjava/util/function/BiFunction;)I" } : Jvm.MethodName)) ∈ lw_all := lw_g (lw_at lw_m1 127 rfl) rfl
theorem q301 : (Jvm.Cond.code ({ cls := "jdk/internal/util/Preconditions", name := "checkIndex", desc := "(IILjava/util/function/BiFunction;)I" } : Jvm.MethodName) prog_49_method_11_code (3 : Nat) (Option.some Jvm.ClassFile.FieldType.int)) ∈ lw_all := lw_g (lw_at lw_m1 128 rfl) rfl
theorem q745 : (Jvm.Cond.laysStatic "jdk/internal/util/Preconditions" "SIOOBE_FORMATTER" "Ljava/util/function/BiFunction;") ∈ lw_tbl := lw_at lw_m3 92 rfl
theorem q747 : (Jvm.Cond.static ({ cls := "jdk/internal/util/Preconditions", name := "checkFromIndexSize", desc := "(IIILjava/util/function/BiFunction;)I" } : Jvm.MethodName)) ∈ lw_all := lw_g (lw_at lw_m3 94 rfl) rfl
theorem q748 : (Jvm.Cond.code ({ cls := "jdk/internal/util/Preconditions", name := "checkFromIndexSize", desc := "(IIILjava/util/function/BiFunction;)I" } : Jvm.MethodName) prog_49_method_13_code (4 : Nat) (Option.some Jvm.ClassFile.FieldType.int)) ∈ lw_all := lw_g (lw_at lw_m3 95 rfl) rfl
theorem q1897 : (Jvm.Cond.static ({ cls := "jdk/internal/util/Preconditions", name := "checkFromToIndex", desc := "(IIILjava/util/function/BiFunction;)I" } : Jvm.MethodName)) ∈ lw_all := lw_g (lw_at lw_m8 44 rfl) rfl
theorem q1898 : (Jvm.Cond.code ({ cls := "jdk/internal/util/Preconditions", name := "checkFromToIndex", desc := "(IIILjava/util/function/BiFunction;)I" } : Jvm.MethodName) prog_49_method_12_code (4 : Nat) (Option.some Jvm.ClassFile.FieldType.int)) ∈ lw_all := lw_g (lw_at lw_m8 45 rfl) rfl

/-! java/lang/AbstractStringBuilder -/
set_option maxRecDepth 100000
def RJ7 : String := "java/lang/AbstractStringBuilder"
abbrev cJ7_init : ByteArray := prog_17_method_2_code
def yJ7_init : MethodName := ⟨RJ7, "<init>", "(I)V"⟩
def dkwJ7_init_1 : List UInt8 := [167, 0, 16, 42, 27, 184, 0, 26, 181, 0, 15, 42, 4, 181, 0, 22, 177]
abbrev dktJ7_init_1 : List UInt8 := dkwJ7_init_1 ++ []
def dkwJ7_init_0 : List UInt8 := [42, 183, 0, 3, 178, 0, 18, 153, 0, 18, 42, 27, 188, 8, 181, 0, 15, 42, 3, 181, 0, 22]
abbrev dktJ7_init_0 : List UInt8 := dkwJ7_init_0 ++ dktJ7_init_1
theorem dksJ7_init_0 : cJ7_init.data.toList.drop 0 = dktJ7_init_0 := by decide +kernel
theorem dksJ7_init_1 : cJ7_init.data.toList.drop 22 = dktJ7_init_1 := dk_seg dksJ7_init_0 22 rfl rfl
theorem dJ7_init_0 : decode cJ7_init 0 = .ok (.aload_n 0, 1) := dk_42 (dk_at dksJ7_init_0 0 rfl rfl)
theorem dJ7_init_1 : decode cJ7_init 1 = .ok (.invokespecial 3, 3) := dk_183 0 3 (dk_at dksJ7_init_0 1 rfl rfl)
theorem dJ7_init_4 : decode cJ7_init 4 = .ok (.getstatic 18, 3) := dk_178 0 18 (dk_at dksJ7_init_0 4 rfl rfl)
theorem dJ7_init_7 : decode cJ7_init 7 = .ok (.ifCond .eq 18, 3) := dk_153 0 18 (dk_at dksJ7_init_0 7 rfl rfl)
theorem dJ7_init_10 : decode cJ7_init 10 = .ok (.aload_n 0, 1) := dk_42 (dk_at dksJ7_init_0 10 rfl rfl)
theorem dJ7_init_11 : decode cJ7_init 11 = .ok (.iload_n 1, 1) := dk_27 (dk_at dksJ7_init_0 11 rfl rfl)
theorem dJ7_init_12 : decode cJ7_init 12 = .ok (.newarray .byte, 2) := dk_188_8 (dk_at dksJ7_init_0 12 rfl rfl)
theorem dJ7_init_14 : decode cJ7_init 14 = .ok (.putfield 15, 3) := dk_181 0 15 (dk_at dksJ7_init_0 14 rfl rfl)
theorem dJ7_init_17 : decode cJ7_init 17 = .ok (.aload_n 0, 1) := dk_42 (dk_at dksJ7_init_0 17 rfl rfl)
theorem dJ7_init_18 : decode cJ7_init 18 = .ok (.iconst 0, 1) := dk_3 (dk_at dksJ7_init_0 18 rfl rfl)
theorem dJ7_init_19 : decode cJ7_init 19 = .ok (.putfield 22, 3) := dk_181 0 22 (dk_at dksJ7_init_0 19 rfl rfl)
theorem dJ7_init_22 : decode cJ7_init 22 = .ok (.goto 16, 3) := dk_167 0 16 (dk_at dksJ7_init_1 0 rfl rfl)
theorem dJ7_init_25 : decode cJ7_init 25 = .ok (.aload_n 0, 1) := dk_42 (dk_at dksJ7_init_1 3 rfl rfl)
theorem dJ7_init_26 : decode cJ7_init 26 = .ok (.iload_n 1, 1) := dk_27 (dk_at dksJ7_init_1 4 rfl rfl)
theorem dJ7_init_27 : decode cJ7_init 27 = .ok (.invokestatic 26, 3) := dk_184 0 26 (dk_at dksJ7_init_1 5 rfl rfl)
theorem dJ7_init_30 : decode cJ7_init 30 = .ok (.putfield 15, 3) := dk_181 0 15 (dk_at dksJ7_init_1 8 rfl rfl)
theorem dJ7_init_33 : decode cJ7_init 33 = .ok (.aload_n 0, 1) := dk_42 (dk_at dksJ7_init_1 11 rfl rfl)
theorem dJ7_init_34 : decode cJ7_init 34 = .ok (.iconst 1, 1) := dk_4 (dk_at dksJ7_init_1 12 rfl rfl)
theorem dJ7_init_35 : decode cJ7_init 35 = .ok (.putfield 22, 3) := dk_181 0 22 (dk_at dksJ7_init_1 13 rfl rfl)
theorem dJ7_init_38 : decode cJ7_init 38 = .ok (.return_, 1) := dk_177 (dk_at dksJ7_init_1 16 rfl rfl)
abbrev cJ7_append : ByteArray := prog_17_method_31_code
def yJ7_append : MethodName := ⟨RJ7, "append", "(C)Ljava/lang/AbstractStringBuilder;"⟩
def dkwJ7_append_3 : List UInt8 := [181, 0, 79, 27, 184, 0, 197, 42, 176]
abbrev dktJ7_append_3 : List UInt8 := dkwJ7_append_3 ++ []
def dkwJ7_append_2 : List UInt8 := [182, 0, 83, 153, 0, 7, 42, 182, 0, 195, 42, 180, 0, 15, 42, 89, 180, 0, 79, 90, 4, 96]
abbrev dktJ7_append_2 : List UInt8 := dkwJ7_append_2 ++ dktJ7_append_3
def dkwJ7_append_1 : List UInt8 := [42, 180, 0, 15, 42, 89, 180, 0, 79, 90, 4, 96, 181, 0, 79, 27, 145, 84, 167, 0, 33, 42]
abbrev dktJ7_append_1 : List UInt8 := dkwJ7_append_1 ++ dktJ7_append_2
def dkwJ7_append_0 : List UInt8 := [42, 42, 180, 0, 79, 4, 96, 182, 0, 100, 42, 182, 0, 83, 153, 0, 31, 27, 184, 0, 191, 153, 0, 24]
abbrev dktJ7_append_0 : List UInt8 := dkwJ7_append_0 ++ dktJ7_append_1
theorem dksJ7_append_0 : cJ7_append.data.toList.drop 0 = dktJ7_append_0 := by decide +kernel
theorem dksJ7_append_1 : cJ7_append.data.toList.drop 24 = dktJ7_append_1 := dk_seg dksJ7_append_0 24 rfl rfl
theorem dksJ7_append_2 : cJ7_append.data.toList.drop 46 = dktJ7_append_2 := dk_seg dksJ7_append_1 22 rfl rfl
theorem dksJ7_append_3 : cJ7_append.data.toList.drop 68 = dktJ7_append_3 := dk_seg dksJ7_append_2 22 rfl rfl
theorem dJ7_append_0 : decode cJ7_append 0 = .ok (.aload_n 0, 1) := dk_42 (dk_at dksJ7_append_0 0 rfl rfl)
theorem dJ7_append_1 : decode cJ7_append 1 = .ok (.aload_n 0, 1) := dk_42 (dk_at dksJ7_append_0 1 rfl rfl)
theorem dJ7_append_2 : decode cJ7_append 2 = .ok (.getfield 79, 3) := dk_180 0 79 (dk_at dksJ7_append_0 2 rfl rfl)
theorem dJ7_append_5 : decode cJ7_append 5 = .ok (.iconst 1, 1) := dk_4 (dk_at dksJ7_append_0 5 rfl rfl)
theorem dJ7_append_6 : decode cJ7_append 6 = .ok (.iadd, 1) := dk_96 (dk_at dksJ7_append_0 6 rfl rfl)
theorem dJ7_append_7 : decode cJ7_append 7 = .ok (.invokevirtual 100, 3) := dk_182 0 100 (dk_at dksJ7_append_0 7 rfl rfl)
theorem dJ7_append_10 : decode cJ7_append 10 = .ok (.aload_n 0, 1) := dk_42 (dk_at dksJ7_append_0 10 rfl rfl)
theorem dJ7_append_11 : decode cJ7_append 11 = .ok (.invokevirtual 83, 3) := dk_182 0 83 (dk_at dksJ7_append_0 11 rfl rfl)
theorem dJ7_append_14 : decode cJ7_append 14 = .ok (.ifCond .eq 31, 3) := dk_153 0 31 (dk_at dksJ7_append_0 14 rfl rfl)
theorem dJ7_append_17 : decode cJ7_append 17 = .ok (.iload_n 1, 1) := dk_27 (dk_at dksJ7_append_0 17 rfl rfl)
theorem dJ7_append_18 : decode cJ7_append 18 = .ok (.invokestatic 191, 3) := dk_184 0 191 (dk_at dksJ7_append_0 18 rfl rfl)
theorem dJ7_append_21 : decode cJ7_append 21 = .ok (.ifCond .eq 24, 3) := dk_153 0 24 (dk_at dksJ7_append_0 21 rfl rfl)
theorem dJ7_append_24 : decode cJ7_append 24 = .ok (.aload_n 0, 1) := dk_42 (dk_at dksJ7_append_1 0 rfl rfl)
theorem dJ7_append_25 : decode cJ7_append 25 = .ok (.getfield 15, 3) := dk_180 0 15 (dk_at dksJ7_append_1 1 rfl rfl)
theorem dJ7_append_28 : decode cJ7_append 28 = .ok (.aload_n 0, 1) := dk_42 (dk_at dksJ7_append_1 4 rfl rfl)
theorem dJ7_append_29 : decode cJ7_append 29 = .ok (.dup, 1) := dk_89 (dk_at dksJ7_append_1 5 rfl rfl)
theorem dJ7_append_30 : decode cJ7_append 30 = .ok (.getfield 79, 3) := dk_180 0 79 (dk_at dksJ7_append_1 6 rfl rfl)
theorem dJ7_append_33 : decode cJ7_append 33 = .ok (.dup_x1, 1) := dk_90 (dk_at dksJ7_append_1 9 rfl rfl)
theorem dJ7_append_34 : decode cJ7_append 34 = .ok (.iconst 1, 1) := dk_4 (dk_at dksJ7_append_1 10 rfl rfl)
theorem dJ7_append_35 : decode cJ7_append 35 = .ok (.iadd, 1) := dk_96 (dk_at dksJ7_append_1 11 rfl rfl)
theorem dJ7_append_36 : decode cJ7_append 36 = .ok (.putfield 79, 3) := dk_181 0 79 (dk_at dksJ7_append_1 12 rfl rfl)
theorem dJ7_append_39 : decode cJ7_append 39 = .ok (.iload_n 1, 1) := dk_27 (dk_at dksJ7_append_1 15 rfl rfl)
theorem dJ7_append_40 : decode cJ7_append 40 = .ok (.i2b, 1) := dk_145 (dk_at dksJ7_append_1 16 rfl rfl)
theorem dJ7_append_41 : decode cJ7_append 41 = .ok (.bastore, 1) := dk_84 (dk_at dksJ7_append_1 17 rfl rfl)
theorem dJ7_append_42 : decode cJ7_append 42 = .ok (.goto 33, 3) := dk_167 0 33 (dk_at dksJ7_append_1 18 rfl rfl)
theorem dJ7_append_45 : decode cJ7_append 45 = .ok (.aload_n 0, 1) := dk_42 (dk_at dksJ7_append_1 21 rfl rfl)
theorem dJ7_append_46 : decode cJ7_append 46 = .ok (.invokevirtual 83, 3) := dk_182 0 83 (dk_at dksJ7_append_2 0 rfl rfl)
theorem dJ7_append_49 : decode cJ7_append 49 = .ok (.ifCond .eq 7, 3) := dk_153 0 7 (dk_at dksJ7_append_2 3 rfl rfl)
theorem dJ7_append_52 : decode cJ7_append 52 = .ok (.aload_n 0, 1) := dk_42 (dk_at dksJ7_append_2 6 rfl rfl)
theorem dJ7_append_53 : decode cJ7_append 53 = .ok (.invokevirtual 195, 3) := dk_182 0 195 (dk_at dksJ7_append_2 7 rfl rfl)
theorem dJ7_append_56 : decode cJ7_append 56 = .ok (.aload_n 0, 1) := dk_42 (dk_at dksJ7_append_2 10 rfl rfl)
theorem dJ7_append_57 : decode cJ7_append 57 = .ok (.getfield 15, 3) := dk_180 0 15 (dk_at dksJ7_append_2 11 rfl rfl)
theorem dJ7_append_60 : decode cJ7_append 60 = .ok (.aload_n 0, 1) := dk_42 (dk_at dksJ7_append_2 14 rfl rfl)
theorem dJ7_append_61 : decode cJ7_append 61 = .ok (.dup, 1) := dk_89 (dk_at dksJ7_append_2 15 rfl rfl)
theorem dJ7_append_62 : decode cJ7_append 62 = .ok (.getfield 79, 3) := dk_180 0 79 (dk_at dksJ7_append_2 16 rfl rfl)
theorem dJ7_append_65 : decode cJ7_append 65 = .ok (.dup_x1, 1) := dk_90 (dk_at dksJ7_append_2 19 rfl rfl)
theorem dJ7_append_66 : decode cJ7_append 66 = .ok (.iconst 1, 1) := dk_4 (dk_at dksJ7_append_2 20 rfl rfl)
theorem dJ7_append_67 : decode cJ7_append 67 = .ok (.iadd, 1) := dk_96 (dk_at dksJ7_append_2 21 rfl rfl)
theorem dJ7_append_68 : decode cJ7_append 68 = .ok (.putfield 79, 3) := dk_181 0 79 (dk_at dksJ7_append_3 0 rfl rfl)
theorem dJ7_append_71 : decode cJ7_append 71 = .ok (.iload_n 1, 1) := dk_27 (dk_at dksJ7_append_3 3 rfl rfl)
theorem dJ7_append_72 : decode cJ7_append 72 = .ok (.invokestatic 197, 3) := dk_184 0 197 (dk_at dksJ7_append_3 4 rfl rfl)
theorem dJ7_append_75 : decode cJ7_append 75 = .ok (.aload_n 0, 1) := dk_42 (dk_at dksJ7_append_3 7 rfl rfl)
theorem dJ7_append_76 : decode cJ7_append 76 = .ok (.areturn, 1) := dk_176 (dk_at dksJ7_append_3 8 rfl rfl)
abbrev cJ7_ensureCapacityInternal : ByteArray := prog_17_method_9_code
def yJ7_ensureCapacityInternal : MethodName := ⟨RJ7, "ensureCapacityInternal", "(I)V"⟩
def dkwJ7_ensureCapacityInternal_1 : List UInt8 := [182, 0, 104, 42, 180, 0, 22, 120, 184, 0, 108, 181, 0, 15, 177]
abbrev dktJ7_ensureCapacityInternal_1 : List UInt8 := dkwJ7_ensureCapacityInternal_1 ++ []
def dkwJ7_ensureCapacityInternal_0 : List UInt8 := [42, 180, 0, 15, 190, 42, 180, 0, 22, 122, 61, 27, 28, 100, 158, 0, 24, 42, 42, 180, 0, 15, 42, 27]
abbrev dktJ7_ensureCapacityInternal_0 : List UInt8 := dkwJ7_ensureCapacityInternal_0 ++ dktJ7_ensureCapacityInternal_1
theorem dksJ7_ensureCapacityInternal_0 : cJ7_ensureCapacityInternal.data.toList.drop 0 = dktJ7_ensureCapacityInternal_0 := by decide +kernel
theorem dksJ7_ensureCapacityInternal_1 : cJ7_ensureCapacityInternal.data.toList.drop 24 = dktJ7_ensureCapacityInternal_1 := dk_seg dksJ7_ensureCapacityInternal_0 24 rfl rfl
theorem dJ7_ensureCapacityInternal_0 : decode cJ7_ensureCapacityInternal 0 = .ok (.aload_n 0, 1) := dk_42 (dk_at dksJ7_ensureCapacityInternal_0 0 rfl rfl)
theorem dJ7_ensureCapacityInternal_1 : decode cJ7_ensureCapacityInternal 1 = .ok (.getfield 15, 3) := dk_180 0 15 (dk_at dksJ7_ensureCapacityInternal_0 1 rfl rfl)
theorem dJ7_ensureCapacityInternal_4 : decode cJ7_ensureCapacityInternal 4 = .ok (.arraylength, 1) := dk_190 (dk_at dksJ7_ensureCapacityInternal_0 4 rfl rfl)
theorem dJ7_ensureCapacityInternal_5 : decode cJ7_ensureCapacityInternal 5 = .ok (.aload_n 0, 1) := dk_42 (dk_at dksJ7_ensureCapacityInternal_0 5 rfl rfl)
theorem dJ7_ensureCapacityInternal_6 : decode cJ7_ensureCapacityInternal 6 = .ok (.getfield 22, 3) := dk_180 0 22 (dk_at dksJ7_ensureCapacityInternal_0 6 rfl rfl)
theorem dJ7_ensureCapacityInternal_9 : decode cJ7_ensureCapacityInternal 9 = .ok (.ishr, 1) := dk_122 (dk_at dksJ7_ensureCapacityInternal_0 9 rfl rfl)
theorem dJ7_ensureCapacityInternal_10 : decode cJ7_ensureCapacityInternal 10 = .ok (.istore_n 2, 1) := dk_61 (dk_at dksJ7_ensureCapacityInternal_0 10 rfl rfl)
theorem dJ7_ensureCapacityInternal_11 : decode cJ7_ensureCapacityInternal 11 = .ok (.iload_n 1, 1) := dk_27 (dk_at dksJ7_ensureCapacityInternal_0 11 rfl rfl)
theorem dJ7_ensureCapacityInternal_12 : decode cJ7_ensureCapacityInternal 12 = .ok (.iload_n 2, 1) := dk_28 (dk_at dksJ7_ensureCapacityInternal_0 12 rfl rfl)
theorem dJ7_ensureCapacityInternal_13 : decode cJ7_ensureCapacityInternal 13 = .ok (.isub, 1) := dk_100 (dk_at dksJ7_ensureCapacityInternal_0 13 rfl rfl)
theorem dJ7_ensureCapacityInternal_14 : decode cJ7_ensureCapacityInternal 14 = .ok (.ifCond .le 24, 3) := dk_158 0 24 (dk_at dksJ7_ensureCapacityInternal_0 14 rfl rfl)
theorem dJ7_ensureCapacityInternal_17 : decode cJ7_ensureCapacityInternal 17 = .ok (.aload_n 0, 1) := dk_42 (dk_at dksJ7_ensureCapacityInternal_0 17 rfl rfl)
theorem dJ7_ensureCapacityInternal_18 : decode cJ7_ensureCapacityInternal 18 = .ok (.aload_n 0, 1) := dk_42 (dk_at dksJ7_ensureCapacityInternal_0 18 rfl rfl)
theorem dJ7_ensureCapacityInternal_19 : decode cJ7_ensureCapacityInternal 19 = .ok (.getfield 15, 3) := dk_180 0 15 (dk_at dksJ7_ensureCapacityInternal_0 19 rfl rfl)
theorem dJ7_ensureCapacityInternal_22 : decode cJ7_ensureCapacityInternal 22 = .ok (.aload_n 0, 1) := dk_42 (dk_at dksJ7_ensureCapacityInternal_0 22 rfl rfl)
theorem dJ7_ensureCapacityInternal_23 : decode cJ7_ensureCapacityInternal 23 = .ok (.iload_n 1, 1) := dk_27 (dk_at dksJ7_ensureCapacityInternal_0 23 rfl rfl)
theorem dJ7_ensureCapacityInternal_24 : decode cJ7_ensureCapacityInternal 24 = .ok (.invokevirtual 104, 3) := dk_182 0 104 (dk_at dksJ7_ensureCapacityInternal_1 0 rfl rfl)
theorem dJ7_ensureCapacityInternal_27 : decode cJ7_ensureCapacityInternal 27 = .ok (.aload_n 0, 1) := dk_42 (dk_at dksJ7_ensureCapacityInternal_1 3 rfl rfl)
theorem dJ7_ensureCapacityInternal_28 : decode cJ7_ensureCapacityInternal 28 = .ok (.getfield 22, 3) := dk_180 0 22 (dk_at dksJ7_ensureCapacityInternal_1 4 rfl rfl)
theorem dJ7_ensureCapacityInternal_31 : decode cJ7_ensureCapacityInternal 31 = .ok (.ishl, 1) := dk_120 (dk_at dksJ7_ensureCapacityInternal_1 7 rfl rfl)
theorem dJ7_ensureCapacityInternal_32 : decode cJ7_ensureCapacityInternal 32 = .ok (.invokestatic 108, 3) := dk_184 0 108 (dk_at dksJ7_ensureCapacityInternal_1 8 rfl rfl)
theorem dJ7_ensureCapacityInternal_35 : decode cJ7_ensureCapacityInternal 35 = .ok (.putfield 15, 3) := dk_181 0 15 (dk_at dksJ7_ensureCapacityInternal_1 11 rfl rfl)
theorem dJ7_ensureCapacityInternal_38 : decode cJ7_ensureCapacityInternal 38 = .ok (.return_, 1) := dk_177 (dk_at dksJ7_ensureCapacityInternal_1 14 rfl rfl)
abbrev cJ7_newCapacity : ByteArray := prog_17_method_10_code
def yJ7_newCapacity : MethodName := ⟨RJ7, "newCapacity", "(I)I"⟩
def dkwJ7_newCapacity_2 : List UInt8 := [183, 0, 124, 191, 21, 5, 42, 180, 0, 22, 122, 172]
abbrev dktJ7_newCapacity_2 : List UInt8 := dkwJ7_newCapacity_2 ++ []
def dkwJ7_newCapacity_1 : List UInt8 := [180, 0, 22, 120, 96, 184, 0, 114, 54, 5, 21, 5, 18, 39, 160, 0, 13, 187, 0, 120, 89, 18, 122]
abbrev dktJ7_newCapacity_1 : List UInt8 := dkwJ7_newCapacity_1 ++ dktJ7_newCapacity_2
def dkwJ7_newCapacity_0 : List UInt8 := [42, 180, 0, 15, 190, 61, 27, 42, 180, 0, 22, 120, 62, 29, 28, 100, 54, 4, 28, 21, 4, 28, 5, 42]
abbrev dktJ7_newCapacity_0 : List UInt8 := dkwJ7_newCapacity_0 ++ dktJ7_newCapacity_1
theorem dksJ7_newCapacity_0 : cJ7_newCapacity.data.toList.drop 0 = dktJ7_newCapacity_0 := by decide +kernel
theorem dksJ7_newCapacity_1 : cJ7_newCapacity.data.toList.drop 24 = dktJ7_newCapacity_1 := dk_seg dksJ7_newCapacity_0 24 rfl rfl
theorem dksJ7_newCapacity_2 : cJ7_newCapacity.data.toList.drop 47 = dktJ7_newCapacity_2 := dk_seg dksJ7_newCapacity_1 23 rfl rfl
theorem dJ7_newCapacity_0 : decode cJ7_newCapacity 0 = .ok (.aload_n 0, 1) := dk_42 (dk_at dksJ7_newCapacity_0 0 rfl rfl)
theorem dJ7_newCapacity_1 : decode cJ7_newCapacity 1 = .ok (.getfield 15, 3) := dk_180 0 15 (dk_at dksJ7_newCapacity_0 1 rfl rfl)
theorem dJ7_newCapacity_4 : decode cJ7_newCapacity 4 = .ok (.arraylength, 1) := dk_190 (dk_at dksJ7_newCapacity_0 4 rfl rfl)
theorem dJ7_newCapacity_5 : decode cJ7_newCapacity 5 = .ok (.istore_n 2, 1) := dk_61 (dk_at dksJ7_newCapacity_0 5 rfl rfl)
theorem dJ7_newCapacity_6 : decode cJ7_newCapacity 6 = .ok (.iload_n 1, 1) := dk_27 (dk_at dksJ7_newCapacity_0 6 rfl rfl)
theorem dJ7_newCapacity_7 : decode cJ7_newCapacity 7 = .ok (.aload_n 0, 1) := dk_42 (dk_at dksJ7_newCapacity_0 7 rfl rfl)
theorem dJ7_newCapacity_8 : decode cJ7_newCapacity 8 = .ok (.getfield 22, 3) := dk_180 0 22 (dk_at dksJ7_newCapacity_0 8 rfl rfl)
theorem dJ7_newCapacity_11 : decode cJ7_newCapacity 11 = .ok (.ishl, 1) := dk_120 (dk_at dksJ7_newCapacity_0 11 rfl rfl)
theorem dJ7_newCapacity_12 : decode cJ7_newCapacity 12 = .ok (.istore_n 3, 1) := dk_62 (dk_at dksJ7_newCapacity_0 12 rfl rfl)
theorem dJ7_newCapacity_13 : decode cJ7_newCapacity 13 = .ok (.iload_n 3, 1) := dk_29 (dk_at dksJ7_newCapacity_0 13 rfl rfl)
theorem dJ7_newCapacity_14 : decode cJ7_newCapacity 14 = .ok (.iload_n 2, 1) := dk_28 (dk_at dksJ7_newCapacity_0 14 rfl rfl)
theorem dJ7_newCapacity_15 : decode cJ7_newCapacity 15 = .ok (.isub, 1) := dk_100 (dk_at dksJ7_newCapacity_0 15 rfl rfl)
theorem dJ7_newCapacity_16 : decode cJ7_newCapacity 16 = .ok (.istore 4, 2) := dk_54 4 (dk_at dksJ7_newCapacity_0 16 rfl rfl)
theorem dJ7_newCapacity_18 : decode cJ7_newCapacity 18 = .ok (.iload_n 2, 1) := dk_28 (dk_at dksJ7_newCapacity_0 18 rfl rfl)
theorem dJ7_newCapacity_19 : decode cJ7_newCapacity 19 = .ok (.iload 4, 2) := dk_21 4 (dk_at dksJ7_newCapacity_0 19 rfl rfl)
theorem dJ7_newCapacity_21 : decode cJ7_newCapacity 21 = .ok (.iload_n 2, 1) := dk_28 (dk_at dksJ7_newCapacity_0 21 rfl rfl)
theorem dJ7_newCapacity_22 : decode cJ7_newCapacity 22 = .ok (.iconst 2, 1) := dk_5 (dk_at dksJ7_newCapacity_0 22 rfl rfl)
theorem dJ7_newCapacity_23 : decode cJ7_newCapacity 23 = .ok (.aload_n 0, 1) := dk_42 (dk_at dksJ7_newCapacity_0 23 rfl rfl)
theorem dJ7_newCapacity_24 : decode cJ7_newCapacity 24 = .ok (.getfield 22, 3) := dk_180 0 22 (dk_at dksJ7_newCapacity_1 0 rfl rfl)
theorem dJ7_newCapacity_27 : decode cJ7_newCapacity 27 = .ok (.ishl, 1) := dk_120 (dk_at dksJ7_newCapacity_1 3 rfl rfl)
theorem dJ7_newCapacity_28 : decode cJ7_newCapacity 28 = .ok (.iadd, 1) := dk_96 (dk_at dksJ7_newCapacity_1 4 rfl rfl)
theorem dJ7_newCapacity_29 : decode cJ7_newCapacity 29 = .ok (.invokestatic 114, 3) := dk_184 0 114 (dk_at dksJ7_newCapacity_1 5 rfl rfl)
theorem dJ7_newCapacity_32 : decode cJ7_newCapacity 32 = .ok (.istore 5, 2) := dk_54 5 (dk_at dksJ7_newCapacity_1 8 rfl rfl)
theorem dJ7_newCapacity_34 : decode cJ7_newCapacity 34 = .ok (.iload 5, 2) := dk_21 5 (dk_at dksJ7_newCapacity_1 10 rfl rfl)
theorem dJ7_newCapacity_36 : decode cJ7_newCapacity 36 = .ok (.ldc 39, 2) := dk_18 39 (dk_at dksJ7_newCapacity_1 12 rfl rfl)
theorem dJ7_newCapacity_38 : decode cJ7_newCapacity 38 = .ok (.if_icmp .ne 13, 3) := dk_160 0 13 (dk_at dksJ7_newCapacity_1 14 rfl rfl)
theorem dJ7_newCapacity_41 : decode cJ7_newCapacity 41 = .ok (.new 120, 3) := dk_187 0 120 (dk_at dksJ7_newCapacity_1 17 rfl rfl)
theorem dJ7_newCapacity_44 : decode cJ7_newCapacity 44 = .ok (.dup, 1) := dk_89 (dk_at dksJ7_newCapacity_1 20 rfl rfl)
theorem dJ7_newCapacity_45 : decode cJ7_newCapacity 45 = .ok (.ldc 122, 2) := dk_18 122 (dk_at dksJ7_newCapacity_1 21 rfl rfl)
theorem dJ7_newCapacity_47 : decode cJ7_newCapacity 47 = .ok (.invokespecial 124, 3) := dk_183 0 124 (dk_at dksJ7_newCapacity_2 0 rfl rfl)
theorem dJ7_newCapacity_50 : decode cJ7_newCapacity 50 = .ok (.athrow, 1) := dk_191 (dk_at dksJ7_newCapacity_2 3 rfl rfl)
theorem dJ7_newCapacity_51 : decode cJ7_newCapacity 51 = .ok (.iload 5, 2) := dk_21 5 (dk_at dksJ7_newCapacity_2 4 rfl rfl)
theorem dJ7_newCapacity_53 : decode cJ7_newCapacity 53 = .ok (.aload_n 0, 1) := dk_42 (dk_at dksJ7_newCapacity_2 6 rfl rfl)
theorem dJ7_newCapacity_54 : decode cJ7_newCapacity 54 = .ok (.getfield 22, 3) := dk_180 0 22 (dk_at dksJ7_newCapacity_2 7 rfl rfl)
theorem dJ7_newCapacity_57 : decode cJ7_newCapacity 57 = .ok (.ishr, 1) := dk_122 (dk_at dksJ7_newCapacity_2 10 rfl rfl)
theorem dJ7_newCapacity_58 : decode cJ7_newCapacity 58 = .ok (.ireturn, 1) := dk_172 (dk_at dksJ7_newCapacity_2 11 rfl rfl)
abbrev cJ7_isLatin1 : ByteArray := prog_17_method_68_code
def yJ7_isLatin1 : MethodName := ⟨RJ7, "isLatin1", "()Z"⟩
def dkwJ7_isLatin1_0 : List UInt8 := [178, 0, 18, 153, 0, 14, 42, 180, 0, 22, 154, 0, 7, 4, 167, 0, 4, 3, 172]
abbrev dktJ7_isLatin1_0 : List UInt8 := dkwJ7_isLatin1_0 ++ []
theorem dksJ7_isLatin1_0 : cJ7_isLatin1.data.toList.drop 0 = dktJ7_isLatin1_0 := by decide +kernel
theorem dJ7_isLatin1_0 : decode cJ7_isLatin1 0 = .ok (.getstatic 18, 3) := dk_178 0 18 (dk_at dksJ7_isLatin1_0 0 rfl rfl)
theorem dJ7_isLatin1_3 : decode cJ7_isLatin1 3 = .ok (.ifCond .eq 14, 3) := dk_153 0 14 (dk_at dksJ7_isLatin1_0 3 rfl rfl)
theorem dJ7_isLatin1_6 : decode cJ7_isLatin1 6 = .ok (.aload_n 0, 1) := dk_42 (dk_at dksJ7_isLatin1_0 6 rfl rfl)
theorem dJ7_isLatin1_7 : decode cJ7_isLatin1 7 = .ok (.getfield 22, 3) := dk_180 0 22 (dk_at dksJ7_isLatin1_0 7 rfl rfl)
theorem dJ7_isLatin1_10 : decode cJ7_isLatin1 10 = .ok (.ifCond .ne 7, 3) := dk_154 0 7 (dk_at dksJ7_isLatin1_0 10 rfl rfl)
theorem dJ7_isLatin1_13 : decode cJ7_isLatin1 13 = .ok (.iconst 1, 1) := dk_4 (dk_at dksJ7_isLatin1_0 13 rfl rfl)
theorem dJ7_isLatin1_14 : decode cJ7_isLatin1 14 = .ok (.goto 4, 3) := dk_167 0 4 (dk_at dksJ7_isLatin1_0 14 rfl rfl)
theorem dJ7_isLatin1_17 : decode cJ7_isLatin1 17 = .ok (.iconst 0, 1) := dk_3 (dk_at dksJ7_isLatin1_0 17 rfl rfl)
theorem dJ7_isLatin1_18 : decode cJ7_isLatin1 18 = .ok (.ireturn, 1) := dk_172 (dk_at dksJ7_isLatin1_0 18 rfl rfl)
abbrev cJ7_inflate : ByteArray := prog_17_method_11_code
def yJ7_inflate : MethodName := ⟨RJ7, "inflate", "()V"⟩
def dkwJ7_inflate_1 : List UInt8 := [42, 180, 0, 79, 184, 0, 125, 42, 43, 181, 0, 15, 42, 4, 181, 0, 22, 177]
abbrev dktJ7_inflate_1 : List UInt8 := dkwJ7_inflate_1 ++ []
def dkwJ7_inflate_0 : List UInt8 := [42, 182, 0, 83, 154, 0, 4, 177, 42, 180, 0, 15, 190, 184, 0, 26, 76, 42, 180, 0, 15, 3, 43, 3]
abbrev dktJ7_inflate_0 : List UInt8 := dkwJ7_inflate_0 ++ dktJ7_inflate_1
theorem dksJ7_inflate_0 : cJ7_inflate.data.toList.drop 0 = dktJ7_inflate_0 := by decide +kernel
theorem dksJ7_inflate_1 : cJ7_inflate.data.toList.drop 24 = dktJ7_inflate_1 := dk_seg dksJ7_inflate_0 24 rfl rfl
theorem dJ7_inflate_0 : decode cJ7_inflate 0 = .ok (.aload_n 0, 1) := dk_42 (dk_at dksJ7_inflate_0 0 rfl rfl)
theorem dJ7_inflate_1 : decode cJ7_inflate 1 = .ok (.invokevirtual 83, 3) := dk_182 0 83 (dk_at dksJ7_inflate_0 1 rfl rfl)
theorem dJ7_inflate_4 : decode cJ7_inflate 4 = .ok (.ifCond .ne 4, 3) := dk_154 0 4 (dk_at dksJ7_inflate_0 4 rfl rfl)
theorem dJ7_inflate_7 : decode cJ7_inflate 7 = .ok (.return_, 1) := dk_177 (dk_at dksJ7_inflate_0 7 rfl rfl)
theorem dJ7_inflate_8 : decode cJ7_inflate 8 = .ok (.aload_n 0, 1) := dk_42 (dk_at dksJ7_inflate_0 8 rfl rfl)
theorem dJ7_inflate_9 : decode cJ7_inflate 9 = .ok (.getfield 15, 3) := dk_180 0 15 (dk_at dksJ7_inflate_0 9 rfl rfl)
theorem dJ7_inflate_12 : decode cJ7_inflate 12 = .ok (.arraylength, 1) := dk_190 (dk_at dksJ7_inflate_0 12 rfl rfl)
theorem dJ7_inflate_13 : decode cJ7_inflate 13 = .ok (.invokestatic 26, 3) := dk_184 0 26 (dk_at dksJ7_inflate_0 13 rfl rfl)
theorem dJ7_inflate_16 : decode cJ7_inflate 16 = .ok (.astore_n 1, 1) := dk_76 (dk_at dksJ7_inflate_0 16 rfl rfl)
theorem dJ7_inflate_17 : decode cJ7_inflate 17 = .ok (.aload_n 0, 1) := dk_42 (dk_at dksJ7_inflate_0 17 rfl rfl)
theorem dJ7_inflate_18 : decode cJ7_inflate 18 = .ok (.getfield 15, 3) := dk_180 0 15 (dk_at dksJ7_inflate_0 18 rfl rfl)
theorem dJ7_inflate_21 : decode cJ7_inflate 21 = .ok (.iconst 0, 1) := dk_3 (dk_at dksJ7_inflate_0 21 rfl rfl)
theorem dJ7_inflate_22 : decode cJ7_inflate 22 = .ok (.aload_n 1, 1) := dk_43 (dk_at dksJ7_inflate_0 22 rfl rfl)
theorem dJ7_inflate_23 : decode cJ7_inflate 23 = .ok (.iconst 0, 1) := dk_3 (dk_at dksJ7_inflate_0 23 rfl rfl)
theorem dJ7_inflate_24 : decode cJ7_inflate 24 = .ok (.aload_n 0, 1) := dk_42 (dk_at dksJ7_inflate_1 0 rfl rfl)
theorem dJ7_inflate_25 : decode cJ7_inflate 25 = .ok (.getfield 79, 3) := dk_180 0 79 (dk_at dksJ7_inflate_1 1 rfl rfl)
theorem dJ7_inflate_28 : decode cJ7_inflate 28 = .ok (.invokestatic 125, 3) := dk_184 0 125 (dk_at dksJ7_inflate_1 4 rfl rfl)
theorem dJ7_inflate_31 : decode cJ7_inflate 31 = .ok (.aload_n 0, 1) := dk_42 (dk_at dksJ7_inflate_1 7 rfl rfl)
theorem dJ7_inflate_32 : decode cJ7_inflate 32 = .ok (.aload_n 1, 1) := dk_43 (dk_at dksJ7_inflate_1 8 rfl rfl)
theorem dJ7_inflate_33 : decode cJ7_inflate 33 = .ok (.putfield 15, 3) := dk_181 0 15 (dk_at dksJ7_inflate_1 9 rfl rfl)
theorem dJ7_inflate_36 : decode cJ7_inflate 36 = .ok (.aload_n 0, 1) := dk_42 (dk_at dksJ7_inflate_1 12 rfl rfl)
theorem dJ7_inflate_37 : decode cJ7_inflate 37 = .ok (.iconst 1, 1) := dk_4 (dk_at dksJ7_inflate_1 13 rfl rfl)
theorem dJ7_inflate_38 : decode cJ7_inflate 38 = .ok (.putfield 22, 3) := dk_181 0 22 (dk_at dksJ7_inflate_1 14 rfl rfl)
theorem dJ7_inflate_41 : decode cJ7_inflate 41 = .ok (.return_, 1) := dk_177 (dk_at dksJ7_inflate_1 17 rfl rfl)
abbrev cJ7_getValue : ByteArray := prog_17_method_64_code
def yJ7_getValue : MethodName := ⟨RJ7, "getValue", "()[B"⟩
theorem dJ7_getValue_0 : decode cJ7_getValue 0 = .ok (.aload_n 0, 1) := by decide +kernel
theorem dJ7_getValue_1 : decode cJ7_getValue 1 = .ok (.getfield 15, 3) := by decide +kernel
theorem dJ7_getValue_4 : decode cJ7_getValue 4 = .ok (.areturn, 1) := by decide +kernel
abbrev cJ7_length : ByteArray := prog_17_method_6_code
def yJ7_length : MethodName := ⟨RJ7, "length", "()I"⟩
theorem dJ7_length_0 : decode cJ7_length 0 = .ok (.aload_n 0, 1) := by decide +kernel
theorem dJ7_length_1 : decode cJ7_length 1 = .ok (.getfield 79, 3) := by decide +kernel
theorem dJ7_length_4 : decode cJ7_length 4 = .ok (.ireturn, 1) := by decide +kernel
abbrev cJ7_setLength : ByteArray := prog_17_method_13_code
def yJ7_setLength : MethodName := ⟨RJ7, "setLength", "(I)V"⟩
def dkwJ7_setLength_3 : List UInt8 := [164, 0, 8, 42, 4, 181, 0, 73, 42, 27, 181, 0, 79, 177]
abbrev dktJ7_setLength_3 : List UInt8 := dkwJ7_setLength_3 ++ []
def dkwJ7_setLength_2 : List UInt8 := [167, 0, 31, 42, 180, 0, 15, 42, 180, 0, 79, 27, 184, 0, 137, 167, 0, 16, 42, 180, 0, 79, 27]
abbrev dktJ7_setLength_2 : List UInt8 := dkwJ7_setLength_2 ++ dktJ7_setLength_3
def dkwJ7_setLength_1 : List UInt8 := [162, 0, 40, 42, 182, 0, 83, 153, 0, 18, 42, 180, 0, 15, 42, 180, 0, 79, 27, 184, 0, 133]
abbrev dktJ7_setLength_1 : List UInt8 := dkwJ7_setLength_1 ++ dktJ7_setLength_2
def dkwJ7_setLength_0 : List UInt8 := [27, 156, 0, 12, 187, 0, 129, 89, 27, 183, 0, 131, 191, 42, 27, 182, 0, 100, 42, 180, 0, 79, 27]
abbrev dktJ7_setLength_0 : List UInt8 := dkwJ7_setLength_0 ++ dktJ7_setLength_1
theorem dksJ7_setLength_0 : cJ7_setLength.data.toList.drop 0 = dktJ7_setLength_0 := by decide +kernel
theorem dksJ7_setLength_1 : cJ7_setLength.data.toList.drop 23 = dktJ7_setLength_1 := dk_seg dksJ7_setLength_0 23 rfl rfl
theorem dksJ7_setLength_2 : cJ7_setLength.data.toList.drop 45 = dktJ7_setLength_2 := dk_seg dksJ7_setLength_1 22 rfl rfl
theorem dksJ7_setLength_3 : cJ7_setLength.data.toList.drop 68 = dktJ7_setLength_3 := dk_seg dksJ7_setLength_2 23 rfl rfl
theorem dJ7_setLength_0 : decode cJ7_setLength 0 = .ok (.iload_n 1, 1) := dk_27 (dk_at dksJ7_setLength_0 0 rfl rfl)
theorem dJ7_setLength_1 : decode cJ7_setLength 1 = .ok (.ifCond .ge 12, 3) := dk_156 0 12 (dk_at dksJ7_setLength_0 1 rfl rfl)
theorem dJ7_setLength_4 : decode cJ7_setLength 4 = .ok (.new 129, 3) := dk_187 0 129 (dk_at dksJ7_setLength_0 4 rfl rfl)
theorem dJ7_setLength_7 : decode cJ7_setLength 7 = .ok (.dup, 1) := dk_89 (dk_at dksJ7_setLength_0 7 rfl rfl)
theorem dJ7_setLength_8 : decode cJ7_setLength 8 = .ok (.iload_n 1, 1) := dk_27 (dk_at dksJ7_setLength_0 8 rfl rfl)
theorem dJ7_setLength_9 : decode cJ7_setLength 9 = .ok (.invokespecial 131, 3) := dk_183 0 131 (dk_at dksJ7_setLength_0 9 rfl rfl)
theorem dJ7_setLength_12 : decode cJ7_setLength 12 = .ok (.athrow, 1) := dk_191 (dk_at dksJ7_setLength_0 12 rfl rfl)
theorem dJ7_setLength_13 : decode cJ7_setLength 13 = .ok (.aload_n 0, 1) := dk_42 (dk_at dksJ7_setLength_0 13 rfl rfl)
theorem dJ7_setLength_14 : decode cJ7_setLength 14 = .ok (.iload_n 1, 1) := dk_27 (dk_at dksJ7_setLength_0 14 rfl rfl)
theorem dJ7_setLength_15 : decode cJ7_setLength 15 = .ok (.invokevirtual 100, 3) := dk_182 0 100 (dk_at dksJ7_setLength_0 15 rfl rfl)
theorem dJ7_setLength_18 : decode cJ7_setLength 18 = .ok (.aload_n 0, 1) := dk_42 (dk_at dksJ7_setLength_0 18 rfl rfl)
theorem dJ7_setLength_19 : decode cJ7_setLength 19 = .ok (.getfield 79, 3) := dk_180 0 79 (dk_at dksJ7_setLength_0 19 rfl rfl)
theorem dJ7_setLength_22 : decode cJ7_setLength 22 = .ok (.iload_n 1, 1) := dk_27 (dk_at dksJ7_setLength_0 22 rfl rfl)
theorem dJ7_setLength_23 : decode cJ7_setLength 23 = .ok (.if_icmp .ge 40, 3) := dk_162 0 40 (dk_at dksJ7_setLength_1 0 rfl rfl)
theorem dJ7_setLength_26 : decode cJ7_setLength 26 = .ok (.aload_n 0, 1) := dk_42 (dk_at dksJ7_setLength_1 3 rfl rfl)
theorem dJ7_setLength_27 : decode cJ7_setLength 27 = .ok (.invokevirtual 83, 3) := dk_182 0 83 (dk_at dksJ7_setLength_1 4 rfl rfl)
theorem dJ7_setLength_30 : decode cJ7_setLength 30 = .ok (.ifCond .eq 18, 3) := dk_153 0 18 (dk_at dksJ7_setLength_1 7 rfl rfl)
theorem dJ7_setLength_33 : decode cJ7_setLength 33 = .ok (.aload_n 0, 1) := dk_42 (dk_at dksJ7_setLength_1 10 rfl rfl)
theorem dJ7_setLength_34 : decode cJ7_setLength 34 = .ok (.getfield 15, 3) := dk_180 0 15 (dk_at dksJ7_setLength_1 11 rfl rfl)
theorem dJ7_setLength_37 : decode cJ7_setLength 37 = .ok (.aload_n 0, 1) := dk_42 (dk_at dksJ7_setLength_1 14 rfl rfl)
theorem dJ7_setLength_38 : decode cJ7_setLength 38 = .ok (.getfield 79, 3) := dk_180 0 79 (dk_at dksJ7_setLength_1 15 rfl rfl)
theorem dJ7_setLength_41 : decode cJ7_setLength 41 = .ok (.iload_n 1, 1) := dk_27 (dk_at dksJ7_setLength_1 18 rfl rfl)
theorem dJ7_setLength_42 : decode cJ7_setLength 42 = .ok (.invokestatic 133, 3) := dk_184 0 133 (dk_at dksJ7_setLength_1 19 rfl rfl)
theorem dJ7_setLength_45 : decode cJ7_setLength 45 = .ok (.goto 31, 3) := dk_167 0 31 (dk_at dksJ7_setLength_2 0 rfl rfl)
theorem dJ7_setLength_48 : decode cJ7_setLength 48 = .ok (.aload_n 0, 1) := dk_42 (dk_at dksJ7_setLength_2 3 rfl rfl)
theorem dJ7_setLength_49 : decode cJ7_setLength 49 = .ok (.getfield 15, 3) := dk_180 0 15 (dk_at dksJ7_setLength_2 4 rfl rfl)
theorem dJ7_setLength_52 : decode cJ7_setLength 52 = .ok (.aload_n 0, 1) := dk_42 (dk_at dksJ7_setLength_2 7 rfl rfl)
theorem dJ7_setLength_53 : decode cJ7_setLength 53 = .ok (.getfield 79, 3) := dk_180 0 79 (dk_at dksJ7_setLength_2 8 rfl rfl)
theorem dJ7_setLength_56 : decode cJ7_setLength 56 = .ok (.iload_n 1, 1) := dk_27 (dk_at dksJ7_setLength_2 11 rfl rfl)
theorem dJ7_setLength_57 : decode cJ7_setLength 57 = .ok (.invokestatic 137, 3) := dk_184 0 137 (dk_at dksJ7_setLength_2 12 rfl rfl)
theorem dJ7_setLength_60 : decode cJ7_setLength 60 = .ok (.goto 16, 3) := dk_167 0 16 (dk_at dksJ7_setLength_2 15 rfl rfl)
theorem dJ7_setLength_63 : decode cJ7_setLength 63 = .ok (.aload_n 0, 1) := dk_42 (dk_at dksJ7_setLength_2 18 rfl rfl)
theorem dJ7_setLength_64 : decode cJ7_setLength 64 = .ok (.getfield 79, 3) := dk_180 0 79 (dk_at dksJ7_setLength_2 19 rfl rfl)
theorem dJ7_setLength_67 : decode cJ7_setLength 67 = .ok (.iload_n 1, 1) := dk_27 (dk_at dksJ7_setLength_2 22 rfl rfl)
theorem dJ7_setLength_68 : decode cJ7_setLength 68 = .ok (.if_icmp .le 8, 3) := dk_164 0 8 (dk_at dksJ7_setLength_3 0 rfl rfl)
theorem dJ7_setLength_71 : decode cJ7_setLength 71 = .ok (.aload_n 0, 1) := dk_42 (dk_at dksJ7_setLength_3 3 rfl rfl)
theorem dJ7_setLength_72 : decode cJ7_setLength 72 = .ok (.iconst 1, 1) := dk_4 (dk_at dksJ7_setLength_3 4 rfl rfl)
theorem dJ7_setLength_73 : decode cJ7_setLength 73 = .ok (.putfield 73, 3) := dk_181 0 73 (dk_at dksJ7_setLength_3 5 rfl rfl)
theorem dJ7_setLength_76 : decode cJ7_setLength 76 = .ok (.aload_n 0, 1) := dk_42 (dk_at dksJ7_setLength_3 8 rfl rfl)
theorem dJ7_setLength_77 : decode cJ7_setLength 77 = .ok (.iload_n 1, 1) := dk_27 (dk_at dksJ7_setLength_3 9 rfl rfl)
theorem dJ7_setLength_78 : decode cJ7_setLength 78 = .ok (.putfield 79, 3) := dk_181 0 79 (dk_at dksJ7_setLength_3 10 rfl rfl)
theorem dJ7_setLength_81 : decode cJ7_setLength 81 = .ok (.return_, 1) := dk_177 (dk_at dksJ7_setLength_3 13 rfl rfl)
abbrev cJ7_append_2 : ByteArray := prog_17_method_22_code
def yJ7_append_2 : MethodName := ⟨RJ7, "append", "(Ljava/lang/String;)Ljava/lang/AbstractStringBuilder;"⟩
def dkwJ7_append_2_1 : List UInt8 := [42, 42, 180, 0, 79, 43, 182, 0, 208, 42, 89, 180, 0, 79, 28, 96, 181, 0, 79, 42, 176]
abbrev dktJ7_append_2_1 : List UInt8 := dkwJ7_append_2_1 ++ []
def dkwJ7_append_2_0 : List UInt8 := [43, 199, 0, 8, 42, 182, 0, 204, 176, 43, 182, 0, 32, 61, 42, 42, 180, 0, 79, 28, 96, 182, 0, 100]
abbrev dktJ7_append_2_0 : List UInt8 := dkwJ7_append_2_0 ++ dktJ7_append_2_1
theorem dksJ7_append_2_0 : cJ7_append_2.data.toList.drop 0 = dktJ7_append_2_0 := by decide +kernel
theorem dksJ7_append_2_1 : cJ7_append_2.data.toList.drop 24 = dktJ7_append_2_1 := dk_seg dksJ7_append_2_0 24 rfl rfl
theorem dJ7_append_2_0 : decode cJ7_append_2 0 = .ok (.aload_n 1, 1) := dk_43 (dk_at dksJ7_append_2_0 0 rfl rfl)
theorem dJ7_append_2_1 : decode cJ7_append_2 1 = .ok (.ifnonnull 8, 3) := dk_199 0 8 (dk_at dksJ7_append_2_0 1 rfl rfl)
theorem dJ7_append_2_4 : decode cJ7_append_2 4 = .ok (.aload_n 0, 1) := dk_42 (dk_at dksJ7_append_2_0 4 rfl rfl)
theorem dJ7_append_2_5 : decode cJ7_append_2 5 = .ok (.invokevirtual 204, 3) := dk_182 0 204 (dk_at dksJ7_append_2_0 5 rfl rfl)
theorem dJ7_append_2_8 : decode cJ7_append_2 8 = .ok (.areturn, 1) := dk_176 (dk_at dksJ7_append_2_0 8 rfl rfl)
theorem dJ7_append_2_9 : decode cJ7_append_2 9 = .ok (.aload_n 1, 1) := dk_43 (dk_at dksJ7_append_2_0 9 rfl rfl)
theorem dJ7_append_2_10 : decode cJ7_append_2 10 = .ok (.invokevirtual 32, 3) := dk_182 0 32 (dk_at dksJ7_append_2_0 10 rfl rfl)
theorem dJ7_append_2_13 : decode cJ7_append_2 13 = .ok (.istore_n 2, 1) := dk_61 (dk_at dksJ7_append_2_0 13 rfl rfl)
theorem dJ7_append_2_14 : decode cJ7_append_2 14 = .ok (.aload_n 0, 1) := dk_42 (dk_at dksJ7_append_2_0 14 rfl rfl)
theorem dJ7_append_2_15 : decode cJ7_append_2 15 = .ok (.aload_n 0, 1) := dk_42 (dk_at dksJ7_append_2_0 15 rfl rfl)
theorem dJ7_append_2_16 : decode cJ7_append_2 16 = .ok (.getfield 79, 3) := dk_180 0 79 (dk_at dksJ7_append_2_0 16 rfl rfl)
theorem dJ7_append_2_19 : decode cJ7_append_2 19 = .ok (.iload_n 2, 1) := dk_28 (dk_at dksJ7_append_2_0 19 rfl rfl)
theorem dJ7_append_2_20 : decode cJ7_append_2 20 = .ok (.iadd, 1) := dk_96 (dk_at dksJ7_append_2_0 20 rfl rfl)
theorem dJ7_append_2_21 : decode cJ7_append_2 21 = .ok (.invokevirtual 100, 3) := dk_182 0 100 (dk_at dksJ7_append_2_0 21 rfl rfl)
theorem dJ7_append_2_24 : decode cJ7_append_2 24 = .ok (.aload_n 0, 1) := dk_42 (dk_at dksJ7_append_2_1 0 rfl rfl)
theorem dJ7_append_2_25 : decode cJ7_append_2 25 = .ok (.aload_n 0, 1) := dk_42 (dk_at dksJ7_append_2_1 1 rfl rfl)
theorem dJ7_append_2_26 : decode cJ7_append_2 26 = .ok (.getfield 79, 3) := dk_180 0 79 (dk_at dksJ7_append_2_1 2 rfl rfl)
theorem dJ7_append_2_29 : decode cJ7_append_2 29 = .ok (.aload_n 1, 1) := dk_43 (dk_at dksJ7_append_2_1 5 rfl rfl)
theorem dJ7_append_2_30 : decode cJ7_append_2 30 = .ok (.invokevirtual 208, 3) := dk_182 0 208 (dk_at dksJ7_append_2_1 6 rfl rfl)
theorem dJ7_append_2_33 : decode cJ7_append_2 33 = .ok (.aload_n 0, 1) := dk_42 (dk_at dksJ7_append_2_1 9 rfl rfl)
theorem dJ7_append_2_34 : decode cJ7_append_2 34 = .ok (.dup, 1) := dk_89 (dk_at dksJ7_append_2_1 10 rfl rfl)
theorem dJ7_append_2_35 : decode cJ7_append_2 35 = .ok (.getfield 79, 3) := dk_180 0 79 (dk_at dksJ7_append_2_1 11 rfl rfl)
theorem dJ7_append_2_38 : decode cJ7_append_2 38 = .ok (.iload_n 2, 1) := dk_28 (dk_at dksJ7_append_2_1 14 rfl rfl)
theorem dJ7_append_2_39 : decode cJ7_append_2 39 = .ok (.iadd, 1) := dk_96 (dk_at dksJ7_append_2_1 15 rfl rfl)
theorem dJ7_append_2_40 : decode cJ7_append_2 40 = .ok (.putfield 79, 3) := dk_181 0 79 (dk_at dksJ7_append_2_1 16 rfl rfl)
theorem dJ7_append_2_43 : decode cJ7_append_2 43 = .ok (.aload_n 0, 1) := dk_42 (dk_at dksJ7_append_2_1 19 rfl rfl)
theorem dJ7_append_2_44 : decode cJ7_append_2 44 = .ok (.areturn, 1) := dk_176 (dk_at dksJ7_append_2_1 20 rfl rfl)
abbrev cJ7_appendNull : ByteArray := prog_17_method_26_code
def yJ7_appendNull : MethodName := ⟨RJ7, "appendNull", "()Ljava/lang/AbstractStringBuilder;"⟩
def dkwJ7_appendNull_3 : List UInt8 := [184, 0, 226, 60, 42, 27, 181, 0, 79, 42, 176]
abbrev dktJ7_appendNull_3 : List UInt8 := dkwJ7_appendNull_3 ++ []
def dkwJ7_appendNull_2 : List UInt8 := [16, 108, 84, 44, 27, 132, 1, 1, 16, 108, 84, 167, 0, 17, 44, 27, 16, 110, 16, 117, 16, 108, 16, 108]
abbrev dktJ7_appendNull_2 : List UInt8 := dkwJ7_appendNull_2 ++ dktJ7_appendNull_3
def dkwJ7_appendNull_1 : List UInt8 := [153, 0, 38, 44, 27, 132, 1, 1, 16, 110, 84, 44, 27, 132, 1, 1, 16, 117, 84, 44, 27, 132, 1, 1]
abbrev dktJ7_appendNull_1 : List UInt8 := dkwJ7_appendNull_1 ++ dktJ7_appendNull_2
def dkwJ7_appendNull_0 : List UInt8 := [42, 42, 180, 0, 79, 7, 96, 182, 0, 100, 42, 180, 0, 79, 60, 42, 180, 0, 15, 77, 42, 182, 0, 83]
abbrev dktJ7_appendNull_0 : List UInt8 := dkwJ7_appendNull_0 ++ dktJ7_appendNull_1
theorem dksJ7_appendNull_0 : cJ7_appendNull.data.toList.drop 0 = dktJ7_appendNull_0 := by decide +kernel
theorem dksJ7_appendNull_1 : cJ7_appendNull.data.toList.drop 24 = dktJ7_appendNull_1 := dk_seg dksJ7_appendNull_0 24 rfl rfl
theorem dksJ7_appendNull_2 : cJ7_appendNull.data.toList.drop 48 = dktJ7_appendNull_2 := dk_seg dksJ7_appendNull_1 24 rfl rfl
theorem dksJ7_appendNull_3 : cJ7_appendNull.data.toList.drop 72 = dktJ7_appendNull_3 := dk_seg dksJ7_appendNull_2 24 rfl rfl
theorem dJ7_appendNull_0 : decode cJ7_appendNull 0 = .ok (.aload_n 0, 1) := dk_42 (dk_at dksJ7_appendNull_0 0 rfl rfl)
theorem dJ7_appendNull_1 : decode cJ7_appendNull 1 = .ok (.aload_n 0, 1) := dk_42 (dk_at dksJ7_appendNull_0 1 rfl rfl)
theorem dJ7_appendNull_2 : decode cJ7_appendNull 2 = .ok (.getfield 79, 3) := dk_180 0 79 (dk_at dksJ7_appendNull_0 2 rfl rfl)
theorem dJ7_appendNull_5 : decode cJ7_appendNull 5 = .ok (.iconst 4, 1) := dk_7 (dk_at dksJ7_appendNull_0 5 rfl rfl)
theorem dJ7_appendNull_6 : decode cJ7_appendNull 6 = .ok (.iadd, 1) := dk_96 (dk_at dksJ7_appendNull_0 6 rfl rfl)
theorem dJ7_appendNull_7 : decode cJ7_appendNull 7 = .ok (.invokevirtual 100, 3) := dk_182 0 100 (dk_at dksJ7_appendNull_0 7 rfl rfl)
theorem dJ7_appendNull_10 : decode cJ7_appendNull 10 = .ok (.aload_n 0, 1) := dk_42 (dk_at dksJ7_appendNull_0 10 rfl rfl)
theorem dJ7_appendNull_11 : decode cJ7_appendNull 11 = .ok (.getfield 79, 3) := dk_180 0 79 (dk_at dksJ7_appendNull_0 11 rfl rfl)
theorem dJ7_appendNull_14 : decode cJ7_appendNull 14 = .ok (.istore_n 1, 1) := dk_60 (dk_at dksJ7_appendNull_0 14 rfl rfl)
theorem dJ7_appendNull_15 : decode cJ7_appendNull 15 = .ok (.aload_n 0, 1) := dk_42 (dk_at dksJ7_appendNull_0 15 rfl rfl)
theorem dJ7_appendNull_16 : decode cJ7_appendNull 16 = .ok (.getfield 15, 3) := dk_180 0 15 (dk_at dksJ7_appendNull_0 16 rfl rfl)
theorem dJ7_appendNull_19 : decode cJ7_appendNull 19 = .ok (.astore_n 2, 1) := dk_77 (dk_at dksJ7_appendNull_0 19 rfl rfl)
theorem dJ7_appendNull_20 : decode cJ7_appendNull 20 = .ok (.aload_n 0, 1) := dk_42 (dk_at dksJ7_appendNull_0 20 rfl rfl)
theorem dJ7_appendNull_21 : decode cJ7_appendNull 21 = .ok (.invokevirtual 83, 3) := dk_182 0 83 (dk_at dksJ7_appendNull_0 21 rfl rfl)
theorem dJ7_appendNull_24 : decode cJ7_appendNull 24 = .ok (.ifCond .eq 38, 3) := dk_153 0 38 (dk_at dksJ7_appendNull_1 0 rfl rfl)
theorem dJ7_appendNull_27 : decode cJ7_appendNull 27 = .ok (.aload_n 2, 1) := dk_44 (dk_at dksJ7_appendNull_1 3 rfl rfl)
theorem dJ7_appendNull_28 : decode cJ7_appendNull 28 = .ok (.iload_n 1, 1) := dk_27 (dk_at dksJ7_appendNull_1 4 rfl rfl)
theorem dJ7_appendNull_29 : decode cJ7_appendNull 29 = .ok (.iinc 1 1, 3) := dk_132 1 1 (dk_at dksJ7_appendNull_1 5 rfl rfl)
theorem dJ7_appendNull_32 : decode cJ7_appendNull 32 = .ok (.bipush 110, 2) := dk_16 110 (dk_at dksJ7_appendNull_1 8 rfl rfl)
theorem dJ7_appendNull_34 : decode cJ7_appendNull 34 = .ok (.bastore, 1) := dk_84 (dk_at dksJ7_appendNull_1 10 rfl rfl)
theorem dJ7_appendNull_35 : decode cJ7_appendNull 35 = .ok (.aload_n 2, 1) := dk_44 (dk_at dksJ7_appendNull_1 11 rfl rfl)
theorem dJ7_appendNull_36 : decode cJ7_appendNull 36 = .ok (.iload_n 1, 1) := dk_27 (dk_at dksJ7_appendNull_1 12 rfl rfl)
theorem dJ7_appendNull_37 : decode cJ7_appendNull 37 = .ok (.iinc 1 1, 3) := dk_132 1 1 (dk_at dksJ7_appendNull_1 13 rfl rfl)
theorem dJ7_appendNull_40 : decode cJ7_appendNull 40 = .ok (.bipush 117, 2) := dk_16 117 (dk_at dksJ7_appendNull_1 16 rfl rfl)
theorem dJ7_appendNull_42 : decode cJ7_appendNull 42 = .ok (.bastore, 1) := dk_84 (dk_at dksJ7_appendNull_1 18 rfl rfl)
theorem dJ7_appendNull_43 : decode cJ7_appendNull 43 = .ok (.aload_n 2, 1) := dk_44 (dk_at dksJ7_appendNull_1 19 rfl rfl)
theorem dJ7_appendNull_44 : decode cJ7_appendNull 44 = .ok (.iload_n 1, 1) := dk_27 (dk_at dksJ7_appendNull_1 20 rfl rfl)
theorem dJ7_appendNull_45 : decode cJ7_appendNull 45 = .ok (.iinc 1 1, 3) := dk_132 1 1 (dk_at dksJ7_appendNull_1 21 rfl rfl)
theorem dJ7_appendNull_48 : decode cJ7_appendNull 48 = .ok (.bipush 108, 2) := dk_16 108 (dk_at dksJ7_appendNull_2 0 rfl rfl)
theorem dJ7_appendNull_50 : decode cJ7_appendNull 50 = .ok (.bastore, 1) := dk_84 (dk_at dksJ7_appendNull_2 2 rfl rfl)
theorem dJ7_appendNull_51 : decode cJ7_appendNull 51 = .ok (.aload_n 2, 1) := dk_44 (dk_at dksJ7_appendNull_2 3 rfl rfl)
theorem dJ7_appendNull_52 : decode cJ7_appendNull 52 = .ok (.iload_n 1, 1) := dk_27 (dk_at dksJ7_appendNull_2 4 rfl rfl)
theorem dJ7_appendNull_53 : decode cJ7_appendNull 53 = .ok (.iinc 1 1, 3) := dk_132 1 1 (dk_at dksJ7_appendNull_2 5 rfl rfl)
theorem dJ7_appendNull_56 : decode cJ7_appendNull 56 = .ok (.bipush 108, 2) := dk_16 108 (dk_at dksJ7_appendNull_2 8 rfl rfl)
theorem dJ7_appendNull_58 : decode cJ7_appendNull 58 = .ok (.bastore, 1) := dk_84 (dk_at dksJ7_appendNull_2 10 rfl rfl)
theorem dJ7_appendNull_59 : decode cJ7_appendNull 59 = .ok (.goto 17, 3) := dk_167 0 17 (dk_at dksJ7_appendNull_2 11 rfl rfl)
theorem dJ7_appendNull_62 : decode cJ7_appendNull 62 = .ok (.aload_n 2, 1) := dk_44 (dk_at dksJ7_appendNull_2 14 rfl rfl)
theorem dJ7_appendNull_63 : decode cJ7_appendNull 63 = .ok (.iload_n 1, 1) := dk_27 (dk_at dksJ7_appendNull_2 15 rfl rfl)
theorem dJ7_appendNull_64 : decode cJ7_appendNull 64 = .ok (.bipush 110, 2) := dk_16 110 (dk_at dksJ7_appendNull_2 16 rfl rfl)
theorem dJ7_appendNull_66 : decode cJ7_appendNull 66 = .ok (.bipush 117, 2) := dk_16 117 (dk_at dksJ7_appendNull_2 18 rfl rfl)
theorem dJ7_appendNull_68 : decode cJ7_appendNull 68 = .ok (.bipush 108, 2) := dk_16 108 (dk_at dksJ7_appendNull_2 20 rfl rfl)
theorem dJ7_appendNull_70 : decode cJ7_appendNull 70 = .ok (.bipush 108, 2) := dk_16 108 (dk_at dksJ7_appendNull_2 22 rfl rfl)
theorem dJ7_appendNull_72 : decode cJ7_appendNull 72 = .ok (.invokestatic 226, 3) := dk_184 0 226 (dk_at dksJ7_appendNull_3 0 rfl rfl)
theorem dJ7_appendNull_75 : decode cJ7_appendNull 75 = .ok (.istore_n 1, 1) := dk_60 (dk_at dksJ7_appendNull_3 3 rfl rfl)
theorem dJ7_appendNull_76 : decode cJ7_appendNull 76 = .ok (.aload_n 0, 1) := dk_42 (dk_at dksJ7_appendNull_3 4 rfl rfl)
theorem dJ7_appendNull_77 : decode cJ7_appendNull 77 = .ok (.iload_n 1, 1) := dk_27 (dk_at dksJ7_appendNull_3 5 rfl rfl)
theorem dJ7_appendNull_78 : decode cJ7_appendNull 78 = .ok (.putfield 79, 3) := dk_181 0 79 (dk_at dksJ7_appendNull_3 6 rfl rfl)
theorem dJ7_appendNull_81 : decode cJ7_appendNull 81 = .ok (.aload_n 0, 1) := dk_42 (dk_at dksJ7_appendNull_3 9 rfl rfl)
theorem dJ7_appendNull_82 : decode cJ7_appendNull 82 = .ok (.areturn, 1) := dk_176 (dk_at dksJ7_appendNull_3 10 rfl rfl)
abbrev cJ7_putStringAt : ByteArray := prog_17_method_73_code
def yJ7_putStringAt : MethodName := ⟨RJ7, "putStringAt", "(ILjava/lang/String;)V"⟩
def dkwJ7_putStringAt_0 : List UInt8 := [42, 44, 182, 1, 141, 44, 42, 180, 0, 15, 27, 42, 180, 0, 22, 182, 1, 143, 177]
abbrev dktJ7_putStringAt_0 : List UInt8 := dkwJ7_putStringAt_0 ++ []
theorem dksJ7_putStringAt_0 : cJ7_putStringAt.data.toList.drop 0 = dktJ7_putStringAt_0 := by decide +kernel
theorem dJ7_putStringAt_0 : decode cJ7_putStringAt 0 = .ok (.aload_n 0, 1) := dk_42 (dk_at dksJ7_putStringAt_0 0 rfl rfl)
theorem dJ7_putStringAt_1 : decode cJ7_putStringAt 1 = .ok (.aload_n 2, 1) := dk_44 (dk_at dksJ7_putStringAt_0 1 rfl rfl)
theorem dJ7_putStringAt_2 : decode cJ7_putStringAt 2 = .ok (.invokevirtual 397, 3) := dk_182 1 141 (dk_at dksJ7_putStringAt_0 2 rfl rfl)
theorem dJ7_putStringAt_5 : decode cJ7_putStringAt 5 = .ok (.aload_n 2, 1) := dk_44 (dk_at dksJ7_putStringAt_0 5 rfl rfl)
theorem dJ7_putStringAt_6 : decode cJ7_putStringAt 6 = .ok (.aload_n 0, 1) := dk_42 (dk_at dksJ7_putStringAt_0 6 rfl rfl)
theorem dJ7_putStringAt_7 : decode cJ7_putStringAt 7 = .ok (.getfield 15, 3) := dk_180 0 15 (dk_at dksJ7_putStringAt_0 7 rfl rfl)
theorem dJ7_putStringAt_10 : decode cJ7_putStringAt 10 = .ok (.iload_n 1, 1) := dk_27 (dk_at dksJ7_putStringAt_0 10 rfl rfl)
theorem dJ7_putStringAt_11 : decode cJ7_putStringAt 11 = .ok (.aload_n 0, 1) := dk_42 (dk_at dksJ7_putStringAt_0 11 rfl rfl)
theorem dJ7_putStringAt_12 : decode cJ7_putStringAt 12 = .ok (.getfield 22, 3) := dk_180 0 22 (dk_at dksJ7_putStringAt_0 12 rfl rfl)
theorem dJ7_putStringAt_15 : decode cJ7_putStringAt 15 = .ok (.invokevirtual 399, 3) := dk_182 1 143 (dk_at dksJ7_putStringAt_0 15 rfl rfl)
theorem dJ7_putStringAt_18 : decode cJ7_putStringAt 18 = .ok (.return_, 1) := dk_177 (dk_at dksJ7_putStringAt_0 18 rfl rfl)
abbrev cJ7_inflateIfNeededFor : ByteArray := prog_17_method_71_code
def yJ7_inflateIfNeededFor : MethodName := ⟨RJ7, "inflateIfNeededFor", "(Ljava/lang/String;)V"⟩
def dkwJ7_inflateIfNeededFor_0 : List UInt8 := [178, 0, 18, 153, 0, 18, 42, 180, 0, 22, 43, 182, 0, 40, 159, 0, 7, 42, 182, 0, 195, 177]
abbrev dktJ7_inflateIfNeededFor_0 : List UInt8 := dkwJ7_inflateIfNeededFor_0 ++ []
theorem dksJ7_inflateIfNeededFor_0 : cJ7_inflateIfNeededFor.data.toList.drop 0 = dktJ7_inflateIfNeededFor_0 := by decide +kernel
theorem dJ7_inflateIfNeededFor_0 : decode cJ7_inflateIfNeededFor 0 = .ok (.getstatic 18, 3) := dk_178 0 18 (dk_at dksJ7_inflateIfNeededFor_0 0 rfl rfl)
theorem dJ7_inflateIfNeededFor_3 : decode cJ7_inflateIfNeededFor 3 = .ok (.ifCond .eq 18, 3) := dk_153 0 18 (dk_at dksJ7_inflateIfNeededFor_0 3 rfl rfl)
theorem dJ7_inflateIfNeededFor_6 : decode cJ7_inflateIfNeededFor 6 = .ok (.aload_n 0, 1) := dk_42 (dk_at dksJ7_inflateIfNeededFor_0 6 rfl rfl)
theorem dJ7_inflateIfNeededFor_7 : decode cJ7_inflateIfNeededFor 7 = .ok (.getfield 22, 3) := dk_180 0 22 (dk_at dksJ7_inflateIfNeededFor_0 7 rfl rfl)
theorem dJ7_inflateIfNeededFor_10 : decode cJ7_inflateIfNeededFor 10 = .ok (.aload_n 1, 1) := dk_43 (dk_at dksJ7_inflateIfNeededFor_0 10 rfl rfl)
theorem dJ7_inflateIfNeededFor_11 : decode cJ7_inflateIfNeededFor 11 = .ok (.invokevirtual 40, 3) := dk_182 0 40 (dk_at dksJ7_inflateIfNeededFor_0 11 rfl rfl)
theorem dJ7_inflateIfNeededFor_14 : decode cJ7_inflateIfNeededFor 14 = .ok (.if_icmp .eq 7, 3) := dk_159 0 7 (dk_at dksJ7_inflateIfNeededFor_0 14 rfl rfl)
theorem dJ7_inflateIfNeededFor_17 : decode cJ7_inflateIfNeededFor 17 = .ok (.aload_n 0, 1) := dk_42 (dk_at dksJ7_inflateIfNeededFor_0 17 rfl rfl)
theorem dJ7_inflateIfNeededFor_18 : decode cJ7_inflateIfNeededFor 18 = .ok (.invokevirtual 195, 3) := dk_182 0 195 (dk_at dksJ7_inflateIfNeededFor_0 18 rfl rfl)
theorem dJ7_inflateIfNeededFor_21 : decode cJ7_inflateIfNeededFor 21 = .ok (.return_, 1) := dk_177 (dk_at dksJ7_inflateIfNeededFor_0 21 rfl rfl)
abbrev cJ7_append_3 : ByteArray := prog_17_method_32_code
def yJ7_append_3 : MethodName := ⟨RJ7, "append", "(I)Ljava/lang/AbstractStringBuilder;"⟩
def dkwJ7_append_3_2 : List UInt8 := [42, 29, 181, 0, 79, 42, 176]
abbrev dktJ7_append_3_2 : List UInt8 := dkwJ7_append_3_2 ++ []
def dkwJ7_append_3_1 : List UInt8 := [27, 29, 42, 180, 0, 15, 184, 0, 248, 87, 167, 0, 14, 27, 28, 29, 42, 180, 0, 15, 184, 0, 251, 87]
abbrev dktJ7_append_3_1 : List UInt8 := dkwJ7_append_3_1 ++ dktJ7_append_3_2
def dkwJ7_append_3_0 : List UInt8 := [42, 180, 0, 79, 61, 28, 27, 184, 0, 245, 96, 62, 42, 29, 182, 0, 100, 42, 182, 0, 83, 153, 0, 16]
abbrev dktJ7_append_3_0 : List UInt8 := dkwJ7_append_3_0 ++ dktJ7_append_3_1
theorem dksJ7_append_3_0 : cJ7_append_3.data.toList.drop 0 = dktJ7_append_3_0 := by decide +kernel
theorem dksJ7_append_3_1 : cJ7_append_3.data.toList.drop 24 = dktJ7_append_3_1 := dk_seg dksJ7_append_3_0 24 rfl rfl
theorem dksJ7_append_3_2 : cJ7_append_3.data.toList.drop 48 = dktJ7_append_3_2 := dk_seg dksJ7_append_3_1 24 rfl rfl
theorem dJ7_append_3_0 : decode cJ7_append_3 0 = .ok (.aload_n 0, 1) := dk_42 (dk_at dksJ7_append_3_0 0 rfl rfl)
theorem dJ7_append_3_1 : decode cJ7_append_3 1 = .ok (.getfield 79, 3) := dk_180 0 79 (dk_at dksJ7_append_3_0 1 rfl rfl)
theorem dJ7_append_3_4 : decode cJ7_append_3 4 = .ok (.istore_n 2, 1) := dk_61 (dk_at dksJ7_append_3_0 4 rfl rfl)
theorem dJ7_append_3_5 : decode cJ7_append_3 5 = .ok (.iload_n 2, 1) := dk_28 (dk_at dksJ7_append_3_0 5 rfl rfl)
theorem dJ7_append_3_6 : decode cJ7_append_3 6 = .ok (.iload_n 1, 1) := dk_27 (dk_at dksJ7_append_3_0 6 rfl rfl)
theorem dJ7_append_3_7 : decode cJ7_append_3 7 = .ok (.invokestatic 245, 3) := dk_184 0 245 (dk_at dksJ7_append_3_0 7 rfl rfl)
theorem dJ7_append_3_10 : decode cJ7_append_3 10 = .ok (.iadd, 1) := dk_96 (dk_at dksJ7_append_3_0 10 rfl rfl)
theorem dJ7_append_3_11 : decode cJ7_append_3 11 = .ok (.istore_n 3, 1) := dk_62 (dk_at dksJ7_append_3_0 11 rfl rfl)
theorem dJ7_append_3_12 : decode cJ7_append_3 12 = .ok (.aload_n 0, 1) := dk_42 (dk_at dksJ7_append_3_0 12 rfl rfl)
theorem dJ7_append_3_13 : decode cJ7_append_3 13 = .ok (.iload_n 3, 1) := dk_29 (dk_at dksJ7_append_3_0 13 rfl rfl)
theorem dJ7_append_3_14 : decode cJ7_append_3 14 = .ok (.invokevirtual 100, 3) := dk_182 0 100 (dk_at dksJ7_append_3_0 14 rfl rfl)
theorem dJ7_append_3_17 : decode cJ7_append_3 17 = .ok (.aload_n 0, 1) := dk_42 (dk_at dksJ7_append_3_0 17 rfl rfl)
theorem dJ7_append_3_18 : decode cJ7_append_3 18 = .ok (.invokevirtual 83, 3) := dk_182 0 83 (dk_at dksJ7_append_3_0 18 rfl rfl)
theorem dJ7_append_3_21 : decode cJ7_append_3 21 = .ok (.ifCond .eq 16, 3) := dk_153 0 16 (dk_at dksJ7_append_3_0 21 rfl rfl)
theorem dJ7_append_3_24 : decode cJ7_append_3 24 = .ok (.iload_n 1, 1) := dk_27 (dk_at dksJ7_append_3_1 0 rfl rfl)
theorem dJ7_append_3_25 : decode cJ7_append_3 25 = .ok (.iload_n 3, 1) := dk_29 (dk_at dksJ7_append_3_1 1 rfl rfl)
theorem dJ7_append_3_26 : decode cJ7_append_3 26 = .ok (.aload_n 0, 1) := dk_42 (dk_at dksJ7_append_3_1 2 rfl rfl)
theorem dJ7_append_3_27 : decode cJ7_append_3 27 = .ok (.getfield 15, 3) := dk_180 0 15 (dk_at dksJ7_append_3_1 3 rfl rfl)
theorem dJ7_append_3_30 : decode cJ7_append_3 30 = .ok (.invokestatic 248, 3) := dk_184 0 248 (dk_at dksJ7_append_3_1 6 rfl rfl)
theorem dJ7_append_3_33 : decode cJ7_append_3 33 = .ok (.pop, 1) := dk_87 (dk_at dksJ7_append_3_1 9 rfl rfl)
theorem dJ7_append_3_34 : decode cJ7_append_3 34 = .ok (.goto 14, 3) := dk_167 0 14 (dk_at dksJ7_append_3_1 10 rfl rfl)
theorem dJ7_append_3_37 : decode cJ7_append_3 37 = .ok (.iload_n 1, 1) := dk_27 (dk_at dksJ7_append_3_1 13 rfl rfl)
theorem dJ7_append_3_38 : decode cJ7_append_3 38 = .ok (.iload_n 2, 1) := dk_28 (dk_at dksJ7_append_3_1 14 rfl rfl)
theorem dJ7_append_3_39 : decode cJ7_append_3 39 = .ok (.iload_n 3, 1) := dk_29 (dk_at dksJ7_append_3_1 15 rfl rfl)
theorem dJ7_append_3_40 : decode cJ7_append_3 40 = .ok (.aload_n 0, 1) := dk_42 (dk_at dksJ7_append_3_1 16 rfl rfl)
theorem dJ7_append_3_41 : decode cJ7_append_3 41 = .ok (.getfield 15, 3) := dk_180 0 15 (dk_at dksJ7_append_3_1 17 rfl rfl)
theorem dJ7_append_3_44 : decode cJ7_append_3 44 = .ok (.invokestatic 251, 3) := dk_184 0 251 (dk_at dksJ7_append_3_1 20 rfl rfl)
theorem dJ7_append_3_47 : decode cJ7_append_3 47 = .ok (.pop, 1) := dk_87 (dk_at dksJ7_append_3_1 23 rfl rfl)
theorem dJ7_append_3_48 : decode cJ7_append_3 48 = .ok (.aload_n 0, 1) := dk_42 (dk_at dksJ7_append_3_2 0 rfl rfl)
theorem dJ7_append_3_49 : decode cJ7_append_3 49 = .ok (.iload_n 3, 1) := dk_29 (dk_at dksJ7_append_3_2 1 rfl rfl)
theorem dJ7_append_3_50 : decode cJ7_append_3 50 = .ok (.putfield 79, 3) := dk_181 0 79 (dk_at dksJ7_append_3_2 2 rfl rfl)
theorem dJ7_append_3_53 : decode cJ7_append_3 53 = .ok (.aload_n 0, 1) := dk_42 (dk_at dksJ7_append_3_2 5 rfl rfl)
theorem dJ7_append_3_54 : decode cJ7_append_3 54 = .ok (.areturn, 1) := dk_176 (dk_at dksJ7_append_3_2 6 rfl rfl)
abbrev cJ7_charAt : ByteArray := prog_17_method_14_code
def yJ7_charAt : MethodName := ⟨RJ7, "charAt", "(I)C"⟩
def dkwJ7_charAt_1 : List UInt8 := [21, 4, 184, 0, 144, 28, 154, 0, 12, 45, 27, 51, 17, 0, 255, 126, 146, 172, 45, 27, 184, 0, 148, 172]
abbrev dktJ7_charAt_1 : List UInt8 := dkwJ7_charAt_1 ++ []
def dkwJ7_charAt_0 : List UInt8 := [42, 180, 0, 22, 61, 42, 180, 0, 15, 78, 42, 180, 0, 79, 45, 190, 28, 122, 184, 0, 138, 54, 4, 27]
abbrev dktJ7_charAt_0 : List UInt8 := dkwJ7_charAt_0 ++ dktJ7_charAt_1
theorem dksJ7_charAt_0 : cJ7_charAt.data.toList.drop 0 = dktJ7_charAt_0 := by decide +kernel
theorem dksJ7_charAt_1 : cJ7_charAt.data.toList.drop 24 = dktJ7_charAt_1 := dk_seg dksJ7_charAt_0 24 rfl rfl
theorem dJ7_charAt_0 : decode cJ7_charAt 0 = .ok (.aload_n 0, 1) := dk_42 (dk_at dksJ7_charAt_0 0 rfl rfl)
theorem dJ7_charAt_1 : decode cJ7_charAt 1 = .ok (.getfield 22, 3) := dk_180 0 22 (dk_at dksJ7_charAt_0 1 rfl rfl)
theorem dJ7_charAt_4 : decode cJ7_charAt 4 = .ok (.istore_n 2, 1) := dk_61 (dk_at dksJ7_charAt_0 4 rfl rfl)
theorem dJ7_charAt_5 : decode cJ7_charAt 5 = .ok (.aload_n 0, 1) := dk_42 (dk_at dksJ7_charAt_0 5 rfl rfl)
theorem dJ7_charAt_6 : decode cJ7_charAt 6 = .ok (.getfield 15, 3) := dk_180 0 15 (dk_at dksJ7_charAt_0 6 rfl rfl)
theorem dJ7_charAt_9 : decode cJ7_charAt 9 = .ok (.astore_n 3, 1) := dk_78 (dk_at dksJ7_charAt_0 9 rfl rfl)
theorem dJ7_charAt_10 : decode cJ7_charAt 10 = .ok (.aload_n 0, 1) := dk_42 (dk_at dksJ7_charAt_0 10 rfl rfl)
theorem dJ7_charAt_11 : decode cJ7_charAt 11 = .ok (.getfield 79, 3) := dk_180 0 79 (dk_at dksJ7_charAt_0 11 rfl rfl)
theorem dJ7_charAt_14 : decode cJ7_charAt 14 = .ok (.aload_n 3, 1) := dk_45 (dk_at dksJ7_charAt_0 14 rfl rfl)
theorem dJ7_charAt_15 : decode cJ7_charAt 15 = .ok (.arraylength, 1) := dk_190 (dk_at dksJ7_charAt_0 15 rfl rfl)
theorem dJ7_charAt_16 : decode cJ7_charAt 16 = .ok (.iload_n 2, 1) := dk_28 (dk_at dksJ7_charAt_0 16 rfl rfl)
theorem dJ7_charAt_17 : decode cJ7_charAt 17 = .ok (.ishr, 1) := dk_122 (dk_at dksJ7_charAt_0 17 rfl rfl)
theorem dJ7_charAt_18 : decode cJ7_charAt 18 = .ok (.invokestatic 138, 3) := dk_184 0 138 (dk_at dksJ7_charAt_0 18 rfl rfl)
theorem dJ7_charAt_21 : decode cJ7_charAt 21 = .ok (.istore 4, 2) := dk_54 4 (dk_at dksJ7_charAt_0 21 rfl rfl)
theorem dJ7_charAt_23 : decode cJ7_charAt 23 = .ok (.iload_n 1, 1) := dk_27 (dk_at dksJ7_charAt_0 23 rfl rfl)
theorem dJ7_charAt_24 : decode cJ7_charAt 24 = .ok (.iload 4, 2) := dk_21 4 (dk_at dksJ7_charAt_1 0 rfl rfl)
theorem dJ7_charAt_26 : decode cJ7_charAt 26 = .ok (.invokestatic 144, 3) := dk_184 0 144 (dk_at dksJ7_charAt_1 2 rfl rfl)
theorem dJ7_charAt_29 : decode cJ7_charAt 29 = .ok (.iload_n 2, 1) := dk_28 (dk_at dksJ7_charAt_1 5 rfl rfl)
theorem dJ7_charAt_30 : decode cJ7_charAt 30 = .ok (.ifCond .ne 12, 3) := dk_154 0 12 (dk_at dksJ7_charAt_1 6 rfl rfl)
theorem dJ7_charAt_33 : decode cJ7_charAt 33 = .ok (.aload_n 3, 1) := dk_45 (dk_at dksJ7_charAt_1 9 rfl rfl)
theorem dJ7_charAt_34 : decode cJ7_charAt 34 = .ok (.iload_n 1, 1) := dk_27 (dk_at dksJ7_charAt_1 10 rfl rfl)
theorem dJ7_charAt_35 : decode cJ7_charAt 35 = .ok (.baload, 1) := dk_51 (dk_at dksJ7_charAt_1 11 rfl rfl)
theorem dJ7_charAt_36 : decode cJ7_charAt 36 = .ok (.sipush 255, 3) := dk_17 0 255 (dk_at dksJ7_charAt_1 12 rfl rfl)
theorem dJ7_charAt_39 : decode cJ7_charAt 39 = .ok (.iand, 1) := dk_126 (dk_at dksJ7_charAt_1 15 rfl rfl)
theorem dJ7_charAt_40 : decode cJ7_charAt 40 = .ok (.i2c, 1) := dk_146 (dk_at dksJ7_charAt_1 16 rfl rfl)
theorem dJ7_charAt_41 : decode cJ7_charAt 41 = .ok (.ireturn, 1) := dk_172 (dk_at dksJ7_charAt_1 17 rfl rfl)
theorem dJ7_charAt_42 : decode cJ7_charAt 42 = .ok (.aload_n 3, 1) := dk_45 (dk_at dksJ7_charAt_1 18 rfl rfl)
theorem dJ7_charAt_43 : decode cJ7_charAt 43 = .ok (.iload_n 1, 1) := dk_27 (dk_at dksJ7_charAt_1 19 rfl rfl)
theorem dJ7_charAt_44 : decode cJ7_charAt 44 = .ok (.invokestatic 148, 3) := dk_184 0 148 (dk_at dksJ7_charAt_1 20 rfl rfl)
theorem dJ7_charAt_47 : decode cJ7_charAt 47 = .ok (.ireturn, 1) := dk_172 (dk_at dksJ7_charAt_1 23 rfl rfl)
theorem q185 : (Jvm.Cond.initialized "java/lang/AbstractStringBuilder") ∈ lw_all := lw_g (lw_at lw_m1 12 rfl) rfl
theorem q555 : (Jvm.Cond.instanceMethod ({ cls := "java/lang/AbstractStringBuilder", name := "<init>", desc := "(I)V" } : Jvm.MethodName)) ∈ lw_all := lw_g (lw_at lw_m2 142 rfl) rfl
theorem q556 : (Jvm.Cond.code ({ cls := "java/lang/AbstractStringBuilder", name := "<init>", desc := "(I)V" } : Jvm.MethodName) prog_17_method_2_code (2 : Nat) (Option.none : Option Jvm.ClassFile.FieldType)) ∈ lw_all := lw_g (lw_at lw_m2 143 rfl) rfl
theorem q557 : (Jvm.Cond.methodLink "java/lang/AbstractStringBuilder" (3 : Nat) ({ cls := "java/lang/Object", name := "<init>", desc := "()V" } : Jvm.MethodName)) ∈ lw_all := lw_g (lw_at lw_m2 144 rfl) rfl
theorem q558 : (Jvm.Cond.fieldLink "java/lang/AbstractStringBuilder" (18 : Nat) "java/lang/String" "COMPACT_STRINGS" "Z") ∈ lw_all := lw_g (lw_at lw_m2 145 rfl) rfl
theorem q560 : (Jvm.Cond.methodLink "java/lang/AbstractStringBuilder" (26 : Nat) ({ cls := "java/lang/StringUTF16", name := "newBytesFor", desc := "(I)[B" } : Jvm.MethodName)) ∈ lw_all := lw_g (lw_at lw_m2 147 rfl) rfl
theorem q567 : (Jvm.Cond.fieldLink "java/lang/AbstractStringBuilder" (15 : Nat) "java/lang/AbstractStringBuilder" "value" "[B") ∈ lw_all := lw_g (lw_at lw_m2 154 rfl) rfl
theorem q568 : (Jvm.Cond.fieldLink "java/lang/AbstractStringBuilder" (22 : Nat) "java/lang/AbstractStringBuilder" "coder" "B") ∈ lw_all := lw_g (lw_at lw_m2 155 rfl) rfl
theorem q569 : (Jvm.Cond.fieldLink "java/lang/AbstractStringBuilder" (73 : Nat) "java/lang/AbstractStringBuilder" "maybeLatin1" "Z") ∈ lw_all := lw_g (lw_at lw_m2 156 rfl) rfl
theorem q571 : (Jvm.Cond.fieldLink "java/lang/AbstractStringBuilder" (79 : Nat) "java/lang/AbstractStringBuilder" "count" "I") ∈ lw_all := lw_g (lw_at lw_m2 158 rfl) rfl
theorem q573 : (Jvm.Cond.soleField "java/lang/AbstractStringBuilder" "value") ∈ lw_all := lw_g (lw_at lw_m2 160 rfl) rfl
theorem q575 : (Jvm.Cond.soleField "java/lang/AbstractStringBuilder" "coder") ∈ lw_all := lw_g (lw_at lw_m2 162 rfl) rfl
theorem q577 : (Jvm.Cond.soleField "java/lang/AbstractStringBuilder" "maybeLatin1") ∈ lw_all := lw_g (lw_at lw_m2 164 rfl) rfl
theorem q579 : (Jvm.Cond.soleField "java/lang/AbstractStringBuilder" "count") ∈ lw_all := lw_g (lw_at lw_m2 166 rfl) rfl
theorem q684 : (Jvm.Cond.instanceMethod ({ cls := "java/lang/AbstractStringBuilder", name := "append", desc := "(C)Ljava/lang/AbstractStringBuilder;" } : Jvm.MethodName)) ∈ lw_all := lw_g (lw_at lw_m3 31 rfl) rfl
theorem q685 : (Jvm.Cond.code ({ cls := "java/lang/AbstractStringBuilder", name := "append", desc := "(C)Ljava/lang/AbstractStringBuilder;" } : Jvm.MethodName) prog_17_method_31_code (2 : Nat) (Option.some (Jvm.ClassFile.FieldType.object "java/lang/AbstractStringBuilder"))) ∈ lw_all := lw_g (lw_at lw_m3 32 rfl) rfl
theorem q686 : (Jvm.Cond.methodLink "java/lang/AbstractStringBuilder" (100 : Nat) ({ cls := "java/lang/AbstractStringBuilder", name := "ensureCapacityInternal", desc := "(I)V" } : Jvm.MethodName)) ∈ lw_all := lw_g (lw_at lw_m3 33 rfl) rfl
theorem q687 : (Jvm.Cond.privateMethod ({ cls := "java/lang/AbstractStringBuilder", name := "ensureCapacityInternal", desc := "(I)V" } : Jvm.MethodName)) ∈ lw_tbl := lw_at lw_m3 34 rfl
theorem q688 : (Jvm.Cond.instanceMethod ({ cls := "java/lang/AbstractStringBuilder", name := "ensureCapacityInternal", desc := "(I)V" } : Jvm.MethodName)) ∈ lw_all := lw_g (lw_at lw_m3 35 rfl) rfl
theorem q689 : (Jvm.Cond.code ({ cls := "java/lang/AbstractStringBuilder", name := "ensureCapacityInternal", desc := "(I)V" } : Jvm.MethodName) prog_17_method_9_code (3 : Nat) (Option.none : Option Jvm.ClassFile.FieldType)) ∈ lw_all := lw_g (lw_at lw_m3 36 rfl) rfl
theorem q690 : (Jvm.Cond.methodLink "java/lang/AbstractStringBuilder" (104 : Nat) ({ cls := "java/lang/AbstractStringBuilder", name := "newCapacity", desc := "(I)I" } : Jvm.MethodName)) ∈ lw_all := lw_g (lw_at lw_m3 37 rfl) rfl
theorem q691 : (Jvm.Cond.privateMethod ({ cls := "java/lang/AbstractStringBuilder", name := "newCapacity", desc := "(I)I" } : Jvm.MethodName)) ∈ lw_tbl := lw_at lw_m3 38 rfl
theorem q692 : (Jvm.Cond.instanceMethod ({ cls := "java/lang/AbstractStringBuilder", name := "newCapacity", desc := "(I)I" } : Jvm.MethodName)) ∈ lw_all := lw_g (lw_at lw_m3 39 rfl) rfl
theorem q693 : (Jvm.Cond.code ({ cls := "java/lang/AbstractStringBuilder", name := "newCapacity", desc := "(I)I" } : Jvm.MethodName) prog_17_method_10_code (6 : Nat) (Option.some Jvm.ClassFile.FieldType.int)) ∈ lw_all := lw_g (lw_at lw_m3 40 rfl) rfl
theorem q694 : (Jvm.Cond.methodLink "java/lang/AbstractStringBuilder" (114 : Nat) ({ cls := "jdk/internal/util/ArraysSupport", name := "newLength", desc := "(III)I" } : Jvm.MethodName)) ∈ lw_all := lw_g (lw_at lw_m3 41 rfl) rfl
theorem q702 : (Jvm.Cond.constant "java/lang/AbstractStringBuilder" (39 : Nat) (2147483647 : Int32)) ∈ lw_all := lw_g (lw_at lw_m3 49 rfl) rfl
theorem q703 : (Jvm.Cond.methodLink "java/lang/AbstractStringBuilder" (108 : Nat) ({ cls := "java/util/Arrays", name := "copyOf", desc := "([BI)[B" } : Jvm.MethodName)) ∈ lw_all := lw_g (lw_at lw_m3 50 rfl) rfl
theorem q717 : (Jvm.Cond.methodLink "java/lang/AbstractStringBuilder" (83 : Nat) ({ cls := "java/lang/AbstractStringBuilder", name := "isLatin1", desc := "()Z" } : Jvm.MethodName)) ∈ lw_all := lw_g (lw_at lw_m3 64 rfl) rfl
theorem q718 : (Jvm.Cond.instanceMethod ({ cls := "java/lang/AbstractStringBuilder", name := "isLatin1", desc := "()Z" } : Jvm.MethodName)) ∈ lw_all := lw_g (lw_at lw_m3 65 rfl) rfl
theorem q719 : (Jvm.Cond.sameMethod "java/lang/AbstractStringBuilder" "java/lang/AbstractStringBuilder" "isLatin1" "()Z") ∈ lw_all := lw_g (lw_at lw_m3 66 rfl) rfl
theorem q721 : (Jvm.Cond.code ({ cls := "java/lang/AbstractStringBuilder", name := "isLatin1", desc := "()Z" } : Jvm.MethodName) prog_17_method_68_code (1 : Nat) (Option.some Jvm.ClassFile.FieldType.boolean)) ∈ lw_all := lw_g (lw_at lw_m3 68 rfl) rfl
theorem q722 : (Jvm.Cond.methodLink "java/lang/AbstractStringBuilder" (191 : Nat) ({ cls := "java/lang/StringLatin1", name := "canEncode", desc := "(C)Z" } : Jvm.MethodName)) ∈ lw_all := lw_g (lw_at lw_m3 69 rfl) rfl
theorem q725 : (Jvm.Cond.methodLink "java/lang/AbstractStringBuilder" (195 : Nat) ({ cls := "java/lang/AbstractStringBuilder", name := "inflate", desc := "()V" } : Jvm.MethodName)) ∈ lw_all := lw_g (lw_at lw_m3 72 rfl) rfl
theorem q726 : (Jvm.Cond.privateMethod ({ cls := "java/lang/AbstractStringBuilder", name := "inflate", desc := "()V" } : Jvm.MethodName)) ∈ lw_tbl := lw_at lw_m3 73 rfl
theorem q727 : (Jvm.Cond.instanceMethod ({ cls := "java/lang/AbstractStringBuilder", name := "inflate", desc := "()V" } : Jvm.MethodName)) ∈ lw_all := lw_g (lw_at lw_m3 74 rfl) rfl
theorem q728 : (Jvm.Cond.code ({ cls := "java/lang/AbstractStringBuilder", name := "inflate", desc := "()V" } : Jvm.MethodName) prog_17_method_11_code (2 : Nat) (Option.none : Option Jvm.ClassFile.FieldType)) ∈ lw_all := lw_g (lw_at lw_m3 75 rfl) rfl
theorem q729 : (Jvm.Cond.methodLink "java/lang/AbstractStringBuilder" (125 : Nat) ({ cls := "java/lang/StringLatin1", name := "inflate", desc := "([BI[BII)V" } : Jvm.MethodName)) ∈ lw_all := lw_g (lw_at lw_m3 76 rfl) rfl
theorem q758 : (Jvm.Cond.methodLink "java/lang/AbstractStringBuilder" (197 : Nat) ({ cls := "java/lang/StringUTF16", name := "putCharSB", desc := "([BII)V" } : Jvm.MethodName)) ∈ lw_all := lw_g (lw_at lw_m3 105 rfl) rfl
theorem q782 : (Jvm.Cond.instanceMethod ({ cls := "java/lang/AbstractStringBuilder", name := "getValue", desc := "()[B" } : Jvm.MethodName)) ∈ lw_all := lw_g (lw_at lw_m3 129 rfl) rfl
theorem q783 : (Jvm.Cond.sameMethod "java/lang/AbstractStringBuilder" "java/lang/AbstractStringBuilder" "getValue" "()[B") ∈ lw_all := lw_g (lw_at lw_m3 130 rfl) rfl
theorem q785 : (Jvm.Cond.code ({ cls := "java/lang/AbstractStringBuilder", name := "getValue", desc := "()[B" } : Jvm.MethodName) prog_17_method_64_code (1 : Nat) (Option.some (Jvm.ClassFile.FieldType.array Jvm.ClassFile.FieldType.byte))) ∈ lw_all := lw_g (lw_at lw_m3 132 rfl) rfl
theorem q787 : (Jvm.Cond.instanceMethod ({ cls := "java/lang/AbstractStringBuilder", name := "length", desc := "()I" } : Jvm.MethodName)) ∈ lw_all := lw_g (lw_at lw_m3 134 rfl) rfl
theorem q788 : (Jvm.Cond.sameMethod "java/lang/AbstractStringBuilder" "java/lang/AbstractStringBuilder" "length" "()I") ∈ lw_all := lw_g (lw_at lw_m3 135 rfl) rfl
theorem q793 : (Jvm.Cond.code ({ cls := "java/lang/AbstractStringBuilder", name := "length", desc := "()I" } : Jvm.MethodName) prog_17_method_6_code (1 : Nat) (Option.some Jvm.ClassFile.FieldType.int)) ∈ lw_all := lw_g (lw_at lw_m3 140 rfl) rfl
theorem q1860 : (Jvm.Cond.instanceMethod ({ cls := "java/lang/AbstractStringBuilder", name := "setLength", desc := "(I)V" } : Jvm.MethodName)) ∈ lw_all := lw_g (lw_at lw_m8 7 rfl) rfl
theorem q1861 : (Jvm.Cond.code ({ cls := "java/lang/AbstractStringBuilder", name := "setLength", desc := "(I)V" } : Jvm.MethodName) prog_17_method_13_code (2 : Nat) (Option.none : Option Jvm.ClassFile.FieldType)) ∈ lw_all := lw_g (lw_at lw_m8 8 rfl) rfl
theorem q1862 : (Jvm.Cond.methodLink "java/lang/AbstractStringBuilder" (133 : Nat) ({ cls := "java/lang/StringLatin1", name := "fillNull", desc := "([BII)V" } : Jvm.MethodName)) ∈ lw_all := lw_g (lw_at lw_m8 9 rfl) rfl
theorem q1871 : (Jvm.Cond.methodLink "java/lang/AbstractStringBuilder" (137 : Nat) ({ cls := "java/lang/StringUTF16", name := "fillNull", desc := "([BII)V" } : Jvm.MethodName)) ∈ lw_all := lw_g (lw_at lw_m8 18 rfl) rfl
theorem q1881 : (Jvm.Cond.instanceMethod ({ cls := "java/lang/AbstractStringBuilder", name := "append", desc := "(Ljava/lang/String;)Ljava/lang/AbstractStringBuilder;" } : Jvm.MethodName)) ∈ lw_all := lw_g (lw_at lw_m8 28 rfl) rfl
theorem q1882 : (Jvm.Cond.code ({ cls := "java/lang/AbstractStringBuilder", name := "append", desc := "(Ljava/lang/String;)Ljava/lang/AbstractStringBuilder;" } : Jvm.MethodName) prog_17_method_22_code (3 : Nat) (Option.some (Jvm.ClassFile.FieldType.object "java/lang/AbstractStringBuilder"))) ∈ lw_all := lw_g (lw_at lw_m8 29 rfl) rfl
theorem q1883 : (Jvm.Cond.methodLink "java/lang/AbstractStringBuilder" (204 : Nat) ({ cls := "java/lang/AbstractStringBuilder", name := "appendNull", desc := "()Ljava/lang/AbstractStringBuilder;" } : Jvm.MethodName)) ∈ lw_all := lw_g (lw_at lw_m8 30 rfl) rfl
theorem q1884 : (Jvm.Cond.privateMethod ({ cls := "java/lang/AbstractStringBuilder", name := "appendNull", desc := "()Ljava/lang/AbstractStringBuilder;" } : Jvm.MethodName)) ∈ lw_tbl := lw_at lw_m8 31 rfl
theorem q1885 : (Jvm.Cond.instanceMethod ({ cls := "java/lang/AbstractStringBuilder", name := "appendNull", desc := "()Ljava/lang/AbstractStringBuilder;" } : Jvm.MethodName)) ∈ lw_all := lw_g (lw_at lw_m8 32 rfl) rfl
theorem q1886 : (Jvm.Cond.code ({ cls := "java/lang/AbstractStringBuilder", name := "appendNull", desc := "()Ljava/lang/AbstractStringBuilder;" } : Jvm.MethodName) prog_17_method_26_code (3 : Nat) (Option.some (Jvm.ClassFile.FieldType.object "java/lang/AbstractStringBuilder"))) ∈ lw_all := lw_g (lw_at lw_m8 33 rfl) rfl
theorem q1887 : (Jvm.Cond.methodLink "java/lang/AbstractStringBuilder" (226 : Nat) ({ cls := "java/lang/StringUTF16", name := "putCharsAt", desc := "([BICCCC)I" } : Jvm.MethodName)) ∈ lw_all := lw_g (lw_at lw_m8 34 rfl) rfl
theorem q1899 : (Jvm.Cond.methodLink "java/lang/AbstractStringBuilder" (32 : Nat) ({ cls := "java/lang/String", name := "length", desc := "()I" } : Jvm.MethodName)) ∈ lw_all := lw_g (lw_at lw_m8 46 rfl) rfl
theorem q1907 : (Jvm.Cond.methodLink "java/lang/AbstractStringBuilder" (208 : Nat) ({ cls := "java/lang/AbstractStringBuilder", name := "putStringAt", desc := "(ILjava/lang/String;)V" } : Jvm.MethodName)) ∈ lw_all := lw_g (lw_at lw_m8 54 rfl) rfl
theorem q1908 : (Jvm.Cond.privateMethod ({ cls := "java/lang/AbstractStringBuilder", name := "putStringAt", desc := "(ILjava/lang/String;)V" } : Jvm.MethodName)) ∈ lw_tbl := lw_at lw_m8 55 rfl
theorem q1909 : (Jvm.Cond.instanceMethod ({ cls := "java/lang/AbstractStringBuilder", name := "putStringAt", desc := "(ILjava/lang/String;)V" } : Jvm.MethodName)) ∈ lw_all := lw_g (lw_at lw_m8 56 rfl) rfl
theorem q1910 : (Jvm.Cond.code ({ cls := "java/lang/AbstractStringBuilder", name := "putStringAt", desc := "(ILjava/lang/String;)V" } : Jvm.MethodName) prog_17_method_73_code (3 : Nat) (Option.none : Option Jvm.ClassFile.FieldType)) ∈ lw_all := lw_g (lw_at lw_m8 57 rfl) rfl
theorem q1911 : (Jvm.Cond.methodLink "java/lang/AbstractStringBuilder" (397 : Nat) ({ cls := "java/lang/AbstractStringBuilder", name := "inflateIfNeededFor", desc := "(Ljava/lang/String;)V" } : Jvm.MethodName)) ∈ lw_all := lw_g (lw_at lw_m8 58 rfl) rfl
theorem q1912 : (Jvm.Cond.privateMethod ({ cls := "java/lang/AbstractStringBuilder", name := "inflateIfNeededFor", desc := "(Ljava/lang/String;)V" } : Jvm.MethodName)) ∈ lw_tbl := lw_at lw_m8 59 rfl
theorem q1913 : (Jvm.Cond.instanceMethod ({ cls := "java/lang/AbstractStringBuilder", name := "inflateIfNeededFor", desc := "(Ljava/lang/String;)V" } : Jvm.MethodName)) ∈ lw_all := lw_g (lw_at lw_m8 60 rfl) rfl
theorem q1914 : (Jvm.Cond.code ({ cls := "java/lang/AbstractStringBuilder", name := "inflateIfNeededFor", desc := "(Ljava/lang/String;)V" } : Jvm.MethodName) prog_17_method_71_code (2 : Nat) (Option.none : Option Jvm.ClassFile.FieldType)) ∈ lw_all := lw_g (lw_at lw_m8 61 rfl) rfl
theorem q1915 : (Jvm.Cond.methodLink "java/lang/AbstractStringBuilder" (40 : Nat) ({ cls := "java/lang/String", name := "coder", desc := "()B" } : Jvm.MethodName)) ∈ lw_all := lw_g (lw_at lw_m8 62 rfl) rfl
theorem q1916 : (Jvm.Cond.methodLink "java/lang/AbstractStringBuilder" (399 : Nat) ({ cls := "java/lang/String", name := "getBytes", desc := "([BIB)V" } : Jvm.MethodName)) ∈ lw_all := lw_g (lw_at lw_m8 63 rfl) rfl
theorem q1933 : (Jvm.Cond.instanceMethod ({ cls := "java/lang/AbstractStringBuilder", name := "append", desc := "(I)Ljava/lang/AbstractStringBuilder;" } : Jvm.MethodName)) ∈ lw_all := lw_g (lw_at lw_m8 80 rfl) rfl
theorem q1934 : (Jvm.Cond.code ({ cls := "java/lang/AbstractStringBuilder", name := "append", desc := "(I)Ljava/lang/AbstractStringBuilder;" } : Jvm.MethodName) prog_17_method_32_code (4 : Nat) (Option.some (Jvm.ClassFile.FieldType.object "java/lang/AbstractStringBuilder"))) ∈ lw_all := lw_g (lw_at lw_m8 81 rfl) rfl
theorem q1935 : (Jvm.Cond.methodLink "java/lang/AbstractStringBuilder" (245 : Nat) ({ cls := "java/lang/Integer", name := "stringSize", desc := "(I)I" } : Jvm.MethodName)) ∈ lw_all := lw_g (lw_at lw_m8 82 rfl) rfl
theorem q1938 : (Jvm.Cond.methodLink "java/lang/AbstractStringBuilder" (248 : Nat) ({ cls := "java/lang/Integer", name := "getChars", desc := "(II[B)I" } : Jvm.MethodName)) ∈ lw_all := lw_g (lw_at lw_m8 85 rfl) rfl
theorem q1945 : (Jvm.Cond.methodLink "java/lang/AbstractStringBuilder" (251 : Nat) ({ cls := "java/lang/StringUTF16", name := "getChars", desc := "(III[B)I" } : Jvm.MethodName)) ∈ lw_all := lw_g (lw_at lw_m8 92 rfl) rfl
theorem q1982 : (Jvm.Cond.instanceMethod ({ cls := "java/lang/AbstractStringBuilder", name := "charAt", desc := "(I)C" } : Jvm.MethodName)) ∈ lw_all := lw_g (lw_at lw_m8 129 rfl) rfl
theorem q1983 : (Jvm.Cond.code ({ cls := "java/lang/AbstractStringBuilder", name := "charAt", desc := "(I)C" } : Jvm.MethodName) prog_17_method_14_code (5 : Nat) (Option.some Jvm.ClassFile.FieldType.char)) ∈ lw_all := lw_g (lw_at lw_m8 130 rfl) rfl
theorem q1984 : (Jvm.Cond.methodLink "java/lang/AbstractStringBuilder" (138 : Nat) ({ cls := "java/lang/Math", name := "min", desc := "(II)I" } : Jvm.MethodName)) ∈ lw_all := lw_g (lw_at lw_m8 131 rfl) rfl
theorem q1985 : (Jvm.Cond.methodLink "java/lang/AbstractStringBuilder" (144 : Nat) ({ cls := "java/lang/String", name := "checkIndex", desc := "(II)V" } : Jvm.MethodName)) ∈ lw_all := lw_g (lw_at lw_m8 132 rfl) rfl
theorem q1986 : (Jvm.Cond.methodLink "java/lang/AbstractStringBuilder" (148 : Nat) ({ cls := "java/lang/StringUTF16", name := "getChar", desc := "([BI)C" } : Jvm.MethodName)) ∈ lw_all := lw_g (lw_at lw_m8 133 rfl) rfl
theorem q2647 : (Jvm.Cond.sameMethod "java/lang/AbstractStringBuilder" "java/lang/AbstractStringBuilder" "append" "(C)Ljava/lang/AbstractStringBuilder;") ∈ lw_all := lw_g (lw_at lw_m11 74 rfl) rfl
theorem q2648 : (Jvm.Cond.sameMethod "java/lang/AbstractStringBuilder" "java/lang/AbstractStringBuilder" "ensureCapacityInternal" "(I)V") ∈ lw_all := lw_g (lw_at lw_m11 75 rfl) rfl
theorem q2649 : (Jvm.Cond.sameMethod "java/lang/AbstractStringBuilder" "java/lang/AbstractStringBuilder" "newCapacity" "(I)I") ∈ lw_all := lw_g (lw_at lw_m11 76 rfl) rfl
theorem q2650 : (Jvm.Cond.sameMethod "java/lang/AbstractStringBuilder" "java/lang/AbstractStringBuilder" "inflate" "()V") ∈ lw_all := lw_g (lw_at lw_m11 77 rfl) rfl
theorem q2652 : (Jvm.Cond.sameMethod "java/lang/AbstractStringBuilder" "java/lang/AbstractStringBuilder" "setLength" "(I)V") ∈ lw_all := lw_g (lw_at lw_m11 79 rfl) rfl
theorem q2653 : (Jvm.Cond.sameMethod "java/lang/AbstractStringBuilder" "java/lang/AbstractStringBuilder" "append" "(Ljava/lang/String;)Ljava/lang/AbstractStringBuilder;") ∈ lw_all := lw_g (lw_at lw_m11 80 rfl) rfl
theorem q2654 : (Jvm.Cond.sameMethod "java/lang/AbstractStringBuilder" "java/lang/AbstractStringBuilder" "appendNull" "()Ljava/lang/AbstractStringBuilder;") ∈ lw_all := lw_g (lw_at lw_m11 81 rfl) rfl
theorem q2655 : (Jvm.Cond.sameMethod "java/lang/AbstractStringBuilder" "java/lang/AbstractStringBuilder" "putStringAt" "(ILjava/lang/String;)V") ∈ lw_all := lw_g (lw_at lw_m11 82 rfl) rfl
theorem q2656 : (Jvm.Cond.sameMethod "java/lang/AbstractStringBuilder" "java/lang/AbstractStringBuilder" "inflateIfNeededFor" "(Ljava/lang/String;)V") ∈ lw_all := lw_g (lw_at lw_m11 83 rfl) rfl
theorem q2657 : (Jvm.Cond.sameMethod "java/lang/AbstractStringBuilder" "java/lang/AbstractStringBuilder" "append" "(I)Ljava/lang/AbstractStringBuilder;") ∈ lw_all := lw_g (lw_at lw_m11 84 rfl) rfl
theorem q2659 : (Jvm.Cond.sameMethod "java/lang/AbstractStringBuilder" "java/lang/AbstractStringBuilder" "charAt" "(I)C") ∈ lw_all := lw_g (lw_at lw_m11 86 rfl) rfl

/-! java/lang/StringBuilder -/
set_option maxRecDepth 100000
def RJ8 : String := "java/lang/StringBuilder"
def TJ8 : u_T := fun k => match k with
  | 0 => ("java/lang/AbstractStringBuilder", "value", "[B", false)
  | 1 => ("java/lang/AbstractStringBuilder", "coder", "B", false)
  | 2 => ("java/lang/AbstractStringBuilder", "maybeLatin1", "Z", false)
  | _ => ("java/lang/AbstractStringBuilder", "count", "I", false)
def tyJ8 : Nat → FieldType := fun k => match k with
  | 0 => .array .byte
  | 1 => .byte
  | 2 => .boolean
  | _ => .int
abbrev wsJ80 : List Cond := u_ws RJ8 TJ8 4
theorem nmJ8 : ∀ a, a < 4 → ∀ b, b < 4 → a ≠ b → (TJ8 a).2.1 ≠ (TJ8 b).2.1 := by decide +kernel
theorem tyJ8_ok : ∀ k, k < 4 → parseFieldDescriptor (TJ8 k).2.2.1 = some (tyJ8 k) := by decide +kernel
abbrev cJ8_init : ByteArray := prog_29_method_1_code
def yJ8_init : MethodName := ⟨RJ8, "<init>", "()V"⟩
def dkwJ8_init_0 : List UInt8 := [42, 16, 16, 183, 0, 1, 177]
abbrev dktJ8_init_0 : List UInt8 := dkwJ8_init_0 ++ []
theorem dksJ8_init_0 : cJ8_init.data.toList.drop 0 = dktJ8_init_0 := by decide +kernel
theorem dJ8_init_0 : decode cJ8_init 0 = .ok (.aload_n 0, 1) := dk_42 (dk_at dksJ8_init_0 0 rfl rfl)
theorem dJ8_init_1 : decode cJ8_init 1 = .ok (.bipush 16, 2) := dk_16 16 (dk_at dksJ8_init_0 1 rfl rfl)
theorem dJ8_init_3 : decode cJ8_init 3 = .ok (.invokespecial 1, 3) := dk_183 0 1 (dk_at dksJ8_init_0 3 rfl rfl)
theorem dJ8_init_6 : decode cJ8_init 6 = .ok (.return_, 1) := dk_177 (dk_at dksJ8_init_0 6 rfl rfl)
abbrev cJ8_append : ByteArray := prog_29_method_14_code
def yJ8_append : MethodName := ⟨RJ8, "append", "(C)Ljava/lang/StringBuilder;"⟩
def dkwJ8_append_0 : List UInt8 := [42, 27, 183, 0, 50, 87, 42, 176]
abbrev dktJ8_append_0 : List UInt8 := dkwJ8_append_0 ++ []
theorem dksJ8_append_0 : cJ8_append.data.toList.drop 0 = dktJ8_append_0 := by decide +kernel
theorem dJ8_append_0 : decode cJ8_append 0 = .ok (.aload_n 0, 1) := dk_42 (dk_at dksJ8_append_0 0 rfl rfl)
theorem dJ8_append_1 : decode cJ8_append 1 = .ok (.iload_n 1, 1) := dk_27 (dk_at dksJ8_append_0 1 rfl rfl)
theorem dJ8_append_2 : decode cJ8_append 2 = .ok (.invokespecial 50, 3) := dk_183 0 50 (dk_at dksJ8_append_0 2 rfl rfl)
theorem dJ8_append_5 : decode cJ8_append 5 = .ok (.pop, 1) := dk_87 (dk_at dksJ8_append_0 5 rfl rfl)
theorem dJ8_append_6 : decode cJ8_append 6 = .ok (.aload_n 0, 1) := dk_42 (dk_at dksJ8_append_0 6 rfl rfl)
theorem dJ8_append_7 : decode cJ8_append 7 = .ok (.areturn, 1) := dk_176 (dk_at dksJ8_append_0 7 rfl rfl)
abbrev cJ8_toString : ByteArray := prog_29_method_42_code
def yJ8_toString : MethodName := ⟨RJ8, "toString", "()Ljava/lang/String;"⟩
def dkwJ8_toString_0 : List UInt8 := [187, 0, 18, 89, 42, 183, 0, 137, 176]
abbrev dktJ8_toString_0 : List UInt8 := dkwJ8_toString_0 ++ []
theorem dksJ8_toString_0 : cJ8_toString.data.toList.drop 0 = dktJ8_toString_0 := by decide +kernel
theorem dJ8_toString_0 : decode cJ8_toString 0 = .ok (.new 18, 3) := dk_187 0 18 (dk_at dksJ8_toString_0 0 rfl rfl)
theorem dJ8_toString_3 : decode cJ8_toString 3 = .ok (.dup, 1) := dk_89 (dk_at dksJ8_toString_0 3 rfl rfl)
theorem dJ8_toString_4 : decode cJ8_toString 4 = .ok (.aload_n 0, 1) := dk_42 (dk_at dksJ8_toString_0 4 rfl rfl)
theorem dJ8_toString_5 : decode cJ8_toString 5 = .ok (.invokespecial 137, 3) := dk_183 0 137 (dk_at dksJ8_toString_0 5 rfl rfl)
theorem dJ8_toString_8 : decode cJ8_toString 8 = .ok (.areturn, 1) := dk_176 (dk_at dksJ8_toString_0 8 rfl rfl)
abbrev cJ8_length : ByteArray := prog_29_method_93_code
def yJ8_length : MethodName := ⟨RJ8, "length", "()I"⟩
theorem dJ8_length_0 : decode cJ8_length 0 = .ok (.aload_n 0, 1) := by decide +kernel
theorem dJ8_length_1 : decode cJ8_length 1 = .ok (.invokespecial 343, 3) := by decide +kernel
theorem dJ8_length_4 : decode cJ8_length 4 = .ok (.ireturn, 1) := by decide +kernel
abbrev cJ8_setLength : ByteArray := prog_29_method_89_code
def yJ8_setLength : MethodName := ⟨RJ8, "setLength", "(I)V"⟩
def dkwJ8_setLength_0 : List UInt8 := [42, 27, 183, 1, 77, 177]
abbrev dktJ8_setLength_0 : List UInt8 := dkwJ8_setLength_0 ++ []
theorem dksJ8_setLength_0 : cJ8_setLength.data.toList.drop 0 = dktJ8_setLength_0 := by decide +kernel
theorem dJ8_setLength_0 : decode cJ8_setLength 0 = .ok (.aload_n 0, 1) := dk_42 (dk_at dksJ8_setLength_0 0 rfl rfl)
theorem dJ8_setLength_1 : decode cJ8_setLength 1 = .ok (.iload_n 1, 1) := dk_27 (dk_at dksJ8_setLength_0 1 rfl rfl)
theorem dJ8_setLength_2 : decode cJ8_setLength 2 = .ok (.invokespecial 333, 3) := dk_183 1 77 (dk_at dksJ8_setLength_0 2 rfl rfl)
theorem dJ8_setLength_5 : decode cJ8_setLength 5 = .ok (.return_, 1) := dk_177 (dk_at dksJ8_setLength_0 5 rfl rfl)
abbrev cJ8_append_2 : ByteArray := prog_29_method_7_code
def yJ8_append_2 : MethodName := ⟨RJ8, "append", "(Ljava/lang/String;)Ljava/lang/StringBuilder;"⟩
def dkwJ8_append_2_0 : List UInt8 := [42, 43, 183, 0, 29, 87, 42, 176]
abbrev dktJ8_append_2_0 : List UInt8 := dkwJ8_append_2_0 ++ []
theorem dksJ8_append_2_0 : cJ8_append_2.data.toList.drop 0 = dktJ8_append_2_0 := by decide +kernel
theorem dJ8_append_2_0 : decode cJ8_append_2 0 = .ok (.aload_n 0, 1) := dk_42 (dk_at dksJ8_append_2_0 0 rfl rfl)
theorem dJ8_append_2_1 : decode cJ8_append_2 1 = .ok (.aload_n 1, 1) := dk_43 (dk_at dksJ8_append_2_0 1 rfl rfl)
theorem dJ8_append_2_2 : decode cJ8_append_2 2 = .ok (.invokespecial 29, 3) := dk_183 0 29 (dk_at dksJ8_append_2_0 2 rfl rfl)
theorem dJ8_append_2_5 : decode cJ8_append_2 5 = .ok (.pop, 1) := dk_87 (dk_at dksJ8_append_2_0 5 rfl rfl)
theorem dJ8_append_2_6 : decode cJ8_append_2 6 = .ok (.aload_n 0, 1) := dk_42 (dk_at dksJ8_append_2_0 6 rfl rfl)
theorem dJ8_append_2_7 : decode cJ8_append_2 7 = .ok (.areturn, 1) := dk_176 (dk_at dksJ8_append_2_0 7 rfl rfl)
abbrev cJ8_append_3 : ByteArray := prog_29_method_15_code
def yJ8_append_3 : MethodName := ⟨RJ8, "append", "(I)Ljava/lang/StringBuilder;"⟩
def dkwJ8_append_3_0 : List UInt8 := [42, 27, 183, 0, 53, 87, 42, 176]
abbrev dktJ8_append_3_0 : List UInt8 := dkwJ8_append_3_0 ++ []
theorem dksJ8_append_3_0 : cJ8_append_3.data.toList.drop 0 = dktJ8_append_3_0 := by decide +kernel
theorem dJ8_append_3_0 : decode cJ8_append_3 0 = .ok (.aload_n 0, 1) := dk_42 (dk_at dksJ8_append_3_0 0 rfl rfl)
theorem dJ8_append_3_1 : decode cJ8_append_3 1 = .ok (.iload_n 1, 1) := dk_27 (dk_at dksJ8_append_3_0 1 rfl rfl)
theorem dJ8_append_3_2 : decode cJ8_append_3 2 = .ok (.invokespecial 53, 3) := dk_183 0 53 (dk_at dksJ8_append_3_0 2 rfl rfl)
theorem dJ8_append_3_5 : decode cJ8_append_3 5 = .ok (.pop, 1) := dk_87 (dk_at dksJ8_append_3_0 5 rfl rfl)
theorem dJ8_append_3_6 : decode cJ8_append_3 6 = .ok (.aload_n 0, 1) := dk_42 (dk_at dksJ8_append_3_0 6 rfl rfl)
theorem dJ8_append_3_7 : decode cJ8_append_3 7 = .ok (.areturn, 1) := dk_176 (dk_at dksJ8_append_3_0 7 rfl rfl)
abbrev cJ8_charAt : ByteArray := prog_29_method_88_code
def yJ8_charAt : MethodName := ⟨RJ8, "charAt", "(I)C"⟩
def dkwJ8_charAt_0 : List UInt8 := [42, 27, 183, 1, 73, 172]
abbrev dktJ8_charAt_0 : List UInt8 := dkwJ8_charAt_0 ++ []
theorem dksJ8_charAt_0 : cJ8_charAt.data.toList.drop 0 = dktJ8_charAt_0 := by decide +kernel
theorem dJ8_charAt_0 : decode cJ8_charAt 0 = .ok (.aload_n 0, 1) := dk_42 (dk_at dksJ8_charAt_0 0 rfl rfl)
theorem dJ8_charAt_1 : decode cJ8_charAt 1 = .ok (.iload_n 1, 1) := dk_27 (dk_at dksJ8_charAt_0 1 rfl rfl)
theorem dJ8_charAt_2 : decode cJ8_charAt 2 = .ok (.invokespecial 329, 3) := dk_183 1 73 (dk_at dksJ8_charAt_0 2 rfl rfl)
theorem dJ8_charAt_5 : decode cJ8_charAt 5 = .ok (.ireturn, 1) := dk_172 (dk_at dksJ8_charAt_0 5 rfl rfl)
theorem q186 : (Jvm.Cond.initialized "java/lang/StringBuilder") ∈ lw_all := lw_g (lw_at lw_m1 13 rfl) rfl
theorem q550 : (Jvm.Cond.instantiable "java/lang/StringBuilder" (4 : Nat)) ∈ lw_all := lw_g (lw_at lw_m2 137 rfl) rfl
theorem q552 : (Jvm.Cond.instanceMethod ({ cls := "java/lang/StringBuilder", name := "<init>", desc := "()V" } : Jvm.MethodName)) ∈ lw_all := lw_g (lw_at lw_m2 139 rfl) rfl
theorem q553 : (Jvm.Cond.code ({ cls := "java/lang/StringBuilder", name := "<init>", desc := "()V" } : Jvm.MethodName) prog_29_method_1_code (1 : Nat) (Option.none : Option Jvm.ClassFile.FieldType)) ∈ lw_all := lw_g (lw_at lw_m2 140 rfl) rfl
theorem q554 : (Jvm.Cond.methodLink "java/lang/StringBuilder" (1 : Nat) ({ cls := "java/lang/AbstractStringBuilder", name := "<init>", desc := "(I)V" } : Jvm.MethodName)) ∈ lw_all := lw_g (lw_at lw_m2 141 rfl) rfl
theorem q572 : (Jvm.Cond.lays "java/lang/StringBuilder" "java/lang/AbstractStringBuilder" "value" "[B") ∈ lw_all := lw_g (lw_at lw_m2 159 rfl) rfl
theorem q574 : (Jvm.Cond.lays "java/lang/StringBuilder" "java/lang/AbstractStringBuilder" "coder" "B") ∈ lw_all := lw_g (lw_at lw_m2 161 rfl) rfl
theorem q576 : (Jvm.Cond.lays "java/lang/StringBuilder" "java/lang/AbstractStringBuilder" "maybeLatin1" "Z") ∈ lw_all := lw_g (lw_at lw_m2 163 rfl) rfl
theorem q578 : (Jvm.Cond.lays "java/lang/StringBuilder" "java/lang/AbstractStringBuilder" "count" "I") ∈ lw_all := lw_g (lw_at lw_m2 165 rfl) rfl
theorem q580 : (Jvm.Cond.superclass "java/lang/StringBuilder" "java/lang/AbstractStringBuilder") ∈ lw_all := lw_g (lw_at lw_m2 167 rfl) rfl
theorem q680 : (Jvm.Cond.instanceMethod ({ cls := "java/lang/StringBuilder", name := "append", desc := "(C)Ljava/lang/StringBuilder;" } : Jvm.MethodName)) ∈ lw_all := lw_g (lw_at lw_m3 27 rfl) rfl
theorem q681 : (Jvm.Cond.selects "java/lang/StringBuilder" ({ cls := "java/lang/StringBuilder", name := "append", desc := "(C)Ljava/lang/StringBuilder;" } : Jvm.MethodName) ({ cls := "java/lang/StringBuilder", name := "append", desc := "(C)Ljava/lang/StringBuilder;" } : Jvm.MethodName)) ∈ lw_all := lw_g (lw_at lw_m3 28 rfl) rfl
theorem q682 : (Jvm.Cond.code ({ cls := "java/lang/StringBuilder", name := "append", desc := "(C)Ljava/lang/StringBuilder;" } : Jvm.MethodName) prog_29_method_14_code (2 : Nat) (Option.some (Jvm.ClassFile.FieldType.object "java/lang/StringBuilder"))) ∈ lw_all := lw_g (lw_at lw_m3 29 rfl) rfl
theorem q683 : (Jvm.Cond.methodLink "java/lang/StringBuilder" (50 : Nat) ({ cls := "java/lang/AbstractStringBuilder", name := "append", desc := "(C)Ljava/lang/AbstractStringBuilder;" } : Jvm.MethodName)) ∈ lw_all := lw_g (lw_at lw_m3 30 rfl) rfl
theorem q720 : (Jvm.Cond.selects "java/lang/StringBuilder" ({ cls := "java/lang/AbstractStringBuilder", name := "isLatin1", desc := "()Z" } : Jvm.MethodName) ({ cls := "java/lang/AbstractStringBuilder", name := "isLatin1", desc := "()Z" } : Jvm.MethodName)) ∈ lw_all := lw_g (lw_at lw_m3 67 rfl) rfl
theorem q769 : (Jvm.Cond.instanceMethod ({ cls := "java/lang/StringBuilder", name := "toString", desc := "()Ljava/lang/String;" } : Jvm.MethodName)) ∈ lw_all := lw_g (lw_at lw_m3 116 rfl) rfl
theorem q770 : (Jvm.Cond.selects "java/lang/StringBuilder" ({ cls := "java/lang/StringBuilder", name := "toString", desc := "()Ljava/lang/String;" } : Jvm.MethodName) ({ cls := "java/lang/StringBuilder", name := "toString", desc := "()Ljava/lang/String;" } : Jvm.MethodName)) ∈ lw_all := lw_g (lw_at lw_m3 117 rfl) rfl
theorem q771 : (Jvm.Cond.code ({ cls := "java/lang/StringBuilder", name := "toString", desc := "()Ljava/lang/String;" } : Jvm.MethodName) prog_29_method_42_code (1 : Nat) (Option.some (Jvm.ClassFile.FieldType.object "java/lang/String"))) ∈ lw_all := lw_g (lw_at lw_m3 118 rfl) rfl
theorem q772 : (Jvm.Cond.classLink "java/lang/StringBuilder" (18 : Nat) "java/lang/String") ∈ lw_all := lw_g (lw_at lw_m3 119 rfl) rfl
theorem q774 : (Jvm.Cond.methodLink "java/lang/StringBuilder" (137 : Nat) ({ cls := "java/lang/String", name := "<init>", desc := "(Ljava/lang/StringBuilder;)V" } : Jvm.MethodName)) ∈ lw_all := lw_g (lw_at lw_m3 121 rfl) rfl
theorem q784 : (Jvm.Cond.selects "java/lang/StringBuilder" ({ cls := "java/lang/AbstractStringBuilder", name := "getValue", desc := "()[B" } : Jvm.MethodName) ({ cls := "java/lang/AbstractStringBuilder", name := "getValue", desc := "()[B" } : Jvm.MethodName)) ∈ lw_all := lw_g (lw_at lw_m3 131 rfl) rfl
theorem q789 : (Jvm.Cond.selects "java/lang/StringBuilder" ({ cls := "java/lang/AbstractStringBuilder", name := "length", desc := "()I" } : Jvm.MethodName) ({ cls := "java/lang/StringBuilder", name := "length", desc := "()I" } : Jvm.MethodName)) ∈ lw_all := lw_g (lw_at lw_m3 136 rfl) rfl
theorem q790 : (Jvm.Cond.instanceMethod ({ cls := "java/lang/StringBuilder", name := "length", desc := "()I" } : Jvm.MethodName)) ∈ lw_all := lw_g (lw_at lw_m3 137 rfl) rfl
theorem q791 : (Jvm.Cond.code ({ cls := "java/lang/StringBuilder", name := "length", desc := "()I" } : Jvm.MethodName) prog_29_method_93_code (1 : Nat) (Option.some Jvm.ClassFile.FieldType.int)) ∈ lw_all := lw_g (lw_at lw_m3 138 rfl) rfl
theorem q792 : (Jvm.Cond.methodLink "java/lang/StringBuilder" (343 : Nat) ({ cls := "java/lang/AbstractStringBuilder", name := "length", desc := "()I" } : Jvm.MethodName)) ∈ lw_all := lw_g (lw_at lw_m3 139 rfl) rfl
theorem q1115 : (Jvm.Cond.selects "java/lang/StringBuilder" ({ cls := "java/lang/Object", name := "getClass", desc := "()Ljava/lang/Class;" } : Jvm.MethodName) ({ cls := "java/lang/Object", name := "getClass", desc := "()Ljava/lang/Class;" } : Jvm.MethodName)) ∈ lw_all := lw_g (lw_at lw_m4 222 rfl) rfl
theorem q1856 : (Jvm.Cond.instanceMethod ({ cls := "java/lang/StringBuilder", name := "setLength", desc := "(I)V" } : Jvm.MethodName)) ∈ lw_all := lw_g (lw_at lw_m8 3 rfl) rfl
theorem q1857 : (Jvm.Cond.selects "java/lang/StringBuilder" ({ cls := "java/lang/StringBuilder", name := "setLength", desc := "(I)V" } : Jvm.MethodName) ({ cls := "java/lang/StringBuilder", name := "setLength", desc := "(I)V" } : Jvm.MethodName)) ∈ lw_all := lw_g (lw_at lw_m8 4 rfl) rfl
theorem q1858 : (Jvm.Cond.code ({ cls := "java/lang/StringBuilder", name := "setLength", desc := "(I)V" } : Jvm.MethodName) prog_29_method_89_code (2 : Nat) (Option.none : Option Jvm.ClassFile.FieldType)) ∈ lw_all := lw_g (lw_at lw_m8 5 rfl) rfl
theorem q1859 : (Jvm.Cond.methodLink "java/lang/StringBuilder" (333 : Nat) ({ cls := "java/lang/AbstractStringBuilder", name := "setLength", desc := "(I)V" } : Jvm.MethodName)) ∈ lw_all := lw_g (lw_at lw_m8 6 rfl) rfl
theorem q1877 : (Jvm.Cond.instanceMethod ({ cls := "java/lang/StringBuilder", name := "append", desc := "(Ljava/lang/String;)Ljava/lang/StringBuilder;" } : Jvm.MethodName)) ∈ lw_all := lw_g (lw_at lw_m8 24 rfl) rfl
theorem q1878 : (Jvm.Cond.selects "java/lang/StringBuilder" ({ cls := "java/lang/StringBuilder", name := "append", desc := "(Ljava/lang/String;)Ljava/lang/StringBuilder;" } : Jvm.MethodName) ({ cls := "java/lang/StringBuilder", name := "append", desc := "(Ljava/lang/String;)Ljava/lang/StringBuilder;" } : Jvm.MethodName)) ∈ lw_all := lw_g (lw_at lw_m8 25 rfl) rfl
theorem q1879 : (Jvm.Cond.code ({ cls := "java/lang/StringBuilder", name := "append", desc := "(Ljava/lang/String;)Ljava/lang/StringBuilder;" } : Jvm.MethodName) prog_29_method_7_code (2 : Nat) (Option.some (Jvm.ClassFile.FieldType.object "java/lang/StringBuilder"))) ∈ lw_all := lw_g (lw_at lw_m8 26 rfl) rfl
theorem q1880 : (Jvm.Cond.methodLink "java/lang/StringBuilder" (29 : Nat) ({ cls := "java/lang/AbstractStringBuilder", name := "append", desc := "(Ljava/lang/String;)Ljava/lang/AbstractStringBuilder;" } : Jvm.MethodName)) ∈ lw_all := lw_g (lw_at lw_m8 27 rfl) rfl
theorem q1929 : (Jvm.Cond.instanceMethod ({ cls := "java/lang/StringBuilder", name := "append", desc := "(I)Ljava/lang/StringBuilder;" } : Jvm.MethodName)) ∈ lw_all := lw_g (lw_at lw_m8 76 rfl) rfl
theorem q1930 : (Jvm.Cond.selects "java/lang/StringBuilder" ({ cls := "java/lang/StringBuilder", name := "append", desc := "(I)Ljava/lang/StringBuilder;" } : Jvm.MethodName) ({ cls := "java/lang/StringBuilder", name := "append", desc := "(I)Ljava/lang/StringBuilder;" } : Jvm.MethodName)) ∈ lw_all := lw_g (lw_at lw_m8 77 rfl) rfl
theorem q1931 : (Jvm.Cond.code ({ cls := "java/lang/StringBuilder", name := "append", desc := "(I)Ljava/lang/StringBuilder;" } : Jvm.MethodName) prog_29_method_15_code (2 : Nat) (Option.some (Jvm.ClassFile.FieldType.object "java/lang/StringBuilder"))) ∈ lw_all := lw_g (lw_at lw_m8 78 rfl) rfl
theorem q1932 : (Jvm.Cond.methodLink "java/lang/StringBuilder" (53 : Nat) ({ cls := "java/lang/AbstractStringBuilder", name := "append", desc := "(I)Ljava/lang/AbstractStringBuilder;" } : Jvm.MethodName)) ∈ lw_all := lw_g (lw_at lw_m8 79 rfl) rfl
theorem q1978 : (Jvm.Cond.instanceMethod ({ cls := "java/lang/StringBuilder", name := "charAt", desc := "(I)C" } : Jvm.MethodName)) ∈ lw_all := lw_g (lw_at lw_m8 125 rfl) rfl
theorem q1979 : (Jvm.Cond.selects "java/lang/StringBuilder" ({ cls := "java/lang/StringBuilder", name := "charAt", desc := "(I)C" } : Jvm.MethodName) ({ cls := "java/lang/StringBuilder", name := "charAt", desc := "(I)C" } : Jvm.MethodName)) ∈ lw_all := lw_g (lw_at lw_m8 126 rfl) rfl
theorem q1980 : (Jvm.Cond.code ({ cls := "java/lang/StringBuilder", name := "charAt", desc := "(I)C" } : Jvm.MethodName) prog_29_method_88_code (2 : Nat) (Option.some Jvm.ClassFile.FieldType.char)) ∈ lw_all := lw_g (lw_at lw_m8 127 rfl) rfl
theorem q1981 : (Jvm.Cond.methodLink "java/lang/StringBuilder" (329 : Nat) ({ cls := "java/lang/AbstractStringBuilder", name := "charAt", desc := "(I)C" } : Jvm.MethodName)) ∈ lw_all := lw_g (lw_at lw_m8 128 rfl) rfl
theorem q2658 : (Jvm.Cond.selects "java/lang/StringBuilder" ({ cls := "java/lang/StringBuilder", name := "length", desc := "()I" } : Jvm.MethodName) ({ cls := "java/lang/StringBuilder", name := "length", desc := "()I" } : Jvm.MethodName)) ∈ lw_all := lw_g (lw_at lw_m11 85 rfl) rfl
theorem q2667 : (Jvm.Cond.castable "java/lang/StringBuilder" "java/lang/Object") ∈ lw_tbl := lw_at lw_m11 94 rfl
theorem in_J8 : ∀ w ∈ wsJ80, w ∈ lw_all := lw_in wsJ80 [572, 574, 576, 578] (by decide +kernel) (by decide +kernel)

/-! java/lang/String -/
set_option maxRecDepth 100000
def RJ9 : String := "java/lang/String"
def TJ9 : u_T := fun k => match k with
  | 0 => ("java/lang/String", "value", "[B", true)
  | 1 => ("java/lang/String", "coder", "B", true)
  | 2 => ("java/lang/String", "hash", "I", false)
  | _ => ("java/lang/String", "hashIsZero", "Z", false)
def tyJ9 : Nat → FieldType := fun k => match k with
  | 0 => .array .byte
  | 1 => .byte
  | 2 => .int
  | _ => .boolean
abbrev wsJ90 : List Cond := u_ws RJ9 TJ9 4
theorem nmJ9 : ∀ a, a < 4 → ∀ b, b < 4 → a ≠ b → (TJ9 a).2.1 ≠ (TJ9 b).2.1 := by decide +kernel
theorem tyJ9_ok : ∀ k, k < 4 → parseFieldDescriptor (TJ9 k).2.2.1 = some (tyJ9 k) := by decide +kernel
abbrev cJ9_checkBoundsOffCount : ByteArray := prog_28_method_157_code
def yJ9_checkBoundsOffCount : MethodName := ⟨RJ9, "checkBoundsOffCount", "(III)I"⟩
def dkwJ9_checkBoundsOffCount_0 : List UInt8 := [26, 27, 28, 178, 4, 29, 184, 4, 41, 172]
abbrev dktJ9_checkBoundsOffCount_0 : List UInt8 := dkwJ9_checkBoundsOffCount_0 ++ []
theorem dksJ9_checkBoundsOffCount_0 : cJ9_checkBoundsOffCount.data.toList.drop 0 = dktJ9_checkBoundsOffCount_0 := by decide +kernel
theorem dJ9_checkBoundsOffCount_0 : decode cJ9_checkBoundsOffCount 0 = .ok (.iload_n 0, 1) := dk_26 (dk_at dksJ9_checkBoundsOffCount_0 0 rfl rfl)
theorem dJ9_checkBoundsOffCount_1 : decode cJ9_checkBoundsOffCount 1 = .ok (.iload_n 1, 1) := dk_27 (dk_at dksJ9_checkBoundsOffCount_0 1 rfl rfl)
theorem dJ9_checkBoundsOffCount_2 : decode cJ9_checkBoundsOffCount 2 = .ok (.iload_n 2, 1) := dk_28 (dk_at dksJ9_checkBoundsOffCount_0 2 rfl rfl)
theorem dJ9_checkBoundsOffCount_3 : decode cJ9_checkBoundsOffCount 3 = .ok (.getstatic 1053, 3) := dk_178 4 29 (dk_at dksJ9_checkBoundsOffCount_0 3 rfl rfl)
theorem dJ9_checkBoundsOffCount_6 : decode cJ9_checkBoundsOffCount 6 = .ok (.invokestatic 1065, 3) := dk_184 4 41 (dk_at dksJ9_checkBoundsOffCount_0 6 rfl rfl)
theorem dJ9_checkBoundsOffCount_9 : decode cJ9_checkBoundsOffCount 9 = .ok (.ireturn, 1) := dk_172 (dk_at dksJ9_checkBoundsOffCount_0 9 rfl rfl)
abbrev cJ9_checkIndex : ByteArray := prog_28_method_155_code
def yJ9_checkIndex : MethodName := ⟨RJ9, "checkIndex", "(II)V"⟩
def dkwJ9_checkIndex_0 : List UInt8 := [26, 27, 178, 4, 29, 184, 4, 35, 87, 177]
abbrev dktJ9_checkIndex_0 : List UInt8 := dkwJ9_checkIndex_0 ++ []
theorem dksJ9_checkIndex_0 : cJ9_checkIndex.data.toList.drop 0 = dktJ9_checkIndex_0 := by decide +kernel
theorem dJ9_checkIndex_0 : decode cJ9_checkIndex 0 = .ok (.iload_n 0, 1) := dk_26 (dk_at dksJ9_checkIndex_0 0 rfl rfl)
theorem dJ9_checkIndex_1 : decode cJ9_checkIndex 1 = .ok (.iload_n 1, 1) := dk_27 (dk_at dksJ9_checkIndex_0 1 rfl rfl)
theorem dJ9_checkIndex_2 : decode cJ9_checkIndex 2 = .ok (.getstatic 1053, 3) := dk_178 4 29 (dk_at dksJ9_checkIndex_0 2 rfl rfl)
theorem dJ9_checkIndex_5 : decode cJ9_checkIndex 5 = .ok (.invokestatic 1059, 3) := dk_184 4 35 (dk_at dksJ9_checkIndex_0 5 rfl rfl)
theorem dJ9_checkIndex_8 : decode cJ9_checkIndex 8 = .ok (.pop, 1) := dk_87 (dk_at dksJ9_checkIndex_0 8 rfl rfl)
theorem dJ9_checkIndex_9 : decode cJ9_checkIndex 9 = .ok (.return_, 1) := dk_177 (dk_at dksJ9_checkIndex_0 9 rfl rfl)
abbrev cJ9_init : ByteArray := prog_28_method_53_code
def yJ9_init : MethodName := ⟨RJ9, "<init>", "(Ljava/lang/StringBuilder;)V"⟩
def dkwJ9_init_0 : List UInt8 := [42, 43, 1, 183, 1, 233, 177]
abbrev dktJ9_init_0 : List UInt8 := dkwJ9_init_0 ++ []
theorem dksJ9_init_0 : cJ9_init.data.toList.drop 0 = dktJ9_init_0 := by decide +kernel
theorem dJ9_init_0 : decode cJ9_init 0 = .ok (.aload_n 0, 1) := dk_42 (dk_at dksJ9_init_0 0 rfl rfl)
theorem dJ9_init_1 : decode cJ9_init 1 = .ok (.aload_n 1, 1) := dk_43 (dk_at dksJ9_init_0 1 rfl rfl)
theorem dJ9_init_2 : decode cJ9_init 2 = .ok (.aconst_null, 1) := dk_1 (dk_at dksJ9_init_0 2 rfl rfl)
theorem dJ9_init_3 : decode cJ9_init 3 = .ok (.invokespecial 489, 3) := dk_183 1 233 (dk_at dksJ9_init_0 3 rfl rfl)
theorem dJ9_init_6 : decode cJ9_init 6 = .ok (.return_, 1) := dk_177 (dk_at dksJ9_init_0 6 rfl rfl)
abbrev cJ9_init_2 : ByteArray := prog_28_method_150_code
def yJ9_init_2 : MethodName := ⟨RJ9, "<init>", "(Ljava/lang/AbstractStringBuilder;Ljava/lang/Void;)V"⟩
def dkwJ9_init_2_4 : List UInt8 := [181, 0, 9, 177]
abbrev dktJ9_init_2_4 : List UInt8 := dkwJ9_init_2_4 ++ []
def dkwJ9_init_2_3 : List UInt8 := [184, 0, 47, 181, 0, 15, 177, 42, 4, 181, 0, 15, 42, 45, 3, 21, 4, 4, 120, 184, 0, 54]
abbrev dktJ9_init_2_3 : List UInt8 := dkwJ9_init_2_3 ++ dktJ9_init_2_4
def dkwJ9_init_2_2 : List UInt8 := [180, 4, 24, 153, 0, 28, 42, 45, 3, 21, 4, 184, 4, 27, 181, 0, 9, 42, 42, 180, 0, 9, 21, 4]
abbrev dktJ9_init_2_2 : List UInt8 := dkwJ9_init_2_2 ++ dktJ9_init_2_3
def dkwJ9_init_2_1 : List UInt8 := [181, 0, 15, 42, 45, 3, 21, 4, 184, 0, 54, 181, 0, 9, 167, 0, 59, 178, 0, 38, 153, 0, 35, 43]
abbrev dktJ9_init_2_1 : List UInt8 := dkwJ9_init_2_1 ++ dktJ9_init_2_2
def dkwJ9_init_2_0 : List UInt8 := [42, 183, 0, 1, 43, 182, 2, 40, 78, 43, 182, 2, 37, 54, 4, 43, 182, 4, 23, 153, 0, 22, 42, 3]
abbrev dktJ9_init_2_0 : List UInt8 := dkwJ9_init_2_0 ++ dktJ9_init_2_1
theorem dksJ9_init_2_0 : cJ9_init_2.data.toList.drop 0 = dktJ9_init_2_0 := by decide +kernel
theorem dksJ9_init_2_1 : cJ9_init_2.data.toList.drop 24 = dktJ9_init_2_1 := dk_seg dksJ9_init_2_0 24 rfl rfl
theorem dksJ9_init_2_2 : cJ9_init_2.data.toList.drop 48 = dktJ9_init_2_2 := dk_seg dksJ9_init_2_1 24 rfl rfl
theorem dksJ9_init_2_3 : cJ9_init_2.data.toList.drop 72 = dktJ9_init_2_3 := dk_seg dksJ9_init_2_2 24 rfl rfl
theorem dksJ9_init_2_4 : cJ9_init_2.data.toList.drop 94 = dktJ9_init_2_4 := dk_seg dksJ9_init_2_3 22 rfl rfl
theorem dJ9_init_2_0 : decode cJ9_init_2 0 = .ok (.aload_n 0, 1) := dk_42 (dk_at dksJ9_init_2_0 0 rfl rfl)
theorem dJ9_init_2_1 : decode cJ9_init_2 1 = .ok (.invokespecial 1, 3) := dk_183 0 1 (dk_at dksJ9_init_2_0 1 rfl rfl)
theorem dJ9_init_2_4 : decode cJ9_init_2 4 = .ok (.aload_n 1, 1) := dk_43 (dk_at dksJ9_init_2_0 4 rfl rfl)
theorem dJ9_init_2_5 : decode cJ9_init_2 5 = .ok (.invokevirtual 552, 3) := dk_182 2 40 (dk_at dksJ9_init_2_0 5 rfl rfl)
theorem dJ9_init_2_8 : decode cJ9_init_2 8 = .ok (.astore_n 3, 1) := dk_78 (dk_at dksJ9_init_2_0 8 rfl rfl)
theorem dJ9_init_2_9 : decode cJ9_init_2 9 = .ok (.aload_n 1, 1) := dk_43 (dk_at dksJ9_init_2_0 9 rfl rfl)
theorem dJ9_init_2_10 : decode cJ9_init_2 10 = .ok (.invokevirtual 549, 3) := dk_182 2 37 (dk_at dksJ9_init_2_0 10 rfl rfl)
theorem dJ9_init_2_13 : decode cJ9_init_2 13 = .ok (.istore 4, 2) := dk_54 4 (dk_at dksJ9_init_2_0 13 rfl rfl)
theorem dJ9_init_2_15 : decode cJ9_init_2 15 = .ok (.aload_n 1, 1) := dk_43 (dk_at dksJ9_init_2_0 15 rfl rfl)
theorem dJ9_init_2_16 : decode cJ9_init_2 16 = .ok (.invokevirtual 1047, 3) := dk_182 4 23 (dk_at dksJ9_init_2_0 16 rfl rfl)
theorem dJ9_init_2_19 : decode cJ9_init_2 19 = .ok (.ifCond .eq 22, 3) := dk_153 0 22 (dk_at dksJ9_init_2_0 19 rfl rfl)
theorem dJ9_init_2_22 : decode cJ9_init_2 22 = .ok (.aload_n 0, 1) := dk_42 (dk_at dksJ9_init_2_0 22 rfl rfl)
theorem dJ9_init_2_23 : decode cJ9_init_2 23 = .ok (.iconst 0, 1) := dk_3 (dk_at dksJ9_init_2_0 23 rfl rfl)
theorem dJ9_init_2_24 : decode cJ9_init_2 24 = .ok (.putfield 15, 3) := dk_181 0 15 (dk_at dksJ9_init_2_1 0 rfl rfl)
theorem dJ9_init_2_27 : decode cJ9_init_2 27 = .ok (.aload_n 0, 1) := dk_42 (dk_at dksJ9_init_2_1 3 rfl rfl)
theorem dJ9_init_2_28 : decode cJ9_init_2 28 = .ok (.aload_n 3, 1) := dk_45 (dk_at dksJ9_init_2_1 4 rfl rfl)
theorem dJ9_init_2_29 : decode cJ9_init_2 29 = .ok (.iconst 0, 1) := dk_3 (dk_at dksJ9_init_2_1 5 rfl rfl)
theorem dJ9_init_2_30 : decode cJ9_init_2 30 = .ok (.iload 4, 2) := dk_21 4 (dk_at dksJ9_init_2_1 6 rfl rfl)
theorem dJ9_init_2_32 : decode cJ9_init_2 32 = .ok (.invokestatic 54, 3) := dk_184 0 54 (dk_at dksJ9_init_2_1 8 rfl rfl)
theorem dJ9_init_2_35 : decode cJ9_init_2 35 = .ok (.putfield 9, 3) := dk_181 0 9 (dk_at dksJ9_init_2_1 11 rfl rfl)
theorem dJ9_init_2_38 : decode cJ9_init_2 38 = .ok (.goto 59, 3) := dk_167 0 59 (dk_at dksJ9_init_2_1 14 rfl rfl)
theorem dJ9_init_2_41 : decode cJ9_init_2 41 = .ok (.getstatic 38, 3) := dk_178 0 38 (dk_at dksJ9_init_2_1 17 rfl rfl)
theorem dJ9_init_2_44 : decode cJ9_init_2 44 = .ok (.ifCond .eq 35, 3) := dk_153 0 35 (dk_at dksJ9_init_2_1 20 rfl rfl)
theorem dJ9_init_2_47 : decode cJ9_init_2 47 = .ok (.aload_n 1, 1) := dk_43 (dk_at dksJ9_init_2_1 23 rfl rfl)
theorem dJ9_init_2_48 : decode cJ9_init_2 48 = .ok (.getfield 1048, 3) := dk_180 4 24 (dk_at dksJ9_init_2_2 0 rfl rfl)
theorem dJ9_init_2_51 : decode cJ9_init_2 51 = .ok (.ifCond .eq 28, 3) := dk_153 0 28 (dk_at dksJ9_init_2_2 3 rfl rfl)
theorem dJ9_init_2_54 : decode cJ9_init_2 54 = .ok (.aload_n 0, 1) := dk_42 (dk_at dksJ9_init_2_2 6 rfl rfl)
theorem dJ9_init_2_55 : decode cJ9_init_2 55 = .ok (.aload_n 3, 1) := dk_45 (dk_at dksJ9_init_2_2 7 rfl rfl)
theorem dJ9_init_2_56 : decode cJ9_init_2 56 = .ok (.iconst 0, 1) := dk_3 (dk_at dksJ9_init_2_2 8 rfl rfl)
theorem dJ9_init_2_57 : decode cJ9_init_2 57 = .ok (.iload 4, 2) := dk_21 4 (dk_at dksJ9_init_2_2 9 rfl rfl)
theorem dJ9_init_2_59 : decode cJ9_init_2 59 = .ok (.invokestatic 1051, 3) := dk_184 4 27 (dk_at dksJ9_init_2_2 11 rfl rfl)
theorem dJ9_init_2_62 : decode cJ9_init_2 62 = .ok (.putfield 9, 3) := dk_181 0 9 (dk_at dksJ9_init_2_2 14 rfl rfl)
theorem dJ9_init_2_65 : decode cJ9_init_2 65 = .ok (.aload_n 0, 1) := dk_42 (dk_at dksJ9_init_2_2 17 rfl rfl)
theorem dJ9_init_2_66 : decode cJ9_init_2 66 = .ok (.aload_n 0, 1) := dk_42 (dk_at dksJ9_init_2_2 18 rfl rfl)
theorem dJ9_init_2_67 : decode cJ9_init_2 67 = .ok (.getfield 9, 3) := dk_180 0 9 (dk_at dksJ9_init_2_2 19 rfl rfl)
theorem dJ9_init_2_70 : decode cJ9_init_2 70 = .ok (.iload 4, 2) := dk_21 4 (dk_at dksJ9_init_2_2 22 rfl rfl)
theorem dJ9_init_2_72 : decode cJ9_init_2 72 = .ok (.invokestatic 47, 3) := dk_184 0 47 (dk_at dksJ9_init_2_3 0 rfl rfl)
theorem dJ9_init_2_75 : decode cJ9_init_2 75 = .ok (.putfield 15, 3) := dk_181 0 15 (dk_at dksJ9_init_2_3 3 rfl rfl)
theorem dJ9_init_2_78 : decode cJ9_init_2 78 = .ok (.return_, 1) := dk_177 (dk_at dksJ9_init_2_3 6 rfl rfl)
theorem dJ9_init_2_79 : decode cJ9_init_2 79 = .ok (.aload_n 0, 1) := dk_42 (dk_at dksJ9_init_2_3 7 rfl rfl)
theorem dJ9_init_2_80 : decode cJ9_init_2 80 = .ok (.iconst 1, 1) := dk_4 (dk_at dksJ9_init_2_3 8 rfl rfl)
theorem dJ9_init_2_81 : decode cJ9_init_2 81 = .ok (.putfield 15, 3) := dk_181 0 15 (dk_at dksJ9_init_2_3 9 rfl rfl)
theorem dJ9_init_2_84 : decode cJ9_init_2 84 = .ok (.aload_n 0, 1) := dk_42 (dk_at dksJ9_init_2_3 12 rfl rfl)
theorem dJ9_init_2_85 : decode cJ9_init_2 85 = .ok (.aload_n 3, 1) := dk_45 (dk_at dksJ9_init_2_3 13 rfl rfl)
theorem dJ9_init_2_86 : decode cJ9_init_2 86 = .ok (.iconst 0, 1) := dk_3 (dk_at dksJ9_init_2_3 14 rfl rfl)
theorem dJ9_init_2_87 : decode cJ9_init_2 87 = .ok (.iload 4, 2) := dk_21 4 (dk_at dksJ9_init_2_3 15 rfl rfl)
theorem dJ9_init_2_89 : decode cJ9_init_2 89 = .ok (.iconst 1, 1) := dk_4 (dk_at dksJ9_init_2_3 17 rfl rfl)
theorem dJ9_init_2_90 : decode cJ9_init_2 90 = .ok (.ishl, 1) := dk_120 (dk_at dksJ9_init_2_3 18 rfl rfl)
theorem dJ9_init_2_91 : decode cJ9_init_2 91 = .ok (.invokestatic 54, 3) := dk_184 0 54 (dk_at dksJ9_init_2_3 19 rfl rfl)
theorem dJ9_init_2_94 : decode cJ9_init_2 94 = .ok (.putfield 9, 3) := dk_181 0 9 (dk_at dksJ9_init_2_4 0 rfl rfl)
theorem dJ9_init_2_97 : decode cJ9_init_2 97 = .ok (.return_, 1) := dk_177 (dk_at dksJ9_init_2_4 3 rfl rfl)
abbrev cJ9_equals : ByteArray := prog_28_method_66_code
def yJ9_equals : MethodName := ⟨RJ9, "equals", "(Ljava/lang/Object;)Z"⟩
def dkwJ9_equals_2 : List UInt8 := [184, 2, 29, 153, 0, 7, 4, 167, 0, 4, 3, 172]
abbrev dktJ9_equals_2 : List UInt8 := dkwJ9_equals_2 ++ []
def dkwJ9_equals_1 : List UInt8 := [153, 0, 14, 42, 180, 0, 15, 44, 180, 0, 15, 160, 0, 21, 42, 180, 0, 9, 44, 180, 0, 9]
abbrev dktJ9_equals_1 : List UInt8 := dkwJ9_equals_1 ++ dktJ9_equals_2
def dkwJ9_equals_0 : List UInt8 := [42, 43, 166, 0, 5, 4, 172, 43, 193, 0, 10, 153, 0, 43, 43, 192, 0, 10, 77, 178, 0, 38]
abbrev dktJ9_equals_0 : List UInt8 := dkwJ9_equals_0 ++ dktJ9_equals_1
theorem dksJ9_equals_0 : cJ9_equals.data.toList.drop 0 = dktJ9_equals_0 := by decide +kernel
theorem dksJ9_equals_1 : cJ9_equals.data.toList.drop 22 = dktJ9_equals_1 := dk_seg dksJ9_equals_0 22 rfl rfl
theorem dksJ9_equals_2 : cJ9_equals.data.toList.drop 44 = dktJ9_equals_2 := dk_seg dksJ9_equals_1 22 rfl rfl
theorem dJ9_equals_0 : decode cJ9_equals 0 = .ok (.aload_n 0, 1) := dk_42 (dk_at dksJ9_equals_0 0 rfl rfl)
theorem dJ9_equals_1 : decode cJ9_equals 1 = .ok (.aload_n 1, 1) := dk_43 (dk_at dksJ9_equals_0 1 rfl rfl)
theorem dJ9_equals_2 : decode cJ9_equals 2 = .ok (.if_acmp .ne 5, 3) := dk_166 0 5 (dk_at dksJ9_equals_0 2 rfl rfl)
theorem dJ9_equals_5 : decode cJ9_equals 5 = .ok (.iconst 1, 1) := dk_4 (dk_at dksJ9_equals_0 5 rfl rfl)
theorem dJ9_equals_6 : decode cJ9_equals 6 = .ok (.ireturn, 1) := dk_172 (dk_at dksJ9_equals_0 6 rfl rfl)
theorem dJ9_equals_7 : decode cJ9_equals 7 = .ok (.aload_n 1, 1) := dk_43 (dk_at dksJ9_equals_0 7 rfl rfl)
theorem dJ9_equals_8 : decode cJ9_equals 8 = .ok (.instanceof 10, 3) := dk_193 0 10 (dk_at dksJ9_equals_0 8 rfl rfl)
theorem dJ9_equals_11 : decode cJ9_equals 11 = .ok (.ifCond .eq 43, 3) := dk_153 0 43 (dk_at dksJ9_equals_0 11 rfl rfl)
theorem dJ9_equals_14 : decode cJ9_equals 14 = .ok (.aload_n 1, 1) := dk_43 (dk_at dksJ9_equals_0 14 rfl rfl)
theorem dJ9_equals_15 : decode cJ9_equals 15 = .ok (.checkcast 10, 3) := dk_192 0 10 (dk_at dksJ9_equals_0 15 rfl rfl)
theorem dJ9_equals_18 : decode cJ9_equals 18 = .ok (.astore_n 2, 1) := dk_77 (dk_at dksJ9_equals_0 18 rfl rfl)
theorem dJ9_equals_19 : decode cJ9_equals 19 = .ok (.getstatic 38, 3) := dk_178 0 38 (dk_at dksJ9_equals_0 19 rfl rfl)
theorem dJ9_equals_22 : decode cJ9_equals 22 = .ok (.ifCond .eq 14, 3) := dk_153 0 14 (dk_at dksJ9_equals_1 0 rfl rfl)
theorem dJ9_equals_25 : decode cJ9_equals 25 = .ok (.aload_n 0, 1) := dk_42 (dk_at dksJ9_equals_1 3 rfl rfl)
theorem dJ9_equals_26 : decode cJ9_equals 26 = .ok (.getfield 15, 3) := dk_180 0 15 (dk_at dksJ9_equals_1 4 rfl rfl)
theorem dJ9_equals_29 : decode cJ9_equals 29 = .ok (.aload_n 2, 1) := dk_44 (dk_at dksJ9_equals_1 7 rfl rfl)
theorem dJ9_equals_30 : decode cJ9_equals 30 = .ok (.getfield 15, 3) := dk_180 0 15 (dk_at dksJ9_equals_1 8 rfl rfl)
theorem dJ9_equals_33 : decode cJ9_equals 33 = .ok (.if_icmp .ne 21, 3) := dk_160 0 21 (dk_at dksJ9_equals_1 11 rfl rfl)
theorem dJ9_equals_36 : decode cJ9_equals 36 = .ok (.aload_n 0, 1) := dk_42 (dk_at dksJ9_equals_1 14 rfl rfl)
theorem dJ9_equals_37 : decode cJ9_equals 37 = .ok (.getfield 9, 3) := dk_180 0 9 (dk_at dksJ9_equals_1 15 rfl rfl)
theorem dJ9_equals_40 : decode cJ9_equals 40 = .ok (.aload_n 2, 1) := dk_44 (dk_at dksJ9_equals_1 18 rfl rfl)
theorem dJ9_equals_41 : decode cJ9_equals 41 = .ok (.getfield 9, 3) := dk_180 0 9 (dk_at dksJ9_equals_1 19 rfl rfl)
theorem dJ9_equals_44 : decode cJ9_equals 44 = .ok (.invokestatic 541, 3) := dk_184 2 29 (dk_at dksJ9_equals_2 0 rfl rfl)
theorem dJ9_equals_47 : decode cJ9_equals 47 = .ok (.ifCond .eq 7, 3) := dk_153 0 7 (dk_at dksJ9_equals_2 3 rfl rfl)
theorem dJ9_equals_50 : decode cJ9_equals 50 = .ok (.iconst 1, 1) := dk_4 (dk_at dksJ9_equals_2 6 rfl rfl)
theorem dJ9_equals_51 : decode cJ9_equals 51 = .ok (.goto 4, 3) := dk_167 0 4 (dk_at dksJ9_equals_2 7 rfl rfl)
theorem dJ9_equals_54 : decode cJ9_equals 54 = .ok (.iconst 0, 1) := dk_3 (dk_at dksJ9_equals_2 10 rfl rfl)
theorem dJ9_equals_55 : decode cJ9_equals 55 = .ok (.ireturn, 1) := dk_172 (dk_at dksJ9_equals_2 11 rfl rfl)
abbrev cJ9_checkBoundsBeginEnd : ByteArray := prog_28_method_158_code
def yJ9_checkBoundsBeginEnd : MethodName := ⟨RJ9, "checkBoundsBeginEnd", "(III)V"⟩
def dkwJ9_checkBoundsBeginEnd_0 : List UInt8 := [26, 27, 28, 178, 4, 29, 184, 4, 38, 87, 177]
abbrev dktJ9_checkBoundsBeginEnd_0 : List UInt8 := dkwJ9_checkBoundsBeginEnd_0 ++ []
theorem dksJ9_checkBoundsBeginEnd_0 : cJ9_checkBoundsBeginEnd.data.toList.drop 0 = dktJ9_checkBoundsBeginEnd_0 := by decide +kernel
theorem dJ9_checkBoundsBeginEnd_0 : decode cJ9_checkBoundsBeginEnd 0 = .ok (.iload_n 0, 1) := dk_26 (dk_at dksJ9_checkBoundsBeginEnd_0 0 rfl rfl)
theorem dJ9_checkBoundsBeginEnd_1 : decode cJ9_checkBoundsBeginEnd 1 = .ok (.iload_n 1, 1) := dk_27 (dk_at dksJ9_checkBoundsBeginEnd_0 1 rfl rfl)
theorem dJ9_checkBoundsBeginEnd_2 : decode cJ9_checkBoundsBeginEnd 2 = .ok (.iload_n 2, 1) := dk_28 (dk_at dksJ9_checkBoundsBeginEnd_0 2 rfl rfl)
theorem dJ9_checkBoundsBeginEnd_3 : decode cJ9_checkBoundsBeginEnd 3 = .ok (.getstatic 1053, 3) := dk_178 4 29 (dk_at dksJ9_checkBoundsBeginEnd_0 3 rfl rfl)
theorem dJ9_checkBoundsBeginEnd_6 : decode cJ9_checkBoundsBeginEnd 6 = .ok (.invokestatic 1062, 3) := dk_184 4 38 (dk_at dksJ9_checkBoundsBeginEnd_0 6 rfl rfl)
theorem dJ9_checkBoundsBeginEnd_9 : decode cJ9_checkBoundsBeginEnd 9 = .ok (.pop, 1) := dk_87 (dk_at dksJ9_checkBoundsBeginEnd_0 9 rfl rfl)
theorem dJ9_checkBoundsBeginEnd_10 : decode cJ9_checkBoundsBeginEnd 10 = .ok (.return_, 1) := dk_177 (dk_at dksJ9_checkBoundsBeginEnd_0 10 rfl rfl)
abbrev cJ9_length : ByteArray := prog_28_method_54_code
def yJ9_length : MethodName := ⟨RJ9, "length", "()I"⟩
def dkwJ9_length_0 : List UInt8 := [42, 180, 0, 9, 190, 42, 182, 1, 79, 122, 172]
abbrev dktJ9_length_0 : List UInt8 := dkwJ9_length_0 ++ []
theorem dksJ9_length_0 : cJ9_length.data.toList.drop 0 = dktJ9_length_0 := by decide +kernel
theorem dJ9_length_0 : decode cJ9_length 0 = .ok (.aload_n 0, 1) := dk_42 (dk_at dksJ9_length_0 0 rfl rfl)
theorem dJ9_length_1 : decode cJ9_length 1 = .ok (.getfield 9, 3) := dk_180 0 9 (dk_at dksJ9_length_0 1 rfl rfl)
theorem dJ9_length_4 : decode cJ9_length 4 = .ok (.arraylength, 1) := dk_190 (dk_at dksJ9_length_0 4 rfl rfl)
theorem dJ9_length_5 : decode cJ9_length 5 = .ok (.aload_n 0, 1) := dk_42 (dk_at dksJ9_length_0 5 rfl rfl)
theorem dJ9_length_6 : decode cJ9_length 6 = .ok (.invokevirtual 335, 3) := dk_182 1 79 (dk_at dksJ9_length_0 6 rfl rfl)
theorem dJ9_length_9 : decode cJ9_length 9 = .ok (.ishr, 1) := dk_122 (dk_at dksJ9_length_0 9 rfl rfl)
theorem dJ9_length_10 : decode cJ9_length 10 = .ok (.ireturn, 1) := dk_172 (dk_at dksJ9_length_0 10 rfl rfl)
abbrev cJ9_coder : ByteArray := prog_28_method_152_code
def yJ9_coder : MethodName := ⟨RJ9, "coder", "()B"⟩
def dkwJ9_coder_0 : List UInt8 := [178, 0, 38, 153, 0, 10, 42, 180, 0, 15, 167, 0, 4, 4, 172]
abbrev dktJ9_coder_0 : List UInt8 := dkwJ9_coder_0 ++ []
theorem dksJ9_coder_0 : cJ9_coder.data.toList.drop 0 = dktJ9_coder_0 := by decide +kernel
theorem dJ9_coder_0 : decode cJ9_coder 0 = .ok (.getstatic 38, 3) := dk_178 0 38 (dk_at dksJ9_coder_0 0 rfl rfl)
theorem dJ9_coder_3 : decode cJ9_coder 3 = .ok (.ifCond .eq 10, 3) := dk_153 0 10 (dk_at dksJ9_coder_0 3 rfl rfl)
theorem dJ9_coder_6 : decode cJ9_coder 6 = .ok (.aload_n 0, 1) := dk_42 (dk_at dksJ9_coder_0 6 rfl rfl)
theorem dJ9_coder_7 : decode cJ9_coder 7 = .ok (.getfield 15, 3) := dk_180 0 15 (dk_at dksJ9_coder_0 7 rfl rfl)
theorem dJ9_coder_10 : decode cJ9_coder 10 = .ok (.goto 4, 3) := dk_167 0 4 (dk_at dksJ9_coder_0 10 rfl rfl)
theorem dJ9_coder_13 : decode cJ9_coder 13 = .ok (.iconst 1, 1) := dk_4 (dk_at dksJ9_coder_0 13 rfl rfl)
theorem dJ9_coder_14 : decode cJ9_coder 14 = .ok (.ireturn, 1) := dk_172 (dk_at dksJ9_coder_0 14 rfl rfl)
abbrev cJ9_getBytes : ByteArray := prog_28_method_147_code
def yJ9_getBytes : MethodName := ⟨RJ9, "getBytes", "([BIB)V"⟩
def dkwJ9_getBytes_1 : List UInt8 := [184, 0, 212, 167, 0, 18, 42, 180, 0, 9, 3, 43, 28, 42, 180, 0, 9, 190, 184, 0, 106, 177]
abbrev dktJ9_getBytes_1 : List UInt8 := dkwJ9_getBytes_1 ++ []
def dkwJ9_getBytes_0 : List UInt8 := [42, 182, 1, 79, 29, 160, 0, 23, 42, 180, 0, 9, 3, 43, 28, 29, 120, 42, 180, 0, 9, 190]
abbrev dktJ9_getBytes_0 : List UInt8 := dkwJ9_getBytes_0 ++ dktJ9_getBytes_1
theorem dksJ9_getBytes_0 : cJ9_getBytes.data.toList.drop 0 = dktJ9_getBytes_0 := by decide +kernel
theorem dksJ9_getBytes_1 : cJ9_getBytes.data.toList.drop 22 = dktJ9_getBytes_1 := dk_seg dksJ9_getBytes_0 22 rfl rfl
theorem dJ9_getBytes_0 : decode cJ9_getBytes 0 = .ok (.aload_n 0, 1) := dk_42 (dk_at dksJ9_getBytes_0 0 rfl rfl)
theorem dJ9_getBytes_1 : decode cJ9_getBytes 1 = .ok (.invokevirtual 335, 3) := dk_182 1 79 (dk_at dksJ9_getBytes_0 1 rfl rfl)
theorem dJ9_getBytes_4 : decode cJ9_getBytes 4 = .ok (.iload_n 3, 1) := dk_29 (dk_at dksJ9_getBytes_0 4 rfl rfl)
theorem dJ9_getBytes_5 : decode cJ9_getBytes 5 = .ok (.if_icmp .ne 23, 3) := dk_160 0 23 (dk_at dksJ9_getBytes_0 5 rfl rfl)
theorem dJ9_getBytes_8 : decode cJ9_getBytes 8 = .ok (.aload_n 0, 1) := dk_42 (dk_at dksJ9_getBytes_0 8 rfl rfl)
theorem dJ9_getBytes_9 : decode cJ9_getBytes 9 = .ok (.getfield 9, 3) := dk_180 0 9 (dk_at dksJ9_getBytes_0 9 rfl rfl)
theorem dJ9_getBytes_12 : decode cJ9_getBytes 12 = .ok (.iconst 0, 1) := dk_3 (dk_at dksJ9_getBytes_0 12 rfl rfl)
theorem dJ9_getBytes_13 : decode cJ9_getBytes 13 = .ok (.aload_n 1, 1) := dk_43 (dk_at dksJ9_getBytes_0 13 rfl rfl)
theorem dJ9_getBytes_14 : decode cJ9_getBytes 14 = .ok (.iload_n 2, 1) := dk_28 (dk_at dksJ9_getBytes_0 14 rfl rfl)
theorem dJ9_getBytes_15 : decode cJ9_getBytes 15 = .ok (.iload_n 3, 1) := dk_29 (dk_at dksJ9_getBytes_0 15 rfl rfl)
theorem dJ9_getBytes_16 : decode cJ9_getBytes 16 = .ok (.ishl, 1) := dk_120 (dk_at dksJ9_getBytes_0 16 rfl rfl)
theorem dJ9_getBytes_17 : decode cJ9_getBytes 17 = .ok (.aload_n 0, 1) := dk_42 (dk_at dksJ9_getBytes_0 17 rfl rfl)
theorem dJ9_getBytes_18 : decode cJ9_getBytes 18 = .ok (.getfield 9, 3) := dk_180 0 9 (dk_at dksJ9_getBytes_0 18 rfl rfl)
theorem dJ9_getBytes_21 : decode cJ9_getBytes 21 = .ok (.arraylength, 1) := dk_190 (dk_at dksJ9_getBytes_0 21 rfl rfl)
theorem dJ9_getBytes_22 : decode cJ9_getBytes 22 = .ok (.invokestatic 212, 3) := dk_184 0 212 (dk_at dksJ9_getBytes_1 0 rfl rfl)
theorem dJ9_getBytes_25 : decode cJ9_getBytes 25 = .ok (.goto 18, 3) := dk_167 0 18 (dk_at dksJ9_getBytes_1 3 rfl rfl)
theorem dJ9_getBytes_28 : decode cJ9_getBytes 28 = .ok (.aload_n 0, 1) := dk_42 (dk_at dksJ9_getBytes_1 6 rfl rfl)
theorem dJ9_getBytes_29 : decode cJ9_getBytes 29 = .ok (.getfield 9, 3) := dk_180 0 9 (dk_at dksJ9_getBytes_1 7 rfl rfl)
theorem dJ9_getBytes_32 : decode cJ9_getBytes 32 = .ok (.iconst 0, 1) := dk_3 (dk_at dksJ9_getBytes_1 10 rfl rfl)
theorem dJ9_getBytes_33 : decode cJ9_getBytes 33 = .ok (.aload_n 1, 1) := dk_43 (dk_at dksJ9_getBytes_1 11 rfl rfl)
theorem dJ9_getBytes_34 : decode cJ9_getBytes 34 = .ok (.iload_n 2, 1) := dk_28 (dk_at dksJ9_getBytes_1 12 rfl rfl)
theorem dJ9_getBytes_35 : decode cJ9_getBytes 35 = .ok (.aload_n 0, 1) := dk_42 (dk_at dksJ9_getBytes_1 13 rfl rfl)
theorem dJ9_getBytes_36 : decode cJ9_getBytes 36 = .ok (.getfield 9, 3) := dk_180 0 9 (dk_at dksJ9_getBytes_1 14 rfl rfl)
theorem dJ9_getBytes_39 : decode cJ9_getBytes 39 = .ok (.arraylength, 1) := dk_190 (dk_at dksJ9_getBytes_1 17 rfl rfl)
theorem dJ9_getBytes_40 : decode cJ9_getBytes 40 = .ok (.invokestatic 106, 3) := dk_184 0 106 (dk_at dksJ9_getBytes_1 18 rfl rfl)
theorem dJ9_getBytes_43 : decode cJ9_getBytes 43 = .ok (.return_, 1) := dk_177 (dk_at dksJ9_getBytes_1 21 rfl rfl)
theorem q187 : (Jvm.Cond.initialized "java/lang/String") ∈ lw_all := lw_g (lw_at lw_m1 14 rfl) rfl
theorem q559 : (Jvm.Cond.laysStatic "java/lang/String" "COMPACT_STRINGS" "Z") ∈ lw_tbl := lw_at lw_m2 146 rfl
theorem q570 : (Jvm.Cond.fieldLink "java/lang/String" (1048 : Nat) "java/lang/AbstractStringBuilder" "maybeLatin1" "Z") ∈ lw_all := lw_g (lw_at lw_m2 157 rfl) rfl
theorem q742 : (Jvm.Cond.static ({ cls := "java/lang/String", name := "checkBoundsOffCount", desc := "(III)I" } : Jvm.MethodName)) ∈ lw_all := lw_g (lw_at lw_m3 89 rfl) rfl
theorem q743 : (Jvm.Cond.code ({ cls := "java/lang/String", name := "checkBoundsOffCount", desc := "(III)I" } : Jvm.MethodName) prog_28_method_157_code (3 : Nat) (Option.some Jvm.ClassFile.FieldType.int)) ∈ lw_all := lw_g (lw_at lw_m3 90 rfl) rfl
theorem q744 : (Jvm.Cond.fieldLink "java/lang/String" (1053 : Nat) "jdk/internal/util/Preconditions" "SIOOBE_FORMATTER" "Ljava/util/function/BiFunction;") ∈ lw_all := lw_g (lw_at lw_m3 91 rfl) rfl
theorem q746 : (Jvm.Cond.methodLink "java/lang/String" (1065 : Nat) ({ cls := "jdk/internal/util/Preconditions", name := "checkFromIndexSize", desc := "(IIILjava/util/function/BiFunction;)I" } : Jvm.MethodName)) ∈ lw_all := lw_g (lw_at lw_m3 93 rfl) rfl
theorem q765 : (Jvm.Cond.static ({ cls := "java/lang/String", name := "checkIndex", desc := "(II)V" } : Jvm.MethodName)) ∈ lw_all := lw_g (lw_at lw_m3 112 rfl) rfl
theorem q766 : (Jvm.Cond.code ({ cls := "java/lang/String", name := "checkIndex", desc := "(II)V" } : Jvm.MethodName) prog_28_method_155_code (2 : Nat) (Option.none : Option Jvm.ClassFile.FieldType)) ∈ lw_all := lw_g (lw_at lw_m3 113 rfl) rfl
theorem q767 : (Jvm.Cond.methodLink "java/lang/String" (1059 : Nat) ({ cls := "jdk/internal/util/Preconditions", name := "checkIndex", desc := "(IILjava/util/function/BiFunction;)I" } : Jvm.MethodName)) ∈ lw_all := lw_g (lw_at lw_m3 114 rfl) rfl
theorem q773 : (Jvm.Cond.instantiable "java/lang/String" (4 : Nat)) ∈ lw_all := lw_g (lw_at lw_m3 120 rfl) rfl
theorem q775 : (Jvm.Cond.instanceMethod ({ cls := "java/lang/String", name := "<init>", desc := "(Ljava/lang/StringBuilder;)V" } : Jvm.MethodName)) ∈ lw_all := lw_g (lw_at lw_m3 122 rfl) rfl
theorem q776 : (Jvm.Cond.code ({ cls := "java/lang/String", name := "<init>", desc := "(Ljava/lang/StringBuilder;)V" } : Jvm.MethodName) prog_28_method_53_code (2 : Nat) (Option.none : Option Jvm.ClassFile.FieldType)) ∈ lw_all := lw_g (lw_at lw_m3 123 rfl) rfl
theorem q777 : (Jvm.Cond.methodLink "java/lang/String" (489 : Nat) ({ cls := "java/lang/String", name := "<init>", desc := "(Ljava/lang/AbstractStringBuilder;Ljava/lang/Void;)V" } : Jvm.MethodName)) ∈ lw_all := lw_g (lw_at lw_m3 124 rfl) rfl
theorem q778 : (Jvm.Cond.instanceMethod ({ cls := "java/lang/String", name := "<init>", desc := "(Ljava/lang/AbstractStringBuilder;Ljava/lang/Void;)V" } : Jvm.MethodName)) ∈ lw_all := lw_g (lw_at lw_m3 125 rfl) rfl
theorem q779 : (Jvm.Cond.code ({ cls := "java/lang/String", name := "<init>", desc := "(Ljava/lang/AbstractStringBuilder;Ljava/lang/Void;)V" } : Jvm.MethodName) prog_28_method_150_code (5 : Nat) (Option.none : Option Jvm.ClassFile.FieldType)) ∈ lw_all := lw_g (lw_at lw_m3 126 rfl) rfl
theorem q780 : (Jvm.Cond.methodLink "java/lang/String" (1 : Nat) ({ cls := "java/lang/Object", name := "<init>", desc := "()V" } : Jvm.MethodName)) ∈ lw_all := lw_g (lw_at lw_m3 127 rfl) rfl
theorem q781 : (Jvm.Cond.methodLink "java/lang/String" (552 : Nat) ({ cls := "java/lang/AbstractStringBuilder", name := "getValue", desc := "()[B" } : Jvm.MethodName)) ∈ lw_all := lw_g (lw_at lw_m3 128 rfl) rfl
theorem q786 : (Jvm.Cond.methodLink "java/lang/String" (549 : Nat) ({ cls := "java/lang/AbstractStringBuilder", name := "length", desc := "()I" } : Jvm.MethodName)) ∈ lw_all := lw_g (lw_at lw_m3 133 rfl) rfl
theorem q794 : (Jvm.Cond.methodLink "java/lang/String" (1047 : Nat) ({ cls := "java/lang/AbstractStringBuilder", name := "isLatin1", desc := "()Z" } : Jvm.MethodName)) ∈ lw_all := lw_g (lw_at lw_m3 141 rfl) rfl
theorem q795 : (Jvm.Cond.methodLink "java/lang/String" (54 : Nat) ({ cls := "java/util/Arrays", name := "copyOfRange", desc := "([BII)[B" } : Jvm.MethodName)) ∈ lw_all := lw_g (lw_at lw_m3 142 rfl) rfl
theorem q804 : (Jvm.Cond.fieldLink "java/lang/String" (38 : Nat) "java/lang/String" "COMPACT_STRINGS" "Z") ∈ lw_all := lw_g (lw_at lw_m3 151 rfl) rfl
theorem q805 : (Jvm.Cond.methodLink "java/lang/String" (1051 : Nat) ({ cls := "java/lang/StringUTF16", name := "compress", desc := "([BII)[B" } : Jvm.MethodName)) ∈ lw_all := lw_g (lw_at lw_m3 152 rfl) rfl
theorem q815 : (Jvm.Cond.methodLink "java/lang/String" (47 : Nat) ({ cls := "java/lang/StringUTF16", name := "coderFromArrayLen", desc := "([BI)B" } : Jvm.MethodName)) ∈ lw_all := lw_g (lw_at lw_m3 162 rfl) rfl
theorem q818 : (Jvm.Cond.fieldLink "java/lang/String" (9 : Nat) "java/lang/String" "value" "[B") ∈ lw_all := lw_g (lw_at lw_m3 165 rfl) rfl
theorem q819 : (Jvm.Cond.fieldLink "java/lang/String" (15 : Nat) "java/lang/String" "coder" "B") ∈ lw_all := lw_g (lw_at lw_m3 166 rfl) rfl
theorem q820 : (Jvm.Cond.laysFinal "java/lang/String" "java/lang/String" "value" "[B") ∈ lw_all := lw_g (lw_at lw_m3 167 rfl) rfl
theorem q821 : (Jvm.Cond.soleField "java/lang/String" "value") ∈ lw_all := lw_g (lw_at lw_m3 168 rfl) rfl
theorem q822 : (Jvm.Cond.laysFinal "java/lang/String" "java/lang/String" "coder" "B") ∈ lw_all := lw_g (lw_at lw_m3 169 rfl) rfl
theorem q823 : (Jvm.Cond.soleField "java/lang/String" "coder") ∈ lw_all := lw_g (lw_at lw_m3 170 rfl) rfl
theorem q824 : (Jvm.Cond.lays "java/lang/String" "java/lang/String" "hash" "I") ∈ lw_all := lw_g (lw_at lw_m3 171 rfl) rfl
theorem q825 : (Jvm.Cond.soleField "java/lang/String" "hash") ∈ lw_all := lw_g (lw_at lw_m3 172 rfl) rfl
theorem q826 : (Jvm.Cond.lays "java/lang/String" "java/lang/String" "hashIsZero" "Z") ∈ lw_all := lw_g (lw_at lw_m3 173 rfl) rfl
theorem q827 : (Jvm.Cond.soleField "java/lang/String" "hashIsZero") ∈ lw_all := lw_g (lw_at lw_m3 174 rfl) rfl
theorem q828 : (Jvm.Cond.superclass "java/lang/String" "java/lang/Object") ∈ lw_all := lw_g (lw_at lw_m3 175 rfl) rfl
theorem q873 : (Jvm.Cond.instanceMethod ({ cls := "java/lang/String", name := "equals", desc := "(Ljava/lang/Object;)Z" } : Jvm.MethodName)) ∈ lw_all := lw_g (lw_at lw_m3 220 rfl) rfl
theorem q874 : (Jvm.Cond.selects "java/lang/String" ({ cls := "java/lang/String", name := "equals", desc := "(Ljava/lang/Object;)Z" } : Jvm.MethodName) ({ cls := "java/lang/String", name := "equals", desc := "(Ljava/lang/Object;)Z" } : Jvm.MethodName)) ∈ lw_all := lw_g (lw_at lw_m3 221 rfl) rfl
theorem q875 : (Jvm.Cond.code ({ cls := "java/lang/String", name := "equals", desc := "(Ljava/lang/Object;)Z" } : Jvm.MethodName) prog_28_method_66_code (3 : Nat) (Option.some Jvm.ClassFile.FieldType.boolean)) ∈ lw_all := lw_g (lw_at lw_m3 222 rfl) rfl
theorem q876 : (Jvm.Cond.classLink "java/lang/String" (10 : Nat) "java/lang/String") ∈ lw_all := lw_g (lw_at lw_m3 223 rfl) rfl
theorem q877 : (Jvm.Cond.methodLink "java/lang/String" (541 : Nat) ({ cls := "java/lang/StringLatin1", name := "equals", desc := "([B[B)Z" } : Jvm.MethodName)) ∈ lw_all := lw_g (lw_at lw_m3 224 rfl) rfl
theorem q1114 : (Jvm.Cond.selects "java/lang/String" ({ cls := "java/lang/Object", name := "getClass", desc := "()Ljava/lang/Class;" } : Jvm.MethodName) ({ cls := "java/lang/Object", name := "getClass", desc := "()Ljava/lang/Class;" } : Jvm.MethodName)) ∈ lw_all := lw_g (lw_at lw_m4 221 rfl) rfl
theorem q1894 : (Jvm.Cond.static ({ cls := "java/lang/String", name := "checkBoundsBeginEnd", desc := "(III)V" } : Jvm.MethodName)) ∈ lw_all := lw_g (lw_at lw_m8 41 rfl) rfl
theorem q1895 : (Jvm.Cond.code ({ cls := "java/lang/String", name := "checkBoundsBeginEnd", desc := "(III)V" } : Jvm.MethodName) prog_28_method_158_code (3 : Nat) (Option.none : Option Jvm.ClassFile.FieldType)) ∈ lw_all := lw_g (lw_at lw_m8 42 rfl) rfl
theorem q1896 : (Jvm.Cond.methodLink "java/lang/String" (1062 : Nat) ({ cls := "jdk/internal/util/Preconditions", name := "checkFromToIndex", desc := "(IIILjava/util/function/BiFunction;)I" } : Jvm.MethodName)) ∈ lw_all := lw_g (lw_at lw_m8 43 rfl) rfl
theorem q1900 : (Jvm.Cond.instanceMethod ({ cls := "java/lang/String", name := "length", desc := "()I" } : Jvm.MethodName)) ∈ lw_all := lw_g (lw_at lw_m8 47 rfl) rfl
theorem q1901 : (Jvm.Cond.selects "java/lang/String" ({ cls := "java/lang/String", name := "length", desc := "()I" } : Jvm.MethodName) ({ cls := "java/lang/String", name := "length", desc := "()I" } : Jvm.MethodName)) ∈ lw_all := lw_g (lw_at lw_m8 48 rfl) rfl
theorem q1902 : (Jvm.Cond.code ({ cls := "java/lang/String", name := "length", desc := "()I" } : Jvm.MethodName) prog_28_method_54_code (1 : Nat) (Option.some Jvm.ClassFile.FieldType.int)) ∈ lw_all := lw_g (lw_at lw_m8 49 rfl) rfl
theorem q1903 : (Jvm.Cond.methodLink "java/lang/String" (335 : Nat) ({ cls := "java/lang/String", name := "coder", desc := "()B" } : Jvm.MethodName)) ∈ lw_all := lw_g (lw_at lw_m8 50 rfl) rfl
theorem q1904 : (Jvm.Cond.instanceMethod ({ cls := "java/lang/String", name := "coder", desc := "()B" } : Jvm.MethodName)) ∈ lw_all := lw_g (lw_at lw_m8 51 rfl) rfl
theorem q1905 : (Jvm.Cond.selects "java/lang/String" ({ cls := "java/lang/String", name := "coder", desc := "()B" } : Jvm.MethodName) ({ cls := "java/lang/String", name := "coder", desc := "()B" } : Jvm.MethodName)) ∈ lw_all := lw_g (lw_at lw_m8 52 rfl) rfl
theorem q1906 : (Jvm.Cond.code ({ cls := "java/lang/String", name := "coder", desc := "()B" } : Jvm.MethodName) prog_28_method_152_code (1 : Nat) (Option.some Jvm.ClassFile.FieldType.byte)) ∈ lw_all := lw_g (lw_at lw_m8 53 rfl) rfl
theorem q1917 : (Jvm.Cond.instanceMethod ({ cls := "java/lang/String", name := "getBytes", desc := "([BIB)V" } : Jvm.MethodName)) ∈ lw_all := lw_g (lw_at lw_m8 64 rfl) rfl
theorem q1918 : (Jvm.Cond.selects "java/lang/String" ({ cls := "java/lang/String", name := "getBytes", desc := "([BIB)V" } : Jvm.MethodName) ({ cls := "java/lang/String", name := "getBytes", desc := "([BIB)V" } : Jvm.MethodName)) ∈ lw_all := lw_g (lw_at lw_m8 65 rfl) rfl
theorem q1919 : (Jvm.Cond.code ({ cls := "java/lang/String", name := "getBytes", desc := "([BIB)V" } : Jvm.MethodName) prog_28_method_147_code (4 : Nat) (Option.none : Option Jvm.ClassFile.FieldType)) ∈ lw_all := lw_g (lw_at lw_m8 66 rfl) rfl
theorem q1920 : (Jvm.Cond.methodLink "java/lang/String" (212 : Nat) ({ cls := "java/lang/System", name := "arraycopy", desc := "(Ljava/lang/Object;ILjava/lang/Object;II)V" } : Jvm.MethodName)) ∈ lw_all := lw_g (lw_at lw_m8 67 rfl) rfl
theorem q1921 : (Jvm.Cond.methodLink "java/lang/String" (106 : Nat) ({ cls := "java/lang/StringLatin1", name := "inflate", desc := "([BI[BII)V" } : Jvm.MethodName)) ∈ lw_all := lw_g (lw_at lw_m8 68 rfl) rfl
theorem q2663 : (Jvm.Cond.castable "java/lang/String" "java/lang/Object") ∈ lw_tbl := lw_at lw_m11 90 rfl
theorem in_J9 : ∀ w ∈ wsJ90, w ∈ lw_all := lw_in wsJ90 [820, 822, 824, 826] (by decide +kernel) (by decide +kernel)

/-! jdk/internal/util/ArraysSupport -/
set_option maxRecDepth 100000
def RJ11 : String := "jdk/internal/util/ArraysSupport"
abbrev cJ11_newLength : ByteArray := prog_48_method_27_code
def yJ11_newLength : MethodName := ⟨RJ11, "newLength", "(III)I"⟩
def dkwJ11_newLength_1 : List UInt8 := [184, 0, 201, 172]
abbrev dktJ11_newLength_1 : List UInt8 := dkwJ11_newLength_1 ++ []
def dkwJ11_newLength_0 : List UInt8 := [26, 27, 28, 184, 0, 194, 96, 62, 3, 29, 162, 0, 11, 29, 18, 200, 163, 0, 5, 29, 172, 26, 27]
abbrev dktJ11_newLength_0 : List UInt8 := dkwJ11_newLength_0 ++ dktJ11_newLength_1
theorem dksJ11_newLength_0 : cJ11_newLength.data.toList.drop 0 = dktJ11_newLength_0 := by decide +kernel
theorem dksJ11_newLength_1 : cJ11_newLength.data.toList.drop 23 = dktJ11_newLength_1 := dk_seg dksJ11_newLength_0 23 rfl rfl
theorem dJ11_newLength_0 : decode cJ11_newLength 0 = .ok (.iload_n 0, 1) := dk_26 (dk_at dksJ11_newLength_0 0 rfl rfl)
theorem dJ11_newLength_1 : decode cJ11_newLength 1 = .ok (.iload_n 1, 1) := dk_27 (dk_at dksJ11_newLength_0 1 rfl rfl)
theorem dJ11_newLength_2 : decode cJ11_newLength 2 = .ok (.iload_n 2, 1) := dk_28 (dk_at dksJ11_newLength_0 2 rfl rfl)
theorem dJ11_newLength_3 : decode cJ11_newLength 3 = .ok (.invokestatic 194, 3) := dk_184 0 194 (dk_at dksJ11_newLength_0 3 rfl rfl)
theorem dJ11_newLength_6 : decode cJ11_newLength 6 = .ok (.iadd, 1) := dk_96 (dk_at dksJ11_newLength_0 6 rfl rfl)
theorem dJ11_newLength_7 : decode cJ11_newLength 7 = .ok (.istore_n 3, 1) := dk_62 (dk_at dksJ11_newLength_0 7 rfl rfl)
theorem dJ11_newLength_8 : decode cJ11_newLength 8 = .ok (.iconst 0, 1) := dk_3 (dk_at dksJ11_newLength_0 8 rfl rfl)
theorem dJ11_newLength_9 : decode cJ11_newLength 9 = .ok (.iload_n 3, 1) := dk_29 (dk_at dksJ11_newLength_0 9 rfl rfl)
theorem dJ11_newLength_10 : decode cJ11_newLength 10 = .ok (.if_icmp .ge 11, 3) := dk_162 0 11 (dk_at dksJ11_newLength_0 10 rfl rfl)
theorem dJ11_newLength_13 : decode cJ11_newLength 13 = .ok (.iload_n 3, 1) := dk_29 (dk_at dksJ11_newLength_0 13 rfl rfl)
theorem dJ11_newLength_14 : decode cJ11_newLength 14 = .ok (.ldc 200, 2) := dk_18 200 (dk_at dksJ11_newLength_0 14 rfl rfl)
theorem dJ11_newLength_16 : decode cJ11_newLength 16 = .ok (.if_icmp .gt 5, 3) := dk_163 0 5 (dk_at dksJ11_newLength_0 16 rfl rfl)
theorem dJ11_newLength_19 : decode cJ11_newLength 19 = .ok (.iload_n 3, 1) := dk_29 (dk_at dksJ11_newLength_0 19 rfl rfl)
theorem dJ11_newLength_20 : decode cJ11_newLength 20 = .ok (.ireturn, 1) := dk_172 (dk_at dksJ11_newLength_0 20 rfl rfl)
theorem dJ11_newLength_21 : decode cJ11_newLength 21 = .ok (.iload_n 0, 1) := dk_26 (dk_at dksJ11_newLength_0 21 rfl rfl)
theorem dJ11_newLength_22 : decode cJ11_newLength 22 = .ok (.iload_n 1, 1) := dk_27 (dk_at dksJ11_newLength_0 22 rfl rfl)
theorem dJ11_newLength_23 : decode cJ11_newLength 23 = .ok (.invokestatic 201, 3) := dk_184 0 201 (dk_at dksJ11_newLength_1 0 rfl rfl)
theorem dJ11_newLength_26 : decode cJ11_newLength 26 = .ok (.ireturn, 1) := dk_172 (dk_at dksJ11_newLength_1 3 rfl rfl)
abbrev cJ11_hugeLength : ByteArray := prog_48_method_28_code
def yJ11_hugeLength : MethodName := ⟨RJ11, "hugeLength", "(II)I"⟩
def dkwJ11_hugeLength_2 : List UInt8 := [191, 28, 18, 200, 163, 0, 6, 18, 200, 172, 28, 172]
abbrev dktJ11_hugeLength_2 : List UInt8 := dkwJ11_hugeLength_2 ++ []
def dkwJ11_hugeLength_1 : List UInt8 := [26, 182, 0, 98, 18, 208, 182, 0, 94, 27, 182, 0, 98, 18, 210, 182, 0, 94, 182, 0, 101, 183, 0, 212]
abbrev dktJ11_hugeLength_1 : List UInt8 := dkwJ11_hugeLength_1 ++ dktJ11_hugeLength_2
def dkwJ11_hugeLength_0 : List UInt8 := [26, 27, 96, 61, 28, 156, 0, 44, 187, 0, 204, 89, 187, 0, 89, 89, 183, 0, 91, 18, 206, 182, 0, 94]
abbrev dktJ11_hugeLength_0 : List UInt8 := dkwJ11_hugeLength_0 ++ dktJ11_hugeLength_1
theorem dksJ11_hugeLength_0 : cJ11_hugeLength.data.toList.drop 0 = dktJ11_hugeLength_0 := by decide +kernel
theorem dksJ11_hugeLength_1 : cJ11_hugeLength.data.toList.drop 24 = dktJ11_hugeLength_1 := dk_seg dksJ11_hugeLength_0 24 rfl rfl
theorem dksJ11_hugeLength_2 : cJ11_hugeLength.data.toList.drop 48 = dktJ11_hugeLength_2 := dk_seg dksJ11_hugeLength_1 24 rfl rfl
theorem dJ11_hugeLength_0 : decode cJ11_hugeLength 0 = .ok (.iload_n 0, 1) := dk_26 (dk_at dksJ11_hugeLength_0 0 rfl rfl)
theorem dJ11_hugeLength_1 : decode cJ11_hugeLength 1 = .ok (.iload_n 1, 1) := dk_27 (dk_at dksJ11_hugeLength_0 1 rfl rfl)
theorem dJ11_hugeLength_2 : decode cJ11_hugeLength 2 = .ok (.iadd, 1) := dk_96 (dk_at dksJ11_hugeLength_0 2 rfl rfl)
theorem dJ11_hugeLength_3 : decode cJ11_hugeLength 3 = .ok (.istore_n 2, 1) := dk_61 (dk_at dksJ11_hugeLength_0 3 rfl rfl)
theorem dJ11_hugeLength_4 : decode cJ11_hugeLength 4 = .ok (.iload_n 2, 1) := dk_28 (dk_at dksJ11_hugeLength_0 4 rfl rfl)
theorem dJ11_hugeLength_5 : decode cJ11_hugeLength 5 = .ok (.ifCond .ge 44, 3) := dk_156 0 44 (dk_at dksJ11_hugeLength_0 5 rfl rfl)
theorem dJ11_hugeLength_8 : decode cJ11_hugeLength 8 = .ok (.new 204, 3) := dk_187 0 204 (dk_at dksJ11_hugeLength_0 8 rfl rfl)
theorem dJ11_hugeLength_11 : decode cJ11_hugeLength 11 = .ok (.dup, 1) := dk_89 (dk_at dksJ11_hugeLength_0 11 rfl rfl)
theorem dJ11_hugeLength_12 : decode cJ11_hugeLength 12 = .ok (.new 89, 3) := dk_187 0 89 (dk_at dksJ11_hugeLength_0 12 rfl rfl)
theorem dJ11_hugeLength_15 : decode cJ11_hugeLength 15 = .ok (.dup, 1) := dk_89 (dk_at dksJ11_hugeLength_0 15 rfl rfl)
theorem dJ11_hugeLength_16 : decode cJ11_hugeLength 16 = .ok (.invokespecial 91, 3) := dk_183 0 91 (dk_at dksJ11_hugeLength_0 16 rfl rfl)
theorem dJ11_hugeLength_19 : decode cJ11_hugeLength 19 = .ok (.ldc 206, 2) := dk_18 206 (dk_at dksJ11_hugeLength_0 19 rfl rfl)
theorem dJ11_hugeLength_21 : decode cJ11_hugeLength 21 = .ok (.invokevirtual 94, 3) := dk_182 0 94 (dk_at dksJ11_hugeLength_0 21 rfl rfl)
theorem dJ11_hugeLength_24 : decode cJ11_hugeLength 24 = .ok (.iload_n 0, 1) := dk_26 (dk_at dksJ11_hugeLength_1 0 rfl rfl)
theorem dJ11_hugeLength_25 : decode cJ11_hugeLength 25 = .ok (.invokevirtual 98, 3) := dk_182 0 98 (dk_at dksJ11_hugeLength_1 1 rfl rfl)
theorem dJ11_hugeLength_28 : decode cJ11_hugeLength 28 = .ok (.ldc 208, 2) := dk_18 208 (dk_at dksJ11_hugeLength_1 4 rfl rfl)
theorem dJ11_hugeLength_30 : decode cJ11_hugeLength 30 = .ok (.invokevirtual 94, 3) := dk_182 0 94 (dk_at dksJ11_hugeLength_1 6 rfl rfl)
theorem dJ11_hugeLength_33 : decode cJ11_hugeLength 33 = .ok (.iload_n 1, 1) := dk_27 (dk_at dksJ11_hugeLength_1 9 rfl rfl)
theorem dJ11_hugeLength_34 : decode cJ11_hugeLength 34 = .ok (.invokevirtual 98, 3) := dk_182 0 98 (dk_at dksJ11_hugeLength_1 10 rfl rfl)
theorem dJ11_hugeLength_37 : decode cJ11_hugeLength 37 = .ok (.ldc 210, 2) := dk_18 210 (dk_at dksJ11_hugeLength_1 13 rfl rfl)
theorem dJ11_hugeLength_39 : decode cJ11_hugeLength 39 = .ok (.invokevirtual 94, 3) := dk_182 0 94 (dk_at dksJ11_hugeLength_1 15 rfl rfl)
theorem dJ11_hugeLength_42 : decode cJ11_hugeLength 42 = .ok (.invokevirtual 101, 3) := dk_182 0 101 (dk_at dksJ11_hugeLength_1 18 rfl rfl)
theorem dJ11_hugeLength_45 : decode cJ11_hugeLength 45 = .ok (.invokespecial 212, 3) := dk_183 0 212 (dk_at dksJ11_hugeLength_1 21 rfl rfl)
theorem dJ11_hugeLength_48 : decode cJ11_hugeLength 48 = .ok (.athrow, 1) := dk_191 (dk_at dksJ11_hugeLength_2 0 rfl rfl)
theorem dJ11_hugeLength_49 : decode cJ11_hugeLength 49 = .ok (.iload_n 2, 1) := dk_28 (dk_at dksJ11_hugeLength_2 1 rfl rfl)
theorem dJ11_hugeLength_50 : decode cJ11_hugeLength 50 = .ok (.ldc 200, 2) := dk_18 200 (dk_at dksJ11_hugeLength_2 2 rfl rfl)
theorem dJ11_hugeLength_52 : decode cJ11_hugeLength 52 = .ok (.if_icmp .gt 6, 3) := dk_163 0 6 (dk_at dksJ11_hugeLength_2 4 rfl rfl)
theorem dJ11_hugeLength_55 : decode cJ11_hugeLength 55 = .ok (.ldc 200, 2) := dk_18 200 (dk_at dksJ11_hugeLength_2 7 rfl rfl)
theorem dJ11_hugeLength_57 : decode cJ11_hugeLength 57 = .ok (.ireturn, 1) := dk_172 (dk_at dksJ11_hugeLength_2 9 rfl rfl)
theorem dJ11_hugeLength_58 : decode cJ11_hugeLength 58 = .ok (.iload_n 2, 1) := dk_28 (dk_at dksJ11_hugeLength_2 10 rfl rfl)
theorem dJ11_hugeLength_59 : decode cJ11_hugeLength 59 = .ok (.ireturn, 1) := dk_172 (dk_at dksJ11_hugeLength_2 11 rfl rfl)
theorem q191 : (Jvm.Cond.initialized "jdk/internal/util/ArraysSupport") ∈ lw_all := lw_g (lw_at lw_m1 18 rfl) rfl
theorem q695 : (Jvm.Cond.static ({ cls := "jdk/internal/util/ArraysSupport", name := "newLength", desc := "(III)I" } : Jvm.MethodName)) ∈ lw_all := lw_g (lw_at lw_m3 42 rfl) rfl
theorem q696 : (Jvm.Cond.code ({ cls := "jdk/internal/util/ArraysSupport", name := "newLength", desc := "(III)I" } : Jvm.MethodName) prog_48_method_27_code (4 : Nat) (Option.some Jvm.ClassFile.FieldType.int)) ∈ lw_all := lw_g (lw_at lw_m3 43 rfl) rfl
theorem q697 : (Jvm.Cond.methodLink "jdk/internal/util/ArraysSupport" (194 : Nat) ({ cls := "java/lang/Math", name := "max", desc := "(II)I" } : Jvm.MethodName)) ∈ lw_all := lw_g (lw_at lw_m3 44 rfl) rfl
theorem q698 : (Jvm.Cond.constant "jdk/internal/util/ArraysSupport" (200 : Nat) (2147483639 : Int32)) ∈ lw_all := lw_g (lw_at lw_m3 45 rfl) rfl
theorem q699 : (Jvm.Cond.methodLink "jdk/internal/util/ArraysSupport" (201 : Nat) ({ cls := "jdk/internal/util/ArraysSupport", name := "hugeLength", desc := "(II)I" } : Jvm.MethodName)) ∈ lw_all := lw_g (lw_at lw_m3 46 rfl) rfl
theorem q700 : (Jvm.Cond.static ({ cls := "jdk/internal/util/ArraysSupport", name := "hugeLength", desc := "(II)I" } : Jvm.MethodName)) ∈ lw_all := lw_g (lw_at lw_m3 47 rfl) rfl
theorem q701 : (Jvm.Cond.code ({ cls := "jdk/internal/util/ArraysSupport", name := "hugeLength", desc := "(II)I" } : Jvm.MethodName) prog_48_method_28_code (3 : Nat) (Option.some Jvm.ClassFile.FieldType.int)) ∈ lw_all := lw_g (lw_at lw_m3 48 rfl) rfl

/-! java/util/Arrays -/
set_option maxRecDepth 100000
def RJ12 : String := "java/util/Arrays"
abbrev cJ12_copyOf : ByteArray := prog_40_method_121_code
def yJ12_copyOf : MethodName := ⟨RJ12, "copyOf", "([BI)[B"⟩
def dkwJ12_copyOf_1 : List UInt8 := [27, 184, 1, 48, 184, 0, 150, 44, 176]
abbrev dktJ12_copyOf_1 : List UInt8 := dkwJ12_copyOf_1 ++ []
def dkwJ12_copyOf_0 : List UInt8 := [27, 42, 190, 160, 0, 11, 42, 182, 1, 54, 192, 1, 55, 176, 27, 188, 8, 77, 42, 3, 44, 3, 42, 190]
abbrev dktJ12_copyOf_0 : List UInt8 := dkwJ12_copyOf_0 ++ dktJ12_copyOf_1
theorem dksJ12_copyOf_0 : cJ12_copyOf.data.toList.drop 0 = dktJ12_copyOf_0 := by decide +kernel
theorem dksJ12_copyOf_1 : cJ12_copyOf.data.toList.drop 24 = dktJ12_copyOf_1 := dk_seg dksJ12_copyOf_0 24 rfl rfl
theorem dJ12_copyOf_0 : decode cJ12_copyOf 0 = .ok (.iload_n 1, 1) := dk_27 (dk_at dksJ12_copyOf_0 0 rfl rfl)
theorem dJ12_copyOf_1 : decode cJ12_copyOf 1 = .ok (.aload_n 0, 1) := dk_42 (dk_at dksJ12_copyOf_0 1 rfl rfl)
theorem dJ12_copyOf_2 : decode cJ12_copyOf 2 = .ok (.arraylength, 1) := dk_190 (dk_at dksJ12_copyOf_0 2 rfl rfl)
theorem dJ12_copyOf_3 : decode cJ12_copyOf 3 = .ok (.if_icmp .ne 11, 3) := dk_160 0 11 (dk_at dksJ12_copyOf_0 3 rfl rfl)
theorem dJ12_copyOf_6 : decode cJ12_copyOf 6 = .ok (.aload_n 0, 1) := dk_42 (dk_at dksJ12_copyOf_0 6 rfl rfl)
theorem dJ12_copyOf_7 : decode cJ12_copyOf 7 = .ok (.invokevirtual 310, 3) := dk_182 1 54 (dk_at dksJ12_copyOf_0 7 rfl rfl)
theorem dJ12_copyOf_10 : decode cJ12_copyOf 10 = .ok (.checkcast 311, 3) := dk_192 1 55 (dk_at dksJ12_copyOf_0 10 rfl rfl)
theorem dJ12_copyOf_13 : decode cJ12_copyOf 13 = .ok (.areturn, 1) := dk_176 (dk_at dksJ12_copyOf_0 13 rfl rfl)
theorem dJ12_copyOf_14 : decode cJ12_copyOf 14 = .ok (.iload_n 1, 1) := dk_27 (dk_at dksJ12_copyOf_0 14 rfl rfl)
theorem dJ12_copyOf_15 : decode cJ12_copyOf 15 = .ok (.newarray .byte, 2) := dk_188_8 (dk_at dksJ12_copyOf_0 15 rfl rfl)
theorem dJ12_copyOf_17 : decode cJ12_copyOf 17 = .ok (.astore_n 2, 1) := dk_77 (dk_at dksJ12_copyOf_0 17 rfl rfl)
theorem dJ12_copyOf_18 : decode cJ12_copyOf 18 = .ok (.aload_n 0, 1) := dk_42 (dk_at dksJ12_copyOf_0 18 rfl rfl)
theorem dJ12_copyOf_19 : decode cJ12_copyOf 19 = .ok (.iconst 0, 1) := dk_3 (dk_at dksJ12_copyOf_0 19 rfl rfl)
theorem dJ12_copyOf_20 : decode cJ12_copyOf 20 = .ok (.aload_n 2, 1) := dk_44 (dk_at dksJ12_copyOf_0 20 rfl rfl)
theorem dJ12_copyOf_21 : decode cJ12_copyOf 21 = .ok (.iconst 0, 1) := dk_3 (dk_at dksJ12_copyOf_0 21 rfl rfl)
theorem dJ12_copyOf_22 : decode cJ12_copyOf 22 = .ok (.aload_n 0, 1) := dk_42 (dk_at dksJ12_copyOf_0 22 rfl rfl)
theorem dJ12_copyOf_23 : decode cJ12_copyOf 23 = .ok (.arraylength, 1) := dk_190 (dk_at dksJ12_copyOf_0 23 rfl rfl)
theorem dJ12_copyOf_24 : decode cJ12_copyOf 24 = .ok (.iload_n 1, 1) := dk_27 (dk_at dksJ12_copyOf_1 0 rfl rfl)
theorem dJ12_copyOf_25 : decode cJ12_copyOf 25 = .ok (.invokestatic 304, 3) := dk_184 1 48 (dk_at dksJ12_copyOf_1 1 rfl rfl)
theorem dJ12_copyOf_28 : decode cJ12_copyOf 28 = .ok (.invokestatic 150, 3) := dk_184 0 150 (dk_at dksJ12_copyOf_1 4 rfl rfl)
theorem dJ12_copyOf_31 : decode cJ12_copyOf 31 = .ok (.aload_n 2, 1) := dk_44 (dk_at dksJ12_copyOf_1 7 rfl rfl)
theorem dJ12_copyOf_32 : decode cJ12_copyOf 32 = .ok (.areturn, 1) := dk_176 (dk_at dksJ12_copyOf_1 8 rfl rfl)
abbrev cJ12_copyOfRange : ByteArray := prog_40_method_132_code
def yJ12_copyOfRange : MethodName := ⟨RJ12, "copyOfRange", "([BII)[B"⟩
def dkwJ12_copyOfRange_1 : List UInt8 := [176]
abbrev dktJ12_copyOfRange_1 : List UInt8 := dkwJ12_copyOfRange_1 ++ []
def dkwJ12_copyOfRange_0 : List UInt8 := [27, 154, 0, 9, 28, 42, 190, 159, 0, 10, 42, 27, 28, 184, 1, 83, 176, 42, 182, 1, 54, 192, 1, 55]
abbrev dktJ12_copyOfRange_0 : List UInt8 := dkwJ12_copyOfRange_0 ++ dktJ12_copyOfRange_1
theorem dksJ12_copyOfRange_0 : cJ12_copyOfRange.data.toList.drop 0 = dktJ12_copyOfRange_0 := by decide +kernel
theorem dksJ12_copyOfRange_1 : cJ12_copyOfRange.data.toList.drop 24 = dktJ12_copyOfRange_1 := dk_seg dksJ12_copyOfRange_0 24 rfl rfl
theorem dJ12_copyOfRange_0 : decode cJ12_copyOfRange 0 = .ok (.iload_n 1, 1) := dk_27 (dk_at dksJ12_copyOfRange_0 0 rfl rfl)
theorem dJ12_copyOfRange_1 : decode cJ12_copyOfRange 1 = .ok (.ifCond .ne 9, 3) := dk_154 0 9 (dk_at dksJ12_copyOfRange_0 1 rfl rfl)
theorem dJ12_copyOfRange_4 : decode cJ12_copyOfRange 4 = .ok (.iload_n 2, 1) := dk_28 (dk_at dksJ12_copyOfRange_0 4 rfl rfl)
theorem dJ12_copyOfRange_5 : decode cJ12_copyOfRange 5 = .ok (.aload_n 0, 1) := dk_42 (dk_at dksJ12_copyOfRange_0 5 rfl rfl)
theorem dJ12_copyOfRange_6 : decode cJ12_copyOfRange 6 = .ok (.arraylength, 1) := dk_190 (dk_at dksJ12_copyOfRange_0 6 rfl rfl)
theorem dJ12_copyOfRange_7 : decode cJ12_copyOfRange 7 = .ok (.if_icmp .eq 10, 3) := dk_159 0 10 (dk_at dksJ12_copyOfRange_0 7 rfl rfl)
theorem dJ12_copyOfRange_10 : decode cJ12_copyOfRange 10 = .ok (.aload_n 0, 1) := dk_42 (dk_at dksJ12_copyOfRange_0 10 rfl rfl)
theorem dJ12_copyOfRange_11 : decode cJ12_copyOfRange 11 = .ok (.iload_n 1, 1) := dk_27 (dk_at dksJ12_copyOfRange_0 11 rfl rfl)
theorem dJ12_copyOfRange_12 : decode cJ12_copyOfRange 12 = .ok (.iload_n 2, 1) := dk_28 (dk_at dksJ12_copyOfRange_0 12 rfl rfl)
theorem dJ12_copyOfRange_13 : decode cJ12_copyOfRange 13 = .ok (.invokestatic 339, 3) := dk_184 1 83 (dk_at dksJ12_copyOfRange_0 13 rfl rfl)
theorem dJ12_copyOfRange_16 : decode cJ12_copyOfRange 16 = .ok (.areturn, 1) := dk_176 (dk_at dksJ12_copyOfRange_0 16 rfl rfl)
theorem dJ12_copyOfRange_17 : decode cJ12_copyOfRange 17 = .ok (.aload_n 0, 1) := dk_42 (dk_at dksJ12_copyOfRange_0 17 rfl rfl)
theorem dJ12_copyOfRange_18 : decode cJ12_copyOfRange 18 = .ok (.invokevirtual 310, 3) := dk_182 1 54 (dk_at dksJ12_copyOfRange_0 18 rfl rfl)
theorem dJ12_copyOfRange_21 : decode cJ12_copyOfRange 21 = .ok (.checkcast 311, 3) := dk_192 1 55 (dk_at dksJ12_copyOfRange_0 21 rfl rfl)
theorem dJ12_copyOfRange_24 : decode cJ12_copyOfRange 24 = .ok (.areturn, 1) := dk_176 (dk_at dksJ12_copyOfRange_1 0 rfl rfl)
abbrev cJ12_copyOfRangeByte : ByteArray := prog_40_method_133_code
def yJ12_copyOfRangeByte : MethodName := ⟨RJ12, "copyOfRangeByte", "([BII)[B"⟩
def dkwJ12_copyOfRangeByte_1 : List UInt8 := [184, 1, 48, 184, 0, 150, 25, 4, 176]
abbrev dktJ12_copyOfRangeByte_1 : List UInt8 := dkwJ12_copyOfRangeByte_1 ++ []
def dkwJ12_copyOfRangeByte_0 : List UInt8 := [27, 28, 184, 1, 87, 28, 27, 100, 62, 29, 188, 8, 58, 4, 42, 27, 25, 4, 3, 42, 190, 27, 100, 29]
abbrev dktJ12_copyOfRangeByte_0 : List UInt8 := dkwJ12_copyOfRangeByte_0 ++ dktJ12_copyOfRangeByte_1
theorem dksJ12_copyOfRangeByte_0 : cJ12_copyOfRangeByte.data.toList.drop 0 = dktJ12_copyOfRangeByte_0 := by decide +kernel
theorem dksJ12_copyOfRangeByte_1 : cJ12_copyOfRangeByte.data.toList.drop 24 = dktJ12_copyOfRangeByte_1 := dk_seg dksJ12_copyOfRangeByte_0 24 rfl rfl
theorem dJ12_copyOfRangeByte_0 : decode cJ12_copyOfRangeByte 0 = .ok (.iload_n 1, 1) := dk_27 (dk_at dksJ12_copyOfRangeByte_0 0 rfl rfl)
theorem dJ12_copyOfRangeByte_1 : decode cJ12_copyOfRangeByte 1 = .ok (.iload_n 2, 1) := dk_28 (dk_at dksJ12_copyOfRangeByte_0 1 rfl rfl)
theorem dJ12_copyOfRangeByte_2 : decode cJ12_copyOfRangeByte 2 = .ok (.invokestatic 343, 3) := dk_184 1 87 (dk_at dksJ12_copyOfRangeByte_0 2 rfl rfl)
theorem dJ12_copyOfRangeByte_5 : decode cJ12_copyOfRangeByte 5 = .ok (.iload_n 2, 1) := dk_28 (dk_at dksJ12_copyOfRangeByte_0 5 rfl rfl)
theorem dJ12_copyOfRangeByte_6 : decode cJ12_copyOfRangeByte 6 = .ok (.iload_n 1, 1) := dk_27 (dk_at dksJ12_copyOfRangeByte_0 6 rfl rfl)
theorem dJ12_copyOfRangeByte_7 : decode cJ12_copyOfRangeByte 7 = .ok (.isub, 1) := dk_100 (dk_at dksJ12_copyOfRangeByte_0 7 rfl rfl)
theorem dJ12_copyOfRangeByte_8 : decode cJ12_copyOfRangeByte 8 = .ok (.istore_n 3, 1) := dk_62 (dk_at dksJ12_copyOfRangeByte_0 8 rfl rfl)
theorem dJ12_copyOfRangeByte_9 : decode cJ12_copyOfRangeByte 9 = .ok (.iload_n 3, 1) := dk_29 (dk_at dksJ12_copyOfRangeByte_0 9 rfl rfl)
theorem dJ12_copyOfRangeByte_10 : decode cJ12_copyOfRangeByte 10 = .ok (.newarray .byte, 2) := dk_188_8 (dk_at dksJ12_copyOfRangeByte_0 10 rfl rfl)
theorem dJ12_copyOfRangeByte_12 : decode cJ12_copyOfRangeByte 12 = .ok (.astore 4, 2) := dk_58 4 (dk_at dksJ12_copyOfRangeByte_0 12 rfl rfl)
theorem dJ12_copyOfRangeByte_14 : decode cJ12_copyOfRangeByte 14 = .ok (.aload_n 0, 1) := dk_42 (dk_at dksJ12_copyOfRangeByte_0 14 rfl rfl)
theorem dJ12_copyOfRangeByte_15 : decode cJ12_copyOfRangeByte 15 = .ok (.iload_n 1, 1) := dk_27 (dk_at dksJ12_copyOfRangeByte_0 15 rfl rfl)
theorem dJ12_copyOfRangeByte_16 : decode cJ12_copyOfRangeByte 16 = .ok (.aload 4, 2) := dk_25 4 (dk_at dksJ12_copyOfRangeByte_0 16 rfl rfl)
theorem dJ12_copyOfRangeByte_18 : decode cJ12_copyOfRangeByte 18 = .ok (.iconst 0, 1) := dk_3 (dk_at dksJ12_copyOfRangeByte_0 18 rfl rfl)
theorem dJ12_copyOfRangeByte_19 : decode cJ12_copyOfRangeByte 19 = .ok (.aload_n 0, 1) := dk_42 (dk_at dksJ12_copyOfRangeByte_0 19 rfl rfl)
theorem dJ12_copyOfRangeByte_20 : decode cJ12_copyOfRangeByte 20 = .ok (.arraylength, 1) := dk_190 (dk_at dksJ12_copyOfRangeByte_0 20 rfl rfl)
theorem dJ12_copyOfRangeByte_21 : decode cJ12_copyOfRangeByte 21 = .ok (.iload_n 1, 1) := dk_27 (dk_at dksJ12_copyOfRangeByte_0 21 rfl rfl)
theorem dJ12_copyOfRangeByte_22 : decode cJ12_copyOfRangeByte 22 = .ok (.isub, 1) := dk_100 (dk_at dksJ12_copyOfRangeByte_0 22 rfl rfl)
theorem dJ12_copyOfRangeByte_23 : decode cJ12_copyOfRangeByte 23 = .ok (.iload_n 3, 1) := dk_29 (dk_at dksJ12_copyOfRangeByte_0 23 rfl rfl)
theorem dJ12_copyOfRangeByte_24 : decode cJ12_copyOfRangeByte 24 = .ok (.invokestatic 304, 3) := dk_184 1 48 (dk_at dksJ12_copyOfRangeByte_1 0 rfl rfl)
theorem dJ12_copyOfRangeByte_27 : decode cJ12_copyOfRangeByte 27 = .ok (.invokestatic 150, 3) := dk_184 0 150 (dk_at dksJ12_copyOfRangeByte_1 3 rfl rfl)
theorem dJ12_copyOfRangeByte_30 : decode cJ12_copyOfRangeByte 30 = .ok (.aload 4, 2) := dk_25 4 (dk_at dksJ12_copyOfRangeByte_1 6 rfl rfl)
theorem dJ12_copyOfRangeByte_32 : decode cJ12_copyOfRangeByte 32 = .ok (.areturn, 1) := dk_176 (dk_at dksJ12_copyOfRangeByte_1 8 rfl rfl)
abbrev cJ12_checkLength : ByteArray := prog_40_method_131_code
def yJ12_checkLength : MethodName := ⟨RJ12, "checkLength", "(II)V"⟩
def dkwJ12_checkLength_1 : List UInt8 := [182, 0, 50, 27, 182, 0, 54, 182, 0, 61, 183, 0, 65, 191, 177]
abbrev dktJ12_checkLength_1 : List UInt8 := dkwJ12_checkLength_1 ++ []
def dkwJ12_checkLength_0 : List UInt8 := [27, 26, 162, 0, 35, 187, 0, 43, 89, 187, 0, 45, 89, 183, 0, 47, 26, 182, 0, 54, 19, 1, 81]
abbrev dktJ12_checkLength_0 : List UInt8 := dkwJ12_checkLength_0 ++ dktJ12_checkLength_1
theorem dksJ12_checkLength_0 : cJ12_checkLength.data.toList.drop 0 = dktJ12_checkLength_0 := by decide +kernel
theorem dksJ12_checkLength_1 : cJ12_checkLength.data.toList.drop 23 = dktJ12_checkLength_1 := dk_seg dksJ12_checkLength_0 23 rfl rfl
theorem dJ12_checkLength_0 : decode cJ12_checkLength 0 = .ok (.iload_n 1, 1) := dk_27 (dk_at dksJ12_checkLength_0 0 rfl rfl)
theorem dJ12_checkLength_1 : decode cJ12_checkLength 1 = .ok (.iload_n 0, 1) := dk_26 (dk_at dksJ12_checkLength_0 1 rfl rfl)
theorem dJ12_checkLength_2 : decode cJ12_checkLength 2 = .ok (.if_icmp .ge 35, 3) := dk_162 0 35 (dk_at dksJ12_checkLength_0 2 rfl rfl)
theorem dJ12_checkLength_5 : decode cJ12_checkLength 5 = .ok (.new 43, 3) := dk_187 0 43 (dk_at dksJ12_checkLength_0 5 rfl rfl)
theorem dJ12_checkLength_8 : decode cJ12_checkLength 8 = .ok (.dup, 1) := dk_89 (dk_at dksJ12_checkLength_0 8 rfl rfl)
theorem dJ12_checkLength_9 : decode cJ12_checkLength 9 = .ok (.new 45, 3) := dk_187 0 45 (dk_at dksJ12_checkLength_0 9 rfl rfl)
theorem dJ12_checkLength_12 : decode cJ12_checkLength 12 = .ok (.dup, 1) := dk_89 (dk_at dksJ12_checkLength_0 12 rfl rfl)
theorem dJ12_checkLength_13 : decode cJ12_checkLength 13 = .ok (.invokespecial 47, 3) := dk_183 0 47 (dk_at dksJ12_checkLength_0 13 rfl rfl)
theorem dJ12_checkLength_16 : decode cJ12_checkLength 16 = .ok (.iload_n 0, 1) := dk_26 (dk_at dksJ12_checkLength_0 16 rfl rfl)
theorem dJ12_checkLength_17 : decode cJ12_checkLength 17 = .ok (.invokevirtual 54, 3) := dk_182 0 54 (dk_at dksJ12_checkLength_0 17 rfl rfl)
theorem dJ12_checkLength_20 : decode cJ12_checkLength 20 = .ok (.ldc_w 337, 3) := dk_19 1 81 (dk_at dksJ12_checkLength_0 20 rfl rfl)
theorem dJ12_checkLength_23 : decode cJ12_checkLength 23 = .ok (.invokevirtual 50, 3) := dk_182 0 50 (dk_at dksJ12_checkLength_1 0 rfl rfl)
theorem dJ12_checkLength_26 : decode cJ12_checkLength 26 = .ok (.iload_n 1, 1) := dk_27 (dk_at dksJ12_checkLength_1 3 rfl rfl)
theorem dJ12_checkLength_27 : decode cJ12_checkLength 27 = .ok (.invokevirtual 54, 3) := dk_182 0 54 (dk_at dksJ12_checkLength_1 4 rfl rfl)
theorem dJ12_checkLength_30 : decode cJ12_checkLength 30 = .ok (.invokevirtual 61, 3) := dk_182 0 61 (dk_at dksJ12_checkLength_1 7 rfl rfl)
theorem dJ12_checkLength_33 : decode cJ12_checkLength 33 = .ok (.invokespecial 65, 3) := dk_183 0 65 (dk_at dksJ12_checkLength_1 10 rfl rfl)
theorem dJ12_checkLength_36 : decode cJ12_checkLength 36 = .ok (.athrow, 1) := dk_191 (dk_at dksJ12_checkLength_1 13 rfl rfl)
theorem dJ12_checkLength_37 : decode cJ12_checkLength 37 = .ok (.return_, 1) := dk_177 (dk_at dksJ12_checkLength_1 14 rfl rfl)
abbrev cJ12_copyOf_2 : ByteArray := prog_40_method_119_code
def yJ12_copyOf_2 : MethodName := ⟨RJ12, "copyOf", "([Ljava/lang/Object;I)[Ljava/lang/Object;"⟩
def dkwJ12_copyOf_2_0 : List UInt8 := [42, 27, 42, 182, 0, 86, 184, 1, 44, 176]
abbrev dktJ12_copyOf_2_0 : List UInt8 := dkwJ12_copyOf_2_0 ++ []
theorem dksJ12_copyOf_2_0 : cJ12_copyOf_2.data.toList.drop 0 = dktJ12_copyOf_2_0 := by decide +kernel
theorem dJ12_copyOf_2_0 : decode cJ12_copyOf_2 0 = .ok (.aload_n 0, 1) := dk_42 (dk_at dksJ12_copyOf_2_0 0 rfl rfl)
theorem dJ12_copyOf_2_1 : decode cJ12_copyOf_2 1 = .ok (.iload_n 1, 1) := dk_27 (dk_at dksJ12_copyOf_2_0 1 rfl rfl)
theorem dJ12_copyOf_2_2 : decode cJ12_copyOf_2 2 = .ok (.aload_n 0, 1) := dk_42 (dk_at dksJ12_copyOf_2_0 2 rfl rfl)
theorem dJ12_copyOf_2_3 : decode cJ12_copyOf_2 3 = .ok (.invokevirtual 86, 3) := dk_182 0 86 (dk_at dksJ12_copyOf_2_0 3 rfl rfl)
theorem dJ12_copyOf_2_6 : decode cJ12_copyOf_2 6 = .ok (.invokestatic 300, 3) := dk_184 1 44 (dk_at dksJ12_copyOf_2_0 6 rfl rfl)
theorem dJ12_copyOf_2_9 : decode cJ12_copyOf_2 9 = .ok (.areturn, 1) := dk_176 (dk_at dksJ12_copyOf_2_0 9 rfl rfl)
abbrev cJ12_copyOf_3 : ByteArray := prog_40_method_120_code
def yJ12_copyOf_3 : MethodName := ⟨RJ12, "copyOf", "([Ljava/lang/Object;ILjava/lang/Class;)[Ljava/lang/Object;"⟩
def dkwJ12_copyOf_3_1 : List UInt8 := [78, 42, 3, 45, 3, 42, 190, 27, 184, 1, 48, 184, 0, 150, 45, 176]
abbrev dktJ12_copyOf_3_1 : List UInt8 := dkwJ12_copyOf_3_1 ++ []
def dkwJ12_copyOf_3_0 : List UInt8 := [44, 18, 110, 166, 0, 10, 27, 189, 0, 2, 167, 0, 14, 44, 182, 0, 90, 27, 184, 0, 95, 192, 0, 110]
abbrev dktJ12_copyOf_3_0 : List UInt8 := dkwJ12_copyOf_3_0 ++ dktJ12_copyOf_3_1
theorem dksJ12_copyOf_3_0 : cJ12_copyOf_3.data.toList.drop 0 = dktJ12_copyOf_3_0 := by decide +kernel
theorem dksJ12_copyOf_3_1 : cJ12_copyOf_3.data.toList.drop 24 = dktJ12_copyOf_3_1 := dk_seg dksJ12_copyOf_3_0 24 rfl rfl
theorem dJ12_copyOf_3_0 : decode cJ12_copyOf_3 0 = .ok (.aload_n 2, 1) := dk_44 (dk_at dksJ12_copyOf_3_0 0 rfl rfl)
theorem dJ12_copyOf_3_1 : decode cJ12_copyOf_3 1 = .ok (.ldc 110, 2) := dk_18 110 (dk_at dksJ12_copyOf_3_0 1 rfl rfl)
theorem dJ12_copyOf_3_3 : decode cJ12_copyOf_3 3 = .ok (.if_acmp .ne 10, 3) := dk_166 0 10 (dk_at dksJ12_copyOf_3_0 3 rfl rfl)
theorem dJ12_copyOf_3_6 : decode cJ12_copyOf_3 6 = .ok (.iload_n 1, 1) := dk_27 (dk_at dksJ12_copyOf_3_0 6 rfl rfl)
theorem dJ12_copyOf_3_7 : decode cJ12_copyOf_3 7 = .ok (.anewarray 2, 3) := dk_189 0 2 (dk_at dksJ12_copyOf_3_0 7 rfl rfl)
theorem dJ12_copyOf_3_10 : decode cJ12_copyOf_3 10 = .ok (.goto 14, 3) := dk_167 0 14 (dk_at dksJ12_copyOf_3_0 10 rfl rfl)
theorem dJ12_copyOf_3_13 : decode cJ12_copyOf_3 13 = .ok (.aload_n 2, 1) := dk_44 (dk_at dksJ12_copyOf_3_0 13 rfl rfl)
theorem dJ12_copyOf_3_14 : decode cJ12_copyOf_3 14 = .ok (.invokevirtual 90, 3) := dk_182 0 90 (dk_at dksJ12_copyOf_3_0 14 rfl rfl)
theorem dJ12_copyOf_3_17 : decode cJ12_copyOf_3 17 = .ok (.iload_n 1, 1) := dk_27 (dk_at dksJ12_copyOf_3_0 17 rfl rfl)
theorem dJ12_copyOf_3_18 : decode cJ12_copyOf_3 18 = .ok (.invokestatic 95, 3) := dk_184 0 95 (dk_at dksJ12_copyOf_3_0 18 rfl rfl)
theorem dJ12_copyOf_3_21 : decode cJ12_copyOf_3 21 = .ok (.checkcast 110, 3) := dk_192 0 110 (dk_at dksJ12_copyOf_3_0 21 rfl rfl)
theorem dJ12_copyOf_3_24 : decode cJ12_copyOf_3 24 = .ok (.astore_n 3, 1) := dk_78 (dk_at dksJ12_copyOf_3_1 0 rfl rfl)
theorem dJ12_copyOf_3_25 : decode cJ12_copyOf_3 25 = .ok (.aload_n 0, 1) := dk_42 (dk_at dksJ12_copyOf_3_1 1 rfl rfl)
theorem dJ12_copyOf_3_26 : decode cJ12_copyOf_3 26 = .ok (.iconst 0, 1) := dk_3 (dk_at dksJ12_copyOf_3_1 2 rfl rfl)
theorem dJ12_copyOf_3_27 : decode cJ12_copyOf_3 27 = .ok (.aload_n 3, 1) := dk_45 (dk_at dksJ12_copyOf_3_1 3 rfl rfl)
theorem dJ12_copyOf_3_28 : decode cJ12_copyOf_3 28 = .ok (.iconst 0, 1) := dk_3 (dk_at dksJ12_copyOf_3_1 4 rfl rfl)
theorem dJ12_copyOf_3_29 : decode cJ12_copyOf_3 29 = .ok (.aload_n 0, 1) := dk_42 (dk_at dksJ12_copyOf_3_1 5 rfl rfl)
theorem dJ12_copyOf_3_30 : decode cJ12_copyOf_3 30 = .ok (.arraylength, 1) := dk_190 (dk_at dksJ12_copyOf_3_1 6 rfl rfl)
theorem dJ12_copyOf_3_31 : decode cJ12_copyOf_3 31 = .ok (.iload_n 1, 1) := dk_27 (dk_at dksJ12_copyOf_3_1 7 rfl rfl)
theorem dJ12_copyOf_3_32 : decode cJ12_copyOf_3 32 = .ok (.invokestatic 304, 3) := dk_184 1 48 (dk_at dksJ12_copyOf_3_1 8 rfl rfl)
theorem dJ12_copyOf_3_35 : decode cJ12_copyOf_3 35 = .ok (.invokestatic 150, 3) := dk_184 0 150 (dk_at dksJ12_copyOf_3_1 11 rfl rfl)
theorem dJ12_copyOf_3_38 : decode cJ12_copyOf_3 38 = .ok (.aload_n 3, 1) := dk_45 (dk_at dksJ12_copyOf_3_1 14 rfl rfl)
theorem dJ12_copyOf_3_39 : decode cJ12_copyOf_3 39 = .ok (.areturn, 1) := dk_176 (dk_at dksJ12_copyOf_3_1 15 rfl rfl)
abbrev cJ12_fill : ByteArray := prog_40_method_110_code
def yJ12_fill : MethodName := ⟨RJ12, "fill", "([BIIB)V"⟩
def dkwJ12_fill_1 : List UInt8 := [167, 255, 242, 177]
abbrev dktJ12_fill_1 : List UInt8 := dkwJ12_fill_1 ++ []
def dkwJ12_fill_0 : List UInt8 := [42, 190, 27, 28, 184, 0, 13, 27, 54, 4, 21, 4, 28, 162, 0, 14, 42, 21, 4, 29, 84, 132, 4, 1]
abbrev dktJ12_fill_0 : List UInt8 := dkwJ12_fill_0 ++ dktJ12_fill_1
theorem dksJ12_fill_0 : cJ12_fill.data.toList.drop 0 = dktJ12_fill_0 := by decide +kernel
theorem dksJ12_fill_1 : cJ12_fill.data.toList.drop 24 = dktJ12_fill_1 := dk_seg dksJ12_fill_0 24 rfl rfl
theorem dJ12_fill_0 : decode cJ12_fill 0 = .ok (.aload_n 0, 1) := dk_42 (dk_at dksJ12_fill_0 0 rfl rfl)
theorem dJ12_fill_1 : decode cJ12_fill 1 = .ok (.arraylength, 1) := dk_190 (dk_at dksJ12_fill_0 1 rfl rfl)
theorem dJ12_fill_2 : decode cJ12_fill 2 = .ok (.iload_n 1, 1) := dk_27 (dk_at dksJ12_fill_0 2 rfl rfl)
theorem dJ12_fill_3 : decode cJ12_fill 3 = .ok (.iload_n 2, 1) := dk_28 (dk_at dksJ12_fill_0 3 rfl rfl)
theorem dJ12_fill_4 : decode cJ12_fill 4 = .ok (.invokestatic 13, 3) := dk_184 0 13 (dk_at dksJ12_fill_0 4 rfl rfl)
theorem dJ12_fill_7 : decode cJ12_fill 7 = .ok (.iload_n 1, 1) := dk_27 (dk_at dksJ12_fill_0 7 rfl rfl)
theorem dJ12_fill_8 : decode cJ12_fill 8 = .ok (.istore 4, 2) := dk_54 4 (dk_at dksJ12_fill_0 8 rfl rfl)
theorem dJ12_fill_10 : decode cJ12_fill 10 = .ok (.iload 4, 2) := dk_21 4 (dk_at dksJ12_fill_0 10 rfl rfl)
theorem dJ12_fill_12 : decode cJ12_fill 12 = .ok (.iload_n 2, 1) := dk_28 (dk_at dksJ12_fill_0 12 rfl rfl)
theorem dJ12_fill_13 : decode cJ12_fill 13 = .ok (.if_icmp .ge 14, 3) := dk_162 0 14 (dk_at dksJ12_fill_0 13 rfl rfl)
theorem dJ12_fill_16 : decode cJ12_fill 16 = .ok (.aload_n 0, 1) := dk_42 (dk_at dksJ12_fill_0 16 rfl rfl)
theorem dJ12_fill_17 : decode cJ12_fill 17 = .ok (.iload 4, 2) := dk_21 4 (dk_at dksJ12_fill_0 17 rfl rfl)
theorem dJ12_fill_19 : decode cJ12_fill 19 = .ok (.iload_n 3, 1) := dk_29 (dk_at dksJ12_fill_0 19 rfl rfl)
theorem dJ12_fill_20 : decode cJ12_fill 20 = .ok (.bastore, 1) := dk_84 (dk_at dksJ12_fill_0 20 rfl rfl)
theorem dJ12_fill_21 : decode cJ12_fill 21 = .ok (.iinc 4 1, 3) := dk_132 4 1 (dk_at dksJ12_fill_0 21 rfl rfl)
theorem dJ12_fill_24 : decode cJ12_fill 24 = .ok (.goto (-14), 3) := dk_167 255 242 (dk_at dksJ12_fill_1 0 rfl rfl)
theorem dJ12_fill_27 : decode cJ12_fill 27 = .ok (.return_, 1) := dk_177 (dk_at dksJ12_fill_1 3 rfl rfl)
abbrev cJ12_rangeCheck : ByteArray := prog_40_method_30_code
def yJ12_rangeCheck : MethodName := ⟨RJ12, "rangeCheck", "(III)V"⟩
def dkwJ12_rangeCheck_3 : List UInt8 := [183, 0, 70, 191, 177]
abbrev dktJ12_rangeCheck_3 : List UInt8 := dkwJ12_rangeCheck_3 ++ []
def dkwJ12_rangeCheck_2 : List UInt8 := [27, 156, 0, 12, 187, 0, 68, 89, 27, 183, 0, 70, 191, 28, 26, 164, 0, 12, 187, 0, 68, 89, 28]
abbrev dktJ12_rangeCheck_2 : List UInt8 := dkwJ12_rangeCheck_2 ++ dktJ12_rangeCheck_3
def dkwJ12_rangeCheck_1 : List UInt8 := [182, 0, 54, 18, 57, 182, 0, 50, 28, 182, 0, 54, 18, 59, 182, 0, 50, 182, 0, 61, 183, 0, 65, 191]
abbrev dktJ12_rangeCheck_1 : List UInt8 := dkwJ12_rangeCheck_1 ++ dktJ12_rangeCheck_2
def dkwJ12_rangeCheck_0 : List UInt8 := [27, 28, 164, 0, 44, 187, 0, 43, 89, 187, 0, 45, 89, 183, 0, 47, 18, 48, 182, 0, 50, 27]
abbrev dktJ12_rangeCheck_0 : List UInt8 := dkwJ12_rangeCheck_0 ++ dktJ12_rangeCheck_1
theorem dksJ12_rangeCheck_0 : cJ12_rangeCheck.data.toList.drop 0 = dktJ12_rangeCheck_0 := by decide +kernel
theorem dksJ12_rangeCheck_1 : cJ12_rangeCheck.data.toList.drop 22 = dktJ12_rangeCheck_1 := dk_seg dksJ12_rangeCheck_0 22 rfl rfl
theorem dksJ12_rangeCheck_2 : cJ12_rangeCheck.data.toList.drop 46 = dktJ12_rangeCheck_2 := dk_seg dksJ12_rangeCheck_1 24 rfl rfl
theorem dksJ12_rangeCheck_3 : cJ12_rangeCheck.data.toList.drop 69 = dktJ12_rangeCheck_3 := dk_seg dksJ12_rangeCheck_2 23 rfl rfl
theorem dJ12_rangeCheck_0 : decode cJ12_rangeCheck 0 = .ok (.iload_n 1, 1) := dk_27 (dk_at dksJ12_rangeCheck_0 0 rfl rfl)
theorem dJ12_rangeCheck_1 : decode cJ12_rangeCheck 1 = .ok (.iload_n 2, 1) := dk_28 (dk_at dksJ12_rangeCheck_0 1 rfl rfl)
theorem dJ12_rangeCheck_2 : decode cJ12_rangeCheck 2 = .ok (.if_icmp .le 44, 3) := dk_164 0 44 (dk_at dksJ12_rangeCheck_0 2 rfl rfl)
theorem dJ12_rangeCheck_5 : decode cJ12_rangeCheck 5 = .ok (.new 43, 3) := dk_187 0 43 (dk_at dksJ12_rangeCheck_0 5 rfl rfl)
theorem dJ12_rangeCheck_8 : decode cJ12_rangeCheck 8 = .ok (.dup, 1) := dk_89 (dk_at dksJ12_rangeCheck_0 8 rfl rfl)
theorem dJ12_rangeCheck_9 : decode cJ12_rangeCheck 9 = .ok (.new 45, 3) := dk_187 0 45 (dk_at dksJ12_rangeCheck_0 9 rfl rfl)
theorem dJ12_rangeCheck_12 : decode cJ12_rangeCheck 12 = .ok (.dup, 1) := dk_89 (dk_at dksJ12_rangeCheck_0 12 rfl rfl)
theorem dJ12_rangeCheck_13 : decode cJ12_rangeCheck 13 = .ok (.invokespecial 47, 3) := dk_183 0 47 (dk_at dksJ12_rangeCheck_0 13 rfl rfl)
theorem dJ12_rangeCheck_16 : decode cJ12_rangeCheck 16 = .ok (.ldc 48, 2) := dk_18 48 (dk_at dksJ12_rangeCheck_0 16 rfl rfl)
theorem dJ12_rangeCheck_18 : decode cJ12_rangeCheck 18 = .ok (.invokevirtual 50, 3) := dk_182 0 50 (dk_at dksJ12_rangeCheck_0 18 rfl rfl)
theorem dJ12_rangeCheck_21 : decode cJ12_rangeCheck 21 = .ok (.iload_n 1, 1) := dk_27 (dk_at dksJ12_rangeCheck_0 21 rfl rfl)
theorem dJ12_rangeCheck_22 : decode cJ12_rangeCheck 22 = .ok (.invokevirtual 54, 3) := dk_182 0 54 (dk_at dksJ12_rangeCheck_1 0 rfl rfl)
theorem dJ12_rangeCheck_25 : decode cJ12_rangeCheck 25 = .ok (.ldc 57, 2) := dk_18 57 (dk_at dksJ12_rangeCheck_1 3 rfl rfl)
theorem dJ12_rangeCheck_27 : decode cJ12_rangeCheck 27 = .ok (.invokevirtual 50, 3) := dk_182 0 50 (dk_at dksJ12_rangeCheck_1 5 rfl rfl)
theorem dJ12_rangeCheck_30 : decode cJ12_rangeCheck 30 = .ok (.iload_n 2, 1) := dk_28 (dk_at dksJ12_rangeCheck_1 8 rfl rfl)
theorem dJ12_rangeCheck_31 : decode cJ12_rangeCheck 31 = .ok (.invokevirtual 54, 3) := dk_182 0 54 (dk_at dksJ12_rangeCheck_1 9 rfl rfl)
theorem dJ12_rangeCheck_34 : decode cJ12_rangeCheck 34 = .ok (.ldc 59, 2) := dk_18 59 (dk_at dksJ12_rangeCheck_1 12 rfl rfl)
theorem dJ12_rangeCheck_36 : decode cJ12_rangeCheck 36 = .ok (.invokevirtual 50, 3) := dk_182 0 50 (dk_at dksJ12_rangeCheck_1 14 rfl rfl)
theorem dJ12_rangeCheck_39 : decode cJ12_rangeCheck 39 = .ok (.invokevirtual 61, 3) := dk_182 0 61 (dk_at dksJ12_rangeCheck_1 17 rfl rfl)
theorem dJ12_rangeCheck_42 : decode cJ12_rangeCheck 42 = .ok (.invokespecial 65, 3) := dk_183 0 65 (dk_at dksJ12_rangeCheck_1 20 rfl rfl)
theorem dJ12_rangeCheck_45 : decode cJ12_rangeCheck 45 = .ok (.athrow, 1) := dk_191 (dk_at dksJ12_rangeCheck_1 23 rfl rfl)
theorem dJ12_rangeCheck_46 : decode cJ12_rangeCheck 46 = .ok (.iload_n 1, 1) := dk_27 (dk_at dksJ12_rangeCheck_2 0 rfl rfl)
theorem dJ12_rangeCheck_47 : decode cJ12_rangeCheck 47 = .ok (.ifCond .ge 12, 3) := dk_156 0 12 (dk_at dksJ12_rangeCheck_2 1 rfl rfl)
theorem dJ12_rangeCheck_50 : decode cJ12_rangeCheck 50 = .ok (.new 68, 3) := dk_187 0 68 (dk_at dksJ12_rangeCheck_2 4 rfl rfl)
theorem dJ12_rangeCheck_53 : decode cJ12_rangeCheck 53 = .ok (.dup, 1) := dk_89 (dk_at dksJ12_rangeCheck_2 7 rfl rfl)
theorem dJ12_rangeCheck_54 : decode cJ12_rangeCheck 54 = .ok (.iload_n 1, 1) := dk_27 (dk_at dksJ12_rangeCheck_2 8 rfl rfl)
theorem dJ12_rangeCheck_55 : decode cJ12_rangeCheck 55 = .ok (.invokespecial 70, 3) := dk_183 0 70 (dk_at dksJ12_rangeCheck_2 9 rfl rfl)
theorem dJ12_rangeCheck_58 : decode cJ12_rangeCheck 58 = .ok (.athrow, 1) := dk_191 (dk_at dksJ12_rangeCheck_2 12 rfl rfl)
theorem dJ12_rangeCheck_59 : decode cJ12_rangeCheck 59 = .ok (.iload_n 2, 1) := dk_28 (dk_at dksJ12_rangeCheck_2 13 rfl rfl)
theorem dJ12_rangeCheck_60 : decode cJ12_rangeCheck 60 = .ok (.iload_n 0, 1) := dk_26 (dk_at dksJ12_rangeCheck_2 14 rfl rfl)
theorem dJ12_rangeCheck_61 : decode cJ12_rangeCheck 61 = .ok (.if_icmp .le 12, 3) := dk_164 0 12 (dk_at dksJ12_rangeCheck_2 15 rfl rfl)
theorem dJ12_rangeCheck_64 : decode cJ12_rangeCheck 64 = .ok (.new 68, 3) := dk_187 0 68 (dk_at dksJ12_rangeCheck_2 18 rfl rfl)
theorem dJ12_rangeCheck_67 : decode cJ12_rangeCheck 67 = .ok (.dup, 1) := dk_89 (dk_at dksJ12_rangeCheck_2 21 rfl rfl)
theorem dJ12_rangeCheck_68 : decode cJ12_rangeCheck 68 = .ok (.iload_n 2, 1) := dk_28 (dk_at dksJ12_rangeCheck_2 22 rfl rfl)
theorem dJ12_rangeCheck_69 : decode cJ12_rangeCheck 69 = .ok (.invokespecial 70, 3) := dk_183 0 70 (dk_at dksJ12_rangeCheck_3 0 rfl rfl)
theorem dJ12_rangeCheck_72 : decode cJ12_rangeCheck 72 = .ok (.athrow, 1) := dk_191 (dk_at dksJ12_rangeCheck_3 3 rfl rfl)
theorem dJ12_rangeCheck_73 : decode cJ12_rangeCheck 73 = .ok (.return_, 1) := dk_177 (dk_at dksJ12_rangeCheck_3 4 rfl rfl)
theorem q192 : (Jvm.Cond.initialized "java/util/Arrays") ∈ lw_all := lw_g (lw_at lw_m1 19 rfl) rfl
theorem q704 : (Jvm.Cond.static ({ cls := "java/util/Arrays", name := "copyOf", desc := "([BI)[B" } : Jvm.MethodName)) ∈ lw_all := lw_g (lw_at lw_m3 51 rfl) rfl
theorem q705 : (Jvm.Cond.code ({ cls := "java/util/Arrays", name := "copyOf", desc := "([BI)[B" } : Jvm.MethodName) prog_40_method_121_code (3 : Nat) (Option.some (Jvm.ClassFile.FieldType.array Jvm.ClassFile.FieldType.byte))) ∈ lw_all := lw_g (lw_at lw_m3 52 rfl) rfl
theorem q706 : (Jvm.Cond.methodLink "java/util/Arrays" (310 : Nat) ({ cls := "[B", name := "clone", desc := "()Ljava/lang/Object;" } : Jvm.MethodName)) ∈ lw_all := lw_g (lw_at lw_m3 53 rfl) rfl
theorem q712 : (Jvm.Cond.classLink "java/util/Arrays" (311 : Nat) "[B") ∈ lw_all := lw_g (lw_at lw_m3 59 rfl) rfl
theorem q713 : (Jvm.Cond.methodLink "java/util/Arrays" (304 : Nat) ({ cls := "java/lang/Math", name := "min", desc := "(II)I" } : Jvm.MethodName)) ∈ lw_all := lw_g (lw_at lw_m3 60 rfl) rfl
theorem q716 : (Jvm.Cond.methodLink "java/util/Arrays" (150 : Nat) ({ cls := "java/lang/System", name := "arraycopy", desc := "(Ljava/lang/Object;ILjava/lang/Object;II)V" } : Jvm.MethodName)) ∈ lw_all := lw_g (lw_at lw_m3 63 rfl) rfl
theorem q796 : (Jvm.Cond.static ({ cls := "java/util/Arrays", name := "copyOfRange", desc := "([BII)[B" } : Jvm.MethodName)) ∈ lw_all := lw_g (lw_at lw_m3 143 rfl) rfl
theorem q797 : (Jvm.Cond.code ({ cls := "java/util/Arrays", name := "copyOfRange", desc := "([BII)[B" } : Jvm.MethodName) prog_40_method_132_code (3 : Nat) (Option.some (Jvm.ClassFile.FieldType.array Jvm.ClassFile.FieldType.byte))) ∈ lw_all := lw_g (lw_at lw_m3 144 rfl) rfl
theorem q798 : (Jvm.Cond.methodLink "java/util/Arrays" (339 : Nat) ({ cls := "java/util/Arrays", name := "copyOfRangeByte", desc := "([BII)[B" } : Jvm.MethodName)) ∈ lw_all := lw_g (lw_at lw_m3 145 rfl) rfl
theorem q799 : (Jvm.Cond.static ({ cls := "java/util/Arrays", name := "copyOfRangeByte", desc := "([BII)[B" } : Jvm.MethodName)) ∈ lw_all := lw_g (lw_at lw_m3 146 rfl) rfl
theorem q800 : (Jvm.Cond.code ({ cls := "java/util/Arrays", name := "copyOfRangeByte", desc := "([BII)[B" } : Jvm.MethodName) prog_40_method_133_code (5 : Nat) (Option.some (Jvm.ClassFile.FieldType.array Jvm.ClassFile.FieldType.byte))) ∈ lw_all := lw_g (lw_at lw_m3 147 rfl) rfl
theorem q801 : (Jvm.Cond.methodLink "java/util/Arrays" (343 : Nat) ({ cls := "java/util/Arrays", name := "checkLength", desc := "(II)V" } : Jvm.MethodName)) ∈ lw_all := lw_g (lw_at lw_m3 148 rfl) rfl
theorem q802 : (Jvm.Cond.static ({ cls := "java/util/Arrays", name := "checkLength", desc := "(II)V" } : Jvm.MethodName)) ∈ lw_all := lw_g (lw_at lw_m3 149 rfl) rfl
theorem q803 : (Jvm.Cond.code ({ cls := "java/util/Arrays", name := "checkLength", desc := "(II)V" } : Jvm.MethodName) prog_40_method_131_code (2 : Nat) (Option.none : Option Jvm.ClassFile.FieldType)) ∈ lw_all := lw_g (lw_at lw_m3 150 rfl) rfl
theorem q1098 : (Jvm.Cond.static ({ cls := "java/util/Arrays", name := "copyOf", desc := "([Ljava/lang/Object;I)[Ljava/lang/Object;" } : Jvm.MethodName)) ∈ lw_all := lw_g (lw_at lw_m4 205 rfl) rfl
theorem q1099 : (Jvm.Cond.code ({ cls := "java/util/Arrays", name := "copyOf", desc := "([Ljava/lang/Object;I)[Ljava/lang/Object;" } : Jvm.MethodName) prog_40_method_119_code (2 : Nat) (Option.some (Jvm.ClassFile.FieldType.array (Jvm.ClassFile.FieldType.object "java/lang/Object")))) ∈ lw_all := lw_g (lw_at lw_m4 206 rfl) rfl
theorem q1100 : (Jvm.Cond.methodLink "java/util/Arrays" (86 : Nat) ({ cls := "java/lang/Object", name := "getClass", desc := "()Ljava/lang/Class;" } : Jvm.MethodName)) ∈ lw_all := lw_g (lw_at lw_m4 207 rfl) rfl
theorem q1120 : (Jvm.Cond.methodLink "java/util/Arrays" (300 : Nat) ({ cls := "java/util/Arrays", name := "copyOf", desc := "([Ljava/lang/Object;ILjava/lang/Class;)[Ljava/lang/Object;" } : Jvm.MethodName)) ∈ lw_all := lw_g (lw_at lw_m4 227 rfl) rfl
theorem q1121 : (Jvm.Cond.static ({ cls := "java/util/Arrays", name := "copyOf", desc := "([Ljava/lang/Object;ILjava/lang/Class;)[Ljava/lang/Object;" } : Jvm.MethodName)) ∈ lw_all := lw_g (lw_at lw_m4 228 rfl) rfl
theorem q1122 : (Jvm.Cond.code ({ cls := "java/util/Arrays", name := "copyOf", desc := "([Ljava/lang/Object;ILjava/lang/Class;)[Ljava/lang/Object;" } : Jvm.MethodName) prog_40_method_120_code (4 : Nat) (Option.some (Jvm.ClassFile.FieldType.array (Jvm.ClassFile.FieldType.object "java/lang/Object")))) ∈ lw_all := lw_g (lw_at lw_m4 229 rfl) rfl
theorem q1123 : (Jvm.Cond.classLink "java/util/Arrays" (110 : Nat) "[Ljava/lang/Object;") ∈ lw_all := lw_g (lw_at lw_m4 230 rfl) rfl
theorem q1124 : (Jvm.Cond.classLink "java/util/Arrays" (2 : Nat) "java/lang/Object") ∈ lw_all := lw_g (lw_at lw_m4 231 rfl) rfl
theorem q1866 : (Jvm.Cond.static ({ cls := "java/util/Arrays", name := "fill", desc := "([BIIB)V" } : Jvm.MethodName)) ∈ lw_all := lw_g (lw_at lw_m8 13 rfl) rfl
theorem q1867 : (Jvm.Cond.code ({ cls := "java/util/Arrays", name := "fill", desc := "([BIIB)V" } : Jvm.MethodName) prog_40_method_110_code (5 : Nat) (Option.none : Option Jvm.ClassFile.FieldType)) ∈ lw_all := lw_g (lw_at lw_m8 14 rfl) rfl
theorem q1868 : (Jvm.Cond.methodLink "java/util/Arrays" (13 : Nat) ({ cls := "java/util/Arrays", name := "rangeCheck", desc := "(III)V" } : Jvm.MethodName)) ∈ lw_all := lw_g (lw_at lw_m8 15 rfl) rfl
theorem q1869 : (Jvm.Cond.static ({ cls := "java/util/Arrays", name := "rangeCheck", desc := "(III)V" } : Jvm.MethodName)) ∈ lw_all := lw_g (lw_at lw_m8 16 rfl) rfl
theorem q1870 : (Jvm.Cond.code ({ cls := "java/util/Arrays", name := "rangeCheck", desc := "(III)V" } : Jvm.MethodName) prog_40_method_30_code (3 : Nat) (Option.none : Option Jvm.ClassFile.FieldType)) ∈ lw_all := lw_g (lw_at lw_m8 17 rfl) rfl

/-! java/lang/StringLatin1 -/
set_option maxRecDepth 100000
def RJ13 : String := "java/lang/StringLatin1"
abbrev cJ13_canEncode : ByteArray := prog_30_method_3_code
def yJ13_canEncode : MethodName := ⟨RJ13, "canEncode", "(C)Z"⟩
def dkwJ13_canEncode_0 : List UInt8 := [26, 17, 0, 255, 163, 0, 7, 4, 167, 0, 4, 3, 172]
abbrev dktJ13_canEncode_0 : List UInt8 := dkwJ13_canEncode_0 ++ []
theorem dksJ13_canEncode_0 : cJ13_canEncode.data.toList.drop 0 = dktJ13_canEncode_0 := by decide +kernel
theorem dJ13_canEncode_0 : decode cJ13_canEncode 0 = .ok (.iload_n 0, 1) := dk_26 (dk_at dksJ13_canEncode_0 0 rfl rfl)
theorem dJ13_canEncode_1 : decode cJ13_canEncode 1 = .ok (.sipush 255, 3) := dk_17 0 255 (dk_at dksJ13_canEncode_0 1 rfl rfl)
theorem dJ13_canEncode_4 : decode cJ13_canEncode 4 = .ok (.if_icmp .gt 7, 3) := dk_163 0 7 (dk_at dksJ13_canEncode_0 4 rfl rfl)
theorem dJ13_canEncode_7 : decode cJ13_canEncode 7 = .ok (.iconst 1, 1) := dk_4 (dk_at dksJ13_canEncode_0 7 rfl rfl)
theorem dJ13_canEncode_8 : decode cJ13_canEncode 8 = .ok (.goto 4, 3) := dk_167 0 4 (dk_at dksJ13_canEncode_0 8 rfl rfl)
theorem dJ13_canEncode_11 : decode cJ13_canEncode 11 = .ok (.iconst 0, 1) := dk_3 (dk_at dksJ13_canEncode_0 11 rfl rfl)
theorem dJ13_canEncode_12 : decode cJ13_canEncode 12 = .ok (.ireturn, 1) := dk_172 (dk_at dksJ13_canEncode_0 12 rfl rfl)
abbrev cJ13_inflate : ByteArray := prog_30_method_50_code
def yJ13_inflate : MethodName := ⟨RJ13, "inflate", "([BI[BII)V"⟩
def dkwJ13_inflate_0 : List UInt8 := [42, 27, 44, 29, 21, 4, 184, 0, 240, 177]
abbrev dktJ13_inflate_0 : List UInt8 := dkwJ13_inflate_0 ++ []
theorem dksJ13_inflate_0 : cJ13_inflate.data.toList.drop 0 = dktJ13_inflate_0 := by decide +kernel
theorem dJ13_inflate_0 : decode cJ13_inflate 0 = .ok (.aload_n 0, 1) := dk_42 (dk_at dksJ13_inflate_0 0 rfl rfl)
theorem dJ13_inflate_1 : decode cJ13_inflate 1 = .ok (.iload_n 1, 1) := dk_27 (dk_at dksJ13_inflate_0 1 rfl rfl)
theorem dJ13_inflate_2 : decode cJ13_inflate 2 = .ok (.aload_n 2, 1) := dk_44 (dk_at dksJ13_inflate_0 2 rfl rfl)
theorem dJ13_inflate_3 : decode cJ13_inflate 3 = .ok (.iload_n 3, 1) := dk_29 (dk_at dksJ13_inflate_0 3 rfl rfl)
theorem dJ13_inflate_4 : decode cJ13_inflate 4 = .ok (.iload 4, 2) := dk_21 4 (dk_at dksJ13_inflate_0 4 rfl rfl)
theorem dJ13_inflate_6 : decode cJ13_inflate 6 = .ok (.invokestatic 240, 3) := dk_184 0 240 (dk_at dksJ13_inflate_0 6 rfl rfl)
theorem dJ13_inflate_9 : decode cJ13_inflate 9 = .ok (.return_, 1) := dk_177 (dk_at dksJ13_inflate_0 9 rfl rfl)
abbrev cJ13_equals : ByteArray := prog_30_method_13_code
def yJ13_equals : MethodName := ⟨RJ13, "equals", "([B[B)Z"⟩
def dkwJ13_equals_1 : List UInt8 := [3, 172, 132, 2, 1, 167, 255, 236, 4, 172, 3, 172]
abbrev dktJ13_equals_1 : List UInt8 := dkwJ13_equals_1 ++ []
def dkwJ13_equals_0 : List UInt8 := [42, 190, 43, 190, 160, 0, 30, 3, 61, 28, 42, 190, 162, 0, 20, 42, 28, 51, 43, 28, 51, 159, 0, 5]
abbrev dktJ13_equals_0 : List UInt8 := dkwJ13_equals_0 ++ dktJ13_equals_1
theorem dksJ13_equals_0 : cJ13_equals.data.toList.drop 0 = dktJ13_equals_0 := by decide +kernel
theorem dksJ13_equals_1 : cJ13_equals.data.toList.drop 24 = dktJ13_equals_1 := dk_seg dksJ13_equals_0 24 rfl rfl
theorem dJ13_equals_0 : decode cJ13_equals 0 = .ok (.aload_n 0, 1) := dk_42 (dk_at dksJ13_equals_0 0 rfl rfl)
theorem dJ13_equals_1 : decode cJ13_equals 1 = .ok (.arraylength, 1) := dk_190 (dk_at dksJ13_equals_0 1 rfl rfl)
theorem dJ13_equals_2 : decode cJ13_equals 2 = .ok (.aload_n 1, 1) := dk_43 (dk_at dksJ13_equals_0 2 rfl rfl)
theorem dJ13_equals_3 : decode cJ13_equals 3 = .ok (.arraylength, 1) := dk_190 (dk_at dksJ13_equals_0 3 rfl rfl)
theorem dJ13_equals_4 : decode cJ13_equals 4 = .ok (.if_icmp .ne 30, 3) := dk_160 0 30 (dk_at dksJ13_equals_0 4 rfl rfl)
theorem dJ13_equals_7 : decode cJ13_equals 7 = .ok (.iconst 0, 1) := dk_3 (dk_at dksJ13_equals_0 7 rfl rfl)
theorem dJ13_equals_8 : decode cJ13_equals 8 = .ok (.istore_n 2, 1) := dk_61 (dk_at dksJ13_equals_0 8 rfl rfl)
theorem dJ13_equals_9 : decode cJ13_equals 9 = .ok (.iload_n 2, 1) := dk_28 (dk_at dksJ13_equals_0 9 rfl rfl)
theorem dJ13_equals_10 : decode cJ13_equals 10 = .ok (.aload_n 0, 1) := dk_42 (dk_at dksJ13_equals_0 10 rfl rfl)
theorem dJ13_equals_11 : decode cJ13_equals 11 = .ok (.arraylength, 1) := dk_190 (dk_at dksJ13_equals_0 11 rfl rfl)
theorem dJ13_equals_12 : decode cJ13_equals 12 = .ok (.if_icmp .ge 20, 3) := dk_162 0 20 (dk_at dksJ13_equals_0 12 rfl rfl)
theorem dJ13_equals_15 : decode cJ13_equals 15 = .ok (.aload_n 0, 1) := dk_42 (dk_at dksJ13_equals_0 15 rfl rfl)
theorem dJ13_equals_16 : decode cJ13_equals 16 = .ok (.iload_n 2, 1) := dk_28 (dk_at dksJ13_equals_0 16 rfl rfl)
theorem dJ13_equals_17 : decode cJ13_equals 17 = .ok (.baload, 1) := dk_51 (dk_at dksJ13_equals_0 17 rfl rfl)
theorem dJ13_equals_18 : decode cJ13_equals 18 = .ok (.aload_n 1, 1) := dk_43 (dk_at dksJ13_equals_0 18 rfl rfl)
theorem dJ13_equals_19 : decode cJ13_equals 19 = .ok (.iload_n 2, 1) := dk_28 (dk_at dksJ13_equals_0 19 rfl rfl)
theorem dJ13_equals_20 : decode cJ13_equals 20 = .ok (.baload, 1) := dk_51 (dk_at dksJ13_equals_0 20 rfl rfl)
theorem dJ13_equals_21 : decode cJ13_equals 21 = .ok (.if_icmp .eq 5, 3) := dk_159 0 5 (dk_at dksJ13_equals_0 21 rfl rfl)
theorem dJ13_equals_24 : decode cJ13_equals 24 = .ok (.iconst 0, 1) := dk_3 (dk_at dksJ13_equals_1 0 rfl rfl)
theorem dJ13_equals_25 : decode cJ13_equals 25 = .ok (.ireturn, 1) := dk_172 (dk_at dksJ13_equals_1 1 rfl rfl)
theorem dJ13_equals_26 : decode cJ13_equals 26 = .ok (.iinc 2 1, 3) := dk_132 2 1 (dk_at dksJ13_equals_1 2 rfl rfl)
theorem dJ13_equals_29 : decode cJ13_equals 29 = .ok (.goto (-20), 3) := dk_167 255 236 (dk_at dksJ13_equals_1 5 rfl rfl)
theorem dJ13_equals_32 : decode cJ13_equals 32 = .ok (.iconst 1, 1) := dk_4 (dk_at dksJ13_equals_1 8 rfl rfl)
theorem dJ13_equals_33 : decode cJ13_equals 33 = .ok (.ireturn, 1) := dk_172 (dk_at dksJ13_equals_1 9 rfl rfl)
theorem dJ13_equals_34 : decode cJ13_equals 34 = .ok (.iconst 0, 1) := dk_3 (dk_at dksJ13_equals_1 10 rfl rfl)
theorem dJ13_equals_35 : decode cJ13_equals 35 = .ok (.ireturn, 1) := dk_172 (dk_at dksJ13_equals_1 11 rfl rfl)
abbrev cJ13_fillNull : ByteArray := prog_30_method_48_code
def yJ13_fillNull : MethodName := ⟨RJ13, "fillNull", "([BII)V"⟩
def dkwJ13_fillNull_0 : List UInt8 := [42, 27, 28, 3, 184, 0, 236, 177]
abbrev dktJ13_fillNull_0 : List UInt8 := dkwJ13_fillNull_0 ++ []
theorem dksJ13_fillNull_0 : cJ13_fillNull.data.toList.drop 0 = dktJ13_fillNull_0 := by decide +kernel
theorem dJ13_fillNull_0 : decode cJ13_fillNull 0 = .ok (.aload_n 0, 1) := dk_42 (dk_at dksJ13_fillNull_0 0 rfl rfl)
theorem dJ13_fillNull_1 : decode cJ13_fillNull 1 = .ok (.iload_n 1, 1) := dk_27 (dk_at dksJ13_fillNull_0 1 rfl rfl)
theorem dJ13_fillNull_2 : decode cJ13_fillNull 2 = .ok (.iload_n 2, 1) := dk_28 (dk_at dksJ13_fillNull_0 2 rfl rfl)
theorem dJ13_fillNull_3 : decode cJ13_fillNull 3 = .ok (.iconst 0, 1) := dk_3 (dk_at dksJ13_fillNull_0 3 rfl rfl)
theorem dJ13_fillNull_4 : decode cJ13_fillNull 4 = .ok (.invokestatic 236, 3) := dk_184 0 236 (dk_at dksJ13_fillNull_0 4 rfl rfl)
theorem dJ13_fillNull_7 : decode cJ13_fillNull 7 = .ok (.return_, 1) := dk_177 (dk_at dksJ13_fillNull_0 7 rfl rfl)
theorem q193 : (Jvm.Cond.initialized "java/lang/StringLatin1") ∈ lw_all := lw_g (lw_at lw_m1 20 rfl) rfl
theorem q723 : (Jvm.Cond.static ({ cls := "java/lang/StringLatin1", name := "canEncode", desc := "(C)Z" } : Jvm.MethodName)) ∈ lw_all := lw_g (lw_at lw_m3 70 rfl) rfl
theorem q724 : (Jvm.Cond.code ({ cls := "java/lang/StringLatin1", name := "canEncode", desc := "(C)Z" } : Jvm.MethodName) prog_30_method_3_code (1 : Nat) (Option.some Jvm.ClassFile.FieldType.boolean)) ∈ lw_all := lw_g (lw_at lw_m3 71 rfl) rfl
theorem q730 : (Jvm.Cond.static ({ cls := "java/lang/StringLatin1", name := "inflate", desc := "([BI[BII)V" } : Jvm.MethodName)) ∈ lw_all := lw_g (lw_at lw_m3 77 rfl) rfl
theorem q731 : (Jvm.Cond.code ({ cls := "java/lang/StringLatin1", name := "inflate", desc := "([BI[BII)V" } : Jvm.MethodName) prog_30_method_50_code (5 : Nat) (Option.none : Option Jvm.ClassFile.FieldType)) ∈ lw_all := lw_g (lw_at lw_m3 78 rfl) rfl
theorem q732 : (Jvm.Cond.methodLink "java/lang/StringLatin1" (240 : Nat) ({ cls := "java/lang/StringUTF16", name := "inflate", desc := "([BI[BII)V" } : Jvm.MethodName)) ∈ lw_all := lw_g (lw_at lw_m3 79 rfl) rfl
theorem q878 : (Jvm.Cond.static ({ cls := "java/lang/StringLatin1", name := "equals", desc := "([B[B)Z" } : Jvm.MethodName)) ∈ lw_all := lw_g (lw_at lw_m3 225 rfl) rfl
theorem q879 : (Jvm.Cond.code ({ cls := "java/lang/StringLatin1", name := "equals", desc := "([B[B)Z" } : Jvm.MethodName) prog_30_method_13_code (3 : Nat) (Option.some Jvm.ClassFile.FieldType.boolean)) ∈ lw_all := lw_g (lw_at lw_m3 226 rfl) rfl
theorem q1863 : (Jvm.Cond.static ({ cls := "java/lang/StringLatin1", name := "fillNull", desc := "([BII)V" } : Jvm.MethodName)) ∈ lw_all := lw_g (lw_at lw_m8 10 rfl) rfl
theorem q1864 : (Jvm.Cond.code ({ cls := "java/lang/StringLatin1", name := "fillNull", desc := "([BII)V" } : Jvm.MethodName) prog_30_method_48_code (3 : Nat) (Option.none : Option Jvm.ClassFile.FieldType)) ∈ lw_all := lw_g (lw_at lw_m8 11 rfl) rfl
theorem q1865 : (Jvm.Cond.methodLink "java/lang/StringLatin1" (236 : Nat) ({ cls := "java/util/Arrays", name := "fill", desc := "([BIIB)V" } : Jvm.MethodName)) ∈ lw_all := lw_g (lw_at lw_m8 12 rfl) rfl

/-! java/lang/Throwable -/
set_option maxRecDepth 100000
def RJ14 : String := "java/lang/Throwable"
def TJ14 : u_T := fun k => match k with
  | 0 => ("java/lang/Throwable", "cause", "Ljava/lang/Throwable;", false)
  | 1 => ("java/lang/Throwable", "stackTrace", "[Ljava/lang/StackTraceElement;", false)
  | 2 => ("java/lang/Throwable", "suppressedExceptions", "Ljava/util/List;", false)
  | 3 => ("java/lang/Throwable", "detailMessage", "Ljava/lang/String;", false)
  | _ => ("java/lang/Throwable", "backtrace", "Ljava/lang/Object;", false)
def tyJ14 : Nat → FieldType := fun k => match k with
  | 0 => .object "java/lang/Throwable"
  | 1 => .array (.object "java/lang/StackTraceElement")
  | 2 => .object "java/util/List"
  | 3 => .object "java/lang/String"
  | _ => .object "java/lang/Object"
abbrev wsJ140 : List Cond := u_ws RJ14 TJ14 5
theorem nmJ14 : ∀ a, a < 5 → ∀ b, b < 5 → a ≠ b → (TJ14 a).2.1 ≠ (TJ14 b).2.1 := by decide +kernel
theorem tyJ14_ok : ∀ k, k < 5 → parseFieldDescriptor (TJ14 k).2.2.1 = some (tyJ14 k) := by decide +kernel
abbrev cJ14_init : ByteArray := prog_33_method_1_code
def yJ14_init : MethodName := ⟨RJ14, "<init>", "()V"⟩
def dkwJ14_init_1 : List UInt8 := [182, 0, 27, 87, 177]
abbrev dktJ14_init_1 : List UInt8 := dkwJ14_init_1 ++ []
def dkwJ14_init_0 : List UInt8 := [42, 183, 0, 1, 42, 42, 181, 0, 7, 42, 178, 0, 13, 181, 0, 17, 42, 178, 0, 20, 181, 0, 24, 42]
abbrev dktJ14_init_0 : List UInt8 := dkwJ14_init_0 ++ dktJ14_init_1
theorem dksJ14_init_0 : cJ14_init.data.toList.drop 0 = dktJ14_init_0 := by decide +kernel
theorem dksJ14_init_1 : cJ14_init.data.toList.drop 24 = dktJ14_init_1 := dk_seg dksJ14_init_0 24 rfl rfl
theorem dJ14_init_0 : decode cJ14_init 0 = .ok (.aload_n 0, 1) := dk_42 (dk_at dksJ14_init_0 0 rfl rfl)
theorem dJ14_init_1 : decode cJ14_init 1 = .ok (.invokespecial 1, 3) := dk_183 0 1 (dk_at dksJ14_init_0 1 rfl rfl)
theorem dJ14_init_4 : decode cJ14_init 4 = .ok (.aload_n 0, 1) := dk_42 (dk_at dksJ14_init_0 4 rfl rfl)
theorem dJ14_init_5 : decode cJ14_init 5 = .ok (.aload_n 0, 1) := dk_42 (dk_at dksJ14_init_0 5 rfl rfl)
theorem dJ14_init_6 : decode cJ14_init 6 = .ok (.putfield 7, 3) := dk_181 0 7 (dk_at dksJ14_init_0 6 rfl rfl)
theorem dJ14_init_9 : decode cJ14_init 9 = .ok (.aload_n 0, 1) := dk_42 (dk_at dksJ14_init_0 9 rfl rfl)
theorem dJ14_init_10 : decode cJ14_init 10 = .ok (.getstatic 13, 3) := dk_178 0 13 (dk_at dksJ14_init_0 10 rfl rfl)
theorem dJ14_init_13 : decode cJ14_init 13 = .ok (.putfield 17, 3) := dk_181 0 17 (dk_at dksJ14_init_0 13 rfl rfl)
theorem dJ14_init_16 : decode cJ14_init 16 = .ok (.aload_n 0, 1) := dk_42 (dk_at dksJ14_init_0 16 rfl rfl)
theorem dJ14_init_17 : decode cJ14_init 17 = .ok (.getstatic 20, 3) := dk_178 0 20 (dk_at dksJ14_init_0 17 rfl rfl)
theorem dJ14_init_20 : decode cJ14_init 20 = .ok (.putfield 24, 3) := dk_181 0 24 (dk_at dksJ14_init_0 20 rfl rfl)
theorem dJ14_init_23 : decode cJ14_init 23 = .ok (.aload_n 0, 1) := dk_42 (dk_at dksJ14_init_0 23 rfl rfl)
theorem dJ14_init_24 : decode cJ14_init 24 = .ok (.invokevirtual 27, 3) := dk_182 0 27 (dk_at dksJ14_init_1 0 rfl rfl)
theorem dJ14_init_27 : decode cJ14_init 27 = .ok (.pop, 1) := dk_87 (dk_at dksJ14_init_1 3 rfl rfl)
theorem dJ14_init_28 : decode cJ14_init 28 = .ok (.return_, 1) := dk_177 (dk_at dksJ14_init_1 4 rfl rfl)
abbrev cJ14_init_2 : ByteArray := prog_33_method_5_code
def yJ14_init_2 : MethodName := ⟨RJ14, "<init>", "(Ljava/lang/String;Ljava/lang/Throwable;ZZ)V"⟩
def dkwJ14_init_2_2 : List UInt8 := [44, 181, 0, 7, 29, 154, 0, 8, 42, 1, 181, 0, 24, 177]
abbrev dktJ14_init_2_2 : List UInt8 := dkwJ14_init_2_2 ++ []
def dkwJ14_init_2_1 : List UInt8 := [21, 4, 153, 0, 11, 42, 182, 0, 27, 87, 167, 0, 8, 42, 1, 181, 0, 17, 42, 43, 181, 0, 31, 42]
abbrev dktJ14_init_2_1 : List UInt8 := dkwJ14_init_2_1 ++ dktJ14_init_2_2
def dkwJ14_init_2_0 : List UInt8 := [42, 183, 0, 1, 42, 42, 181, 0, 7, 42, 178, 0, 13, 181, 0, 17, 42, 178, 0, 20, 181, 0, 24]
abbrev dktJ14_init_2_0 : List UInt8 := dkwJ14_init_2_0 ++ dktJ14_init_2_1
theorem dksJ14_init_2_0 : cJ14_init_2.data.toList.drop 0 = dktJ14_init_2_0 := by decide +kernel
theorem dksJ14_init_2_1 : cJ14_init_2.data.toList.drop 23 = dktJ14_init_2_1 := dk_seg dksJ14_init_2_0 23 rfl rfl
theorem dksJ14_init_2_2 : cJ14_init_2.data.toList.drop 47 = dktJ14_init_2_2 := dk_seg dksJ14_init_2_1 24 rfl rfl
theorem dJ14_init_2_0 : decode cJ14_init_2 0 = .ok (.aload_n 0, 1) := dk_42 (dk_at dksJ14_init_2_0 0 rfl rfl)
theorem dJ14_init_2_1 : decode cJ14_init_2 1 = .ok (.invokespecial 1, 3) := dk_183 0 1 (dk_at dksJ14_init_2_0 1 rfl rfl)
theorem dJ14_init_2_4 : decode cJ14_init_2 4 = .ok (.aload_n 0, 1) := dk_42 (dk_at dksJ14_init_2_0 4 rfl rfl)
theorem dJ14_init_2_5 : decode cJ14_init_2 5 = .ok (.aload_n 0, 1) := dk_42 (dk_at dksJ14_init_2_0 5 rfl rfl)
theorem dJ14_init_2_6 : decode cJ14_init_2 6 = .ok (.putfield 7, 3) := dk_181 0 7 (dk_at dksJ14_init_2_0 6 rfl rfl)
theorem dJ14_init_2_9 : decode cJ14_init_2 9 = .ok (.aload_n 0, 1) := dk_42 (dk_at dksJ14_init_2_0 9 rfl rfl)
theorem dJ14_init_2_10 : decode cJ14_init_2 10 = .ok (.getstatic 13, 3) := dk_178 0 13 (dk_at dksJ14_init_2_0 10 rfl rfl)
theorem dJ14_init_2_13 : decode cJ14_init_2 13 = .ok (.putfield 17, 3) := dk_181 0 17 (dk_at dksJ14_init_2_0 13 rfl rfl)
theorem dJ14_init_2_16 : decode cJ14_init_2 16 = .ok (.aload_n 0, 1) := dk_42 (dk_at dksJ14_init_2_0 16 rfl rfl)
theorem dJ14_init_2_17 : decode cJ14_init_2 17 = .ok (.getstatic 20, 3) := dk_178 0 20 (dk_at dksJ14_init_2_0 17 rfl rfl)
theorem dJ14_init_2_20 : decode cJ14_init_2 20 = .ok (.putfield 24, 3) := dk_181 0 24 (dk_at dksJ14_init_2_0 20 rfl rfl)
theorem dJ14_init_2_23 : decode cJ14_init_2 23 = .ok (.iload 4, 2) := dk_21 4 (dk_at dksJ14_init_2_1 0 rfl rfl)
theorem dJ14_init_2_25 : decode cJ14_init_2 25 = .ok (.ifCond .eq 11, 3) := dk_153 0 11 (dk_at dksJ14_init_2_1 2 rfl rfl)
theorem dJ14_init_2_28 : decode cJ14_init_2 28 = .ok (.aload_n 0, 1) := dk_42 (dk_at dksJ14_init_2_1 5 rfl rfl)
theorem dJ14_init_2_29 : decode cJ14_init_2 29 = .ok (.invokevirtual 27, 3) := dk_182 0 27 (dk_at dksJ14_init_2_1 6 rfl rfl)
theorem dJ14_init_2_32 : decode cJ14_init_2 32 = .ok (.pop, 1) := dk_87 (dk_at dksJ14_init_2_1 9 rfl rfl)
theorem dJ14_init_2_33 : decode cJ14_init_2 33 = .ok (.goto 8, 3) := dk_167 0 8 (dk_at dksJ14_init_2_1 10 rfl rfl)
theorem dJ14_init_2_36 : decode cJ14_init_2 36 = .ok (.aload_n 0, 1) := dk_42 (dk_at dksJ14_init_2_1 13 rfl rfl)
theorem dJ14_init_2_37 : decode cJ14_init_2 37 = .ok (.aconst_null, 1) := dk_1 (dk_at dksJ14_init_2_1 14 rfl rfl)
theorem dJ14_init_2_38 : decode cJ14_init_2 38 = .ok (.putfield 17, 3) := dk_181 0 17 (dk_at dksJ14_init_2_1 15 rfl rfl)
theorem dJ14_init_2_41 : decode cJ14_init_2 41 = .ok (.aload_n 0, 1) := dk_42 (dk_at dksJ14_init_2_1 18 rfl rfl)
theorem dJ14_init_2_42 : decode cJ14_init_2 42 = .ok (.aload_n 1, 1) := dk_43 (dk_at dksJ14_init_2_1 19 rfl rfl)
theorem dJ14_init_2_43 : decode cJ14_init_2 43 = .ok (.putfield 31, 3) := dk_181 0 31 (dk_at dksJ14_init_2_1 20 rfl rfl)
theorem dJ14_init_2_46 : decode cJ14_init_2 46 = .ok (.aload_n 0, 1) := dk_42 (dk_at dksJ14_init_2_1 23 rfl rfl)
theorem dJ14_init_2_47 : decode cJ14_init_2 47 = .ok (.aload_n 2, 1) := dk_44 (dk_at dksJ14_init_2_2 0 rfl rfl)
theorem dJ14_init_2_48 : decode cJ14_init_2 48 = .ok (.putfield 7, 3) := dk_181 0 7 (dk_at dksJ14_init_2_2 1 rfl rfl)
theorem dJ14_init_2_51 : decode cJ14_init_2 51 = .ok (.iload_n 3, 1) := dk_29 (dk_at dksJ14_init_2_2 4 rfl rfl)
theorem dJ14_init_2_52 : decode cJ14_init_2 52 = .ok (.ifCond .ne 8, 3) := dk_154 0 8 (dk_at dksJ14_init_2_2 5 rfl rfl)
theorem dJ14_init_2_55 : decode cJ14_init_2 55 = .ok (.aload_n 0, 1) := dk_42 (dk_at dksJ14_init_2_2 8 rfl rfl)
theorem dJ14_init_2_56 : decode cJ14_init_2 56 = .ok (.aconst_null, 1) := dk_1 (dk_at dksJ14_init_2_2 9 rfl rfl)
theorem dJ14_init_2_57 : decode cJ14_init_2 57 = .ok (.putfield 24, 3) := dk_181 0 24 (dk_at dksJ14_init_2_2 10 rfl rfl)
theorem dJ14_init_2_60 : decode cJ14_init_2 60 = .ok (.return_, 1) := dk_177 (dk_at dksJ14_init_2_2 13 rfl rfl)
theorem q194 : (Jvm.Cond.initialized "java/lang/Throwable") ∈ lw_all := lw_g (lw_at lw_m1 21 rfl) rfl
theorem q894 : (Jvm.Cond.declares ({ cls := "java/lang/Throwable", name := "<init>", desc := "()V" } : Jvm.MethodName)) ∈ lw_tbl := lw_at lw_m4 1 rfl
theorem q895 : (Jvm.Cond.declares ({ cls := "java/lang/Throwable", name := "<init>", desc := "(Ljava/lang/String;)V" } : Jvm.MethodName)) ∈ lw_tbl := lw_at lw_m4 2 rfl
theorem q899 : (Jvm.Cond.lays "java/lang/Throwable" "java/lang/Throwable" "cause" "Ljava/lang/Throwable;") ∈ lw_all := lw_g (lw_at lw_m4 6 rfl) rfl
theorem q901 : (Jvm.Cond.lays "java/lang/Throwable" "java/lang/Throwable" "stackTrace" "[Ljava/lang/StackTraceElement;") ∈ lw_all := lw_g (lw_at lw_m4 8 rfl) rfl
theorem q903 : (Jvm.Cond.lays "java/lang/Throwable" "java/lang/Throwable" "suppressedExceptions" "Ljava/util/List;") ∈ lw_all := lw_g (lw_at lw_m4 10 rfl) rfl
theorem q905 : (Jvm.Cond.lays "java/lang/Throwable" "java/lang/Throwable" "detailMessage" "Ljava/lang/String;") ∈ lw_all := lw_g (lw_at lw_m4 12 rfl) rfl
theorem q907 : (Jvm.Cond.lays "java/lang/Throwable" "java/lang/Throwable" "backtrace" "Ljava/lang/Object;") ∈ lw_all := lw_g (lw_at lw_m4 14 rfl) rfl
theorem q908 : (Jvm.Cond.fieldLink "java/lang/Throwable" (198 : Nat) "java/lang/Throwable" "backtrace" "Ljava/lang/Object;") ∈ lw_all := lw_g (lw_at lw_m4 15 rfl) rfl
theorem q909 : (Jvm.Cond.superclass "java/lang/Throwable" "java/lang/Object") ∈ lw_all := lw_g (lw_at lw_m4 16 rfl) rfl
theorem q910 : (Jvm.Cond.instanceMethod ({ cls := "java/lang/Throwable", name := "<init>", desc := "()V" } : Jvm.MethodName)) ∈ lw_all := lw_g (lw_at lw_m4 17 rfl) rfl
theorem q911 : (Jvm.Cond.code ({ cls := "java/lang/Throwable", name := "<init>", desc := "()V" } : Jvm.MethodName) prog_33_method_1_code (1 : Nat) (Option.none : Option Jvm.ClassFile.FieldType)) ∈ lw_all := lw_g (lw_at lw_m4 18 rfl) rfl
theorem q912 : (Jvm.Cond.methodLink "java/lang/Throwable" (1 : Nat) ({ cls := "java/lang/Object", name := "<init>", desc := "()V" } : Jvm.MethodName)) ∈ lw_all := lw_g (lw_at lw_m4 19 rfl) rfl
theorem q913 : (Jvm.Cond.fieldLink "java/lang/Throwable" (13 : Nat) "java/lang/Throwable" "UNASSIGNED_STACK" "[Ljava/lang/StackTraceElement;") ∈ lw_all := lw_g (lw_at lw_m4 20 rfl) rfl
theorem q914 : (Jvm.Cond.laysStatic "java/lang/Throwable" "UNASSIGNED_STACK" "[Ljava/lang/StackTraceElement;") ∈ lw_tbl := lw_at lw_m4 21 rfl
theorem q915 : (Jvm.Cond.fieldLink "java/lang/Throwable" (20 : Nat) "java/lang/Throwable" "SUPPRESSED_SENTINEL" "Ljava/util/List;") ∈ lw_all := lw_g (lw_at lw_m4 22 rfl) rfl
theorem q916 : (Jvm.Cond.laysStatic "java/lang/Throwable" "SUPPRESSED_SENTINEL" "Ljava/util/List;") ∈ lw_tbl := lw_at lw_m4 23 rfl
theorem q917 : (Jvm.Cond.methodLink "java/lang/Throwable" (27 : Nat) ({ cls := "java/lang/Throwable", name := "fillInStackTrace", desc := "()Ljava/lang/Throwable;" } : Jvm.MethodName)) ∈ lw_all := lw_g (lw_at lw_m4 24 rfl) rfl
theorem q918 : (Jvm.Cond.instanceMethod ({ cls := "java/lang/Throwable", name := "fillInStackTrace", desc := "()Ljava/lang/Throwable;" } : Jvm.MethodName)) ∈ lw_all := lw_g (lw_at lw_m4 25 rfl) rfl
theorem q919 : (Jvm.Cond.sameMethod "java/lang/Throwable" "java/lang/Throwable" "fillInStackTrace" "()Ljava/lang/Throwable;") ∈ lw_all := lw_g (lw_at lw_m4 26 rfl) rfl
theorem q921 : (Jvm.Cond.codeSync ({ cls := "java/lang/Throwable", name := "fillInStackTrace", desc := "()Ljava/lang/Throwable;" } : Jvm.MethodName) prog_33_method_18_code (1 : Nat) (Option.some (Jvm.ClassFile.FieldType.object "java/lang/Throwable"))) ∈ lw_all := lw_g (lw_at lw_m4 28 rfl) rfl
theorem q922 : (Jvm.Cond.methodLink "java/lang/Throwable" (202 : Nat) ({ cls := "java/lang/Throwable", name := "fillInStackTrace", desc := "(I)Ljava/lang/Throwable;" } : Jvm.MethodName)) ∈ lw_all := lw_g (lw_at lw_m4 29 rfl) rfl
theorem q923 : (Jvm.Cond.privateMethod ({ cls := "java/lang/Throwable", name := "fillInStackTrace", desc := "(I)Ljava/lang/Throwable;" } : Jvm.MethodName)) ∈ lw_tbl := lw_at lw_m4 30 rfl
theorem q924 : (Jvm.Cond.instanceMethod ({ cls := "java/lang/Throwable", name := "fillInStackTrace", desc := "(I)Ljava/lang/Throwable;" } : Jvm.MethodName)) ∈ lw_all := lw_g (lw_at lw_m4 31 rfl) rfl
theorem q925 : (Jvm.Cond.instantiable "java/lang/Throwable" (6 : Nat)) ∈ lw_all := lw_g (lw_at lw_m4 32 rfl) rfl
theorem q926 : (Jvm.Cond.native ({ cls := "java/lang/Throwable", name := "fillInStackTrace", desc := "(I)Ljava/lang/Throwable;" } : Jvm.MethodName)) ∈ lw_all := lw_g (lw_at lw_m4 33 rfl) rfl
theorem q937 : (Jvm.Cond.instanceMethod ({ cls := "java/lang/Throwable", name := "<init>", desc := "(Ljava/lang/String;Ljava/lang/Throwable;ZZ)V" } : Jvm.MethodName)) ∈ lw_all := lw_g (lw_at lw_m4 44 rfl) rfl
theorem q938 : (Jvm.Cond.code ({ cls := "java/lang/Throwable", name := "<init>", desc := "(Ljava/lang/String;Ljava/lang/Throwable;ZZ)V" } : Jvm.MethodName) prog_33_method_5_code (5 : Nat) (Option.none : Option Jvm.ClassFile.FieldType)) ∈ lw_all := lw_g (lw_at lw_m4 45 rfl) rfl
theorem q943 : (Jvm.Cond.fieldLink "java/lang/Throwable" (198 : Nat) "java/lang/Throwable" "backtrace" "Ljava/lang/Object;") ∈ lw_all := lw_g (lw_at lw_m4 50 rfl) rfl
theorem q944 : (Jvm.Cond.fieldLink "java/lang/Throwable" (31 : Nat) "java/lang/Throwable" "detailMessage" "Ljava/lang/String;") ∈ lw_all := lw_g (lw_at lw_m4 51 rfl) rfl
theorem q945 : (Jvm.Cond.fieldLink "java/lang/Throwable" (7 : Nat) "java/lang/Throwable" "cause" "Ljava/lang/Throwable;") ∈ lw_all := lw_g (lw_at lw_m4 52 rfl) rfl
theorem q946 : (Jvm.Cond.fieldLink "java/lang/Throwable" (17 : Nat) "java/lang/Throwable" "stackTrace" "[Ljava/lang/StackTraceElement;") ∈ lw_all := lw_g (lw_at lw_m4 53 rfl) rfl
theorem q947 : (Jvm.Cond.fieldLink "java/lang/Throwable" (24 : Nat) "java/lang/Throwable" "suppressedExceptions" "Ljava/util/List;") ∈ lw_all := lw_g (lw_at lw_m4 54 rfl) rfl
theorem q952 : (Jvm.Cond.soleField "java/lang/Throwable" "backtrace") ∈ lw_all := lw_g (lw_at lw_m4 59 rfl) rfl
theorem q953 : (Jvm.Cond.soleField "java/lang/Throwable" "detailMessage") ∈ lw_all := lw_g (lw_at lw_m4 60 rfl) rfl
theorem q954 : (Jvm.Cond.soleField "java/lang/Throwable" "cause") ∈ lw_all := lw_g (lw_at lw_m4 61 rfl) rfl
theorem q955 : (Jvm.Cond.soleField "java/lang/Throwable" "stackTrace") ∈ lw_all := lw_g (lw_at lw_m4 62 rfl) rfl
theorem q957 : (Jvm.Cond.soleField "java/lang/Throwable" "depth") ∈ lw_all := lw_g (lw_at lw_m4 64 rfl) rfl
theorem q958 : (Jvm.Cond.soleField "java/lang/Throwable" "suppressedExceptions") ∈ lw_all := lw_g (lw_at lw_m4 65 rfl) rfl
theorem q2651 : (Jvm.Cond.sameMethod "java/lang/Throwable" "java/lang/Throwable" "fillInStackTrace" "(I)Ljava/lang/Throwable;") ∈ lw_all := lw_g (lw_at lw_m11 78 rfl) rfl
theorem q2679 : (Jvm.Cond.castable "java/lang/Throwable" "java/lang/Object") ∈ lw_tbl := lw_at lw_m11 106 rfl
theorem in_J14 : ∀ w ∈ wsJ140, w ∈ lw_all := lw_in wsJ140 [899, 901, 903, 905, 907] (by decide +kernel) (by decide +kernel)

/-! java/lang/Exception -/
set_option maxRecDepth 100000
def RJ15 : String := "java/lang/Exception"
abbrev cJ15_init : ByteArray := prog_22_method_5_code
def yJ15_init : MethodName := ⟨RJ15, "<init>", "(Ljava/lang/String;Ljava/lang/Throwable;ZZ)V"⟩
def dkwJ15_init_0 : List UInt8 := [42, 43, 44, 29, 21, 4, 183, 0, 16, 177]
abbrev dktJ15_init_0 : List UInt8 := dkwJ15_init_0 ++ []
theorem dksJ15_init_0 : cJ15_init.data.toList.drop 0 = dktJ15_init_0 := by decide +kernel
theorem dJ15_init_0 : decode cJ15_init 0 = .ok (.aload_n 0, 1) := dk_42 (dk_at dksJ15_init_0 0 rfl rfl)
theorem dJ15_init_1 : decode cJ15_init 1 = .ok (.aload_n 1, 1) := dk_43 (dk_at dksJ15_init_0 1 rfl rfl)
theorem dJ15_init_2 : decode cJ15_init 2 = .ok (.aload_n 2, 1) := dk_44 (dk_at dksJ15_init_0 2 rfl rfl)
theorem dJ15_init_3 : decode cJ15_init 3 = .ok (.iload_n 3, 1) := dk_29 (dk_at dksJ15_init_0 3 rfl rfl)
theorem dJ15_init_4 : decode cJ15_init 4 = .ok (.iload 4, 2) := dk_21 4 (dk_at dksJ15_init_0 4 rfl rfl)
theorem dJ15_init_6 : decode cJ15_init 6 = .ok (.invokespecial 16, 3) := dk_183 0 16 (dk_at dksJ15_init_0 6 rfl rfl)
theorem dJ15_init_9 : decode cJ15_init 9 = .ok (.return_, 1) := dk_177 (dk_at dksJ15_init_0 9 rfl rfl)
abbrev cJ15_init_2 : ByteArray := prog_22_method_1_code
def yJ15_init_2 : MethodName := ⟨RJ15, "<init>", "()V"⟩
theorem dJ15_init_2_0 : decode cJ15_init_2 0 = .ok (.aload_n 0, 1) := by decide +kernel
theorem dJ15_init_2_1 : decode cJ15_init_2 1 = .ok (.invokespecial 1, 3) := by decide +kernel
theorem dJ15_init_2_4 : decode cJ15_init_2 4 = .ok (.return_, 1) := by decide +kernel
theorem q195 : (Jvm.Cond.initialized "java/lang/Exception") ∈ lw_all := lw_g (lw_at lw_m1 22 rfl) rfl
theorem q892 : (Jvm.Cond.declares ({ cls := "java/lang/Exception", name := "<init>", desc := "()V" } : Jvm.MethodName)) ∈ lw_tbl := lw_at lw_m3 239 rfl
theorem q893 : (Jvm.Cond.declares ({ cls := "java/lang/Exception", name := "<init>", desc := "(Ljava/lang/String;)V" } : Jvm.MethodName)) ∈ lw_tbl := lw_at lw_m4 0 rfl
theorem q934 : (Jvm.Cond.instanceMethod ({ cls := "java/lang/Exception", name := "<init>", desc := "(Ljava/lang/String;Ljava/lang/Throwable;ZZ)V" } : Jvm.MethodName)) ∈ lw_all := lw_g (lw_at lw_m4 41 rfl) rfl
theorem q935 : (Jvm.Cond.code ({ cls := "java/lang/Exception", name := "<init>", desc := "(Ljava/lang/String;Ljava/lang/Throwable;ZZ)V" } : Jvm.MethodName) prog_22_method_5_code (5 : Nat) (Option.none : Option Jvm.ClassFile.FieldType)) ∈ lw_all := lw_g (lw_at lw_m4 42 rfl) rfl
theorem q936 : (Jvm.Cond.methodLink "java/lang/Exception" (16 : Nat) ({ cls := "java/lang/Throwable", name := "<init>", desc := "(Ljava/lang/String;Ljava/lang/Throwable;ZZ)V" } : Jvm.MethodName)) ∈ lw_all := lw_g (lw_at lw_m4 43 rfl) rfl
theorem q1041 : (Jvm.Cond.instanceMethod ({ cls := "java/lang/Exception", name := "<init>", desc := "()V" } : Jvm.MethodName)) ∈ lw_all := lw_g (lw_at lw_m4 148 rfl) rfl
theorem q1042 : (Jvm.Cond.code ({ cls := "java/lang/Exception", name := "<init>", desc := "()V" } : Jvm.MethodName) prog_22_method_1_code (1 : Nat) (Option.none : Option Jvm.ClassFile.FieldType)) ∈ lw_all := lw_g (lw_at lw_m4 149 rfl) rfl
theorem q1043 : (Jvm.Cond.methodLink "java/lang/Exception" (1 : Nat) ({ cls := "java/lang/Throwable", name := "<init>", desc := "()V" } : Jvm.MethodName)) ∈ lw_all := lw_g (lw_at lw_m4 150 rfl) rfl

/-! java/util/ArrayList$Itr -/
set_option maxRecDepth 100000
def RJ16 : String := "java/util/ArrayList$Itr"
def TJ16 : u_T := fun k => match k with
  | 0 => ("java/util/ArrayList$Itr", "cursor", "I", false)
  | 1 => ("java/util/ArrayList$Itr", "lastRet", "I", false)
  | 2 => ("java/util/ArrayList$Itr", "expectedModCount", "I", false)
  | _ => ("java/util/ArrayList$Itr", "this$0", "Ljava/util/ArrayList;", true)
def tyJ16 : Nat → FieldType := fun k => match k with
  | 0 => .int
  | 1 => .int
  | 2 => .int
  | _ => .object "java/util/ArrayList"
abbrev wsJ160 : List Cond := u_ws RJ16 TJ16 4
theorem nmJ16 : ∀ a, a < 4 → ∀ b, b < 4 → a ≠ b → (TJ16 a).2.1 ≠ (TJ16 b).2.1 := by decide +kernel
theorem tyJ16_ok : ∀ k, k < 4 → parseFieldDescriptor (TJ16 k).2.2.1 = some (tyJ16 k) := by decide +kernel
abbrev cJ16_init : ByteArray := prog_39_method_1_code
def yJ16_init : MethodName := ⟨RJ16, "<init>", "(Ljava/util/ArrayList;)V"⟩
def dkwJ16_init_1 : List UInt8 := [181, 0, 22, 177]
abbrev dktJ16_init_1 : List UInt8 := dkwJ16_init_1 ++ []
def dkwJ16_init_0 : List UInt8 := [42, 43, 181, 0, 1, 42, 183, 0, 7, 42, 2, 181, 0, 13, 42, 42, 180, 0, 1, 180, 0, 17]
abbrev dktJ16_init_0 : List UInt8 := dkwJ16_init_0 ++ dktJ16_init_1
theorem dksJ16_init_0 : cJ16_init.data.toList.drop 0 = dktJ16_init_0 := by decide +kernel
theorem dksJ16_init_1 : cJ16_init.data.toList.drop 22 = dktJ16_init_1 := dk_seg dksJ16_init_0 22 rfl rfl
theorem dJ16_init_0 : decode cJ16_init 0 = .ok (.aload_n 0, 1) := dk_42 (dk_at dksJ16_init_0 0 rfl rfl)
theorem dJ16_init_1 : decode cJ16_init 1 = .ok (.aload_n 1, 1) := dk_43 (dk_at dksJ16_init_0 1 rfl rfl)
theorem dJ16_init_2 : decode cJ16_init 2 = .ok (.putfield 1, 3) := dk_181 0 1 (dk_at dksJ16_init_0 2 rfl rfl)
theorem dJ16_init_5 : decode cJ16_init 5 = .ok (.aload_n 0, 1) := dk_42 (dk_at dksJ16_init_0 5 rfl rfl)
theorem dJ16_init_6 : decode cJ16_init 6 = .ok (.invokespecial 7, 3) := dk_183 0 7 (dk_at dksJ16_init_0 6 rfl rfl)
theorem dJ16_init_9 : decode cJ16_init 9 = .ok (.aload_n 0, 1) := dk_42 (dk_at dksJ16_init_0 9 rfl rfl)
theorem dJ16_init_10 : decode cJ16_init 10 = .ok (.iconst (-1), 1) := dk_2 (dk_at dksJ16_init_0 10 rfl rfl)
theorem dJ16_init_11 : decode cJ16_init 11 = .ok (.putfield 13, 3) := dk_181 0 13 (dk_at dksJ16_init_0 11 rfl rfl)
theorem dJ16_init_14 : decode cJ16_init 14 = .ok (.aload_n 0, 1) := dk_42 (dk_at dksJ16_init_0 14 rfl rfl)
theorem dJ16_init_15 : decode cJ16_init 15 = .ok (.aload_n 0, 1) := dk_42 (dk_at dksJ16_init_0 15 rfl rfl)
theorem dJ16_init_16 : decode cJ16_init 16 = .ok (.getfield 1, 3) := dk_180 0 1 (dk_at dksJ16_init_0 16 rfl rfl)
theorem dJ16_init_19 : decode cJ16_init 19 = .ok (.getfield 17, 3) := dk_180 0 17 (dk_at dksJ16_init_0 19 rfl rfl)
theorem dJ16_init_22 : decode cJ16_init 22 = .ok (.putfield 22, 3) := dk_181 0 22 (dk_at dksJ16_init_1 0 rfl rfl)
theorem dJ16_init_25 : decode cJ16_init 25 = .ok (.return_, 1) := dk_177 (dk_at dksJ16_init_1 3 rfl rfl)
abbrev cJ16_hasNext : ByteArray := prog_39_method_2_code
def yJ16_hasNext : MethodName := ⟨RJ16, "hasNext", "()Z"⟩
def dkwJ16_hasNext_0 : List UInt8 := [42, 180, 0, 25, 42, 180, 0, 1, 180, 0, 28, 159, 0, 7, 4, 167, 0, 4, 3, 172]
abbrev dktJ16_hasNext_0 : List UInt8 := dkwJ16_hasNext_0 ++ []
theorem dksJ16_hasNext_0 : cJ16_hasNext.data.toList.drop 0 = dktJ16_hasNext_0 := by decide +kernel
theorem dJ16_hasNext_0 : decode cJ16_hasNext 0 = .ok (.aload_n 0, 1) := dk_42 (dk_at dksJ16_hasNext_0 0 rfl rfl)
theorem dJ16_hasNext_1 : decode cJ16_hasNext 1 = .ok (.getfield 25, 3) := dk_180 0 25 (dk_at dksJ16_hasNext_0 1 rfl rfl)
theorem dJ16_hasNext_4 : decode cJ16_hasNext 4 = .ok (.aload_n 0, 1) := dk_42 (dk_at dksJ16_hasNext_0 4 rfl rfl)
theorem dJ16_hasNext_5 : decode cJ16_hasNext 5 = .ok (.getfield 1, 3) := dk_180 0 1 (dk_at dksJ16_hasNext_0 5 rfl rfl)
theorem dJ16_hasNext_8 : decode cJ16_hasNext 8 = .ok (.getfield 28, 3) := dk_180 0 28 (dk_at dksJ16_hasNext_0 8 rfl rfl)
theorem dJ16_hasNext_11 : decode cJ16_hasNext 11 = .ok (.if_icmp .eq 7, 3) := dk_159 0 7 (dk_at dksJ16_hasNext_0 11 rfl rfl)
theorem dJ16_hasNext_14 : decode cJ16_hasNext 14 = .ok (.iconst 1, 1) := dk_4 (dk_at dksJ16_hasNext_0 14 rfl rfl)
theorem dJ16_hasNext_15 : decode cJ16_hasNext 15 = .ok (.goto 4, 3) := dk_167 0 4 (dk_at dksJ16_hasNext_0 15 rfl rfl)
theorem dJ16_hasNext_18 : decode cJ16_hasNext 18 = .ok (.iconst 0, 1) := dk_3 (dk_at dksJ16_hasNext_0 18 rfl rfl)
theorem dJ16_hasNext_19 : decode cJ16_hasNext 19 = .ok (.ireturn, 1) := dk_172 (dk_at dksJ16_hasNext_0 19 rfl rfl)
abbrev cJ16_next : ByteArray := prog_39_method_3_code
def yJ16_next : MethodName := ⟨RJ16, "next", "()Ljava/lang/Object;"⟩
def dkwJ16_next_2 : List UInt8 := [183, 0, 43, 191, 42, 27, 4, 96, 181, 0, 25, 44, 42, 27, 90, 181, 0, 13, 50, 176]
abbrev dktJ16_next_2 : List UInt8 := dkwJ16_next_2 ++ []
def dkwJ16_next_1 : List UInt8 := [183, 0, 36, 191, 42, 180, 0, 1, 180, 0, 37, 77, 27, 44, 190, 161, 0, 11, 187, 0, 41, 89]
abbrev dktJ16_next_1 : List UInt8 := dkwJ16_next_1 ++ dktJ16_next_2
def dkwJ16_next_0 : List UInt8 := [42, 182, 0, 31, 42, 180, 0, 25, 60, 27, 42, 180, 0, 1, 180, 0, 28, 161, 0, 11, 187, 0, 34, 89]
abbrev dktJ16_next_0 : List UInt8 := dkwJ16_next_0 ++ dktJ16_next_1
theorem dksJ16_next_0 : cJ16_next.data.toList.drop 0 = dktJ16_next_0 := by decide +kernel
theorem dksJ16_next_1 : cJ16_next.data.toList.drop 24 = dktJ16_next_1 := dk_seg dksJ16_next_0 24 rfl rfl
theorem dksJ16_next_2 : cJ16_next.data.toList.drop 46 = dktJ16_next_2 := dk_seg dksJ16_next_1 22 rfl rfl
theorem dJ16_next_0 : decode cJ16_next 0 = .ok (.aload_n 0, 1) := dk_42 (dk_at dksJ16_next_0 0 rfl rfl)
theorem dJ16_next_1 : decode cJ16_next 1 = .ok (.invokevirtual 31, 3) := dk_182 0 31 (dk_at dksJ16_next_0 1 rfl rfl)
theorem dJ16_next_4 : decode cJ16_next 4 = .ok (.aload_n 0, 1) := dk_42 (dk_at dksJ16_next_0 4 rfl rfl)
theorem dJ16_next_5 : decode cJ16_next 5 = .ok (.getfield 25, 3) := dk_180 0 25 (dk_at dksJ16_next_0 5 rfl rfl)
theorem dJ16_next_8 : decode cJ16_next 8 = .ok (.istore_n 1, 1) := dk_60 (dk_at dksJ16_next_0 8 rfl rfl)
theorem dJ16_next_9 : decode cJ16_next 9 = .ok (.iload_n 1, 1) := dk_27 (dk_at dksJ16_next_0 9 rfl rfl)
theorem dJ16_next_10 : decode cJ16_next 10 = .ok (.aload_n 0, 1) := dk_42 (dk_at dksJ16_next_0 10 rfl rfl)
theorem dJ16_next_11 : decode cJ16_next 11 = .ok (.getfield 1, 3) := dk_180 0 1 (dk_at dksJ16_next_0 11 rfl rfl)
theorem dJ16_next_14 : decode cJ16_next 14 = .ok (.getfield 28, 3) := dk_180 0 28 (dk_at dksJ16_next_0 14 rfl rfl)
theorem dJ16_next_17 : decode cJ16_next 17 = .ok (.if_icmp .lt 11, 3) := dk_161 0 11 (dk_at dksJ16_next_0 17 rfl rfl)
theorem dJ16_next_20 : decode cJ16_next 20 = .ok (.new 34, 3) := dk_187 0 34 (dk_at dksJ16_next_0 20 rfl rfl)
theorem dJ16_next_23 : decode cJ16_next 23 = .ok (.dup, 1) := dk_89 (dk_at dksJ16_next_0 23 rfl rfl)
theorem dJ16_next_24 : decode cJ16_next 24 = .ok (.invokespecial 36, 3) := dk_183 0 36 (dk_at dksJ16_next_1 0 rfl rfl)
theorem dJ16_next_27 : decode cJ16_next 27 = .ok (.athrow, 1) := dk_191 (dk_at dksJ16_next_1 3 rfl rfl)
theorem dJ16_next_28 : decode cJ16_next 28 = .ok (.aload_n 0, 1) := dk_42 (dk_at dksJ16_next_1 4 rfl rfl)
theorem dJ16_next_29 : decode cJ16_next 29 = .ok (.getfield 1, 3) := dk_180 0 1 (dk_at dksJ16_next_1 5 rfl rfl)
theorem dJ16_next_32 : decode cJ16_next 32 = .ok (.getfield 37, 3) := dk_180 0 37 (dk_at dksJ16_next_1 8 rfl rfl)
theorem dJ16_next_35 : decode cJ16_next 35 = .ok (.astore_n 2, 1) := dk_77 (dk_at dksJ16_next_1 11 rfl rfl)
theorem dJ16_next_36 : decode cJ16_next 36 = .ok (.iload_n 1, 1) := dk_27 (dk_at dksJ16_next_1 12 rfl rfl)
theorem dJ16_next_37 : decode cJ16_next 37 = .ok (.aload_n 2, 1) := dk_44 (dk_at dksJ16_next_1 13 rfl rfl)
theorem dJ16_next_38 : decode cJ16_next 38 = .ok (.arraylength, 1) := dk_190 (dk_at dksJ16_next_1 14 rfl rfl)
theorem dJ16_next_39 : decode cJ16_next 39 = .ok (.if_icmp .lt 11, 3) := dk_161 0 11 (dk_at dksJ16_next_1 15 rfl rfl)
theorem dJ16_next_42 : decode cJ16_next 42 = .ok (.new 41, 3) := dk_187 0 41 (dk_at dksJ16_next_1 18 rfl rfl)
theorem dJ16_next_45 : decode cJ16_next 45 = .ok (.dup, 1) := dk_89 (dk_at dksJ16_next_1 21 rfl rfl)
theorem dJ16_next_46 : decode cJ16_next 46 = .ok (.invokespecial 43, 3) := dk_183 0 43 (dk_at dksJ16_next_2 0 rfl rfl)
theorem dJ16_next_49 : decode cJ16_next 49 = .ok (.athrow, 1) := dk_191 (dk_at dksJ16_next_2 3 rfl rfl)
theorem dJ16_next_50 : decode cJ16_next 50 = .ok (.aload_n 0, 1) := dk_42 (dk_at dksJ16_next_2 4 rfl rfl)
theorem dJ16_next_51 : decode cJ16_next 51 = .ok (.iload_n 1, 1) := dk_27 (dk_at dksJ16_next_2 5 rfl rfl)
theorem dJ16_next_52 : decode cJ16_next 52 = .ok (.iconst 1, 1) := dk_4 (dk_at dksJ16_next_2 6 rfl rfl)
theorem dJ16_next_53 : decode cJ16_next 53 = .ok (.iadd, 1) := dk_96 (dk_at dksJ16_next_2 7 rfl rfl)
theorem dJ16_next_54 : decode cJ16_next 54 = .ok (.putfield 25, 3) := dk_181 0 25 (dk_at dksJ16_next_2 8 rfl rfl)
theorem dJ16_next_57 : decode cJ16_next 57 = .ok (.aload_n 2, 1) := dk_44 (dk_at dksJ16_next_2 11 rfl rfl)
theorem dJ16_next_58 : decode cJ16_next 58 = .ok (.aload_n 0, 1) := dk_42 (dk_at dksJ16_next_2 12 rfl rfl)
theorem dJ16_next_59 : decode cJ16_next 59 = .ok (.iload_n 1, 1) := dk_27 (dk_at dksJ16_next_2 13 rfl rfl)
theorem dJ16_next_60 : decode cJ16_next 60 = .ok (.dup_x1, 1) := dk_90 (dk_at dksJ16_next_2 14 rfl rfl)
theorem dJ16_next_61 : decode cJ16_next 61 = .ok (.putfield 13, 3) := dk_181 0 13 (dk_at dksJ16_next_2 15 rfl rfl)
theorem dJ16_next_64 : decode cJ16_next 64 = .ok (.aaload, 1) := dk_50 (dk_at dksJ16_next_2 18 rfl rfl)
theorem dJ16_next_65 : decode cJ16_next 65 = .ok (.areturn, 1) := dk_176 (dk_at dksJ16_next_2 19 rfl rfl)
abbrev cJ16_checkForComodification : ByteArray := prog_39_method_6_code
def yJ16_checkForComodification : MethodName := ⟨RJ16, "checkForComodification", "()V"⟩
def dkwJ16_checkForComodification_0 : List UInt8 := [42, 180, 0, 1, 180, 0, 17, 42, 180, 0, 22, 159, 0, 11, 187, 0, 41, 89, 183, 0, 43, 191, 177]
abbrev dktJ16_checkForComodification_0 : List UInt8 := dkwJ16_checkForComodification_0 ++ []
theorem dksJ16_checkForComodification_0 : cJ16_checkForComodification.data.toList.drop 0 = dktJ16_checkForComodification_0 := by decide +kernel
theorem dJ16_checkForComodification_0 : decode cJ16_checkForComodification 0 = .ok (.aload_n 0, 1) := dk_42 (dk_at dksJ16_checkForComodification_0 0 rfl rfl)
theorem dJ16_checkForComodification_1 : decode cJ16_checkForComodification 1 = .ok (.getfield 1, 3) := dk_180 0 1 (dk_at dksJ16_checkForComodification_0 1 rfl rfl)
theorem dJ16_checkForComodification_4 : decode cJ16_checkForComodification 4 = .ok (.getfield 17, 3) := dk_180 0 17 (dk_at dksJ16_checkForComodification_0 4 rfl rfl)
theorem dJ16_checkForComodification_7 : decode cJ16_checkForComodification 7 = .ok (.aload_n 0, 1) := dk_42 (dk_at dksJ16_checkForComodification_0 7 rfl rfl)
theorem dJ16_checkForComodification_8 : decode cJ16_checkForComodification 8 = .ok (.getfield 22, 3) := dk_180 0 22 (dk_at dksJ16_checkForComodification_0 8 rfl rfl)
theorem dJ16_checkForComodification_11 : decode cJ16_checkForComodification 11 = .ok (.if_icmp .eq 11, 3) := dk_159 0 11 (dk_at dksJ16_checkForComodification_0 11 rfl rfl)
theorem dJ16_checkForComodification_14 : decode cJ16_checkForComodification 14 = .ok (.new 41, 3) := dk_187 0 41 (dk_at dksJ16_checkForComodification_0 14 rfl rfl)
theorem dJ16_checkForComodification_17 : decode cJ16_checkForComodification 17 = .ok (.dup, 1) := dk_89 (dk_at dksJ16_checkForComodification_0 17 rfl rfl)
theorem dJ16_checkForComodification_18 : decode cJ16_checkForComodification 18 = .ok (.invokespecial 43, 3) := dk_183 0 43 (dk_at dksJ16_checkForComodification_0 18 rfl rfl)
theorem dJ16_checkForComodification_21 : decode cJ16_checkForComodification 21 = .ok (.athrow, 1) := dk_191 (dk_at dksJ16_checkForComodification_0 21 rfl rfl)
theorem dJ16_checkForComodification_22 : decode cJ16_checkForComodification 22 = .ok (.return_, 1) := dk_177 (dk_at dksJ16_checkForComodification_0 22 rfl rfl)
theorem q197 : (Jvm.Cond.initialized "java/util/ArrayList$Itr") ∈ lw_all := lw_g (lw_at lw_m1 24 rfl) rfl
theorem q231 : (Jvm.Cond.fieldLink "java/util/ArrayList$Itr" (37 : Nat) "java/util/ArrayList" "elementData" "[Ljava/lang/Object;") ∈ lw_all := lw_g (lw_at lw_m1 58 rfl) rfl
theorem q232 : (Jvm.Cond.fieldLinkNest "java/util/ArrayList$Itr" (28 : Nat) "java/util/ArrayList" "size" "I" "java/util/ArrayList") ∈ lw_tbl := lw_at lw_m1 59 rfl
theorem q235 : (Jvm.Cond.fieldLink "java/util/ArrayList$Itr" (17 : Nat) "java/util/ArrayList" "modCount" "I") ∈ lw_all := lw_g (lw_at lw_m1 62 rfl) rfl
theorem q982 : (Jvm.Cond.instantiable "java/util/ArrayList$Itr" (4 : Nat)) ∈ lw_all := lw_g (lw_at lw_m4 89 rfl) rfl
theorem q984 : (Jvm.Cond.instanceMethod ({ cls := "java/util/ArrayList$Itr", name := "<init>", desc := "(Ljava/util/ArrayList;)V" } : Jvm.MethodName)) ∈ lw_all := lw_g (lw_at lw_m4 91 rfl) rfl
theorem q985 : (Jvm.Cond.code ({ cls := "java/util/ArrayList$Itr", name := "<init>", desc := "(Ljava/util/ArrayList;)V" } : Jvm.MethodName) prog_39_method_1_code (2 : Nat) (Option.none : Option Jvm.ClassFile.FieldType)) ∈ lw_all := lw_g (lw_at lw_m4 92 rfl) rfl
theorem q986 : (Jvm.Cond.methodLink "java/util/ArrayList$Itr" (7 : Nat) ({ cls := "java/lang/Object", name := "<init>", desc := "()V" } : Jvm.MethodName)) ∈ lw_all := lw_g (lw_at lw_m4 93 rfl) rfl
theorem q987 : (Jvm.Cond.fieldLink "java/util/ArrayList$Itr" (25 : Nat) "java/util/ArrayList$Itr" "cursor" "I") ∈ lw_all := lw_g (lw_at lw_m4 94 rfl) rfl
theorem q988 : (Jvm.Cond.fieldLink "java/util/ArrayList$Itr" (13 : Nat) "java/util/ArrayList$Itr" "lastRet" "I") ∈ lw_all := lw_g (lw_at lw_m4 95 rfl) rfl
theorem q989 : (Jvm.Cond.fieldLink "java/util/ArrayList$Itr" (22 : Nat) "java/util/ArrayList$Itr" "expectedModCount" "I") ∈ lw_all := lw_g (lw_at lw_m4 96 rfl) rfl
theorem q990 : (Jvm.Cond.fieldLink "java/util/ArrayList$Itr" (1 : Nat) "java/util/ArrayList$Itr" "this$0" "Ljava/util/ArrayList;") ∈ lw_all := lw_g (lw_at lw_m4 97 rfl) rfl
theorem q991 : (Jvm.Cond.lays "java/util/ArrayList$Itr" "java/util/ArrayList$Itr" "cursor" "I") ∈ lw_all := lw_g (lw_at lw_m4 98 rfl) rfl
theorem q992 : (Jvm.Cond.soleField "java/util/ArrayList$Itr" "cursor") ∈ lw_all := lw_g (lw_at lw_m4 99 rfl) rfl
theorem q993 : (Jvm.Cond.lays "java/util/ArrayList$Itr" "java/util/ArrayList$Itr" "lastRet" "I") ∈ lw_all := lw_g (lw_at lw_m4 100 rfl) rfl
theorem q994 : (Jvm.Cond.soleField "java/util/ArrayList$Itr" "lastRet") ∈ lw_all := lw_g (lw_at lw_m4 101 rfl) rfl
theorem q995 : (Jvm.Cond.lays "java/util/ArrayList$Itr" "java/util/ArrayList$Itr" "expectedModCount" "I") ∈ lw_all := lw_g (lw_at lw_m4 102 rfl) rfl
theorem q996 : (Jvm.Cond.soleField "java/util/ArrayList$Itr" "expectedModCount") ∈ lw_all := lw_g (lw_at lw_m4 103 rfl) rfl
theorem q997 : (Jvm.Cond.laysFinal "java/util/ArrayList$Itr" "java/util/ArrayList$Itr" "this$0" "Ljava/util/ArrayList;") ∈ lw_all := lw_g (lw_at lw_m4 104 rfl) rfl
theorem q998 : (Jvm.Cond.soleField "java/util/ArrayList$Itr" "this$0") ∈ lw_all := lw_g (lw_at lw_m4 105 rfl) rfl
theorem q999 : (Jvm.Cond.superclass "java/util/ArrayList$Itr" "java/lang/Object") ∈ lw_all := lw_g (lw_at lw_m4 106 rfl) rfl
theorem q1004 : (Jvm.Cond.castable "java/util/ArrayList$Itr" "java/util/Iterator") ∈ lw_tbl := lw_at lw_m4 111 rfl
theorem q1005 : (Jvm.Cond.selects "java/util/ArrayList$Itr" ({ cls := "java/util/Iterator", name := "hasNext", desc := "()Z" } : Jvm.MethodName) ({ cls := "java/util/ArrayList$Itr", name := "hasNext", desc := "()Z" } : Jvm.MethodName)) ∈ lw_all := lw_g (lw_at lw_m4 112 rfl) rfl
theorem q1006 : (Jvm.Cond.unhidden "java/util/ArrayList$Itr" "hasNext" "()Z") ∈ lw_tbl := lw_at lw_m4 113 rfl
theorem q1007 : (Jvm.Cond.instanceMethod ({ cls := "java/util/ArrayList$Itr", name := "hasNext", desc := "()Z" } : Jvm.MethodName)) ∈ lw_all := lw_g (lw_at lw_m4 114 rfl) rfl
theorem q1008 : (Jvm.Cond.publicMethod ({ cls := "java/util/ArrayList$Itr", name := "hasNext", desc := "()Z" } : Jvm.MethodName)) ∈ lw_tbl := lw_at lw_m4 115 rfl
theorem q1009 : (Jvm.Cond.code ({ cls := "java/util/ArrayList$Itr", name := "hasNext", desc := "()Z" } : Jvm.MethodName) prog_39_method_2_code (1 : Nat) (Option.some Jvm.ClassFile.FieldType.boolean)) ∈ lw_all := lw_g (lw_at lw_m4 116 rfl) rfl
theorem q1014 : (Jvm.Cond.selects "java/util/ArrayList$Itr" ({ cls := "java/util/Iterator", name := "next", desc := "()Ljava/lang/Object;" } : Jvm.MethodName) ({ cls := "java/util/ArrayList$Itr", name := "next", desc := "()Ljava/lang/Object;" } : Jvm.MethodName)) ∈ lw_all := lw_g (lw_at lw_m4 121 rfl) rfl
theorem q1015 : (Jvm.Cond.unhidden "java/util/ArrayList$Itr" "next" "()Ljava/lang/Object;") ∈ lw_tbl := lw_at lw_m4 122 rfl
theorem q1016 : (Jvm.Cond.instanceMethod ({ cls := "java/util/ArrayList$Itr", name := "next", desc := "()Ljava/lang/Object;" } : Jvm.MethodName)) ∈ lw_all := lw_g (lw_at lw_m4 123 rfl) rfl
theorem q1017 : (Jvm.Cond.publicMethod ({ cls := "java/util/ArrayList$Itr", name := "next", desc := "()Ljava/lang/Object;" } : Jvm.MethodName)) ∈ lw_tbl := lw_at lw_m4 124 rfl
theorem q1018 : (Jvm.Cond.code ({ cls := "java/util/ArrayList$Itr", name := "next", desc := "()Ljava/lang/Object;" } : Jvm.MethodName) prog_39_method_3_code (3 : Nat) (Option.some (Jvm.ClassFile.FieldType.object "java/lang/Object"))) ∈ lw_all := lw_g (lw_at lw_m4 125 rfl) rfl
theorem q1019 : (Jvm.Cond.methodLink "java/util/ArrayList$Itr" (31 : Nat) ({ cls := "java/util/ArrayList$Itr", name := "checkForComodification", desc := "()V" } : Jvm.MethodName)) ∈ lw_all := lw_g (lw_at lw_m4 126 rfl) rfl
theorem q1020 : (Jvm.Cond.instanceMethod ({ cls := "java/util/ArrayList$Itr", name := "checkForComodification", desc := "()V" } : Jvm.MethodName)) ∈ lw_all := lw_g (lw_at lw_m4 127 rfl) rfl
theorem q1021 : (Jvm.Cond.selects "java/util/ArrayList$Itr" ({ cls := "java/util/ArrayList$Itr", name := "checkForComodification", desc := "()V" } : Jvm.MethodName) ({ cls := "java/util/ArrayList$Itr", name := "checkForComodification", desc := "()V" } : Jvm.MethodName)) ∈ lw_all := lw_g (lw_at lw_m4 128 rfl) rfl
theorem q1022 : (Jvm.Cond.code ({ cls := "java/util/ArrayList$Itr", name := "checkForComodification", desc := "()V" } : Jvm.MethodName) prog_39_method_6_code (1 : Nat) (Option.none : Option Jvm.ClassFile.FieldType)) ∈ lw_all := lw_g (lw_at lw_m4 129 rfl) rfl
theorem q1023 : (Jvm.Cond.classLink "java/util/ArrayList$Itr" (34 : Nat) "java/util/NoSuchElementException") ∈ lw_all := lw_g (lw_at lw_m4 130 rfl) rfl
theorem q1034 : (Jvm.Cond.methodLink "java/util/ArrayList$Itr" (36 : Nat) ({ cls := "java/util/NoSuchElementException", name := "<init>", desc := "()V" } : Jvm.MethodName)) ∈ lw_all := lw_g (lw_at lw_m4 141 rfl) rfl
theorem q1117 : (Jvm.Cond.selects "java/util/ArrayList$Itr" ({ cls := "java/lang/Object", name := "getClass", desc := "()Ljava/lang/Class;" } : Jvm.MethodName) ({ cls := "java/lang/Object", name := "getClass", desc := "()Ljava/lang/Class;" } : Jvm.MethodName)) ∈ lw_all := lw_g (lw_at lw_m4 224 rfl) rfl
theorem q2671 : (Jvm.Cond.castable "java/util/ArrayList$Itr" "java/lang/Object") ∈ lw_tbl := lw_at lw_m11 98 rfl
theorem in_J16 : ∀ w ∈ wsJ160, w ∈ lw_all := lw_in wsJ160 [991, 993, 995, 997] (by decide +kernel) (by decide +kernel)

/-! java/lang/RuntimeException -/
set_option maxRecDepth 100000
def RJ17 : String := "java/lang/RuntimeException"
abbrev cJ17_init : ByteArray := prog_27_method_1_code
def yJ17_init : MethodName := ⟨RJ17, "<init>", "()V"⟩
theorem dJ17_init_0 : decode cJ17_init 0 = .ok (.aload_n 0, 1) := by decide +kernel
theorem dJ17_init_1 : decode cJ17_init 1 = .ok (.invokespecial 1, 3) := by decide +kernel
theorem dJ17_init_4 : decode cJ17_init 4 = .ok (.return_, 1) := by decide +kernel
theorem q198 : (Jvm.Cond.initialized "java/lang/RuntimeException") ∈ lw_all := lw_g (lw_at lw_m1 25 rfl) rfl
theorem q1026 : (Jvm.Cond.declares ({ cls := "java/lang/RuntimeException", name := "<init>", desc := "()V" } : Jvm.MethodName)) ∈ lw_tbl := lw_at lw_m4 133 rfl
theorem q1027 : (Jvm.Cond.declares ({ cls := "java/lang/RuntimeException", name := "<init>", desc := "(Ljava/lang/String;)V" } : Jvm.MethodName)) ∈ lw_tbl := lw_at lw_m4 134 rfl
theorem q1038 : (Jvm.Cond.instanceMethod ({ cls := "java/lang/RuntimeException", name := "<init>", desc := "()V" } : Jvm.MethodName)) ∈ lw_all := lw_g (lw_at lw_m4 145 rfl) rfl
theorem q1039 : (Jvm.Cond.code ({ cls := "java/lang/RuntimeException", name := "<init>", desc := "()V" } : Jvm.MethodName) prog_27_method_1_code (1 : Nat) (Option.none : Option Jvm.ClassFile.FieldType)) ∈ lw_all := lw_g (lw_at lw_m4 146 rfl) rfl
theorem q1040 : (Jvm.Cond.methodLink "java/lang/RuntimeException" (1 : Nat) ({ cls := "java/lang/Exception", name := "<init>", desc := "()V" } : Jvm.MethodName)) ∈ lw_all := lw_g (lw_at lw_m4 147 rfl) rfl

/-! java/util/NoSuchElementException -/
set_option maxRecDepth 100000
def RJ18 : String := "java/util/NoSuchElementException"
def TJ18 : u_T := fun k => match k with
  | 0 => ("java/lang/Throwable", "cause", "Ljava/lang/Throwable;", false)
  | 1 => ("java/lang/Throwable", "stackTrace", "[Ljava/lang/StackTraceElement;", false)
  | 2 => ("java/lang/Throwable", "suppressedExceptions", "Ljava/util/List;", false)
  | 3 => ("java/lang/Throwable", "detailMessage", "Ljava/lang/String;", false)
  | 4 => ("java/lang/Throwable", "backtrace", "Ljava/lang/Object;", false)
  | _ => ("java/lang/Throwable", "depth", "I", false)
def tyJ18 : Nat → FieldType := fun k => match k with
  | 0 => .object "java/lang/Throwable"
  | 1 => .array (.object "java/lang/StackTraceElement")
  | 2 => .object "java/util/List"
  | 3 => .object "java/lang/String"
  | 4 => .object "java/lang/Object"
  | _ => .int
abbrev wsJ180 : List Cond := u_ws RJ18 TJ18 6
theorem nmJ18 : ∀ a, a < 6 → ∀ b, b < 6 → a ≠ b → (TJ18 a).2.1 ≠ (TJ18 b).2.1 := by decide +kernel
theorem tyJ18_ok : ∀ k, k < 6 → parseFieldDescriptor (TJ18 k).2.2.1 = some (tyJ18 k) := by decide +kernel
abbrev cJ18_init : ByteArray := prog_44_method_1_code
def yJ18_init : MethodName := ⟨RJ18, "<init>", "()V"⟩
theorem dJ18_init_0 : decode cJ18_init 0 = .ok (.aload_n 0, 1) := by decide +kernel
theorem dJ18_init_1 : decode cJ18_init 1 = .ok (.invokespecial 1, 3) := by decide +kernel
theorem dJ18_init_4 : decode cJ18_init 4 = .ok (.return_, 1) := by decide +kernel
theorem q199 : (Jvm.Cond.initialized "java/util/NoSuchElementException") ∈ lw_all := lw_g (lw_at lw_m1 26 rfl) rfl
theorem q920 : (Jvm.Cond.selects "java/util/NoSuchElementException" ({ cls := "java/lang/Throwable", name := "fillInStackTrace", desc := "()Ljava/lang/Throwable;" } : Jvm.MethodName) ({ cls := "java/lang/Throwable", name := "fillInStackTrace", desc := "()Ljava/lang/Throwable;" } : Jvm.MethodName)) ∈ lw_all := lw_g (lw_at lw_m4 27 rfl) rfl
theorem q1024 : (Jvm.Cond.instantiable "java/util/NoSuchElementException" (6 : Nat)) ∈ lw_all := lw_g (lw_at lw_m4 131 rfl) rfl
theorem q1025 : (Jvm.Cond.castable "java/util/NoSuchElementException" "java/util/NoSuchElementException") ∈ lw_tbl := lw_at lw_m4 132 rfl
theorem q1028 : (Jvm.Cond.selects "java/util/NoSuchElementException" ({ cls := "java/lang/Throwable", name := "fillInStackTrace", desc := "(I)Ljava/lang/Throwable;" } : Jvm.MethodName) ({ cls := "java/lang/Throwable", name := "fillInStackTrace", desc := "(I)Ljava/lang/Throwable;" } : Jvm.MethodName)) ∈ lw_all := lw_g (lw_at lw_m4 135 rfl) rfl
theorem q1029 : (Jvm.Cond.lays "java/util/NoSuchElementException" "java/lang/Throwable" "cause" "Ljava/lang/Throwable;") ∈ lw_all := lw_g (lw_at lw_m4 136 rfl) rfl
theorem q1030 : (Jvm.Cond.lays "java/util/NoSuchElementException" "java/lang/Throwable" "stackTrace" "[Ljava/lang/StackTraceElement;") ∈ lw_all := lw_g (lw_at lw_m4 137 rfl) rfl
theorem q1031 : (Jvm.Cond.lays "java/util/NoSuchElementException" "java/lang/Throwable" "suppressedExceptions" "Ljava/util/List;") ∈ lw_all := lw_g (lw_at lw_m4 138 rfl) rfl
theorem q1032 : (Jvm.Cond.lays "java/util/NoSuchElementException" "java/lang/Throwable" "detailMessage" "Ljava/lang/String;") ∈ lw_all := lw_g (lw_at lw_m4 139 rfl) rfl
theorem q1033 : (Jvm.Cond.lays "java/util/NoSuchElementException" "java/lang/Throwable" "backtrace" "Ljava/lang/Object;") ∈ lw_all := lw_g (lw_at lw_m4 140 rfl) rfl
theorem q1035 : (Jvm.Cond.instanceMethod ({ cls := "java/util/NoSuchElementException", name := "<init>", desc := "()V" } : Jvm.MethodName)) ∈ lw_all := lw_g (lw_at lw_m4 142 rfl) rfl
theorem q1036 : (Jvm.Cond.code ({ cls := "java/util/NoSuchElementException", name := "<init>", desc := "()V" } : Jvm.MethodName) prog_44_method_1_code (1 : Nat) (Option.none : Option Jvm.ClassFile.FieldType)) ∈ lw_all := lw_g (lw_at lw_m4 143 rfl) rfl
theorem q1037 : (Jvm.Cond.methodLink "java/util/NoSuchElementException" (1 : Nat) ({ cls := "java/lang/RuntimeException", name := "<init>", desc := "()V" } : Jvm.MethodName)) ∈ lw_all := lw_g (lw_at lw_m4 144 rfl) rfl
theorem q1044 : (Jvm.Cond.lays "java/util/NoSuchElementException" "java/lang/Throwable" "depth" "I") ∈ lw_all := lw_g (lw_at lw_m4 151 rfl) rfl
theorem q1045 : (Jvm.Cond.superclass "java/util/NoSuchElementException" "java/lang/RuntimeException") ∈ lw_all := lw_g (lw_at lw_m4 152 rfl) rfl
theorem q1118 : (Jvm.Cond.selects "java/util/NoSuchElementException" ({ cls := "java/lang/Object", name := "getClass", desc := "()Ljava/lang/Class;" } : Jvm.MethodName) ({ cls := "java/lang/Object", name := "getClass", desc := "()Ljava/lang/Class;" } : Jvm.MethodName)) ∈ lw_all := lw_g (lw_at lw_m4 225 rfl) rfl
theorem q2672 : (Jvm.Cond.castable "java/util/NoSuchElementException" "java/lang/Object") ∈ lw_tbl := lw_at lw_m11 99 rfl
theorem in_J18 : ∀ w ∈ wsJ180, w ∈ lw_all := lw_in wsJ180 [1029, 1030, 1031, 1032, 1033, 1044] (by decide +kernel) (by decide +kernel)

theorem q414 : (Jvm.Cond.interfaceMethod "HomesQueue$Check" "HomesQueue$Check" "is" "(I)Z") ∈ lw_tbl := lw_at lw_m2 1 rfl
set_option maxRecDepth 100000
theorem q415 : (Jvm.Cond.declares ({ cls := "HomesQueue$Check", name := "is", desc := "(I)Z" } : Jvm.MethodName)) ∈ lw_tbl := lw_at lw_m2 2 rfl
theorem q2661 : (Jvm.Cond.castable "HomesQueue$Check" "java/lang/Object") ∈ lw_tbl := lw_at lw_m11 88 rfl

theorem q366 : (Jvm.Cond.interfaceMethod "HomesQueue$Number" "HomesQueue$Number" "of" "(I)I") ∈ lw_tbl := lw_at lw_m1 193 rfl
set_option maxRecDepth 100000
theorem q367 : (Jvm.Cond.declares ({ cls := "HomesQueue$Number", name := "of", desc := "(I)I" } : Jvm.MethodName)) ∈ lw_tbl := lw_at lw_m1 194 rfl

theorem q381 : (Jvm.Cond.interfaceMethod "HomesQueue$Step" "HomesQueue$Step" "by" "(II)I") ∈ lw_tbl := lw_at lw_m1 208 rfl
set_option maxRecDepth 100000
theorem q382 : (Jvm.Cond.declares ({ cls := "HomesQueue$Step", name := "by", desc := "(II)I" } : Jvm.MethodName)) ∈ lw_tbl := lw_at lw_m1 209 rfl
theorem q2662 : (Jvm.Cond.castable "HomesQueue$Step" "java/lang/Object") ∈ lw_tbl := lw_at lw_m11 89 rfl

theorem q707 : (Jvm.Cond.sameMethod "[B" "java/lang/Object" "clone" "()Ljava/lang/Object;") ∈ lw_all := lw_g (lw_at lw_m3 54 rfl) rfl
set_option maxRecDepth 100000
theorem q710 : (Jvm.Cond.selects "[B" ({ cls := "[B", name := "clone", desc := "()Ljava/lang/Object;" } : Jvm.MethodName) ({ cls := "java/lang/Object", name := "clone", desc := "()Ljava/lang/Object;" } : Jvm.MethodName)) ∈ lw_all := lw_g (lw_at lw_m3 57 rfl) rfl
theorem q711 : (Jvm.Cond.castable "[B" "java/lang/Cloneable") ∈ lw_tbl := lw_at lw_m3 58 rfl
theorem q2689 : (Jvm.Cond.castable "[B" "java/lang/Object") ∈ lw_tbl := lw_at lw_m11 116 rfl

theorem q2686 : (Jvm.Cond.castable "[I" "java/lang/Object") ∈ lw_tbl := lw_at lw_m11 113 rfl
set_option maxRecDepth 100000

theorem q2691 : (Jvm.Cond.castable "[J" "java/lang/Object") ∈ lw_tbl := lw_at lw_m11 118 rfl
set_option maxRecDepth 100000

theorem q2684 : (Jvm.Cond.castable "[LHomesQueue$Check;" "java/lang/Object") ∈ lw_tbl := lw_at lw_m11 111 rfl
set_option maxRecDepth 100000

theorem q2685 : (Jvm.Cond.castable "[LHomesQueue$Step;" "java/lang/Object") ∈ lw_tbl := lw_at lw_m11 112 rfl
set_option maxRecDepth 100000

theorem q2680 : (Jvm.Cond.sameMethod "[Ljava/lang/Object;" "java/lang/Object" "getClass" "()Ljava/lang/Class;") ∈ lw_all := lw_g (lw_at lw_m11 107 rfl) rfl
set_option maxRecDepth 100000
theorem q2681 : (Jvm.Cond.selects "[Ljava/lang/Object;" ({ cls := "java/lang/Object", name := "getClass", desc := "()Ljava/lang/Class;" } : Jvm.MethodName) ({ cls := "java/lang/Object", name := "getClass", desc := "()Ljava/lang/Class;" } : Jvm.MethodName)) ∈ lw_all := lw_g (lw_at lw_m11 108 rfl) rfl
theorem q2683 : (Jvm.Cond.castable "[Ljava/lang/Object;" "java/lang/Object") ∈ lw_tbl := lw_at lw_m11 110 rfl

theorem q2688 : (Jvm.Cond.castable "[Ljava/lang/String;" "java/lang/Object") ∈ lw_tbl := lw_at lw_m11 115 rfl
set_option maxRecDepth 100000

theorem q2687 : (Jvm.Cond.castable "[Z" "java/lang/Object") ∈ lw_tbl := lw_at lw_m11 114 rfl
set_option maxRecDepth 100000

theorem q2690 : (Jvm.Cond.castable "[[I" "java/lang/Object") ∈ lw_tbl := lw_at lw_m11 117 rfl
set_option maxRecDepth 100000

theorem q182 : (Jvm.Cond.initialized "java/lang/Number") ∈ lw_all := lw_g (lw_at lw_m1 9 rfl) rfl
set_option maxRecDepth 100000

theorem q179 : (Jvm.Cond.initialized "java/lang/System") ∈ lw_all := lw_g (lw_at lw_m1 6 rfl) rfl
set_option maxRecDepth 100000
theorem q256 : (Jvm.Cond.static ({ cls := "java/lang/System", name := "arraycopy", desc := "(Ljava/lang/Object;ILjava/lang/Object;II)V" } : Jvm.MethodName)) ∈ lw_all := lw_g (lw_at lw_m1 83 rfl) rfl
theorem q257 : (Jvm.Cond.native ({ cls := "java/lang/System", name := "arraycopy", desc := "(Ljava/lang/Object;ILjava/lang/Object;II)V" } : Jvm.MethodName)) ∈ lw_all := lw_g (lw_at lw_m1 84 rfl) rfl

theorem q1389 : (Jvm.Cond.interfaceMethod "java/util/Collection" "java/util/Collection" "toArray" "()[Ljava/lang/Object;") ∈ lw_tbl := lw_at lw_m6 16 rfl
set_option maxRecDepth 100000
theorem q1390 : (Jvm.Cond.declares ({ cls := "java/util/Collection", name := "toArray", desc := "()[Ljava/lang/Object;" } : Jvm.MethodName)) ∈ lw_tbl := lw_at lw_m6 17 rfl

theorem q1002 : (Jvm.Cond.interfaceMethod "java/util/Iterator" "java/util/Iterator" "hasNext" "()Z") ∈ lw_tbl := lw_at lw_m4 109 rfl
set_option maxRecDepth 100000
theorem q1003 : (Jvm.Cond.declares ({ cls := "java/util/Iterator", name := "hasNext", desc := "()Z" } : Jvm.MethodName)) ∈ lw_tbl := lw_at lw_m4 110 rfl
theorem q1012 : (Jvm.Cond.interfaceMethod "java/util/Iterator" "java/util/Iterator" "next" "()Ljava/lang/Object;") ∈ lw_tbl := lw_at lw_m4 119 rfl
theorem q1013 : (Jvm.Cond.declares ({ cls := "java/util/Iterator", name := "next", desc := "()Ljava/lang/Object;" } : Jvm.MethodName)) ∈ lw_tbl := lw_at lw_m4 120 rfl

