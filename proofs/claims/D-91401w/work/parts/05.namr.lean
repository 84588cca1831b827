/-! BoneYard$Reader -/
set_option maxRecDepth 100000
def RX1 : String := "BoneYard$Reader"
def TX1 : u_T := fun k => match k with
  | 0 => ("BoneYard$Reader", "words", "[Ljava/lang/String;", true)
  | 1 => ("BoneYard$Reader", "wrong", "LBoneYard$Wrong;", true)
  | 2 => ("BoneYard$Reader", "text", "[B", false)
  | 3 => ("BoneYard$Reader", "size", "I", false)
  | 4 => ("BoneYard$Reader", "at", "I", false)
  | 5 => ("BoneYard$Reader", "place", "I", false)
  | 6 => ("BoneYard$Reader", "token", "I", false)
  | 7 => ("BoneYard$Reader", "value", "I", false)
  | 8 => ("BoneYard$Reader", "within", "I", false)
  | _ => ("BoneYard$Reader", "this$0", "LBoneYard;", true)
def tyX1 : Nat → FieldType := fun k => match k with
  | 0 => .array (.object "java/lang/String")
  | 1 => .object "BoneYard$Wrong"
  | 2 => .array .byte
  | 3 => .int
  | 4 => .int
  | 5 => .int
  | 6 => .int
  | 7 => .int
  | 8 => .int
  | _ => .object "BoneYard"
abbrev wsX10 : List Cond := u_ws RX1 TX1 10
theorem nmX1 : ∀ a, a < 10 → ∀ b, b < 10 → a ≠ b → (TX1 a).2.1 ≠ (TX1 b).2.1 := by decide +kernel
theorem tyX1_ok : ∀ k, k < 10 → parseFieldDescriptor (TX1 k).2.2.1 = some (tyX1 k) := by decide +kernel
abbrev cX1_init : ByteArray := prog_13_method_1_code
def yX1_init : MethodName := ⟨RX1, "<init>", "(LBoneYard;)V"⟩
def dkwX1_init_5 : List UInt8 := [42, 187, 0, 57, 89, 183, 0, 59, 181, 0, 60, 177]
abbrev dktX1_init_5 : List UInt8 := dkwX1_init_5 ++ []
def dkwX1_init_4 : List UInt8 := [18, 45, 83, 89, 16, 15, 18, 47, 83, 89, 16, 16, 18, 49, 83, 89, 16, 17, 18, 51, 83, 181, 0, 53]
abbrev dktX1_init_4 : List UInt8 := dkwX1_init_4 ++ dktX1_init_5
def dkwX1_init_3 : List UInt8 := [18, 37, 83, 89, 16, 11, 18, 39, 83, 89, 16, 12, 18, 41, 83, 89, 16, 13, 18, 43, 83, 89, 16, 14]
abbrev dktX1_init_3 : List UInt8 := dkwX1_init_3 ++ dktX1_init_4
def dkwX1_init_2 : List UInt8 := [18, 29, 83, 89, 16, 7, 18, 31, 83, 89, 16, 8, 18, 33, 83, 89, 16, 9, 18, 35, 83, 89, 16, 10]
abbrev dktX1_init_2 : List UInt8 := dkwX1_init_2 ++ dktX1_init_3
def dkwX1_init_1 : List UInt8 := [83, 89, 5, 18, 21, 83, 89, 6, 18, 23, 83, 89, 7, 18, 25, 83, 89, 8, 18, 27, 83, 89, 16, 6]
abbrev dktX1_init_1 : List UInt8 := dkwX1_init_1 ++ dktX1_init_2
def dkwX1_init_0 : List UInt8 := [42, 43, 181, 0, 3, 42, 183, 0, 9, 42, 16, 18, 189, 0, 15, 89, 3, 18, 17, 83, 89, 4, 18, 19]
abbrev dktX1_init_0 : List UInt8 := dkwX1_init_0 ++ dktX1_init_1
theorem dksX1_init_0 : cX1_init.data.toList.drop 0 = dktX1_init_0 := by decide +kernel
theorem dksX1_init_1 : cX1_init.data.toList.drop 24 = dktX1_init_1 := dk_seg dksX1_init_0 24 rfl rfl
theorem dksX1_init_2 : cX1_init.data.toList.drop 48 = dktX1_init_2 := dk_seg dksX1_init_1 24 rfl rfl
theorem dksX1_init_3 : cX1_init.data.toList.drop 72 = dktX1_init_3 := dk_seg dksX1_init_2 24 rfl rfl
theorem dksX1_init_4 : cX1_init.data.toList.drop 96 = dktX1_init_4 := dk_seg dksX1_init_3 24 rfl rfl
theorem dksX1_init_5 : cX1_init.data.toList.drop 120 = dktX1_init_5 := dk_seg dksX1_init_4 24 rfl rfl
theorem dX1_init_0 : decode cX1_init 0 = .ok (.aload_n 0, 1) := dk_42 (dk_at dksX1_init_0 0 rfl rfl)
theorem dX1_init_1 : decode cX1_init 1 = .ok (.aload_n 1, 1) := dk_43 (dk_at dksX1_init_0 1 rfl rfl)
theorem dX1_init_2 : decode cX1_init 2 = .ok (.putfield 3, 3) := dk_181 0 3 (dk_at dksX1_init_0 2 rfl rfl)
theorem dX1_init_5 : decode cX1_init 5 = .ok (.aload_n 0, 1) := dk_42 (dk_at dksX1_init_0 5 rfl rfl)
theorem dX1_init_6 : decode cX1_init 6 = .ok (.invokespecial 9, 3) := dk_183 0 9 (dk_at dksX1_init_0 6 rfl rfl)
theorem dX1_init_9 : decode cX1_init 9 = .ok (.aload_n 0, 1) := dk_42 (dk_at dksX1_init_0 9 rfl rfl)
theorem dX1_init_10 : decode cX1_init 10 = .ok (.bipush 18, 2) := dk_16 18 (dk_at dksX1_init_0 10 rfl rfl)
theorem dX1_init_12 : decode cX1_init 12 = .ok (.anewarray 15, 3) := dk_189 0 15 (dk_at dksX1_init_0 12 rfl rfl)
theorem dX1_init_15 : decode cX1_init 15 = .ok (.dup, 1) := dk_89 (dk_at dksX1_init_0 15 rfl rfl)
theorem dX1_init_16 : decode cX1_init 16 = .ok (.iconst 0, 1) := dk_3 (dk_at dksX1_init_0 16 rfl rfl)
theorem dX1_init_17 : decode cX1_init 17 = .ok (.ldc 17, 2) := dk_18 17 (dk_at dksX1_init_0 17 rfl rfl)
theorem dX1_init_19 : decode cX1_init 19 = .ok (.aastore, 1) := dk_83 (dk_at dksX1_init_0 19 rfl rfl)
theorem dX1_init_20 : decode cX1_init 20 = .ok (.dup, 1) := dk_89 (dk_at dksX1_init_0 20 rfl rfl)
theorem dX1_init_21 : decode cX1_init 21 = .ok (.iconst 1, 1) := dk_4 (dk_at dksX1_init_0 21 rfl rfl)
theorem dX1_init_22 : decode cX1_init 22 = .ok (.ldc 19, 2) := dk_18 19 (dk_at dksX1_init_0 22 rfl rfl)
theorem dX1_init_24 : decode cX1_init 24 = .ok (.aastore, 1) := dk_83 (dk_at dksX1_init_1 0 rfl rfl)
theorem dX1_init_25 : decode cX1_init 25 = .ok (.dup, 1) := dk_89 (dk_at dksX1_init_1 1 rfl rfl)
theorem dX1_init_26 : decode cX1_init 26 = .ok (.iconst 2, 1) := dk_5 (dk_at dksX1_init_1 2 rfl rfl)
theorem dX1_init_27 : decode cX1_init 27 = .ok (.ldc 21, 2) := dk_18 21 (dk_at dksX1_init_1 3 rfl rfl)
theorem dX1_init_29 : decode cX1_init 29 = .ok (.aastore, 1) := dk_83 (dk_at dksX1_init_1 5 rfl rfl)
theorem dX1_init_30 : decode cX1_init 30 = .ok (.dup, 1) := dk_89 (dk_at dksX1_init_1 6 rfl rfl)
theorem dX1_init_31 : decode cX1_init 31 = .ok (.iconst 3, 1) := dk_6 (dk_at dksX1_init_1 7 rfl rfl)
theorem dX1_init_32 : decode cX1_init 32 = .ok (.ldc 23, 2) := dk_18 23 (dk_at dksX1_init_1 8 rfl rfl)
theorem dX1_init_34 : decode cX1_init 34 = .ok (.aastore, 1) := dk_83 (dk_at dksX1_init_1 10 rfl rfl)
theorem dX1_init_35 : decode cX1_init 35 = .ok (.dup, 1) := dk_89 (dk_at dksX1_init_1 11 rfl rfl)
theorem dX1_init_36 : decode cX1_init 36 = .ok (.iconst 4, 1) := dk_7 (dk_at dksX1_init_1 12 rfl rfl)
theorem dX1_init_37 : decode cX1_init 37 = .ok (.ldc 25, 2) := dk_18 25 (dk_at dksX1_init_1 13 rfl rfl)
theorem dX1_init_39 : decode cX1_init 39 = .ok (.aastore, 1) := dk_83 (dk_at dksX1_init_1 15 rfl rfl)
theorem dX1_init_40 : decode cX1_init 40 = .ok (.dup, 1) := dk_89 (dk_at dksX1_init_1 16 rfl rfl)
theorem dX1_init_41 : decode cX1_init 41 = .ok (.iconst 5, 1) := dk_8 (dk_at dksX1_init_1 17 rfl rfl)
theorem dX1_init_42 : decode cX1_init 42 = .ok (.ldc 27, 2) := dk_18 27 (dk_at dksX1_init_1 18 rfl rfl)
theorem dX1_init_44 : decode cX1_init 44 = .ok (.aastore, 1) := dk_83 (dk_at dksX1_init_1 20 rfl rfl)
theorem dX1_init_45 : decode cX1_init 45 = .ok (.dup, 1) := dk_89 (dk_at dksX1_init_1 21 rfl rfl)
theorem dX1_init_46 : decode cX1_init 46 = .ok (.bipush 6, 2) := dk_16 6 (dk_at dksX1_init_1 22 rfl rfl)
theorem dX1_init_48 : decode cX1_init 48 = .ok (.ldc 29, 2) := dk_18 29 (dk_at dksX1_init_2 0 rfl rfl)
theorem dX1_init_50 : decode cX1_init 50 = .ok (.aastore, 1) := dk_83 (dk_at dksX1_init_2 2 rfl rfl)
theorem dX1_init_51 : decode cX1_init 51 = .ok (.dup, 1) := dk_89 (dk_at dksX1_init_2 3 rfl rfl)
theorem dX1_init_52 : decode cX1_init 52 = .ok (.bipush 7, 2) := dk_16 7 (dk_at dksX1_init_2 4 rfl rfl)
theorem dX1_init_54 : decode cX1_init 54 = .ok (.ldc 31, 2) := dk_18 31 (dk_at dksX1_init_2 6 rfl rfl)
theorem dX1_init_56 : decode cX1_init 56 = .ok (.aastore, 1) := dk_83 (dk_at dksX1_init_2 8 rfl rfl)
theorem dX1_init_57 : decode cX1_init 57 = .ok (.dup, 1) := dk_89 (dk_at dksX1_init_2 9 rfl rfl)
theorem dX1_init_58 : decode cX1_init 58 = .ok (.bipush 8, 2) := dk_16 8 (dk_at dksX1_init_2 10 rfl rfl)
theorem dX1_init_60 : decode cX1_init 60 = .ok (.ldc 33, 2) := dk_18 33 (dk_at dksX1_init_2 12 rfl rfl)
theorem dX1_init_62 : decode cX1_init 62 = .ok (.aastore, 1) := dk_83 (dk_at dksX1_init_2 14 rfl rfl)
theorem dX1_init_63 : decode cX1_init 63 = .ok (.dup, 1) := dk_89 (dk_at dksX1_init_2 15 rfl rfl)
theorem dX1_init_64 : decode cX1_init 64 = .ok (.bipush 9, 2) := dk_16 9 (dk_at dksX1_init_2 16 rfl rfl)
theorem dX1_init_66 : decode cX1_init 66 = .ok (.ldc 35, 2) := dk_18 35 (dk_at dksX1_init_2 18 rfl rfl)
theorem dX1_init_68 : decode cX1_init 68 = .ok (.aastore, 1) := dk_83 (dk_at dksX1_init_2 20 rfl rfl)
theorem dX1_init_69 : decode cX1_init 69 = .ok (.dup, 1) := dk_89 (dk_at dksX1_init_2 21 rfl rfl)
theorem dX1_init_70 : decode cX1_init 70 = .ok (.bipush 10, 2) := dk_16 10 (dk_at dksX1_init_2 22 rfl rfl)
theorem dX1_init_72 : decode cX1_init 72 = .ok (.ldc 37, 2) := dk_18 37 (dk_at dksX1_init_3 0 rfl rfl)
theorem dX1_init_74 : decode cX1_init 74 = .ok (.aastore, 1) := dk_83 (dk_at dksX1_init_3 2 rfl rfl)
theorem dX1_init_75 : decode cX1_init 75 = .ok (.dup, 1) := dk_89 (dk_at dksX1_init_3 3 rfl rfl)
theorem dX1_init_76 : decode cX1_init 76 = .ok (.bipush 11, 2) := dk_16 11 (dk_at dksX1_init_3 4 rfl rfl)
theorem dX1_init_78 : decode cX1_init 78 = .ok (.ldc 39, 2) := dk_18 39 (dk_at dksX1_init_3 6 rfl rfl)
theorem dX1_init_80 : decode cX1_init 80 = .ok (.aastore, 1) := dk_83 (dk_at dksX1_init_3 8 rfl rfl)
theorem dX1_init_81 : decode cX1_init 81 = .ok (.dup, 1) := dk_89 (dk_at dksX1_init_3 9 rfl rfl)
theorem dX1_init_82 : decode cX1_init 82 = .ok (.bipush 12, 2) := dk_16 12 (dk_at dksX1_init_3 10 rfl rfl)
theorem dX1_init_84 : decode cX1_init 84 = .ok (.ldc 41, 2) := dk_18 41 (dk_at dksX1_init_3 12 rfl rfl)
theorem dX1_init_86 : decode cX1_init 86 = .ok (.aastore, 1) := dk_83 (dk_at dksX1_init_3 14 rfl rfl)
theorem dX1_init_87 : decode cX1_init 87 = .ok (.dup, 1) := dk_89 (dk_at dksX1_init_3 15 rfl rfl)
theorem dX1_init_88 : decode cX1_init 88 = .ok (.bipush 13, 2) := dk_16 13 (dk_at dksX1_init_3 16 rfl rfl)
theorem dX1_init_90 : decode cX1_init 90 = .ok (.ldc 43, 2) := dk_18 43 (dk_at dksX1_init_3 18 rfl rfl)
theorem dX1_init_92 : decode cX1_init 92 = .ok (.aastore, 1) := dk_83 (dk_at dksX1_init_3 20 rfl rfl)
theorem dX1_init_93 : decode cX1_init 93 = .ok (.dup, 1) := dk_89 (dk_at dksX1_init_3 21 rfl rfl)
theorem dX1_init_94 : decode cX1_init 94 = .ok (.bipush 14, 2) := dk_16 14 (dk_at dksX1_init_3 22 rfl rfl)
theorem dX1_init_96 : decode cX1_init 96 = .ok (.ldc 45, 2) := dk_18 45 (dk_at dksX1_init_4 0 rfl rfl)
theorem dX1_init_98 : decode cX1_init 98 = .ok (.aastore, 1) := dk_83 (dk_at dksX1_init_4 2 rfl rfl)
theorem dX1_init_99 : decode cX1_init 99 = .ok (.dup, 1) := dk_89 (dk_at dksX1_init_4 3 rfl rfl)
theorem dX1_init_100 : decode cX1_init 100 = .ok (.bipush 15, 2) := dk_16 15 (dk_at dksX1_init_4 4 rfl rfl)
theorem dX1_init_102 : decode cX1_init 102 = .ok (.ldc 47, 2) := dk_18 47 (dk_at dksX1_init_4 6 rfl rfl)
theorem dX1_init_104 : decode cX1_init 104 = .ok (.aastore, 1) := dk_83 (dk_at dksX1_init_4 8 rfl rfl)
theorem dX1_init_105 : decode cX1_init 105 = .ok (.dup, 1) := dk_89 (dk_at dksX1_init_4 9 rfl rfl)
theorem dX1_init_106 : decode cX1_init 106 = .ok (.bipush 16, 2) := dk_16 16 (dk_at dksX1_init_4 10 rfl rfl)
theorem dX1_init_108 : decode cX1_init 108 = .ok (.ldc 49, 2) := dk_18 49 (dk_at dksX1_init_4 12 rfl rfl)
theorem dX1_init_110 : decode cX1_init 110 = .ok (.aastore, 1) := dk_83 (dk_at dksX1_init_4 14 rfl rfl)
theorem dX1_init_111 : decode cX1_init 111 = .ok (.dup, 1) := dk_89 (dk_at dksX1_init_4 15 rfl rfl)
theorem dX1_init_112 : decode cX1_init 112 = .ok (.bipush 17, 2) := dk_16 17 (dk_at dksX1_init_4 16 rfl rfl)
theorem dX1_init_114 : decode cX1_init 114 = .ok (.ldc 51, 2) := dk_18 51 (dk_at dksX1_init_4 18 rfl rfl)
theorem dX1_init_116 : decode cX1_init 116 = .ok (.aastore, 1) := dk_83 (dk_at dksX1_init_4 20 rfl rfl)
theorem dX1_init_117 : decode cX1_init 117 = .ok (.putfield 53, 3) := dk_181 0 53 (dk_at dksX1_init_4 21 rfl rfl)
theorem dX1_init_120 : decode cX1_init 120 = .ok (.aload_n 0, 1) := dk_42 (dk_at dksX1_init_5 0 rfl rfl)
theorem dX1_init_121 : decode cX1_init 121 = .ok (.new 57, 3) := dk_187 0 57 (dk_at dksX1_init_5 1 rfl rfl)
theorem dX1_init_124 : decode cX1_init 124 = .ok (.dup, 1) := dk_89 (dk_at dksX1_init_5 4 rfl rfl)
theorem dX1_init_125 : decode cX1_init 125 = .ok (.invokespecial 59, 3) := dk_183 0 59 (dk_at dksX1_init_5 5 rfl rfl)
theorem dX1_init_128 : decode cX1_init 128 = .ok (.putfield 60, 3) := dk_181 0 60 (dk_at dksX1_init_5 8 rfl rfl)
theorem dX1_init_131 : decode cX1_init 131 = .ok (.return_, 1) := dk_177 (dk_at dksX1_init_5 11 rfl rfl)
abbrev cX1_key : ByteArray := prog_13_method_23_code
def yX1_key : MethodName := ⟨RX1, "key", "([BI)LBoneYard$Key;"⟩
def dkwX1_key_6 : List UInt8 := [180, 1, 6, 182, 1, 19, 132, 4, 1, 167, 255, 195, 45, 176]
abbrev dktX1_key_6 : List UInt8 := dkwX1_key_6 ++ []
def dkwX1_key_5 : List UInt8 := [180, 1, 2, 182, 1, 19, 42, 45, 45, 180, 0, 228, 21, 4, 185, 0, 238, 2, 0, 192, 0, 242]
abbrev dktX1_key_5 : List UInt8 := dkwX1_key_5 ++ dktX1_key_6
def dkwX1_key_4 : List UInt8 := [185, 0, 233, 1, 0, 162, 0, 53, 42, 45, 45, 180, 0, 228, 21, 4, 185, 0, 238, 2, 0, 192, 0, 242]
abbrev dktX1_key_4 : List UInt8 := dkwX1_key_4 ++ dktX1_key_5
def dkwX1_key_3 : List UInt8 := [16, 22, 159, 0, 9, 42, 4, 182, 0, 132, 191, 3, 54, 4, 21, 4, 45, 180, 0, 228]
abbrev dktX1_key_3 : List UInt8 := dkwX1_key_3 ++ dktX1_key_4
def dkwX1_key_2 : List UInt8 := [182, 0, 136, 42, 180, 0, 105, 16, 22, 159, 255, 237, 42, 45, 182, 1, 16, 167, 255, 229, 42, 180, 0, 105]
abbrev dktX1_key_2 : List UInt8 := dkwX1_key_2 ++ dktX1_key_3
def dkwX1_key_1 : List UInt8 := [187, 0, 229, 89, 183, 1, 15, 78, 42, 45, 182, 1, 16, 42, 16, 59, 182, 0, 129, 153, 0, 24, 42]
abbrev dktX1_key_1 : List UInt8 := dkwX1_key_1 ++ dktX1_key_2
def dkwX1_key_0 : List UInt8 := [42, 43, 181, 0, 68, 42, 28, 181, 0, 64, 42, 3, 181, 0, 99, 42, 3, 181, 0, 143, 42, 182, 0, 136]
abbrev dktX1_key_0 : List UInt8 := dkwX1_key_0 ++ dktX1_key_1
theorem dksX1_key_0 : cX1_key.data.toList.drop 0 = dktX1_key_0 := by decide +kernel
theorem dksX1_key_1 : cX1_key.data.toList.drop 24 = dktX1_key_1 := dk_seg dksX1_key_0 24 rfl rfl
theorem dksX1_key_2 : cX1_key.data.toList.drop 47 = dktX1_key_2 := dk_seg dksX1_key_1 23 rfl rfl
theorem dksX1_key_3 : cX1_key.data.toList.drop 71 = dktX1_key_3 := dk_seg dksX1_key_2 24 rfl rfl
theorem dksX1_key_4 : cX1_key.data.toList.drop 91 = dktX1_key_4 := dk_seg dksX1_key_3 20 rfl rfl
theorem dksX1_key_5 : cX1_key.data.toList.drop 115 = dktX1_key_5 := dk_seg dksX1_key_4 24 rfl rfl
theorem dksX1_key_6 : cX1_key.data.toList.drop 137 = dktX1_key_6 := dk_seg dksX1_key_5 22 rfl rfl
theorem dX1_key_0 : decode cX1_key 0 = .ok (.aload_n 0, 1) := dk_42 (dk_at dksX1_key_0 0 rfl rfl)
theorem dX1_key_1 : decode cX1_key 1 = .ok (.aload_n 1, 1) := dk_43 (dk_at dksX1_key_0 1 rfl rfl)
theorem dX1_key_2 : decode cX1_key 2 = .ok (.putfield 68, 3) := dk_181 0 68 (dk_at dksX1_key_0 2 rfl rfl)
theorem dX1_key_5 : decode cX1_key 5 = .ok (.aload_n 0, 1) := dk_42 (dk_at dksX1_key_0 5 rfl rfl)
theorem dX1_key_6 : decode cX1_key 6 = .ok (.iload_n 2, 1) := dk_28 (dk_at dksX1_key_0 6 rfl rfl)
theorem dX1_key_7 : decode cX1_key 7 = .ok (.putfield 64, 3) := dk_181 0 64 (dk_at dksX1_key_0 7 rfl rfl)
theorem dX1_key_10 : decode cX1_key 10 = .ok (.aload_n 0, 1) := dk_42 (dk_at dksX1_key_0 10 rfl rfl)
theorem dX1_key_11 : decode cX1_key 11 = .ok (.iconst 0, 1) := dk_3 (dk_at dksX1_key_0 11 rfl rfl)
theorem dX1_key_12 : decode cX1_key 12 = .ok (.putfield 99, 3) := dk_181 0 99 (dk_at dksX1_key_0 12 rfl rfl)
theorem dX1_key_15 : decode cX1_key 15 = .ok (.aload_n 0, 1) := dk_42 (dk_at dksX1_key_0 15 rfl rfl)
theorem dX1_key_16 : decode cX1_key 16 = .ok (.iconst 0, 1) := dk_3 (dk_at dksX1_key_0 16 rfl rfl)
theorem dX1_key_17 : decode cX1_key 17 = .ok (.putfield 143, 3) := dk_181 0 143 (dk_at dksX1_key_0 17 rfl rfl)
theorem dX1_key_20 : decode cX1_key 20 = .ok (.aload_n 0, 1) := dk_42 (dk_at dksX1_key_0 20 rfl rfl)
theorem dX1_key_21 : decode cX1_key 21 = .ok (.invokevirtual 136, 3) := dk_182 0 136 (dk_at dksX1_key_0 21 rfl rfl)
theorem dX1_key_24 : decode cX1_key 24 = .ok (.new 229, 3) := dk_187 0 229 (dk_at dksX1_key_1 0 rfl rfl)
theorem dX1_key_27 : decode cX1_key 27 = .ok (.dup, 1) := dk_89 (dk_at dksX1_key_1 3 rfl rfl)
theorem dX1_key_28 : decode cX1_key 28 = .ok (.invokespecial 271, 3) := dk_183 1 15 (dk_at dksX1_key_1 4 rfl rfl)
theorem dX1_key_31 : decode cX1_key 31 = .ok (.astore_n 3, 1) := dk_78 (dk_at dksX1_key_1 7 rfl rfl)
theorem dX1_key_32 : decode cX1_key 32 = .ok (.aload_n 0, 1) := dk_42 (dk_at dksX1_key_1 8 rfl rfl)
theorem dX1_key_33 : decode cX1_key 33 = .ok (.aload_n 3, 1) := dk_45 (dk_at dksX1_key_1 9 rfl rfl)
theorem dX1_key_34 : decode cX1_key 34 = .ok (.invokevirtual 272, 3) := dk_182 1 16 (dk_at dksX1_key_1 10 rfl rfl)
theorem dX1_key_37 : decode cX1_key 37 = .ok (.aload_n 0, 1) := dk_42 (dk_at dksX1_key_1 13 rfl rfl)
theorem dX1_key_38 : decode cX1_key 38 = .ok (.bipush 59, 2) := dk_16 59 (dk_at dksX1_key_1 14 rfl rfl)
theorem dX1_key_40 : decode cX1_key 40 = .ok (.invokevirtual 129, 3) := dk_182 0 129 (dk_at dksX1_key_1 16 rfl rfl)
theorem dX1_key_43 : decode cX1_key 43 = .ok (.ifCond .eq 24, 3) := dk_153 0 24 (dk_at dksX1_key_1 19 rfl rfl)
theorem dX1_key_46 : decode cX1_key 46 = .ok (.aload_n 0, 1) := dk_42 (dk_at dksX1_key_1 22 rfl rfl)
theorem dX1_key_47 : decode cX1_key 47 = .ok (.invokevirtual 136, 3) := dk_182 0 136 (dk_at dksX1_key_2 0 rfl rfl)
theorem dX1_key_50 : decode cX1_key 50 = .ok (.aload_n 0, 1) := dk_42 (dk_at dksX1_key_2 3 rfl rfl)
theorem dX1_key_51 : decode cX1_key 51 = .ok (.getfield 105, 3) := dk_180 0 105 (dk_at dksX1_key_2 4 rfl rfl)
theorem dX1_key_54 : decode cX1_key 54 = .ok (.bipush 22, 2) := dk_16 22 (dk_at dksX1_key_2 7 rfl rfl)
theorem dX1_key_56 : decode cX1_key 56 = .ok (.if_icmp .eq (-19), 3) := dk_159 255 237 (dk_at dksX1_key_2 9 rfl rfl)
theorem dX1_key_59 : decode cX1_key 59 = .ok (.aload_n 0, 1) := dk_42 (dk_at dksX1_key_2 12 rfl rfl)
theorem dX1_key_60 : decode cX1_key 60 = .ok (.aload_n 3, 1) := dk_45 (dk_at dksX1_key_2 13 rfl rfl)
theorem dX1_key_61 : decode cX1_key 61 = .ok (.invokevirtual 272, 3) := dk_182 1 16 (dk_at dksX1_key_2 14 rfl rfl)
theorem dX1_key_64 : decode cX1_key 64 = .ok (.goto (-27), 3) := dk_167 255 229 (dk_at dksX1_key_2 17 rfl rfl)
theorem dX1_key_67 : decode cX1_key 67 = .ok (.aload_n 0, 1) := dk_42 (dk_at dksX1_key_2 20 rfl rfl)
theorem dX1_key_68 : decode cX1_key 68 = .ok (.getfield 105, 3) := dk_180 0 105 (dk_at dksX1_key_2 21 rfl rfl)
theorem dX1_key_71 : decode cX1_key 71 = .ok (.bipush 22, 2) := dk_16 22 (dk_at dksX1_key_3 0 rfl rfl)
theorem dX1_key_73 : decode cX1_key 73 = .ok (.if_icmp .eq 9, 3) := dk_159 0 9 (dk_at dksX1_key_3 2 rfl rfl)
theorem dX1_key_76 : decode cX1_key 76 = .ok (.aload_n 0, 1) := dk_42 (dk_at dksX1_key_3 5 rfl rfl)
theorem dX1_key_77 : decode cX1_key 77 = .ok (.iconst 1, 1) := dk_4 (dk_at dksX1_key_3 6 rfl rfl)
theorem dX1_key_78 : decode cX1_key 78 = .ok (.invokevirtual 132, 3) := dk_182 0 132 (dk_at dksX1_key_3 7 rfl rfl)
theorem dX1_key_81 : decode cX1_key 81 = .ok (.athrow, 1) := dk_191 (dk_at dksX1_key_3 10 rfl rfl)
theorem dX1_key_82 : decode cX1_key 82 = .ok (.iconst 0, 1) := dk_3 (dk_at dksX1_key_3 11 rfl rfl)
theorem dX1_key_83 : decode cX1_key 83 = .ok (.istore 4, 2) := dk_54 4 (dk_at dksX1_key_3 12 rfl rfl)
theorem dX1_key_85 : decode cX1_key 85 = .ok (.iload 4, 2) := dk_21 4 (dk_at dksX1_key_3 14 rfl rfl)
theorem dX1_key_87 : decode cX1_key 87 = .ok (.aload_n 3, 1) := dk_45 (dk_at dksX1_key_3 16 rfl rfl)
theorem dX1_key_88 : decode cX1_key 88 = .ok (.getfield 228, 3) := dk_180 0 228 (dk_at dksX1_key_3 17 rfl rfl)
theorem dX1_key_91 : decode cX1_key 91 = .ok (.invokeinterface 233 1, 5) := by decide +kernel
theorem dX1_key_96 : decode cX1_key 96 = .ok (.if_icmp .ge 53, 3) := dk_162 0 53 (dk_at dksX1_key_4 5 rfl rfl)
theorem dX1_key_99 : decode cX1_key 99 = .ok (.aload_n 0, 1) := dk_42 (dk_at dksX1_key_4 8 rfl rfl)
theorem dX1_key_100 : decode cX1_key 100 = .ok (.aload_n 3, 1) := dk_45 (dk_at dksX1_key_4 9 rfl rfl)
theorem dX1_key_101 : decode cX1_key 101 = .ok (.aload_n 3, 1) := dk_45 (dk_at dksX1_key_4 10 rfl rfl)
theorem dX1_key_102 : decode cX1_key 102 = .ok (.getfield 228, 3) := dk_180 0 228 (dk_at dksX1_key_4 11 rfl rfl)
theorem dX1_key_105 : decode cX1_key 105 = .ok (.iload 4, 2) := dk_21 4 (dk_at dksX1_key_4 14 rfl rfl)
theorem dX1_key_107 : decode cX1_key 107 = .ok (.invokeinterface 238 2, 5) := by decide +kernel
theorem dX1_key_112 : decode cX1_key 112 = .ok (.checkcast 242, 3) := dk_192 0 242 (dk_at dksX1_key_4 21 rfl rfl)
theorem dX1_key_115 : decode cX1_key 115 = .ok (.getfield 258, 3) := dk_180 1 2 (dk_at dksX1_key_5 0 rfl rfl)
theorem dX1_key_118 : decode cX1_key 118 = .ok (.invokevirtual 275, 3) := dk_182 1 19 (dk_at dksX1_key_5 3 rfl rfl)
theorem dX1_key_121 : decode cX1_key 121 = .ok (.aload_n 0, 1) := dk_42 (dk_at dksX1_key_5 6 rfl rfl)
theorem dX1_key_122 : decode cX1_key 122 = .ok (.aload_n 3, 1) := dk_45 (dk_at dksX1_key_5 7 rfl rfl)
theorem dX1_key_123 : decode cX1_key 123 = .ok (.aload_n 3, 1) := dk_45 (dk_at dksX1_key_5 8 rfl rfl)
theorem dX1_key_124 : decode cX1_key 124 = .ok (.getfield 228, 3) := dk_180 0 228 (dk_at dksX1_key_5 9 rfl rfl)
theorem dX1_key_127 : decode cX1_key 127 = .ok (.iload 4, 2) := dk_21 4 (dk_at dksX1_key_5 12 rfl rfl)
theorem dX1_key_129 : decode cX1_key 129 = .ok (.invokeinterface 238 2, 5) := by decide +kernel
theorem dX1_key_134 : decode cX1_key 134 = .ok (.checkcast 242, 3) := dk_192 0 242 (dk_at dksX1_key_5 19 rfl rfl)
theorem dX1_key_137 : decode cX1_key 137 = .ok (.getfield 262, 3) := dk_180 1 6 (dk_at dksX1_key_6 0 rfl rfl)
theorem dX1_key_140 : decode cX1_key 140 = .ok (.invokevirtual 275, 3) := dk_182 1 19 (dk_at dksX1_key_6 3 rfl rfl)
theorem dX1_key_143 : decode cX1_key 143 = .ok (.iinc 4 1, 3) := dk_132 4 1 (dk_at dksX1_key_6 6 rfl rfl)
theorem dX1_key_146 : decode cX1_key 146 = .ok (.goto (-61), 3) := dk_167 255 195 (dk_at dksX1_key_6 9 rfl rfl)
theorem dX1_key_149 : decode cX1_key 149 = .ok (.aload_n 3, 1) := dk_45 (dk_at dksX1_key_6 12 rfl rfl)
theorem dX1_key_150 : decode cX1_key 150 = .ok (.areturn, 1) := dk_176 (dk_at dksX1_key_6 13 rfl rfl)
abbrev cX1_next : ByteArray := prog_13_method_6_code
def yX1_next : MethodName := ⟨RX1, "next", "()V"⟩
def dkwX1_next_11 : List UInt8 := [16, 21, 181, 0, 105, 42, 89, 180, 0, 99, 4, 96, 181, 0, 99, 177]
abbrev dktX1_next_11 : List UInt8 := dkwX1_next_11 ++ []
def dkwX1_next_10 : List UInt8 := [180, 0, 99, 4, 96, 181, 0, 99, 167, 255, 206, 42, 42, 42, 180, 0, 99, 182, 0, 72, 181, 0, 102, 42]
abbrev dktX1_next_10 : List UInt8 := dkwX1_next_10 ++ dktX1_next_11
def dkwX1_next_9 : List UInt8 := [180, 0, 102, 104, 42, 42, 180, 0, 99, 182, 0, 72, 96, 16, 48, 100, 184, 0, 119, 181, 0, 102, 42, 89]
abbrev dktX1_next_9 : List UInt8 := dkwX1_next_9 ++ dktX1_next_10
def dkwX1_next_8 : List UInt8 := [16, 20, 181, 0, 105, 42, 42, 180, 0, 99, 182, 0, 116, 153, 0, 73, 42, 17, 39, 16, 16, 10, 42]
abbrev dktX1_next_8 : List UInt8 := dkwX1_next_8 ++ dktX1_next_9
def dkwX1_next_7 : List UInt8 := [181, 0, 105, 132, 1, 1, 167, 255, 217, 167, 0, 101, 42, 42, 180, 0, 99, 182, 0, 116, 153, 0, 62, 42]
abbrev dktX1_next_7 : List UInt8 := dkwX1_next_7 ++ dktX1_next_8
def dkwX1_next_6 : List UInt8 := [180, 0, 53, 27, 50, 42, 180, 0, 99, 42, 180, 0, 96, 100, 182, 0, 112, 153, 0, 8, 42, 27]
abbrev dktX1_next_6 : List UInt8 := dkwX1_next_6 ++ dktX1_next_7
def dkwX1_next_5 : List UInt8 := [167, 255, 235, 42, 16, 23, 181, 0, 105, 3, 60, 27, 42, 180, 0, 53, 190, 162, 0, 36, 42, 42]
abbrev dktX1_next_5 : List UInt8 := dkwX1_next_5 ++ dktX1_next_6
def dkwX1_next_4 : List UInt8 := [153, 0, 80, 42, 42, 180, 0, 99, 182, 0, 108, 153, 0, 16, 42, 89, 180, 0, 99, 4, 96, 181, 0, 99]
abbrev dktX1_next_4 : List UInt8 := dkwX1_next_4 ++ dktX1_next_5
def dkwX1_next_3 : List UInt8 := [180, 0, 64, 160, 0, 12, 42, 16, 22, 181, 0, 105, 167, 0, 189, 42, 42, 180, 0, 99, 182, 0, 108]
abbrev dktX1_next_3 : List UInt8 := dkwX1_next_3 ++ dktX1_next_4
def dkwX1_next_2 : List UInt8 := [181, 0, 99, 167, 255, 207, 42, 42, 180, 0, 99, 181, 0, 96, 42, 3, 181, 0, 102, 42, 180, 0, 99, 42]
abbrev dktX1_next_2 : List UInt8 := dkwX1_next_2 ++ dktX1_next_3
def dkwX1_next_1 : List UInt8 := [159, 0, 17, 42, 180, 0, 68, 42, 180, 0, 99, 51, 16, 10, 160, 0, 16, 42, 89, 180, 0, 99, 4, 96]
abbrev dktX1_next_1 : List UInt8 := dkwX1_next_1 ++ dktX1_next_2
def dkwX1_next_0 : List UInt8 := [42, 180, 0, 99, 42, 180, 0, 64, 162, 0, 44, 42, 180, 0, 68, 42, 180, 0, 99, 51, 16, 32]
abbrev dktX1_next_0 : List UInt8 := dkwX1_next_0 ++ dktX1_next_1
theorem dksX1_next_0 : cX1_next.data.toList.drop 0 = dktX1_next_0 := by decide +kernel
theorem dksX1_next_1 : cX1_next.data.toList.drop 22 = dktX1_next_1 := dk_seg dksX1_next_0 22 rfl rfl
theorem dksX1_next_2 : cX1_next.data.toList.drop 46 = dktX1_next_2 := dk_seg dksX1_next_1 24 rfl rfl
theorem dksX1_next_3 : cX1_next.data.toList.drop 70 = dktX1_next_3 := dk_seg dksX1_next_2 24 rfl rfl
theorem dksX1_next_4 : cX1_next.data.toList.drop 93 = dktX1_next_4 := dk_seg dksX1_next_3 23 rfl rfl
theorem dksX1_next_5 : cX1_next.data.toList.drop 117 = dktX1_next_5 := dk_seg dksX1_next_4 24 rfl rfl
theorem dksX1_next_6 : cX1_next.data.toList.drop 139 = dktX1_next_6 := dk_seg dksX1_next_5 22 rfl rfl
theorem dksX1_next_7 : cX1_next.data.toList.drop 161 = dktX1_next_7 := dk_seg dksX1_next_6 22 rfl rfl
theorem dksX1_next_8 : cX1_next.data.toList.drop 185 = dktX1_next_8 := dk_seg dksX1_next_7 24 rfl rfl
theorem dksX1_next_9 : cX1_next.data.toList.drop 208 = dktX1_next_9 := dk_seg dksX1_next_8 23 rfl rfl
theorem dksX1_next_10 : cX1_next.data.toList.drop 232 = dktX1_next_10 := dk_seg dksX1_next_9 24 rfl rfl
theorem dksX1_next_11 : cX1_next.data.toList.drop 256 = dktX1_next_11 := dk_seg dksX1_next_10 24 rfl rfl
theorem dX1_next_0 : decode cX1_next 0 = .ok (.aload_n 0, 1) := dk_42 (dk_at dksX1_next_0 0 rfl rfl)
theorem dX1_next_1 : decode cX1_next 1 = .ok (.getfield 99, 3) := dk_180 0 99 (dk_at dksX1_next_0 1 rfl rfl)
theorem dX1_next_4 : decode cX1_next 4 = .ok (.aload_n 0, 1) := dk_42 (dk_at dksX1_next_0 4 rfl rfl)
theorem dX1_next_5 : decode cX1_next 5 = .ok (.getfield 64, 3) := dk_180 0 64 (dk_at dksX1_next_0 5 rfl rfl)
theorem dX1_next_8 : decode cX1_next 8 = .ok (.if_icmp .ge 44, 3) := dk_162 0 44 (dk_at dksX1_next_0 8 rfl rfl)
theorem dX1_next_11 : decode cX1_next 11 = .ok (.aload_n 0, 1) := dk_42 (dk_at dksX1_next_0 11 rfl rfl)
theorem dX1_next_12 : decode cX1_next 12 = .ok (.getfield 68, 3) := dk_180 0 68 (dk_at dksX1_next_0 12 rfl rfl)
theorem dX1_next_15 : decode cX1_next 15 = .ok (.aload_n 0, 1) := dk_42 (dk_at dksX1_next_0 15 rfl rfl)
theorem dX1_next_16 : decode cX1_next 16 = .ok (.getfield 99, 3) := dk_180 0 99 (dk_at dksX1_next_0 16 rfl rfl)
theorem dX1_next_19 : decode cX1_next 19 = .ok (.baload, 1) := dk_51 (dk_at dksX1_next_0 19 rfl rfl)
theorem dX1_next_20 : decode cX1_next 20 = .ok (.bipush 32, 2) := dk_16 32 (dk_at dksX1_next_0 20 rfl rfl)
theorem dX1_next_22 : decode cX1_next 22 = .ok (.if_icmp .eq 17, 3) := dk_159 0 17 (dk_at dksX1_next_1 0 rfl rfl)
theorem dX1_next_25 : decode cX1_next 25 = .ok (.aload_n 0, 1) := dk_42 (dk_at dksX1_next_1 3 rfl rfl)
theorem dX1_next_26 : decode cX1_next 26 = .ok (.getfield 68, 3) := dk_180 0 68 (dk_at dksX1_next_1 4 rfl rfl)
theorem dX1_next_29 : decode cX1_next 29 = .ok (.aload_n 0, 1) := dk_42 (dk_at dksX1_next_1 7 rfl rfl)
theorem dX1_next_30 : decode cX1_next 30 = .ok (.getfield 99, 3) := dk_180 0 99 (dk_at dksX1_next_1 8 rfl rfl)
theorem dX1_next_33 : decode cX1_next 33 = .ok (.baload, 1) := dk_51 (dk_at dksX1_next_1 11 rfl rfl)
theorem dX1_next_34 : decode cX1_next 34 = .ok (.bipush 10, 2) := dk_16 10 (dk_at dksX1_next_1 12 rfl rfl)
theorem dX1_next_36 : decode cX1_next 36 = .ok (.if_icmp .ne 16, 3) := dk_160 0 16 (dk_at dksX1_next_1 14 rfl rfl)
theorem dX1_next_39 : decode cX1_next 39 = .ok (.aload_n 0, 1) := dk_42 (dk_at dksX1_next_1 17 rfl rfl)
theorem dX1_next_40 : decode cX1_next 40 = .ok (.dup, 1) := dk_89 (dk_at dksX1_next_1 18 rfl rfl)
theorem dX1_next_41 : decode cX1_next 41 = .ok (.getfield 99, 3) := dk_180 0 99 (dk_at dksX1_next_1 19 rfl rfl)
theorem dX1_next_44 : decode cX1_next 44 = .ok (.iconst 1, 1) := dk_4 (dk_at dksX1_next_1 22 rfl rfl)
theorem dX1_next_45 : decode cX1_next 45 = .ok (.iadd, 1) := dk_96 (dk_at dksX1_next_1 23 rfl rfl)
theorem dX1_next_46 : decode cX1_next 46 = .ok (.putfield 99, 3) := dk_181 0 99 (dk_at dksX1_next_2 0 rfl rfl)
theorem dX1_next_49 : decode cX1_next 49 = .ok (.goto (-49), 3) := dk_167 255 207 (dk_at dksX1_next_2 3 rfl rfl)
theorem dX1_next_52 : decode cX1_next 52 = .ok (.aload_n 0, 1) := dk_42 (dk_at dksX1_next_2 6 rfl rfl)
theorem dX1_next_53 : decode cX1_next 53 = .ok (.aload_n 0, 1) := dk_42 (dk_at dksX1_next_2 7 rfl rfl)
theorem dX1_next_54 : decode cX1_next 54 = .ok (.getfield 99, 3) := dk_180 0 99 (dk_at dksX1_next_2 8 rfl rfl)
theorem dX1_next_57 : decode cX1_next 57 = .ok (.putfield 96, 3) := dk_181 0 96 (dk_at dksX1_next_2 11 rfl rfl)
theorem dX1_next_60 : decode cX1_next 60 = .ok (.aload_n 0, 1) := dk_42 (dk_at dksX1_next_2 14 rfl rfl)
theorem dX1_next_61 : decode cX1_next 61 = .ok (.iconst 0, 1) := dk_3 (dk_at dksX1_next_2 15 rfl rfl)
theorem dX1_next_62 : decode cX1_next 62 = .ok (.putfield 102, 3) := dk_181 0 102 (dk_at dksX1_next_2 16 rfl rfl)
theorem dX1_next_65 : decode cX1_next 65 = .ok (.aload_n 0, 1) := dk_42 (dk_at dksX1_next_2 19 rfl rfl)
theorem dX1_next_66 : decode cX1_next 66 = .ok (.getfield 99, 3) := dk_180 0 99 (dk_at dksX1_next_2 20 rfl rfl)
theorem dX1_next_69 : decode cX1_next 69 = .ok (.aload_n 0, 1) := dk_42 (dk_at dksX1_next_2 23 rfl rfl)
theorem dX1_next_70 : decode cX1_next 70 = .ok (.getfield 64, 3) := dk_180 0 64 (dk_at dksX1_next_3 0 rfl rfl)
theorem dX1_next_73 : decode cX1_next 73 = .ok (.if_icmp .ne 12, 3) := dk_160 0 12 (dk_at dksX1_next_3 3 rfl rfl)
theorem dX1_next_76 : decode cX1_next 76 = .ok (.aload_n 0, 1) := dk_42 (dk_at dksX1_next_3 6 rfl rfl)
theorem dX1_next_77 : decode cX1_next 77 = .ok (.bipush 22, 2) := dk_16 22 (dk_at dksX1_next_3 7 rfl rfl)
theorem dX1_next_79 : decode cX1_next 79 = .ok (.putfield 105, 3) := dk_181 0 105 (dk_at dksX1_next_3 9 rfl rfl)
theorem dX1_next_82 : decode cX1_next 82 = .ok (.goto 189, 3) := dk_167 0 189 (dk_at dksX1_next_3 12 rfl rfl)
theorem dX1_next_85 : decode cX1_next 85 = .ok (.aload_n 0, 1) := dk_42 (dk_at dksX1_next_3 15 rfl rfl)
theorem dX1_next_86 : decode cX1_next 86 = .ok (.aload_n 0, 1) := dk_42 (dk_at dksX1_next_3 16 rfl rfl)
theorem dX1_next_87 : decode cX1_next 87 = .ok (.getfield 99, 3) := dk_180 0 99 (dk_at dksX1_next_3 17 rfl rfl)
theorem dX1_next_90 : decode cX1_next 90 = .ok (.invokevirtual 108, 3) := dk_182 0 108 (dk_at dksX1_next_3 20 rfl rfl)
theorem dX1_next_93 : decode cX1_next 93 = .ok (.ifCond .eq 80, 3) := dk_153 0 80 (dk_at dksX1_next_4 0 rfl rfl)
theorem dX1_next_96 : decode cX1_next 96 = .ok (.aload_n 0, 1) := dk_42 (dk_at dksX1_next_4 3 rfl rfl)
theorem dX1_next_97 : decode cX1_next 97 = .ok (.aload_n 0, 1) := dk_42 (dk_at dksX1_next_4 4 rfl rfl)
theorem dX1_next_98 : decode cX1_next 98 = .ok (.getfield 99, 3) := dk_180 0 99 (dk_at dksX1_next_4 5 rfl rfl)
theorem dX1_next_101 : decode cX1_next 101 = .ok (.invokevirtual 108, 3) := dk_182 0 108 (dk_at dksX1_next_4 8 rfl rfl)
theorem dX1_next_104 : decode cX1_next 104 = .ok (.ifCond .eq 16, 3) := dk_153 0 16 (dk_at dksX1_next_4 11 rfl rfl)
theorem dX1_next_107 : decode cX1_next 107 = .ok (.aload_n 0, 1) := dk_42 (dk_at dksX1_next_4 14 rfl rfl)
theorem dX1_next_108 : decode cX1_next 108 = .ok (.dup, 1) := dk_89 (dk_at dksX1_next_4 15 rfl rfl)
theorem dX1_next_109 : decode cX1_next 109 = .ok (.getfield 99, 3) := dk_180 0 99 (dk_at dksX1_next_4 16 rfl rfl)
theorem dX1_next_112 : decode cX1_next 112 = .ok (.iconst 1, 1) := dk_4 (dk_at dksX1_next_4 19 rfl rfl)
theorem dX1_next_113 : decode cX1_next 113 = .ok (.iadd, 1) := dk_96 (dk_at dksX1_next_4 20 rfl rfl)
theorem dX1_next_114 : decode cX1_next 114 = .ok (.putfield 99, 3) := dk_181 0 99 (dk_at dksX1_next_4 21 rfl rfl)
theorem dX1_next_117 : decode cX1_next 117 = .ok (.goto (-21), 3) := dk_167 255 235 (dk_at dksX1_next_5 0 rfl rfl)
theorem dX1_next_120 : decode cX1_next 120 = .ok (.aload_n 0, 1) := dk_42 (dk_at dksX1_next_5 3 rfl rfl)
theorem dX1_next_121 : decode cX1_next 121 = .ok (.bipush 23, 2) := dk_16 23 (dk_at dksX1_next_5 4 rfl rfl)
theorem dX1_next_123 : decode cX1_next 123 = .ok (.putfield 105, 3) := dk_181 0 105 (dk_at dksX1_next_5 6 rfl rfl)
theorem dX1_next_126 : decode cX1_next 126 = .ok (.iconst 0, 1) := dk_3 (dk_at dksX1_next_5 9 rfl rfl)
theorem dX1_next_127 : decode cX1_next 127 = .ok (.istore_n 1, 1) := dk_60 (dk_at dksX1_next_5 10 rfl rfl)
theorem dX1_next_128 : decode cX1_next 128 = .ok (.iload_n 1, 1) := dk_27 (dk_at dksX1_next_5 11 rfl rfl)
theorem dX1_next_129 : decode cX1_next 129 = .ok (.aload_n 0, 1) := dk_42 (dk_at dksX1_next_5 12 rfl rfl)
theorem dX1_next_130 : decode cX1_next 130 = .ok (.getfield 53, 3) := dk_180 0 53 (dk_at dksX1_next_5 13 rfl rfl)
theorem dX1_next_133 : decode cX1_next 133 = .ok (.arraylength, 1) := dk_190 (dk_at dksX1_next_5 16 rfl rfl)
theorem dX1_next_134 : decode cX1_next 134 = .ok (.if_icmp .ge 36, 3) := dk_162 0 36 (dk_at dksX1_next_5 17 rfl rfl)
theorem dX1_next_137 : decode cX1_next 137 = .ok (.aload_n 0, 1) := dk_42 (dk_at dksX1_next_5 20 rfl rfl)
theorem dX1_next_138 : decode cX1_next 138 = .ok (.aload_n 0, 1) := dk_42 (dk_at dksX1_next_5 21 rfl rfl)
theorem dX1_next_139 : decode cX1_next 139 = .ok (.getfield 53, 3) := dk_180 0 53 (dk_at dksX1_next_6 0 rfl rfl)
theorem dX1_next_142 : decode cX1_next 142 = .ok (.iload_n 1, 1) := dk_27 (dk_at dksX1_next_6 3 rfl rfl)
theorem dX1_next_143 : decode cX1_next 143 = .ok (.aaload, 1) := dk_50 (dk_at dksX1_next_6 4 rfl rfl)
theorem dX1_next_144 : decode cX1_next 144 = .ok (.aload_n 0, 1) := dk_42 (dk_at dksX1_next_6 5 rfl rfl)
theorem dX1_next_145 : decode cX1_next 145 = .ok (.getfield 99, 3) := dk_180 0 99 (dk_at dksX1_next_6 6 rfl rfl)
theorem dX1_next_148 : decode cX1_next 148 = .ok (.aload_n 0, 1) := dk_42 (dk_at dksX1_next_6 9 rfl rfl)
theorem dX1_next_149 : decode cX1_next 149 = .ok (.getfield 96, 3) := dk_180 0 96 (dk_at dksX1_next_6 10 rfl rfl)
theorem dX1_next_152 : decode cX1_next 152 = .ok (.isub, 1) := dk_100 (dk_at dksX1_next_6 13 rfl rfl)
theorem dX1_next_153 : decode cX1_next 153 = .ok (.invokevirtual 112, 3) := dk_182 0 112 (dk_at dksX1_next_6 14 rfl rfl)
theorem dX1_next_156 : decode cX1_next 156 = .ok (.ifCond .eq 8, 3) := dk_153 0 8 (dk_at dksX1_next_6 17 rfl rfl)
theorem dX1_next_159 : decode cX1_next 159 = .ok (.aload_n 0, 1) := dk_42 (dk_at dksX1_next_6 20 rfl rfl)
theorem dX1_next_160 : decode cX1_next 160 = .ok (.iload_n 1, 1) := dk_27 (dk_at dksX1_next_6 21 rfl rfl)
theorem dX1_next_161 : decode cX1_next 161 = .ok (.putfield 105, 3) := dk_181 0 105 (dk_at dksX1_next_7 0 rfl rfl)
theorem dX1_next_164 : decode cX1_next 164 = .ok (.iinc 1 1, 3) := dk_132 1 1 (dk_at dksX1_next_7 3 rfl rfl)
theorem dX1_next_167 : decode cX1_next 167 = .ok (.goto (-39), 3) := dk_167 255 217 (dk_at dksX1_next_7 6 rfl rfl)
theorem dX1_next_170 : decode cX1_next 170 = .ok (.goto 101, 3) := dk_167 0 101 (dk_at dksX1_next_7 9 rfl rfl)
theorem dX1_next_173 : decode cX1_next 173 = .ok (.aload_n 0, 1) := dk_42 (dk_at dksX1_next_7 12 rfl rfl)
theorem dX1_next_174 : decode cX1_next 174 = .ok (.aload_n 0, 1) := dk_42 (dk_at dksX1_next_7 13 rfl rfl)
theorem dX1_next_175 : decode cX1_next 175 = .ok (.getfield 99, 3) := dk_180 0 99 (dk_at dksX1_next_7 14 rfl rfl)
theorem dX1_next_178 : decode cX1_next 178 = .ok (.invokevirtual 116, 3) := dk_182 0 116 (dk_at dksX1_next_7 17 rfl rfl)
theorem dX1_next_181 : decode cX1_next 181 = .ok (.ifCond .eq 62, 3) := dk_153 0 62 (dk_at dksX1_next_7 20 rfl rfl)
theorem dX1_next_184 : decode cX1_next 184 = .ok (.aload_n 0, 1) := dk_42 (dk_at dksX1_next_7 23 rfl rfl)
theorem dX1_next_185 : decode cX1_next 185 = .ok (.bipush 20, 2) := dk_16 20 (dk_at dksX1_next_8 0 rfl rfl)
theorem dX1_next_187 : decode cX1_next 187 = .ok (.putfield 105, 3) := dk_181 0 105 (dk_at dksX1_next_8 2 rfl rfl)
theorem dX1_next_190 : decode cX1_next 190 = .ok (.aload_n 0, 1) := dk_42 (dk_at dksX1_next_8 5 rfl rfl)
theorem dX1_next_191 : decode cX1_next 191 = .ok (.aload_n 0, 1) := dk_42 (dk_at dksX1_next_8 6 rfl rfl)
theorem dX1_next_192 : decode cX1_next 192 = .ok (.getfield 99, 3) := dk_180 0 99 (dk_at dksX1_next_8 7 rfl rfl)
theorem dX1_next_195 : decode cX1_next 195 = .ok (.invokevirtual 116, 3) := dk_182 0 116 (dk_at dksX1_next_8 10 rfl rfl)
theorem dX1_next_198 : decode cX1_next 198 = .ok (.ifCond .eq 73, 3) := dk_153 0 73 (dk_at dksX1_next_8 13 rfl rfl)
theorem dX1_next_201 : decode cX1_next 201 = .ok (.aload_n 0, 1) := dk_42 (dk_at dksX1_next_8 16 rfl rfl)
theorem dX1_next_202 : decode cX1_next 202 = .ok (.sipush 10000, 3) := dk_17 39 16 (dk_at dksX1_next_8 17 rfl rfl)
theorem dX1_next_205 : decode cX1_next 205 = .ok (.bipush 10, 2) := dk_16 10 (dk_at dksX1_next_8 20 rfl rfl)
theorem dX1_next_207 : decode cX1_next 207 = .ok (.aload_n 0, 1) := dk_42 (dk_at dksX1_next_8 22 rfl rfl)
theorem dX1_next_208 : decode cX1_next 208 = .ok (.getfield 102, 3) := dk_180 0 102 (dk_at dksX1_next_9 0 rfl rfl)
theorem dX1_next_211 : decode cX1_next 211 = .ok (.imul, 1) := dk_104 (dk_at dksX1_next_9 3 rfl rfl)
theorem dX1_next_212 : decode cX1_next 212 = .ok (.aload_n 0, 1) := dk_42 (dk_at dksX1_next_9 4 rfl rfl)
theorem dX1_next_213 : decode cX1_next 213 = .ok (.aload_n 0, 1) := dk_42 (dk_at dksX1_next_9 5 rfl rfl)
theorem dX1_next_214 : decode cX1_next 214 = .ok (.getfield 99, 3) := dk_180 0 99 (dk_at dksX1_next_9 6 rfl rfl)
theorem dX1_next_217 : decode cX1_next 217 = .ok (.invokevirtual 72, 3) := dk_182 0 72 (dk_at dksX1_next_9 9 rfl rfl)
theorem dX1_next_220 : decode cX1_next 220 = .ok (.iadd, 1) := dk_96 (dk_at dksX1_next_9 12 rfl rfl)
theorem dX1_next_221 : decode cX1_next 221 = .ok (.bipush 48, 2) := dk_16 48 (dk_at dksX1_next_9 13 rfl rfl)
theorem dX1_next_223 : decode cX1_next 223 = .ok (.isub, 1) := dk_100 (dk_at dksX1_next_9 15 rfl rfl)
theorem dX1_next_224 : decode cX1_next 224 = .ok (.invokestatic 119, 3) := dk_184 0 119 (dk_at dksX1_next_9 16 rfl rfl)
theorem dX1_next_227 : decode cX1_next 227 = .ok (.putfield 102, 3) := dk_181 0 102 (dk_at dksX1_next_9 19 rfl rfl)
theorem dX1_next_230 : decode cX1_next 230 = .ok (.aload_n 0, 1) := dk_42 (dk_at dksX1_next_9 22 rfl rfl)
theorem dX1_next_231 : decode cX1_next 231 = .ok (.dup, 1) := dk_89 (dk_at dksX1_next_9 23 rfl rfl)
theorem dX1_next_232 : decode cX1_next 232 = .ok (.getfield 99, 3) := dk_180 0 99 (dk_at dksX1_next_10 0 rfl rfl)
theorem dX1_next_235 : decode cX1_next 235 = .ok (.iconst 1, 1) := dk_4 (dk_at dksX1_next_10 3 rfl rfl)
theorem dX1_next_236 : decode cX1_next 236 = .ok (.iadd, 1) := dk_96 (dk_at dksX1_next_10 4 rfl rfl)
theorem dX1_next_237 : decode cX1_next 237 = .ok (.putfield 99, 3) := dk_181 0 99 (dk_at dksX1_next_10 5 rfl rfl)
theorem dX1_next_240 : decode cX1_next 240 = .ok (.goto (-50), 3) := dk_167 255 206 (dk_at dksX1_next_10 8 rfl rfl)
theorem dX1_next_243 : decode cX1_next 243 = .ok (.aload_n 0, 1) := dk_42 (dk_at dksX1_next_10 11 rfl rfl)
theorem dX1_next_244 : decode cX1_next 244 = .ok (.aload_n 0, 1) := dk_42 (dk_at dksX1_next_10 12 rfl rfl)
theorem dX1_next_245 : decode cX1_next 245 = .ok (.aload_n 0, 1) := dk_42 (dk_at dksX1_next_10 13 rfl rfl)
theorem dX1_next_246 : decode cX1_next 246 = .ok (.getfield 99, 3) := dk_180 0 99 (dk_at dksX1_next_10 14 rfl rfl)
theorem dX1_next_249 : decode cX1_next 249 = .ok (.invokevirtual 72, 3) := dk_182 0 72 (dk_at dksX1_next_10 17 rfl rfl)
theorem dX1_next_252 : decode cX1_next 252 = .ok (.putfield 102, 3) := dk_181 0 102 (dk_at dksX1_next_10 20 rfl rfl)
theorem dX1_next_255 : decode cX1_next 255 = .ok (.aload_n 0, 1) := dk_42 (dk_at dksX1_next_10 23 rfl rfl)
theorem dX1_next_256 : decode cX1_next 256 = .ok (.bipush 21, 2) := dk_16 21 (dk_at dksX1_next_11 0 rfl rfl)
theorem dX1_next_258 : decode cX1_next 258 = .ok (.putfield 105, 3) := dk_181 0 105 (dk_at dksX1_next_11 2 rfl rfl)
theorem dX1_next_261 : decode cX1_next 261 = .ok (.aload_n 0, 1) := dk_42 (dk_at dksX1_next_11 5 rfl rfl)
theorem dX1_next_262 : decode cX1_next 262 = .ok (.dup, 1) := dk_89 (dk_at dksX1_next_11 6 rfl rfl)
theorem dX1_next_263 : decode cX1_next 263 = .ok (.getfield 99, 3) := dk_180 0 99 (dk_at dksX1_next_11 7 rfl rfl)
theorem dX1_next_266 : decode cX1_next 266 = .ok (.iconst 1, 1) := dk_4 (dk_at dksX1_next_11 10 rfl rfl)
theorem dX1_next_267 : decode cX1_next 267 = .ok (.iadd, 1) := dk_96 (dk_at dksX1_next_11 11 rfl rfl)
theorem dX1_next_268 : decode cX1_next 268 = .ok (.putfield 99, 3) := dk_181 0 99 (dk_at dksX1_next_11 12 rfl rfl)
theorem dX1_next_271 : decode cX1_next 271 = .ok (.return_, 1) := dk_177 (dk_at dksX1_next_11 15 rfl rfl)
abbrev cX1_isSmall : ByteArray := prog_13_method_3_code
def yX1_isSmall : MethodName := ⟨RX1, "isSmall", "(I)Z"⟩
def dkwX1_isSmall_0 : List UInt8 := [42, 27, 182, 0, 72, 133, 20, 0, 76, 20, 0, 78, 184, 0, 80, 172]
abbrev dktX1_isSmall_0 : List UInt8 := dkwX1_isSmall_0 ++ []
theorem dksX1_isSmall_0 : cX1_isSmall.data.toList.drop 0 = dktX1_isSmall_0 := by decide +kernel
theorem dX1_isSmall_0 : decode cX1_isSmall 0 = .ok (.aload_n 0, 1) := dk_42 (dk_at dksX1_isSmall_0 0 rfl rfl)
theorem dX1_isSmall_1 : decode cX1_isSmall 1 = .ok (.iload_n 1, 1) := dk_27 (dk_at dksX1_isSmall_0 1 rfl rfl)
theorem dX1_isSmall_2 : decode cX1_isSmall 2 = .ok (.invokevirtual 72, 3) := dk_182 0 72 (dk_at dksX1_isSmall_0 2 rfl rfl)
theorem dX1_isSmall_5 : decode cX1_isSmall 5 = .ok (.i2l, 1) := dk_133 (dk_at dksX1_isSmall_0 5 rfl rfl)
theorem dX1_isSmall_6 : decode cX1_isSmall 6 = .ok (.ldc2_w 76, 3) := dk_20 0 76 (dk_at dksX1_isSmall_0 6 rfl rfl)
theorem dX1_isSmall_9 : decode cX1_isSmall 9 = .ok (.ldc2_w 78, 3) := dk_20 0 78 (dk_at dksX1_isSmall_0 9 rfl rfl)
theorem dX1_isSmall_12 : decode cX1_isSmall 12 = .ok (.invokestatic 80, 3) := dk_184 0 80 (dk_at dksX1_isSmall_0 12 rfl rfl)
theorem dX1_isSmall_15 : decode cX1_isSmall 15 = .ok (.ireturn, 1) := dk_172 (dk_at dksX1_isSmall_0 15 rfl rfl)
abbrev cX1_byteAt : ByteArray := prog_13_method_2_code
def yX1_byteAt : MethodName := ⟨RX1, "byteAt", "(I)I"⟩
def dkwX1_byteAt_0 : List UInt8 := [27, 42, 180, 0, 64, 162, 0, 16, 42, 180, 0, 68, 27, 51, 17, 0, 255, 126, 167, 0, 4, 3, 172]
abbrev dktX1_byteAt_0 : List UInt8 := dkwX1_byteAt_0 ++ []
theorem dksX1_byteAt_0 : cX1_byteAt.data.toList.drop 0 = dktX1_byteAt_0 := by decide +kernel
theorem dX1_byteAt_0 : decode cX1_byteAt 0 = .ok (.iload_n 1, 1) := dk_27 (dk_at dksX1_byteAt_0 0 rfl rfl)
theorem dX1_byteAt_1 : decode cX1_byteAt 1 = .ok (.aload_n 0, 1) := dk_42 (dk_at dksX1_byteAt_0 1 rfl rfl)
theorem dX1_byteAt_2 : decode cX1_byteAt 2 = .ok (.getfield 64, 3) := dk_180 0 64 (dk_at dksX1_byteAt_0 2 rfl rfl)
theorem dX1_byteAt_5 : decode cX1_byteAt 5 = .ok (.if_icmp .ge 16, 3) := dk_162 0 16 (dk_at dksX1_byteAt_0 5 rfl rfl)
theorem dX1_byteAt_8 : decode cX1_byteAt 8 = .ok (.aload_n 0, 1) := dk_42 (dk_at dksX1_byteAt_0 8 rfl rfl)
theorem dX1_byteAt_9 : decode cX1_byteAt 9 = .ok (.getfield 68, 3) := dk_180 0 68 (dk_at dksX1_byteAt_0 9 rfl rfl)
theorem dX1_byteAt_12 : decode cX1_byteAt 12 = .ok (.iload_n 1, 1) := dk_27 (dk_at dksX1_byteAt_0 12 rfl rfl)
theorem dX1_byteAt_13 : decode cX1_byteAt 13 = .ok (.baload, 1) := dk_51 (dk_at dksX1_byteAt_0 13 rfl rfl)
theorem dX1_byteAt_14 : decode cX1_byteAt 14 = .ok (.sipush 255, 3) := dk_17 0 255 (dk_at dksX1_byteAt_0 14 rfl rfl)
theorem dX1_byteAt_17 : decode cX1_byteAt 17 = .ok (.iand, 1) := dk_126 (dk_at dksX1_byteAt_0 17 rfl rfl)
theorem dX1_byteAt_18 : decode cX1_byteAt 18 = .ok (.goto 4, 3) := dk_167 0 4 (dk_at dksX1_byteAt_0 18 rfl rfl)
theorem dX1_byteAt_21 : decode cX1_byteAt 21 = .ok (.iconst 0, 1) := dk_3 (dk_at dksX1_byteAt_0 21 rfl rfl)
theorem dX1_byteAt_22 : decode cX1_byteAt 22 = .ok (.ireturn, 1) := dk_172 (dk_at dksX1_byteAt_0 22 rfl rfl)
abbrev cX1_isWord : ByteArray := prog_13_method_5_code
def yX1_isWord : MethodName := ⟨RX1, "isWord", "(Ljava/lang/String;I)Z"⟩
def dkwX1_isWord_2 : List UInt8 := [167, 0, 4, 3, 62, 132, 4, 1, 167, 255, 217, 29, 172]
abbrev dktX1_isWord_2 : List UInt8 := dkwX1_isWord_2 ++ []
def dkwX1_isWord_1 : List UInt8 := [153, 0, 35, 43, 21, 4, 182, 0, 92, 42, 42, 180, 0, 96, 21, 4, 96, 182, 0, 72, 160, 0, 7, 4]
abbrev dktX1_isWord_1 : List UInt8 := dkwX1_isWord_1 ++ dktX1_isWord_2
def dkwX1_isWord_0 : List UInt8 := [43, 182, 0, 88, 28, 160, 0, 7, 4, 167, 0, 4, 3, 62, 3, 54, 4, 21, 4, 28, 162, 0, 39, 29]
abbrev dktX1_isWord_0 : List UInt8 := dkwX1_isWord_0 ++ dktX1_isWord_1
theorem dksX1_isWord_0 : cX1_isWord.data.toList.drop 0 = dktX1_isWord_0 := by decide +kernel
theorem dksX1_isWord_1 : cX1_isWord.data.toList.drop 24 = dktX1_isWord_1 := dk_seg dksX1_isWord_0 24 rfl rfl
theorem dksX1_isWord_2 : cX1_isWord.data.toList.drop 48 = dktX1_isWord_2 := dk_seg dksX1_isWord_1 24 rfl rfl
theorem dX1_isWord_0 : decode cX1_isWord 0 = .ok (.aload_n 1, 1) := dk_43 (dk_at dksX1_isWord_0 0 rfl rfl)
theorem dX1_isWord_1 : decode cX1_isWord 1 = .ok (.invokevirtual 88, 3) := dk_182 0 88 (dk_at dksX1_isWord_0 1 rfl rfl)
theorem dX1_isWord_4 : decode cX1_isWord 4 = .ok (.iload_n 2, 1) := dk_28 (dk_at dksX1_isWord_0 4 rfl rfl)
theorem dX1_isWord_5 : decode cX1_isWord 5 = .ok (.if_icmp .ne 7, 3) := dk_160 0 7 (dk_at dksX1_isWord_0 5 rfl rfl)
theorem dX1_isWord_8 : decode cX1_isWord 8 = .ok (.iconst 1, 1) := dk_4 (dk_at dksX1_isWord_0 8 rfl rfl)
theorem dX1_isWord_9 : decode cX1_isWord 9 = .ok (.goto 4, 3) := dk_167 0 4 (dk_at dksX1_isWord_0 9 rfl rfl)
theorem dX1_isWord_12 : decode cX1_isWord 12 = .ok (.iconst 0, 1) := dk_3 (dk_at dksX1_isWord_0 12 rfl rfl)
theorem dX1_isWord_13 : decode cX1_isWord 13 = .ok (.istore_n 3, 1) := dk_62 (dk_at dksX1_isWord_0 13 rfl rfl)
theorem dX1_isWord_14 : decode cX1_isWord 14 = .ok (.iconst 0, 1) := dk_3 (dk_at dksX1_isWord_0 14 rfl rfl)
theorem dX1_isWord_15 : decode cX1_isWord 15 = .ok (.istore 4, 2) := dk_54 4 (dk_at dksX1_isWord_0 15 rfl rfl)
theorem dX1_isWord_17 : decode cX1_isWord 17 = .ok (.iload 4, 2) := dk_21 4 (dk_at dksX1_isWord_0 17 rfl rfl)
theorem dX1_isWord_19 : decode cX1_isWord 19 = .ok (.iload_n 2, 1) := dk_28 (dk_at dksX1_isWord_0 19 rfl rfl)
theorem dX1_isWord_20 : decode cX1_isWord 20 = .ok (.if_icmp .ge 39, 3) := dk_162 0 39 (dk_at dksX1_isWord_0 20 rfl rfl)
theorem dX1_isWord_23 : decode cX1_isWord 23 = .ok (.iload_n 3, 1) := dk_29 (dk_at dksX1_isWord_0 23 rfl rfl)
theorem dX1_isWord_24 : decode cX1_isWord 24 = .ok (.ifCond .eq 35, 3) := dk_153 0 35 (dk_at dksX1_isWord_1 0 rfl rfl)
theorem dX1_isWord_27 : decode cX1_isWord 27 = .ok (.aload_n 1, 1) := dk_43 (dk_at dksX1_isWord_1 3 rfl rfl)
theorem dX1_isWord_28 : decode cX1_isWord 28 = .ok (.iload 4, 2) := dk_21 4 (dk_at dksX1_isWord_1 4 rfl rfl)
theorem dX1_isWord_30 : decode cX1_isWord 30 = .ok (.invokevirtual 92, 3) := dk_182 0 92 (dk_at dksX1_isWord_1 6 rfl rfl)
theorem dX1_isWord_33 : decode cX1_isWord 33 = .ok (.aload_n 0, 1) := dk_42 (dk_at dksX1_isWord_1 9 rfl rfl)
theorem dX1_isWord_34 : decode cX1_isWord 34 = .ok (.aload_n 0, 1) := dk_42 (dk_at dksX1_isWord_1 10 rfl rfl)
theorem dX1_isWord_35 : decode cX1_isWord 35 = .ok (.getfield 96, 3) := dk_180 0 96 (dk_at dksX1_isWord_1 11 rfl rfl)
theorem dX1_isWord_38 : decode cX1_isWord 38 = .ok (.iload 4, 2) := dk_21 4 (dk_at dksX1_isWord_1 14 rfl rfl)
theorem dX1_isWord_40 : decode cX1_isWord 40 = .ok (.iadd, 1) := dk_96 (dk_at dksX1_isWord_1 16 rfl rfl)
theorem dX1_isWord_41 : decode cX1_isWord 41 = .ok (.invokevirtual 72, 3) := dk_182 0 72 (dk_at dksX1_isWord_1 17 rfl rfl)
theorem dX1_isWord_44 : decode cX1_isWord 44 = .ok (.if_icmp .ne 7, 3) := dk_160 0 7 (dk_at dksX1_isWord_1 20 rfl rfl)
theorem dX1_isWord_47 : decode cX1_isWord 47 = .ok (.iconst 1, 1) := dk_4 (dk_at dksX1_isWord_1 23 rfl rfl)
theorem dX1_isWord_48 : decode cX1_isWord 48 = .ok (.goto 4, 3) := dk_167 0 4 (dk_at dksX1_isWord_2 0 rfl rfl)
theorem dX1_isWord_51 : decode cX1_isWord 51 = .ok (.iconst 0, 1) := dk_3 (dk_at dksX1_isWord_2 3 rfl rfl)
theorem dX1_isWord_52 : decode cX1_isWord 52 = .ok (.istore_n 3, 1) := dk_62 (dk_at dksX1_isWord_2 4 rfl rfl)
theorem dX1_isWord_53 : decode cX1_isWord 53 = .ok (.iinc 4 1, 3) := dk_132 4 1 (dk_at dksX1_isWord_2 5 rfl rfl)
theorem dX1_isWord_56 : decode cX1_isWord 56 = .ok (.goto (-39), 3) := dk_167 255 217 (dk_at dksX1_isWord_2 8 rfl rfl)
theorem dX1_isWord_59 : decode cX1_isWord 59 = .ok (.iload_n 3, 1) := dk_29 (dk_at dksX1_isWord_2 11 rfl rfl)
theorem dX1_isWord_60 : decode cX1_isWord 60 = .ok (.ireturn, 1) := dk_172 (dk_at dksX1_isWord_2 12 rfl rfl)
abbrev cX1_isDigit : ByteArray := prog_13_method_4_code
def yX1_isDigit : MethodName := ⟨RX1, "isDigit", "(I)Z"⟩
def dkwX1_isDigit_0 : List UInt8 := [42, 27, 182, 0, 72, 133, 20, 0, 84, 20, 0, 86, 184, 0, 80, 172]
abbrev dktX1_isDigit_0 : List UInt8 := dkwX1_isDigit_0 ++ []
theorem dksX1_isDigit_0 : cX1_isDigit.data.toList.drop 0 = dktX1_isDigit_0 := by decide +kernel
theorem dX1_isDigit_0 : decode cX1_isDigit 0 = .ok (.aload_n 0, 1) := dk_42 (dk_at dksX1_isDigit_0 0 rfl rfl)
theorem dX1_isDigit_1 : decode cX1_isDigit 1 = .ok (.iload_n 1, 1) := dk_27 (dk_at dksX1_isDigit_0 1 rfl rfl)
theorem dX1_isDigit_2 : decode cX1_isDigit 2 = .ok (.invokevirtual 72, 3) := dk_182 0 72 (dk_at dksX1_isDigit_0 2 rfl rfl)
theorem dX1_isDigit_5 : decode cX1_isDigit 5 = .ok (.i2l, 1) := dk_133 (dk_at dksX1_isDigit_0 5 rfl rfl)
theorem dX1_isDigit_6 : decode cX1_isDigit 6 = .ok (.ldc2_w 84, 3) := dk_20 0 84 (dk_at dksX1_isDigit_0 6 rfl rfl)
theorem dX1_isDigit_9 : decode cX1_isDigit 9 = .ok (.ldc2_w 86, 3) := dk_20 0 86 (dk_at dksX1_isDigit_0 9 rfl rfl)
theorem dX1_isDigit_12 : decode cX1_isDigit 12 = .ok (.invokestatic 80, 3) := dk_184 0 80 (dk_at dksX1_isDigit_0 12 rfl rfl)
theorem dX1_isDigit_15 : decode cX1_isDigit 15 = .ok (.ireturn, 1) := dk_172 (dk_at dksX1_isDigit_0 15 rfl rfl)
abbrev cX1_step : ByteArray := prog_13_method_21_code
def yX1_step : MethodName := ⟨RX1, "step", "(LBoneYard$Key;)V"⟩
def dkwX1_step_6 : List UInt8 := [180, 0, 244, 182, 0, 254, 181, 1, 6, 43, 180, 0, 228, 44, 185, 0, 195, 2, 0, 87, 177]
abbrev dktX1_step_6 : List UInt8 := dkwX1_step_6 ++ []
def dkwX1_step_5 : List UInt8 := [182, 0, 222, 44, 42, 44, 180, 0, 244, 182, 0, 254, 181, 1, 2, 42, 16, 11, 182, 0, 222, 44, 42, 44]
abbrev dktX1_step_5 : List UInt8 := dkwX1_step_5 ++ dktX1_step_6
def dkwX1_step_4 : List UInt8 := [182, 0, 171, 183, 0, 246, 77, 42, 16, 58, 182, 0, 181, 44, 42, 182, 0, 247, 181, 0, 250, 42, 16, 10]
abbrev dktX1_step_4 : List UInt8 := dkwX1_step_4 ++ dktX1_step_5
def dkwX1_step_3 : List UInt8 := [192, 0, 242, 180, 0, 244, 163, 0, 9, 42, 6, 182, 0, 132, 191, 187, 0, 242, 89, 42, 17, 39, 15]
abbrev dktX1_step_3 : List UInt8 := dkwX1_step_3 ++ dktX1_step_4
def dkwX1_step_2 : List UInt8 := [180, 0, 102, 43, 180, 0, 228, 43, 180, 0, 228, 185, 0, 233, 1, 0, 4, 100, 185, 0, 238, 2, 0]
abbrev dktX1_step_2 : List UInt8 := dkwX1_step_2 ++ dktX1_step_3
def dkwX1_step_1 : List UInt8 := [160, 0, 9, 42, 5, 182, 0, 132, 191, 43, 180, 0, 228, 185, 0, 235, 1, 0, 154, 0, 42, 42]
abbrev dktX1_step_1 : List UInt8 := dkwX1_step_1 ++ dktX1_step_2
def dkwX1_step_0 : List UInt8 := [42, 182, 0, 139, 154, 0, 9, 42, 4, 182, 0, 132, 191, 43, 180, 0, 228, 185, 0, 233, 1, 0, 16, 24]
abbrev dktX1_step_0 : List UInt8 := dkwX1_step_0 ++ dktX1_step_1
theorem dksX1_step_0 : cX1_step.data.toList.drop 0 = dktX1_step_0 := by decide +kernel
theorem dksX1_step_1 : cX1_step.data.toList.drop 24 = dktX1_step_1 := dk_seg dksX1_step_0 24 rfl rfl
theorem dksX1_step_2 : cX1_step.data.toList.drop 46 = dktX1_step_2 := dk_seg dksX1_step_1 22 rfl rfl
theorem dksX1_step_3 : cX1_step.data.toList.drop 69 = dktX1_step_3 := dk_seg dksX1_step_2 23 rfl rfl
theorem dksX1_step_4 : cX1_step.data.toList.drop 92 = dktX1_step_4 := dk_seg dksX1_step_3 23 rfl rfl
theorem dksX1_step_5 : cX1_step.data.toList.drop 116 = dktX1_step_5 := dk_seg dksX1_step_4 24 rfl rfl
theorem dksX1_step_6 : cX1_step.data.toList.drop 140 = dktX1_step_6 := dk_seg dksX1_step_5 24 rfl rfl
theorem dX1_step_0 : decode cX1_step 0 = .ok (.aload_n 0, 1) := dk_42 (dk_at dksX1_step_0 0 rfl rfl)
theorem dX1_step_1 : decode cX1_step 1 = .ok (.invokevirtual 139, 3) := dk_182 0 139 (dk_at dksX1_step_0 1 rfl rfl)
theorem dX1_step_4 : decode cX1_step 4 = .ok (.ifCond .ne 9, 3) := dk_154 0 9 (dk_at dksX1_step_0 4 rfl rfl)
theorem dX1_step_7 : decode cX1_step 7 = .ok (.aload_n 0, 1) := dk_42 (dk_at dksX1_step_0 7 rfl rfl)
theorem dX1_step_8 : decode cX1_step 8 = .ok (.iconst 1, 1) := dk_4 (dk_at dksX1_step_0 8 rfl rfl)
theorem dX1_step_9 : decode cX1_step 9 = .ok (.invokevirtual 132, 3) := dk_182 0 132 (dk_at dksX1_step_0 9 rfl rfl)
theorem dX1_step_12 : decode cX1_step 12 = .ok (.athrow, 1) := dk_191 (dk_at dksX1_step_0 12 rfl rfl)
theorem dX1_step_13 : decode cX1_step 13 = .ok (.aload_n 1, 1) := dk_43 (dk_at dksX1_step_0 13 rfl rfl)
theorem dX1_step_14 : decode cX1_step 14 = .ok (.getfield 228, 3) := dk_180 0 228 (dk_at dksX1_step_0 14 rfl rfl)
theorem dX1_step_17 : decode cX1_step 17 = .ok (.invokeinterface 233 1, 5) := by decide +kernel
theorem dX1_step_22 : decode cX1_step 22 = .ok (.bipush 24, 2) := dk_16 24 (dk_at dksX1_step_0 22 rfl rfl)
theorem dX1_step_24 : decode cX1_step 24 = .ok (.if_icmp .ne 9, 3) := dk_160 0 9 (dk_at dksX1_step_1 0 rfl rfl)
theorem dX1_step_27 : decode cX1_step 27 = .ok (.aload_n 0, 1) := dk_42 (dk_at dksX1_step_1 3 rfl rfl)
theorem dX1_step_28 : decode cX1_step 28 = .ok (.iconst 2, 1) := dk_5 (dk_at dksX1_step_1 4 rfl rfl)
theorem dX1_step_29 : decode cX1_step 29 = .ok (.invokevirtual 132, 3) := dk_182 0 132 (dk_at dksX1_step_1 5 rfl rfl)
theorem dX1_step_32 : decode cX1_step 32 = .ok (.athrow, 1) := dk_191 (dk_at dksX1_step_1 8 rfl rfl)
theorem dX1_step_33 : decode cX1_step 33 = .ok (.aload_n 1, 1) := dk_43 (dk_at dksX1_step_1 9 rfl rfl)
theorem dX1_step_34 : decode cX1_step 34 = .ok (.getfield 228, 3) := dk_180 0 228 (dk_at dksX1_step_1 10 rfl rfl)
theorem dX1_step_37 : decode cX1_step 37 = .ok (.invokeinterface 235 1, 5) := by decide +kernel
theorem dX1_step_42 : decode cX1_step 42 = .ok (.ifCond .ne 42, 3) := dk_154 0 42 (dk_at dksX1_step_1 18 rfl rfl)
theorem dX1_step_45 : decode cX1_step 45 = .ok (.aload_n 0, 1) := dk_42 (dk_at dksX1_step_1 21 rfl rfl)
theorem dX1_step_46 : decode cX1_step 46 = .ok (.getfield 102, 3) := dk_180 0 102 (dk_at dksX1_step_2 0 rfl rfl)
theorem dX1_step_49 : decode cX1_step 49 = .ok (.aload_n 1, 1) := dk_43 (dk_at dksX1_step_2 3 rfl rfl)
theorem dX1_step_50 : decode cX1_step 50 = .ok (.getfield 228, 3) := dk_180 0 228 (dk_at dksX1_step_2 4 rfl rfl)
theorem dX1_step_53 : decode cX1_step 53 = .ok (.aload_n 1, 1) := dk_43 (dk_at dksX1_step_2 7 rfl rfl)
theorem dX1_step_54 : decode cX1_step 54 = .ok (.getfield 228, 3) := dk_180 0 228 (dk_at dksX1_step_2 8 rfl rfl)
theorem dX1_step_57 : decode cX1_step 57 = .ok (.invokeinterface 233 1, 5) := by decide +kernel
theorem dX1_step_62 : decode cX1_step 62 = .ok (.iconst 1, 1) := dk_4 (dk_at dksX1_step_2 16 rfl rfl)
theorem dX1_step_63 : decode cX1_step 63 = .ok (.isub, 1) := dk_100 (dk_at dksX1_step_2 17 rfl rfl)
theorem dX1_step_64 : decode cX1_step 64 = .ok (.invokeinterface 238 2, 5) := by decide +kernel
theorem dX1_step_69 : decode cX1_step 69 = .ok (.checkcast 242, 3) := dk_192 0 242 (dk_at dksX1_step_3 0 rfl rfl)
theorem dX1_step_72 : decode cX1_step 72 = .ok (.getfield 244, 3) := dk_180 0 244 (dk_at dksX1_step_3 3 rfl rfl)
theorem dX1_step_75 : decode cX1_step 75 = .ok (.if_icmp .gt 9, 3) := dk_163 0 9 (dk_at dksX1_step_3 6 rfl rfl)
theorem dX1_step_78 : decode cX1_step 78 = .ok (.aload_n 0, 1) := dk_42 (dk_at dksX1_step_3 9 rfl rfl)
theorem dX1_step_79 : decode cX1_step 79 = .ok (.iconst 3, 1) := dk_6 (dk_at dksX1_step_3 10 rfl rfl)
theorem dX1_step_80 : decode cX1_step 80 = .ok (.invokevirtual 132, 3) := dk_182 0 132 (dk_at dksX1_step_3 11 rfl rfl)
theorem dX1_step_83 : decode cX1_step 83 = .ok (.athrow, 1) := dk_191 (dk_at dksX1_step_3 14 rfl rfl)
theorem dX1_step_84 : decode cX1_step 84 = .ok (.new 242, 3) := dk_187 0 242 (dk_at dksX1_step_3 15 rfl rfl)
theorem dX1_step_87 : decode cX1_step 87 = .ok (.dup, 1) := dk_89 (dk_at dksX1_step_3 18 rfl rfl)
theorem dX1_step_88 : decode cX1_step 88 = .ok (.aload_n 0, 1) := dk_42 (dk_at dksX1_step_3 19 rfl rfl)
theorem dX1_step_89 : decode cX1_step 89 = .ok (.sipush 9999, 3) := dk_17 39 15 (dk_at dksX1_step_3 20 rfl rfl)
theorem dX1_step_92 : decode cX1_step 92 = .ok (.invokevirtual 171, 3) := dk_182 0 171 (dk_at dksX1_step_4 0 rfl rfl)
theorem dX1_step_95 : decode cX1_step 95 = .ok (.invokespecial 246, 3) := dk_183 0 246 (dk_at dksX1_step_4 3 rfl rfl)
theorem dX1_step_98 : decode cX1_step 98 = .ok (.astore_n 2, 1) := dk_77 (dk_at dksX1_step_4 6 rfl rfl)
theorem dX1_step_99 : decode cX1_step 99 = .ok (.aload_n 0, 1) := dk_42 (dk_at dksX1_step_4 7 rfl rfl)
theorem dX1_step_100 : decode cX1_step 100 = .ok (.bipush 58, 2) := dk_16 58 (dk_at dksX1_step_4 8 rfl rfl)
theorem dX1_step_102 : decode cX1_step 102 = .ok (.invokevirtual 181, 3) := dk_182 0 181 (dk_at dksX1_step_4 10 rfl rfl)
theorem dX1_step_105 : decode cX1_step 105 = .ok (.aload_n 2, 1) := dk_44 (dk_at dksX1_step_4 13 rfl rfl)
theorem dX1_step_106 : decode cX1_step 106 = .ok (.aload_n 0, 1) := dk_42 (dk_at dksX1_step_4 14 rfl rfl)
theorem dX1_step_107 : decode cX1_step 107 = .ok (.invokevirtual 247, 3) := dk_182 0 247 (dk_at dksX1_step_4 15 rfl rfl)
theorem dX1_step_110 : decode cX1_step 110 = .ok (.putfield 250, 3) := dk_181 0 250 (dk_at dksX1_step_4 18 rfl rfl)
theorem dX1_step_113 : decode cX1_step 113 = .ok (.aload_n 0, 1) := dk_42 (dk_at dksX1_step_4 21 rfl rfl)
theorem dX1_step_114 : decode cX1_step 114 = .ok (.bipush 10, 2) := dk_16 10 (dk_at dksX1_step_4 22 rfl rfl)
theorem dX1_step_116 : decode cX1_step 116 = .ok (.invokevirtual 222, 3) := dk_182 0 222 (dk_at dksX1_step_5 0 rfl rfl)
theorem dX1_step_119 : decode cX1_step 119 = .ok (.aload_n 2, 1) := dk_44 (dk_at dksX1_step_5 3 rfl rfl)
theorem dX1_step_120 : decode cX1_step 120 = .ok (.aload_n 0, 1) := dk_42 (dk_at dksX1_step_5 4 rfl rfl)
theorem dX1_step_121 : decode cX1_step 121 = .ok (.aload_n 2, 1) := dk_44 (dk_at dksX1_step_5 5 rfl rfl)
theorem dX1_step_122 : decode cX1_step 122 = .ok (.getfield 244, 3) := dk_180 0 244 (dk_at dksX1_step_5 6 rfl rfl)
theorem dX1_step_125 : decode cX1_step 125 = .ok (.invokevirtual 254, 3) := dk_182 0 254 (dk_at dksX1_step_5 9 rfl rfl)
theorem dX1_step_128 : decode cX1_step 128 = .ok (.putfield 258, 3) := dk_181 1 2 (dk_at dksX1_step_5 12 rfl rfl)
theorem dX1_step_131 : decode cX1_step 131 = .ok (.aload_n 0, 1) := dk_42 (dk_at dksX1_step_5 15 rfl rfl)
theorem dX1_step_132 : decode cX1_step 132 = .ok (.bipush 11, 2) := dk_16 11 (dk_at dksX1_step_5 16 rfl rfl)
theorem dX1_step_134 : decode cX1_step 134 = .ok (.invokevirtual 222, 3) := dk_182 0 222 (dk_at dksX1_step_5 18 rfl rfl)
theorem dX1_step_137 : decode cX1_step 137 = .ok (.aload_n 2, 1) := dk_44 (dk_at dksX1_step_5 21 rfl rfl)
theorem dX1_step_138 : decode cX1_step 138 = .ok (.aload_n 0, 1) := dk_42 (dk_at dksX1_step_5 22 rfl rfl)
theorem dX1_step_139 : decode cX1_step 139 = .ok (.aload_n 2, 1) := dk_44 (dk_at dksX1_step_5 23 rfl rfl)
theorem dX1_step_140 : decode cX1_step 140 = .ok (.getfield 244, 3) := dk_180 0 244 (dk_at dksX1_step_6 0 rfl rfl)
theorem dX1_step_143 : decode cX1_step 143 = .ok (.invokevirtual 254, 3) := dk_182 0 254 (dk_at dksX1_step_6 3 rfl rfl)
theorem dX1_step_146 : decode cX1_step 146 = .ok (.putfield 262, 3) := dk_181 1 6 (dk_at dksX1_step_6 6 rfl rfl)
theorem dX1_step_149 : decode cX1_step 149 = .ok (.aload_n 1, 1) := dk_43 (dk_at dksX1_step_6 9 rfl rfl)
theorem dX1_step_150 : decode cX1_step 150 = .ok (.getfield 228, 3) := dk_180 0 228 (dk_at dksX1_step_6 10 rfl rfl)
theorem dX1_step_153 : decode cX1_step 153 = .ok (.aload_n 2, 1) := dk_44 (dk_at dksX1_step_6 13 rfl rfl)
theorem dX1_step_154 : decode cX1_step 154 = .ok (.invokeinterface 195 2, 5) := by decide +kernel
theorem dX1_step_159 : decode cX1_step 159 = .ok (.pop, 1) := dk_87 (dk_at dksX1_step_6 19 rfl rfl)
theorem dX1_step_160 : decode cX1_step 160 = .ok (.return_, 1) := dk_177 (dk_at dksX1_step_6 20 rfl rfl)
abbrev cX1_isNumber : ByteArray := prog_13_method_11_code
def yX1_isNumber : MethodName := ⟨RX1, "isNumber", "()Z"⟩
def dkwX1_isNumber_1 : List UInt8 := [172]
abbrev dktX1_isNumber_1 : List UInt8 := dkwX1_isNumber_1 ++ []
def dkwX1_isNumber_0 : List UInt8 := [42, 180, 0, 105, 16, 20, 160, 0, 17, 42, 180, 0, 102, 17, 39, 15, 163, 0, 7, 4, 167, 0, 4, 3]
abbrev dktX1_isNumber_0 : List UInt8 := dkwX1_isNumber_0 ++ dktX1_isNumber_1
theorem dksX1_isNumber_0 : cX1_isNumber.data.toList.drop 0 = dktX1_isNumber_0 := by decide +kernel
theorem dksX1_isNumber_1 : cX1_isNumber.data.toList.drop 24 = dktX1_isNumber_1 := dk_seg dksX1_isNumber_0 24 rfl rfl
theorem dX1_isNumber_0 : decode cX1_isNumber 0 = .ok (.aload_n 0, 1) := dk_42 (dk_at dksX1_isNumber_0 0 rfl rfl)
theorem dX1_isNumber_1 : decode cX1_isNumber 1 = .ok (.getfield 105, 3) := dk_180 0 105 (dk_at dksX1_isNumber_0 1 rfl rfl)
theorem dX1_isNumber_4 : decode cX1_isNumber 4 = .ok (.bipush 20, 2) := dk_16 20 (dk_at dksX1_isNumber_0 4 rfl rfl)
theorem dX1_isNumber_6 : decode cX1_isNumber 6 = .ok (.if_icmp .ne 17, 3) := dk_160 0 17 (dk_at dksX1_isNumber_0 6 rfl rfl)
theorem dX1_isNumber_9 : decode cX1_isNumber 9 = .ok (.aload_n 0, 1) := dk_42 (dk_at dksX1_isNumber_0 9 rfl rfl)
theorem dX1_isNumber_10 : decode cX1_isNumber 10 = .ok (.getfield 102, 3) := dk_180 0 102 (dk_at dksX1_isNumber_0 10 rfl rfl)
theorem dX1_isNumber_13 : decode cX1_isNumber 13 = .ok (.sipush 9999, 3) := dk_17 39 15 (dk_at dksX1_isNumber_0 13 rfl rfl)
theorem dX1_isNumber_16 : decode cX1_isNumber 16 = .ok (.if_icmp .gt 7, 3) := dk_163 0 7 (dk_at dksX1_isNumber_0 16 rfl rfl)
theorem dX1_isNumber_19 : decode cX1_isNumber 19 = .ok (.iconst 1, 1) := dk_4 (dk_at dksX1_isNumber_0 19 rfl rfl)
theorem dX1_isNumber_20 : decode cX1_isNumber 20 = .ok (.goto 4, 3) := dk_167 0 4 (dk_at dksX1_isNumber_0 20 rfl rfl)
theorem dX1_isNumber_23 : decode cX1_isNumber 23 = .ok (.iconst 0, 1) := dk_3 (dk_at dksX1_isNumber_0 23 rfl rfl)
theorem dX1_isNumber_24 : decode cX1_isNumber 24 = .ok (.ireturn, 1) := dk_172 (dk_at dksX1_isNumber_1 0 rfl rfl)
abbrev cX1_fault : ByteArray := prog_13_method_8_code
def yX1_fault : MethodName := ⟨RX1, "fault", "(I)LBoneYard$Wrong;"⟩
def dkwX1_fault_0 : List UInt8 := [42, 180, 0, 60, 27, 42, 180, 0, 96, 182, 0, 125, 176]
abbrev dktX1_fault_0 : List UInt8 := dkwX1_fault_0 ++ []
theorem dksX1_fault_0 : cX1_fault.data.toList.drop 0 = dktX1_fault_0 := by decide +kernel
theorem dX1_fault_0 : decode cX1_fault 0 = .ok (.aload_n 0, 1) := dk_42 (dk_at dksX1_fault_0 0 rfl rfl)
theorem dX1_fault_1 : decode cX1_fault 1 = .ok (.getfield 60, 3) := dk_180 0 60 (dk_at dksX1_fault_0 1 rfl rfl)
theorem dX1_fault_4 : decode cX1_fault 4 = .ok (.iload_n 1, 1) := dk_27 (dk_at dksX1_fault_0 4 rfl rfl)
theorem dX1_fault_5 : decode cX1_fault 5 = .ok (.aload_n 0, 1) := dk_42 (dk_at dksX1_fault_0 5 rfl rfl)
theorem dX1_fault_6 : decode cX1_fault 6 = .ok (.getfield 96, 3) := dk_180 0 96 (dk_at dksX1_fault_0 6 rfl rfl)
theorem dX1_fault_9 : decode cX1_fault 9 = .ok (.invokevirtual 125, 3) := dk_182 0 125 (dk_at dksX1_fault_0 9 rfl rfl)
theorem dX1_fault_12 : decode cX1_fault 12 = .ok (.areturn, 1) := dk_176 (dk_at dksX1_fault_0 12 rfl rfl)
abbrev cX1_number : ByteArray := prog_13_method_12_code
def yX1_number : MethodName := ⟨RX1, "number", "(I)I"⟩
def dkwX1_number_1 : List UInt8 := [182, 0, 132, 191, 42, 180, 0, 102, 61, 42, 182, 0, 136, 28, 172]
abbrev dktX1_number_1 : List UInt8 := dkwX1_number_1 ++ []
def dkwX1_number_0 : List UInt8 := [42, 182, 0, 139, 154, 0, 9, 42, 4, 182, 0, 132, 191, 42, 180, 0, 102, 27, 164, 0, 9, 42, 6]
abbrev dktX1_number_0 : List UInt8 := dkwX1_number_0 ++ dktX1_number_1
theorem dksX1_number_0 : cX1_number.data.toList.drop 0 = dktX1_number_0 := by decide +kernel
theorem dksX1_number_1 : cX1_number.data.toList.drop 23 = dktX1_number_1 := dk_seg dksX1_number_0 23 rfl rfl
theorem dX1_number_0 : decode cX1_number 0 = .ok (.aload_n 0, 1) := dk_42 (dk_at dksX1_number_0 0 rfl rfl)
theorem dX1_number_1 : decode cX1_number 1 = .ok (.invokevirtual 139, 3) := dk_182 0 139 (dk_at dksX1_number_0 1 rfl rfl)
theorem dX1_number_4 : decode cX1_number 4 = .ok (.ifCond .ne 9, 3) := dk_154 0 9 (dk_at dksX1_number_0 4 rfl rfl)
theorem dX1_number_7 : decode cX1_number 7 = .ok (.aload_n 0, 1) := dk_42 (dk_at dksX1_number_0 7 rfl rfl)
theorem dX1_number_8 : decode cX1_number 8 = .ok (.iconst 1, 1) := dk_4 (dk_at dksX1_number_0 8 rfl rfl)
theorem dX1_number_9 : decode cX1_number 9 = .ok (.invokevirtual 132, 3) := dk_182 0 132 (dk_at dksX1_number_0 9 rfl rfl)
theorem dX1_number_12 : decode cX1_number 12 = .ok (.athrow, 1) := dk_191 (dk_at dksX1_number_0 12 rfl rfl)
theorem dX1_number_13 : decode cX1_number 13 = .ok (.aload_n 0, 1) := dk_42 (dk_at dksX1_number_0 13 rfl rfl)
theorem dX1_number_14 : decode cX1_number 14 = .ok (.getfield 102, 3) := dk_180 0 102 (dk_at dksX1_number_0 14 rfl rfl)
theorem dX1_number_17 : decode cX1_number 17 = .ok (.iload_n 1, 1) := dk_27 (dk_at dksX1_number_0 17 rfl rfl)
theorem dX1_number_18 : decode cX1_number 18 = .ok (.if_icmp .le 9, 3) := dk_164 0 9 (dk_at dksX1_number_0 18 rfl rfl)
theorem dX1_number_21 : decode cX1_number 21 = .ok (.aload_n 0, 1) := dk_42 (dk_at dksX1_number_0 21 rfl rfl)
theorem dX1_number_22 : decode cX1_number 22 = .ok (.iconst 3, 1) := dk_6 (dk_at dksX1_number_0 22 rfl rfl)
theorem dX1_number_23 : decode cX1_number 23 = .ok (.invokevirtual 132, 3) := dk_182 0 132 (dk_at dksX1_number_1 0 rfl rfl)
theorem dX1_number_26 : decode cX1_number 26 = .ok (.athrow, 1) := dk_191 (dk_at dksX1_number_1 3 rfl rfl)
theorem dX1_number_27 : decode cX1_number 27 = .ok (.aload_n 0, 1) := dk_42 (dk_at dksX1_number_1 4 rfl rfl)
theorem dX1_number_28 : decode cX1_number 28 = .ok (.getfield 102, 3) := dk_180 0 102 (dk_at dksX1_number_1 5 rfl rfl)
theorem dX1_number_31 : decode cX1_number 31 = .ok (.istore_n 2, 1) := dk_61 (dk_at dksX1_number_1 8 rfl rfl)
theorem dX1_number_32 : decode cX1_number 32 = .ok (.aload_n 0, 1) := dk_42 (dk_at dksX1_number_1 9 rfl rfl)
theorem dX1_number_33 : decode cX1_number 33 = .ok (.invokevirtual 136, 3) := dk_182 0 136 (dk_at dksX1_number_1 10 rfl rfl)
theorem dX1_number_36 : decode cX1_number 36 = .ok (.iload_n 2, 1) := dk_28 (dk_at dksX1_number_1 13 rfl rfl)
theorem dX1_number_37 : decode cX1_number 37 = .ok (.ireturn, 1) := dk_172 (dk_at dksX1_number_1 14 rfl rfl)
abbrev cX1_must : ByteArray := prog_13_method_9_code
def yX1_must : MethodName := ⟨RX1, "must", "(I)V"⟩
def dkwX1_must_0 : List UInt8 := [42, 27, 182, 0, 129, 154, 0, 9, 42, 4, 182, 0, 132, 191, 42, 182, 0, 136, 177]
abbrev dktX1_must_0 : List UInt8 := dkwX1_must_0 ++ []
theorem dksX1_must_0 : cX1_must.data.toList.drop 0 = dktX1_must_0 := by decide +kernel
theorem dX1_must_0 : decode cX1_must 0 = .ok (.aload_n 0, 1) := dk_42 (dk_at dksX1_must_0 0 rfl rfl)
theorem dX1_must_1 : decode cX1_must 1 = .ok (.iload_n 1, 1) := dk_27 (dk_at dksX1_must_0 1 rfl rfl)
theorem dX1_must_2 : decode cX1_must 2 = .ok (.invokevirtual 129, 3) := dk_182 0 129 (dk_at dksX1_must_0 2 rfl rfl)
theorem dX1_must_5 : decode cX1_must 5 = .ok (.ifCond .ne 9, 3) := dk_154 0 9 (dk_at dksX1_must_0 5 rfl rfl)
theorem dX1_must_8 : decode cX1_must 8 = .ok (.aload_n 0, 1) := dk_42 (dk_at dksX1_must_0 8 rfl rfl)
theorem dX1_must_9 : decode cX1_must 9 = .ok (.iconst 1, 1) := dk_4 (dk_at dksX1_must_0 9 rfl rfl)
theorem dX1_must_10 : decode cX1_must 10 = .ok (.invokevirtual 132, 3) := dk_182 0 132 (dk_at dksX1_must_0 10 rfl rfl)
theorem dX1_must_13 : decode cX1_must 13 = .ok (.athrow, 1) := dk_191 (dk_at dksX1_must_0 13 rfl rfl)
theorem dX1_must_14 : decode cX1_must 14 = .ok (.aload_n 0, 1) := dk_42 (dk_at dksX1_must_0 14 rfl rfl)
theorem dX1_must_15 : decode cX1_must 15 = .ok (.invokevirtual 136, 3) := dk_182 0 136 (dk_at dksX1_must_0 15 rfl rfl)
theorem dX1_must_18 : decode cX1_must 18 = .ok (.return_, 1) := dk_177 (dk_at dksX1_must_0 18 rfl rfl)
abbrev cX1_isSign : ByteArray := prog_13_method_7_code
def yX1_isSign : MethodName := ⟨RX1, "isSign", "(I)Z"⟩
def dkwX1_isSign_0 : List UInt8 := [42, 180, 0, 105, 16, 21, 160, 0, 15, 42, 180, 0, 102, 27, 160, 0, 7, 4, 167, 0, 4, 3, 172]
abbrev dktX1_isSign_0 : List UInt8 := dkwX1_isSign_0 ++ []
theorem dksX1_isSign_0 : cX1_isSign.data.toList.drop 0 = dktX1_isSign_0 := by decide +kernel
theorem dX1_isSign_0 : decode cX1_isSign 0 = .ok (.aload_n 0, 1) := dk_42 (dk_at dksX1_isSign_0 0 rfl rfl)
theorem dX1_isSign_1 : decode cX1_isSign 1 = .ok (.getfield 105, 3) := dk_180 0 105 (dk_at dksX1_isSign_0 1 rfl rfl)
theorem dX1_isSign_4 : decode cX1_isSign 4 = .ok (.bipush 21, 2) := dk_16 21 (dk_at dksX1_isSign_0 4 rfl rfl)
theorem dX1_isSign_6 : decode cX1_isSign 6 = .ok (.if_icmp .ne 15, 3) := dk_160 0 15 (dk_at dksX1_isSign_0 6 rfl rfl)
theorem dX1_isSign_9 : decode cX1_isSign 9 = .ok (.aload_n 0, 1) := dk_42 (dk_at dksX1_isSign_0 9 rfl rfl)
theorem dX1_isSign_10 : decode cX1_isSign 10 = .ok (.getfield 102, 3) := dk_180 0 102 (dk_at dksX1_isSign_0 10 rfl rfl)
theorem dX1_isSign_13 : decode cX1_isSign 13 = .ok (.iload_n 1, 1) := dk_27 (dk_at dksX1_isSign_0 13 rfl rfl)
theorem dX1_isSign_14 : decode cX1_isSign 14 = .ok (.if_icmp .ne 7, 3) := dk_160 0 7 (dk_at dksX1_isSign_0 14 rfl rfl)
theorem dX1_isSign_17 : decode cX1_isSign 17 = .ok (.iconst 1, 1) := dk_4 (dk_at dksX1_isSign_0 17 rfl rfl)
theorem dX1_isSign_18 : decode cX1_isSign 18 = .ok (.goto 4, 3) := dk_167 0 4 (dk_at dksX1_isSign_0 18 rfl rfl)
theorem dX1_isSign_21 : decode cX1_isSign 21 = .ok (.iconst 0, 1) := dk_3 (dk_at dksX1_isSign_0 21 rfl rfl)
theorem dX1_isSign_22 : decode cX1_isSign 22 = .ok (.ireturn, 1) := dk_172 (dk_at dksX1_isSign_0 22 rfl rfl)
abbrev cX1_any : ByteArray := prog_13_method_17_code
def yX1_any : MethodName := ⟨RX1, "any", "()LBoneYard$Cond;"⟩
def dkwX1_any_2 : List UInt8 := [185, 0, 195, 2, 0, 87, 167, 255, 229, 43, 176]
abbrev dktX1_any_2 : List UInt8 := dkwX1_any_2 ++ []
def dkwX1_any_1 : List UInt8 := [180, 0, 105, 16, 15, 160, 0, 24, 42, 182, 0, 136, 43, 180, 0, 187, 42, 182, 0, 191]
abbrev dktX1_any_1 : List UInt8 := dkwX1_any_1 ++ dktX1_any_2
def dkwX1_any_0 : List UInt8 := [187, 0, 184, 89, 183, 0, 186, 76, 43, 180, 0, 187, 42, 182, 0, 191, 185, 0, 195, 2, 0, 87, 42]
abbrev dktX1_any_0 : List UInt8 := dkwX1_any_0 ++ dktX1_any_1
theorem dksX1_any_0 : cX1_any.data.toList.drop 0 = dktX1_any_0 := by decide +kernel
theorem dksX1_any_1 : cX1_any.data.toList.drop 23 = dktX1_any_1 := dk_seg dksX1_any_0 23 rfl rfl
theorem dksX1_any_2 : cX1_any.data.toList.drop 43 = dktX1_any_2 := dk_seg dksX1_any_1 20 rfl rfl
theorem dX1_any_0 : decode cX1_any 0 = .ok (.new 184, 3) := dk_187 0 184 (dk_at dksX1_any_0 0 rfl rfl)
theorem dX1_any_3 : decode cX1_any 3 = .ok (.dup, 1) := dk_89 (dk_at dksX1_any_0 3 rfl rfl)
theorem dX1_any_4 : decode cX1_any 4 = .ok (.invokespecial 186, 3) := dk_183 0 186 (dk_at dksX1_any_0 4 rfl rfl)
theorem dX1_any_7 : decode cX1_any 7 = .ok (.astore_n 1, 1) := dk_76 (dk_at dksX1_any_0 7 rfl rfl)
theorem dX1_any_8 : decode cX1_any 8 = .ok (.aload_n 1, 1) := dk_43 (dk_at dksX1_any_0 8 rfl rfl)
theorem dX1_any_9 : decode cX1_any 9 = .ok (.getfield 187, 3) := dk_180 0 187 (dk_at dksX1_any_0 9 rfl rfl)
theorem dX1_any_12 : decode cX1_any 12 = .ok (.aload_n 0, 1) := dk_42 (dk_at dksX1_any_0 12 rfl rfl)
theorem dX1_any_13 : decode cX1_any 13 = .ok (.invokevirtual 191, 3) := dk_182 0 191 (dk_at dksX1_any_0 13 rfl rfl)
theorem dX1_any_16 : decode cX1_any 16 = .ok (.invokeinterface 195 2, 5) := by decide +kernel
theorem dX1_any_21 : decode cX1_any 21 = .ok (.pop, 1) := dk_87 (dk_at dksX1_any_0 21 rfl rfl)
theorem dX1_any_22 : decode cX1_any 22 = .ok (.aload_n 0, 1) := dk_42 (dk_at dksX1_any_0 22 rfl rfl)
theorem dX1_any_23 : decode cX1_any 23 = .ok (.getfield 105, 3) := dk_180 0 105 (dk_at dksX1_any_1 0 rfl rfl)
theorem dX1_any_26 : decode cX1_any 26 = .ok (.bipush 15, 2) := dk_16 15 (dk_at dksX1_any_1 3 rfl rfl)
theorem dX1_any_28 : decode cX1_any 28 = .ok (.if_icmp .ne 24, 3) := dk_160 0 24 (dk_at dksX1_any_1 5 rfl rfl)
theorem dX1_any_31 : decode cX1_any 31 = .ok (.aload_n 0, 1) := dk_42 (dk_at dksX1_any_1 8 rfl rfl)
theorem dX1_any_32 : decode cX1_any 32 = .ok (.invokevirtual 136, 3) := dk_182 0 136 (dk_at dksX1_any_1 9 rfl rfl)
theorem dX1_any_35 : decode cX1_any 35 = .ok (.aload_n 1, 1) := dk_43 (dk_at dksX1_any_1 12 rfl rfl)
theorem dX1_any_36 : decode cX1_any 36 = .ok (.getfield 187, 3) := dk_180 0 187 (dk_at dksX1_any_1 13 rfl rfl)
theorem dX1_any_39 : decode cX1_any 39 = .ok (.aload_n 0, 1) := dk_42 (dk_at dksX1_any_1 16 rfl rfl)
theorem dX1_any_40 : decode cX1_any 40 = .ok (.invokevirtual 191, 3) := dk_182 0 191 (dk_at dksX1_any_1 17 rfl rfl)
theorem dX1_any_43 : decode cX1_any 43 = .ok (.invokeinterface 195 2, 5) := by decide +kernel
theorem dX1_any_48 : decode cX1_any 48 = .ok (.pop, 1) := dk_87 (dk_at dksX1_any_2 5 rfl rfl)
theorem dX1_any_49 : decode cX1_any 49 = .ok (.goto (-27), 3) := dk_167 255 229 (dk_at dksX1_any_2 6 rfl rfl)
theorem dX1_any_52 : decode cX1_any 52 = .ok (.aload_n 1, 1) := dk_43 (dk_at dksX1_any_2 9 rfl rfl)
theorem dX1_any_53 : decode cX1_any 53 = .ok (.areturn, 1) := dk_176 (dk_at dksX1_any_2 10 rfl rfl)
abbrev cX1_all : ByteArray := prog_13_method_18_code
def yX1_all : MethodName := ⟨RX1, "all", "()LBoneYard$Cond;"⟩
def dkwX1_all_2 : List UInt8 := [185, 0, 195, 2, 0, 87, 167, 255, 229, 43, 176]
abbrev dktX1_all_2 : List UInt8 := dkwX1_all_2 ++ []
def dkwX1_all_1 : List UInt8 := [180, 0, 105, 16, 16, 160, 0, 24, 42, 182, 0, 136, 43, 180, 0, 204, 42, 182, 0, 205]
abbrev dktX1_all_1 : List UInt8 := dkwX1_all_1 ++ dktX1_all_2
def dkwX1_all_0 : List UInt8 := [187, 0, 201, 89, 183, 0, 203, 76, 43, 180, 0, 204, 42, 182, 0, 205, 185, 0, 195, 2, 0, 87, 42]
abbrev dktX1_all_0 : List UInt8 := dkwX1_all_0 ++ dktX1_all_1
theorem dksX1_all_0 : cX1_all.data.toList.drop 0 = dktX1_all_0 := by decide +kernel
theorem dksX1_all_1 : cX1_all.data.toList.drop 23 = dktX1_all_1 := dk_seg dksX1_all_0 23 rfl rfl
theorem dksX1_all_2 : cX1_all.data.toList.drop 43 = dktX1_all_2 := dk_seg dksX1_all_1 20 rfl rfl
theorem dX1_all_0 : decode cX1_all 0 = .ok (.new 201, 3) := dk_187 0 201 (dk_at dksX1_all_0 0 rfl rfl)
theorem dX1_all_3 : decode cX1_all 3 = .ok (.dup, 1) := dk_89 (dk_at dksX1_all_0 3 rfl rfl)
theorem dX1_all_4 : decode cX1_all 4 = .ok (.invokespecial 203, 3) := dk_183 0 203 (dk_at dksX1_all_0 4 rfl rfl)
theorem dX1_all_7 : decode cX1_all 7 = .ok (.astore_n 1, 1) := dk_76 (dk_at dksX1_all_0 7 rfl rfl)
theorem dX1_all_8 : decode cX1_all 8 = .ok (.aload_n 1, 1) := dk_43 (dk_at dksX1_all_0 8 rfl rfl)
theorem dX1_all_9 : decode cX1_all 9 = .ok (.getfield 204, 3) := dk_180 0 204 (dk_at dksX1_all_0 9 rfl rfl)
theorem dX1_all_12 : decode cX1_all 12 = .ok (.aload_n 0, 1) := dk_42 (dk_at dksX1_all_0 12 rfl rfl)
theorem dX1_all_13 : decode cX1_all 13 = .ok (.invokevirtual 205, 3) := dk_182 0 205 (dk_at dksX1_all_0 13 rfl rfl)
theorem dX1_all_16 : decode cX1_all 16 = .ok (.invokeinterface 195 2, 5) := by decide +kernel
theorem dX1_all_21 : decode cX1_all 21 = .ok (.pop, 1) := dk_87 (dk_at dksX1_all_0 21 rfl rfl)
theorem dX1_all_22 : decode cX1_all 22 = .ok (.aload_n 0, 1) := dk_42 (dk_at dksX1_all_0 22 rfl rfl)
theorem dX1_all_23 : decode cX1_all 23 = .ok (.getfield 105, 3) := dk_180 0 105 (dk_at dksX1_all_1 0 rfl rfl)
theorem dX1_all_26 : decode cX1_all 26 = .ok (.bipush 16, 2) := dk_16 16 (dk_at dksX1_all_1 3 rfl rfl)
theorem dX1_all_28 : decode cX1_all 28 = .ok (.if_icmp .ne 24, 3) := dk_160 0 24 (dk_at dksX1_all_1 5 rfl rfl)
theorem dX1_all_31 : decode cX1_all 31 = .ok (.aload_n 0, 1) := dk_42 (dk_at dksX1_all_1 8 rfl rfl)
theorem dX1_all_32 : decode cX1_all 32 = .ok (.invokevirtual 136, 3) := dk_182 0 136 (dk_at dksX1_all_1 9 rfl rfl)
theorem dX1_all_35 : decode cX1_all 35 = .ok (.aload_n 1, 1) := dk_43 (dk_at dksX1_all_1 12 rfl rfl)
theorem dX1_all_36 : decode cX1_all 36 = .ok (.getfield 204, 3) := dk_180 0 204 (dk_at dksX1_all_1 13 rfl rfl)
theorem dX1_all_39 : decode cX1_all 39 = .ok (.aload_n 0, 1) := dk_42 (dk_at dksX1_all_1 16 rfl rfl)
theorem dX1_all_40 : decode cX1_all 40 = .ok (.invokevirtual 205, 3) := dk_182 0 205 (dk_at dksX1_all_1 17 rfl rfl)
theorem dX1_all_43 : decode cX1_all 43 = .ok (.invokeinterface 195 2, 5) := by decide +kernel
theorem dX1_all_48 : decode cX1_all 48 = .ok (.pop, 1) := dk_87 (dk_at dksX1_all_2 5 rfl rfl)
theorem dX1_all_49 : decode cX1_all 49 = .ok (.goto (-27), 3) := dk_167 255 229 (dk_at dksX1_all_2 6 rfl rfl)
theorem dX1_all_52 : decode cX1_all 52 = .ok (.aload_n 1, 1) := dk_43 (dk_at dksX1_all_2 9 rfl rfl)
theorem dX1_all_53 : decode cX1_all 53 = .ok (.areturn, 1) := dk_176 (dk_at dksX1_all_2 10 rfl rfl)
abbrev cX1_one : ByteArray := prog_13_method_19_code
def yX1_one : MethodName := ⟨RX1, "one", "()LBoneYard$Cond;"⟩
def dkwX1_one_4 : List UInt8 := [182, 0, 136, 187, 0, 212, 89, 43, 28, 42, 182, 0, 178, 183, 0, 214, 176]
abbrev dktX1_one_4 : List UInt8 := dkwX1_one_4 ++ []
def dkwX1_one_3 : List UInt8 := [182, 0, 129, 154, 0, 18, 42, 16, 61, 182, 0, 129, 154, 0, 9, 42, 4, 182, 0, 132, 191, 42]
abbrev dktX1_one_3 : List UInt8 := dkwX1_one_3 ++ dktX1_one_4
def dkwX1_one_2 : List UInt8 := [176, 42, 182, 0, 178, 76, 42, 180, 0, 102, 61, 42, 16, 60, 182, 0, 129, 154, 0, 27, 42, 16, 62]
abbrev dktX1_one_2 : List UInt8 := dkwX1_one_2 ++ dktX1_one_3
def dkwX1_one_1 : List UInt8 := [180, 0, 211, 42, 182, 0, 205, 185, 0, 195, 2, 0, 87, 42, 89, 180, 0, 143, 4, 100, 181, 0, 143, 43]
abbrev dktX1_one_1 : List UInt8 := dkwX1_one_1 ++ dktX1_one_2
def dkwX1_one_0 : List UInt8 := [42, 180, 0, 105, 16, 17, 160, 0, 41, 42, 182, 0, 175, 187, 0, 208, 89, 183, 0, 210, 76, 43]
abbrev dktX1_one_0 : List UInt8 := dkwX1_one_0 ++ dktX1_one_1
theorem dksX1_one_0 : cX1_one.data.toList.drop 0 = dktX1_one_0 := by decide +kernel
theorem dksX1_one_1 : cX1_one.data.toList.drop 22 = dktX1_one_1 := dk_seg dksX1_one_0 22 rfl rfl
theorem dksX1_one_2 : cX1_one.data.toList.drop 46 = dktX1_one_2 := dk_seg dksX1_one_1 24 rfl rfl
theorem dksX1_one_3 : cX1_one.data.toList.drop 69 = dktX1_one_3 := dk_seg dksX1_one_2 23 rfl rfl
theorem dksX1_one_4 : cX1_one.data.toList.drop 91 = dktX1_one_4 := dk_seg dksX1_one_3 22 rfl rfl
theorem dX1_one_0 : decode cX1_one 0 = .ok (.aload_n 0, 1) := dk_42 (dk_at dksX1_one_0 0 rfl rfl)
theorem dX1_one_1 : decode cX1_one 1 = .ok (.getfield 105, 3) := dk_180 0 105 (dk_at dksX1_one_0 1 rfl rfl)
theorem dX1_one_4 : decode cX1_one 4 = .ok (.bipush 17, 2) := dk_16 17 (dk_at dksX1_one_0 4 rfl rfl)
theorem dX1_one_6 : decode cX1_one 6 = .ok (.if_icmp .ne 41, 3) := dk_160 0 41 (dk_at dksX1_one_0 6 rfl rfl)
theorem dX1_one_9 : decode cX1_one 9 = .ok (.aload_n 0, 1) := dk_42 (dk_at dksX1_one_0 9 rfl rfl)
theorem dX1_one_10 : decode cX1_one 10 = .ok (.invokevirtual 175, 3) := dk_182 0 175 (dk_at dksX1_one_0 10 rfl rfl)
theorem dX1_one_13 : decode cX1_one 13 = .ok (.new 208, 3) := dk_187 0 208 (dk_at dksX1_one_0 13 rfl rfl)
theorem dX1_one_16 : decode cX1_one 16 = .ok (.dup, 1) := dk_89 (dk_at dksX1_one_0 16 rfl rfl)
theorem dX1_one_17 : decode cX1_one 17 = .ok (.invokespecial 210, 3) := dk_183 0 210 (dk_at dksX1_one_0 17 rfl rfl)
theorem dX1_one_20 : decode cX1_one 20 = .ok (.astore_n 1, 1) := dk_76 (dk_at dksX1_one_0 20 rfl rfl)
theorem dX1_one_21 : decode cX1_one 21 = .ok (.aload_n 1, 1) := dk_43 (dk_at dksX1_one_0 21 rfl rfl)
theorem dX1_one_22 : decode cX1_one 22 = .ok (.getfield 211, 3) := dk_180 0 211 (dk_at dksX1_one_1 0 rfl rfl)
theorem dX1_one_25 : decode cX1_one 25 = .ok (.aload_n 0, 1) := dk_42 (dk_at dksX1_one_1 3 rfl rfl)
theorem dX1_one_26 : decode cX1_one 26 = .ok (.invokevirtual 205, 3) := dk_182 0 205 (dk_at dksX1_one_1 4 rfl rfl)
theorem dX1_one_29 : decode cX1_one 29 = .ok (.invokeinterface 195 2, 5) := by decide +kernel
theorem dX1_one_34 : decode cX1_one 34 = .ok (.pop, 1) := dk_87 (dk_at dksX1_one_1 12 rfl rfl)
theorem dX1_one_35 : decode cX1_one 35 = .ok (.aload_n 0, 1) := dk_42 (dk_at dksX1_one_1 13 rfl rfl)
theorem dX1_one_36 : decode cX1_one 36 = .ok (.dup, 1) := dk_89 (dk_at dksX1_one_1 14 rfl rfl)
theorem dX1_one_37 : decode cX1_one 37 = .ok (.getfield 143, 3) := dk_180 0 143 (dk_at dksX1_one_1 15 rfl rfl)
theorem dX1_one_40 : decode cX1_one 40 = .ok (.iconst 1, 1) := dk_4 (dk_at dksX1_one_1 18 rfl rfl)
theorem dX1_one_41 : decode cX1_one 41 = .ok (.isub, 1) := dk_100 (dk_at dksX1_one_1 19 rfl rfl)
theorem dX1_one_42 : decode cX1_one 42 = .ok (.putfield 143, 3) := dk_181 0 143 (dk_at dksX1_one_1 20 rfl rfl)
theorem dX1_one_45 : decode cX1_one 45 = .ok (.aload_n 1, 1) := dk_43 (dk_at dksX1_one_1 23 rfl rfl)
theorem dX1_one_46 : decode cX1_one 46 = .ok (.areturn, 1) := dk_176 (dk_at dksX1_one_2 0 rfl rfl)
theorem dX1_one_47 : decode cX1_one 47 = .ok (.aload_n 0, 1) := dk_42 (dk_at dksX1_one_2 1 rfl rfl)
theorem dX1_one_48 : decode cX1_one 48 = .ok (.invokevirtual 178, 3) := dk_182 0 178 (dk_at dksX1_one_2 2 rfl rfl)
theorem dX1_one_51 : decode cX1_one 51 = .ok (.astore_n 1, 1) := dk_76 (dk_at dksX1_one_2 5 rfl rfl)
theorem dX1_one_52 : decode cX1_one 52 = .ok (.aload_n 0, 1) := dk_42 (dk_at dksX1_one_2 6 rfl rfl)
theorem dX1_one_53 : decode cX1_one 53 = .ok (.getfield 102, 3) := dk_180 0 102 (dk_at dksX1_one_2 7 rfl rfl)
theorem dX1_one_56 : decode cX1_one 56 = .ok (.istore_n 2, 1) := dk_61 (dk_at dksX1_one_2 10 rfl rfl)
theorem dX1_one_57 : decode cX1_one 57 = .ok (.aload_n 0, 1) := dk_42 (dk_at dksX1_one_2 11 rfl rfl)
theorem dX1_one_58 : decode cX1_one 58 = .ok (.bipush 60, 2) := dk_16 60 (dk_at dksX1_one_2 12 rfl rfl)
theorem dX1_one_60 : decode cX1_one 60 = .ok (.invokevirtual 129, 3) := dk_182 0 129 (dk_at dksX1_one_2 14 rfl rfl)
theorem dX1_one_63 : decode cX1_one 63 = .ok (.ifCond .ne 27, 3) := dk_154 0 27 (dk_at dksX1_one_2 17 rfl rfl)
theorem dX1_one_66 : decode cX1_one 66 = .ok (.aload_n 0, 1) := dk_42 (dk_at dksX1_one_2 20 rfl rfl)
theorem dX1_one_67 : decode cX1_one 67 = .ok (.bipush 62, 2) := dk_16 62 (dk_at dksX1_one_2 21 rfl rfl)
theorem dX1_one_69 : decode cX1_one 69 = .ok (.invokevirtual 129, 3) := dk_182 0 129 (dk_at dksX1_one_3 0 rfl rfl)
theorem dX1_one_72 : decode cX1_one 72 = .ok (.ifCond .ne 18, 3) := dk_154 0 18 (dk_at dksX1_one_3 3 rfl rfl)
theorem dX1_one_75 : decode cX1_one 75 = .ok (.aload_n 0, 1) := dk_42 (dk_at dksX1_one_3 6 rfl rfl)
theorem dX1_one_76 : decode cX1_one 76 = .ok (.bipush 61, 2) := dk_16 61 (dk_at dksX1_one_3 7 rfl rfl)
theorem dX1_one_78 : decode cX1_one 78 = .ok (.invokevirtual 129, 3) := dk_182 0 129 (dk_at dksX1_one_3 9 rfl rfl)
theorem dX1_one_81 : decode cX1_one 81 = .ok (.ifCond .ne 9, 3) := dk_154 0 9 (dk_at dksX1_one_3 12 rfl rfl)
theorem dX1_one_84 : decode cX1_one 84 = .ok (.aload_n 0, 1) := dk_42 (dk_at dksX1_one_3 15 rfl rfl)
theorem dX1_one_85 : decode cX1_one 85 = .ok (.iconst 1, 1) := dk_4 (dk_at dksX1_one_3 16 rfl rfl)
theorem dX1_one_86 : decode cX1_one 86 = .ok (.invokevirtual 132, 3) := dk_182 0 132 (dk_at dksX1_one_3 17 rfl rfl)
theorem dX1_one_89 : decode cX1_one 89 = .ok (.athrow, 1) := dk_191 (dk_at dksX1_one_3 20 rfl rfl)
theorem dX1_one_90 : decode cX1_one 90 = .ok (.aload_n 0, 1) := dk_42 (dk_at dksX1_one_3 21 rfl rfl)
theorem dX1_one_91 : decode cX1_one 91 = .ok (.invokevirtual 136, 3) := dk_182 0 136 (dk_at dksX1_one_4 0 rfl rfl)
theorem dX1_one_94 : decode cX1_one 94 = .ok (.new 212, 3) := dk_187 0 212 (dk_at dksX1_one_4 3 rfl rfl)
theorem dX1_one_97 : decode cX1_one 97 = .ok (.dup, 1) := dk_89 (dk_at dksX1_one_4 6 rfl rfl)
theorem dX1_one_98 : decode cX1_one 98 = .ok (.aload_n 1, 1) := dk_43 (dk_at dksX1_one_4 7 rfl rfl)
theorem dX1_one_99 : decode cX1_one 99 = .ok (.iload_n 2, 1) := dk_28 (dk_at dksX1_one_4 8 rfl rfl)
theorem dX1_one_100 : decode cX1_one 100 = .ok (.aload_n 0, 1) := dk_42 (dk_at dksX1_one_4 9 rfl rfl)
theorem dX1_one_101 : decode cX1_one 101 = .ok (.invokevirtual 178, 3) := dk_182 0 178 (dk_at dksX1_one_4 10 rfl rfl)
theorem dX1_one_104 : decode cX1_one 104 = .ok (.invokespecial 214, 3) := dk_183 0 214 (dk_at dksX1_one_4 13 rfl rfl)
theorem dX1_one_107 : decode cX1_one 107 = .ok (.areturn, 1) := dk_176 (dk_at dksX1_one_4 16 rfl rfl)
abbrev cX1_deeper : ByteArray := prog_13_method_13_code
def yX1_deeper : MethodName := ⟨RX1, "deeper", "()V"⟩
def dkwX1_deeper_1 : List UInt8 := [181, 0, 143, 42, 182, 0, 136, 177]
abbrev dktX1_deeper_1 : List UInt8 := dkwX1_deeper_1 ++ []
def dkwX1_deeper_0 : List UInt8 := [42, 180, 0, 143, 16, 8, 160, 0, 9, 42, 5, 182, 0, 132, 191, 42, 89, 180, 0, 143, 4, 96]
abbrev dktX1_deeper_0 : List UInt8 := dkwX1_deeper_0 ++ dktX1_deeper_1
theorem dksX1_deeper_0 : cX1_deeper.data.toList.drop 0 = dktX1_deeper_0 := by decide +kernel
theorem dksX1_deeper_1 : cX1_deeper.data.toList.drop 22 = dktX1_deeper_1 := dk_seg dksX1_deeper_0 22 rfl rfl
theorem dX1_deeper_0 : decode cX1_deeper 0 = .ok (.aload_n 0, 1) := dk_42 (dk_at dksX1_deeper_0 0 rfl rfl)
theorem dX1_deeper_1 : decode cX1_deeper 1 = .ok (.getfield 143, 3) := dk_180 0 143 (dk_at dksX1_deeper_0 1 rfl rfl)
theorem dX1_deeper_4 : decode cX1_deeper 4 = .ok (.bipush 8, 2) := dk_16 8 (dk_at dksX1_deeper_0 4 rfl rfl)
theorem dX1_deeper_6 : decode cX1_deeper 6 = .ok (.if_icmp .ne 9, 3) := dk_160 0 9 (dk_at dksX1_deeper_0 6 rfl rfl)
theorem dX1_deeper_9 : decode cX1_deeper 9 = .ok (.aload_n 0, 1) := dk_42 (dk_at dksX1_deeper_0 9 rfl rfl)
theorem dX1_deeper_10 : decode cX1_deeper 10 = .ok (.iconst 2, 1) := dk_5 (dk_at dksX1_deeper_0 10 rfl rfl)
theorem dX1_deeper_11 : decode cX1_deeper 11 = .ok (.invokevirtual 132, 3) := dk_182 0 132 (dk_at dksX1_deeper_0 11 rfl rfl)
theorem dX1_deeper_14 : decode cX1_deeper 14 = .ok (.athrow, 1) := dk_191 (dk_at dksX1_deeper_0 14 rfl rfl)
theorem dX1_deeper_15 : decode cX1_deeper 15 = .ok (.aload_n 0, 1) := dk_42 (dk_at dksX1_deeper_0 15 rfl rfl)
theorem dX1_deeper_16 : decode cX1_deeper 16 = .ok (.dup, 1) := dk_89 (dk_at dksX1_deeper_0 16 rfl rfl)
theorem dX1_deeper_17 : decode cX1_deeper 17 = .ok (.getfield 143, 3) := dk_180 0 143 (dk_at dksX1_deeper_0 17 rfl rfl)
theorem dX1_deeper_20 : decode cX1_deeper 20 = .ok (.iconst 1, 1) := dk_4 (dk_at dksX1_deeper_0 20 rfl rfl)
theorem dX1_deeper_21 : decode cX1_deeper 21 = .ok (.iadd, 1) := dk_96 (dk_at dksX1_deeper_0 21 rfl rfl)
theorem dX1_deeper_22 : decode cX1_deeper 22 = .ok (.putfield 143, 3) := dk_181 0 143 (dk_at dksX1_deeper_1 0 rfl rfl)
theorem dX1_deeper_25 : decode cX1_deeper 25 = .ok (.aload_n 0, 1) := dk_42 (dk_at dksX1_deeper_1 3 rfl rfl)
theorem dX1_deeper_26 : decode cX1_deeper 26 = .ok (.invokevirtual 136, 3) := dk_182 0 136 (dk_at dksX1_deeper_1 4 rfl rfl)
theorem dX1_deeper_29 : decode cX1_deeper 29 = .ok (.return_, 1) := dk_177 (dk_at dksX1_deeper_1 7 rfl rfl)
abbrev cX1_sum : ByteArray := prog_13_method_14_code
def yX1_sum : MethodName := ⟨RX1, "sum", "()LBoneYard$Sum;"⟩
def dkwX1_sum_2 : List UInt8 := [167, 255, 220, 43, 176]
abbrev dktX1_sum_2 : List UInt8 := dkwX1_sum_2 ++ []
def dkwX1_sum_1 : List UInt8 := [182, 0, 129, 153, 0, 24, 42, 180, 0, 102, 61, 42, 182, 0, 136, 43, 28, 42, 182, 0, 148, 182, 0, 155]
abbrev dktX1_sum_1 : List UInt8 := dkwX1_sum_1 ++ dktX1_sum_2
def dkwX1_sum_0 : List UInt8 := [187, 0, 146, 89, 42, 182, 0, 148, 183, 0, 152, 76, 42, 16, 43, 182, 0, 129, 154, 0, 12, 42, 16, 45]
abbrev dktX1_sum_0 : List UInt8 := dkwX1_sum_0 ++ dktX1_sum_1
theorem dksX1_sum_0 : cX1_sum.data.toList.drop 0 = dktX1_sum_0 := by decide +kernel
theorem dksX1_sum_1 : cX1_sum.data.toList.drop 24 = dktX1_sum_1 := dk_seg dksX1_sum_0 24 rfl rfl
theorem dksX1_sum_2 : cX1_sum.data.toList.drop 48 = dktX1_sum_2 := dk_seg dksX1_sum_1 24 rfl rfl
theorem dX1_sum_0 : decode cX1_sum 0 = .ok (.new 146, 3) := dk_187 0 146 (dk_at dksX1_sum_0 0 rfl rfl)
theorem dX1_sum_3 : decode cX1_sum 3 = .ok (.dup, 1) := dk_89 (dk_at dksX1_sum_0 3 rfl rfl)
theorem dX1_sum_4 : decode cX1_sum 4 = .ok (.aload_n 0, 1) := dk_42 (dk_at dksX1_sum_0 4 rfl rfl)
theorem dX1_sum_5 : decode cX1_sum 5 = .ok (.invokevirtual 148, 3) := dk_182 0 148 (dk_at dksX1_sum_0 5 rfl rfl)
theorem dX1_sum_8 : decode cX1_sum 8 = .ok (.invokespecial 152, 3) := dk_183 0 152 (dk_at dksX1_sum_0 8 rfl rfl)
theorem dX1_sum_11 : decode cX1_sum 11 = .ok (.astore_n 1, 1) := dk_76 (dk_at dksX1_sum_0 11 rfl rfl)
theorem dX1_sum_12 : decode cX1_sum 12 = .ok (.aload_n 0, 1) := dk_42 (dk_at dksX1_sum_0 12 rfl rfl)
theorem dX1_sum_13 : decode cX1_sum 13 = .ok (.bipush 43, 2) := dk_16 43 (dk_at dksX1_sum_0 13 rfl rfl)
theorem dX1_sum_15 : decode cX1_sum 15 = .ok (.invokevirtual 129, 3) := dk_182 0 129 (dk_at dksX1_sum_0 15 rfl rfl)
theorem dX1_sum_18 : decode cX1_sum 18 = .ok (.ifCond .ne 12, 3) := dk_154 0 12 (dk_at dksX1_sum_0 18 rfl rfl)
theorem dX1_sum_21 : decode cX1_sum 21 = .ok (.aload_n 0, 1) := dk_42 (dk_at dksX1_sum_0 21 rfl rfl)
theorem dX1_sum_22 : decode cX1_sum 22 = .ok (.bipush 45, 2) := dk_16 45 (dk_at dksX1_sum_0 22 rfl rfl)
theorem dX1_sum_24 : decode cX1_sum 24 = .ok (.invokevirtual 129, 3) := dk_182 0 129 (dk_at dksX1_sum_1 0 rfl rfl)
theorem dX1_sum_27 : decode cX1_sum 27 = .ok (.ifCond .eq 24, 3) := dk_153 0 24 (dk_at dksX1_sum_1 3 rfl rfl)
theorem dX1_sum_30 : decode cX1_sum 30 = .ok (.aload_n 0, 1) := dk_42 (dk_at dksX1_sum_1 6 rfl rfl)
theorem dX1_sum_31 : decode cX1_sum 31 = .ok (.getfield 102, 3) := dk_180 0 102 (dk_at dksX1_sum_1 7 rfl rfl)
theorem dX1_sum_34 : decode cX1_sum 34 = .ok (.istore_n 2, 1) := dk_61 (dk_at dksX1_sum_1 10 rfl rfl)
theorem dX1_sum_35 : decode cX1_sum 35 = .ok (.aload_n 0, 1) := dk_42 (dk_at dksX1_sum_1 11 rfl rfl)
theorem dX1_sum_36 : decode cX1_sum 36 = .ok (.invokevirtual 136, 3) := dk_182 0 136 (dk_at dksX1_sum_1 12 rfl rfl)
theorem dX1_sum_39 : decode cX1_sum 39 = .ok (.aload_n 1, 1) := dk_43 (dk_at dksX1_sum_1 15 rfl rfl)
theorem dX1_sum_40 : decode cX1_sum 40 = .ok (.iload_n 2, 1) := dk_28 (dk_at dksX1_sum_1 16 rfl rfl)
theorem dX1_sum_41 : decode cX1_sum 41 = .ok (.aload_n 0, 1) := dk_42 (dk_at dksX1_sum_1 17 rfl rfl)
theorem dX1_sum_42 : decode cX1_sum 42 = .ok (.invokevirtual 148, 3) := dk_182 0 148 (dk_at dksX1_sum_1 18 rfl rfl)
theorem dX1_sum_45 : decode cX1_sum 45 = .ok (.invokevirtual 155, 3) := dk_182 0 155 (dk_at dksX1_sum_1 21 rfl rfl)
theorem dX1_sum_48 : decode cX1_sum 48 = .ok (.goto (-36), 3) := dk_167 255 220 (dk_at dksX1_sum_2 0 rfl rfl)
theorem dX1_sum_51 : decode cX1_sum 51 = .ok (.aload_n 1, 1) := dk_43 (dk_at dksX1_sum_2 3 rfl rfl)
theorem dX1_sum_52 : decode cX1_sum 52 = .ok (.areturn, 1) := dk_176 (dk_at dksX1_sum_2 4 rfl rfl)
abbrev cX1_term : ByteArray := prog_13_method_15_code
def yX1_term : MethodName := ⟨RX1, "term", "()LBoneYard$Sum;"⟩
def dkwX1_term_1 : List UInt8 := [182, 0, 136, 43, 16, 42, 42, 182, 0, 159, 182, 0, 155, 167, 255, 233, 43, 176]
abbrev dktX1_term_1 : List UInt8 := dkwX1_term_1 ++ []
def dkwX1_term_0 : List UInt8 := [187, 0, 146, 89, 42, 182, 0, 159, 183, 0, 152, 76, 42, 16, 42, 182, 0, 129, 153, 0, 20, 42]
abbrev dktX1_term_0 : List UInt8 := dkwX1_term_0 ++ dktX1_term_1
theorem dksX1_term_0 : cX1_term.data.toList.drop 0 = dktX1_term_0 := by decide +kernel
theorem dksX1_term_1 : cX1_term.data.toList.drop 22 = dktX1_term_1 := dk_seg dksX1_term_0 22 rfl rfl
theorem dX1_term_0 : decode cX1_term 0 = .ok (.new 146, 3) := dk_187 0 146 (dk_at dksX1_term_0 0 rfl rfl)
theorem dX1_term_3 : decode cX1_term 3 = .ok (.dup, 1) := dk_89 (dk_at dksX1_term_0 3 rfl rfl)
theorem dX1_term_4 : decode cX1_term 4 = .ok (.aload_n 0, 1) := dk_42 (dk_at dksX1_term_0 4 rfl rfl)
theorem dX1_term_5 : decode cX1_term 5 = .ok (.invokevirtual 159, 3) := dk_182 0 159 (dk_at dksX1_term_0 5 rfl rfl)
theorem dX1_term_8 : decode cX1_term 8 = .ok (.invokespecial 152, 3) := dk_183 0 152 (dk_at dksX1_term_0 8 rfl rfl)
theorem dX1_term_11 : decode cX1_term 11 = .ok (.astore_n 1, 1) := dk_76 (dk_at dksX1_term_0 11 rfl rfl)
theorem dX1_term_12 : decode cX1_term 12 = .ok (.aload_n 0, 1) := dk_42 (dk_at dksX1_term_0 12 rfl rfl)
theorem dX1_term_13 : decode cX1_term 13 = .ok (.bipush 42, 2) := dk_16 42 (dk_at dksX1_term_0 13 rfl rfl)
theorem dX1_term_15 : decode cX1_term 15 = .ok (.invokevirtual 129, 3) := dk_182 0 129 (dk_at dksX1_term_0 15 rfl rfl)
theorem dX1_term_18 : decode cX1_term 18 = .ok (.ifCond .eq 20, 3) := dk_153 0 20 (dk_at dksX1_term_0 18 rfl rfl)
theorem dX1_term_21 : decode cX1_term 21 = .ok (.aload_n 0, 1) := dk_42 (dk_at dksX1_term_0 21 rfl rfl)
theorem dX1_term_22 : decode cX1_term 22 = .ok (.invokevirtual 136, 3) := dk_182 0 136 (dk_at dksX1_term_1 0 rfl rfl)
theorem dX1_term_25 : decode cX1_term 25 = .ok (.aload_n 1, 1) := dk_43 (dk_at dksX1_term_1 3 rfl rfl)
theorem dX1_term_26 : decode cX1_term 26 = .ok (.bipush 42, 2) := dk_16 42 (dk_at dksX1_term_1 4 rfl rfl)
theorem dX1_term_28 : decode cX1_term 28 = .ok (.aload_n 0, 1) := dk_42 (dk_at dksX1_term_1 6 rfl rfl)
theorem dX1_term_29 : decode cX1_term 29 = .ok (.invokevirtual 159, 3) := dk_182 0 159 (dk_at dksX1_term_1 7 rfl rfl)
theorem dX1_term_32 : decode cX1_term 32 = .ok (.invokevirtual 155, 3) := dk_182 0 155 (dk_at dksX1_term_1 10 rfl rfl)
theorem dX1_term_35 : decode cX1_term 35 = .ok (.goto (-23), 3) := dk_167 255 233 (dk_at dksX1_term_1 13 rfl rfl)
theorem dX1_term_38 : decode cX1_term 38 = .ok (.aload_n 1, 1) := dk_43 (dk_at dksX1_term_1 16 rfl rfl)
theorem dX1_term_39 : decode cX1_term 39 = .ok (.areturn, 1) := dk_176 (dk_at dksX1_term_1 17 rfl rfl)
abbrev cX1_factor : ByteArray := prog_13_method_16_code
def yX1_factor : MethodName := ⟨RX1, "factor", "()LBoneYard$Sum;"⟩
def dkwX1_factor_3 : List UInt8 := [182, 0, 181, 42, 89, 180, 0, 143, 4, 100, 181, 0, 143, 43, 176]
abbrev dktX1_factor_3 : List UInt8 := dkwX1_factor_3 ++ []
def dkwX1_factor_2 : List UInt8 := [17, 39, 15, 182, 0, 171, 183, 0, 174, 176, 42, 182, 0, 175, 42, 182, 0, 178, 76, 42, 16, 41]
abbrev dktX1_factor_2 : List UInt8 := dkwX1_factor_2 ++ dktX1_factor_3
def dkwX1_factor_1 : List UInt8 := [183, 0, 166, 76, 42, 182, 0, 136, 43, 176, 42, 16, 40, 182, 0, 129, 154, 0, 18, 187, 0, 169, 89, 42]
abbrev dktX1_factor_1 : List UInt8 := dkwX1_factor_1 ++ dktX1_factor_2
def dkwX1_factor_0 : List UInt8 := [42, 180, 0, 105, 133, 9, 20, 0, 162, 184, 0, 80, 153, 0, 21, 187, 0, 164, 89, 42, 180, 0, 105]
abbrev dktX1_factor_0 : List UInt8 := dkwX1_factor_0 ++ dktX1_factor_1
theorem dksX1_factor_0 : cX1_factor.data.toList.drop 0 = dktX1_factor_0 := by decide +kernel
theorem dksX1_factor_1 : cX1_factor.data.toList.drop 23 = dktX1_factor_1 := dk_seg dksX1_factor_0 23 rfl rfl
theorem dksX1_factor_2 : cX1_factor.data.toList.drop 47 = dktX1_factor_2 := dk_seg dksX1_factor_1 24 rfl rfl
theorem dksX1_factor_3 : cX1_factor.data.toList.drop 69 = dktX1_factor_3 := dk_seg dksX1_factor_2 22 rfl rfl
theorem dX1_factor_0 : decode cX1_factor 0 = .ok (.aload_n 0, 1) := dk_42 (dk_at dksX1_factor_0 0 rfl rfl)
theorem dX1_factor_1 : decode cX1_factor 1 = .ok (.getfield 105, 3) := dk_180 0 105 (dk_at dksX1_factor_0 1 rfl rfl)
theorem dX1_factor_4 : decode cX1_factor 4 = .ok (.i2l, 1) := dk_133 (dk_at dksX1_factor_0 4 rfl rfl)
theorem dX1_factor_5 : decode cX1_factor 5 = .ok (.lconst 0, 1) := dk_9 (dk_at dksX1_factor_0 5 rfl rfl)
theorem dX1_factor_6 : decode cX1_factor 6 = .ok (.ldc2_w 162, 3) := dk_20 0 162 (dk_at dksX1_factor_0 6 rfl rfl)
theorem dX1_factor_9 : decode cX1_factor 9 = .ok (.invokestatic 80, 3) := dk_184 0 80 (dk_at dksX1_factor_0 9 rfl rfl)
theorem dX1_factor_12 : decode cX1_factor 12 = .ok (.ifCond .eq 21, 3) := dk_153 0 21 (dk_at dksX1_factor_0 12 rfl rfl)
theorem dX1_factor_15 : decode cX1_factor 15 = .ok (.new 164, 3) := dk_187 0 164 (dk_at dksX1_factor_0 15 rfl rfl)
theorem dX1_factor_18 : decode cX1_factor 18 = .ok (.dup, 1) := dk_89 (dk_at dksX1_factor_0 18 rfl rfl)
theorem dX1_factor_19 : decode cX1_factor 19 = .ok (.aload_n 0, 1) := dk_42 (dk_at dksX1_factor_0 19 rfl rfl)
theorem dX1_factor_20 : decode cX1_factor 20 = .ok (.getfield 105, 3) := dk_180 0 105 (dk_at dksX1_factor_0 20 rfl rfl)
theorem dX1_factor_23 : decode cX1_factor 23 = .ok (.invokespecial 166, 3) := dk_183 0 166 (dk_at dksX1_factor_1 0 rfl rfl)
theorem dX1_factor_26 : decode cX1_factor 26 = .ok (.astore_n 1, 1) := dk_76 (dk_at dksX1_factor_1 3 rfl rfl)
theorem dX1_factor_27 : decode cX1_factor 27 = .ok (.aload_n 0, 1) := dk_42 (dk_at dksX1_factor_1 4 rfl rfl)
theorem dX1_factor_28 : decode cX1_factor 28 = .ok (.invokevirtual 136, 3) := dk_182 0 136 (dk_at dksX1_factor_1 5 rfl rfl)
theorem dX1_factor_31 : decode cX1_factor 31 = .ok (.aload_n 1, 1) := dk_43 (dk_at dksX1_factor_1 8 rfl rfl)
theorem dX1_factor_32 : decode cX1_factor 32 = .ok (.areturn, 1) := dk_176 (dk_at dksX1_factor_1 9 rfl rfl)
theorem dX1_factor_33 : decode cX1_factor 33 = .ok (.aload_n 0, 1) := dk_42 (dk_at dksX1_factor_1 10 rfl rfl)
theorem dX1_factor_34 : decode cX1_factor 34 = .ok (.bipush 40, 2) := dk_16 40 (dk_at dksX1_factor_1 11 rfl rfl)
theorem dX1_factor_36 : decode cX1_factor 36 = .ok (.invokevirtual 129, 3) := dk_182 0 129 (dk_at dksX1_factor_1 13 rfl rfl)
theorem dX1_factor_39 : decode cX1_factor 39 = .ok (.ifCond .ne 18, 3) := dk_154 0 18 (dk_at dksX1_factor_1 16 rfl rfl)
theorem dX1_factor_42 : decode cX1_factor 42 = .ok (.new 169, 3) := dk_187 0 169 (dk_at dksX1_factor_1 19 rfl rfl)
theorem dX1_factor_45 : decode cX1_factor 45 = .ok (.dup, 1) := dk_89 (dk_at dksX1_factor_1 22 rfl rfl)
theorem dX1_factor_46 : decode cX1_factor 46 = .ok (.aload_n 0, 1) := dk_42 (dk_at dksX1_factor_1 23 rfl rfl)
theorem dX1_factor_47 : decode cX1_factor 47 = .ok (.sipush 9999, 3) := dk_17 39 15 (dk_at dksX1_factor_2 0 rfl rfl)
theorem dX1_factor_50 : decode cX1_factor 50 = .ok (.invokevirtual 171, 3) := dk_182 0 171 (dk_at dksX1_factor_2 3 rfl rfl)
theorem dX1_factor_53 : decode cX1_factor 53 = .ok (.invokespecial 174, 3) := dk_183 0 174 (dk_at dksX1_factor_2 6 rfl rfl)
theorem dX1_factor_56 : decode cX1_factor 56 = .ok (.areturn, 1) := dk_176 (dk_at dksX1_factor_2 9 rfl rfl)
theorem dX1_factor_57 : decode cX1_factor 57 = .ok (.aload_n 0, 1) := dk_42 (dk_at dksX1_factor_2 10 rfl rfl)
theorem dX1_factor_58 : decode cX1_factor 58 = .ok (.invokevirtual 175, 3) := dk_182 0 175 (dk_at dksX1_factor_2 11 rfl rfl)
theorem dX1_factor_61 : decode cX1_factor 61 = .ok (.aload_n 0, 1) := dk_42 (dk_at dksX1_factor_2 14 rfl rfl)
theorem dX1_factor_62 : decode cX1_factor 62 = .ok (.invokevirtual 178, 3) := dk_182 0 178 (dk_at dksX1_factor_2 15 rfl rfl)
theorem dX1_factor_65 : decode cX1_factor 65 = .ok (.astore_n 1, 1) := dk_76 (dk_at dksX1_factor_2 18 rfl rfl)
theorem dX1_factor_66 : decode cX1_factor 66 = .ok (.aload_n 0, 1) := dk_42 (dk_at dksX1_factor_2 19 rfl rfl)
theorem dX1_factor_67 : decode cX1_factor 67 = .ok (.bipush 41, 2) := dk_16 41 (dk_at dksX1_factor_2 20 rfl rfl)
theorem dX1_factor_69 : decode cX1_factor 69 = .ok (.invokevirtual 181, 3) := dk_182 0 181 (dk_at dksX1_factor_3 0 rfl rfl)
theorem dX1_factor_72 : decode cX1_factor 72 = .ok (.aload_n 0, 1) := dk_42 (dk_at dksX1_factor_3 3 rfl rfl)
theorem dX1_factor_73 : decode cX1_factor 73 = .ok (.dup, 1) := dk_89 (dk_at dksX1_factor_3 4 rfl rfl)
theorem dX1_factor_74 : decode cX1_factor 74 = .ok (.getfield 143, 3) := dk_180 0 143 (dk_at dksX1_factor_3 5 rfl rfl)
theorem dX1_factor_77 : decode cX1_factor 77 = .ok (.iconst 1, 1) := dk_4 (dk_at dksX1_factor_3 8 rfl rfl)
theorem dX1_factor_78 : decode cX1_factor 78 = .ok (.isub, 1) := dk_100 (dk_at dksX1_factor_3 9 rfl rfl)
theorem dX1_factor_79 : decode cX1_factor 79 = .ok (.putfield 143, 3) := dk_181 0 143 (dk_at dksX1_factor_3 10 rfl rfl)
theorem dX1_factor_82 : decode cX1_factor 82 = .ok (.aload_n 1, 1) := dk_43 (dk_at dksX1_factor_3 13 rfl rfl)
theorem dX1_factor_83 : decode cX1_factor 83 = .ok (.areturn, 1) := dk_176 (dk_at dksX1_factor_3 14 rfl rfl)
abbrev cX1_mustWord : ByteArray := prog_13_method_10_code
def yX1_mustWord : MethodName := ⟨RX1, "mustWord", "(I)V"⟩
def dkwX1_mustWord_0 : List UInt8 := [42, 180, 0, 105, 27, 159, 0, 9, 42, 4, 182, 0, 132, 191, 42, 182, 0, 136, 177]
abbrev dktX1_mustWord_0 : List UInt8 := dkwX1_mustWord_0 ++ []
theorem dksX1_mustWord_0 : cX1_mustWord.data.toList.drop 0 = dktX1_mustWord_0 := by decide +kernel
theorem dX1_mustWord_0 : decode cX1_mustWord 0 = .ok (.aload_n 0, 1) := dk_42 (dk_at dksX1_mustWord_0 0 rfl rfl)
theorem dX1_mustWord_1 : decode cX1_mustWord 1 = .ok (.getfield 105, 3) := dk_180 0 105 (dk_at dksX1_mustWord_0 1 rfl rfl)
theorem dX1_mustWord_4 : decode cX1_mustWord 4 = .ok (.iload_n 1, 1) := dk_27 (dk_at dksX1_mustWord_0 4 rfl rfl)
theorem dX1_mustWord_5 : decode cX1_mustWord 5 = .ok (.if_icmp .eq 9, 3) := dk_159 0 9 (dk_at dksX1_mustWord_0 5 rfl rfl)
theorem dX1_mustWord_8 : decode cX1_mustWord 8 = .ok (.aload_n 0, 1) := dk_42 (dk_at dksX1_mustWord_0 8 rfl rfl)
theorem dX1_mustWord_9 : decode cX1_mustWord 9 = .ok (.iconst 1, 1) := dk_4 (dk_at dksX1_mustWord_0 9 rfl rfl)
theorem dX1_mustWord_10 : decode cX1_mustWord 10 = .ok (.invokevirtual 132, 3) := dk_182 0 132 (dk_at dksX1_mustWord_0 10 rfl rfl)
theorem dX1_mustWord_13 : decode cX1_mustWord 13 = .ok (.athrow, 1) := dk_191 (dk_at dksX1_mustWord_0 13 rfl rfl)
theorem dX1_mustWord_14 : decode cX1_mustWord 14 = .ok (.aload_n 0, 1) := dk_42 (dk_at dksX1_mustWord_0 14 rfl rfl)
theorem dX1_mustWord_15 : decode cX1_mustWord 15 = .ok (.invokevirtual 136, 3) := dk_182 0 136 (dk_at dksX1_mustWord_0 15 rfl rfl)
theorem dX1_mustWord_18 : decode cX1_mustWord 18 = .ok (.return_, 1) := dk_177 (dk_at dksX1_mustWord_0 18 rfl rfl)
abbrev cX1_goal : ByteArray := prog_13_method_20_code
def yX1_goal : MethodName := ⟨RX1, "goal", "(I)LBoneYard$Goal;"⟩
def dkwX1_goal_5 : List UInt8 := [187, 0, 217, 89, 2, 16, 100, 28, 104, 29, 96, 42, 180, 0, 96, 183, 0, 219, 176]
abbrev dktX1_goal_5 : List UInt8 := dkwX1_goal_5 ++ []
def dkwX1_goal_4 : List UInt8 := [182, 0, 171, 61, 42, 16, 46, 182, 0, 181, 42, 42, 180, 0, 3, 180, 0, 225, 4, 100, 182, 0, 171, 62]
abbrev dktX1_goal_4 : List UInt8 := dkwX1_goal_4 ++ dktX1_goal_5
def dkwX1_goal_3 : List UInt8 := [42, 17, 39, 15, 182, 0, 171, 2, 28, 183, 0, 219, 176, 42, 16, 13, 182, 0, 222, 42, 16, 7]
abbrev dktX1_goal_3 : List UInt8 := dkwX1_goal_3 ++ dktX1_goal_4
def dkwX1_goal_2 : List UInt8 := [182, 0, 139, 153, 0, 17, 42, 180, 0, 102, 27, 163, 0, 9, 42, 7, 182, 0, 132, 191, 187, 0, 217, 89]
abbrev dktX1_goal_2 : List UInt8 := dkwX1_goal_2 ++ dktX1_goal_3
def dkwX1_goal_1 : List UInt8 := [183, 0, 219, 176, 42, 180, 0, 105, 16, 12, 160, 0, 50, 42, 182, 0, 136, 42, 180, 0, 96, 61, 42]
abbrev dktX1_goal_1 : List UInt8 := dkwX1_goal_1 ++ dktX1_goal_2
def dkwX1_goal_0 : List UInt8 := [42, 180, 0, 105, 16, 14, 160, 0, 21, 42, 182, 0, 136, 187, 0, 217, 89, 2, 2, 42, 180, 0, 96]
abbrev dktX1_goal_0 : List UInt8 := dkwX1_goal_0 ++ dktX1_goal_1
theorem dksX1_goal_0 : cX1_goal.data.toList.drop 0 = dktX1_goal_0 := by decide +kernel
theorem dksX1_goal_1 : cX1_goal.data.toList.drop 23 = dktX1_goal_1 := dk_seg dksX1_goal_0 23 rfl rfl
theorem dksX1_goal_2 : cX1_goal.data.toList.drop 46 = dktX1_goal_2 := dk_seg dksX1_goal_1 23 rfl rfl
theorem dksX1_goal_3 : cX1_goal.data.toList.drop 70 = dktX1_goal_3 := dk_seg dksX1_goal_2 24 rfl rfl
theorem dksX1_goal_4 : cX1_goal.data.toList.drop 92 = dktX1_goal_4 := dk_seg dksX1_goal_3 22 rfl rfl
theorem dksX1_goal_5 : cX1_goal.data.toList.drop 116 = dktX1_goal_5 := dk_seg dksX1_goal_4 24 rfl rfl
theorem dX1_goal_0 : decode cX1_goal 0 = .ok (.aload_n 0, 1) := dk_42 (dk_at dksX1_goal_0 0 rfl rfl)
theorem dX1_goal_1 : decode cX1_goal 1 = .ok (.getfield 105, 3) := dk_180 0 105 (dk_at dksX1_goal_0 1 rfl rfl)
theorem dX1_goal_4 : decode cX1_goal 4 = .ok (.bipush 14, 2) := dk_16 14 (dk_at dksX1_goal_0 4 rfl rfl)
theorem dX1_goal_6 : decode cX1_goal 6 = .ok (.if_icmp .ne 21, 3) := dk_160 0 21 (dk_at dksX1_goal_0 6 rfl rfl)
theorem dX1_goal_9 : decode cX1_goal 9 = .ok (.aload_n 0, 1) := dk_42 (dk_at dksX1_goal_0 9 rfl rfl)
theorem dX1_goal_10 : decode cX1_goal 10 = .ok (.invokevirtual 136, 3) := dk_182 0 136 (dk_at dksX1_goal_0 10 rfl rfl)
theorem dX1_goal_13 : decode cX1_goal 13 = .ok (.new 217, 3) := dk_187 0 217 (dk_at dksX1_goal_0 13 rfl rfl)
theorem dX1_goal_16 : decode cX1_goal 16 = .ok (.dup, 1) := dk_89 (dk_at dksX1_goal_0 16 rfl rfl)
theorem dX1_goal_17 : decode cX1_goal 17 = .ok (.iconst (-1), 1) := dk_2 (dk_at dksX1_goal_0 17 rfl rfl)
theorem dX1_goal_18 : decode cX1_goal 18 = .ok (.iconst (-1), 1) := dk_2 (dk_at dksX1_goal_0 18 rfl rfl)
theorem dX1_goal_19 : decode cX1_goal 19 = .ok (.aload_n 0, 1) := dk_42 (dk_at dksX1_goal_0 19 rfl rfl)
theorem dX1_goal_20 : decode cX1_goal 20 = .ok (.getfield 96, 3) := dk_180 0 96 (dk_at dksX1_goal_0 20 rfl rfl)
theorem dX1_goal_23 : decode cX1_goal 23 = .ok (.invokespecial 219, 3) := dk_183 0 219 (dk_at dksX1_goal_1 0 rfl rfl)
theorem dX1_goal_26 : decode cX1_goal 26 = .ok (.areturn, 1) := dk_176 (dk_at dksX1_goal_1 3 rfl rfl)
theorem dX1_goal_27 : decode cX1_goal 27 = .ok (.aload_n 0, 1) := dk_42 (dk_at dksX1_goal_1 4 rfl rfl)
theorem dX1_goal_28 : decode cX1_goal 28 = .ok (.getfield 105, 3) := dk_180 0 105 (dk_at dksX1_goal_1 5 rfl rfl)
theorem dX1_goal_31 : decode cX1_goal 31 = .ok (.bipush 12, 2) := dk_16 12 (dk_at dksX1_goal_1 8 rfl rfl)
theorem dX1_goal_33 : decode cX1_goal 33 = .ok (.if_icmp .ne 50, 3) := dk_160 0 50 (dk_at dksX1_goal_1 10 rfl rfl)
theorem dX1_goal_36 : decode cX1_goal 36 = .ok (.aload_n 0, 1) := dk_42 (dk_at dksX1_goal_1 13 rfl rfl)
theorem dX1_goal_37 : decode cX1_goal 37 = .ok (.invokevirtual 136, 3) := dk_182 0 136 (dk_at dksX1_goal_1 14 rfl rfl)
theorem dX1_goal_40 : decode cX1_goal 40 = .ok (.aload_n 0, 1) := dk_42 (dk_at dksX1_goal_1 17 rfl rfl)
theorem dX1_goal_41 : decode cX1_goal 41 = .ok (.getfield 96, 3) := dk_180 0 96 (dk_at dksX1_goal_1 18 rfl rfl)
theorem dX1_goal_44 : decode cX1_goal 44 = .ok (.istore_n 2, 1) := dk_61 (dk_at dksX1_goal_1 21 rfl rfl)
theorem dX1_goal_45 : decode cX1_goal 45 = .ok (.aload_n 0, 1) := dk_42 (dk_at dksX1_goal_1 22 rfl rfl)
theorem dX1_goal_46 : decode cX1_goal 46 = .ok (.invokevirtual 139, 3) := dk_182 0 139 (dk_at dksX1_goal_2 0 rfl rfl)
theorem dX1_goal_49 : decode cX1_goal 49 = .ok (.ifCond .eq 17, 3) := dk_153 0 17 (dk_at dksX1_goal_2 3 rfl rfl)
theorem dX1_goal_52 : decode cX1_goal 52 = .ok (.aload_n 0, 1) := dk_42 (dk_at dksX1_goal_2 6 rfl rfl)
theorem dX1_goal_53 : decode cX1_goal 53 = .ok (.getfield 102, 3) := dk_180 0 102 (dk_at dksX1_goal_2 7 rfl rfl)
theorem dX1_goal_56 : decode cX1_goal 56 = .ok (.iload_n 1, 1) := dk_27 (dk_at dksX1_goal_2 10 rfl rfl)
theorem dX1_goal_57 : decode cX1_goal 57 = .ok (.if_icmp .gt 9, 3) := dk_163 0 9 (dk_at dksX1_goal_2 11 rfl rfl)
theorem dX1_goal_60 : decode cX1_goal 60 = .ok (.aload_n 0, 1) := dk_42 (dk_at dksX1_goal_2 14 rfl rfl)
theorem dX1_goal_61 : decode cX1_goal 61 = .ok (.iconst 4, 1) := dk_7 (dk_at dksX1_goal_2 15 rfl rfl)
theorem dX1_goal_62 : decode cX1_goal 62 = .ok (.invokevirtual 132, 3) := dk_182 0 132 (dk_at dksX1_goal_2 16 rfl rfl)
theorem dX1_goal_65 : decode cX1_goal 65 = .ok (.athrow, 1) := dk_191 (dk_at dksX1_goal_2 19 rfl rfl)
theorem dX1_goal_66 : decode cX1_goal 66 = .ok (.new 217, 3) := dk_187 0 217 (dk_at dksX1_goal_2 20 rfl rfl)
theorem dX1_goal_69 : decode cX1_goal 69 = .ok (.dup, 1) := dk_89 (dk_at dksX1_goal_2 23 rfl rfl)
theorem dX1_goal_70 : decode cX1_goal 70 = .ok (.aload_n 0, 1) := dk_42 (dk_at dksX1_goal_3 0 rfl rfl)
theorem dX1_goal_71 : decode cX1_goal 71 = .ok (.sipush 9999, 3) := dk_17 39 15 (dk_at dksX1_goal_3 1 rfl rfl)
theorem dX1_goal_74 : decode cX1_goal 74 = .ok (.invokevirtual 171, 3) := dk_182 0 171 (dk_at dksX1_goal_3 4 rfl rfl)
theorem dX1_goal_77 : decode cX1_goal 77 = .ok (.iconst (-1), 1) := dk_2 (dk_at dksX1_goal_3 7 rfl rfl)
theorem dX1_goal_78 : decode cX1_goal 78 = .ok (.iload_n 2, 1) := dk_28 (dk_at dksX1_goal_3 8 rfl rfl)
theorem dX1_goal_79 : decode cX1_goal 79 = .ok (.invokespecial 219, 3) := dk_183 0 219 (dk_at dksX1_goal_3 9 rfl rfl)
theorem dX1_goal_82 : decode cX1_goal 82 = .ok (.areturn, 1) := dk_176 (dk_at dksX1_goal_3 12 rfl rfl)
theorem dX1_goal_83 : decode cX1_goal 83 = .ok (.aload_n 0, 1) := dk_42 (dk_at dksX1_goal_3 13 rfl rfl)
theorem dX1_goal_84 : decode cX1_goal 84 = .ok (.bipush 13, 2) := dk_16 13 (dk_at dksX1_goal_3 14 rfl rfl)
theorem dX1_goal_86 : decode cX1_goal 86 = .ok (.invokevirtual 222, 3) := dk_182 0 222 (dk_at dksX1_goal_3 16 rfl rfl)
theorem dX1_goal_89 : decode cX1_goal 89 = .ok (.aload_n 0, 1) := dk_42 (dk_at dksX1_goal_3 19 rfl rfl)
theorem dX1_goal_90 : decode cX1_goal 90 = .ok (.bipush 7, 2) := dk_16 7 (dk_at dksX1_goal_3 20 rfl rfl)
theorem dX1_goal_92 : decode cX1_goal 92 = .ok (.invokevirtual 171, 3) := dk_182 0 171 (dk_at dksX1_goal_4 0 rfl rfl)
theorem dX1_goal_95 : decode cX1_goal 95 = .ok (.istore_n 2, 1) := dk_61 (dk_at dksX1_goal_4 3 rfl rfl)
theorem dX1_goal_96 : decode cX1_goal 96 = .ok (.aload_n 0, 1) := dk_42 (dk_at dksX1_goal_4 4 rfl rfl)
theorem dX1_goal_97 : decode cX1_goal 97 = .ok (.bipush 46, 2) := dk_16 46 (dk_at dksX1_goal_4 5 rfl rfl)
theorem dX1_goal_99 : decode cX1_goal 99 = .ok (.invokevirtual 181, 3) := dk_182 0 181 (dk_at dksX1_goal_4 7 rfl rfl)
theorem dX1_goal_102 : decode cX1_goal 102 = .ok (.aload_n 0, 1) := dk_42 (dk_at dksX1_goal_4 10 rfl rfl)
theorem dX1_goal_103 : decode cX1_goal 103 = .ok (.aload_n 0, 1) := dk_42 (dk_at dksX1_goal_4 11 rfl rfl)
theorem dX1_goal_104 : decode cX1_goal 104 = .ok (.getfield 3, 3) := dk_180 0 3 (dk_at dksX1_goal_4 12 rfl rfl)
theorem dX1_goal_107 : decode cX1_goal 107 = .ok (.getfield 225, 3) := dk_180 0 225 (dk_at dksX1_goal_4 15 rfl rfl)
theorem dX1_goal_110 : decode cX1_goal 110 = .ok (.iconst 1, 1) := dk_4 (dk_at dksX1_goal_4 18 rfl rfl)
theorem dX1_goal_111 : decode cX1_goal 111 = .ok (.isub, 1) := dk_100 (dk_at dksX1_goal_4 19 rfl rfl)
theorem dX1_goal_112 : decode cX1_goal 112 = .ok (.invokevirtual 171, 3) := dk_182 0 171 (dk_at dksX1_goal_4 20 rfl rfl)
theorem dX1_goal_115 : decode cX1_goal 115 = .ok (.istore_n 3, 1) := dk_62 (dk_at dksX1_goal_4 23 rfl rfl)
theorem dX1_goal_116 : decode cX1_goal 116 = .ok (.new 217, 3) := dk_187 0 217 (dk_at dksX1_goal_5 0 rfl rfl)
theorem dX1_goal_119 : decode cX1_goal 119 = .ok (.dup, 1) := dk_89 (dk_at dksX1_goal_5 3 rfl rfl)
theorem dX1_goal_120 : decode cX1_goal 120 = .ok (.iconst (-1), 1) := dk_2 (dk_at dksX1_goal_5 4 rfl rfl)
theorem dX1_goal_121 : decode cX1_goal 121 = .ok (.bipush 100, 2) := dk_16 100 (dk_at dksX1_goal_5 5 rfl rfl)
theorem dX1_goal_123 : decode cX1_goal 123 = .ok (.iload_n 2, 1) := dk_28 (dk_at dksX1_goal_5 7 rfl rfl)
theorem dX1_goal_124 : decode cX1_goal 124 = .ok (.imul, 1) := dk_104 (dk_at dksX1_goal_5 8 rfl rfl)
theorem dX1_goal_125 : decode cX1_goal 125 = .ok (.iload_n 3, 1) := dk_29 (dk_at dksX1_goal_5 9 rfl rfl)
theorem dX1_goal_126 : decode cX1_goal 126 = .ok (.iadd, 1) := dk_96 (dk_at dksX1_goal_5 10 rfl rfl)
theorem dX1_goal_127 : decode cX1_goal 127 = .ok (.aload_n 0, 1) := dk_42 (dk_at dksX1_goal_5 11 rfl rfl)
theorem dX1_goal_128 : decode cX1_goal 128 = .ok (.getfield 96, 3) := dk_180 0 96 (dk_at dksX1_goal_5 12 rfl rfl)
theorem dX1_goal_131 : decode cX1_goal 131 = .ok (.invokespecial 219, 3) := dk_183 0 219 (dk_at dksX1_goal_5 15 rfl rfl)
theorem dX1_goal_134 : decode cX1_goal 134 = .ok (.areturn, 1) := dk_176 (dk_at dksX1_goal_5 18 rfl rfl)
abbrev cX1_leads : ByteArray := prog_13_method_22_code
def yX1_leads : MethodName := ⟨RX1, "leads", "(LBoneYard$Key;LBoneYard$Goal;)V"⟩
def dkwX1_leads_1 : List UInt8 := [7, 44, 180, 1, 14, 182, 0, 125, 191, 177]
abbrev dktX1_leads_1 : List UInt8 := dkwX1_leads_1 ++ []
def dkwX1_leads_0 : List UInt8 := [44, 180, 1, 9, 2, 159, 0, 28, 43, 44, 180, 1, 9, 182, 1, 12, 2, 160, 0, 16, 42, 180, 0, 60]
abbrev dktX1_leads_0 : List UInt8 := dkwX1_leads_0 ++ dktX1_leads_1
theorem dksX1_leads_0 : cX1_leads.data.toList.drop 0 = dktX1_leads_0 := by decide +kernel
theorem dksX1_leads_1 : cX1_leads.data.toList.drop 24 = dktX1_leads_1 := dk_seg dksX1_leads_0 24 rfl rfl
theorem dX1_leads_0 : decode cX1_leads 0 = .ok (.aload_n 2, 1) := dk_44 (dk_at dksX1_leads_0 0 rfl rfl)
theorem dX1_leads_1 : decode cX1_leads 1 = .ok (.getfield 265, 3) := dk_180 1 9 (dk_at dksX1_leads_0 1 rfl rfl)
theorem dX1_leads_4 : decode cX1_leads 4 = .ok (.iconst (-1), 1) := dk_2 (dk_at dksX1_leads_0 4 rfl rfl)
theorem dX1_leads_5 : decode cX1_leads 5 = .ok (.if_icmp .eq 28, 3) := dk_159 0 28 (dk_at dksX1_leads_0 5 rfl rfl)
theorem dX1_leads_8 : decode cX1_leads 8 = .ok (.aload_n 1, 1) := dk_43 (dk_at dksX1_leads_0 8 rfl rfl)
theorem dX1_leads_9 : decode cX1_leads 9 = .ok (.aload_n 2, 1) := dk_44 (dk_at dksX1_leads_0 9 rfl rfl)
theorem dX1_leads_10 : decode cX1_leads 10 = .ok (.getfield 265, 3) := dk_180 1 9 (dk_at dksX1_leads_0 10 rfl rfl)
theorem dX1_leads_13 : decode cX1_leads 13 = .ok (.invokevirtual 268, 3) := dk_182 1 12 (dk_at dksX1_leads_0 13 rfl rfl)
theorem dX1_leads_16 : decode cX1_leads 16 = .ok (.iconst (-1), 1) := dk_2 (dk_at dksX1_leads_0 16 rfl rfl)
theorem dX1_leads_17 : decode cX1_leads 17 = .ok (.if_icmp .ne 16, 3) := dk_160 0 16 (dk_at dksX1_leads_0 17 rfl rfl)
theorem dX1_leads_20 : decode cX1_leads 20 = .ok (.aload_n 0, 1) := dk_42 (dk_at dksX1_leads_0 20 rfl rfl)
theorem dX1_leads_21 : decode cX1_leads 21 = .ok (.getfield 60, 3) := dk_180 0 60 (dk_at dksX1_leads_0 21 rfl rfl)
theorem dX1_leads_24 : decode cX1_leads 24 = .ok (.iconst 4, 1) := dk_7 (dk_at dksX1_leads_1 0 rfl rfl)
theorem dX1_leads_25 : decode cX1_leads 25 = .ok (.aload_n 2, 1) := dk_44 (dk_at dksX1_leads_1 1 rfl rfl)
theorem dX1_leads_26 : decode cX1_leads 26 = .ok (.getfield 270, 3) := dk_180 1 14 (dk_at dksX1_leads_1 2 rfl rfl)
theorem dX1_leads_29 : decode cX1_leads 29 = .ok (.invokevirtual 125, 3) := dk_182 0 125 (dk_at dksX1_leads_1 5 rfl rfl)
theorem dX1_leads_32 : decode cX1_leads 32 = .ok (.athrow, 1) := dk_191 (dk_at dksX1_leads_1 8 rfl rfl)
theorem dX1_leads_33 : decode cX1_leads 33 = .ok (.return_, 1) := dk_177 (dk_at dksX1_leads_1 9 rfl rfl)
theorem q110 : (Jvm.Cond.initialized "BoneYard$Reader") ∈ lw_all := lw_g (lw_at lw_m1 2 rfl) rfl
theorem q371 : (Jvm.Cond.instantiable "BoneYard$Reader" (10 : Nat)) ∈ lw_all := lw_g (lw_at lw_m2 23 rfl) rfl
theorem q373 : (Jvm.Cond.instanceMethod ({ cls := "BoneYard$Reader", name := "<init>", desc := "(LBoneYard;)V" } : Jvm.MethodName)) ∈ lw_all := lw_g (lw_at lw_m2 25 rfl) rfl
theorem q374 : (Jvm.Cond.code ({ cls := "BoneYard$Reader", name := "<init>", desc := "(LBoneYard;)V" } : Jvm.MethodName) prog_13_method_1_code (2 : Nat) (Option.none : Option Jvm.ClassFile.FieldType)) ∈ lw_all := lw_g (lw_at lw_m2 26 rfl) rfl
theorem q375 : (Jvm.Cond.methodLink "BoneYard$Reader" (9 : Nat) ({ cls := "java/lang/Object", name := "<init>", desc := "()V" } : Jvm.MethodName)) ∈ lw_all := lw_g (lw_at lw_m2 27 rfl) rfl
theorem q376 : (Jvm.Cond.classLink "BoneYard$Reader" (15 : Nat) "java/lang/String") ∈ lw_all := lw_g (lw_at lw_m2 28 rfl) rfl
theorem q378 : (Jvm.Cond.stringRef "BoneYard$Reader" (17 : Nat) "a") ∈ lw_tbl := lw_at lw_m2 30 rfl
theorem q379 : (Jvm.Cond.stringRef "BoneYard$Reader" (19 : Nat) "b") ∈ lw_tbl := lw_at lw_m2 31 rfl
theorem q380 : (Jvm.Cond.stringRef "BoneYard$Reader" (21 : Nat) "c") ∈ lw_tbl := lw_at lw_m2 32 rfl
theorem q381 : (Jvm.Cond.stringRef "BoneYard$Reader" (23 : Nat) "d") ∈ lw_tbl := lw_at lw_m2 33 rfl
theorem q382 : (Jvm.Cond.stringRef "BoneYard$Reader" (25 : Nat) "e") ∈ lw_tbl := lw_at lw_m2 34 rfl
theorem q383 : (Jvm.Cond.stringRef "BoneYard$Reader" (27 : Nat) "f") ∈ lw_tbl := lw_at lw_m2 35 rfl
theorem q384 : (Jvm.Cond.stringRef "BoneYard$Reader" (29 : Nat) "side") ∈ lw_tbl := lw_at lw_m2 36 rfl
theorem q385 : (Jvm.Cond.stringRef "BoneYard$Reader" (31 : Nat) "zones") ∈ lw_tbl := lw_at lw_m2 37 rfl
theorem q386 : (Jvm.Cond.stringRef "BoneYard$Reader" (33 : Nat) "ends") ∈ lw_tbl := lw_at lw_m2 38 rfl
theorem q387 : (Jvm.Cond.stringRef "BoneYard$Reader" (35 : Nat) "wear") ∈ lw_tbl := lw_at lw_m2 39 rfl
theorem q388 : (Jvm.Cond.stringRef "BoneYard$Reader" (37 : Nat) "then") ∈ lw_tbl := lw_at lw_m2 40 rfl
theorem q389 : (Jvm.Cond.stringRef "BoneYard$Reader" (39 : Nat) "else") ∈ lw_tbl := lw_at lw_m2 41 rfl
theorem q390 : (Jvm.Cond.stringRef "BoneYard$Reader" (41 : Nat) "go") ∈ lw_tbl := lw_at lw_m2 42 rfl
theorem q391 : (Jvm.Cond.stringRef "BoneYard$Reader" (43 : Nat) "is") ∈ lw_tbl := lw_at lw_m2 43 rfl
theorem q392 : (Jvm.Cond.stringRef "BoneYard$Reader" (45 : Nat) "none") ∈ lw_tbl := lw_at lw_m2 44 rfl
theorem q393 : (Jvm.Cond.stringRef "BoneYard$Reader" (47 : Nat) "or") ∈ lw_tbl := lw_at lw_m2 45 rfl
theorem q394 : (Jvm.Cond.stringRef "BoneYard$Reader" (49 : Nat) "and") ∈ lw_tbl := lw_at lw_m2 46 rfl
theorem q395 : (Jvm.Cond.stringRef "BoneYard$Reader" (51 : Nat) "not") ∈ lw_tbl := lw_at lw_m2 47 rfl
theorem q396 : (Jvm.Cond.classLink "BoneYard$Reader" (57 : Nat) "BoneYard$Wrong") ∈ lw_all := lw_g (lw_at lw_m2 48 rfl) rfl
theorem q405 : (Jvm.Cond.methodLinkNest "BoneYard$Reader" (59 : Nat) ({ cls := "BoneYard$Wrong", name := "<init>", desc := "()V" } : Jvm.MethodName) "BoneYard") ∈ lw_tbl := lw_at lw_m2 57 rfl
theorem q420 : (Jvm.Cond.fieldLink "BoneYard$Reader" (53 : Nat) "BoneYard$Reader" "words" "[Ljava/lang/String;") ∈ lw_all := lw_g (lw_at lw_m2 72 rfl) rfl
theorem q421 : (Jvm.Cond.fieldLink "BoneYard$Reader" (60 : Nat) "BoneYard$Reader" "wrong" "LBoneYard$Wrong;") ∈ lw_all := lw_g (lw_at lw_m2 73 rfl) rfl
theorem q422 : (Jvm.Cond.fieldLink "BoneYard$Reader" (68 : Nat) "BoneYard$Reader" "text" "[B") ∈ lw_all := lw_g (lw_at lw_m2 74 rfl) rfl
theorem q423 : (Jvm.Cond.fieldLink "BoneYard$Reader" (64 : Nat) "BoneYard$Reader" "size" "I") ∈ lw_all := lw_g (lw_at lw_m2 75 rfl) rfl
theorem q424 : (Jvm.Cond.fieldLink "BoneYard$Reader" (99 : Nat) "BoneYard$Reader" "at" "I") ∈ lw_all := lw_g (lw_at lw_m2 76 rfl) rfl
theorem q425 : (Jvm.Cond.fieldLink "BoneYard$Reader" (96 : Nat) "BoneYard$Reader" "place" "I") ∈ lw_all := lw_g (lw_at lw_m2 77 rfl) rfl
theorem q426 : (Jvm.Cond.fieldLink "BoneYard$Reader" (105 : Nat) "BoneYard$Reader" "token" "I") ∈ lw_all := lw_g (lw_at lw_m2 78 rfl) rfl
theorem q427 : (Jvm.Cond.fieldLink "BoneYard$Reader" (102 : Nat) "BoneYard$Reader" "value" "I") ∈ lw_all := lw_g (lw_at lw_m2 79 rfl) rfl
theorem q428 : (Jvm.Cond.fieldLink "BoneYard$Reader" (143 : Nat) "BoneYard$Reader" "within" "I") ∈ lw_all := lw_g (lw_at lw_m2 80 rfl) rfl
theorem q429 : (Jvm.Cond.fieldLink "BoneYard$Reader" (3 : Nat) "BoneYard$Reader" "this$0" "LBoneYard;") ∈ lw_all := lw_g (lw_at lw_m2 81 rfl) rfl
theorem q430 : (Jvm.Cond.laysFinal "BoneYard$Reader" "BoneYard$Reader" "words" "[Ljava/lang/String;") ∈ lw_all := lw_g (lw_at lw_m2 82 rfl) rfl
theorem q431 : (Jvm.Cond.soleField "BoneYard$Reader" "words") ∈ lw_all := lw_g (lw_at lw_m2 83 rfl) rfl
theorem q432 : (Jvm.Cond.laysFinal "BoneYard$Reader" "BoneYard$Reader" "wrong" "LBoneYard$Wrong;") ∈ lw_all := lw_g (lw_at lw_m2 84 rfl) rfl
theorem q433 : (Jvm.Cond.soleField "BoneYard$Reader" "wrong") ∈ lw_all := lw_g (lw_at lw_m2 85 rfl) rfl
theorem q434 : (Jvm.Cond.lays "BoneYard$Reader" "BoneYard$Reader" "text" "[B") ∈ lw_all := lw_g (lw_at lw_m2 86 rfl) rfl
theorem q435 : (Jvm.Cond.soleField "BoneYard$Reader" "text") ∈ lw_all := lw_g (lw_at lw_m2 87 rfl) rfl
theorem q436 : (Jvm.Cond.lays "BoneYard$Reader" "BoneYard$Reader" "size" "I") ∈ lw_all := lw_g (lw_at lw_m2 88 rfl) rfl
theorem q437 : (Jvm.Cond.soleField "BoneYard$Reader" "size") ∈ lw_all := lw_g (lw_at lw_m2 89 rfl) rfl
theorem q438 : (Jvm.Cond.lays "BoneYard$Reader" "BoneYard$Reader" "at" "I") ∈ lw_all := lw_g (lw_at lw_m2 90 rfl) rfl
theorem q439 : (Jvm.Cond.soleField "BoneYard$Reader" "at") ∈ lw_all := lw_g (lw_at lw_m2 91 rfl) rfl
theorem q440 : (Jvm.Cond.lays "BoneYard$Reader" "BoneYard$Reader" "place" "I") ∈ lw_all := lw_g (lw_at lw_m2 92 rfl) rfl
theorem q441 : (Jvm.Cond.soleField "BoneYard$Reader" "place") ∈ lw_all := lw_g (lw_at lw_m2 93 rfl) rfl
theorem q442 : (Jvm.Cond.lays "BoneYard$Reader" "BoneYard$Reader" "token" "I") ∈ lw_all := lw_g (lw_at lw_m2 94 rfl) rfl
theorem q443 : (Jvm.Cond.soleField "BoneYard$Reader" "token") ∈ lw_all := lw_g (lw_at lw_m2 95 rfl) rfl
theorem q444 : (Jvm.Cond.lays "BoneYard$Reader" "BoneYard$Reader" "value" "I") ∈ lw_all := lw_g (lw_at lw_m2 96 rfl) rfl
theorem q445 : (Jvm.Cond.soleField "BoneYard$Reader" "value") ∈ lw_all := lw_g (lw_at lw_m2 97 rfl) rfl
theorem q446 : (Jvm.Cond.lays "BoneYard$Reader" "BoneYard$Reader" "within" "I") ∈ lw_all := lw_g (lw_at lw_m2 98 rfl) rfl
theorem q447 : (Jvm.Cond.soleField "BoneYard$Reader" "within") ∈ lw_all := lw_g (lw_at lw_m2 99 rfl) rfl
theorem q448 : (Jvm.Cond.laysFinal "BoneYard$Reader" "BoneYard$Reader" "this$0" "LBoneYard;") ∈ lw_all := lw_g (lw_at lw_m2 100 rfl) rfl
theorem q449 : (Jvm.Cond.soleField "BoneYard$Reader" "this$0") ∈ lw_all := lw_g (lw_at lw_m2 101 rfl) rfl
theorem q450 : (Jvm.Cond.superclass "BoneYard$Reader" "java/lang/Object") ∈ lw_all := lw_g (lw_at lw_m2 102 rfl) rfl
theorem q471 : (Jvm.Cond.fieldLinkNest "BoneYard$Reader" (225 : Nat) "BoneYard" "elementMany" "I" "BoneYard") ∈ lw_tbl := lw_at lw_m2 123 rfl
theorem q763 : (Jvm.Cond.instanceMethod ({ cls := "BoneYard$Reader", name := "key", desc := "([BI)LBoneYard$Key;" } : Jvm.MethodName)) ∈ lw_all := lw_g (lw_at lw_m3 175 rfl) rfl
theorem q764 : (Jvm.Cond.selects "BoneYard$Reader" ({ cls := "BoneYard$Reader", name := "key", desc := "([BI)LBoneYard$Key;" } : Jvm.MethodName) ({ cls := "BoneYard$Reader", name := "key", desc := "([BI)LBoneYard$Key;" } : Jvm.MethodName)) ∈ lw_all := lw_g (lw_at lw_m3 176 rfl) rfl
theorem q765 : (Jvm.Cond.code ({ cls := "BoneYard$Reader", name := "key", desc := "([BI)LBoneYard$Key;" } : Jvm.MethodName) prog_13_method_23_code (5 : Nat) (Option.some (Jvm.ClassFile.FieldType.object "BoneYard$Key"))) ∈ lw_all := lw_g (lw_at lw_m3 177 rfl) rfl
theorem q766 : (Jvm.Cond.methodLink "BoneYard$Reader" (136 : Nat) ({ cls := "BoneYard$Reader", name := "next", desc := "()V" } : Jvm.MethodName)) ∈ lw_all := lw_g (lw_at lw_m3 178 rfl) rfl
theorem q767 : (Jvm.Cond.privateMethod ({ cls := "BoneYard$Reader", name := "next", desc := "()V" } : Jvm.MethodName)) ∈ lw_tbl := lw_at lw_m3 179 rfl
theorem q768 : (Jvm.Cond.instanceMethod ({ cls := "BoneYard$Reader", name := "next", desc := "()V" } : Jvm.MethodName)) ∈ lw_all := lw_g (lw_at lw_m3 180 rfl) rfl
theorem q769 : (Jvm.Cond.code ({ cls := "BoneYard$Reader", name := "next", desc := "()V" } : Jvm.MethodName) prog_13_method_6_code (2 : Nat) (Option.none : Option Jvm.ClassFile.FieldType)) ∈ lw_all := lw_g (lw_at lw_m3 181 rfl) rfl
theorem q770 : (Jvm.Cond.methodLink "BoneYard$Reader" (108 : Nat) ({ cls := "BoneYard$Reader", name := "isSmall", desc := "(I)Z" } : Jvm.MethodName)) ∈ lw_all := lw_g (lw_at lw_m3 182 rfl) rfl
theorem q771 : (Jvm.Cond.privateMethod ({ cls := "BoneYard$Reader", name := "isSmall", desc := "(I)Z" } : Jvm.MethodName)) ∈ lw_tbl := lw_at lw_m3 183 rfl
theorem q772 : (Jvm.Cond.instanceMethod ({ cls := "BoneYard$Reader", name := "isSmall", desc := "(I)Z" } : Jvm.MethodName)) ∈ lw_all := lw_g (lw_at lw_m3 184 rfl) rfl
theorem q773 : (Jvm.Cond.code ({ cls := "BoneYard$Reader", name := "isSmall", desc := "(I)Z" } : Jvm.MethodName) prog_13_method_3_code (2 : Nat) (Option.some Jvm.ClassFile.FieldType.boolean)) ∈ lw_all := lw_g (lw_at lw_m3 185 rfl) rfl
theorem q774 : (Jvm.Cond.methodLink "BoneYard$Reader" (72 : Nat) ({ cls := "BoneYard$Reader", name := "byteAt", desc := "(I)I" } : Jvm.MethodName)) ∈ lw_all := lw_g (lw_at lw_m3 186 rfl) rfl
theorem q775 : (Jvm.Cond.privateMethod ({ cls := "BoneYard$Reader", name := "byteAt", desc := "(I)I" } : Jvm.MethodName)) ∈ lw_tbl := lw_at lw_m3 187 rfl
theorem q776 : (Jvm.Cond.instanceMethod ({ cls := "BoneYard$Reader", name := "byteAt", desc := "(I)I" } : Jvm.MethodName)) ∈ lw_all := lw_g (lw_at lw_m3 188 rfl) rfl
theorem q777 : (Jvm.Cond.code ({ cls := "BoneYard$Reader", name := "byteAt", desc := "(I)I" } : Jvm.MethodName) prog_13_method_2_code (2 : Nat) (Option.some Jvm.ClassFile.FieldType.int)) ∈ lw_all := lw_g (lw_at lw_m3 189 rfl) rfl
theorem q778 : (Jvm.Cond.constantLong "BoneYard$Reader" (76 : Nat) (97 : Int64)) ∈ lw_all := lw_g (lw_at lw_m3 190 rfl) rfl
theorem q779 : (Jvm.Cond.constantLong "BoneYard$Reader" (78 : Nat) (122 : Int64)) ∈ lw_all := lw_g (lw_at lw_m3 191 rfl) rfl
theorem q780 : (Jvm.Cond.methodLinkNest "BoneYard$Reader" (80 : Nat) ({ cls := "BoneYard", name := "in", desc := "(JJJ)Z" } : Jvm.MethodName) "BoneYard") ∈ lw_tbl := lw_at lw_m3 192 rfl
theorem q781 : (Jvm.Cond.methodLink "BoneYard$Reader" (112 : Nat) ({ cls := "BoneYard$Reader", name := "isWord", desc := "(Ljava/lang/String;I)Z" } : Jvm.MethodName)) ∈ lw_all := lw_g (lw_at lw_m3 193 rfl) rfl
theorem q782 : (Jvm.Cond.privateMethod ({ cls := "BoneYard$Reader", name := "isWord", desc := "(Ljava/lang/String;I)Z" } : Jvm.MethodName)) ∈ lw_tbl := lw_at lw_m3 194 rfl
theorem q783 : (Jvm.Cond.instanceMethod ({ cls := "BoneYard$Reader", name := "isWord", desc := "(Ljava/lang/String;I)Z" } : Jvm.MethodName)) ∈ lw_all := lw_g (lw_at lw_m3 195 rfl) rfl
theorem q784 : (Jvm.Cond.code ({ cls := "BoneYard$Reader", name := "isWord", desc := "(Ljava/lang/String;I)Z" } : Jvm.MethodName) prog_13_method_5_code (5 : Nat) (Option.some Jvm.ClassFile.FieldType.boolean)) ∈ lw_all := lw_g (lw_at lw_m3 196 rfl) rfl
theorem q785 : (Jvm.Cond.methodLink "BoneYard$Reader" (88 : Nat) ({ cls := "java/lang/String", name := "length", desc := "()I" } : Jvm.MethodName)) ∈ lw_all := lw_g (lw_at lw_m3 197 rfl) rfl
theorem q795 : (Jvm.Cond.methodLink "BoneYard$Reader" (92 : Nat) ({ cls := "java/lang/String", name := "charAt", desc := "(I)C" } : Jvm.MethodName)) ∈ lw_all := lw_g (lw_at lw_m3 207 rfl) rfl
theorem q833 : (Jvm.Cond.methodLink "BoneYard$Reader" (116 : Nat) ({ cls := "BoneYard$Reader", name := "isDigit", desc := "(I)Z" } : Jvm.MethodName)) ∈ lw_all := lw_g (lw_at lw_m4 5 rfl) rfl
theorem q834 : (Jvm.Cond.privateMethod ({ cls := "BoneYard$Reader", name := "isDigit", desc := "(I)Z" } : Jvm.MethodName)) ∈ lw_tbl := lw_at lw_m4 6 rfl
theorem q835 : (Jvm.Cond.instanceMethod ({ cls := "BoneYard$Reader", name := "isDigit", desc := "(I)Z" } : Jvm.MethodName)) ∈ lw_all := lw_g (lw_at lw_m4 7 rfl) rfl
theorem q836 : (Jvm.Cond.code ({ cls := "BoneYard$Reader", name := "isDigit", desc := "(I)Z" } : Jvm.MethodName) prog_13_method_4_code (2 : Nat) (Option.some Jvm.ClassFile.FieldType.boolean)) ∈ lw_all := lw_g (lw_at lw_m4 8 rfl) rfl
theorem q837 : (Jvm.Cond.constantLong "BoneYard$Reader" (84 : Nat) (48 : Int64)) ∈ lw_all := lw_g (lw_at lw_m4 9 rfl) rfl
theorem q838 : (Jvm.Cond.constantLong "BoneYard$Reader" (86 : Nat) (57 : Int64)) ∈ lw_all := lw_g (lw_at lw_m4 10 rfl) rfl
theorem q839 : (Jvm.Cond.methodLink "BoneYard$Reader" (119 : Nat) ({ cls := "java/lang/Math", name := "min", desc := "(II)I" } : Jvm.MethodName)) ∈ lw_all := lw_g (lw_at lw_m4 11 rfl) rfl
theorem q840 : (Jvm.Cond.classLink "BoneYard$Reader" (229 : Nat) "BoneYard$Key") ∈ lw_all := lw_g (lw_at lw_m4 12 rfl) rfl
theorem q842 : (Jvm.Cond.methodLinkNest "BoneYard$Reader" (271 : Nat) ({ cls := "BoneYard$Key", name := "<init>", desc := "()V" } : Jvm.MethodName) "BoneYard") ∈ lw_tbl := lw_at lw_m4 14 rfl
theorem q875 : (Jvm.Cond.fieldLinkNest "BoneYard$Reader" (228 : Nat) "BoneYard$Key" "steps" "Ljava/util/List;" "BoneYard") ∈ lw_tbl := lw_at lw_m4 47 rfl
theorem q879 : (Jvm.Cond.methodLink "BoneYard$Reader" (272 : Nat) ({ cls := "BoneYard$Reader", name := "step", desc := "(LBoneYard$Key;)V" } : Jvm.MethodName)) ∈ lw_all := lw_g (lw_at lw_m4 51 rfl) rfl
theorem q880 : (Jvm.Cond.privateMethod ({ cls := "BoneYard$Reader", name := "step", desc := "(LBoneYard$Key;)V" } : Jvm.MethodName)) ∈ lw_tbl := lw_at lw_m4 52 rfl
theorem q881 : (Jvm.Cond.instanceMethod ({ cls := "BoneYard$Reader", name := "step", desc := "(LBoneYard$Key;)V" } : Jvm.MethodName)) ∈ lw_all := lw_g (lw_at lw_m4 53 rfl) rfl
theorem q882 : (Jvm.Cond.code ({ cls := "BoneYard$Reader", name := "step", desc := "(LBoneYard$Key;)V" } : Jvm.MethodName) prog_13_method_21_code (3 : Nat) (Option.none : Option Jvm.ClassFile.FieldType)) ∈ lw_all := lw_g (lw_at lw_m4 54 rfl) rfl
theorem q883 : (Jvm.Cond.methodLink "BoneYard$Reader" (139 : Nat) ({ cls := "BoneYard$Reader", name := "isNumber", desc := "()Z" } : Jvm.MethodName)) ∈ lw_all := lw_g (lw_at lw_m4 55 rfl) rfl
theorem q884 : (Jvm.Cond.privateMethod ({ cls := "BoneYard$Reader", name := "isNumber", desc := "()Z" } : Jvm.MethodName)) ∈ lw_tbl := lw_at lw_m4 56 rfl
theorem q885 : (Jvm.Cond.instanceMethod ({ cls := "BoneYard$Reader", name := "isNumber", desc := "()Z" } : Jvm.MethodName)) ∈ lw_all := lw_g (lw_at lw_m4 57 rfl) rfl
theorem q886 : (Jvm.Cond.code ({ cls := "BoneYard$Reader", name := "isNumber", desc := "()Z" } : Jvm.MethodName) prog_13_method_11_code (1 : Nat) (Option.some Jvm.ClassFile.FieldType.boolean)) ∈ lw_all := lw_g (lw_at lw_m4 58 rfl) rfl
theorem q887 : (Jvm.Cond.methodLink "BoneYard$Reader" (132 : Nat) ({ cls := "BoneYard$Reader", name := "fault", desc := "(I)LBoneYard$Wrong;" } : Jvm.MethodName)) ∈ lw_all := lw_g (lw_at lw_m4 59 rfl) rfl
theorem q888 : (Jvm.Cond.privateMethod ({ cls := "BoneYard$Reader", name := "fault", desc := "(I)LBoneYard$Wrong;" } : Jvm.MethodName)) ∈ lw_tbl := lw_at lw_m4 60 rfl
theorem q889 : (Jvm.Cond.instanceMethod ({ cls := "BoneYard$Reader", name := "fault", desc := "(I)LBoneYard$Wrong;" } : Jvm.MethodName)) ∈ lw_all := lw_g (lw_at lw_m4 61 rfl) rfl
theorem q890 : (Jvm.Cond.code ({ cls := "BoneYard$Reader", name := "fault", desc := "(I)LBoneYard$Wrong;" } : Jvm.MethodName) prog_13_method_8_code (2 : Nat) (Option.some (Jvm.ClassFile.FieldType.object "BoneYard$Wrong"))) ∈ lw_all := lw_g (lw_at lw_m4 62 rfl) rfl
theorem q891 : (Jvm.Cond.methodLink "BoneYard$Reader" (125 : Nat) ({ cls := "BoneYard$Wrong", name := "of", desc := "(II)LBoneYard$Wrong;" } : Jvm.MethodName)) ∈ lw_all := lw_g (lw_at lw_m4 63 rfl) rfl
theorem q895 : (Jvm.Cond.interfaceEntry "BoneYard$Reader" (233 : Nat)) ∈ lw_tbl := lw_at lw_m4 67 rfl
theorem q896 : (Jvm.Cond.methodLink "BoneYard$Reader" (233 : Nat) ({ cls := "java/util/List", name := "size", desc := "()I" } : Jvm.MethodName)) ∈ lw_all := lw_g (lw_at lw_m4 68 rfl) rfl
theorem q905 : (Jvm.Cond.interfaceEntry "BoneYard$Reader" (235 : Nat)) ∈ lw_tbl := lw_at lw_m4 77 rfl
theorem q906 : (Jvm.Cond.methodLink "BoneYard$Reader" (235 : Nat) ({ cls := "java/util/List", name := "isEmpty", desc := "()Z" } : Jvm.MethodName)) ∈ lw_all := lw_g (lw_at lw_m4 78 rfl) rfl
theorem q914 : (Jvm.Cond.interfaceEntry "BoneYard$Reader" (238 : Nat)) ∈ lw_tbl := lw_at lw_m4 86 rfl
theorem q915 : (Jvm.Cond.methodLink "BoneYard$Reader" (238 : Nat) ({ cls := "java/util/List", name := "get", desc := "(I)Ljava/lang/Object;" } : Jvm.MethodName)) ∈ lw_all := lw_g (lw_at lw_m4 87 rfl) rfl
theorem q931 : (Jvm.Cond.classLink "BoneYard$Reader" (242 : Nat) "BoneYard$Step") ∈ lw_all := lw_g (lw_at lw_m4 103 rfl) rfl
theorem q933 : (Jvm.Cond.methodLink "BoneYard$Reader" (171 : Nat) ({ cls := "BoneYard$Reader", name := "number", desc := "(I)I" } : Jvm.MethodName)) ∈ lw_all := lw_g (lw_at lw_m4 105 rfl) rfl
theorem q934 : (Jvm.Cond.privateMethod ({ cls := "BoneYard$Reader", name := "number", desc := "(I)I" } : Jvm.MethodName)) ∈ lw_tbl := lw_at lw_m4 106 rfl
theorem q935 : (Jvm.Cond.instanceMethod ({ cls := "BoneYard$Reader", name := "number", desc := "(I)I" } : Jvm.MethodName)) ∈ lw_all := lw_g (lw_at lw_m4 107 rfl) rfl
theorem q936 : (Jvm.Cond.code ({ cls := "BoneYard$Reader", name := "number", desc := "(I)I" } : Jvm.MethodName) prog_13_method_12_code (3 : Nat) (Option.some Jvm.ClassFile.FieldType.int)) ∈ lw_all := lw_g (lw_at lw_m4 108 rfl) rfl
theorem q937 : (Jvm.Cond.methodLink "BoneYard$Reader" (246 : Nat) ({ cls := "BoneYard$Step", name := "<init>", desc := "(I)V" } : Jvm.MethodName)) ∈ lw_all := lw_g (lw_at lw_m4 109 rfl) rfl
theorem q943 : (Jvm.Cond.fieldLinkNest "BoneYard$Reader" (244 : Nat) "BoneYard$Step" "number" "I" "BoneYard") ∈ lw_tbl := lw_at lw_m4 115 rfl
theorem q945 : (Jvm.Cond.fieldLinkNest "BoneYard$Reader" (250 : Nat) "BoneYard$Step" "when" "LBoneYard$Cond;" "BoneYard") ∈ lw_tbl := lw_at lw_m4 117 rfl
theorem q947 : (Jvm.Cond.fieldLinkNest "BoneYard$Reader" (258 : Nat) "BoneYard$Step" "yes" "LBoneYard$Goal;" "BoneYard") ∈ lw_tbl := lw_at lw_m4 119 rfl
theorem q949 : (Jvm.Cond.fieldLinkNest "BoneYard$Reader" (262 : Nat) "BoneYard$Step" "no" "LBoneYard$Goal;" "BoneYard") ∈ lw_tbl := lw_at lw_m4 121 rfl
theorem q959 : (Jvm.Cond.methodLink "BoneYard$Reader" (181 : Nat) ({ cls := "BoneYard$Reader", name := "must", desc := "(I)V" } : Jvm.MethodName)) ∈ lw_all := lw_g (lw_at lw_m4 131 rfl) rfl
theorem q960 : (Jvm.Cond.privateMethod ({ cls := "BoneYard$Reader", name := "must", desc := "(I)V" } : Jvm.MethodName)) ∈ lw_tbl := lw_at lw_m4 132 rfl
theorem q961 : (Jvm.Cond.instanceMethod ({ cls := "BoneYard$Reader", name := "must", desc := "(I)V" } : Jvm.MethodName)) ∈ lw_all := lw_g (lw_at lw_m4 133 rfl) rfl
theorem q962 : (Jvm.Cond.code ({ cls := "BoneYard$Reader", name := "must", desc := "(I)V" } : Jvm.MethodName) prog_13_method_9_code (2 : Nat) (Option.none : Option Jvm.ClassFile.FieldType)) ∈ lw_all := lw_g (lw_at lw_m4 134 rfl) rfl
theorem q963 : (Jvm.Cond.methodLink "BoneYard$Reader" (129 : Nat) ({ cls := "BoneYard$Reader", name := "isSign", desc := "(I)Z" } : Jvm.MethodName)) ∈ lw_all := lw_g (lw_at lw_m4 135 rfl) rfl
theorem q964 : (Jvm.Cond.privateMethod ({ cls := "BoneYard$Reader", name := "isSign", desc := "(I)Z" } : Jvm.MethodName)) ∈ lw_tbl := lw_at lw_m4 136 rfl
theorem q965 : (Jvm.Cond.instanceMethod ({ cls := "BoneYard$Reader", name := "isSign", desc := "(I)Z" } : Jvm.MethodName)) ∈ lw_all := lw_g (lw_at lw_m4 137 rfl) rfl
theorem q966 : (Jvm.Cond.code ({ cls := "BoneYard$Reader", name := "isSign", desc := "(I)Z" } : Jvm.MethodName) prog_13_method_7_code (2 : Nat) (Option.some Jvm.ClassFile.FieldType.boolean)) ∈ lw_all := lw_g (lw_at lw_m4 138 rfl) rfl
theorem q967 : (Jvm.Cond.methodLink "BoneYard$Reader" (247 : Nat) ({ cls := "BoneYard$Reader", name := "any", desc := "()LBoneYard$Cond;" } : Jvm.MethodName)) ∈ lw_all := lw_g (lw_at lw_m4 139 rfl) rfl
theorem q968 : (Jvm.Cond.privateMethod ({ cls := "BoneYard$Reader", name := "any", desc := "()LBoneYard$Cond;" } : Jvm.MethodName)) ∈ lw_tbl := lw_at lw_m4 140 rfl
theorem q969 : (Jvm.Cond.instanceMethod ({ cls := "BoneYard$Reader", name := "any", desc := "()LBoneYard$Cond;" } : Jvm.MethodName)) ∈ lw_all := lw_g (lw_at lw_m4 141 rfl) rfl
theorem q970 : (Jvm.Cond.code ({ cls := "BoneYard$Reader", name := "any", desc := "()LBoneYard$Cond;" } : Jvm.MethodName) prog_13_method_17_code (2 : Nat) (Option.some (Jvm.ClassFile.FieldType.object "BoneYard$Cond"))) ∈ lw_all := lw_g (lw_at lw_m4 142 rfl) rfl
theorem q971 : (Jvm.Cond.classLink "BoneYard$Reader" (184 : Nat) "BoneYard$Any") ∈ lw_all := lw_g (lw_at lw_m4 143 rfl) rfl
theorem q973 : (Jvm.Cond.methodLinkNest "BoneYard$Reader" (186 : Nat) ({ cls := "BoneYard$Any", name := "<init>", desc := "()V" } : Jvm.MethodName) "BoneYard") ∈ lw_tbl := lw_at lw_m4 145 rfl
theorem q988 : (Jvm.Cond.fieldLink "BoneYard$Reader" (187 : Nat) "BoneYard$Any" "parts" "Ljava/util/List;") ∈ lw_all := lw_g (lw_at lw_m4 160 rfl) rfl
theorem q989 : (Jvm.Cond.fieldLink "BoneYard$Reader" (204 : Nat) "BoneYard$All" "parts" "Ljava/util/List;") ∈ lw_all := lw_g (lw_at lw_m4 161 rfl) rfl
theorem q990 : (Jvm.Cond.fieldLink "BoneYard$Reader" (211 : Nat) "BoneYard$Not" "parts" "Ljava/util/List;") ∈ lw_all := lw_g (lw_at lw_m4 162 rfl) rfl
theorem q995 : (Jvm.Cond.methodLink "BoneYard$Reader" (191 : Nat) ({ cls := "BoneYard$Reader", name := "all", desc := "()LBoneYard$Cond;" } : Jvm.MethodName)) ∈ lw_all := lw_g (lw_at lw_m4 167 rfl) rfl
theorem q996 : (Jvm.Cond.privateMethod ({ cls := "BoneYard$Reader", name := "all", desc := "()LBoneYard$Cond;" } : Jvm.MethodName)) ∈ lw_tbl := lw_at lw_m4 168 rfl
theorem q997 : (Jvm.Cond.instanceMethod ({ cls := "BoneYard$Reader", name := "all", desc := "()LBoneYard$Cond;" } : Jvm.MethodName)) ∈ lw_all := lw_g (lw_at lw_m4 169 rfl) rfl
theorem q998 : (Jvm.Cond.code ({ cls := "BoneYard$Reader", name := "all", desc := "()LBoneYard$Cond;" } : Jvm.MethodName) prog_13_method_18_code (2 : Nat) (Option.some (Jvm.ClassFile.FieldType.object "BoneYard$Cond"))) ∈ lw_all := lw_g (lw_at lw_m4 170 rfl) rfl
theorem q999 : (Jvm.Cond.classLink "BoneYard$Reader" (201 : Nat) "BoneYard$All") ∈ lw_all := lw_g (lw_at lw_m4 171 rfl) rfl
theorem q1001 : (Jvm.Cond.methodLinkNest "BoneYard$Reader" (203 : Nat) ({ cls := "BoneYard$All", name := "<init>", desc := "()V" } : Jvm.MethodName) "BoneYard") ∈ lw_tbl := lw_at lw_m4 173 rfl
theorem q1004 : (Jvm.Cond.methodLink "BoneYard$Reader" (205 : Nat) ({ cls := "BoneYard$Reader", name := "one", desc := "()LBoneYard$Cond;" } : Jvm.MethodName)) ∈ lw_all := lw_g (lw_at lw_m4 176 rfl) rfl
theorem q1005 : (Jvm.Cond.privateMethod ({ cls := "BoneYard$Reader", name := "one", desc := "()LBoneYard$Cond;" } : Jvm.MethodName)) ∈ lw_tbl := lw_at lw_m4 177 rfl
theorem q1006 : (Jvm.Cond.instanceMethod ({ cls := "BoneYard$Reader", name := "one", desc := "()LBoneYard$Cond;" } : Jvm.MethodName)) ∈ lw_all := lw_g (lw_at lw_m4 178 rfl) rfl
theorem q1007 : (Jvm.Cond.code ({ cls := "BoneYard$Reader", name := "one", desc := "()LBoneYard$Cond;" } : Jvm.MethodName) prog_13_method_19_code (3 : Nat) (Option.some (Jvm.ClassFile.FieldType.object "BoneYard$Cond"))) ∈ lw_all := lw_g (lw_at lw_m4 179 rfl) rfl
theorem q1008 : (Jvm.Cond.methodLink "BoneYard$Reader" (175 : Nat) ({ cls := "BoneYard$Reader", name := "deeper", desc := "()V" } : Jvm.MethodName)) ∈ lw_all := lw_g (lw_at lw_m4 180 rfl) rfl
theorem q1009 : (Jvm.Cond.privateMethod ({ cls := "BoneYard$Reader", name := "deeper", desc := "()V" } : Jvm.MethodName)) ∈ lw_tbl := lw_at lw_m4 181 rfl
theorem q1010 : (Jvm.Cond.instanceMethod ({ cls := "BoneYard$Reader", name := "deeper", desc := "()V" } : Jvm.MethodName)) ∈ lw_all := lw_g (lw_at lw_m4 182 rfl) rfl
theorem q1011 : (Jvm.Cond.code ({ cls := "BoneYard$Reader", name := "deeper", desc := "()V" } : Jvm.MethodName) prog_13_method_13_code (1 : Nat) (Option.none : Option Jvm.ClassFile.FieldType)) ∈ lw_all := lw_g (lw_at lw_m4 183 rfl) rfl
theorem q1012 : (Jvm.Cond.classLink "BoneYard$Reader" (208 : Nat) "BoneYard$Not") ∈ lw_all := lw_g (lw_at lw_m4 184 rfl) rfl
theorem q1014 : (Jvm.Cond.methodLinkNest "BoneYard$Reader" (210 : Nat) ({ cls := "BoneYard$Not", name := "<init>", desc := "()V" } : Jvm.MethodName) "BoneYard") ∈ lw_tbl := lw_at lw_m4 186 rfl
theorem q1020 : (Jvm.Cond.interfaceEntry "BoneYard$Reader" (195 : Nat)) ∈ lw_tbl := lw_at lw_m4 192 rfl
theorem q1021 : (Jvm.Cond.methodLink "BoneYard$Reader" (195 : Nat) ({ cls := "java/util/List", name := "add", desc := "(Ljava/lang/Object;)Z" } : Jvm.MethodName)) ∈ lw_all := lw_g (lw_at lw_m4 193 rfl) rfl
theorem q1068 : (Jvm.Cond.selects "BoneYard$Reader" ({ cls := "java/lang/Object", name := "getClass", desc := "()Ljava/lang/Class;" } : Jvm.MethodName) ({ cls := "java/lang/Object", name := "getClass", desc := "()Ljava/lang/Class;" } : Jvm.MethodName)) ∈ lw_all := lw_g (lw_at lw_m5 0 rfl) rfl
theorem q1089 : (Jvm.Cond.methodLink "BoneYard$Reader" (178 : Nat) ({ cls := "BoneYard$Reader", name := "sum", desc := "()LBoneYard$Sum;" } : Jvm.MethodName)) ∈ lw_all := lw_g (lw_at lw_m5 21 rfl) rfl
theorem q1090 : (Jvm.Cond.privateMethod ({ cls := "BoneYard$Reader", name := "sum", desc := "()LBoneYard$Sum;" } : Jvm.MethodName)) ∈ lw_tbl := lw_at lw_m5 22 rfl
theorem q1091 : (Jvm.Cond.instanceMethod ({ cls := "BoneYard$Reader", name := "sum", desc := "()LBoneYard$Sum;" } : Jvm.MethodName)) ∈ lw_all := lw_g (lw_at lw_m5 23 rfl) rfl
theorem q1092 : (Jvm.Cond.code ({ cls := "BoneYard$Reader", name := "sum", desc := "()LBoneYard$Sum;" } : Jvm.MethodName) prog_13_method_14_code (3 : Nat) (Option.some (Jvm.ClassFile.FieldType.object "BoneYard$Sum"))) ∈ lw_all := lw_g (lw_at lw_m5 24 rfl) rfl
theorem q1093 : (Jvm.Cond.classLink "BoneYard$Reader" (146 : Nat) "BoneYard$Chain") ∈ lw_all := lw_g (lw_at lw_m5 25 rfl) rfl
theorem q1095 : (Jvm.Cond.methodLink "BoneYard$Reader" (148 : Nat) ({ cls := "BoneYard$Reader", name := "term", desc := "()LBoneYard$Sum;" } : Jvm.MethodName)) ∈ lw_all := lw_g (lw_at lw_m5 27 rfl) rfl
theorem q1096 : (Jvm.Cond.privateMethod ({ cls := "BoneYard$Reader", name := "term", desc := "()LBoneYard$Sum;" } : Jvm.MethodName)) ∈ lw_tbl := lw_at lw_m5 28 rfl
theorem q1097 : (Jvm.Cond.instanceMethod ({ cls := "BoneYard$Reader", name := "term", desc := "()LBoneYard$Sum;" } : Jvm.MethodName)) ∈ lw_all := lw_g (lw_at lw_m5 29 rfl) rfl
theorem q1098 : (Jvm.Cond.code ({ cls := "BoneYard$Reader", name := "term", desc := "()LBoneYard$Sum;" } : Jvm.MethodName) prog_13_method_15_code (2 : Nat) (Option.some (Jvm.ClassFile.FieldType.object "BoneYard$Sum"))) ∈ lw_all := lw_g (lw_at lw_m5 30 rfl) rfl
theorem q1099 : (Jvm.Cond.methodLink "BoneYard$Reader" (159 : Nat) ({ cls := "BoneYard$Reader", name := "factor", desc := "()LBoneYard$Sum;" } : Jvm.MethodName)) ∈ lw_all := lw_g (lw_at lw_m5 31 rfl) rfl
theorem q1100 : (Jvm.Cond.privateMethod ({ cls := "BoneYard$Reader", name := "factor", desc := "()LBoneYard$Sum;" } : Jvm.MethodName)) ∈ lw_tbl := lw_at lw_m5 32 rfl
theorem q1101 : (Jvm.Cond.instanceMethod ({ cls := "BoneYard$Reader", name := "factor", desc := "()LBoneYard$Sum;" } : Jvm.MethodName)) ∈ lw_all := lw_g (lw_at lw_m5 33 rfl) rfl
theorem q1102 : (Jvm.Cond.code ({ cls := "BoneYard$Reader", name := "factor", desc := "()LBoneYard$Sum;" } : Jvm.MethodName) prog_13_method_16_code (2 : Nat) (Option.some (Jvm.ClassFile.FieldType.object "BoneYard$Sum"))) ∈ lw_all := lw_g (lw_at lw_m5 34 rfl) rfl
theorem q1103 : (Jvm.Cond.constantLong "BoneYard$Reader" (162 : Nat) (9 : Int64)) ∈ lw_all := lw_g (lw_at lw_m5 35 rfl) rfl
theorem q1104 : (Jvm.Cond.classLink "BoneYard$Reader" (164 : Nat) "BoneYard$Name") ∈ lw_all := lw_g (lw_at lw_m5 36 rfl) rfl
theorem q1106 : (Jvm.Cond.methodLink "BoneYard$Reader" (166 : Nat) ({ cls := "BoneYard$Name", name := "<init>", desc := "(I)V" } : Jvm.MethodName)) ∈ lw_all := lw_g (lw_at lw_m5 38 rfl) rfl
theorem q1117 : (Jvm.Cond.classLink "BoneYard$Reader" (169 : Nat) "BoneYard$Told") ∈ lw_all := lw_g (lw_at lw_m5 49 rfl) rfl
theorem q1119 : (Jvm.Cond.methodLink "BoneYard$Reader" (174 : Nat) ({ cls := "BoneYard$Told", name := "<init>", desc := "(I)V" } : Jvm.MethodName)) ∈ lw_all := lw_g (lw_at lw_m5 51 rfl) rfl
theorem q1127 : (Jvm.Cond.methodLink "BoneYard$Reader" (152 : Nat) ({ cls := "BoneYard$Chain", name := "<init>", desc := "(LBoneYard$Sum;)V" } : Jvm.MethodName)) ∈ lw_all := lw_g (lw_at lw_m5 59 rfl) rfl
theorem q1142 : (Jvm.Cond.methodLink "BoneYard$Reader" (155 : Nat) ({ cls := "BoneYard$Chain", name := "goesOn", desc := "(ILBoneYard$Sum;)V" } : Jvm.MethodName)) ∈ lw_all := lw_g (lw_at lw_m5 74 rfl) rfl
theorem q1166 : (Jvm.Cond.classLink "BoneYard$Reader" (212 : Nat) "BoneYard$Compared") ∈ lw_all := lw_g (lw_at lw_m5 98 rfl) rfl
theorem q1168 : (Jvm.Cond.methodLink "BoneYard$Reader" (214 : Nat) ({ cls := "BoneYard$Compared", name := "<init>", desc := "(LBoneYard$Sum;ILBoneYard$Sum;)V" } : Jvm.MethodName)) ∈ lw_all := lw_g (lw_at lw_m5 100 rfl) rfl
theorem q1182 : (Jvm.Cond.methodLink "BoneYard$Reader" (222 : Nat) ({ cls := "BoneYard$Reader", name := "mustWord", desc := "(I)V" } : Jvm.MethodName)) ∈ lw_all := lw_g (lw_at lw_m5 114 rfl) rfl
theorem q1183 : (Jvm.Cond.privateMethod ({ cls := "BoneYard$Reader", name := "mustWord", desc := "(I)V" } : Jvm.MethodName)) ∈ lw_tbl := lw_at lw_m5 115 rfl
theorem q1184 : (Jvm.Cond.instanceMethod ({ cls := "BoneYard$Reader", name := "mustWord", desc := "(I)V" } : Jvm.MethodName)) ∈ lw_all := lw_g (lw_at lw_m5 116 rfl) rfl
theorem q1185 : (Jvm.Cond.code ({ cls := "BoneYard$Reader", name := "mustWord", desc := "(I)V" } : Jvm.MethodName) prog_13_method_10_code (2 : Nat) (Option.none : Option Jvm.ClassFile.FieldType)) ∈ lw_all := lw_g (lw_at lw_m5 117 rfl) rfl
theorem q1186 : (Jvm.Cond.methodLink "BoneYard$Reader" (254 : Nat) ({ cls := "BoneYard$Reader", name := "goal", desc := "(I)LBoneYard$Goal;" } : Jvm.MethodName)) ∈ lw_all := lw_g (lw_at lw_m5 118 rfl) rfl
theorem q1187 : (Jvm.Cond.privateMethod ({ cls := "BoneYard$Reader", name := "goal", desc := "(I)LBoneYard$Goal;" } : Jvm.MethodName)) ∈ lw_tbl := lw_at lw_m5 119 rfl
theorem q1188 : (Jvm.Cond.instanceMethod ({ cls := "BoneYard$Reader", name := "goal", desc := "(I)LBoneYard$Goal;" } : Jvm.MethodName)) ∈ lw_all := lw_g (lw_at lw_m5 120 rfl) rfl
theorem q1189 : (Jvm.Cond.code ({ cls := "BoneYard$Reader", name := "goal", desc := "(I)LBoneYard$Goal;" } : Jvm.MethodName) prog_13_method_20_code (4 : Nat) (Option.some (Jvm.ClassFile.FieldType.object "BoneYard$Goal"))) ∈ lw_all := lw_g (lw_at lw_m5 121 rfl) rfl
theorem q1190 : (Jvm.Cond.classLink "BoneYard$Reader" (217 : Nat) "BoneYard$Goal") ∈ lw_all := lw_g (lw_at lw_m5 122 rfl) rfl
theorem q1192 : (Jvm.Cond.methodLink "BoneYard$Reader" (219 : Nat) ({ cls := "BoneYard$Goal", name := "<init>", desc := "(III)V" } : Jvm.MethodName)) ∈ lw_all := lw_g (lw_at lw_m5 124 rfl) rfl
theorem q1198 : (Jvm.Cond.fieldLinkNest "BoneYard$Reader" (265 : Nat) "BoneYard$Goal" "step" "I" "BoneYard") ∈ lw_tbl := lw_at lw_m5 130 rfl
theorem q1202 : (Jvm.Cond.fieldLinkNest "BoneYard$Reader" (270 : Nat) "BoneYard$Goal" "place" "I" "BoneYard") ∈ lw_tbl := lw_at lw_m5 134 rfl
theorem q1210 : (Jvm.Cond.methodLink "BoneYard$Reader" (275 : Nat) ({ cls := "BoneYard$Reader", name := "leads", desc := "(LBoneYard$Key;LBoneYard$Goal;)V" } : Jvm.MethodName)) ∈ lw_all := lw_g (lw_at lw_m5 142 rfl) rfl
theorem q1211 : (Jvm.Cond.privateMethod ({ cls := "BoneYard$Reader", name := "leads", desc := "(LBoneYard$Key;LBoneYard$Goal;)V" } : Jvm.MethodName)) ∈ lw_tbl := lw_at lw_m5 143 rfl
theorem q1212 : (Jvm.Cond.instanceMethod ({ cls := "BoneYard$Reader", name := "leads", desc := "(LBoneYard$Key;LBoneYard$Goal;)V" } : Jvm.MethodName)) ∈ lw_all := lw_g (lw_at lw_m5 144 rfl) rfl
theorem q1213 : (Jvm.Cond.code ({ cls := "BoneYard$Reader", name := "leads", desc := "(LBoneYard$Key;LBoneYard$Goal;)V" } : Jvm.MethodName) prog_13_method_22_code (3 : Nat) (Option.none : Option Jvm.ClassFile.FieldType)) ∈ lw_all := lw_g (lw_at lw_m5 145 rfl) rfl
theorem q1214 : (Jvm.Cond.methodLink "BoneYard$Reader" (268 : Nat) ({ cls := "BoneYard$Key", name := "at", desc := "(I)I" } : Jvm.MethodName)) ∈ lw_all := lw_g (lw_at lw_m5 146 rfl) rfl
theorem q2136 : (Jvm.Cond.castable "BoneYard$Reader" "java/lang/Object") ∈ lw_tbl := lw_at lw_m9 108 rfl
theorem in_X1 : ∀ w ∈ wsX10, w ∈ lw_all := lw_in wsX10 [430, 432, 434, 436, 438, 440, 442, 444, 446, 448] (by decide +kernel) (by decide +kernel)
/-! BoneYard$Wrong -/
set_option maxRecDepth 100000
def RX2 : String := "BoneYard$Wrong"
def TX2 : u_T := fun k => match k with
  | 0 => ("java/lang/Throwable", "cause", "Ljava/lang/Throwable;", false)
  | 1 => ("java/lang/Throwable", "stackTrace", "[Ljava/lang/StackTraceElement;", false)
  | 2 => ("java/lang/Throwable", "suppressedExceptions", "Ljava/util/List;", false)
  | 3 => ("java/lang/Throwable", "detailMessage", "Ljava/lang/String;", false)
  | 4 => ("java/lang/Throwable", "backtrace", "Ljava/lang/Object;", false)
  | 5 => ("java/lang/Throwable", "depth", "I", false)
  | 6 => ("BoneYard$Wrong", "kind", "I", false)
  | _ => ("BoneYard$Wrong", "place", "I", false)
def tyX2 : Nat → FieldType := fun k => match k with
  | 0 => .object "java/lang/Throwable"
  | 1 => .array (.object "java/lang/StackTraceElement")
  | 2 => .object "java/util/List"
  | 3 => .object "java/lang/String"
  | 4 => .object "java/lang/Object"
  | 5 => .int
  | 6 => .int
  | _ => .int
abbrev wsX20 : List Cond := u_ws RX2 TX2 8
theorem nmX2 : ∀ a, a < 8 → ∀ b, b < 8 → a ≠ b → (TX2 a).2.1 ≠ (TX2 b).2.1 := by decide +kernel
theorem tyX2_ok : ∀ k, k < 8 → parseFieldDescriptor (TX2 k).2.2.1 = some (tyX2 k) := by decide +kernel
abbrev cX2_init : ByteArray := prog_18_method_1_code
def yX2_init : MethodName := ⟨RX2, "<init>", "()V"⟩
theorem dX2_init_0 : decode cX2_init 0 = .ok (.aload_n 0, 1) := by decide +kernel
theorem dX2_init_1 : decode cX2_init 1 = .ok (.invokespecial 1, 3) := by decide +kernel
theorem dX2_init_4 : decode cX2_init 4 = .ok (.return_, 1) := by decide +kernel
abbrev cX2_of : ByteArray := prog_18_method_2_code
def yX2_of : MethodName := ⟨RX2, "of", "(II)LBoneYard$Wrong;"⟩
def dkwX2_of_0 : List UInt8 := [42, 27, 181, 0, 7, 42, 28, 181, 0, 13, 42, 176]
abbrev dktX2_of_0 : List UInt8 := dkwX2_of_0 ++ []
theorem dksX2_of_0 : cX2_of.data.toList.drop 0 = dktX2_of_0 := by decide +kernel
theorem dX2_of_0 : decode cX2_of 0 = .ok (.aload_n 0, 1) := dk_42 (dk_at dksX2_of_0 0 rfl rfl)
theorem dX2_of_1 : decode cX2_of 1 = .ok (.iload_n 1, 1) := dk_27 (dk_at dksX2_of_0 1 rfl rfl)
theorem dX2_of_2 : decode cX2_of 2 = .ok (.putfield 7, 3) := dk_181 0 7 (dk_at dksX2_of_0 2 rfl rfl)
theorem dX2_of_5 : decode cX2_of 5 = .ok (.aload_n 0, 1) := dk_42 (dk_at dksX2_of_0 5 rfl rfl)
theorem dX2_of_6 : decode cX2_of 6 = .ok (.iload_n 2, 1) := dk_28 (dk_at dksX2_of_0 6 rfl rfl)
theorem dX2_of_7 : decode cX2_of 7 = .ok (.putfield 13, 3) := dk_181 0 13 (dk_at dksX2_of_0 7 rfl rfl)
theorem dX2_of_10 : decode cX2_of 10 = .ok (.aload_n 0, 1) := dk_42 (dk_at dksX2_of_0 10 rfl rfl)
theorem dX2_of_11 : decode cX2_of 11 = .ok (.areturn, 1) := dk_176 (dk_at dksX2_of_0 11 rfl rfl)
theorem q113 : (Jvm.Cond.initialized "BoneYard$Wrong") ∈ lw_all := lw_g (lw_at lw_m1 5 rfl) rfl
theorem q189 : (Jvm.Cond.selects "BoneYard$Wrong" ({ cls := "java/lang/Throwable", name := "fillInStackTrace", desc := "()Ljava/lang/Throwable;" } : Jvm.MethodName) ({ cls := "java/lang/Throwable", name := "fillInStackTrace", desc := "()Ljava/lang/Throwable;" } : Jvm.MethodName)) ∈ lw_all := lw_g (lw_at lw_m1 81 rfl) rfl
theorem q397 : (Jvm.Cond.instantiable "BoneYard$Wrong" (8 : Nat)) ∈ lw_all := lw_g (lw_at lw_m2 49 rfl) rfl
theorem q398 : (Jvm.Cond.castable "BoneYard$Wrong" "BoneYard$Wrong") ∈ lw_tbl := lw_at lw_m2 50 rfl
theorem q399 : (Jvm.Cond.selects "BoneYard$Wrong" ({ cls := "java/lang/Throwable", name := "fillInStackTrace", desc := "(I)Ljava/lang/Throwable;" } : Jvm.MethodName) ({ cls := "java/lang/Throwable", name := "fillInStackTrace", desc := "(I)Ljava/lang/Throwable;" } : Jvm.MethodName)) ∈ lw_all := lw_g (lw_at lw_m2 51 rfl) rfl
theorem q400 : (Jvm.Cond.lays "BoneYard$Wrong" "java/lang/Throwable" "cause" "Ljava/lang/Throwable;") ∈ lw_all := lw_g (lw_at lw_m2 52 rfl) rfl
theorem q401 : (Jvm.Cond.lays "BoneYard$Wrong" "java/lang/Throwable" "stackTrace" "[Ljava/lang/StackTraceElement;") ∈ lw_all := lw_g (lw_at lw_m2 53 rfl) rfl
theorem q402 : (Jvm.Cond.lays "BoneYard$Wrong" "java/lang/Throwable" "suppressedExceptions" "Ljava/util/List;") ∈ lw_all := lw_g (lw_at lw_m2 54 rfl) rfl
theorem q403 : (Jvm.Cond.lays "BoneYard$Wrong" "java/lang/Throwable" "detailMessage" "Ljava/lang/String;") ∈ lw_all := lw_g (lw_at lw_m2 55 rfl) rfl
theorem q404 : (Jvm.Cond.lays "BoneYard$Wrong" "java/lang/Throwable" "backtrace" "Ljava/lang/Object;") ∈ lw_all := lw_g (lw_at lw_m2 56 rfl) rfl
theorem q406 : (Jvm.Cond.instanceMethod ({ cls := "BoneYard$Wrong", name := "<init>", desc := "()V" } : Jvm.MethodName)) ∈ lw_all := lw_g (lw_at lw_m2 58 rfl) rfl
theorem q407 : (Jvm.Cond.code ({ cls := "BoneYard$Wrong", name := "<init>", desc := "()V" } : Jvm.MethodName) prog_18_method_1_code (1 : Nat) (Option.none : Option Jvm.ClassFile.FieldType)) ∈ lw_all := lw_g (lw_at lw_m2 59 rfl) rfl
theorem q408 : (Jvm.Cond.methodLink "BoneYard$Wrong" (1 : Nat) ({ cls := "java/lang/Exception", name := "<init>", desc := "()V" } : Jvm.MethodName)) ∈ lw_all := lw_g (lw_at lw_m2 60 rfl) rfl
theorem q409 : (Jvm.Cond.fieldLink "BoneYard$Wrong" (7 : Nat) "BoneYard$Wrong" "kind" "I") ∈ lw_all := lw_g (lw_at lw_m2 61 rfl) rfl
theorem q411 : (Jvm.Cond.fieldLink "BoneYard$Wrong" (13 : Nat) "BoneYard$Wrong" "place" "I") ∈ lw_all := lw_g (lw_at lw_m2 63 rfl) rfl
theorem q413 : (Jvm.Cond.lays "BoneYard$Wrong" "BoneYard$Wrong" "kind" "I") ∈ lw_all := lw_g (lw_at lw_m2 65 rfl) rfl
theorem q414 : (Jvm.Cond.soleField "BoneYard$Wrong" "kind") ∈ lw_all := lw_g (lw_at lw_m2 66 rfl) rfl
theorem q415 : (Jvm.Cond.lays "BoneYard$Wrong" "BoneYard$Wrong" "place" "I") ∈ lw_all := lw_g (lw_at lw_m2 67 rfl) rfl
theorem q416 : (Jvm.Cond.soleField "BoneYard$Wrong" "place") ∈ lw_all := lw_g (lw_at lw_m2 68 rfl) rfl
theorem q417 : (Jvm.Cond.lays "BoneYard$Wrong" "java/lang/Throwable" "depth" "I") ∈ lw_all := lw_g (lw_at lw_m2 69 rfl) rfl
theorem q418 : (Jvm.Cond.superclass "BoneYard$Wrong" "java/lang/Exception") ∈ lw_all := lw_g (lw_at lw_m2 70 rfl) rfl
theorem q892 : (Jvm.Cond.instanceMethod ({ cls := "BoneYard$Wrong", name := "of", desc := "(II)LBoneYard$Wrong;" } : Jvm.MethodName)) ∈ lw_all := lw_g (lw_at lw_m4 64 rfl) rfl
theorem q893 : (Jvm.Cond.selects "BoneYard$Wrong" ({ cls := "BoneYard$Wrong", name := "of", desc := "(II)LBoneYard$Wrong;" } : Jvm.MethodName) ({ cls := "BoneYard$Wrong", name := "of", desc := "(II)LBoneYard$Wrong;" } : Jvm.MethodName)) ∈ lw_all := lw_g (lw_at lw_m4 65 rfl) rfl
theorem q894 : (Jvm.Cond.code ({ cls := "BoneYard$Wrong", name := "of", desc := "(II)LBoneYard$Wrong;" } : Jvm.MethodName) prog_18_method_2_code (3 : Nat) (Option.some (Jvm.ClassFile.FieldType.object "BoneYard$Wrong"))) ∈ lw_all := lw_g (lw_at lw_m4 66 rfl) rfl
theorem q1072 : (Jvm.Cond.selects "BoneYard$Wrong" ({ cls := "java/lang/Object", name := "getClass", desc := "()Ljava/lang/Class;" } : Jvm.MethodName) ({ cls := "java/lang/Object", name := "getClass", desc := "()Ljava/lang/Class;" } : Jvm.MethodName)) ∈ lw_all := lw_g (lw_at lw_m5 4 rfl) rfl
theorem q2137 : (Jvm.Cond.castable "BoneYard$Wrong" "java/lang/Object") ∈ lw_tbl := lw_at lw_m9 109 rfl
theorem in_X2 : ∀ w ∈ wsX20, w ∈ lw_all := lw_in wsX20 [400, 401, 402, 403, 404, 417, 413, 415] (by decide +kernel) (by decide +kernel)
/-! BoneYard$Row -/
set_option maxRecDepth 100000
def RX3 : String := "BoneYard$Row"
def TX3 : u_T := fun k => match k with
  | _ => ("BoneYard$Row", "held", "Ljava/lang/Object;", false)
def tyX3 : Nat → FieldType := fun k => match k with
  | _ => .object "java/lang/Object"
abbrev wsX30 : List Cond := u_ws RX3 TX3 1
theorem nmX3 : ∀ a, a < 1 → ∀ b, b < 1 → a ≠ b → (TX3 a).2.1 ≠ (TX3 b).2.1 := by decide +kernel
theorem tyX3_ok : ∀ k, k < 1 → parseFieldDescriptor (TX3 k).2.2.1 = some (tyX3 k) := by decide +kernel
abbrev cX3_begins : ByteArray := prog_14_method_2_code
def yX3_begins : MethodName := ⟨RX3, "begins", "(II)Z"⟩
def dkwX3_begins_3 : List UInt8 := [181, 0, 9, 167, 0, 10, 42, 28, 188, 11, 181, 0, 9, 167, 0, 6, 78, 3, 172, 4, 172]
abbrev dktX3_begins_3 : List UInt8 := dkwX3_begins_3 ++ []
def dkwX3_begins_2 : List UInt8 := [42, 28, 188, 8, 181, 0, 9, 167, 0, 30, 42, 28, 188, 9, 181, 0, 9, 167, 0, 20, 42, 28, 188, 10]
abbrev dktX3_begins_2 : List UInt8 := dkwX3_begins_2 ++ dktX3_begins_3
def dkwX3_begins_1 : List UInt8 := [170, 0, 0, 0, 0, 0, 57, 0, 0, 0, 0, 0, 0, 0, 2, 0, 0, 0, 27, 0, 0, 0, 37, 0, 0, 0, 47]
abbrev dktX3_begins_1 : List UInt8 := dkwX3_begins_1 ++ dktX3_begins_2
def dkwX3_begins_0 : List UInt8 := [27]
abbrev dktX3_begins_0 : List UInt8 := dkwX3_begins_0 ++ dktX3_begins_1
theorem dksX3_begins_0 : cX3_begins.data.toList.drop 0 = dktX3_begins_0 := by decide +kernel
theorem dksX3_begins_1 : cX3_begins.data.toList.drop 1 = dktX3_begins_1 := dk_seg dksX3_begins_0 1 rfl rfl
theorem dksX3_begins_2 : cX3_begins.data.toList.drop 28 = dktX3_begins_2 := dk_seg dksX3_begins_1 27 rfl rfl
theorem dksX3_begins_3 : cX3_begins.data.toList.drop 52 = dktX3_begins_3 := dk_seg dksX3_begins_2 24 rfl rfl
theorem dX3_begins_0 : decode cX3_begins 0 = .ok (.iload_n 1, 1) := dk_27 (dk_at dksX3_begins_0 0 rfl rfl)
theorem dX3_begins_1 : decode cX3_begins 1 = .ok (.tableswitch 57 0 2 #[27, 37, 47], 27) := by decide +kernel
theorem dX3_begins_28 : decode cX3_begins 28 = .ok (.aload_n 0, 1) := dk_42 (dk_at dksX3_begins_2 0 rfl rfl)
theorem dX3_begins_29 : decode cX3_begins 29 = .ok (.iload_n 2, 1) := dk_28 (dk_at dksX3_begins_2 1 rfl rfl)
theorem dX3_begins_30 : decode cX3_begins 30 = .ok (.newarray .byte, 2) := dk_188_8 (dk_at dksX3_begins_2 2 rfl rfl)
theorem dX3_begins_32 : decode cX3_begins 32 = .ok (.putfield 9, 3) := dk_181 0 9 (dk_at dksX3_begins_2 4 rfl rfl)
theorem dX3_begins_35 : decode cX3_begins 35 = .ok (.goto 30, 3) := dk_167 0 30 (dk_at dksX3_begins_2 7 rfl rfl)
theorem dX3_begins_38 : decode cX3_begins 38 = .ok (.aload_n 0, 1) := dk_42 (dk_at dksX3_begins_2 10 rfl rfl)
theorem dX3_begins_39 : decode cX3_begins 39 = .ok (.iload_n 2, 1) := dk_28 (dk_at dksX3_begins_2 11 rfl rfl)
theorem dX3_begins_40 : decode cX3_begins 40 = .ok (.newarray .short, 2) := dk_188_9 (dk_at dksX3_begins_2 12 rfl rfl)
theorem dX3_begins_42 : decode cX3_begins 42 = .ok (.putfield 9, 3) := dk_181 0 9 (dk_at dksX3_begins_2 14 rfl rfl)
theorem dX3_begins_45 : decode cX3_begins 45 = .ok (.goto 20, 3) := dk_167 0 20 (dk_at dksX3_begins_2 17 rfl rfl)
theorem dX3_begins_48 : decode cX3_begins 48 = .ok (.aload_n 0, 1) := dk_42 (dk_at dksX3_begins_2 20 rfl rfl)
theorem dX3_begins_49 : decode cX3_begins 49 = .ok (.iload_n 2, 1) := dk_28 (dk_at dksX3_begins_2 21 rfl rfl)
theorem dX3_begins_50 : decode cX3_begins 50 = .ok (.newarray .int, 2) := dk_188_10 (dk_at dksX3_begins_2 22 rfl rfl)
theorem dX3_begins_52 : decode cX3_begins 52 = .ok (.putfield 9, 3) := dk_181 0 9 (dk_at dksX3_begins_3 0 rfl rfl)
theorem dX3_begins_55 : decode cX3_begins 55 = .ok (.goto 10, 3) := dk_167 0 10 (dk_at dksX3_begins_3 3 rfl rfl)
theorem dX3_begins_58 : decode cX3_begins 58 = .ok (.aload_n 0, 1) := dk_42 (dk_at dksX3_begins_3 6 rfl rfl)
theorem dX3_begins_59 : decode cX3_begins 59 = .ok (.iload_n 2, 1) := dk_28 (dk_at dksX3_begins_3 7 rfl rfl)
theorem dX3_begins_60 : decode cX3_begins 60 = .ok (.newarray .long, 2) := dk_188_11 (dk_at dksX3_begins_3 8 rfl rfl)
theorem dX3_begins_62 : decode cX3_begins 62 = .ok (.putfield 9, 3) := dk_181 0 9 (dk_at dksX3_begins_3 10 rfl rfl)
theorem dX3_begins_65 : decode cX3_begins 65 = .ok (.goto 6, 3) := dk_167 0 6 (dk_at dksX3_begins_3 13 rfl rfl)
theorem dX3_begins_68 : decode cX3_begins 68 = .ok (.astore_n 3, 1) := dk_78 (dk_at dksX3_begins_3 16 rfl rfl)
theorem dX3_begins_69 : decode cX3_begins 69 = .ok (.iconst 0, 1) := dk_3 (dk_at dksX3_begins_3 17 rfl rfl)
theorem dX3_begins_70 : decode cX3_begins 70 = .ok (.ireturn, 1) := dk_172 (dk_at dksX3_begins_3 18 rfl rfl)
theorem dX3_begins_71 : decode cX3_begins 71 = .ok (.iconst 1, 1) := dk_4 (dk_at dksX3_begins_3 19 rfl rfl)
theorem dX3_begins_72 : decode cX3_begins 72 = .ok (.ireturn, 1) := dk_172 (dk_at dksX3_begins_3 20 rfl rfl)
abbrev cX3_puts : ByteArray := prog_14_method_5_code
def yX3_puts : MethodName := ⟨RX3, "puts", "(IJ)I"⟩
def dkwX3_puts_0 : List UInt8 := [42, 27, 32, 182, 0, 25, 167, 0, 13, 58, 4, 16, 251, 172, 58, 4, 16, 250, 172, 3, 172]
abbrev dktX3_puts_0 : List UInt8 := dkwX3_puts_0 ++ []
theorem dksX3_puts_0 : cX3_puts.data.toList.drop 0 = dktX3_puts_0 := by decide +kernel
theorem dX3_puts_0 : decode cX3_puts 0 = .ok (.aload_n 0, 1) := dk_42 (dk_at dksX3_puts_0 0 rfl rfl)
theorem dX3_puts_1 : decode cX3_puts 1 = .ok (.iload_n 1, 1) := dk_27 (dk_at dksX3_puts_0 1 rfl rfl)
theorem dX3_puts_2 : decode cX3_puts 2 = .ok (.lload_n 2, 1) := dk_32 (dk_at dksX3_puts_0 2 rfl rfl)
theorem dX3_puts_3 : decode cX3_puts 3 = .ok (.invokevirtual 25, 3) := dk_182 0 25 (dk_at dksX3_puts_0 3 rfl rfl)
theorem dX3_puts_6 : decode cX3_puts 6 = .ok (.goto 13, 3) := dk_167 0 13 (dk_at dksX3_puts_0 6 rfl rfl)
theorem dX3_puts_9 : decode cX3_puts 9 = .ok (.astore 4, 2) := dk_58 4 (dk_at dksX3_puts_0 9 rfl rfl)
theorem dX3_puts_11 : decode cX3_puts 11 = .ok (.bipush (-5), 2) := dk_16 251 (dk_at dksX3_puts_0 11 rfl rfl)
theorem dX3_puts_13 : decode cX3_puts 13 = .ok (.ireturn, 1) := dk_172 (dk_at dksX3_puts_0 13 rfl rfl)
theorem dX3_puts_14 : decode cX3_puts 14 = .ok (.astore 4, 2) := dk_58 4 (dk_at dksX3_puts_0 14 rfl rfl)
theorem dX3_puts_16 : decode cX3_puts 16 = .ok (.bipush (-6), 2) := dk_16 250 (dk_at dksX3_puts_0 16 rfl rfl)
theorem dX3_puts_18 : decode cX3_puts 18 = .ok (.ireturn, 1) := dk_172 (dk_at dksX3_puts_0 18 rfl rfl)
theorem dX3_puts_19 : decode cX3_puts 19 = .ok (.iconst 0, 1) := dk_3 (dk_at dksX3_puts_0 19 rfl rfl)
theorem dX3_puts_20 : decode cX3_puts 20 = .ok (.ireturn, 1) := dk_172 (dk_at dksX3_puts_0 20 rfl rfl)
abbrev cX3_put : ByteArray := prog_14_method_6_code
def yX3_put : MethodName := ⟨RX3, "put", "(IJ)V"⟩
def dkwX3_put_2 : List UInt8 := [25, 4, 27, 32, 136, 147, 86, 167, 0, 9, 42, 27, 32, 182, 0, 33, 177]
abbrev dktX3_put_2 : List UInt8 := dkwX3_put_2 ++ []
def dkwX3_put_1 : List UInt8 := [145, 84, 167, 0, 38, 42, 180, 0, 9, 193, 0, 19, 153, 0, 22, 42, 180, 0, 9, 192, 0, 19, 58, 4]
abbrev dktX3_put_1 : List UInt8 := dkwX3_put_1 ++ dktX3_put_2
def dkwX3_put_0 : List UInt8 := [42, 180, 0, 9, 193, 0, 17, 153, 0, 22, 42, 180, 0, 9, 192, 0, 17, 58, 4, 25, 4, 27, 32, 136]
abbrev dktX3_put_0 : List UInt8 := dkwX3_put_0 ++ dktX3_put_1
theorem dksX3_put_0 : cX3_put.data.toList.drop 0 = dktX3_put_0 := by decide +kernel
theorem dksX3_put_1 : cX3_put.data.toList.drop 24 = dktX3_put_1 := dk_seg dksX3_put_0 24 rfl rfl
theorem dksX3_put_2 : cX3_put.data.toList.drop 48 = dktX3_put_2 := dk_seg dksX3_put_1 24 rfl rfl
theorem dX3_put_0 : decode cX3_put 0 = .ok (.aload_n 0, 1) := dk_42 (dk_at dksX3_put_0 0 rfl rfl)
theorem dX3_put_1 : decode cX3_put 1 = .ok (.getfield 9, 3) := dk_180 0 9 (dk_at dksX3_put_0 1 rfl rfl)
theorem dX3_put_4 : decode cX3_put 4 = .ok (.instanceof 17, 3) := dk_193 0 17 (dk_at dksX3_put_0 4 rfl rfl)
theorem dX3_put_7 : decode cX3_put 7 = .ok (.ifCond .eq 22, 3) := dk_153 0 22 (dk_at dksX3_put_0 7 rfl rfl)
theorem dX3_put_10 : decode cX3_put 10 = .ok (.aload_n 0, 1) := dk_42 (dk_at dksX3_put_0 10 rfl rfl)
theorem dX3_put_11 : decode cX3_put 11 = .ok (.getfield 9, 3) := dk_180 0 9 (dk_at dksX3_put_0 11 rfl rfl)
theorem dX3_put_14 : decode cX3_put 14 = .ok (.checkcast 17, 3) := dk_192 0 17 (dk_at dksX3_put_0 14 rfl rfl)
theorem dX3_put_17 : decode cX3_put 17 = .ok (.astore 4, 2) := dk_58 4 (dk_at dksX3_put_0 17 rfl rfl)
theorem dX3_put_19 : decode cX3_put 19 = .ok (.aload 4, 2) := dk_25 4 (dk_at dksX3_put_0 19 rfl rfl)
theorem dX3_put_21 : decode cX3_put 21 = .ok (.iload_n 1, 1) := dk_27 (dk_at dksX3_put_0 21 rfl rfl)
theorem dX3_put_22 : decode cX3_put 22 = .ok (.lload_n 2, 1) := dk_32 (dk_at dksX3_put_0 22 rfl rfl)
theorem dX3_put_23 : decode cX3_put 23 = .ok (.l2i, 1) := dk_136 (dk_at dksX3_put_0 23 rfl rfl)
theorem dX3_put_24 : decode cX3_put 24 = .ok (.i2b, 1) := dk_145 (dk_at dksX3_put_1 0 rfl rfl)
theorem dX3_put_25 : decode cX3_put 25 = .ok (.bastore, 1) := dk_84 (dk_at dksX3_put_1 1 rfl rfl)
theorem dX3_put_26 : decode cX3_put 26 = .ok (.goto 38, 3) := dk_167 0 38 (dk_at dksX3_put_1 2 rfl rfl)
theorem dX3_put_29 : decode cX3_put 29 = .ok (.aload_n 0, 1) := dk_42 (dk_at dksX3_put_1 5 rfl rfl)
theorem dX3_put_30 : decode cX3_put 30 = .ok (.getfield 9, 3) := dk_180 0 9 (dk_at dksX3_put_1 6 rfl rfl)
theorem dX3_put_33 : decode cX3_put 33 = .ok (.instanceof 19, 3) := dk_193 0 19 (dk_at dksX3_put_1 9 rfl rfl)
theorem dX3_put_36 : decode cX3_put 36 = .ok (.ifCond .eq 22, 3) := dk_153 0 22 (dk_at dksX3_put_1 12 rfl rfl)
theorem dX3_put_39 : decode cX3_put 39 = .ok (.aload_n 0, 1) := dk_42 (dk_at dksX3_put_1 15 rfl rfl)
theorem dX3_put_40 : decode cX3_put 40 = .ok (.getfield 9, 3) := dk_180 0 9 (dk_at dksX3_put_1 16 rfl rfl)
theorem dX3_put_43 : decode cX3_put 43 = .ok (.checkcast 19, 3) := dk_192 0 19 (dk_at dksX3_put_1 19 rfl rfl)
theorem dX3_put_46 : decode cX3_put 46 = .ok (.astore 4, 2) := dk_58 4 (dk_at dksX3_put_1 22 rfl rfl)
theorem dX3_put_48 : decode cX3_put 48 = .ok (.aload 4, 2) := dk_25 4 (dk_at dksX3_put_2 0 rfl rfl)
theorem dX3_put_50 : decode cX3_put 50 = .ok (.iload_n 1, 1) := dk_27 (dk_at dksX3_put_2 2 rfl rfl)
theorem dX3_put_51 : decode cX3_put 51 = .ok (.lload_n 2, 1) := dk_32 (dk_at dksX3_put_2 3 rfl rfl)
theorem dX3_put_52 : decode cX3_put 52 = .ok (.l2i, 1) := dk_136 (dk_at dksX3_put_2 4 rfl rfl)
theorem dX3_put_53 : decode cX3_put 53 = .ok (.i2s, 1) := dk_147 (dk_at dksX3_put_2 5 rfl rfl)
theorem dX3_put_54 : decode cX3_put 54 = .ok (.sastore, 1) := dk_86 (dk_at dksX3_put_2 6 rfl rfl)
theorem dX3_put_55 : decode cX3_put 55 = .ok (.goto 9, 3) := dk_167 0 9 (dk_at dksX3_put_2 7 rfl rfl)
theorem dX3_put_58 : decode cX3_put 58 = .ok (.aload_n 0, 1) := dk_42 (dk_at dksX3_put_2 10 rfl rfl)
theorem dX3_put_59 : decode cX3_put 59 = .ok (.iload_n 1, 1) := dk_27 (dk_at dksX3_put_2 11 rfl rfl)
theorem dX3_put_60 : decode cX3_put 60 = .ok (.lload_n 2, 1) := dk_32 (dk_at dksX3_put_2 12 rfl rfl)
theorem dX3_put_61 : decode cX3_put 61 = .ok (.invokevirtual 33, 3) := dk_182 0 33 (dk_at dksX3_put_2 13 rfl rfl)
theorem dX3_put_64 : decode cX3_put 64 = .ok (.return_, 1) := dk_177 (dk_at dksX3_put_2 16 rfl rfl)
abbrev cX3_putWider : ByteArray := prog_14_method_7_code
def yX3_putWider : MethodName := ⟨RX3, "putWider", "(IJ)V"⟩
def dkwX3_putWider_1 : List UInt8 := [192, 0, 23, 58, 5, 25, 5, 27, 32, 80, 177]
abbrev dktX3_putWider_1 : List UInt8 := dkwX3_putWider_1 ++ []
def dkwX3_putWider_0 : List UInt8 := [42, 180, 0, 9, 192, 0, 21, 58, 4, 25, 4, 27, 32, 136, 79, 167, 0, 19, 58, 4, 42, 180, 0, 9]
abbrev dktX3_putWider_0 : List UInt8 := dkwX3_putWider_0 ++ dktX3_putWider_1
theorem dksX3_putWider_0 : cX3_putWider.data.toList.drop 0 = dktX3_putWider_0 := by decide +kernel
theorem dksX3_putWider_1 : cX3_putWider.data.toList.drop 24 = dktX3_putWider_1 := dk_seg dksX3_putWider_0 24 rfl rfl
theorem dX3_putWider_0 : decode cX3_putWider 0 = .ok (.aload_n 0, 1) := dk_42 (dk_at dksX3_putWider_0 0 rfl rfl)
theorem dX3_putWider_1 : decode cX3_putWider 1 = .ok (.getfield 9, 3) := dk_180 0 9 (dk_at dksX3_putWider_0 1 rfl rfl)
theorem dX3_putWider_4 : decode cX3_putWider 4 = .ok (.checkcast 21, 3) := dk_192 0 21 (dk_at dksX3_putWider_0 4 rfl rfl)
theorem dX3_putWider_7 : decode cX3_putWider 7 = .ok (.astore 4, 2) := dk_58 4 (dk_at dksX3_putWider_0 7 rfl rfl)
theorem dX3_putWider_9 : decode cX3_putWider 9 = .ok (.aload 4, 2) := dk_25 4 (dk_at dksX3_putWider_0 9 rfl rfl)
theorem dX3_putWider_11 : decode cX3_putWider 11 = .ok (.iload_n 1, 1) := dk_27 (dk_at dksX3_putWider_0 11 rfl rfl)
theorem dX3_putWider_12 : decode cX3_putWider 12 = .ok (.lload_n 2, 1) := dk_32 (dk_at dksX3_putWider_0 12 rfl rfl)
theorem dX3_putWider_13 : decode cX3_putWider 13 = .ok (.l2i, 1) := dk_136 (dk_at dksX3_putWider_0 13 rfl rfl)
theorem dX3_putWider_14 : decode cX3_putWider 14 = .ok (.iastore, 1) := dk_79 (dk_at dksX3_putWider_0 14 rfl rfl)
theorem dX3_putWider_15 : decode cX3_putWider 15 = .ok (.goto 19, 3) := dk_167 0 19 (dk_at dksX3_putWider_0 15 rfl rfl)
theorem dX3_putWider_18 : decode cX3_putWider 18 = .ok (.astore 4, 2) := dk_58 4 (dk_at dksX3_putWider_0 18 rfl rfl)
theorem dX3_putWider_20 : decode cX3_putWider 20 = .ok (.aload_n 0, 1) := dk_42 (dk_at dksX3_putWider_0 20 rfl rfl)
theorem dX3_putWider_21 : decode cX3_putWider 21 = .ok (.getfield 9, 3) := dk_180 0 9 (dk_at dksX3_putWider_0 21 rfl rfl)
theorem dX3_putWider_24 : decode cX3_putWider 24 = .ok (.checkcast 23, 3) := dk_192 0 23 (dk_at dksX3_putWider_1 0 rfl rfl)
theorem dX3_putWider_27 : decode cX3_putWider 27 = .ok (.astore 5, 2) := dk_58 5 (dk_at dksX3_putWider_1 3 rfl rfl)
theorem dX3_putWider_29 : decode cX3_putWider 29 = .ok (.aload 5, 2) := dk_25 5 (dk_at dksX3_putWider_1 5 rfl rfl)
theorem dX3_putWider_31 : decode cX3_putWider 31 = .ok (.iload_n 1, 1) := dk_27 (dk_at dksX3_putWider_1 7 rfl rfl)
theorem dX3_putWider_32 : decode cX3_putWider 32 = .ok (.lload_n 2, 1) := dk_32 (dk_at dksX3_putWider_1 8 rfl rfl)
theorem dX3_putWider_33 : decode cX3_putWider 33 = .ok (.lastore, 1) := dk_80 (dk_at dksX3_putWider_1 9 rfl rfl)
theorem dX3_putWider_34 : decode cX3_putWider 34 = .ok (.return_, 1) := dk_177 (dk_at dksX3_putWider_1 10 rfl rfl)
abbrev cX3_pastes : ByteArray := prog_14_method_9_code
def yX3_pastes : MethodName := ⟨RX3, "pastes", "(ILBoneYard$Row;II)I"⟩
def dkwX3_pastes_2 : List UInt8 := [167, 0, 8, 58, 5, 16, 250, 172, 3, 172]
abbrev dktX3_pastes_2 : List UInt8 := dkwX3_pastes_2 ++ []
def dkwX3_pastes_1 : List UInt8 := [182, 0, 38, 159, 0, 6, 16, 249, 172, 42, 180, 0, 9, 27, 44, 180, 0, 9, 29, 21, 4, 184, 0, 42]
abbrev dktX3_pastes_1 : List UInt8 := dkwX3_pastes_1 ++ dktX3_pastes_2
def dkwX3_pastes_0 : List UInt8 := [42, 180, 0, 9, 198, 0, 10, 44, 180, 0, 9, 199, 0, 6, 16, 251, 172, 42, 182, 0, 38, 44]
abbrev dktX3_pastes_0 : List UInt8 := dkwX3_pastes_0 ++ dktX3_pastes_1
theorem dksX3_pastes_0 : cX3_pastes.data.toList.drop 0 = dktX3_pastes_0 := by decide +kernel
theorem dksX3_pastes_1 : cX3_pastes.data.toList.drop 22 = dktX3_pastes_1 := dk_seg dksX3_pastes_0 22 rfl rfl
theorem dksX3_pastes_2 : cX3_pastes.data.toList.drop 46 = dktX3_pastes_2 := dk_seg dksX3_pastes_1 24 rfl rfl
theorem dX3_pastes_0 : decode cX3_pastes 0 = .ok (.aload_n 0, 1) := dk_42 (dk_at dksX3_pastes_0 0 rfl rfl)
theorem dX3_pastes_1 : decode cX3_pastes 1 = .ok (.getfield 9, 3) := dk_180 0 9 (dk_at dksX3_pastes_0 1 rfl rfl)
theorem dX3_pastes_4 : decode cX3_pastes 4 = .ok (.ifnull 10, 3) := dk_198 0 10 (dk_at dksX3_pastes_0 4 rfl rfl)
theorem dX3_pastes_7 : decode cX3_pastes 7 = .ok (.aload_n 2, 1) := dk_44 (dk_at dksX3_pastes_0 7 rfl rfl)
theorem dX3_pastes_8 : decode cX3_pastes 8 = .ok (.getfield 9, 3) := dk_180 0 9 (dk_at dksX3_pastes_0 8 rfl rfl)
theorem dX3_pastes_11 : decode cX3_pastes 11 = .ok (.ifnonnull 6, 3) := dk_199 0 6 (dk_at dksX3_pastes_0 11 rfl rfl)
theorem dX3_pastes_14 : decode cX3_pastes 14 = .ok (.bipush (-5), 2) := dk_16 251 (dk_at dksX3_pastes_0 14 rfl rfl)
theorem dX3_pastes_16 : decode cX3_pastes 16 = .ok (.ireturn, 1) := dk_172 (dk_at dksX3_pastes_0 16 rfl rfl)
theorem dX3_pastes_17 : decode cX3_pastes 17 = .ok (.aload_n 0, 1) := dk_42 (dk_at dksX3_pastes_0 17 rfl rfl)
theorem dX3_pastes_18 : decode cX3_pastes 18 = .ok (.invokevirtual 38, 3) := dk_182 0 38 (dk_at dksX3_pastes_0 18 rfl rfl)
theorem dX3_pastes_21 : decode cX3_pastes 21 = .ok (.aload_n 2, 1) := dk_44 (dk_at dksX3_pastes_0 21 rfl rfl)
theorem dX3_pastes_22 : decode cX3_pastes 22 = .ok (.invokevirtual 38, 3) := dk_182 0 38 (dk_at dksX3_pastes_1 0 rfl rfl)
theorem dX3_pastes_25 : decode cX3_pastes 25 = .ok (.if_icmp .eq 6, 3) := dk_159 0 6 (dk_at dksX3_pastes_1 3 rfl rfl)
theorem dX3_pastes_28 : decode cX3_pastes 28 = .ok (.bipush (-7), 2) := dk_16 249 (dk_at dksX3_pastes_1 6 rfl rfl)
theorem dX3_pastes_30 : decode cX3_pastes 30 = .ok (.ireturn, 1) := dk_172 (dk_at dksX3_pastes_1 8 rfl rfl)
theorem dX3_pastes_31 : decode cX3_pastes 31 = .ok (.aload_n 0, 1) := dk_42 (dk_at dksX3_pastes_1 9 rfl rfl)
theorem dX3_pastes_32 : decode cX3_pastes 32 = .ok (.getfield 9, 3) := dk_180 0 9 (dk_at dksX3_pastes_1 10 rfl rfl)
theorem dX3_pastes_35 : decode cX3_pastes 35 = .ok (.iload_n 1, 1) := dk_27 (dk_at dksX3_pastes_1 13 rfl rfl)
theorem dX3_pastes_36 : decode cX3_pastes 36 = .ok (.aload_n 2, 1) := dk_44 (dk_at dksX3_pastes_1 14 rfl rfl)
theorem dX3_pastes_37 : decode cX3_pastes 37 = .ok (.getfield 9, 3) := dk_180 0 9 (dk_at dksX3_pastes_1 15 rfl rfl)
theorem dX3_pastes_40 : decode cX3_pastes 40 = .ok (.iload_n 3, 1) := dk_29 (dk_at dksX3_pastes_1 18 rfl rfl)
theorem dX3_pastes_41 : decode cX3_pastes 41 = .ok (.iload 4, 2) := dk_21 4 (dk_at dksX3_pastes_1 19 rfl rfl)
theorem dX3_pastes_43 : decode cX3_pastes 43 = .ok (.invokestatic 42, 3) := dk_184 0 42 (dk_at dksX3_pastes_1 21 rfl rfl)
theorem dX3_pastes_46 : decode cX3_pastes 46 = .ok (.goto 8, 3) := dk_167 0 8 (dk_at dksX3_pastes_2 0 rfl rfl)
theorem dX3_pastes_49 : decode cX3_pastes 49 = .ok (.astore 5, 2) := dk_58 5 (dk_at dksX3_pastes_2 3 rfl rfl)
theorem dX3_pastes_51 : decode cX3_pastes 51 = .ok (.bipush (-6), 2) := dk_16 250 (dk_at dksX3_pastes_2 5 rfl rfl)
theorem dX3_pastes_53 : decode cX3_pastes 53 = .ok (.ireturn, 1) := dk_172 (dk_at dksX3_pastes_2 7 rfl rfl)
theorem dX3_pastes_54 : decode cX3_pastes 54 = .ok (.iconst 0, 1) := dk_3 (dk_at dksX3_pastes_2 8 rfl rfl)
theorem dX3_pastes_55 : decode cX3_pastes 55 = .ok (.ireturn, 1) := dk_172 (dk_at dksX3_pastes_2 9 rfl rfl)
abbrev cX3_width : ByteArray := prog_14_method_8_code
def yX3_width : MethodName := ⟨RX3, "width", "()I"⟩
def dkwX3_width_1 : List UInt8 := [4, 167, 0, 18, 42, 180, 0, 9, 193, 0, 21, 153, 0, 7, 5, 167, 0, 4, 6, 172]
abbrev dktX3_width_1 : List UInt8 := dkwX3_width_1 ++ []
def dkwX3_width_0 : List UInt8 := [42, 180, 0, 9, 193, 0, 17, 153, 0, 7, 3, 167, 0, 32, 42, 180, 0, 9, 193, 0, 19, 153, 0, 7]
abbrev dktX3_width_0 : List UInt8 := dkwX3_width_0 ++ dktX3_width_1
theorem dksX3_width_0 : cX3_width.data.toList.drop 0 = dktX3_width_0 := by decide +kernel
theorem dksX3_width_1 : cX3_width.data.toList.drop 24 = dktX3_width_1 := dk_seg dksX3_width_0 24 rfl rfl
theorem dX3_width_0 : decode cX3_width 0 = .ok (.aload_n 0, 1) := dk_42 (dk_at dksX3_width_0 0 rfl rfl)
theorem dX3_width_1 : decode cX3_width 1 = .ok (.getfield 9, 3) := dk_180 0 9 (dk_at dksX3_width_0 1 rfl rfl)
theorem dX3_width_4 : decode cX3_width 4 = .ok (.instanceof 17, 3) := dk_193 0 17 (dk_at dksX3_width_0 4 rfl rfl)
theorem dX3_width_7 : decode cX3_width 7 = .ok (.ifCond .eq 7, 3) := dk_153 0 7 (dk_at dksX3_width_0 7 rfl rfl)
theorem dX3_width_10 : decode cX3_width 10 = .ok (.iconst 0, 1) := dk_3 (dk_at dksX3_width_0 10 rfl rfl)
theorem dX3_width_11 : decode cX3_width 11 = .ok (.goto 32, 3) := dk_167 0 32 (dk_at dksX3_width_0 11 rfl rfl)
theorem dX3_width_14 : decode cX3_width 14 = .ok (.aload_n 0, 1) := dk_42 (dk_at dksX3_width_0 14 rfl rfl)
theorem dX3_width_15 : decode cX3_width 15 = .ok (.getfield 9, 3) := dk_180 0 9 (dk_at dksX3_width_0 15 rfl rfl)
theorem dX3_width_18 : decode cX3_width 18 = .ok (.instanceof 19, 3) := dk_193 0 19 (dk_at dksX3_width_0 18 rfl rfl)
theorem dX3_width_21 : decode cX3_width 21 = .ok (.ifCond .eq 7, 3) := dk_153 0 7 (dk_at dksX3_width_0 21 rfl rfl)
theorem dX3_width_24 : decode cX3_width 24 = .ok (.iconst 1, 1) := dk_4 (dk_at dksX3_width_1 0 rfl rfl)
theorem dX3_width_25 : decode cX3_width 25 = .ok (.goto 18, 3) := dk_167 0 18 (dk_at dksX3_width_1 1 rfl rfl)
theorem dX3_width_28 : decode cX3_width 28 = .ok (.aload_n 0, 1) := dk_42 (dk_at dksX3_width_1 4 rfl rfl)
theorem dX3_width_29 : decode cX3_width 29 = .ok (.getfield 9, 3) := dk_180 0 9 (dk_at dksX3_width_1 5 rfl rfl)
theorem dX3_width_32 : decode cX3_width 32 = .ok (.instanceof 21, 3) := dk_193 0 21 (dk_at dksX3_width_1 8 rfl rfl)
theorem dX3_width_35 : decode cX3_width 35 = .ok (.ifCond .eq 7, 3) := dk_153 0 7 (dk_at dksX3_width_1 11 rfl rfl)
theorem dX3_width_38 : decode cX3_width 38 = .ok (.iconst 2, 1) := dk_5 (dk_at dksX3_width_1 14 rfl rfl)
theorem dX3_width_39 : decode cX3_width 39 = .ok (.goto 4, 3) := dk_167 0 4 (dk_at dksX3_width_1 15 rfl rfl)
theorem dX3_width_42 : decode cX3_width 42 = .ok (.iconst 3, 1) := dk_6 (dk_at dksX3_width_1 18 rfl rfl)
theorem dX3_width_43 : decode cX3_width 43 = .ok (.ireturn, 1) := dk_172 (dk_at dksX3_width_1 19 rfl rfl)
abbrev cX3_init : ByteArray := prog_14_method_1_code
def yX3_init : MethodName := ⟨RX3, "<init>", "()V"⟩
theorem dX3_init_0 : decode cX3_init 0 = .ok (.aload_n 0, 1) := by decide +kernel
theorem dX3_init_1 : decode cX3_init 1 = .ok (.invokespecial 3, 3) := by decide +kernel
theorem dX3_init_4 : decode cX3_init 4 = .ok (.return_, 1) := by decide +kernel
abbrev cX3_many : ByteArray := prog_14_method_3_code
def yX3_many : MethodName := ⟨RX3, "many", "()I"⟩
def dkwX3_many_2 : List UInt8 := [153, 0, 14, 42, 180, 0, 9, 192, 0, 21, 190, 167, 0, 11, 42, 180, 0, 9, 192, 0, 23, 190, 172]
abbrev dktX3_many_2 : List UInt8 := dkwX3_many_2 ++ []
def dkwX3_many_1 : List UInt8 := [193, 0, 19, 153, 0, 12, 42, 180, 0, 9, 192, 0, 19, 190, 172, 42, 180, 0, 9, 193, 0, 21]
abbrev dktX3_many_1 : List UInt8 := dkwX3_many_1 ++ dktX3_many_2
def dkwX3_many_0 : List UInt8 := [42, 180, 0, 9, 193, 0, 17, 153, 0, 12, 42, 180, 0, 9, 192, 0, 17, 190, 172, 42, 180, 0, 9]
abbrev dktX3_many_0 : List UInt8 := dkwX3_many_0 ++ dktX3_many_1
theorem dksX3_many_0 : cX3_many.data.toList.drop 0 = dktX3_many_0 := by decide +kernel
theorem dksX3_many_1 : cX3_many.data.toList.drop 23 = dktX3_many_1 := dk_seg dksX3_many_0 23 rfl rfl
theorem dksX3_many_2 : cX3_many.data.toList.drop 45 = dktX3_many_2 := dk_seg dksX3_many_1 22 rfl rfl
theorem dX3_many_0 : decode cX3_many 0 = .ok (.aload_n 0, 1) := dk_42 (dk_at dksX3_many_0 0 rfl rfl)
theorem dX3_many_1 : decode cX3_many 1 = .ok (.getfield 9, 3) := dk_180 0 9 (dk_at dksX3_many_0 1 rfl rfl)
theorem dX3_many_4 : decode cX3_many 4 = .ok (.instanceof 17, 3) := dk_193 0 17 (dk_at dksX3_many_0 4 rfl rfl)
theorem dX3_many_7 : decode cX3_many 7 = .ok (.ifCond .eq 12, 3) := dk_153 0 12 (dk_at dksX3_many_0 7 rfl rfl)
theorem dX3_many_10 : decode cX3_many 10 = .ok (.aload_n 0, 1) := dk_42 (dk_at dksX3_many_0 10 rfl rfl)
theorem dX3_many_11 : decode cX3_many 11 = .ok (.getfield 9, 3) := dk_180 0 9 (dk_at dksX3_many_0 11 rfl rfl)
theorem dX3_many_14 : decode cX3_many 14 = .ok (.checkcast 17, 3) := dk_192 0 17 (dk_at dksX3_many_0 14 rfl rfl)
theorem dX3_many_17 : decode cX3_many 17 = .ok (.arraylength, 1) := dk_190 (dk_at dksX3_many_0 17 rfl rfl)
theorem dX3_many_18 : decode cX3_many 18 = .ok (.ireturn, 1) := dk_172 (dk_at dksX3_many_0 18 rfl rfl)
theorem dX3_many_19 : decode cX3_many 19 = .ok (.aload_n 0, 1) := dk_42 (dk_at dksX3_many_0 19 rfl rfl)
theorem dX3_many_20 : decode cX3_many 20 = .ok (.getfield 9, 3) := dk_180 0 9 (dk_at dksX3_many_0 20 rfl rfl)
theorem dX3_many_23 : decode cX3_many 23 = .ok (.instanceof 19, 3) := dk_193 0 19 (dk_at dksX3_many_1 0 rfl rfl)
theorem dX3_many_26 : decode cX3_many 26 = .ok (.ifCond .eq 12, 3) := dk_153 0 12 (dk_at dksX3_many_1 3 rfl rfl)
theorem dX3_many_29 : decode cX3_many 29 = .ok (.aload_n 0, 1) := dk_42 (dk_at dksX3_many_1 6 rfl rfl)
theorem dX3_many_30 : decode cX3_many 30 = .ok (.getfield 9, 3) := dk_180 0 9 (dk_at dksX3_many_1 7 rfl rfl)
theorem dX3_many_33 : decode cX3_many 33 = .ok (.checkcast 19, 3) := dk_192 0 19 (dk_at dksX3_many_1 10 rfl rfl)
theorem dX3_many_36 : decode cX3_many 36 = .ok (.arraylength, 1) := dk_190 (dk_at dksX3_many_1 13 rfl rfl)
theorem dX3_many_37 : decode cX3_many 37 = .ok (.ireturn, 1) := dk_172 (dk_at dksX3_many_1 14 rfl rfl)
theorem dX3_many_38 : decode cX3_many 38 = .ok (.aload_n 0, 1) := dk_42 (dk_at dksX3_many_1 15 rfl rfl)
theorem dX3_many_39 : decode cX3_many 39 = .ok (.getfield 9, 3) := dk_180 0 9 (dk_at dksX3_many_1 16 rfl rfl)
theorem dX3_many_42 : decode cX3_many 42 = .ok (.instanceof 21, 3) := dk_193 0 21 (dk_at dksX3_many_1 19 rfl rfl)
theorem dX3_many_45 : decode cX3_many 45 = .ok (.ifCond .eq 14, 3) := dk_153 0 14 (dk_at dksX3_many_2 0 rfl rfl)
theorem dX3_many_48 : decode cX3_many 48 = .ok (.aload_n 0, 1) := dk_42 (dk_at dksX3_many_2 3 rfl rfl)
theorem dX3_many_49 : decode cX3_many 49 = .ok (.getfield 9, 3) := dk_180 0 9 (dk_at dksX3_many_2 4 rfl rfl)
theorem dX3_many_52 : decode cX3_many 52 = .ok (.checkcast 21, 3) := dk_192 0 21 (dk_at dksX3_many_2 7 rfl rfl)
theorem dX3_many_55 : decode cX3_many 55 = .ok (.arraylength, 1) := dk_190 (dk_at dksX3_many_2 10 rfl rfl)
theorem dX3_many_56 : decode cX3_many 56 = .ok (.goto 11, 3) := dk_167 0 11 (dk_at dksX3_many_2 11 rfl rfl)
theorem dX3_many_59 : decode cX3_many 59 = .ok (.aload_n 0, 1) := dk_42 (dk_at dksX3_many_2 14 rfl rfl)
theorem dX3_many_60 : decode cX3_many 60 = .ok (.getfield 9, 3) := dk_180 0 9 (dk_at dksX3_many_2 15 rfl rfl)
theorem dX3_many_63 : decode cX3_many 63 = .ok (.checkcast 23, 3) := dk_192 0 23 (dk_at dksX3_many_2 18 rfl rfl)
theorem dX3_many_66 : decode cX3_many 66 = .ok (.arraylength, 1) := dk_190 (dk_at dksX3_many_2 21 rfl rfl)
theorem dX3_many_67 : decode cX3_many 67 = .ok (.ireturn, 1) := dk_172 (dk_at dksX3_many_2 22 rfl rfl)
abbrev cX3_number : ByteArray := prog_14_method_4_code
def yX3_number : MethodName := ⟨RX3, "number", "(I)J"⟩
def dkwX3_number_3 : List UInt8 := [192, 0, 23, 27, 47, 173]
abbrev dktX3_number_3 : List UInt8 := dkwX3_number_3 ++ []
def dkwX3_number_2 : List UInt8 := [193, 0, 21, 153, 0, 16, 42, 180, 0, 9, 192, 0, 21, 27, 46, 133, 167, 0, 12, 42, 180, 0, 9]
abbrev dktX3_number_2 : List UInt8 := dkwX3_number_2 ++ dktX3_number_3
def dkwX3_number_1 : List UInt8 := [180, 0, 9, 193, 0, 19, 153, 0, 14, 42, 180, 0, 9, 192, 0, 19, 27, 53, 133, 173, 42, 180, 0, 9]
abbrev dktX3_number_1 : List UInt8 := dkwX3_number_1 ++ dktX3_number_2
def dkwX3_number_0 : List UInt8 := [42, 180, 0, 9, 193, 0, 17, 153, 0, 14, 42, 180, 0, 9, 192, 0, 17, 27, 51, 133, 173, 42]
abbrev dktX3_number_0 : List UInt8 := dkwX3_number_0 ++ dktX3_number_1
theorem dksX3_number_0 : cX3_number.data.toList.drop 0 = dktX3_number_0 := by decide +kernel
theorem dksX3_number_1 : cX3_number.data.toList.drop 22 = dktX3_number_1 := dk_seg dksX3_number_0 22 rfl rfl
theorem dksX3_number_2 : cX3_number.data.toList.drop 46 = dktX3_number_2 := dk_seg dksX3_number_1 24 rfl rfl
theorem dksX3_number_3 : cX3_number.data.toList.drop 69 = dktX3_number_3 := dk_seg dksX3_number_2 23 rfl rfl
theorem dX3_number_0 : decode cX3_number 0 = .ok (.aload_n 0, 1) := dk_42 (dk_at dksX3_number_0 0 rfl rfl)
theorem dX3_number_1 : decode cX3_number 1 = .ok (.getfield 9, 3) := dk_180 0 9 (dk_at dksX3_number_0 1 rfl rfl)
theorem dX3_number_4 : decode cX3_number 4 = .ok (.instanceof 17, 3) := dk_193 0 17 (dk_at dksX3_number_0 4 rfl rfl)
theorem dX3_number_7 : decode cX3_number 7 = .ok (.ifCond .eq 14, 3) := dk_153 0 14 (dk_at dksX3_number_0 7 rfl rfl)
theorem dX3_number_10 : decode cX3_number 10 = .ok (.aload_n 0, 1) := dk_42 (dk_at dksX3_number_0 10 rfl rfl)
theorem dX3_number_11 : decode cX3_number 11 = .ok (.getfield 9, 3) := dk_180 0 9 (dk_at dksX3_number_0 11 rfl rfl)
theorem dX3_number_14 : decode cX3_number 14 = .ok (.checkcast 17, 3) := dk_192 0 17 (dk_at dksX3_number_0 14 rfl rfl)
theorem dX3_number_17 : decode cX3_number 17 = .ok (.iload_n 1, 1) := dk_27 (dk_at dksX3_number_0 17 rfl rfl)
theorem dX3_number_18 : decode cX3_number 18 = .ok (.baload, 1) := dk_51 (dk_at dksX3_number_0 18 rfl rfl)
theorem dX3_number_19 : decode cX3_number 19 = .ok (.i2l, 1) := dk_133 (dk_at dksX3_number_0 19 rfl rfl)
theorem dX3_number_20 : decode cX3_number 20 = .ok (.lreturn, 1) := dk_173 (dk_at dksX3_number_0 20 rfl rfl)
theorem dX3_number_21 : decode cX3_number 21 = .ok (.aload_n 0, 1) := dk_42 (dk_at dksX3_number_0 21 rfl rfl)
theorem dX3_number_22 : decode cX3_number 22 = .ok (.getfield 9, 3) := dk_180 0 9 (dk_at dksX3_number_1 0 rfl rfl)
theorem dX3_number_25 : decode cX3_number 25 = .ok (.instanceof 19, 3) := dk_193 0 19 (dk_at dksX3_number_1 3 rfl rfl)
theorem dX3_number_28 : decode cX3_number 28 = .ok (.ifCond .eq 14, 3) := dk_153 0 14 (dk_at dksX3_number_1 6 rfl rfl)
theorem dX3_number_31 : decode cX3_number 31 = .ok (.aload_n 0, 1) := dk_42 (dk_at dksX3_number_1 9 rfl rfl)
theorem dX3_number_32 : decode cX3_number 32 = .ok (.getfield 9, 3) := dk_180 0 9 (dk_at dksX3_number_1 10 rfl rfl)
theorem dX3_number_35 : decode cX3_number 35 = .ok (.checkcast 19, 3) := dk_192 0 19 (dk_at dksX3_number_1 13 rfl rfl)
theorem dX3_number_38 : decode cX3_number 38 = .ok (.iload_n 1, 1) := dk_27 (dk_at dksX3_number_1 16 rfl rfl)
theorem dX3_number_39 : decode cX3_number 39 = .ok (.saload, 1) := dk_53 (dk_at dksX3_number_1 17 rfl rfl)
theorem dX3_number_40 : decode cX3_number 40 = .ok (.i2l, 1) := dk_133 (dk_at dksX3_number_1 18 rfl rfl)
theorem dX3_number_41 : decode cX3_number 41 = .ok (.lreturn, 1) := dk_173 (dk_at dksX3_number_1 19 rfl rfl)
theorem dX3_number_42 : decode cX3_number 42 = .ok (.aload_n 0, 1) := dk_42 (dk_at dksX3_number_1 20 rfl rfl)
theorem dX3_number_43 : decode cX3_number 43 = .ok (.getfield 9, 3) := dk_180 0 9 (dk_at dksX3_number_1 21 rfl rfl)
theorem dX3_number_46 : decode cX3_number 46 = .ok (.instanceof 21, 3) := dk_193 0 21 (dk_at dksX3_number_2 0 rfl rfl)
theorem dX3_number_49 : decode cX3_number 49 = .ok (.ifCond .eq 16, 3) := dk_153 0 16 (dk_at dksX3_number_2 3 rfl rfl)
theorem dX3_number_52 : decode cX3_number 52 = .ok (.aload_n 0, 1) := dk_42 (dk_at dksX3_number_2 6 rfl rfl)
theorem dX3_number_53 : decode cX3_number 53 = .ok (.getfield 9, 3) := dk_180 0 9 (dk_at dksX3_number_2 7 rfl rfl)
theorem dX3_number_56 : decode cX3_number 56 = .ok (.checkcast 21, 3) := dk_192 0 21 (dk_at dksX3_number_2 10 rfl rfl)
theorem dX3_number_59 : decode cX3_number 59 = .ok (.iload_n 1, 1) := dk_27 (dk_at dksX3_number_2 13 rfl rfl)
theorem dX3_number_60 : decode cX3_number 60 = .ok (.iaload, 1) := dk_46 (dk_at dksX3_number_2 14 rfl rfl)
theorem dX3_number_61 : decode cX3_number 61 = .ok (.i2l, 1) := dk_133 (dk_at dksX3_number_2 15 rfl rfl)
theorem dX3_number_62 : decode cX3_number 62 = .ok (.goto 12, 3) := dk_167 0 12 (dk_at dksX3_number_2 16 rfl rfl)
theorem dX3_number_65 : decode cX3_number 65 = .ok (.aload_n 0, 1) := dk_42 (dk_at dksX3_number_2 19 rfl rfl)
theorem dX3_number_66 : decode cX3_number 66 = .ok (.getfield 9, 3) := dk_180 0 9 (dk_at dksX3_number_2 20 rfl rfl)
theorem dX3_number_69 : decode cX3_number 69 = .ok (.checkcast 23, 3) := dk_192 0 23 (dk_at dksX3_number_3 0 rfl rfl)
theorem dX3_number_72 : decode cX3_number 72 = .ok (.iload_n 1, 1) := dk_27 (dk_at dksX3_number_3 3 rfl rfl)
theorem dX3_number_73 : decode cX3_number 73 = .ok (.laload, 1) := dk_47 (dk_at dksX3_number_3 4 rfl rfl)
theorem dX3_number_74 : decode cX3_number 74 = .ok (.lreturn, 1) := dk_173 (dk_at dksX3_number_3 5 rfl rfl)
theorem q114 : (Jvm.Cond.initialized "BoneYard$Row") ∈ lw_all := lw_g (lw_at lw_m1 6 rfl) rfl
theorem q163 : (Jvm.Cond.instanceMethod ({ cls := "BoneYard$Row", name := "begins", desc := "(II)Z" } : Jvm.MethodName)) ∈ lw_all := lw_g (lw_at lw_m1 55 rfl) rfl
theorem q164 : (Jvm.Cond.selects "BoneYard$Row" ({ cls := "BoneYard$Row", name := "begins", desc := "(II)Z" } : Jvm.MethodName) ({ cls := "BoneYard$Row", name := "begins", desc := "(II)Z" } : Jvm.MethodName)) ∈ lw_all := lw_g (lw_at lw_m1 56 rfl) rfl
theorem q165 : (Jvm.Cond.codeWith ({ cls := "BoneYard$Row", name := "begins", desc := "(II)Z" } : Jvm.MethodName) prog_14_method_2_code (4 : Nat) (Option.some Jvm.ClassFile.FieldType.boolean) [((0 : Nat), (65 : Nat), (68 : Nat), (15 : Nat))]) ∈ lw_all := lw_g (lw_at lw_m1 57 rfl) rfl
theorem q166 : (Jvm.Cond.classLink "BoneYard$Row" (15 : Nat) "java/lang/NegativeArraySizeException") ∈ lw_all := lw_g (lw_at lw_m1 58 rfl) rfl
theorem q266 : (Jvm.Cond.instanceMethod ({ cls := "BoneYard$Row", name := "puts", desc := "(IJ)I" } : Jvm.MethodName)) ∈ lw_all := lw_g (lw_at lw_m1 158 rfl) rfl
theorem q267 : (Jvm.Cond.selects "BoneYard$Row" ({ cls := "BoneYard$Row", name := "puts", desc := "(IJ)I" } : Jvm.MethodName) ({ cls := "BoneYard$Row", name := "puts", desc := "(IJ)I" } : Jvm.MethodName)) ∈ lw_all := lw_g (lw_at lw_m1 159 rfl) rfl
theorem q268 : (Jvm.Cond.codeWith ({ cls := "BoneYard$Row", name := "puts", desc := "(IJ)I" } : Jvm.MethodName) prog_14_method_5_code (5 : Nat) (Option.some Jvm.ClassFile.FieldType.int) [((0 : Nat), (6 : Nat), (9 : Nat), (29 : Nat)), ((0 : Nat), (6 : Nat), (14 : Nat), (31 : Nat))]) ∈ lw_all := lw_g (lw_at lw_m1 160 rfl) rfl
theorem q269 : (Jvm.Cond.classLink "BoneYard$Row" (29 : Nat) "java/lang/NullPointerException") ∈ lw_all := lw_g (lw_at lw_m1 161 rfl) rfl
theorem q294 : (Jvm.Cond.classLink "BoneYard$Row" (31 : Nat) "java/lang/ArrayIndexOutOfBoundsException") ∈ lw_all := lw_g (lw_at lw_m1 186 rfl) rfl
theorem q313 : (Jvm.Cond.methodLink "BoneYard$Row" (25 : Nat) ({ cls := "BoneYard$Row", name := "put", desc := "(IJ)V" } : Jvm.MethodName)) ∈ lw_all := lw_g (lw_at lw_m1 205 rfl) rfl
theorem q314 : (Jvm.Cond.privateMethod ({ cls := "BoneYard$Row", name := "put", desc := "(IJ)V" } : Jvm.MethodName)) ∈ lw_tbl := lw_at lw_m1 206 rfl
theorem q315 : (Jvm.Cond.instanceMethod ({ cls := "BoneYard$Row", name := "put", desc := "(IJ)V" } : Jvm.MethodName)) ∈ lw_all := lw_g (lw_at lw_m1 207 rfl) rfl
theorem q316 : (Jvm.Cond.instantiable "BoneYard$Row" (1 : Nat)) ∈ lw_all := lw_g (lw_at lw_m1 208 rfl) rfl
theorem q317 : (Jvm.Cond.code ({ cls := "BoneYard$Row", name := "put", desc := "(IJ)V" } : Jvm.MethodName) prog_14_method_6_code (5 : Nat) (Option.none : Option Jvm.ClassFile.FieldType)) ∈ lw_all := lw_g (lw_at lw_m1 209 rfl) rfl
theorem q318 : (Jvm.Cond.classLink "BoneYard$Row" (17 : Nat) "[B") ∈ lw_all := lw_g (lw_at lw_m1 210 rfl) rfl
theorem q319 : (Jvm.Cond.classLink "BoneYard$Row" (19 : Nat) "[S") ∈ lw_all := lw_g (lw_at lw_m1 211 rfl) rfl
theorem q320 : (Jvm.Cond.methodLink "BoneYard$Row" (33 : Nat) ({ cls := "BoneYard$Row", name := "putWider", desc := "(IJ)V" } : Jvm.MethodName)) ∈ lw_all := lw_g (lw_at lw_m1 212 rfl) rfl
theorem q321 : (Jvm.Cond.privateMethod ({ cls := "BoneYard$Row", name := "putWider", desc := "(IJ)V" } : Jvm.MethodName)) ∈ lw_tbl := lw_at lw_m1 213 rfl
theorem q322 : (Jvm.Cond.instanceMethod ({ cls := "BoneYard$Row", name := "putWider", desc := "(IJ)V" } : Jvm.MethodName)) ∈ lw_all := lw_g (lw_at lw_m1 214 rfl) rfl
theorem q323 : (Jvm.Cond.codeWith ({ cls := "BoneYard$Row", name := "putWider", desc := "(IJ)V" } : Jvm.MethodName) prog_14_method_7_code (6 : Nat) (Option.none : Option Jvm.ClassFile.FieldType) [((0 : Nat), (15 : Nat), (18 : Nat), (36 : Nat))]) ∈ lw_all := lw_g (lw_at lw_m1 215 rfl) rfl
theorem q324 : (Jvm.Cond.classLink "BoneYard$Row" (36 : Nat) "java/lang/ClassCastException") ∈ lw_all := lw_g (lw_at lw_m1 216 rfl) rfl
theorem q338 : (Jvm.Cond.classLink "BoneYard$Row" (21 : Nat) "[I") ∈ lw_all := lw_g (lw_at lw_m1 230 rfl) rfl
theorem q339 : (Jvm.Cond.classLink "BoneYard$Row" (23 : Nat) "[J") ∈ lw_all := lw_g (lw_at lw_m1 231 rfl) rfl
theorem q345 : (Jvm.Cond.instanceMethod ({ cls := "BoneYard$Row", name := "pastes", desc := "(ILBoneYard$Row;II)I" } : Jvm.MethodName)) ∈ lw_all := lw_g (lw_at lw_m1 237 rfl) rfl
theorem q346 : (Jvm.Cond.selects "BoneYard$Row" ({ cls := "BoneYard$Row", name := "pastes", desc := "(ILBoneYard$Row;II)I" } : Jvm.MethodName) ({ cls := "BoneYard$Row", name := "pastes", desc := "(ILBoneYard$Row;II)I" } : Jvm.MethodName)) ∈ lw_all := lw_g (lw_at lw_m1 238 rfl) rfl
theorem q347 : (Jvm.Cond.codeWith ({ cls := "BoneYard$Row", name := "pastes", desc := "(ILBoneYard$Row;II)I" } : Jvm.MethodName) prog_14_method_9_code (6 : Nat) (Option.some Jvm.ClassFile.FieldType.int) [((31 : Nat), (46 : Nat), (49 : Nat), (48 : Nat))]) ∈ lw_all := lw_g (lw_at lw_m1 239 rfl) rfl
theorem q348 : (Jvm.Cond.classLink "BoneYard$Row" (48 : Nat) "java/lang/IndexOutOfBoundsException") ∈ lw_all := lw_g (lw_at lw_m2 0 rfl) rfl
theorem q349 : (Jvm.Cond.methodLink "BoneYard$Row" (38 : Nat) ({ cls := "BoneYard$Row", name := "width", desc := "()I" } : Jvm.MethodName)) ∈ lw_all := lw_g (lw_at lw_m2 1 rfl) rfl
theorem q350 : (Jvm.Cond.privateMethod ({ cls := "BoneYard$Row", name := "width", desc := "()I" } : Jvm.MethodName)) ∈ lw_tbl := lw_at lw_m2 2 rfl
theorem q351 : (Jvm.Cond.instanceMethod ({ cls := "BoneYard$Row", name := "width", desc := "()I" } : Jvm.MethodName)) ∈ lw_all := lw_g (lw_at lw_m2 3 rfl) rfl
theorem q352 : (Jvm.Cond.code ({ cls := "BoneYard$Row", name := "width", desc := "()I" } : Jvm.MethodName) prog_14_method_8_code (1 : Nat) (Option.some Jvm.ClassFile.FieldType.int)) ∈ lw_all := lw_g (lw_at lw_m2 4 rfl) rfl
theorem q353 : (Jvm.Cond.methodLink "BoneYard$Row" (42 : Nat) ({ cls := "java/lang/System", name := "arraycopy", desc := "(Ljava/lang/Object;ILjava/lang/Object;II)V" } : Jvm.MethodName)) ∈ lw_all := lw_g (lw_at lw_m2 5 rfl) rfl
theorem q456 : (Jvm.Cond.instanceMethod ({ cls := "BoneYard$Row", name := "<init>", desc := "()V" } : Jvm.MethodName)) ∈ lw_all := lw_g (lw_at lw_m2 108 rfl) rfl
theorem q457 : (Jvm.Cond.code ({ cls := "BoneYard$Row", name := "<init>", desc := "()V" } : Jvm.MethodName) prog_14_method_1_code (1 : Nat) (Option.none : Option Jvm.ClassFile.FieldType)) ∈ lw_all := lw_g (lw_at lw_m2 109 rfl) rfl
theorem q458 : (Jvm.Cond.methodLink "BoneYard$Row" (3 : Nat) ({ cls := "java/lang/Object", name := "<init>", desc := "()V" } : Jvm.MethodName)) ∈ lw_all := lw_g (lw_at lw_m2 110 rfl) rfl
theorem q459 : (Jvm.Cond.fieldLink "BoneYard$Row" (9 : Nat) "BoneYard$Row" "held" "Ljava/lang/Object;") ∈ lw_all := lw_g (lw_at lw_m2 111 rfl) rfl
theorem q461 : (Jvm.Cond.lays "BoneYard$Row" "BoneYard$Row" "held" "Ljava/lang/Object;") ∈ lw_all := lw_g (lw_at lw_m2 113 rfl) rfl
theorem q462 : (Jvm.Cond.soleField "BoneYard$Row" "held") ∈ lw_all := lw_g (lw_at lw_m2 114 rfl) rfl
theorem q463 : (Jvm.Cond.superclass "BoneYard$Row" "java/lang/Object") ∈ lw_all := lw_g (lw_at lw_m2 115 rfl) rfl
theorem q653 : (Jvm.Cond.instanceMethod ({ cls := "BoneYard$Row", name := "many", desc := "()I" } : Jvm.MethodName)) ∈ lw_all := lw_g (lw_at lw_m3 65 rfl) rfl
theorem q654 : (Jvm.Cond.selects "BoneYard$Row" ({ cls := "BoneYard$Row", name := "many", desc := "()I" } : Jvm.MethodName) ({ cls := "BoneYard$Row", name := "many", desc := "()I" } : Jvm.MethodName)) ∈ lw_all := lw_g (lw_at lw_m3 66 rfl) rfl
theorem q655 : (Jvm.Cond.code ({ cls := "BoneYard$Row", name := "many", desc := "()I" } : Jvm.MethodName) prog_14_method_3_code (1 : Nat) (Option.some Jvm.ClassFile.FieldType.int)) ∈ lw_all := lw_g (lw_at lw_m3 67 rfl) rfl
theorem q657 : (Jvm.Cond.instanceMethod ({ cls := "BoneYard$Row", name := "number", desc := "(I)J" } : Jvm.MethodName)) ∈ lw_all := lw_g (lw_at lw_m3 69 rfl) rfl
theorem q658 : (Jvm.Cond.selects "BoneYard$Row" ({ cls := "BoneYard$Row", name := "number", desc := "(I)J" } : Jvm.MethodName) ({ cls := "BoneYard$Row", name := "number", desc := "(I)J" } : Jvm.MethodName)) ∈ lw_all := lw_g (lw_at lw_m3 70 rfl) rfl
theorem q659 : (Jvm.Cond.code ({ cls := "BoneYard$Row", name := "number", desc := "(I)J" } : Jvm.MethodName) prog_14_method_4_code (2 : Nat) (Option.some Jvm.ClassFile.FieldType.long)) ∈ lw_all := lw_g (lw_at lw_m3 71 rfl) rfl
theorem q1069 : (Jvm.Cond.selects "BoneYard$Row" ({ cls := "java/lang/Object", name := "getClass", desc := "()Ljava/lang/Class;" } : Jvm.MethodName) ({ cls := "java/lang/Object", name := "getClass", desc := "()Ljava/lang/Class;" } : Jvm.MethodName)) ∈ lw_all := lw_g (lw_at lw_m5 1 rfl) rfl
theorem q2130 : (Jvm.Cond.castable "BoneYard$Row" "java/lang/Object") ∈ lw_tbl := lw_at lw_m9 102 rfl
theorem in_X3 : ∀ w ∈ wsX30, w ∈ lw_all := lw_in wsX30 [461] (by decide +kernel) (by decide +kernel)
/-! BoneYard$Element -/
set_option maxRecDepth 100000
def RX5 : String := "BoneYard$Element"
def TX5 : u_T := fun k => match k with
  | 0 => ("BoneYard$Element", "sides", "Z", true)
  | 1 => ("BoneYard$Element", "inBody", "I", true)
  | 2 => ("BoneYard$Element", "density", "I", true)
  | 3 => ("BoneYard$Element", "from", "I", true)
  | _ => ("BoneYard$Element", "to", "I", true)
def tyX5 : Nat → FieldType := fun k => match k with
  | 0 => .boolean
  | 1 => .int
  | 2 => .int
  | 3 => .int
  | _ => .int
abbrev wsX50 : List Cond := u_ws RX5 TX5 5
theorem nmX5 : ∀ a, a < 5 → ∀ b, b < 5 → a ≠ b → (TX5 a).2.1 ≠ (TX5 b).2.1 := by decide +kernel
theorem tyX5_ok : ∀ k, k < 5 → parseFieldDescriptor (TX5 k).2.2.1 = some (tyX5 k) := by decide +kernel
abbrev cX5_init : ByteArray := prog_8_method_1_code
def yX5_init : MethodName := ⟨RX5, "<init>", "(ZIIII)V"⟩
def dkwX5_init_1 : List UInt8 := [181, 0, 20, 42, 21, 5, 181, 0, 23, 177]
abbrev dktX5_init_1 : List UInt8 := dkwX5_init_1 ++ []
def dkwX5_init_0 : List UInt8 := [42, 183, 0, 1, 42, 27, 181, 0, 7, 42, 28, 181, 0, 13, 42, 29, 181, 0, 17, 42, 21, 4]
abbrev dktX5_init_0 : List UInt8 := dkwX5_init_0 ++ dktX5_init_1
theorem dksX5_init_0 : cX5_init.data.toList.drop 0 = dktX5_init_0 := by decide +kernel
theorem dksX5_init_1 : cX5_init.data.toList.drop 22 = dktX5_init_1 := dk_seg dksX5_init_0 22 rfl rfl
theorem dX5_init_0 : decode cX5_init 0 = .ok (.aload_n 0, 1) := dk_42 (dk_at dksX5_init_0 0 rfl rfl)
theorem dX5_init_1 : decode cX5_init 1 = .ok (.invokespecial 1, 3) := dk_183 0 1 (dk_at dksX5_init_0 1 rfl rfl)
theorem dX5_init_4 : decode cX5_init 4 = .ok (.aload_n 0, 1) := dk_42 (dk_at dksX5_init_0 4 rfl rfl)
theorem dX5_init_5 : decode cX5_init 5 = .ok (.iload_n 1, 1) := dk_27 (dk_at dksX5_init_0 5 rfl rfl)
theorem dX5_init_6 : decode cX5_init 6 = .ok (.putfield 7, 3) := dk_181 0 7 (dk_at dksX5_init_0 6 rfl rfl)
theorem dX5_init_9 : decode cX5_init 9 = .ok (.aload_n 0, 1) := dk_42 (dk_at dksX5_init_0 9 rfl rfl)
theorem dX5_init_10 : decode cX5_init 10 = .ok (.iload_n 2, 1) := dk_28 (dk_at dksX5_init_0 10 rfl rfl)
theorem dX5_init_11 : decode cX5_init 11 = .ok (.putfield 13, 3) := dk_181 0 13 (dk_at dksX5_init_0 11 rfl rfl)
theorem dX5_init_14 : decode cX5_init 14 = .ok (.aload_n 0, 1) := dk_42 (dk_at dksX5_init_0 14 rfl rfl)
theorem dX5_init_15 : decode cX5_init 15 = .ok (.iload_n 3, 1) := dk_29 (dk_at dksX5_init_0 15 rfl rfl)
theorem dX5_init_16 : decode cX5_init 16 = .ok (.putfield 17, 3) := dk_181 0 17 (dk_at dksX5_init_0 16 rfl rfl)
theorem dX5_init_19 : decode cX5_init 19 = .ok (.aload_n 0, 1) := dk_42 (dk_at dksX5_init_0 19 rfl rfl)
theorem dX5_init_20 : decode cX5_init 20 = .ok (.iload 4, 2) := dk_21 4 (dk_at dksX5_init_0 20 rfl rfl)
theorem dX5_init_22 : decode cX5_init 22 = .ok (.putfield 20, 3) := dk_181 0 20 (dk_at dksX5_init_1 0 rfl rfl)
theorem dX5_init_25 : decode cX5_init 25 = .ok (.aload_n 0, 1) := dk_42 (dk_at dksX5_init_1 3 rfl rfl)
theorem dX5_init_26 : decode cX5_init 26 = .ok (.iload 5, 2) := dk_21 5 (dk_at dksX5_init_1 4 rfl rfl)
theorem dX5_init_28 : decode cX5_init 28 = .ok (.putfield 23, 3) := dk_181 0 23 (dk_at dksX5_init_1 6 rfl rfl)
theorem dX5_init_31 : decode cX5_init 31 = .ok (.return_, 1) := dk_177 (dk_at dksX5_init_1 9 rfl rfl)
abbrev cX5_ofSide : ByteArray := prog_8_method_2_code
def yX5_ofSide : MethodName := ⟨RX5, "ofSide", "()I"⟩
def dkwX5_ofSide_0 : List UInt8 := [42, 180, 0, 7, 153, 0, 12, 42, 180, 0, 13, 5, 108, 167, 0, 7, 42, 180, 0, 13, 172]
abbrev dktX5_ofSide_0 : List UInt8 := dkwX5_ofSide_0 ++ []
theorem dksX5_ofSide_0 : cX5_ofSide.data.toList.drop 0 = dktX5_ofSide_0 := by decide +kernel
theorem dX5_ofSide_0 : decode cX5_ofSide 0 = .ok (.aload_n 0, 1) := dk_42 (dk_at dksX5_ofSide_0 0 rfl rfl)
theorem dX5_ofSide_1 : decode cX5_ofSide 1 = .ok (.getfield 7, 3) := dk_180 0 7 (dk_at dksX5_ofSide_0 1 rfl rfl)
theorem dX5_ofSide_4 : decode cX5_ofSide 4 = .ok (.ifCond .eq 12, 3) := dk_153 0 12 (dk_at dksX5_ofSide_0 4 rfl rfl)
theorem dX5_ofSide_7 : decode cX5_ofSide 7 = .ok (.aload_n 0, 1) := dk_42 (dk_at dksX5_ofSide_0 7 rfl rfl)
theorem dX5_ofSide_8 : decode cX5_ofSide 8 = .ok (.getfield 13, 3) := dk_180 0 13 (dk_at dksX5_ofSide_0 8 rfl rfl)
theorem dX5_ofSide_11 : decode cX5_ofSide 11 = .ok (.iconst 2, 1) := dk_5 (dk_at dksX5_ofSide_0 11 rfl rfl)
theorem dX5_ofSide_12 : decode cX5_ofSide 12 = .ok (.idiv, 1) := dk_108 (dk_at dksX5_ofSide_0 12 rfl rfl)
theorem dX5_ofSide_13 : decode cX5_ofSide 13 = .ok (.goto 7, 3) := dk_167 0 7 (dk_at dksX5_ofSide_0 13 rfl rfl)
theorem dX5_ofSide_16 : decode cX5_ofSide 16 = .ok (.aload_n 0, 1) := dk_42 (dk_at dksX5_ofSide_0 16 rfl rfl)
theorem dX5_ofSide_17 : decode cX5_ofSide 17 = .ok (.getfield 13, 3) := dk_180 0 13 (dk_at dksX5_ofSide_0 17 rfl rfl)
theorem dX5_ofSide_20 : decode cX5_ofSide 20 = .ok (.ireturn, 1) := dk_172 (dk_at dksX5_ofSide_0 20 rfl rfl)
abbrev cX5_pairs : ByteArray := prog_8_method_3_code
def yX5_pairs : MethodName := ⟨RX5, "pairs", "()Z"⟩
def dkwX5_pairs_0 : List UInt8 := [42, 180, 0, 7, 153, 0, 15, 42, 180, 0, 13, 5, 160, 0, 7, 4, 167, 0, 4, 3, 172]
abbrev dktX5_pairs_0 : List UInt8 := dkwX5_pairs_0 ++ []
theorem dksX5_pairs_0 : cX5_pairs.data.toList.drop 0 = dktX5_pairs_0 := by decide +kernel
theorem dX5_pairs_0 : decode cX5_pairs 0 = .ok (.aload_n 0, 1) := dk_42 (dk_at dksX5_pairs_0 0 rfl rfl)
theorem dX5_pairs_1 : decode cX5_pairs 1 = .ok (.getfield 7, 3) := dk_180 0 7 (dk_at dksX5_pairs_0 1 rfl rfl)
theorem dX5_pairs_4 : decode cX5_pairs 4 = .ok (.ifCond .eq 15, 3) := dk_153 0 15 (dk_at dksX5_pairs_0 4 rfl rfl)
theorem dX5_pairs_7 : decode cX5_pairs 7 = .ok (.aload_n 0, 1) := dk_42 (dk_at dksX5_pairs_0 7 rfl rfl)
theorem dX5_pairs_8 : decode cX5_pairs 8 = .ok (.getfield 13, 3) := dk_180 0 13 (dk_at dksX5_pairs_0 8 rfl rfl)
theorem dX5_pairs_11 : decode cX5_pairs 11 = .ok (.iconst 2, 1) := dk_5 (dk_at dksX5_pairs_0 11 rfl rfl)
theorem dX5_pairs_12 : decode cX5_pairs 12 = .ok (.if_icmp .ne 7, 3) := dk_160 0 7 (dk_at dksX5_pairs_0 12 rfl rfl)
theorem dX5_pairs_15 : decode cX5_pairs 15 = .ok (.iconst 1, 1) := dk_4 (dk_at dksX5_pairs_0 15 rfl rfl)
theorem dX5_pairs_16 : decode cX5_pairs 16 = .ok (.goto 4, 3) := dk_167 0 4 (dk_at dksX5_pairs_0 16 rfl rfl)
theorem dX5_pairs_19 : decode cX5_pairs 19 = .ok (.iconst 0, 1) := dk_3 (dk_at dksX5_pairs_0 19 rfl rfl)
theorem dX5_pairs_20 : decode cX5_pairs 20 = .ok (.ireturn, 1) := dk_172 (dk_at dksX5_pairs_0 20 rfl rfl)
theorem q116 : (Jvm.Cond.initialized "BoneYard$Element") ∈ lw_all := lw_g (lw_at lw_m1 8 rfl) rfl
theorem q601 : (Jvm.Cond.instantiable "BoneYard$Element" (5 : Nat)) ∈ lw_all := lw_g (lw_at lw_m3 13 rfl) rfl
theorem q603 : (Jvm.Cond.instanceMethod ({ cls := "BoneYard$Element", name := "<init>", desc := "(ZIIII)V" } : Jvm.MethodName)) ∈ lw_all := lw_g (lw_at lw_m3 15 rfl) rfl
theorem q604 : (Jvm.Cond.code ({ cls := "BoneYard$Element", name := "<init>", desc := "(ZIIII)V" } : Jvm.MethodName) prog_8_method_1_code (6 : Nat) (Option.none : Option Jvm.ClassFile.FieldType)) ∈ lw_all := lw_g (lw_at lw_m3 16 rfl) rfl
theorem q605 : (Jvm.Cond.methodLink "BoneYard$Element" (1 : Nat) ({ cls := "java/lang/Object", name := "<init>", desc := "()V" } : Jvm.MethodName)) ∈ lw_all := lw_g (lw_at lw_m3 17 rfl) rfl
theorem q606 : (Jvm.Cond.fieldLink "BoneYard$Element" (7 : Nat) "BoneYard$Element" "sides" "Z") ∈ lw_all := lw_g (lw_at lw_m3 18 rfl) rfl
theorem q608 : (Jvm.Cond.fieldLink "BoneYard$Element" (13 : Nat) "BoneYard$Element" "inBody" "I") ∈ lw_all := lw_g (lw_at lw_m3 20 rfl) rfl
theorem q610 : (Jvm.Cond.fieldLink "BoneYard$Element" (17 : Nat) "BoneYard$Element" "density" "I") ∈ lw_all := lw_g (lw_at lw_m3 22 rfl) rfl
theorem q612 : (Jvm.Cond.fieldLink "BoneYard$Element" (20 : Nat) "BoneYard$Element" "from" "I") ∈ lw_all := lw_g (lw_at lw_m3 24 rfl) rfl
theorem q614 : (Jvm.Cond.fieldLink "BoneYard$Element" (23 : Nat) "BoneYard$Element" "to" "I") ∈ lw_all := lw_g (lw_at lw_m3 26 rfl) rfl
theorem q616 : (Jvm.Cond.laysFinal "BoneYard$Element" "BoneYard$Element" "sides" "Z") ∈ lw_all := lw_g (lw_at lw_m3 28 rfl) rfl
theorem q617 : (Jvm.Cond.soleField "BoneYard$Element" "sides") ∈ lw_all := lw_g (lw_at lw_m3 29 rfl) rfl
theorem q618 : (Jvm.Cond.laysFinal "BoneYard$Element" "BoneYard$Element" "inBody" "I") ∈ lw_all := lw_g (lw_at lw_m3 30 rfl) rfl
theorem q619 : (Jvm.Cond.soleField "BoneYard$Element" "inBody") ∈ lw_all := lw_g (lw_at lw_m3 31 rfl) rfl
theorem q620 : (Jvm.Cond.laysFinal "BoneYard$Element" "BoneYard$Element" "density" "I") ∈ lw_all := lw_g (lw_at lw_m3 32 rfl) rfl
theorem q621 : (Jvm.Cond.soleField "BoneYard$Element" "density") ∈ lw_all := lw_g (lw_at lw_m3 33 rfl) rfl
theorem q622 : (Jvm.Cond.laysFinal "BoneYard$Element" "BoneYard$Element" "from" "I") ∈ lw_all := lw_g (lw_at lw_m3 34 rfl) rfl
theorem q623 : (Jvm.Cond.soleField "BoneYard$Element" "from") ∈ lw_all := lw_g (lw_at lw_m3 35 rfl) rfl
theorem q624 : (Jvm.Cond.laysFinal "BoneYard$Element" "BoneYard$Element" "to" "I") ∈ lw_all := lw_g (lw_at lw_m3 36 rfl) rfl
theorem q625 : (Jvm.Cond.soleField "BoneYard$Element" "to") ∈ lw_all := lw_g (lw_at lw_m3 37 rfl) rfl
theorem q626 : (Jvm.Cond.superclass "BoneYard$Element" "java/lang/Object") ∈ lw_all := lw_g (lw_at lw_m3 38 rfl) rfl
theorem q1063 : (Jvm.Cond.selects "BoneYard$Element" ({ cls := "java/lang/Object", name := "getClass", desc := "()Ljava/lang/Class;" } : Jvm.MethodName) ({ cls := "java/lang/Object", name := "getClass", desc := "()Ljava/lang/Class;" } : Jvm.MethodName)) ∈ lw_all := lw_g (lw_at lw_m4 235 rfl) rfl
theorem q1329 : (Jvm.Cond.instanceMethod ({ cls := "BoneYard$Element", name := "ofSide", desc := "()I" } : Jvm.MethodName)) ∈ lw_all := lw_g (lw_at lw_m6 21 rfl) rfl
theorem q1330 : (Jvm.Cond.selects "BoneYard$Element" ({ cls := "BoneYard$Element", name := "ofSide", desc := "()I" } : Jvm.MethodName) ({ cls := "BoneYard$Element", name := "ofSide", desc := "()I" } : Jvm.MethodName)) ∈ lw_all := lw_g (lw_at lw_m6 22 rfl) rfl
theorem q1331 : (Jvm.Cond.code ({ cls := "BoneYard$Element", name := "ofSide", desc := "()I" } : Jvm.MethodName) prog_8_method_2_code (1 : Nat) (Option.some Jvm.ClassFile.FieldType.int)) ∈ lw_all := lw_g (lw_at lw_m6 23 rfl) rfl
theorem q1341 : (Jvm.Cond.instanceMethod ({ cls := "BoneYard$Element", name := "pairs", desc := "()Z" } : Jvm.MethodName)) ∈ lw_all := lw_g (lw_at lw_m6 33 rfl) rfl
theorem q1342 : (Jvm.Cond.selects "BoneYard$Element" ({ cls := "BoneYard$Element", name := "pairs", desc := "()Z" } : Jvm.MethodName) ({ cls := "BoneYard$Element", name := "pairs", desc := "()Z" } : Jvm.MethodName)) ∈ lw_all := lw_g (lw_at lw_m6 34 rfl) rfl
theorem q1343 : (Jvm.Cond.code ({ cls := "BoneYard$Element", name := "pairs", desc := "()Z" } : Jvm.MethodName) prog_8_method_3_code (1 : Nat) (Option.some Jvm.ClassFile.FieldType.boolean)) ∈ lw_all := lw_g (lw_at lw_m6 35 rfl) rfl
theorem q2131 : (Jvm.Cond.castable "BoneYard$Element" "java/lang/Object") ∈ lw_tbl := lw_at lw_m9 103 rfl
theorem in_X5 : ∀ w ∈ wsX50, w ∈ lw_all := lw_in wsX50 [616, 618, 620, 622, 624] (by decide +kernel) (by decide +kernel)
/-! BoneYard$Bone -/
set_option maxRecDepth 100000
def RX6 : String := "BoneYard$Bone"
def TX6 : u_T := fun k => match k with
  | 0 => ("BoneYard$Bone", "layer", "I", true)
  | 1 => ("BoneYard$Bone", "zones", "I", true)
  | 2 => ("BoneYard$Bone", "side", "I", true)
  | 3 => ("BoneYard$Bone", "ends", "I", true)
  | 4 => ("BoneYard$Bone", "wear", "I", true)
  | 5 => ("BoneYard$Bone", "gnawed", "Z", true)
  | _ => ("BoneYard$Bone", "measure", "[I", true)
def tyX6 : Nat → FieldType := fun k => match k with
  | 0 => .int
  | 1 => .int
  | 2 => .int
  | 3 => .int
  | 4 => .int
  | 5 => .boolean
  | _ => .array .int
abbrev wsX60 : List Cond := u_ws RX6 TX6 7
theorem nmX6 : ∀ a, a < 7 → ∀ b, b < 7 → a ≠ b → (TX6 a).2.1 ≠ (TX6 b).2.1 := by decide +kernel
theorem tyX6_ok : ∀ k, k < 7 → parseFieldDescriptor (TX6 k).2.2.1 = some (tyX6 k) := by decide +kernel
abbrev cX6_init : ByteArray := prog_4_method_1_code
def yX6_init : MethodName := ⟨RX6, "<init>", "(IIIIIZ)V"⟩
def dkwX6_init_1 : List UInt8 := [181, 0, 22, 42, 21, 4, 181, 0, 25, 42, 21, 5, 181, 0, 28, 42, 21, 6, 181, 0, 31, 177]
abbrev dktX6_init_1 : List UInt8 := dkwX6_init_1 ++ []
def dkwX6_init_0 : List UInt8 := [42, 183, 0, 3, 42, 16, 6, 188, 10, 181, 0, 9, 42, 27, 181, 0, 15, 42, 28, 181, 0, 19, 42, 29]
abbrev dktX6_init_0 : List UInt8 := dkwX6_init_0 ++ dktX6_init_1
theorem dksX6_init_0 : cX6_init.data.toList.drop 0 = dktX6_init_0 := by decide +kernel
theorem dksX6_init_1 : cX6_init.data.toList.drop 24 = dktX6_init_1 := dk_seg dksX6_init_0 24 rfl rfl
theorem dX6_init_0 : decode cX6_init 0 = .ok (.aload_n 0, 1) := dk_42 (dk_at dksX6_init_0 0 rfl rfl)
theorem dX6_init_1 : decode cX6_init 1 = .ok (.invokespecial 3, 3) := dk_183 0 3 (dk_at dksX6_init_0 1 rfl rfl)
theorem dX6_init_4 : decode cX6_init 4 = .ok (.aload_n 0, 1) := dk_42 (dk_at dksX6_init_0 4 rfl rfl)
theorem dX6_init_5 : decode cX6_init 5 = .ok (.bipush 6, 2) := dk_16 6 (dk_at dksX6_init_0 5 rfl rfl)
theorem dX6_init_7 : decode cX6_init 7 = .ok (.newarray .int, 2) := dk_188_10 (dk_at dksX6_init_0 7 rfl rfl)
theorem dX6_init_9 : decode cX6_init 9 = .ok (.putfield 9, 3) := dk_181 0 9 (dk_at dksX6_init_0 9 rfl rfl)
theorem dX6_init_12 : decode cX6_init 12 = .ok (.aload_n 0, 1) := dk_42 (dk_at dksX6_init_0 12 rfl rfl)
theorem dX6_init_13 : decode cX6_init 13 = .ok (.iload_n 1, 1) := dk_27 (dk_at dksX6_init_0 13 rfl rfl)
theorem dX6_init_14 : decode cX6_init 14 = .ok (.putfield 15, 3) := dk_181 0 15 (dk_at dksX6_init_0 14 rfl rfl)
theorem dX6_init_17 : decode cX6_init 17 = .ok (.aload_n 0, 1) := dk_42 (dk_at dksX6_init_0 17 rfl rfl)
theorem dX6_init_18 : decode cX6_init 18 = .ok (.iload_n 2, 1) := dk_28 (dk_at dksX6_init_0 18 rfl rfl)
theorem dX6_init_19 : decode cX6_init 19 = .ok (.putfield 19, 3) := dk_181 0 19 (dk_at dksX6_init_0 19 rfl rfl)
theorem dX6_init_22 : decode cX6_init 22 = .ok (.aload_n 0, 1) := dk_42 (dk_at dksX6_init_0 22 rfl rfl)
theorem dX6_init_23 : decode cX6_init 23 = .ok (.iload_n 3, 1) := dk_29 (dk_at dksX6_init_0 23 rfl rfl)
theorem dX6_init_24 : decode cX6_init 24 = .ok (.putfield 22, 3) := dk_181 0 22 (dk_at dksX6_init_1 0 rfl rfl)
theorem dX6_init_27 : decode cX6_init 27 = .ok (.aload_n 0, 1) := dk_42 (dk_at dksX6_init_1 3 rfl rfl)
theorem dX6_init_28 : decode cX6_init 28 = .ok (.iload 4, 2) := dk_21 4 (dk_at dksX6_init_1 4 rfl rfl)
theorem dX6_init_30 : decode cX6_init 30 = .ok (.putfield 25, 3) := dk_181 0 25 (dk_at dksX6_init_1 6 rfl rfl)
theorem dX6_init_33 : decode cX6_init 33 = .ok (.aload_n 0, 1) := dk_42 (dk_at dksX6_init_1 9 rfl rfl)
theorem dX6_init_34 : decode cX6_init 34 = .ok (.iload 5, 2) := dk_21 5 (dk_at dksX6_init_1 10 rfl rfl)
theorem dX6_init_36 : decode cX6_init 36 = .ok (.putfield 28, 3) := dk_181 0 28 (dk_at dksX6_init_1 12 rfl rfl)
theorem dX6_init_39 : decode cX6_init 39 = .ok (.aload_n 0, 1) := dk_42 (dk_at dksX6_init_1 15 rfl rfl)
theorem dX6_init_40 : decode cX6_init 40 = .ok (.iload 6, 2) := dk_21 6 (dk_at dksX6_init_1 16 rfl rfl)
theorem dX6_init_42 : decode cX6_init 42 = .ok (.putfield 31, 3) := dk_181 0 31 (dk_at dksX6_init_1 18 rfl rfl)
theorem dX6_init_45 : decode cX6_init 45 = .ok (.return_, 1) := dk_177 (dk_at dksX6_init_1 21 rfl rfl)
abbrev cX6_known : ByteArray := prog_4_method_2_code
def yX6_known : MethodName := ⟨RX6, "known", "(I)I"⟩
def dkwX6_known_3 : List UInt8 := [27, 46, 172]
abbrev dktX6_known_3 : List UInt8 := dkwX6_known_3 ++ []
def dkwX6_known_2 : List UInt8 := [42, 180, 0, 22, 172, 42, 180, 0, 19, 172, 42, 180, 0, 25, 172, 42, 180, 0, 28, 172, 42, 180, 0, 9]
abbrev dktX6_known_2 : List UInt8 := dkwX6_known_2 ++ dktX6_known_3
def dkwX6_known_1 : List UInt8 := [170, 0, 0, 0, 0, 0, 51, 0, 0, 0, 6, 0, 0, 0, 9, 0, 0, 0, 31, 0, 0, 0, 36, 0, 0, 0, 41, 0, 0, 0, 46]
abbrev dktX6_known_1 : List UInt8 := dkwX6_known_1 ++ dktX6_known_2
def dkwX6_known_0 : List UInt8 := [27]
abbrev dktX6_known_0 : List UInt8 := dkwX6_known_0 ++ dktX6_known_1
theorem dksX6_known_0 : cX6_known.data.toList.drop 0 = dktX6_known_0 := by decide +kernel
theorem dksX6_known_1 : cX6_known.data.toList.drop 1 = dktX6_known_1 := dk_seg dksX6_known_0 1 rfl rfl
theorem dksX6_known_2 : cX6_known.data.toList.drop 32 = dktX6_known_2 := dk_seg dksX6_known_1 31 rfl rfl
theorem dksX6_known_3 : cX6_known.data.toList.drop 56 = dktX6_known_3 := dk_seg dksX6_known_2 24 rfl rfl
theorem dX6_known_0 : decode cX6_known 0 = .ok (.iload_n 1, 1) := dk_27 (dk_at dksX6_known_0 0 rfl rfl)
theorem dX6_known_1 : decode cX6_known 1 = .ok (.tableswitch 51 6 9 #[31, 36, 41, 46], 31) := by decide +kernel
theorem dX6_known_32 : decode cX6_known 32 = .ok (.aload_n 0, 1) := dk_42 (dk_at dksX6_known_2 0 rfl rfl)
theorem dX6_known_33 : decode cX6_known 33 = .ok (.getfield 22, 3) := dk_180 0 22 (dk_at dksX6_known_2 1 rfl rfl)
theorem dX6_known_36 : decode cX6_known 36 = .ok (.ireturn, 1) := dk_172 (dk_at dksX6_known_2 4 rfl rfl)
theorem dX6_known_37 : decode cX6_known 37 = .ok (.aload_n 0, 1) := dk_42 (dk_at dksX6_known_2 5 rfl rfl)
theorem dX6_known_38 : decode cX6_known 38 = .ok (.getfield 19, 3) := dk_180 0 19 (dk_at dksX6_known_2 6 rfl rfl)
theorem dX6_known_41 : decode cX6_known 41 = .ok (.ireturn, 1) := dk_172 (dk_at dksX6_known_2 9 rfl rfl)
theorem dX6_known_42 : decode cX6_known 42 = .ok (.aload_n 0, 1) := dk_42 (dk_at dksX6_known_2 10 rfl rfl)
theorem dX6_known_43 : decode cX6_known 43 = .ok (.getfield 25, 3) := dk_180 0 25 (dk_at dksX6_known_2 11 rfl rfl)
theorem dX6_known_46 : decode cX6_known 46 = .ok (.ireturn, 1) := dk_172 (dk_at dksX6_known_2 14 rfl rfl)
theorem dX6_known_47 : decode cX6_known 47 = .ok (.aload_n 0, 1) := dk_42 (dk_at dksX6_known_2 15 rfl rfl)
theorem dX6_known_48 : decode cX6_known 48 = .ok (.getfield 28, 3) := dk_180 0 28 (dk_at dksX6_known_2 16 rfl rfl)
theorem dX6_known_51 : decode cX6_known 51 = .ok (.ireturn, 1) := dk_172 (dk_at dksX6_known_2 19 rfl rfl)
theorem dX6_known_52 : decode cX6_known 52 = .ok (.aload_n 0, 1) := dk_42 (dk_at dksX6_known_2 20 rfl rfl)
theorem dX6_known_53 : decode cX6_known 53 = .ok (.getfield 9, 3) := dk_180 0 9 (dk_at dksX6_known_2 21 rfl rfl)
theorem dX6_known_56 : decode cX6_known 56 = .ok (.iload_n 1, 1) := dk_27 (dk_at dksX6_known_3 0 rfl rfl)
theorem dX6_known_57 : decode cX6_known 57 = .ok (.iaload, 1) := dk_46 (dk_at dksX6_known_3 1 rfl rfl)
theorem dX6_known_58 : decode cX6_known 58 = .ok (.ireturn, 1) := dk_172 (dk_at dksX6_known_3 2 rfl rfl)
theorem q118 : (Jvm.Cond.initialized "BoneYard$Bone") ∈ lw_all := lw_g (lw_at lw_m1 10 rfl) rfl
theorem q660 : (Jvm.Cond.instantiable "BoneYard$Bone" (7 : Nat)) ∈ lw_all := lw_g (lw_at lw_m3 72 rfl) rfl
theorem q662 : (Jvm.Cond.instanceMethod ({ cls := "BoneYard$Bone", name := "<init>", desc := "(IIIIIZ)V" } : Jvm.MethodName)) ∈ lw_all := lw_g (lw_at lw_m3 74 rfl) rfl
theorem q663 : (Jvm.Cond.code ({ cls := "BoneYard$Bone", name := "<init>", desc := "(IIIIIZ)V" } : Jvm.MethodName) prog_4_method_1_code (7 : Nat) (Option.none : Option Jvm.ClassFile.FieldType)) ∈ lw_all := lw_g (lw_at lw_m3 75 rfl) rfl
theorem q664 : (Jvm.Cond.methodLink "BoneYard$Bone" (3 : Nat) ({ cls := "java/lang/Object", name := "<init>", desc := "()V" } : Jvm.MethodName)) ∈ lw_all := lw_g (lw_at lw_m3 76 rfl) rfl
theorem q665 : (Jvm.Cond.fieldLink "BoneYard$Bone" (15 : Nat) "BoneYard$Bone" "layer" "I") ∈ lw_all := lw_g (lw_at lw_m3 77 rfl) rfl
theorem q667 : (Jvm.Cond.fieldLink "BoneYard$Bone" (19 : Nat) "BoneYard$Bone" "zones" "I") ∈ lw_all := lw_g (lw_at lw_m3 79 rfl) rfl
theorem q669 : (Jvm.Cond.fieldLink "BoneYard$Bone" (22 : Nat) "BoneYard$Bone" "side" "I") ∈ lw_all := lw_g (lw_at lw_m3 81 rfl) rfl
theorem q671 : (Jvm.Cond.fieldLink "BoneYard$Bone" (25 : Nat) "BoneYard$Bone" "ends" "I") ∈ lw_all := lw_g (lw_at lw_m3 83 rfl) rfl
theorem q673 : (Jvm.Cond.fieldLink "BoneYard$Bone" (28 : Nat) "BoneYard$Bone" "wear" "I") ∈ lw_all := lw_g (lw_at lw_m3 85 rfl) rfl
theorem q675 : (Jvm.Cond.fieldLink "BoneYard$Bone" (31 : Nat) "BoneYard$Bone" "gnawed" "Z") ∈ lw_all := lw_g (lw_at lw_m3 87 rfl) rfl
theorem q677 : (Jvm.Cond.fieldLink "BoneYard$Bone" (9 : Nat) "BoneYard$Bone" "measure" "[I") ∈ lw_all := lw_g (lw_at lw_m3 89 rfl) rfl
theorem q679 : (Jvm.Cond.laysFinal "BoneYard$Bone" "BoneYard$Bone" "layer" "I") ∈ lw_all := lw_g (lw_at lw_m3 91 rfl) rfl
theorem q680 : (Jvm.Cond.soleField "BoneYard$Bone" "layer") ∈ lw_all := lw_g (lw_at lw_m3 92 rfl) rfl
theorem q681 : (Jvm.Cond.laysFinal "BoneYard$Bone" "BoneYard$Bone" "zones" "I") ∈ lw_all := lw_g (lw_at lw_m3 93 rfl) rfl
theorem q682 : (Jvm.Cond.soleField "BoneYard$Bone" "zones") ∈ lw_all := lw_g (lw_at lw_m3 94 rfl) rfl
theorem q683 : (Jvm.Cond.laysFinal "BoneYard$Bone" "BoneYard$Bone" "side" "I") ∈ lw_all := lw_g (lw_at lw_m3 95 rfl) rfl
theorem q684 : (Jvm.Cond.soleField "BoneYard$Bone" "side") ∈ lw_all := lw_g (lw_at lw_m3 96 rfl) rfl
theorem q685 : (Jvm.Cond.laysFinal "BoneYard$Bone" "BoneYard$Bone" "ends" "I") ∈ lw_all := lw_g (lw_at lw_m3 97 rfl) rfl
theorem q686 : (Jvm.Cond.soleField "BoneYard$Bone" "ends") ∈ lw_all := lw_g (lw_at lw_m3 98 rfl) rfl
theorem q687 : (Jvm.Cond.laysFinal "BoneYard$Bone" "BoneYard$Bone" "wear" "I") ∈ lw_all := lw_g (lw_at lw_m3 99 rfl) rfl
theorem q688 : (Jvm.Cond.soleField "BoneYard$Bone" "wear") ∈ lw_all := lw_g (lw_at lw_m3 100 rfl) rfl
theorem q689 : (Jvm.Cond.laysFinal "BoneYard$Bone" "BoneYard$Bone" "gnawed" "Z") ∈ lw_all := lw_g (lw_at lw_m3 101 rfl) rfl
theorem q690 : (Jvm.Cond.soleField "BoneYard$Bone" "gnawed") ∈ lw_all := lw_g (lw_at lw_m3 102 rfl) rfl
theorem q691 : (Jvm.Cond.laysFinal "BoneYard$Bone" "BoneYard$Bone" "measure" "[I") ∈ lw_all := lw_g (lw_at lw_m3 103 rfl) rfl
theorem q692 : (Jvm.Cond.soleField "BoneYard$Bone" "measure") ∈ lw_all := lw_g (lw_at lw_m3 104 rfl) rfl
theorem q693 : (Jvm.Cond.superclass "BoneYard$Bone" "java/lang/Object") ∈ lw_all := lw_g (lw_at lw_m3 105 rfl) rfl
theorem q1060 : (Jvm.Cond.selects "BoneYard$Bone" ({ cls := "java/lang/Object", name := "getClass", desc := "()Ljava/lang/Class;" } : Jvm.MethodName) ({ cls := "java/lang/Object", name := "getClass", desc := "()Ljava/lang/Class;" } : Jvm.MethodName)) ∈ lw_all := lw_g (lw_at lw_m4 232 rfl) rfl
theorem q1274 : (Jvm.Cond.instanceMethod ({ cls := "BoneYard$Bone", name := "known", desc := "(I)I" } : Jvm.MethodName)) ∈ lw_all := lw_g (lw_at lw_m5 206 rfl) rfl
theorem q1275 : (Jvm.Cond.selects "BoneYard$Bone" ({ cls := "BoneYard$Bone", name := "known", desc := "(I)I" } : Jvm.MethodName) ({ cls := "BoneYard$Bone", name := "known", desc := "(I)I" } : Jvm.MethodName)) ∈ lw_all := lw_g (lw_at lw_m5 207 rfl) rfl
theorem q1276 : (Jvm.Cond.code ({ cls := "BoneYard$Bone", name := "known", desc := "(I)I" } : Jvm.MethodName) prog_4_method_2_code (2 : Nat) (Option.some Jvm.ClassFile.FieldType.int)) ∈ lw_all := lw_g (lw_at lw_m5 208 rfl) rfl
theorem q2132 : (Jvm.Cond.castable "BoneYard$Bone" "java/lang/Object") ∈ lw_tbl := lw_at lw_m9 104 rfl
theorem in_X6 : ∀ w ∈ wsX60, w ∈ lw_all := lw_in wsX60 [679, 681, 683, 685, 687, 689, 691] (by decide +kernel) (by decide +kernel)
/-! BoneYard$Key -/
set_option maxRecDepth 100000
def RX7 : String := "BoneYard$Key"
def TX7 : u_T := fun k => match k with
  | _ => ("BoneYard$Key", "steps", "Ljava/util/List;", true)
def tyX7 : Nat → FieldType := fun k => match k with
  | _ => .object "java/util/List"
abbrev wsX70 : List Cond := u_ws RX7 TX7 1
theorem nmX7 : ∀ a, a < 1 → ∀ b, b < 1 → a ≠ b → (TX7 a).2.1 ≠ (TX7 b).2.1 := by decide +kernel
theorem tyX7_ok : ∀ k, k < 1 → parseFieldDescriptor (TX7 k).2.2.1 = some (tyX7 k) := by decide +kernel
abbrev cX7_init : ByteArray := prog_10_method_1_code
def yX7_init : MethodName := ⟨RX7, "<init>", "()V"⟩
def dkwX7_init_0 : List UInt8 := [42, 183, 0, 3, 42, 187, 0, 9, 89, 7, 183, 0, 11, 181, 0, 14, 177]
abbrev dktX7_init_0 : List UInt8 := dkwX7_init_0 ++ []
theorem dksX7_init_0 : cX7_init.data.toList.drop 0 = dktX7_init_0 := by decide +kernel
theorem dX7_init_0 : decode cX7_init 0 = .ok (.aload_n 0, 1) := dk_42 (dk_at dksX7_init_0 0 rfl rfl)
theorem dX7_init_1 : decode cX7_init 1 = .ok (.invokespecial 3, 3) := dk_183 0 3 (dk_at dksX7_init_0 1 rfl rfl)
theorem dX7_init_4 : decode cX7_init 4 = .ok (.aload_n 0, 1) := dk_42 (dk_at dksX7_init_0 4 rfl rfl)
theorem dX7_init_5 : decode cX7_init 5 = .ok (.new 9, 3) := dk_187 0 9 (dk_at dksX7_init_0 5 rfl rfl)
theorem dX7_init_8 : decode cX7_init 8 = .ok (.dup, 1) := dk_89 (dk_at dksX7_init_0 8 rfl rfl)
theorem dX7_init_9 : decode cX7_init 9 = .ok (.iconst 4, 1) := dk_7 (dk_at dksX7_init_0 9 rfl rfl)
theorem dX7_init_10 : decode cX7_init 10 = .ok (.invokespecial 11, 3) := dk_183 0 11 (dk_at dksX7_init_0 10 rfl rfl)
theorem dX7_init_13 : decode cX7_init 13 = .ok (.putfield 14, 3) := dk_181 0 14 (dk_at dksX7_init_0 13 rfl rfl)
theorem dX7_init_16 : decode cX7_init 16 = .ok (.return_, 1) := dk_177 (dk_at dksX7_init_0 16 rfl rfl)
abbrev cX7_at : ByteArray := prog_10_method_2_code
def yX7_at : MethodName := ⟨RX7, "at", "(I)I"⟩
def dkwX7_at_2 : List UInt8 := [180, 0, 14, 185, 0, 20, 1, 0, 160, 0, 7, 2, 167, 0, 4, 28, 172]
abbrev dktX7_at_2 : List UInt8 := dkwX7_at_2 ++ []
def dkwX7_at_1 : List UInt8 := [185, 0, 26, 2, 0, 192, 0, 30, 180, 0, 32, 27, 159, 0, 9, 132, 2, 1, 167, 255, 220, 28, 42]
abbrev dktX7_at_1 : List UInt8 := dkwX7_at_1 ++ dktX7_at_2
def dkwX7_at_0 : List UInt8 := [3, 61, 28, 42, 180, 0, 14, 185, 0, 20, 1, 0, 162, 0, 29, 42, 180, 0, 14, 28]
abbrev dktX7_at_0 : List UInt8 := dkwX7_at_0 ++ dktX7_at_1
theorem dksX7_at_0 : cX7_at.data.toList.drop 0 = dktX7_at_0 := by decide +kernel
theorem dksX7_at_1 : cX7_at.data.toList.drop 20 = dktX7_at_1 := dk_seg dksX7_at_0 20 rfl rfl
theorem dksX7_at_2 : cX7_at.data.toList.drop 43 = dktX7_at_2 := dk_seg dksX7_at_1 23 rfl rfl
theorem dX7_at_0 : decode cX7_at 0 = .ok (.iconst 0, 1) := dk_3 (dk_at dksX7_at_0 0 rfl rfl)
theorem dX7_at_1 : decode cX7_at 1 = .ok (.istore_n 2, 1) := dk_61 (dk_at dksX7_at_0 1 rfl rfl)
theorem dX7_at_2 : decode cX7_at 2 = .ok (.iload_n 2, 1) := dk_28 (dk_at dksX7_at_0 2 rfl rfl)
theorem dX7_at_3 : decode cX7_at 3 = .ok (.aload_n 0, 1) := dk_42 (dk_at dksX7_at_0 3 rfl rfl)
theorem dX7_at_4 : decode cX7_at 4 = .ok (.getfield 14, 3) := dk_180 0 14 (dk_at dksX7_at_0 4 rfl rfl)
theorem dX7_at_7 : decode cX7_at 7 = .ok (.invokeinterface 20 1, 5) := by decide +kernel
theorem dX7_at_12 : decode cX7_at 12 = .ok (.if_icmp .ge 29, 3) := dk_162 0 29 (dk_at dksX7_at_0 12 rfl rfl)
theorem dX7_at_15 : decode cX7_at 15 = .ok (.aload_n 0, 1) := dk_42 (dk_at dksX7_at_0 15 rfl rfl)
theorem dX7_at_16 : decode cX7_at 16 = .ok (.getfield 14, 3) := dk_180 0 14 (dk_at dksX7_at_0 16 rfl rfl)
theorem dX7_at_19 : decode cX7_at 19 = .ok (.iload_n 2, 1) := dk_28 (dk_at dksX7_at_0 19 rfl rfl)
theorem dX7_at_20 : decode cX7_at 20 = .ok (.invokeinterface 26 2, 5) := by decide +kernel
theorem dX7_at_25 : decode cX7_at 25 = .ok (.checkcast 30, 3) := dk_192 0 30 (dk_at dksX7_at_1 5 rfl rfl)
theorem dX7_at_28 : decode cX7_at 28 = .ok (.getfield 32, 3) := dk_180 0 32 (dk_at dksX7_at_1 8 rfl rfl)
theorem dX7_at_31 : decode cX7_at 31 = .ok (.iload_n 1, 1) := dk_27 (dk_at dksX7_at_1 11 rfl rfl)
theorem dX7_at_32 : decode cX7_at 32 = .ok (.if_icmp .eq 9, 3) := dk_159 0 9 (dk_at dksX7_at_1 12 rfl rfl)
theorem dX7_at_35 : decode cX7_at 35 = .ok (.iinc 2 1, 3) := dk_132 2 1 (dk_at dksX7_at_1 15 rfl rfl)
theorem dX7_at_38 : decode cX7_at 38 = .ok (.goto (-36), 3) := dk_167 255 220 (dk_at dksX7_at_1 18 rfl rfl)
theorem dX7_at_41 : decode cX7_at 41 = .ok (.iload_n 2, 1) := dk_28 (dk_at dksX7_at_1 21 rfl rfl)
theorem dX7_at_42 : decode cX7_at 42 = .ok (.aload_n 0, 1) := dk_42 (dk_at dksX7_at_1 22 rfl rfl)
theorem dX7_at_43 : decode cX7_at 43 = .ok (.getfield 14, 3) := dk_180 0 14 (dk_at dksX7_at_2 0 rfl rfl)
theorem dX7_at_46 : decode cX7_at 46 = .ok (.invokeinterface 20 1, 5) := by decide +kernel
theorem dX7_at_51 : decode cX7_at 51 = .ok (.if_icmp .ne 7, 3) := dk_160 0 7 (dk_at dksX7_at_2 8 rfl rfl)
theorem dX7_at_54 : decode cX7_at 54 = .ok (.iconst (-1), 1) := dk_2 (dk_at dksX7_at_2 11 rfl rfl)
theorem dX7_at_55 : decode cX7_at 55 = .ok (.goto 4, 3) := dk_167 0 4 (dk_at dksX7_at_2 12 rfl rfl)
theorem dX7_at_58 : decode cX7_at 58 = .ok (.iload_n 2, 1) := dk_28 (dk_at dksX7_at_2 15 rfl rfl)
theorem dX7_at_59 : decode cX7_at 59 = .ok (.ireturn, 1) := dk_172 (dk_at dksX7_at_2 16 rfl rfl)
abbrev cX7_goes : ByteArray := prog_10_method_3_code
def yX7_goes : MethodName := ⟨RX7, "goes", "(LBoneYard$Bone;Z)I"⟩
def dkwX7_goes_4 : List UInt8 := [28, 153, 0, 8, 21, 5, 167, 0, 5, 21, 4, 172]
abbrev dktX7_goes_4 : List UInt8 := dkwX7_goes_4 ++ []
def dkwX7_goes_3 : List UInt8 := [180, 0, 58, 2, 160, 0, 7, 2, 167, 0, 12, 42, 25, 7, 180, 0, 58, 182, 0, 61, 62, 167, 255, 176]
abbrev dktX7_goes_3 : List UInt8 := dkwX7_goes_3 ++ dktX7_goes_4
def dkwX7_goes_2 : List UInt8 := [167, 0, 8, 25, 6, 180, 0, 50, 58, 7, 132, 4, 1, 25, 7, 180, 0, 53, 54, 5, 25, 7]
abbrev dktX7_goes_2 : List UInt8 := dkwX7_goes_2 ++ dktX7_goes_3
def dkwX7_goes_1 : List UInt8 := [192, 0, 30, 58, 6, 25, 6, 180, 0, 36, 43, 182, 0, 40, 153, 0, 11, 25, 6, 180, 0, 46]
abbrev dktX7_goes_1 : List UInt8 := dkwX7_goes_1 ++ dktX7_goes_2
def dkwX7_goes_0 : List UInt8 := [3, 62, 3, 54, 4, 2, 54, 5, 29, 2, 159, 0, 81, 42, 180, 0, 14, 29, 185, 0, 26, 2, 0]
abbrev dktX7_goes_0 : List UInt8 := dkwX7_goes_0 ++ dktX7_goes_1
theorem dksX7_goes_0 : cX7_goes.data.toList.drop 0 = dktX7_goes_0 := by decide +kernel
theorem dksX7_goes_1 : cX7_goes.data.toList.drop 23 = dktX7_goes_1 := dk_seg dksX7_goes_0 23 rfl rfl
theorem dksX7_goes_2 : cX7_goes.data.toList.drop 45 = dktX7_goes_2 := dk_seg dksX7_goes_1 22 rfl rfl
theorem dksX7_goes_3 : cX7_goes.data.toList.drop 67 = dktX7_goes_3 := dk_seg dksX7_goes_2 22 rfl rfl
theorem dksX7_goes_4 : cX7_goes.data.toList.drop 91 = dktX7_goes_4 := dk_seg dksX7_goes_3 24 rfl rfl
theorem dX7_goes_0 : decode cX7_goes 0 = .ok (.iconst 0, 1) := dk_3 (dk_at dksX7_goes_0 0 rfl rfl)
theorem dX7_goes_1 : decode cX7_goes 1 = .ok (.istore_n 3, 1) := dk_62 (dk_at dksX7_goes_0 1 rfl rfl)
theorem dX7_goes_2 : decode cX7_goes 2 = .ok (.iconst 0, 1) := dk_3 (dk_at dksX7_goes_0 2 rfl rfl)
theorem dX7_goes_3 : decode cX7_goes 3 = .ok (.istore 4, 2) := dk_54 4 (dk_at dksX7_goes_0 3 rfl rfl)
theorem dX7_goes_5 : decode cX7_goes 5 = .ok (.iconst (-1), 1) := dk_2 (dk_at dksX7_goes_0 5 rfl rfl)
theorem dX7_goes_6 : decode cX7_goes 6 = .ok (.istore 5, 2) := dk_54 5 (dk_at dksX7_goes_0 6 rfl rfl)
theorem dX7_goes_8 : decode cX7_goes 8 = .ok (.iload_n 3, 1) := dk_29 (dk_at dksX7_goes_0 8 rfl rfl)
theorem dX7_goes_9 : decode cX7_goes 9 = .ok (.iconst (-1), 1) := dk_2 (dk_at dksX7_goes_0 9 rfl rfl)
theorem dX7_goes_10 : decode cX7_goes 10 = .ok (.if_icmp .eq 81, 3) := dk_159 0 81 (dk_at dksX7_goes_0 10 rfl rfl)
theorem dX7_goes_13 : decode cX7_goes 13 = .ok (.aload_n 0, 1) := dk_42 (dk_at dksX7_goes_0 13 rfl rfl)
theorem dX7_goes_14 : decode cX7_goes 14 = .ok (.getfield 14, 3) := dk_180 0 14 (dk_at dksX7_goes_0 14 rfl rfl)
theorem dX7_goes_17 : decode cX7_goes 17 = .ok (.iload_n 3, 1) := dk_29 (dk_at dksX7_goes_0 17 rfl rfl)
theorem dX7_goes_18 : decode cX7_goes 18 = .ok (.invokeinterface 26 2, 5) := by decide +kernel
theorem dX7_goes_23 : decode cX7_goes 23 = .ok (.checkcast 30, 3) := dk_192 0 30 (dk_at dksX7_goes_1 0 rfl rfl)
theorem dX7_goes_26 : decode cX7_goes 26 = .ok (.astore 6, 2) := dk_58 6 (dk_at dksX7_goes_1 3 rfl rfl)
theorem dX7_goes_28 : decode cX7_goes 28 = .ok (.aload 6, 2) := dk_25 6 (dk_at dksX7_goes_1 5 rfl rfl)
theorem dX7_goes_30 : decode cX7_goes 30 = .ok (.getfield 36, 3) := dk_180 0 36 (dk_at dksX7_goes_1 7 rfl rfl)
theorem dX7_goes_33 : decode cX7_goes 33 = .ok (.aload_n 1, 1) := dk_43 (dk_at dksX7_goes_1 10 rfl rfl)
theorem dX7_goes_34 : decode cX7_goes 34 = .ok (.invokevirtual 40, 3) := dk_182 0 40 (dk_at dksX7_goes_1 11 rfl rfl)
theorem dX7_goes_37 : decode cX7_goes 37 = .ok (.ifCond .eq 11, 3) := dk_153 0 11 (dk_at dksX7_goes_1 14 rfl rfl)
theorem dX7_goes_40 : decode cX7_goes 40 = .ok (.aload 6, 2) := dk_25 6 (dk_at dksX7_goes_1 17 rfl rfl)
theorem dX7_goes_42 : decode cX7_goes 42 = .ok (.getfield 46, 3) := dk_180 0 46 (dk_at dksX7_goes_1 19 rfl rfl)
theorem dX7_goes_45 : decode cX7_goes 45 = .ok (.goto 8, 3) := dk_167 0 8 (dk_at dksX7_goes_2 0 rfl rfl)
theorem dX7_goes_48 : decode cX7_goes 48 = .ok (.aload 6, 2) := dk_25 6 (dk_at dksX7_goes_2 3 rfl rfl)
theorem dX7_goes_50 : decode cX7_goes 50 = .ok (.getfield 50, 3) := dk_180 0 50 (dk_at dksX7_goes_2 5 rfl rfl)
theorem dX7_goes_53 : decode cX7_goes 53 = .ok (.astore 7, 2) := dk_58 7 (dk_at dksX7_goes_2 8 rfl rfl)
theorem dX7_goes_55 : decode cX7_goes 55 = .ok (.iinc 4 1, 3) := dk_132 4 1 (dk_at dksX7_goes_2 10 rfl rfl)
theorem dX7_goes_58 : decode cX7_goes 58 = .ok (.aload 7, 2) := dk_25 7 (dk_at dksX7_goes_2 13 rfl rfl)
theorem dX7_goes_60 : decode cX7_goes 60 = .ok (.getfield 53, 3) := dk_180 0 53 (dk_at dksX7_goes_2 15 rfl rfl)
theorem dX7_goes_63 : decode cX7_goes 63 = .ok (.istore 5, 2) := dk_54 5 (dk_at dksX7_goes_2 18 rfl rfl)
theorem dX7_goes_65 : decode cX7_goes 65 = .ok (.aload 7, 2) := dk_25 7 (dk_at dksX7_goes_2 20 rfl rfl)
theorem dX7_goes_67 : decode cX7_goes 67 = .ok (.getfield 58, 3) := dk_180 0 58 (dk_at dksX7_goes_3 0 rfl rfl)
theorem dX7_goes_70 : decode cX7_goes 70 = .ok (.iconst (-1), 1) := dk_2 (dk_at dksX7_goes_3 3 rfl rfl)
theorem dX7_goes_71 : decode cX7_goes 71 = .ok (.if_icmp .ne 7, 3) := dk_160 0 7 (dk_at dksX7_goes_3 4 rfl rfl)
theorem dX7_goes_74 : decode cX7_goes 74 = .ok (.iconst (-1), 1) := dk_2 (dk_at dksX7_goes_3 7 rfl rfl)
theorem dX7_goes_75 : decode cX7_goes 75 = .ok (.goto 12, 3) := dk_167 0 12 (dk_at dksX7_goes_3 8 rfl rfl)
theorem dX7_goes_78 : decode cX7_goes 78 = .ok (.aload_n 0, 1) := dk_42 (dk_at dksX7_goes_3 11 rfl rfl)
theorem dX7_goes_79 : decode cX7_goes 79 = .ok (.aload 7, 2) := dk_25 7 (dk_at dksX7_goes_3 12 rfl rfl)
theorem dX7_goes_81 : decode cX7_goes 81 = .ok (.getfield 58, 3) := dk_180 0 58 (dk_at dksX7_goes_3 14 rfl rfl)
theorem dX7_goes_84 : decode cX7_goes 84 = .ok (.invokevirtual 61, 3) := dk_182 0 61 (dk_at dksX7_goes_3 17 rfl rfl)
theorem dX7_goes_87 : decode cX7_goes 87 = .ok (.istore_n 3, 1) := dk_62 (dk_at dksX7_goes_3 20 rfl rfl)
theorem dX7_goes_88 : decode cX7_goes 88 = .ok (.goto (-80), 3) := dk_167 255 176 (dk_at dksX7_goes_3 21 rfl rfl)
theorem dX7_goes_91 : decode cX7_goes 91 = .ok (.iload_n 2, 1) := dk_28 (dk_at dksX7_goes_4 0 rfl rfl)
theorem dX7_goes_92 : decode cX7_goes 92 = .ok (.ifCond .eq 8, 3) := dk_153 0 8 (dk_at dksX7_goes_4 1 rfl rfl)
theorem dX7_goes_95 : decode cX7_goes 95 = .ok (.iload 5, 2) := dk_21 5 (dk_at dksX7_goes_4 4 rfl rfl)
theorem dX7_goes_97 : decode cX7_goes 97 = .ok (.goto 5, 3) := dk_167 0 5 (dk_at dksX7_goes_4 6 rfl rfl)
theorem dX7_goes_100 : decode cX7_goes 100 = .ok (.iload 4, 2) := dk_21 4 (dk_at dksX7_goes_4 9 rfl rfl)
theorem dX7_goes_102 : decode cX7_goes 102 = .ok (.ireturn, 1) := dk_172 (dk_at dksX7_goes_4 11 rfl rfl)
theorem q123 : (Jvm.Cond.initialized "BoneYard$Key") ∈ lw_all := lw_g (lw_at lw_m1 15 rfl) rfl
theorem q841 : (Jvm.Cond.instantiable "BoneYard$Key" (1 : Nat)) ∈ lw_all := lw_g (lw_at lw_m4 13 rfl) rfl
theorem q843 : (Jvm.Cond.instanceMethod ({ cls := "BoneYard$Key", name := "<init>", desc := "()V" } : Jvm.MethodName)) ∈ lw_all := lw_g (lw_at lw_m4 15 rfl) rfl
theorem q844 : (Jvm.Cond.code ({ cls := "BoneYard$Key", name := "<init>", desc := "()V" } : Jvm.MethodName) prog_10_method_1_code (1 : Nat) (Option.none : Option Jvm.ClassFile.FieldType)) ∈ lw_all := lw_g (lw_at lw_m4 16 rfl) rfl
theorem q845 : (Jvm.Cond.methodLink "BoneYard$Key" (3 : Nat) ({ cls := "java/lang/Object", name := "<init>", desc := "()V" } : Jvm.MethodName)) ∈ lw_all := lw_g (lw_at lw_m4 17 rfl) rfl
theorem q846 : (Jvm.Cond.classLink "BoneYard$Key" (9 : Nat) "java/util/ArrayList") ∈ lw_all := lw_g (lw_at lw_m4 18 rfl) rfl
theorem q848 : (Jvm.Cond.methodLink "BoneYard$Key" (11 : Nat) ({ cls := "java/util/ArrayList", name := "<init>", desc := "(I)V" } : Jvm.MethodName)) ∈ lw_all := lw_g (lw_at lw_m4 20 rfl) rfl
theorem q874 : (Jvm.Cond.fieldLink "BoneYard$Key" (14 : Nat) "BoneYard$Key" "steps" "Ljava/util/List;") ∈ lw_all := lw_g (lw_at lw_m4 46 rfl) rfl
theorem q876 : (Jvm.Cond.laysFinal "BoneYard$Key" "BoneYard$Key" "steps" "Ljava/util/List;") ∈ lw_all := lw_g (lw_at lw_m4 48 rfl) rfl
theorem q877 : (Jvm.Cond.soleField "BoneYard$Key" "steps") ∈ lw_all := lw_g (lw_at lw_m4 49 rfl) rfl
theorem q878 : (Jvm.Cond.superclass "BoneYard$Key" "java/lang/Object") ∈ lw_all := lw_g (lw_at lw_m4 50 rfl) rfl
theorem q942 : (Jvm.Cond.fieldLinkNest "BoneYard$Key" (32 : Nat) "BoneYard$Step" "number" "I" "BoneYard") ∈ lw_tbl := lw_at lw_m4 114 rfl
theorem q944 : (Jvm.Cond.fieldLinkNest "BoneYard$Key" (36 : Nat) "BoneYard$Step" "when" "LBoneYard$Cond;" "BoneYard") ∈ lw_tbl := lw_at lw_m4 116 rfl
theorem q946 : (Jvm.Cond.fieldLinkNest "BoneYard$Key" (46 : Nat) "BoneYard$Step" "yes" "LBoneYard$Goal;" "BoneYard") ∈ lw_tbl := lw_at lw_m4 118 rfl
theorem q948 : (Jvm.Cond.fieldLinkNest "BoneYard$Key" (50 : Nat) "BoneYard$Step" "no" "LBoneYard$Goal;" "BoneYard") ∈ lw_tbl := lw_at lw_m4 120 rfl
theorem q1065 : (Jvm.Cond.selects "BoneYard$Key" ({ cls := "java/lang/Object", name := "getClass", desc := "()Ljava/lang/Class;" } : Jvm.MethodName) ({ cls := "java/lang/Object", name := "getClass", desc := "()Ljava/lang/Class;" } : Jvm.MethodName)) ∈ lw_all := lw_g (lw_at lw_m4 237 rfl) rfl
theorem q1197 : (Jvm.Cond.fieldLinkNest "BoneYard$Key" (58 : Nat) "BoneYard$Goal" "step" "I" "BoneYard") ∈ lw_tbl := lw_at lw_m5 129 rfl
theorem q1200 : (Jvm.Cond.fieldLinkNest "BoneYard$Key" (53 : Nat) "BoneYard$Goal" "name" "I" "BoneYard") ∈ lw_tbl := lw_at lw_m5 132 rfl
theorem q1215 : (Jvm.Cond.instanceMethod ({ cls := "BoneYard$Key", name := "at", desc := "(I)I" } : Jvm.MethodName)) ∈ lw_all := lw_g (lw_at lw_m5 147 rfl) rfl
theorem q1216 : (Jvm.Cond.selects "BoneYard$Key" ({ cls := "BoneYard$Key", name := "at", desc := "(I)I" } : Jvm.MethodName) ({ cls := "BoneYard$Key", name := "at", desc := "(I)I" } : Jvm.MethodName)) ∈ lw_all := lw_g (lw_at lw_m5 148 rfl) rfl
theorem q1217 : (Jvm.Cond.code ({ cls := "BoneYard$Key", name := "at", desc := "(I)I" } : Jvm.MethodName) prog_10_method_2_code (3 : Nat) (Option.some Jvm.ClassFile.FieldType.int)) ∈ lw_all := lw_g (lw_at lw_m5 149 rfl) rfl
theorem q1218 : (Jvm.Cond.interfaceEntry "BoneYard$Key" (20 : Nat)) ∈ lw_tbl := lw_at lw_m5 150 rfl
theorem q1219 : (Jvm.Cond.methodLink "BoneYard$Key" (20 : Nat) ({ cls := "java/util/List", name := "size", desc := "()I" } : Jvm.MethodName)) ∈ lw_all := lw_g (lw_at lw_m5 151 rfl) rfl
theorem q1220 : (Jvm.Cond.interfaceEntry "BoneYard$Key" (26 : Nat)) ∈ lw_tbl := lw_at lw_m5 152 rfl
theorem q1221 : (Jvm.Cond.methodLink "BoneYard$Key" (26 : Nat) ({ cls := "java/util/List", name := "get", desc := "(I)Ljava/lang/Object;" } : Jvm.MethodName)) ∈ lw_all := lw_g (lw_at lw_m5 153 rfl) rfl
theorem q1222 : (Jvm.Cond.classLink "BoneYard$Key" (30 : Nat) "BoneYard$Step") ∈ lw_all := lw_g (lw_at lw_m5 154 rfl) rfl
theorem q1236 : (Jvm.Cond.instanceMethod ({ cls := "BoneYard$Key", name := "goes", desc := "(LBoneYard$Bone;Z)I" } : Jvm.MethodName)) ∈ lw_all := lw_g (lw_at lw_m5 168 rfl) rfl
theorem q1237 : (Jvm.Cond.selects "BoneYard$Key" ({ cls := "BoneYard$Key", name := "goes", desc := "(LBoneYard$Bone;Z)I" } : Jvm.MethodName) ({ cls := "BoneYard$Key", name := "goes", desc := "(LBoneYard$Bone;Z)I" } : Jvm.MethodName)) ∈ lw_all := lw_g (lw_at lw_m5 169 rfl) rfl
theorem q1238 : (Jvm.Cond.code ({ cls := "BoneYard$Key", name := "goes", desc := "(LBoneYard$Bone;Z)I" } : Jvm.MethodName) prog_10_method_3_code (8 : Nat) (Option.some Jvm.ClassFile.FieldType.int)) ∈ lw_all := lw_g (lw_at lw_m5 170 rfl) rfl
theorem q1239 : (Jvm.Cond.methodLink "BoneYard$Key" (40 : Nat) ({ cls := "BoneYard$Cond", name := "holds", desc := "(LBoneYard$Bone;)Z" } : Jvm.MethodName)) ∈ lw_all := lw_g (lw_at lw_m5 171 rfl) rfl
theorem q1294 : (Jvm.Cond.methodLink "BoneYard$Key" (61 : Nat) ({ cls := "BoneYard$Key", name := "at", desc := "(I)I" } : Jvm.MethodName)) ∈ lw_all := lw_g (lw_at lw_m5 226 rfl) rfl
theorem q2134 : (Jvm.Cond.castable "BoneYard$Key" "java/lang/Object") ∈ lw_tbl := lw_at lw_m9 106 rfl
theorem in_X7 : ∀ w ∈ wsX70, w ∈ lw_all := lw_in wsX70 [876] (by decide +kernel) (by decide +kernel)
/-! BoneYard$Step -/
set_option maxRecDepth 100000
def RX8 : String := "BoneYard$Step"
def TX8 : u_T := fun k => match k with
  | 0 => ("BoneYard$Step", "number", "I", true)
  | 1 => ("BoneYard$Step", "when", "LBoneYard$Cond;", false)
  | 2 => ("BoneYard$Step", "yes", "LBoneYard$Goal;", false)
  | _ => ("BoneYard$Step", "no", "LBoneYard$Goal;", false)
def tyX8 : Nat → FieldType := fun k => match k with
  | 0 => .int
  | 1 => .object "BoneYard$Cond"
  | 2 => .object "BoneYard$Goal"
  | _ => .object "BoneYard$Goal"
abbrev wsX80 : List Cond := u_ws RX8 TX8 4
theorem nmX8 : ∀ a, a < 4 → ∀ b, b < 4 → a ≠ b → (TX8 a).2.1 ≠ (TX8 b).2.1 := by decide +kernel
theorem tyX8_ok : ∀ k, k < 4 → parseFieldDescriptor (TX8 k).2.2.1 = some (tyX8 k) := by decide +kernel
abbrev cX8_init : ByteArray := prog_15_method_1_code
def yX8_init : MethodName := ⟨RX8, "<init>", "(I)V"⟩
def dkwX8_init_0 : List UInt8 := [42, 183, 0, 1, 42, 27, 181, 0, 7, 177]
abbrev dktX8_init_0 : List UInt8 := dkwX8_init_0 ++ []
theorem dksX8_init_0 : cX8_init.data.toList.drop 0 = dktX8_init_0 := by decide +kernel
theorem dX8_init_0 : decode cX8_init 0 = .ok (.aload_n 0, 1) := dk_42 (dk_at dksX8_init_0 0 rfl rfl)
theorem dX8_init_1 : decode cX8_init 1 = .ok (.invokespecial 1, 3) := dk_183 0 1 (dk_at dksX8_init_0 1 rfl rfl)
theorem dX8_init_4 : decode cX8_init 4 = .ok (.aload_n 0, 1) := dk_42 (dk_at dksX8_init_0 4 rfl rfl)
theorem dX8_init_5 : decode cX8_init 5 = .ok (.iload_n 1, 1) := dk_27 (dk_at dksX8_init_0 5 rfl rfl)
theorem dX8_init_6 : decode cX8_init 6 = .ok (.putfield 7, 3) := dk_181 0 7 (dk_at dksX8_init_0 6 rfl rfl)
theorem dX8_init_9 : decode cX8_init 9 = .ok (.return_, 1) := dk_177 (dk_at dksX8_init_0 9 rfl rfl)
theorem q128 : (Jvm.Cond.initialized "BoneYard$Step") ∈ lw_all := lw_g (lw_at lw_m1 20 rfl) rfl
theorem q932 : (Jvm.Cond.instantiable "BoneYard$Step" (4 : Nat)) ∈ lw_all := lw_g (lw_at lw_m4 104 rfl) rfl
theorem q938 : (Jvm.Cond.instanceMethod ({ cls := "BoneYard$Step", name := "<init>", desc := "(I)V" } : Jvm.MethodName)) ∈ lw_all := lw_g (lw_at lw_m4 110 rfl) rfl
theorem q939 : (Jvm.Cond.code ({ cls := "BoneYard$Step", name := "<init>", desc := "(I)V" } : Jvm.MethodName) prog_15_method_1_code (2 : Nat) (Option.none : Option Jvm.ClassFile.FieldType)) ∈ lw_all := lw_g (lw_at lw_m4 111 rfl) rfl
theorem q940 : (Jvm.Cond.methodLink "BoneYard$Step" (1 : Nat) ({ cls := "java/lang/Object", name := "<init>", desc := "()V" } : Jvm.MethodName)) ∈ lw_all := lw_g (lw_at lw_m4 112 rfl) rfl
theorem q941 : (Jvm.Cond.fieldLink "BoneYard$Step" (7 : Nat) "BoneYard$Step" "number" "I") ∈ lw_all := lw_g (lw_at lw_m4 113 rfl) rfl
theorem q950 : (Jvm.Cond.laysFinal "BoneYard$Step" "BoneYard$Step" "number" "I") ∈ lw_all := lw_g (lw_at lw_m4 122 rfl) rfl
theorem q951 : (Jvm.Cond.soleField "BoneYard$Step" "number") ∈ lw_all := lw_g (lw_at lw_m4 123 rfl) rfl
theorem q952 : (Jvm.Cond.lays "BoneYard$Step" "BoneYard$Step" "when" "LBoneYard$Cond;") ∈ lw_all := lw_g (lw_at lw_m4 124 rfl) rfl
theorem q953 : (Jvm.Cond.soleField "BoneYard$Step" "when") ∈ lw_all := lw_g (lw_at lw_m4 125 rfl) rfl
theorem q954 : (Jvm.Cond.lays "BoneYard$Step" "BoneYard$Step" "yes" "LBoneYard$Goal;") ∈ lw_all := lw_g (lw_at lw_m4 126 rfl) rfl
theorem q955 : (Jvm.Cond.soleField "BoneYard$Step" "yes") ∈ lw_all := lw_g (lw_at lw_m4 127 rfl) rfl
theorem q956 : (Jvm.Cond.lays "BoneYard$Step" "BoneYard$Step" "no" "LBoneYard$Goal;") ∈ lw_all := lw_g (lw_at lw_m4 128 rfl) rfl
theorem q957 : (Jvm.Cond.soleField "BoneYard$Step" "no") ∈ lw_all := lw_g (lw_at lw_m4 129 rfl) rfl
theorem q958 : (Jvm.Cond.superclass "BoneYard$Step" "java/lang/Object") ∈ lw_all := lw_g (lw_at lw_m4 130 rfl) rfl
theorem q1070 : (Jvm.Cond.selects "BoneYard$Step" ({ cls := "java/lang/Object", name := "getClass", desc := "()Ljava/lang/Class;" } : Jvm.MethodName) ({ cls := "java/lang/Object", name := "getClass", desc := "()Ljava/lang/Class;" } : Jvm.MethodName)) ∈ lw_all := lw_g (lw_at lw_m5 2 rfl) rfl
theorem q2140 : (Jvm.Cond.castable "BoneYard$Step" "java/lang/Object") ∈ lw_tbl := lw_at lw_m9 112 rfl
theorem in_X8 : ∀ w ∈ wsX80, w ∈ lw_all := lw_in wsX80 [950, 952, 954, 956] (by decide +kernel) (by decide +kernel)
/-! BoneYard$Cond -/
set_option maxRecDepth 100000
def RX9 : String := "BoneYard$Cond"
abbrev cX9_init : ByteArray := prog_7_method_1_code
def yX9_init : MethodName := ⟨RX9, "<init>", "()V"⟩
theorem dX9_init_0 : decode cX9_init 0 = .ok (.aload_n 0, 1) := by decide +kernel
theorem dX9_init_1 : decode cX9_init 1 = .ok (.invokespecial 1, 3) := by decide +kernel
theorem dX9_init_4 : decode cX9_init 4 = .ok (.return_, 1) := by decide +kernel
theorem q129 : (Jvm.Cond.initialized "BoneYard$Cond") ∈ lw_all := lw_g (lw_at lw_m1 21 rfl) rfl
theorem q980 : (Jvm.Cond.instanceMethod ({ cls := "BoneYard$Cond", name := "<init>", desc := "()V" } : Jvm.MethodName)) ∈ lw_all := lw_g (lw_at lw_m4 152 rfl) rfl
theorem q981 : (Jvm.Cond.code ({ cls := "BoneYard$Cond", name := "<init>", desc := "()V" } : Jvm.MethodName) prog_7_method_1_code (1 : Nat) (Option.none : Option Jvm.ClassFile.FieldType)) ∈ lw_all := lw_g (lw_at lw_m4 153 rfl) rfl
theorem q982 : (Jvm.Cond.methodLink "BoneYard$Cond" (1 : Nat) ({ cls := "java/lang/Object", name := "<init>", desc := "()V" } : Jvm.MethodName)) ∈ lw_all := lw_g (lw_at lw_m4 154 rfl) rfl
theorem q1240 : (Jvm.Cond.declares ({ cls := "BoneYard$Cond", name := "holds", desc := "(LBoneYard$Bone;)Z" } : Jvm.MethodName)) ∈ lw_tbl := lw_at lw_m5 172 rfl
theorem q1241 : (Jvm.Cond.sameMethod "BoneYard$Cond" "BoneYard$Cond" "holds" "(LBoneYard$Bone;)Z") ∈ lw_all := lw_g (lw_at lw_m5 173 rfl) rfl
/-! BoneYard$All -/
set_option maxRecDepth 100000
def RX10 : String := "BoneYard$All"
def TX10 : u_T := fun k => match k with
  | _ => ("BoneYard$All", "parts", "Ljava/util/List;", true)
def tyX10 : Nat → FieldType := fun k => match k with
  | _ => .object "java/util/List"
abbrev wsX100 : List Cond := u_ws RX10 TX10 1
theorem nmX10 : ∀ a, a < 1 → ∀ b, b < 1 → a ≠ b → (TX10 a).2.1 ≠ (TX10 b).2.1 := by decide +kernel
theorem tyX10_ok : ∀ k, k < 1 → parseFieldDescriptor (TX10 k).2.2.1 = some (tyX10 k) := by decide +kernel
abbrev cX10_init : ByteArray := prog_2_method_1_code
def yX10_init : MethodName := ⟨RX10, "<init>", "()V"⟩
def dkwX10_init_0 : List UInt8 := [42, 183, 0, 1, 42, 187, 0, 7, 89, 5, 183, 0, 9, 181, 0, 12, 177]
abbrev dktX10_init_0 : List UInt8 := dkwX10_init_0 ++ []
theorem dksX10_init_0 : cX10_init.data.toList.drop 0 = dktX10_init_0 := by decide +kernel
theorem dX10_init_0 : decode cX10_init 0 = .ok (.aload_n 0, 1) := dk_42 (dk_at dksX10_init_0 0 rfl rfl)
theorem dX10_init_1 : decode cX10_init 1 = .ok (.invokespecial 1, 3) := dk_183 0 1 (dk_at dksX10_init_0 1 rfl rfl)
theorem dX10_init_4 : decode cX10_init 4 = .ok (.aload_n 0, 1) := dk_42 (dk_at dksX10_init_0 4 rfl rfl)
theorem dX10_init_5 : decode cX10_init 5 = .ok (.new 7, 3) := dk_187 0 7 (dk_at dksX10_init_0 5 rfl rfl)
theorem dX10_init_8 : decode cX10_init 8 = .ok (.dup, 1) := dk_89 (dk_at dksX10_init_0 8 rfl rfl)
theorem dX10_init_9 : decode cX10_init 9 = .ok (.iconst 2, 1) := dk_5 (dk_at dksX10_init_0 9 rfl rfl)
theorem dX10_init_10 : decode cX10_init 10 = .ok (.invokespecial 9, 3) := dk_183 0 9 (dk_at dksX10_init_0 10 rfl rfl)
theorem dX10_init_13 : decode cX10_init 13 = .ok (.putfield 12, 3) := dk_181 0 12 (dk_at dksX10_init_0 13 rfl rfl)
theorem dX10_init_16 : decode cX10_init 16 = .ok (.return_, 1) := dk_177 (dk_at dksX10_init_0 16 rfl rfl)
abbrev cX10_holds : ByteArray := prog_2_method_2_code
def yX10_holds : MethodName := ⟨RX10, "holds", "(LBoneYard$Bone;)Z"⟩
def dkwX10_holds_2 : List UInt8 := [172]
abbrev dktX10_holds_2 : List UInt8 := dkwX10_holds_2 ++ []
def dkwX10_holds_1 : List UInt8 := [180, 0, 12, 29, 185, 0, 24, 2, 0, 192, 0, 2, 43, 182, 0, 28, 61, 132, 3, 1, 167, 255, 218, 28]
abbrev dktX10_holds_1 : List UInt8 := dkwX10_holds_1 ++ dktX10_holds_2
def dkwX10_holds_0 : List UInt8 := [4, 61, 3, 62, 29, 42, 180, 0, 12, 185, 0, 18, 1, 0, 162, 0, 31, 28, 153, 0, 27, 42]
abbrev dktX10_holds_0 : List UInt8 := dkwX10_holds_0 ++ dktX10_holds_1
theorem dksX10_holds_0 : cX10_holds.data.toList.drop 0 = dktX10_holds_0 := by decide +kernel
theorem dksX10_holds_1 : cX10_holds.data.toList.drop 22 = dktX10_holds_1 := dk_seg dksX10_holds_0 22 rfl rfl
theorem dksX10_holds_2 : cX10_holds.data.toList.drop 46 = dktX10_holds_2 := dk_seg dksX10_holds_1 24 rfl rfl
theorem dX10_holds_0 : decode cX10_holds 0 = .ok (.iconst 1, 1) := dk_4 (dk_at dksX10_holds_0 0 rfl rfl)
theorem dX10_holds_1 : decode cX10_holds 1 = .ok (.istore_n 2, 1) := dk_61 (dk_at dksX10_holds_0 1 rfl rfl)
theorem dX10_holds_2 : decode cX10_holds 2 = .ok (.iconst 0, 1) := dk_3 (dk_at dksX10_holds_0 2 rfl rfl)
theorem dX10_holds_3 : decode cX10_holds 3 = .ok (.istore_n 3, 1) := dk_62 (dk_at dksX10_holds_0 3 rfl rfl)
theorem dX10_holds_4 : decode cX10_holds 4 = .ok (.iload_n 3, 1) := dk_29 (dk_at dksX10_holds_0 4 rfl rfl)
theorem dX10_holds_5 : decode cX10_holds 5 = .ok (.aload_n 0, 1) := dk_42 (dk_at dksX10_holds_0 5 rfl rfl)
theorem dX10_holds_6 : decode cX10_holds 6 = .ok (.getfield 12, 3) := dk_180 0 12 (dk_at dksX10_holds_0 6 rfl rfl)
theorem dX10_holds_9 : decode cX10_holds 9 = .ok (.invokeinterface 18 1, 5) := by decide +kernel
theorem dX10_holds_14 : decode cX10_holds 14 = .ok (.if_icmp .ge 31, 3) := dk_162 0 31 (dk_at dksX10_holds_0 14 rfl rfl)
theorem dX10_holds_17 : decode cX10_holds 17 = .ok (.iload_n 2, 1) := dk_28 (dk_at dksX10_holds_0 17 rfl rfl)
theorem dX10_holds_18 : decode cX10_holds 18 = .ok (.ifCond .eq 27, 3) := dk_153 0 27 (dk_at dksX10_holds_0 18 rfl rfl)
theorem dX10_holds_21 : decode cX10_holds 21 = .ok (.aload_n 0, 1) := dk_42 (dk_at dksX10_holds_0 21 rfl rfl)
theorem dX10_holds_22 : decode cX10_holds 22 = .ok (.getfield 12, 3) := dk_180 0 12 (dk_at dksX10_holds_1 0 rfl rfl)
theorem dX10_holds_25 : decode cX10_holds 25 = .ok (.iload_n 3, 1) := dk_29 (dk_at dksX10_holds_1 3 rfl rfl)
theorem dX10_holds_26 : decode cX10_holds 26 = .ok (.invokeinterface 24 2, 5) := by decide +kernel
theorem dX10_holds_31 : decode cX10_holds 31 = .ok (.checkcast 2, 3) := dk_192 0 2 (dk_at dksX10_holds_1 9 rfl rfl)
theorem dX10_holds_34 : decode cX10_holds 34 = .ok (.aload_n 1, 1) := dk_43 (dk_at dksX10_holds_1 12 rfl rfl)
theorem dX10_holds_35 : decode cX10_holds 35 = .ok (.invokevirtual 28, 3) := dk_182 0 28 (dk_at dksX10_holds_1 13 rfl rfl)
theorem dX10_holds_38 : decode cX10_holds 38 = .ok (.istore_n 2, 1) := dk_61 (dk_at dksX10_holds_1 16 rfl rfl)
theorem dX10_holds_39 : decode cX10_holds 39 = .ok (.iinc 3 1, 3) := dk_132 3 1 (dk_at dksX10_holds_1 17 rfl rfl)
theorem dX10_holds_42 : decode cX10_holds 42 = .ok (.goto (-38), 3) := dk_167 255 218 (dk_at dksX10_holds_1 20 rfl rfl)
theorem dX10_holds_45 : decode cX10_holds 45 = .ok (.iload_n 2, 1) := dk_28 (dk_at dksX10_holds_1 23 rfl rfl)
theorem dX10_holds_46 : decode cX10_holds 46 = .ok (.ireturn, 1) := dk_172 (dk_at dksX10_holds_2 0 rfl rfl)
theorem q130 : (Jvm.Cond.initialized "BoneYard$All") ∈ lw_all := lw_g (lw_at lw_m1 22 rfl) rfl
theorem q977 : (Jvm.Cond.instanceMethod ({ cls := "BoneYard$All", name := "<init>", desc := "()V" } : Jvm.MethodName)) ∈ lw_all := lw_g (lw_at lw_m4 149 rfl) rfl
theorem q978 : (Jvm.Cond.code ({ cls := "BoneYard$All", name := "<init>", desc := "()V" } : Jvm.MethodName) prog_2_method_1_code (1 : Nat) (Option.none : Option Jvm.ClassFile.FieldType)) ∈ lw_all := lw_g (lw_at lw_m4 150 rfl) rfl
theorem q979 : (Jvm.Cond.methodLinkNest "BoneYard$All" (1 : Nat) ({ cls := "BoneYard$Cond", name := "<init>", desc := "()V" } : Jvm.MethodName) "BoneYard") ∈ lw_tbl := lw_at lw_m4 151 rfl
theorem q983 : (Jvm.Cond.classLink "BoneYard$All" (7 : Nat) "java/util/ArrayList") ∈ lw_all := lw_g (lw_at lw_m4 155 rfl) rfl
theorem q984 : (Jvm.Cond.methodLink "BoneYard$All" (9 : Nat) ({ cls := "java/util/ArrayList", name := "<init>", desc := "(I)V" } : Jvm.MethodName)) ∈ lw_all := lw_g (lw_at lw_m4 156 rfl) rfl
theorem q985 : (Jvm.Cond.fieldLink "BoneYard$All" (12 : Nat) "BoneYard$All" "parts" "Ljava/util/List;") ∈ lw_all := lw_g (lw_at lw_m4 157 rfl) rfl
theorem q993 : (Jvm.Cond.soleField "BoneYard$All" "parts") ∈ lw_all := lw_g (lw_at lw_m4 165 rfl) rfl
theorem q1000 : (Jvm.Cond.instantiable "BoneYard$All" (1 : Nat)) ∈ lw_all := lw_g (lw_at lw_m4 172 rfl) rfl
theorem q1002 : (Jvm.Cond.laysFinal "BoneYard$All" "BoneYard$All" "parts" "Ljava/util/List;") ∈ lw_all := lw_g (lw_at lw_m4 174 rfl) rfl
theorem q1003 : (Jvm.Cond.superclass "BoneYard$All" "BoneYard$Cond") ∈ lw_all := lw_g (lw_at lw_m4 175 rfl) rfl
theorem q1058 : (Jvm.Cond.selects "BoneYard$All" ({ cls := "java/lang/Object", name := "getClass", desc := "()Ljava/lang/Class;" } : Jvm.MethodName) ({ cls := "java/lang/Object", name := "getClass", desc := "()Ljava/lang/Class;" } : Jvm.MethodName)) ∈ lw_all := lw_g (lw_at lw_m4 230 rfl) rfl
theorem q1242 : (Jvm.Cond.selects "BoneYard$All" ({ cls := "BoneYard$Cond", name := "holds", desc := "(LBoneYard$Bone;)Z" } : Jvm.MethodName) ({ cls := "BoneYard$All", name := "holds", desc := "(LBoneYard$Bone;)Z" } : Jvm.MethodName)) ∈ lw_all := lw_g (lw_at lw_m5 174 rfl) rfl
theorem q1243 : (Jvm.Cond.instanceMethod ({ cls := "BoneYard$All", name := "holds", desc := "(LBoneYard$Bone;)Z" } : Jvm.MethodName)) ∈ lw_all := lw_g (lw_at lw_m5 175 rfl) rfl
theorem q1244 : (Jvm.Cond.code ({ cls := "BoneYard$All", name := "holds", desc := "(LBoneYard$Bone;)Z" } : Jvm.MethodName) prog_2_method_2_code (4 : Nat) (Option.some Jvm.ClassFile.FieldType.boolean)) ∈ lw_all := lw_g (lw_at lw_m5 176 rfl) rfl
theorem q1245 : (Jvm.Cond.interfaceEntry "BoneYard$All" (18 : Nat)) ∈ lw_tbl := lw_at lw_m5 177 rfl
theorem q1246 : (Jvm.Cond.methodLink "BoneYard$All" (18 : Nat) ({ cls := "java/util/List", name := "size", desc := "()I" } : Jvm.MethodName)) ∈ lw_all := lw_g (lw_at lw_m5 178 rfl) rfl
theorem q1247 : (Jvm.Cond.interfaceEntry "BoneYard$All" (24 : Nat)) ∈ lw_tbl := lw_at lw_m5 179 rfl
theorem q1248 : (Jvm.Cond.methodLink "BoneYard$All" (24 : Nat) ({ cls := "java/util/List", name := "get", desc := "(I)Ljava/lang/Object;" } : Jvm.MethodName)) ∈ lw_all := lw_g (lw_at lw_m5 180 rfl) rfl
theorem q1249 : (Jvm.Cond.classLink "BoneYard$All" (2 : Nat) "BoneYard$Cond") ∈ lw_all := lw_g (lw_at lw_m5 181 rfl) rfl
theorem q1250 : (Jvm.Cond.methodLink "BoneYard$All" (28 : Nat) ({ cls := "BoneYard$Cond", name := "holds", desc := "(LBoneYard$Bone;)Z" } : Jvm.MethodName)) ∈ lw_all := lw_g (lw_at lw_m5 182 rfl) rfl
theorem q2120 : (Jvm.Cond.sameMethod "BoneYard$All" "BoneYard$All" "holds" "(LBoneYard$Bone;)Z") ∈ lw_all := lw_g (lw_at lw_m9 92 rfl) rfl
theorem q2123 : (Jvm.Cond.castable "BoneYard$All" "BoneYard$Cond") ∈ lw_tbl := lw_at lw_m9 95 rfl
theorem q2142 : (Jvm.Cond.castable "BoneYard$All" "java/lang/Object") ∈ lw_tbl := lw_at lw_m9 114 rfl
theorem in_X10 : ∀ w ∈ wsX100, w ∈ lw_all := lw_in wsX100 [1002] (by decide +kernel) (by decide +kernel)
/-! BoneYard$Any -/
set_option maxRecDepth 100000
def RX11 : String := "BoneYard$Any"
def TX11 : u_T := fun k => match k with
  | _ => ("BoneYard$All", "parts", "Ljava/util/List;", true)
def tyX11 : Nat → FieldType := fun k => match k with
  | _ => .object "java/util/List"
abbrev wsX110 : List Cond := u_ws RX11 TX11 1
theorem nmX11 : ∀ a, a < 1 → ∀ b, b < 1 → a ≠ b → (TX11 a).2.1 ≠ (TX11 b).2.1 := by decide +kernel
theorem tyX11_ok : ∀ k, k < 1 → parseFieldDescriptor (TX11 k).2.2.1 = some (tyX11 k) := by decide +kernel
abbrev cX11_init : ByteArray := prog_3_method_1_code
def yX11_init : MethodName := ⟨RX11, "<init>", "()V"⟩
theorem dX11_init_0 : decode cX11_init 0 = .ok (.aload_n 0, 1) := by decide +kernel
theorem dX11_init_1 : decode cX11_init 1 = .ok (.invokespecial 1, 3) := by decide +kernel
theorem dX11_init_4 : decode cX11_init 4 = .ok (.return_, 1) := by decide +kernel
abbrev cX11_holds : ByteArray := prog_3_method_2_code
def yX11_holds : MethodName := ⟨RX11, "holds", "(LBoneYard$Bone;)Z"⟩
def dkwX11_holds_2 : List UInt8 := [172]
abbrev dktX11_holds_2 : List UInt8 := dkwX11_holds_2 ++ []
def dkwX11_holds_1 : List UInt8 := [180, 0, 7, 29, 185, 0, 19, 2, 0, 192, 0, 23, 43, 182, 0, 25, 61, 132, 3, 1, 167, 255, 218, 28]
abbrev dktX11_holds_1 : List UInt8 := dkwX11_holds_1 ++ dktX11_holds_2
def dkwX11_holds_0 : List UInt8 := [3, 61, 3, 62, 29, 42, 180, 0, 7, 185, 0, 13, 1, 0, 162, 0, 31, 28, 154, 0, 27, 42]
abbrev dktX11_holds_0 : List UInt8 := dkwX11_holds_0 ++ dktX11_holds_1
theorem dksX11_holds_0 : cX11_holds.data.toList.drop 0 = dktX11_holds_0 := by decide +kernel
theorem dksX11_holds_1 : cX11_holds.data.toList.drop 22 = dktX11_holds_1 := dk_seg dksX11_holds_0 22 rfl rfl
theorem dksX11_holds_2 : cX11_holds.data.toList.drop 46 = dktX11_holds_2 := dk_seg dksX11_holds_1 24 rfl rfl
theorem dX11_holds_0 : decode cX11_holds 0 = .ok (.iconst 0, 1) := dk_3 (dk_at dksX11_holds_0 0 rfl rfl)
theorem dX11_holds_1 : decode cX11_holds 1 = .ok (.istore_n 2, 1) := dk_61 (dk_at dksX11_holds_0 1 rfl rfl)
theorem dX11_holds_2 : decode cX11_holds 2 = .ok (.iconst 0, 1) := dk_3 (dk_at dksX11_holds_0 2 rfl rfl)
theorem dX11_holds_3 : decode cX11_holds 3 = .ok (.istore_n 3, 1) := dk_62 (dk_at dksX11_holds_0 3 rfl rfl)
theorem dX11_holds_4 : decode cX11_holds 4 = .ok (.iload_n 3, 1) := dk_29 (dk_at dksX11_holds_0 4 rfl rfl)
theorem dX11_holds_5 : decode cX11_holds 5 = .ok (.aload_n 0, 1) := dk_42 (dk_at dksX11_holds_0 5 rfl rfl)
theorem dX11_holds_6 : decode cX11_holds 6 = .ok (.getfield 7, 3) := dk_180 0 7 (dk_at dksX11_holds_0 6 rfl rfl)
theorem dX11_holds_9 : decode cX11_holds 9 = .ok (.invokeinterface 13 1, 5) := by decide +kernel
theorem dX11_holds_14 : decode cX11_holds 14 = .ok (.if_icmp .ge 31, 3) := dk_162 0 31 (dk_at dksX11_holds_0 14 rfl rfl)
theorem dX11_holds_17 : decode cX11_holds 17 = .ok (.iload_n 2, 1) := dk_28 (dk_at dksX11_holds_0 17 rfl rfl)
theorem dX11_holds_18 : decode cX11_holds 18 = .ok (.ifCond .ne 27, 3) := dk_154 0 27 (dk_at dksX11_holds_0 18 rfl rfl)
theorem dX11_holds_21 : decode cX11_holds 21 = .ok (.aload_n 0, 1) := dk_42 (dk_at dksX11_holds_0 21 rfl rfl)
theorem dX11_holds_22 : decode cX11_holds 22 = .ok (.getfield 7, 3) := dk_180 0 7 (dk_at dksX11_holds_1 0 rfl rfl)
theorem dX11_holds_25 : decode cX11_holds 25 = .ok (.iload_n 3, 1) := dk_29 (dk_at dksX11_holds_1 3 rfl rfl)
theorem dX11_holds_26 : decode cX11_holds 26 = .ok (.invokeinterface 19 2, 5) := by decide +kernel
theorem dX11_holds_31 : decode cX11_holds 31 = .ok (.checkcast 23, 3) := dk_192 0 23 (dk_at dksX11_holds_1 9 rfl rfl)
theorem dX11_holds_34 : decode cX11_holds 34 = .ok (.aload_n 1, 1) := dk_43 (dk_at dksX11_holds_1 12 rfl rfl)
theorem dX11_holds_35 : decode cX11_holds 35 = .ok (.invokevirtual 25, 3) := dk_182 0 25 (dk_at dksX11_holds_1 13 rfl rfl)
theorem dX11_holds_38 : decode cX11_holds 38 = .ok (.istore_n 2, 1) := dk_61 (dk_at dksX11_holds_1 16 rfl rfl)
theorem dX11_holds_39 : decode cX11_holds 39 = .ok (.iinc 3 1, 3) := dk_132 3 1 (dk_at dksX11_holds_1 17 rfl rfl)
theorem dX11_holds_42 : decode cX11_holds 42 = .ok (.goto (-38), 3) := dk_167 255 218 (dk_at dksX11_holds_1 20 rfl rfl)
theorem dX11_holds_45 : decode cX11_holds 45 = .ok (.iload_n 2, 1) := dk_28 (dk_at dksX11_holds_1 23 rfl rfl)
theorem dX11_holds_46 : decode cX11_holds 46 = .ok (.ireturn, 1) := dk_172 (dk_at dksX11_holds_2 0 rfl rfl)
theorem q131 : (Jvm.Cond.initialized "BoneYard$Any") ∈ lw_all := lw_g (lw_at lw_m1 23 rfl) rfl
theorem q972 : (Jvm.Cond.instantiable "BoneYard$Any" (1 : Nat)) ∈ lw_all := lw_g (lw_at lw_m4 144 rfl) rfl
theorem q974 : (Jvm.Cond.instanceMethod ({ cls := "BoneYard$Any", name := "<init>", desc := "()V" } : Jvm.MethodName)) ∈ lw_all := lw_g (lw_at lw_m4 146 rfl) rfl
theorem q975 : (Jvm.Cond.code ({ cls := "BoneYard$Any", name := "<init>", desc := "()V" } : Jvm.MethodName) prog_3_method_1_code (1 : Nat) (Option.none : Option Jvm.ClassFile.FieldType)) ∈ lw_all := lw_g (lw_at lw_m4 147 rfl) rfl
theorem q976 : (Jvm.Cond.methodLinkNest "BoneYard$Any" (1 : Nat) ({ cls := "BoneYard$All", name := "<init>", desc := "()V" } : Jvm.MethodName) "BoneYard") ∈ lw_tbl := lw_at lw_m4 148 rfl
theorem q986 : (Jvm.Cond.fieldLink "BoneYard$Any" (7 : Nat) "BoneYard$Any" "parts" "Ljava/util/List;") ∈ lw_all := lw_g (lw_at lw_m4 158 rfl) rfl
theorem q987 : (Jvm.Cond.sameField "BoneYard$Any" "BoneYard$All" "parts" "Ljava/util/List;") ∈ lw_all := lw_g (lw_at lw_m4 159 rfl) rfl
theorem q992 : (Jvm.Cond.laysFinal "BoneYard$Any" "BoneYard$All" "parts" "Ljava/util/List;") ∈ lw_all := lw_g (lw_at lw_m4 164 rfl) rfl
theorem q994 : (Jvm.Cond.superclass "BoneYard$Any" "BoneYard$All") ∈ lw_all := lw_g (lw_at lw_m4 166 rfl) rfl
theorem q1059 : (Jvm.Cond.selects "BoneYard$Any" ({ cls := "java/lang/Object", name := "getClass", desc := "()Ljava/lang/Class;" } : Jvm.MethodName) ({ cls := "java/lang/Object", name := "getClass", desc := "()Ljava/lang/Class;" } : Jvm.MethodName)) ∈ lw_all := lw_g (lw_at lw_m4 231 rfl) rfl
theorem q1251 : (Jvm.Cond.instanceMethod ({ cls := "BoneYard$Any", name := "holds", desc := "(LBoneYard$Bone;)Z" } : Jvm.MethodName)) ∈ lw_all := lw_g (lw_at lw_m5 183 rfl) rfl
theorem q1252 : (Jvm.Cond.code ({ cls := "BoneYard$Any", name := "holds", desc := "(LBoneYard$Bone;)Z" } : Jvm.MethodName) prog_3_method_2_code (4 : Nat) (Option.some Jvm.ClassFile.FieldType.boolean)) ∈ lw_all := lw_g (lw_at lw_m5 184 rfl) rfl
theorem q1253 : (Jvm.Cond.interfaceEntry "BoneYard$Any" (13 : Nat)) ∈ lw_tbl := lw_at lw_m5 185 rfl
theorem q1254 : (Jvm.Cond.methodLink "BoneYard$Any" (13 : Nat) ({ cls := "java/util/List", name := "size", desc := "()I" } : Jvm.MethodName)) ∈ lw_all := lw_g (lw_at lw_m5 186 rfl) rfl
theorem q1255 : (Jvm.Cond.interfaceEntry "BoneYard$Any" (19 : Nat)) ∈ lw_tbl := lw_at lw_m5 187 rfl
theorem q1256 : (Jvm.Cond.methodLink "BoneYard$Any" (19 : Nat) ({ cls := "java/util/List", name := "get", desc := "(I)Ljava/lang/Object;" } : Jvm.MethodName)) ∈ lw_all := lw_g (lw_at lw_m5 188 rfl) rfl
theorem q1257 : (Jvm.Cond.classLink "BoneYard$Any" (23 : Nat) "BoneYard$Cond") ∈ lw_all := lw_g (lw_at lw_m5 189 rfl) rfl
theorem q1258 : (Jvm.Cond.methodLink "BoneYard$Any" (25 : Nat) ({ cls := "BoneYard$Cond", name := "holds", desc := "(LBoneYard$Bone;)Z" } : Jvm.MethodName)) ∈ lw_all := lw_g (lw_at lw_m5 190 rfl) rfl
theorem q1291 : (Jvm.Cond.selects "BoneYard$Any" ({ cls := "BoneYard$Cond", name := "holds", desc := "(LBoneYard$Bone;)Z" } : Jvm.MethodName) ({ cls := "BoneYard$Any", name := "holds", desc := "(LBoneYard$Bone;)Z" } : Jvm.MethodName)) ∈ lw_all := lw_g (lw_at lw_m5 223 rfl) rfl
theorem q2124 : (Jvm.Cond.castable "BoneYard$Any" "BoneYard$Cond") ∈ lw_tbl := lw_at lw_m9 96 rfl
theorem q2141 : (Jvm.Cond.castable "BoneYard$Any" "java/lang/Object") ∈ lw_tbl := lw_at lw_m9 113 rfl
theorem in_X11 : ∀ w ∈ wsX110, w ∈ lw_all := lw_in wsX110 [992] (by decide +kernel) (by decide +kernel)
/-! BoneYard$Not -/
set_option maxRecDepth 100000
def RX12 : String := "BoneYard$Not"
def TX12 : u_T := fun k => match k with
  | _ => ("BoneYard$All", "parts", "Ljava/util/List;", true)
def tyX12 : Nat → FieldType := fun k => match k with
  | _ => .object "java/util/List"
abbrev wsX120 : List Cond := u_ws RX12 TX12 1
theorem nmX12 : ∀ a, a < 1 → ∀ b, b < 1 → a ≠ b → (TX12 a).2.1 ≠ (TX12 b).2.1 := by decide +kernel
theorem tyX12_ok : ∀ k, k < 1 → parseFieldDescriptor (TX12 k).2.2.1 = some (tyX12 k) := by decide +kernel
abbrev cX12_init : ByteArray := prog_12_method_1_code
def yX12_init : MethodName := ⟨RX12, "<init>", "()V"⟩
theorem dX12_init_0 : decode cX12_init 0 = .ok (.aload_n 0, 1) := by decide +kernel
theorem dX12_init_1 : decode cX12_init 1 = .ok (.invokespecial 1, 3) := by decide +kernel
theorem dX12_init_4 : decode cX12_init 4 = .ok (.return_, 1) := by decide +kernel
abbrev cX12_holds : ByteArray := prog_12_method_2_code
def yX12_holds : MethodName := ⟨RX12, "holds", "(LBoneYard$Bone;)Z"⟩
def dkwX12_holds_0 : List UInt8 := [42, 43, 183, 0, 7, 154, 0, 7, 4, 167, 0, 4, 3, 172]
abbrev dktX12_holds_0 : List UInt8 := dkwX12_holds_0 ++ []
theorem dksX12_holds_0 : cX12_holds.data.toList.drop 0 = dktX12_holds_0 := by decide +kernel
theorem dX12_holds_0 : decode cX12_holds 0 = .ok (.aload_n 0, 1) := dk_42 (dk_at dksX12_holds_0 0 rfl rfl)
theorem dX12_holds_1 : decode cX12_holds 1 = .ok (.aload_n 1, 1) := dk_43 (dk_at dksX12_holds_0 1 rfl rfl)
theorem dX12_holds_2 : decode cX12_holds 2 = .ok (.invokespecial 7, 3) := dk_183 0 7 (dk_at dksX12_holds_0 2 rfl rfl)
theorem dX12_holds_5 : decode cX12_holds 5 = .ok (.ifCond .ne 7, 3) := dk_154 0 7 (dk_at dksX12_holds_0 5 rfl rfl)
theorem dX12_holds_8 : decode cX12_holds 8 = .ok (.iconst 1, 1) := dk_4 (dk_at dksX12_holds_0 8 rfl rfl)
theorem dX12_holds_9 : decode cX12_holds 9 = .ok (.goto 4, 3) := dk_167 0 4 (dk_at dksX12_holds_0 9 rfl rfl)
theorem dX12_holds_12 : decode cX12_holds 12 = .ok (.iconst 0, 1) := dk_3 (dk_at dksX12_holds_0 12 rfl rfl)
theorem dX12_holds_13 : decode cX12_holds 13 = .ok (.ireturn, 1) := dk_172 (dk_at dksX12_holds_0 13 rfl rfl)
theorem q132 : (Jvm.Cond.initialized "BoneYard$Not") ∈ lw_all := lw_g (lw_at lw_m1 24 rfl) rfl
theorem q991 : (Jvm.Cond.sameField "BoneYard$Not" "BoneYard$All" "parts" "Ljava/util/List;") ∈ lw_all := lw_g (lw_at lw_m4 163 rfl) rfl
theorem q1013 : (Jvm.Cond.instantiable "BoneYard$Not" (1 : Nat)) ∈ lw_all := lw_g (lw_at lw_m4 185 rfl) rfl
theorem q1015 : (Jvm.Cond.instanceMethod ({ cls := "BoneYard$Not", name := "<init>", desc := "()V" } : Jvm.MethodName)) ∈ lw_all := lw_g (lw_at lw_m4 187 rfl) rfl
theorem q1016 : (Jvm.Cond.code ({ cls := "BoneYard$Not", name := "<init>", desc := "()V" } : Jvm.MethodName) prog_12_method_1_code (1 : Nat) (Option.none : Option Jvm.ClassFile.FieldType)) ∈ lw_all := lw_g (lw_at lw_m4 188 rfl) rfl
theorem q1017 : (Jvm.Cond.methodLinkNest "BoneYard$Not" (1 : Nat) ({ cls := "BoneYard$All", name := "<init>", desc := "()V" } : Jvm.MethodName) "BoneYard") ∈ lw_tbl := lw_at lw_m4 189 rfl
theorem q1018 : (Jvm.Cond.laysFinal "BoneYard$Not" "BoneYard$All" "parts" "Ljava/util/List;") ∈ lw_all := lw_g (lw_at lw_m4 190 rfl) rfl
theorem q1019 : (Jvm.Cond.superclass "BoneYard$Not" "BoneYard$All") ∈ lw_all := lw_g (lw_at lw_m4 191 rfl) rfl
theorem q1067 : (Jvm.Cond.selects "BoneYard$Not" ({ cls := "java/lang/Object", name := "getClass", desc := "()Ljava/lang/Class;" } : Jvm.MethodName) ({ cls := "java/lang/Object", name := "getClass", desc := "()Ljava/lang/Class;" } : Jvm.MethodName)) ∈ lw_all := lw_g (lw_at lw_m4 239 rfl) rfl
theorem q1288 : (Jvm.Cond.instanceMethod ({ cls := "BoneYard$Not", name := "holds", desc := "(LBoneYard$Bone;)Z" } : Jvm.MethodName)) ∈ lw_all := lw_g (lw_at lw_m5 220 rfl) rfl
theorem q1289 : (Jvm.Cond.code ({ cls := "BoneYard$Not", name := "holds", desc := "(LBoneYard$Bone;)Z" } : Jvm.MethodName) prog_12_method_2_code (2 : Nat) (Option.some Jvm.ClassFile.FieldType.boolean)) ∈ lw_all := lw_g (lw_at lw_m5 221 rfl) rfl
theorem q1290 : (Jvm.Cond.methodLink "BoneYard$Not" (7 : Nat) ({ cls := "BoneYard$All", name := "holds", desc := "(LBoneYard$Bone;)Z" } : Jvm.MethodName)) ∈ lw_all := lw_g (lw_at lw_m5 222 rfl) rfl
theorem q1293 : (Jvm.Cond.selects "BoneYard$Not" ({ cls := "BoneYard$Cond", name := "holds", desc := "(LBoneYard$Bone;)Z" } : Jvm.MethodName) ({ cls := "BoneYard$Not", name := "holds", desc := "(LBoneYard$Bone;)Z" } : Jvm.MethodName)) ∈ lw_all := lw_g (lw_at lw_m5 225 rfl) rfl
theorem q2126 : (Jvm.Cond.castable "BoneYard$Not" "BoneYard$Cond") ∈ lw_tbl := lw_at lw_m9 98 rfl
theorem q2143 : (Jvm.Cond.castable "BoneYard$Not" "java/lang/Object") ∈ lw_tbl := lw_at lw_m9 115 rfl
theorem in_X12 : ∀ w ∈ wsX120, w ∈ lw_all := lw_in wsX120 [1018] (by decide +kernel) (by decide +kernel)
/-! BoneYard$Sum -/
set_option maxRecDepth 100000
def RX13 : String := "BoneYard$Sum"
abbrev cX13_init : ByteArray := prog_16_method_1_code
def yX13_init : MethodName := ⟨RX13, "<init>", "()V"⟩
theorem dX13_init_0 : decode cX13_init 0 = .ok (.aload_n 0, 1) := by decide +kernel
theorem dX13_init_1 : decode cX13_init 1 = .ok (.invokespecial 1, 3) := by decide +kernel
theorem dX13_init_4 : decode cX13_init 4 = .ok (.return_, 1) := by decide +kernel
theorem q136 : (Jvm.Cond.initialized "BoneYard$Sum") ∈ lw_all := lw_g (lw_at lw_m1 28 rfl) rfl
theorem q1110 : (Jvm.Cond.instanceMethod ({ cls := "BoneYard$Sum", name := "<init>", desc := "()V" } : Jvm.MethodName)) ∈ lw_all := lw_g (lw_at lw_m5 42 rfl) rfl
theorem q1111 : (Jvm.Cond.code ({ cls := "BoneYard$Sum", name := "<init>", desc := "()V" } : Jvm.MethodName) prog_16_method_1_code (1 : Nat) (Option.none : Option Jvm.ClassFile.FieldType)) ∈ lw_all := lw_g (lw_at lw_m5 43 rfl) rfl
theorem q1112 : (Jvm.Cond.methodLink "BoneYard$Sum" (1 : Nat) ({ cls := "java/lang/Object", name := "<init>", desc := "()V" } : Jvm.MethodName)) ∈ lw_all := lw_g (lw_at lw_m5 44 rfl) rfl
theorem q1262 : (Jvm.Cond.declares ({ cls := "BoneYard$Sum", name := "value", desc := "(LBoneYard$Bone;)I" } : Jvm.MethodName)) ∈ lw_tbl := lw_at lw_m5 194 rfl
theorem q1263 : (Jvm.Cond.sameMethod "BoneYard$Sum" "BoneYard$Sum" "value" "(LBoneYard$Bone;)I") ∈ lw_all := lw_g (lw_at lw_m5 195 rfl) rfl
/-! BoneYard$Chain -/
set_option maxRecDepth 100000
def RX14 : String := "BoneYard$Chain"
def TX14 : u_T := fun k => match k with
  | 0 => ("BoneYard$Chain", "parts", "Ljava/util/List;", true)
  | _ => ("BoneYard$Chain", "signs", "Ljava/util/List;", true)
def tyX14 : Nat → FieldType := fun k => match k with
  | 0 => .object "java/util/List"
  | _ => .object "java/util/List"
abbrev wsX140 : List Cond := u_ws RX14 TX14 2
theorem nmX14 : ∀ a, a < 2 → ∀ b, b < 2 → a ≠ b → (TX14 a).2.1 ≠ (TX14 b).2.1 := by decide +kernel
theorem tyX14_ok : ∀ k, k < 2 → parseFieldDescriptor (TX14 k).2.2.1 = some (tyX14 k) := by decide +kernel
abbrev cX14_init : ByteArray := prog_5_method_1_code
def yX14_init : MethodName := ⟨RX14, "<init>", "(LBoneYard$Sum;)V"⟩
def dkwX14_init_1 : List UInt8 := [183, 0, 9, 181, 0, 18, 42, 180, 0, 12, 43, 185, 0, 21, 2, 0, 87, 177]
abbrev dktX14_init_1 : List UInt8 := dkwX14_init_1 ++ []
def dkwX14_init_0 : List UInt8 := [42, 183, 0, 1, 42, 187, 0, 7, 89, 5, 183, 0, 9, 181, 0, 12, 42, 187, 0, 7, 89, 5]
abbrev dktX14_init_0 : List UInt8 := dkwX14_init_0 ++ dktX14_init_1
theorem dksX14_init_0 : cX14_init.data.toList.drop 0 = dktX14_init_0 := by decide +kernel
theorem dksX14_init_1 : cX14_init.data.toList.drop 22 = dktX14_init_1 := dk_seg dksX14_init_0 22 rfl rfl
theorem dX14_init_0 : decode cX14_init 0 = .ok (.aload_n 0, 1) := dk_42 (dk_at dksX14_init_0 0 rfl rfl)
theorem dX14_init_1 : decode cX14_init 1 = .ok (.invokespecial 1, 3) := dk_183 0 1 (dk_at dksX14_init_0 1 rfl rfl)
theorem dX14_init_4 : decode cX14_init 4 = .ok (.aload_n 0, 1) := dk_42 (dk_at dksX14_init_0 4 rfl rfl)
theorem dX14_init_5 : decode cX14_init 5 = .ok (.new 7, 3) := dk_187 0 7 (dk_at dksX14_init_0 5 rfl rfl)
theorem dX14_init_8 : decode cX14_init 8 = .ok (.dup, 1) := dk_89 (dk_at dksX14_init_0 8 rfl rfl)
theorem dX14_init_9 : decode cX14_init 9 = .ok (.iconst 2, 1) := dk_5 (dk_at dksX14_init_0 9 rfl rfl)
theorem dX14_init_10 : decode cX14_init 10 = .ok (.invokespecial 9, 3) := dk_183 0 9 (dk_at dksX14_init_0 10 rfl rfl)
theorem dX14_init_13 : decode cX14_init 13 = .ok (.putfield 12, 3) := dk_181 0 12 (dk_at dksX14_init_0 13 rfl rfl)
theorem dX14_init_16 : decode cX14_init 16 = .ok (.aload_n 0, 1) := dk_42 (dk_at dksX14_init_0 16 rfl rfl)
theorem dX14_init_17 : decode cX14_init 17 = .ok (.new 7, 3) := dk_187 0 7 (dk_at dksX14_init_0 17 rfl rfl)
theorem dX14_init_20 : decode cX14_init 20 = .ok (.dup, 1) := dk_89 (dk_at dksX14_init_0 20 rfl rfl)
theorem dX14_init_21 : decode cX14_init 21 = .ok (.iconst 2, 1) := dk_5 (dk_at dksX14_init_0 21 rfl rfl)
theorem dX14_init_22 : decode cX14_init 22 = .ok (.invokespecial 9, 3) := dk_183 0 9 (dk_at dksX14_init_1 0 rfl rfl)
theorem dX14_init_25 : decode cX14_init 25 = .ok (.putfield 18, 3) := dk_181 0 18 (dk_at dksX14_init_1 3 rfl rfl)
theorem dX14_init_28 : decode cX14_init 28 = .ok (.aload_n 0, 1) := dk_42 (dk_at dksX14_init_1 6 rfl rfl)
theorem dX14_init_29 : decode cX14_init 29 = .ok (.getfield 12, 3) := dk_180 0 12 (dk_at dksX14_init_1 7 rfl rfl)
theorem dX14_init_32 : decode cX14_init 32 = .ok (.aload_n 1, 1) := dk_43 (dk_at dksX14_init_1 10 rfl rfl)
theorem dX14_init_33 : decode cX14_init 33 = .ok (.invokeinterface 21 2, 5) := by decide +kernel
theorem dX14_init_38 : decode cX14_init 38 = .ok (.pop, 1) := dk_87 (dk_at dksX14_init_1 16 rfl rfl)
theorem dX14_init_39 : decode cX14_init 39 = .ok (.return_, 1) := dk_177 (dk_at dksX14_init_1 17 rfl rfl)
abbrev cX14_goesOn : ByteArray := prog_5_method_2_code
def yX14_goesOn : MethodName := ⟨RX14, "goesOn", "(ILBoneYard$Sum;)V"⟩
def dkwX14_goesOn_1 : List UInt8 := [87, 177]
abbrev dktX14_goesOn_1 : List UInt8 := dkwX14_goesOn_1 ++ []
def dkwX14_goesOn_0 : List UInt8 := [42, 180, 0, 18, 27, 184, 0, 27, 185, 0, 21, 2, 0, 87, 42, 180, 0, 12, 44, 185, 0, 21, 2, 0]
abbrev dktX14_goesOn_0 : List UInt8 := dkwX14_goesOn_0 ++ dktX14_goesOn_1
theorem dksX14_goesOn_0 : cX14_goesOn.data.toList.drop 0 = dktX14_goesOn_0 := by decide +kernel
theorem dksX14_goesOn_1 : cX14_goesOn.data.toList.drop 24 = dktX14_goesOn_1 := dk_seg dksX14_goesOn_0 24 rfl rfl
theorem dX14_goesOn_0 : decode cX14_goesOn 0 = .ok (.aload_n 0, 1) := dk_42 (dk_at dksX14_goesOn_0 0 rfl rfl)
theorem dX14_goesOn_1 : decode cX14_goesOn 1 = .ok (.getfield 18, 3) := dk_180 0 18 (dk_at dksX14_goesOn_0 1 rfl rfl)
theorem dX14_goesOn_4 : decode cX14_goesOn 4 = .ok (.iload_n 1, 1) := dk_27 (dk_at dksX14_goesOn_0 4 rfl rfl)
theorem dX14_goesOn_5 : decode cX14_goesOn 5 = .ok (.invokestatic 27, 3) := dk_184 0 27 (dk_at dksX14_goesOn_0 5 rfl rfl)
theorem dX14_goesOn_8 : decode cX14_goesOn 8 = .ok (.invokeinterface 21 2, 5) := by decide +kernel
theorem dX14_goesOn_13 : decode cX14_goesOn 13 = .ok (.pop, 1) := dk_87 (dk_at dksX14_goesOn_0 13 rfl rfl)
theorem dX14_goesOn_14 : decode cX14_goesOn 14 = .ok (.aload_n 0, 1) := dk_42 (dk_at dksX14_goesOn_0 14 rfl rfl)
theorem dX14_goesOn_15 : decode cX14_goesOn 15 = .ok (.getfield 12, 3) := dk_180 0 12 (dk_at dksX14_goesOn_0 15 rfl rfl)
theorem dX14_goesOn_18 : decode cX14_goesOn 18 = .ok (.aload_n 2, 1) := dk_44 (dk_at dksX14_goesOn_0 18 rfl rfl)
theorem dX14_goesOn_19 : decode cX14_goesOn 19 = .ok (.invokeinterface 21 2, 5) := by decide +kernel
theorem dX14_goesOn_24 : decode cX14_goesOn 24 = .ok (.pop, 1) := dk_87 (dk_at dksX14_goesOn_1 0 rfl rfl)
theorem dX14_goesOn_25 : decode cX14_goesOn 25 = .ok (.return_, 1) := dk_177 (dk_at dksX14_goesOn_1 1 rfl rfl)
abbrev cX14_value : ByteArray := prog_5_method_3_code
def yX14_value : MethodName := ⟨RX14, "value", "(LBoneYard$Bone;)I"⟩
def dkwX14_value_4 : List UInt8 := [160, 0, 11, 28, 21, 4, 100, 61, 167, 0, 8, 28, 21, 4, 104, 61, 132, 3, 1, 167, 255, 166, 28, 172]
abbrev dktX14_value_4 : List UInt8 := dkwX14_value_4 ++ []
def dkwX14_value_3 : List UInt8 := [182, 0, 45, 54, 5, 21, 5, 16, 43, 160, 0, 11, 28, 21, 4, 96, 61, 167, 0, 23, 21, 5, 16, 45]
abbrev dktX14_value_3 : List UInt8 := dkwX14_value_3 ++ dktX14_value_4
def dkwX14_value_2 : List UInt8 := [192, 0, 2, 43, 182, 0, 37, 54, 4, 42, 180, 0, 18, 29, 185, 0, 33, 2, 0, 192, 0, 28]
abbrev dktX14_value_2 : List UInt8 := dkwX14_value_2 ++ dktX14_value_3
def dkwX14_value_1 : List UInt8 := [180, 0, 18, 185, 0, 41, 1, 0, 162, 0, 83, 42, 180, 0, 12, 29, 4, 96, 185, 0, 33, 2, 0]
abbrev dktX14_value_1 : List UInt8 := dkwX14_value_1 ++ dktX14_value_2
def dkwX14_value_0 : List UInt8 := [42, 180, 0, 12, 3, 185, 0, 33, 2, 0, 192, 0, 2, 43, 182, 0, 37, 61, 3, 62, 29, 42]
abbrev dktX14_value_0 : List UInt8 := dkwX14_value_0 ++ dktX14_value_1
theorem dksX14_value_0 : cX14_value.data.toList.drop 0 = dktX14_value_0 := by decide +kernel
theorem dksX14_value_1 : cX14_value.data.toList.drop 22 = dktX14_value_1 := dk_seg dksX14_value_0 22 rfl rfl
theorem dksX14_value_2 : cX14_value.data.toList.drop 45 = dktX14_value_2 := dk_seg dksX14_value_1 23 rfl rfl
theorem dksX14_value_3 : cX14_value.data.toList.drop 67 = dktX14_value_3 := dk_seg dksX14_value_2 22 rfl rfl
theorem dksX14_value_4 : cX14_value.data.toList.drop 91 = dktX14_value_4 := dk_seg dksX14_value_3 24 rfl rfl
theorem dX14_value_0 : decode cX14_value 0 = .ok (.aload_n 0, 1) := dk_42 (dk_at dksX14_value_0 0 rfl rfl)
theorem dX14_value_1 : decode cX14_value 1 = .ok (.getfield 12, 3) := dk_180 0 12 (dk_at dksX14_value_0 1 rfl rfl)
theorem dX14_value_4 : decode cX14_value 4 = .ok (.iconst 0, 1) := dk_3 (dk_at dksX14_value_0 4 rfl rfl)
theorem dX14_value_5 : decode cX14_value 5 = .ok (.invokeinterface 33 2, 5) := by decide +kernel
theorem dX14_value_10 : decode cX14_value 10 = .ok (.checkcast 2, 3) := dk_192 0 2 (dk_at dksX14_value_0 10 rfl rfl)
theorem dX14_value_13 : decode cX14_value 13 = .ok (.aload_n 1, 1) := dk_43 (dk_at dksX14_value_0 13 rfl rfl)
theorem dX14_value_14 : decode cX14_value 14 = .ok (.invokevirtual 37, 3) := dk_182 0 37 (dk_at dksX14_value_0 14 rfl rfl)
theorem dX14_value_17 : decode cX14_value 17 = .ok (.istore_n 2, 1) := dk_61 (dk_at dksX14_value_0 17 rfl rfl)
theorem dX14_value_18 : decode cX14_value 18 = .ok (.iconst 0, 1) := dk_3 (dk_at dksX14_value_0 18 rfl rfl)
theorem dX14_value_19 : decode cX14_value 19 = .ok (.istore_n 3, 1) := dk_62 (dk_at dksX14_value_0 19 rfl rfl)
theorem dX14_value_20 : decode cX14_value 20 = .ok (.iload_n 3, 1) := dk_29 (dk_at dksX14_value_0 20 rfl rfl)
theorem dX14_value_21 : decode cX14_value 21 = .ok (.aload_n 0, 1) := dk_42 (dk_at dksX14_value_0 21 rfl rfl)
theorem dX14_value_22 : decode cX14_value 22 = .ok (.getfield 18, 3) := dk_180 0 18 (dk_at dksX14_value_1 0 rfl rfl)
theorem dX14_value_25 : decode cX14_value 25 = .ok (.invokeinterface 41 1, 5) := by decide +kernel
theorem dX14_value_30 : decode cX14_value 30 = .ok (.if_icmp .ge 83, 3) := dk_162 0 83 (dk_at dksX14_value_1 8 rfl rfl)
theorem dX14_value_33 : decode cX14_value 33 = .ok (.aload_n 0, 1) := dk_42 (dk_at dksX14_value_1 11 rfl rfl)
theorem dX14_value_34 : decode cX14_value 34 = .ok (.getfield 12, 3) := dk_180 0 12 (dk_at dksX14_value_1 12 rfl rfl)
theorem dX14_value_37 : decode cX14_value 37 = .ok (.iload_n 3, 1) := dk_29 (dk_at dksX14_value_1 15 rfl rfl)
theorem dX14_value_38 : decode cX14_value 38 = .ok (.iconst 1, 1) := dk_4 (dk_at dksX14_value_1 16 rfl rfl)
theorem dX14_value_39 : decode cX14_value 39 = .ok (.iadd, 1) := dk_96 (dk_at dksX14_value_1 17 rfl rfl)
theorem dX14_value_40 : decode cX14_value 40 = .ok (.invokeinterface 33 2, 5) := by decide +kernel
theorem dX14_value_45 : decode cX14_value 45 = .ok (.checkcast 2, 3) := dk_192 0 2 (dk_at dksX14_value_2 0 rfl rfl)
theorem dX14_value_48 : decode cX14_value 48 = .ok (.aload_n 1, 1) := dk_43 (dk_at dksX14_value_2 3 rfl rfl)
theorem dX14_value_49 : decode cX14_value 49 = .ok (.invokevirtual 37, 3) := dk_182 0 37 (dk_at dksX14_value_2 4 rfl rfl)
theorem dX14_value_52 : decode cX14_value 52 = .ok (.istore 4, 2) := dk_54 4 (dk_at dksX14_value_2 7 rfl rfl)
theorem dX14_value_54 : decode cX14_value 54 = .ok (.aload_n 0, 1) := dk_42 (dk_at dksX14_value_2 9 rfl rfl)
theorem dX14_value_55 : decode cX14_value 55 = .ok (.getfield 18, 3) := dk_180 0 18 (dk_at dksX14_value_2 10 rfl rfl)
theorem dX14_value_58 : decode cX14_value 58 = .ok (.iload_n 3, 1) := dk_29 (dk_at dksX14_value_2 13 rfl rfl)
theorem dX14_value_59 : decode cX14_value 59 = .ok (.invokeinterface 33 2, 5) := by decide +kernel
theorem dX14_value_64 : decode cX14_value 64 = .ok (.checkcast 28, 3) := dk_192 0 28 (dk_at dksX14_value_2 19 rfl rfl)
theorem dX14_value_67 : decode cX14_value 67 = .ok (.invokevirtual 45, 3) := dk_182 0 45 (dk_at dksX14_value_3 0 rfl rfl)
theorem dX14_value_70 : decode cX14_value 70 = .ok (.istore 5, 2) := dk_54 5 (dk_at dksX14_value_3 3 rfl rfl)
theorem dX14_value_72 : decode cX14_value 72 = .ok (.iload 5, 2) := dk_21 5 (dk_at dksX14_value_3 5 rfl rfl)
theorem dX14_value_74 : decode cX14_value 74 = .ok (.bipush 43, 2) := dk_16 43 (dk_at dksX14_value_3 7 rfl rfl)
theorem dX14_value_76 : decode cX14_value 76 = .ok (.if_icmp .ne 11, 3) := dk_160 0 11 (dk_at dksX14_value_3 9 rfl rfl)
theorem dX14_value_79 : decode cX14_value 79 = .ok (.iload_n 2, 1) := dk_28 (dk_at dksX14_value_3 12 rfl rfl)
theorem dX14_value_80 : decode cX14_value 80 = .ok (.iload 4, 2) := dk_21 4 (dk_at dksX14_value_3 13 rfl rfl)
theorem dX14_value_82 : decode cX14_value 82 = .ok (.iadd, 1) := dk_96 (dk_at dksX14_value_3 15 rfl rfl)
theorem dX14_value_83 : decode cX14_value 83 = .ok (.istore_n 2, 1) := dk_61 (dk_at dksX14_value_3 16 rfl rfl)
theorem dX14_value_84 : decode cX14_value 84 = .ok (.goto 23, 3) := dk_167 0 23 (dk_at dksX14_value_3 17 rfl rfl)
theorem dX14_value_87 : decode cX14_value 87 = .ok (.iload 5, 2) := dk_21 5 (dk_at dksX14_value_3 20 rfl rfl)
theorem dX14_value_89 : decode cX14_value 89 = .ok (.bipush 45, 2) := dk_16 45 (dk_at dksX14_value_3 22 rfl rfl)
theorem dX14_value_91 : decode cX14_value 91 = .ok (.if_icmp .ne 11, 3) := dk_160 0 11 (dk_at dksX14_value_4 0 rfl rfl)
theorem dX14_value_94 : decode cX14_value 94 = .ok (.iload_n 2, 1) := dk_28 (dk_at dksX14_value_4 3 rfl rfl)
theorem dX14_value_95 : decode cX14_value 95 = .ok (.iload 4, 2) := dk_21 4 (dk_at dksX14_value_4 4 rfl rfl)
theorem dX14_value_97 : decode cX14_value 97 = .ok (.isub, 1) := dk_100 (dk_at dksX14_value_4 6 rfl rfl)
theorem dX14_value_98 : decode cX14_value 98 = .ok (.istore_n 2, 1) := dk_61 (dk_at dksX14_value_4 7 rfl rfl)
theorem dX14_value_99 : decode cX14_value 99 = .ok (.goto 8, 3) := dk_167 0 8 (dk_at dksX14_value_4 8 rfl rfl)
theorem dX14_value_102 : decode cX14_value 102 = .ok (.iload_n 2, 1) := dk_28 (dk_at dksX14_value_4 11 rfl rfl)
theorem dX14_value_103 : decode cX14_value 103 = .ok (.iload 4, 2) := dk_21 4 (dk_at dksX14_value_4 12 rfl rfl)
theorem dX14_value_105 : decode cX14_value 105 = .ok (.imul, 1) := dk_104 (dk_at dksX14_value_4 14 rfl rfl)
theorem dX14_value_106 : decode cX14_value 106 = .ok (.istore_n 2, 1) := dk_61 (dk_at dksX14_value_4 15 rfl rfl)
theorem dX14_value_107 : decode cX14_value 107 = .ok (.iinc 3 1, 3) := dk_132 3 1 (dk_at dksX14_value_4 16 rfl rfl)
theorem dX14_value_110 : decode cX14_value 110 = .ok (.goto (-90), 3) := dk_167 255 166 (dk_at dksX14_value_4 19 rfl rfl)
theorem dX14_value_113 : decode cX14_value 113 = .ok (.iload_n 2, 1) := dk_28 (dk_at dksX14_value_4 22 rfl rfl)
theorem dX14_value_114 : decode cX14_value 114 = .ok (.ireturn, 1) := dk_172 (dk_at dksX14_value_4 23 rfl rfl)
theorem q137 : (Jvm.Cond.initialized "BoneYard$Chain") ∈ lw_all := lw_g (lw_at lw_m1 29 rfl) rfl
theorem q1061 : (Jvm.Cond.selects "BoneYard$Chain" ({ cls := "java/lang/Object", name := "getClass", desc := "()Ljava/lang/Class;" } : Jvm.MethodName) ({ cls := "java/lang/Object", name := "getClass", desc := "()Ljava/lang/Class;" } : Jvm.MethodName)) ∈ lw_all := lw_g (lw_at lw_m4 233 rfl) rfl
theorem q1094 : (Jvm.Cond.instantiable "BoneYard$Chain" (2 : Nat)) ∈ lw_all := lw_g (lw_at lw_m5 26 rfl) rfl
theorem q1128 : (Jvm.Cond.instanceMethod ({ cls := "BoneYard$Chain", name := "<init>", desc := "(LBoneYard$Sum;)V" } : Jvm.MethodName)) ∈ lw_all := lw_g (lw_at lw_m5 60 rfl) rfl
theorem q1129 : (Jvm.Cond.code ({ cls := "BoneYard$Chain", name := "<init>", desc := "(LBoneYard$Sum;)V" } : Jvm.MethodName) prog_5_method_1_code (2 : Nat) (Option.none : Option Jvm.ClassFile.FieldType)) ∈ lw_all := lw_g (lw_at lw_m5 61 rfl) rfl
theorem q1130 : (Jvm.Cond.methodLinkNest "BoneYard$Chain" (1 : Nat) ({ cls := "BoneYard$Sum", name := "<init>", desc := "()V" } : Jvm.MethodName) "BoneYard") ∈ lw_tbl := lw_at lw_m5 62 rfl
theorem q1131 : (Jvm.Cond.classLink "BoneYard$Chain" (7 : Nat) "java/util/ArrayList") ∈ lw_all := lw_g (lw_at lw_m5 63 rfl) rfl
theorem q1132 : (Jvm.Cond.methodLink "BoneYard$Chain" (9 : Nat) ({ cls := "java/util/ArrayList", name := "<init>", desc := "(I)V" } : Jvm.MethodName)) ∈ lw_all := lw_g (lw_at lw_m5 64 rfl) rfl
theorem q1133 : (Jvm.Cond.interfaceEntry "BoneYard$Chain" (21 : Nat)) ∈ lw_tbl := lw_at lw_m5 65 rfl
theorem q1134 : (Jvm.Cond.methodLink "BoneYard$Chain" (21 : Nat) ({ cls := "java/util/List", name := "add", desc := "(Ljava/lang/Object;)Z" } : Jvm.MethodName)) ∈ lw_all := lw_g (lw_at lw_m5 66 rfl) rfl
theorem q1135 : (Jvm.Cond.fieldLink "BoneYard$Chain" (12 : Nat) "BoneYard$Chain" "parts" "Ljava/util/List;") ∈ lw_all := lw_g (lw_at lw_m5 67 rfl) rfl
theorem q1136 : (Jvm.Cond.fieldLink "BoneYard$Chain" (18 : Nat) "BoneYard$Chain" "signs" "Ljava/util/List;") ∈ lw_all := lw_g (lw_at lw_m5 68 rfl) rfl
theorem q1137 : (Jvm.Cond.laysFinal "BoneYard$Chain" "BoneYard$Chain" "parts" "Ljava/util/List;") ∈ lw_all := lw_g (lw_at lw_m5 69 rfl) rfl
theorem q1138 : (Jvm.Cond.soleField "BoneYard$Chain" "parts") ∈ lw_all := lw_g (lw_at lw_m5 70 rfl) rfl
theorem q1139 : (Jvm.Cond.laysFinal "BoneYard$Chain" "BoneYard$Chain" "signs" "Ljava/util/List;") ∈ lw_all := lw_g (lw_at lw_m5 71 rfl) rfl
theorem q1140 : (Jvm.Cond.soleField "BoneYard$Chain" "signs") ∈ lw_all := lw_g (lw_at lw_m5 72 rfl) rfl
theorem q1141 : (Jvm.Cond.superclass "BoneYard$Chain" "BoneYard$Sum") ∈ lw_all := lw_g (lw_at lw_m5 73 rfl) rfl
theorem q1143 : (Jvm.Cond.instanceMethod ({ cls := "BoneYard$Chain", name := "goesOn", desc := "(ILBoneYard$Sum;)V" } : Jvm.MethodName)) ∈ lw_all := lw_g (lw_at lw_m5 75 rfl) rfl
theorem q1144 : (Jvm.Cond.selects "BoneYard$Chain" ({ cls := "BoneYard$Chain", name := "goesOn", desc := "(ILBoneYard$Sum;)V" } : Jvm.MethodName) ({ cls := "BoneYard$Chain", name := "goesOn", desc := "(ILBoneYard$Sum;)V" } : Jvm.MethodName)) ∈ lw_all := lw_g (lw_at lw_m5 76 rfl) rfl
theorem q1145 : (Jvm.Cond.code ({ cls := "BoneYard$Chain", name := "goesOn", desc := "(ILBoneYard$Sum;)V" } : Jvm.MethodName) prog_5_method_2_code (3 : Nat) (Option.none : Option Jvm.ClassFile.FieldType)) ∈ lw_all := lw_g (lw_at lw_m5 77 rfl) rfl
theorem q1146 : (Jvm.Cond.methodLink "BoneYard$Chain" (27 : Nat) ({ cls := "java/lang/Integer", name := "valueOf", desc := "(I)Ljava/lang/Integer;" } : Jvm.MethodName)) ∈ lw_all := lw_g (lw_at lw_m5 78 rfl) rfl
theorem q1264 : (Jvm.Cond.selects "BoneYard$Chain" ({ cls := "BoneYard$Sum", name := "value", desc := "(LBoneYard$Bone;)I" } : Jvm.MethodName) ({ cls := "BoneYard$Chain", name := "value", desc := "(LBoneYard$Bone;)I" } : Jvm.MethodName)) ∈ lw_all := lw_g (lw_at lw_m5 196 rfl) rfl
theorem q1265 : (Jvm.Cond.instanceMethod ({ cls := "BoneYard$Chain", name := "value", desc := "(LBoneYard$Bone;)I" } : Jvm.MethodName)) ∈ lw_all := lw_g (lw_at lw_m5 197 rfl) rfl
theorem q1266 : (Jvm.Cond.code ({ cls := "BoneYard$Chain", name := "value", desc := "(LBoneYard$Bone;)I" } : Jvm.MethodName) prog_5_method_3_code (6 : Nat) (Option.some Jvm.ClassFile.FieldType.int)) ∈ lw_all := lw_g (lw_at lw_m5 198 rfl) rfl
theorem q1267 : (Jvm.Cond.interfaceEntry "BoneYard$Chain" (33 : Nat)) ∈ lw_tbl := lw_at lw_m5 199 rfl
theorem q1268 : (Jvm.Cond.methodLink "BoneYard$Chain" (33 : Nat) ({ cls := "java/util/List", name := "get", desc := "(I)Ljava/lang/Object;" } : Jvm.MethodName)) ∈ lw_all := lw_g (lw_at lw_m5 200 rfl) rfl
theorem q1269 : (Jvm.Cond.classLink "BoneYard$Chain" (2 : Nat) "BoneYard$Sum") ∈ lw_all := lw_g (lw_at lw_m5 201 rfl) rfl
theorem q1270 : (Jvm.Cond.methodLink "BoneYard$Chain" (37 : Nat) ({ cls := "BoneYard$Sum", name := "value", desc := "(LBoneYard$Bone;)I" } : Jvm.MethodName)) ∈ lw_all := lw_g (lw_at lw_m5 202 rfl) rfl
theorem q1279 : (Jvm.Cond.interfaceEntry "BoneYard$Chain" (41 : Nat)) ∈ lw_tbl := lw_at lw_m5 211 rfl
theorem q1280 : (Jvm.Cond.methodLink "BoneYard$Chain" (41 : Nat) ({ cls := "java/util/List", name := "size", desc := "()I" } : Jvm.MethodName)) ∈ lw_all := lw_g (lw_at lw_m5 212 rfl) rfl
theorem q1281 : (Jvm.Cond.classLink "BoneYard$Chain" (28 : Nat) "java/lang/Integer") ∈ lw_all := lw_g (lw_at lw_m5 213 rfl) rfl
theorem q1282 : (Jvm.Cond.methodLink "BoneYard$Chain" (45 : Nat) ({ cls := "java/lang/Integer", name := "intValue", desc := "()I" } : Jvm.MethodName)) ∈ lw_all := lw_g (lw_at lw_m5 214 rfl) rfl
theorem q2127 : (Jvm.Cond.castable "BoneYard$Chain" "BoneYard$Sum") ∈ lw_tbl := lw_at lw_m9 99 rfl
theorem q2144 : (Jvm.Cond.castable "BoneYard$Chain" "java/lang/Object") ∈ lw_tbl := lw_at lw_m9 116 rfl
theorem in_X14 : ∀ w ∈ wsX140, w ∈ lw_all := lw_in wsX140 [1137, 1139] (by decide +kernel) (by decide +kernel)
/-! BoneYard$Name -/
set_option maxRecDepth 100000
def RX15 : String := "BoneYard$Name"
def TX15 : u_T := fun k => match k with
  | _ => ("BoneYard$Name", "name", "I", true)
def tyX15 : Nat → FieldType := fun k => match k with
  | _ => .int
abbrev wsX150 : List Cond := u_ws RX15 TX15 1
theorem nmX15 : ∀ a, a < 1 → ∀ b, b < 1 → a ≠ b → (TX15 a).2.1 ≠ (TX15 b).2.1 := by decide +kernel
theorem tyX15_ok : ∀ k, k < 1 → parseFieldDescriptor (TX15 k).2.2.1 = some (tyX15 k) := by decide +kernel
abbrev cX15_init : ByteArray := prog_11_method_1_code
def yX15_init : MethodName := ⟨RX15, "<init>", "(I)V"⟩
def dkwX15_init_0 : List UInt8 := [42, 183, 0, 1, 42, 27, 181, 0, 7, 177]
abbrev dktX15_init_0 : List UInt8 := dkwX15_init_0 ++ []
theorem dksX15_init_0 : cX15_init.data.toList.drop 0 = dktX15_init_0 := by decide +kernel
theorem dX15_init_0 : decode cX15_init 0 = .ok (.aload_n 0, 1) := dk_42 (dk_at dksX15_init_0 0 rfl rfl)
theorem dX15_init_1 : decode cX15_init 1 = .ok (.invokespecial 1, 3) := dk_183 0 1 (dk_at dksX15_init_0 1 rfl rfl)
theorem dX15_init_4 : decode cX15_init 4 = .ok (.aload_n 0, 1) := dk_42 (dk_at dksX15_init_0 4 rfl rfl)
theorem dX15_init_5 : decode cX15_init 5 = .ok (.iload_n 1, 1) := dk_27 (dk_at dksX15_init_0 5 rfl rfl)
theorem dX15_init_6 : decode cX15_init 6 = .ok (.putfield 7, 3) := dk_181 0 7 (dk_at dksX15_init_0 6 rfl rfl)
theorem dX15_init_9 : decode cX15_init 9 = .ok (.return_, 1) := dk_177 (dk_at dksX15_init_0 9 rfl rfl)
abbrev cX15_value : ByteArray := prog_11_method_2_code
def yX15_value : MethodName := ⟨RX15, "value", "(LBoneYard$Bone;)I"⟩
def dkwX15_value_0 : List UInt8 := [43, 42, 180, 0, 7, 182, 0, 13, 172]
abbrev dktX15_value_0 : List UInt8 := dkwX15_value_0 ++ []
theorem dksX15_value_0 : cX15_value.data.toList.drop 0 = dktX15_value_0 := by decide +kernel
theorem dX15_value_0 : decode cX15_value 0 = .ok (.aload_n 1, 1) := dk_43 (dk_at dksX15_value_0 0 rfl rfl)
theorem dX15_value_1 : decode cX15_value 1 = .ok (.aload_n 0, 1) := dk_42 (dk_at dksX15_value_0 1 rfl rfl)
theorem dX15_value_2 : decode cX15_value 2 = .ok (.getfield 7, 3) := dk_180 0 7 (dk_at dksX15_value_0 2 rfl rfl)
theorem dX15_value_5 : decode cX15_value 5 = .ok (.invokevirtual 13, 3) := dk_182 0 13 (dk_at dksX15_value_0 5 rfl rfl)
theorem dX15_value_8 : decode cX15_value 8 = .ok (.ireturn, 1) := dk_172 (dk_at dksX15_value_0 8 rfl rfl)
theorem q138 : (Jvm.Cond.initialized "BoneYard$Name") ∈ lw_all := lw_g (lw_at lw_m1 30 rfl) rfl
theorem q1066 : (Jvm.Cond.selects "BoneYard$Name" ({ cls := "java/lang/Object", name := "getClass", desc := "()Ljava/lang/Class;" } : Jvm.MethodName) ({ cls := "java/lang/Object", name := "getClass", desc := "()Ljava/lang/Class;" } : Jvm.MethodName)) ∈ lw_all := lw_g (lw_at lw_m4 238 rfl) rfl
theorem q1105 : (Jvm.Cond.instantiable "BoneYard$Name" (1 : Nat)) ∈ lw_all := lw_g (lw_at lw_m5 37 rfl) rfl
theorem q1107 : (Jvm.Cond.instanceMethod ({ cls := "BoneYard$Name", name := "<init>", desc := "(I)V" } : Jvm.MethodName)) ∈ lw_all := lw_g (lw_at lw_m5 39 rfl) rfl
theorem q1108 : (Jvm.Cond.code ({ cls := "BoneYard$Name", name := "<init>", desc := "(I)V" } : Jvm.MethodName) prog_11_method_1_code (2 : Nat) (Option.none : Option Jvm.ClassFile.FieldType)) ∈ lw_all := lw_g (lw_at lw_m5 40 rfl) rfl
theorem q1109 : (Jvm.Cond.methodLinkNest "BoneYard$Name" (1 : Nat) ({ cls := "BoneYard$Sum", name := "<init>", desc := "()V" } : Jvm.MethodName) "BoneYard") ∈ lw_tbl := lw_at lw_m5 41 rfl
theorem q1113 : (Jvm.Cond.fieldLink "BoneYard$Name" (7 : Nat) "BoneYard$Name" "name" "I") ∈ lw_all := lw_g (lw_at lw_m5 45 rfl) rfl
theorem q1114 : (Jvm.Cond.laysFinal "BoneYard$Name" "BoneYard$Name" "name" "I") ∈ lw_all := lw_g (lw_at lw_m5 46 rfl) rfl
theorem q1115 : (Jvm.Cond.soleField "BoneYard$Name" "name") ∈ lw_all := lw_g (lw_at lw_m5 47 rfl) rfl
theorem q1116 : (Jvm.Cond.superclass "BoneYard$Name" "BoneYard$Sum") ∈ lw_all := lw_g (lw_at lw_m5 48 rfl) rfl
theorem q1271 : (Jvm.Cond.instanceMethod ({ cls := "BoneYard$Name", name := "value", desc := "(LBoneYard$Bone;)I" } : Jvm.MethodName)) ∈ lw_all := lw_g (lw_at lw_m5 203 rfl) rfl
theorem q1272 : (Jvm.Cond.code ({ cls := "BoneYard$Name", name := "value", desc := "(LBoneYard$Bone;)I" } : Jvm.MethodName) prog_11_method_2_code (2 : Nat) (Option.some Jvm.ClassFile.FieldType.int)) ∈ lw_all := lw_g (lw_at lw_m5 204 rfl) rfl
theorem q1273 : (Jvm.Cond.methodLink "BoneYard$Name" (13 : Nat) ({ cls := "BoneYard$Bone", name := "known", desc := "(I)I" } : Jvm.MethodName)) ∈ lw_all := lw_g (lw_at lw_m5 205 rfl) rfl
theorem q1286 : (Jvm.Cond.selects "BoneYard$Name" ({ cls := "BoneYard$Sum", name := "value", desc := "(LBoneYard$Bone;)I" } : Jvm.MethodName) ({ cls := "BoneYard$Name", name := "value", desc := "(LBoneYard$Bone;)I" } : Jvm.MethodName)) ∈ lw_all := lw_g (lw_at lw_m5 218 rfl) rfl
theorem q2128 : (Jvm.Cond.castable "BoneYard$Name" "BoneYard$Sum") ∈ lw_tbl := lw_at lw_m9 100 rfl
theorem q2145 : (Jvm.Cond.castable "BoneYard$Name" "java/lang/Object") ∈ lw_tbl := lw_at lw_m9 117 rfl
theorem in_X15 : ∀ w ∈ wsX150, w ∈ lw_all := lw_in wsX150 [1114] (by decide +kernel) (by decide +kernel)
/-! BoneYard$Told -/
set_option maxRecDepth 100000
def RX16 : String := "BoneYard$Told"
def TX16 : u_T := fun k => match k with
  | _ => ("BoneYard$Told", "number", "I", true)
def tyX16 : Nat → FieldType := fun k => match k with
  | _ => .int
abbrev wsX160 : List Cond := u_ws RX16 TX16 1
theorem nmX16 : ∀ a, a < 1 → ∀ b, b < 1 → a ≠ b → (TX16 a).2.1 ≠ (TX16 b).2.1 := by decide +kernel
theorem tyX16_ok : ∀ k, k < 1 → parseFieldDescriptor (TX16 k).2.2.1 = some (tyX16 k) := by decide +kernel
abbrev cX16_init : ByteArray := prog_17_method_1_code
def yX16_init : MethodName := ⟨RX16, "<init>", "(I)V"⟩
def dkwX16_init_0 : List UInt8 := [42, 183, 0, 1, 42, 27, 181, 0, 7, 177]
abbrev dktX16_init_0 : List UInt8 := dkwX16_init_0 ++ []
theorem dksX16_init_0 : cX16_init.data.toList.drop 0 = dktX16_init_0 := by decide +kernel
theorem dX16_init_0 : decode cX16_init 0 = .ok (.aload_n 0, 1) := dk_42 (dk_at dksX16_init_0 0 rfl rfl)
theorem dX16_init_1 : decode cX16_init 1 = .ok (.invokespecial 1, 3) := dk_183 0 1 (dk_at dksX16_init_0 1 rfl rfl)
theorem dX16_init_4 : decode cX16_init 4 = .ok (.aload_n 0, 1) := dk_42 (dk_at dksX16_init_0 4 rfl rfl)
theorem dX16_init_5 : decode cX16_init 5 = .ok (.iload_n 1, 1) := dk_27 (dk_at dksX16_init_0 5 rfl rfl)
theorem dX16_init_6 : decode cX16_init 6 = .ok (.putfield 7, 3) := dk_181 0 7 (dk_at dksX16_init_0 6 rfl rfl)
theorem dX16_init_9 : decode cX16_init 9 = .ok (.return_, 1) := dk_177 (dk_at dksX16_init_0 9 rfl rfl)
abbrev cX16_value : ByteArray := prog_17_method_2_code
def yX16_value : MethodName := ⟨RX16, "value", "(LBoneYard$Bone;)I"⟩
theorem dX16_value_0 : decode cX16_value 0 = .ok (.aload_n 0, 1) := by decide +kernel
theorem dX16_value_1 : decode cX16_value 1 = .ok (.getfield 7, 3) := by decide +kernel
theorem dX16_value_4 : decode cX16_value 4 = .ok (.ireturn, 1) := by decide +kernel
theorem q139 : (Jvm.Cond.initialized "BoneYard$Told") ∈ lw_all := lw_g (lw_at lw_m1 31 rfl) rfl
theorem q1071 : (Jvm.Cond.selects "BoneYard$Told" ({ cls := "java/lang/Object", name := "getClass", desc := "()Ljava/lang/Class;" } : Jvm.MethodName) ({ cls := "java/lang/Object", name := "getClass", desc := "()Ljava/lang/Class;" } : Jvm.MethodName)) ∈ lw_all := lw_g (lw_at lw_m5 3 rfl) rfl
theorem q1118 : (Jvm.Cond.instantiable "BoneYard$Told" (1 : Nat)) ∈ lw_all := lw_g (lw_at lw_m5 50 rfl) rfl
theorem q1120 : (Jvm.Cond.instanceMethod ({ cls := "BoneYard$Told", name := "<init>", desc := "(I)V" } : Jvm.MethodName)) ∈ lw_all := lw_g (lw_at lw_m5 52 rfl) rfl
theorem q1121 : (Jvm.Cond.code ({ cls := "BoneYard$Told", name := "<init>", desc := "(I)V" } : Jvm.MethodName) prog_17_method_1_code (2 : Nat) (Option.none : Option Jvm.ClassFile.FieldType)) ∈ lw_all := lw_g (lw_at lw_m5 53 rfl) rfl
theorem q1122 : (Jvm.Cond.methodLinkNest "BoneYard$Told" (1 : Nat) ({ cls := "BoneYard$Sum", name := "<init>", desc := "()V" } : Jvm.MethodName) "BoneYard") ∈ lw_tbl := lw_at lw_m5 54 rfl
theorem q1123 : (Jvm.Cond.fieldLink "BoneYard$Told" (7 : Nat) "BoneYard$Told" "number" "I") ∈ lw_all := lw_g (lw_at lw_m5 55 rfl) rfl
theorem q1124 : (Jvm.Cond.laysFinal "BoneYard$Told" "BoneYard$Told" "number" "I") ∈ lw_all := lw_g (lw_at lw_m5 56 rfl) rfl
theorem q1125 : (Jvm.Cond.soleField "BoneYard$Told" "number") ∈ lw_all := lw_g (lw_at lw_m5 57 rfl) rfl
theorem q1126 : (Jvm.Cond.superclass "BoneYard$Told" "BoneYard$Sum") ∈ lw_all := lw_g (lw_at lw_m5 58 rfl) rfl
theorem q1277 : (Jvm.Cond.instanceMethod ({ cls := "BoneYard$Told", name := "value", desc := "(LBoneYard$Bone;)I" } : Jvm.MethodName)) ∈ lw_all := lw_g (lw_at lw_m5 209 rfl) rfl
theorem q1278 : (Jvm.Cond.code ({ cls := "BoneYard$Told", name := "value", desc := "(LBoneYard$Bone;)I" } : Jvm.MethodName) prog_17_method_2_code (2 : Nat) (Option.some Jvm.ClassFile.FieldType.int)) ∈ lw_all := lw_g (lw_at lw_m5 210 rfl) rfl
theorem q1287 : (Jvm.Cond.selects "BoneYard$Told" ({ cls := "BoneYard$Sum", name := "value", desc := "(LBoneYard$Bone;)I" } : Jvm.MethodName) ({ cls := "BoneYard$Told", name := "value", desc := "(LBoneYard$Bone;)I" } : Jvm.MethodName)) ∈ lw_all := lw_g (lw_at lw_m5 219 rfl) rfl
theorem q2129 : (Jvm.Cond.castable "BoneYard$Told" "BoneYard$Sum") ∈ lw_tbl := lw_at lw_m9 101 rfl
theorem q2146 : (Jvm.Cond.castable "BoneYard$Told" "java/lang/Object") ∈ lw_tbl := lw_at lw_m9 118 rfl
theorem in_X16 : ∀ w ∈ wsX160, w ∈ lw_all := lw_in wsX160 [1124] (by decide +kernel) (by decide +kernel)
/-! BoneYard$Compared -/
set_option maxRecDepth 100000
def RX17 : String := "BoneYard$Compared"
def TX17 : u_T := fun k => match k with
  | 0 => ("BoneYard$Compared", "a", "LBoneYard$Sum;", true)
  | 1 => ("BoneYard$Compared", "b", "LBoneYard$Sum;", true)
  | _ => ("BoneYard$Compared", "sign", "I", true)
def tyX17 : Nat → FieldType := fun k => match k with
  | 0 => .object "BoneYard$Sum"
  | 1 => .object "BoneYard$Sum"
  | _ => .int
abbrev wsX170 : List Cond := u_ws RX17 TX17 3
theorem nmX17 : ∀ a, a < 3 → ∀ b, b < 3 → a ≠ b → (TX17 a).2.1 ≠ (TX17 b).2.1 := by decide +kernel
theorem tyX17_ok : ∀ k, k < 3 → parseFieldDescriptor (TX17 k).2.2.1 = some (tyX17 k) := by decide +kernel
abbrev cX17_init : ByteArray := prog_6_method_1_code
def yX17_init : MethodName := ⟨RX17, "<init>", "(LBoneYard$Sum;ILBoneYard$Sum;)V"⟩
def dkwX17_init_0 : List UInt8 := [42, 183, 0, 1, 42, 43, 181, 0, 7, 42, 28, 181, 0, 13, 42, 45, 181, 0, 17, 177]
abbrev dktX17_init_0 : List UInt8 := dkwX17_init_0 ++ []
theorem dksX17_init_0 : cX17_init.data.toList.drop 0 = dktX17_init_0 := by decide +kernel
theorem dX17_init_0 : decode cX17_init 0 = .ok (.aload_n 0, 1) := dk_42 (dk_at dksX17_init_0 0 rfl rfl)
theorem dX17_init_1 : decode cX17_init 1 = .ok (.invokespecial 1, 3) := dk_183 0 1 (dk_at dksX17_init_0 1 rfl rfl)
theorem dX17_init_4 : decode cX17_init 4 = .ok (.aload_n 0, 1) := dk_42 (dk_at dksX17_init_0 4 rfl rfl)
theorem dX17_init_5 : decode cX17_init 5 = .ok (.aload_n 1, 1) := dk_43 (dk_at dksX17_init_0 5 rfl rfl)
theorem dX17_init_6 : decode cX17_init 6 = .ok (.putfield 7, 3) := dk_181 0 7 (dk_at dksX17_init_0 6 rfl rfl)
theorem dX17_init_9 : decode cX17_init 9 = .ok (.aload_n 0, 1) := dk_42 (dk_at dksX17_init_0 9 rfl rfl)
theorem dX17_init_10 : decode cX17_init 10 = .ok (.iload_n 2, 1) := dk_28 (dk_at dksX17_init_0 10 rfl rfl)
theorem dX17_init_11 : decode cX17_init 11 = .ok (.putfield 13, 3) := dk_181 0 13 (dk_at dksX17_init_0 11 rfl rfl)
theorem dX17_init_14 : decode cX17_init 14 = .ok (.aload_n 0, 1) := dk_42 (dk_at dksX17_init_0 14 rfl rfl)
theorem dX17_init_15 : decode cX17_init 15 = .ok (.aload_n 3, 1) := dk_45 (dk_at dksX17_init_0 15 rfl rfl)
theorem dX17_init_16 : decode cX17_init 16 = .ok (.putfield 17, 3) := dk_181 0 17 (dk_at dksX17_init_0 16 rfl rfl)
theorem dX17_init_19 : decode cX17_init 19 = .ok (.return_, 1) := dk_177 (dk_at dksX17_init_0 19 rfl rfl)
abbrev cX17_holds : ByteArray := prog_6_method_2_code
def yX17_holds : MethodName := ⟨RX17, "holds", "(LBoneYard$Bone;)Z"⟩
def dkwX17_holds_3 : List UInt8 := [167, 0, 4, 3, 172]
abbrev dktX17_holds_3 : List UInt8 := dkwX17_holds_3 ++ []
def dkwX17_holds_2 : List UInt8 := [160, 0, 16, 28, 29, 164, 0, 7, 4, 167, 0, 17, 3, 167, 0, 13, 28, 29, 160, 0, 7, 4]
abbrev dktX17_holds_2 : List UInt8 := dkwX17_holds_2 ++ dktX17_holds_3
def dkwX17_holds_1 : List UInt8 := [160, 0, 16, 28, 29, 162, 0, 7, 4, 167, 0, 39, 3, 167, 0, 35, 42, 180, 0, 13, 16, 62]
abbrev dktX17_holds_1 : List UInt8 := dkwX17_holds_1 ++ dktX17_holds_2
def dkwX17_holds_0 : List UInt8 := [42, 180, 0, 7, 43, 182, 0, 20, 61, 42, 180, 0, 17, 43, 182, 0, 20, 62, 42, 180, 0, 13, 16, 60]
abbrev dktX17_holds_0 : List UInt8 := dkwX17_holds_0 ++ dktX17_holds_1
theorem dksX17_holds_0 : cX17_holds.data.toList.drop 0 = dktX17_holds_0 := by decide +kernel
theorem dksX17_holds_1 : cX17_holds.data.toList.drop 24 = dktX17_holds_1 := dk_seg dksX17_holds_0 24 rfl rfl
theorem dksX17_holds_2 : cX17_holds.data.toList.drop 46 = dktX17_holds_2 := dk_seg dksX17_holds_1 22 rfl rfl
theorem dksX17_holds_3 : cX17_holds.data.toList.drop 68 = dktX17_holds_3 := dk_seg dksX17_holds_2 22 rfl rfl
theorem dX17_holds_0 : decode cX17_holds 0 = .ok (.aload_n 0, 1) := dk_42 (dk_at dksX17_holds_0 0 rfl rfl)
theorem dX17_holds_1 : decode cX17_holds 1 = .ok (.getfield 7, 3) := dk_180 0 7 (dk_at dksX17_holds_0 1 rfl rfl)
theorem dX17_holds_4 : decode cX17_holds 4 = .ok (.aload_n 1, 1) := dk_43 (dk_at dksX17_holds_0 4 rfl rfl)
theorem dX17_holds_5 : decode cX17_holds 5 = .ok (.invokevirtual 20, 3) := dk_182 0 20 (dk_at dksX17_holds_0 5 rfl rfl)
theorem dX17_holds_8 : decode cX17_holds 8 = .ok (.istore_n 2, 1) := dk_61 (dk_at dksX17_holds_0 8 rfl rfl)
theorem dX17_holds_9 : decode cX17_holds 9 = .ok (.aload_n 0, 1) := dk_42 (dk_at dksX17_holds_0 9 rfl rfl)
theorem dX17_holds_10 : decode cX17_holds 10 = .ok (.getfield 17, 3) := dk_180 0 17 (dk_at dksX17_holds_0 10 rfl rfl)
theorem dX17_holds_13 : decode cX17_holds 13 = .ok (.aload_n 1, 1) := dk_43 (dk_at dksX17_holds_0 13 rfl rfl)
theorem dX17_holds_14 : decode cX17_holds 14 = .ok (.invokevirtual 20, 3) := dk_182 0 20 (dk_at dksX17_holds_0 14 rfl rfl)
theorem dX17_holds_17 : decode cX17_holds 17 = .ok (.istore_n 3, 1) := dk_62 (dk_at dksX17_holds_0 17 rfl rfl)
theorem dX17_holds_18 : decode cX17_holds 18 = .ok (.aload_n 0, 1) := dk_42 (dk_at dksX17_holds_0 18 rfl rfl)
theorem dX17_holds_19 : decode cX17_holds 19 = .ok (.getfield 13, 3) := dk_180 0 13 (dk_at dksX17_holds_0 19 rfl rfl)
theorem dX17_holds_22 : decode cX17_holds 22 = .ok (.bipush 60, 2) := dk_16 60 (dk_at dksX17_holds_0 22 rfl rfl)
theorem dX17_holds_24 : decode cX17_holds 24 = .ok (.if_icmp .ne 16, 3) := dk_160 0 16 (dk_at dksX17_holds_1 0 rfl rfl)
theorem dX17_holds_27 : decode cX17_holds 27 = .ok (.iload_n 2, 1) := dk_28 (dk_at dksX17_holds_1 3 rfl rfl)
theorem dX17_holds_28 : decode cX17_holds 28 = .ok (.iload_n 3, 1) := dk_29 (dk_at dksX17_holds_1 4 rfl rfl)
theorem dX17_holds_29 : decode cX17_holds 29 = .ok (.if_icmp .ge 7, 3) := dk_162 0 7 (dk_at dksX17_holds_1 5 rfl rfl)
theorem dX17_holds_32 : decode cX17_holds 32 = .ok (.iconst 1, 1) := dk_4 (dk_at dksX17_holds_1 8 rfl rfl)
theorem dX17_holds_33 : decode cX17_holds 33 = .ok (.goto 39, 3) := dk_167 0 39 (dk_at dksX17_holds_1 9 rfl rfl)
theorem dX17_holds_36 : decode cX17_holds 36 = .ok (.iconst 0, 1) := dk_3 (dk_at dksX17_holds_1 12 rfl rfl)
theorem dX17_holds_37 : decode cX17_holds 37 = .ok (.goto 35, 3) := dk_167 0 35 (dk_at dksX17_holds_1 13 rfl rfl)
theorem dX17_holds_40 : decode cX17_holds 40 = .ok (.aload_n 0, 1) := dk_42 (dk_at dksX17_holds_1 16 rfl rfl)
theorem dX17_holds_41 : decode cX17_holds 41 = .ok (.getfield 13, 3) := dk_180 0 13 (dk_at dksX17_holds_1 17 rfl rfl)
theorem dX17_holds_44 : decode cX17_holds 44 = .ok (.bipush 62, 2) := dk_16 62 (dk_at dksX17_holds_1 20 rfl rfl)
theorem dX17_holds_46 : decode cX17_holds 46 = .ok (.if_icmp .ne 16, 3) := dk_160 0 16 (dk_at dksX17_holds_2 0 rfl rfl)
theorem dX17_holds_49 : decode cX17_holds 49 = .ok (.iload_n 2, 1) := dk_28 (dk_at dksX17_holds_2 3 rfl rfl)
theorem dX17_holds_50 : decode cX17_holds 50 = .ok (.iload_n 3, 1) := dk_29 (dk_at dksX17_holds_2 4 rfl rfl)
theorem dX17_holds_51 : decode cX17_holds 51 = .ok (.if_icmp .le 7, 3) := dk_164 0 7 (dk_at dksX17_holds_2 5 rfl rfl)
theorem dX17_holds_54 : decode cX17_holds 54 = .ok (.iconst 1, 1) := dk_4 (dk_at dksX17_holds_2 8 rfl rfl)
theorem dX17_holds_55 : decode cX17_holds 55 = .ok (.goto 17, 3) := dk_167 0 17 (dk_at dksX17_holds_2 9 rfl rfl)
theorem dX17_holds_58 : decode cX17_holds 58 = .ok (.iconst 0, 1) := dk_3 (dk_at dksX17_holds_2 12 rfl rfl)
theorem dX17_holds_59 : decode cX17_holds 59 = .ok (.goto 13, 3) := dk_167 0 13 (dk_at dksX17_holds_2 13 rfl rfl)
theorem dX17_holds_62 : decode cX17_holds 62 = .ok (.iload_n 2, 1) := dk_28 (dk_at dksX17_holds_2 16 rfl rfl)
theorem dX17_holds_63 : decode cX17_holds 63 = .ok (.iload_n 3, 1) := dk_29 (dk_at dksX17_holds_2 17 rfl rfl)
theorem dX17_holds_64 : decode cX17_holds 64 = .ok (.if_icmp .ne 7, 3) := dk_160 0 7 (dk_at dksX17_holds_2 18 rfl rfl)
theorem dX17_holds_67 : decode cX17_holds 67 = .ok (.iconst 1, 1) := dk_4 (dk_at dksX17_holds_2 21 rfl rfl)
theorem dX17_holds_68 : decode cX17_holds 68 = .ok (.goto 4, 3) := dk_167 0 4 (dk_at dksX17_holds_3 0 rfl rfl)
theorem dX17_holds_71 : decode cX17_holds 71 = .ok (.iconst 0, 1) := dk_3 (dk_at dksX17_holds_3 3 rfl rfl)
theorem dX17_holds_72 : decode cX17_holds 72 = .ok (.ireturn, 1) := dk_172 (dk_at dksX17_holds_3 4 rfl rfl)
theorem q143 : (Jvm.Cond.initialized "BoneYard$Compared") ∈ lw_all := lw_g (lw_at lw_m1 35 rfl) rfl
theorem q1062 : (Jvm.Cond.selects "BoneYard$Compared" ({ cls := "java/lang/Object", name := "getClass", desc := "()Ljava/lang/Class;" } : Jvm.MethodName) ({ cls := "java/lang/Object", name := "getClass", desc := "()Ljava/lang/Class;" } : Jvm.MethodName)) ∈ lw_all := lw_g (lw_at lw_m4 234 rfl) rfl
theorem q1167 : (Jvm.Cond.instantiable "BoneYard$Compared" (3 : Nat)) ∈ lw_all := lw_g (lw_at lw_m5 99 rfl) rfl
theorem q1169 : (Jvm.Cond.instanceMethod ({ cls := "BoneYard$Compared", name := "<init>", desc := "(LBoneYard$Sum;ILBoneYard$Sum;)V" } : Jvm.MethodName)) ∈ lw_all := lw_g (lw_at lw_m5 101 rfl) rfl
theorem q1170 : (Jvm.Cond.code ({ cls := "BoneYard$Compared", name := "<init>", desc := "(LBoneYard$Sum;ILBoneYard$Sum;)V" } : Jvm.MethodName) prog_6_method_1_code (4 : Nat) (Option.none : Option Jvm.ClassFile.FieldType)) ∈ lw_all := lw_g (lw_at lw_m5 102 rfl) rfl
theorem q1171 : (Jvm.Cond.methodLinkNest "BoneYard$Compared" (1 : Nat) ({ cls := "BoneYard$Cond", name := "<init>", desc := "()V" } : Jvm.MethodName) "BoneYard") ∈ lw_tbl := lw_at lw_m5 103 rfl
theorem q1172 : (Jvm.Cond.fieldLink "BoneYard$Compared" (7 : Nat) "BoneYard$Compared" "a" "LBoneYard$Sum;") ∈ lw_all := lw_g (lw_at lw_m5 104 rfl) rfl
theorem q1173 : (Jvm.Cond.fieldLink "BoneYard$Compared" (17 : Nat) "BoneYard$Compared" "b" "LBoneYard$Sum;") ∈ lw_all := lw_g (lw_at lw_m5 105 rfl) rfl
theorem q1174 : (Jvm.Cond.fieldLink "BoneYard$Compared" (13 : Nat) "BoneYard$Compared" "sign" "I") ∈ lw_all := lw_g (lw_at lw_m5 106 rfl) rfl
theorem q1175 : (Jvm.Cond.laysFinal "BoneYard$Compared" "BoneYard$Compared" "a" "LBoneYard$Sum;") ∈ lw_all := lw_g (lw_at lw_m5 107 rfl) rfl
theorem q1176 : (Jvm.Cond.soleField "BoneYard$Compared" "a") ∈ lw_all := lw_g (lw_at lw_m5 108 rfl) rfl
theorem q1177 : (Jvm.Cond.laysFinal "BoneYard$Compared" "BoneYard$Compared" "b" "LBoneYard$Sum;") ∈ lw_all := lw_g (lw_at lw_m5 109 rfl) rfl
theorem q1178 : (Jvm.Cond.soleField "BoneYard$Compared" "b") ∈ lw_all := lw_g (lw_at lw_m5 110 rfl) rfl
theorem q1179 : (Jvm.Cond.laysFinal "BoneYard$Compared" "BoneYard$Compared" "sign" "I") ∈ lw_all := lw_g (lw_at lw_m5 111 rfl) rfl
theorem q1180 : (Jvm.Cond.soleField "BoneYard$Compared" "sign") ∈ lw_all := lw_g (lw_at lw_m5 112 rfl) rfl
theorem q1181 : (Jvm.Cond.superclass "BoneYard$Compared" "BoneYard$Cond") ∈ lw_all := lw_g (lw_at lw_m5 113 rfl) rfl
theorem q1259 : (Jvm.Cond.instanceMethod ({ cls := "BoneYard$Compared", name := "holds", desc := "(LBoneYard$Bone;)Z" } : Jvm.MethodName)) ∈ lw_all := lw_g (lw_at lw_m5 191 rfl) rfl
theorem q1260 : (Jvm.Cond.code ({ cls := "BoneYard$Compared", name := "holds", desc := "(LBoneYard$Bone;)Z" } : Jvm.MethodName) prog_6_method_2_code (4 : Nat) (Option.some Jvm.ClassFile.FieldType.boolean)) ∈ lw_all := lw_g (lw_at lw_m5 192 rfl) rfl
theorem q1261 : (Jvm.Cond.methodLink "BoneYard$Compared" (20 : Nat) ({ cls := "BoneYard$Sum", name := "value", desc := "(LBoneYard$Bone;)I" } : Jvm.MethodName)) ∈ lw_all := lw_g (lw_at lw_m5 193 rfl) rfl
theorem q1292 : (Jvm.Cond.selects "BoneYard$Compared" ({ cls := "BoneYard$Cond", name := "holds", desc := "(LBoneYard$Bone;)Z" } : Jvm.MethodName) ({ cls := "BoneYard$Compared", name := "holds", desc := "(LBoneYard$Bone;)Z" } : Jvm.MethodName)) ∈ lw_all := lw_g (lw_at lw_m5 224 rfl) rfl
theorem q2125 : (Jvm.Cond.castable "BoneYard$Compared" "BoneYard$Cond") ∈ lw_tbl := lw_at lw_m9 97 rfl
theorem q2148 : (Jvm.Cond.castable "BoneYard$Compared" "java/lang/Object") ∈ lw_tbl := lw_at lw_m9 120 rfl
theorem in_X17 : ∀ w ∈ wsX170, w ∈ lw_all := lw_in wsX170 [1175, 1177, 1179] (by decide +kernel) (by decide +kernel)
/-! BoneYard$Goal -/
set_option maxRecDepth 100000
def RX18 : String := "BoneYard$Goal"
def TX18 : u_T := fun k => match k with
  | 0 => ("BoneYard$Goal", "step", "I", true)
  | 1 => ("BoneYard$Goal", "name", "I", true)
  | _ => ("BoneYard$Goal", "place", "I", true)
def tyX18 : Nat → FieldType := fun k => match k with
  | 0 => .int
  | 1 => .int
  | _ => .int
abbrev wsX180 : List Cond := u_ws RX18 TX18 3
theorem nmX18 : ∀ a, a < 3 → ∀ b, b < 3 → a ≠ b → (TX18 a).2.1 ≠ (TX18 b).2.1 := by decide +kernel
theorem tyX18_ok : ∀ k, k < 3 → parseFieldDescriptor (TX18 k).2.2.1 = some (tyX18 k) := by decide +kernel
abbrev cX18_init : ByteArray := prog_9_method_1_code
def yX18_init : MethodName := ⟨RX18, "<init>", "(III)V"⟩
def dkwX18_init_0 : List UInt8 := [42, 183, 0, 1, 42, 27, 181, 0, 7, 42, 28, 181, 0, 13, 42, 29, 181, 0, 16, 177]
abbrev dktX18_init_0 : List UInt8 := dkwX18_init_0 ++ []
theorem dksX18_init_0 : cX18_init.data.toList.drop 0 = dktX18_init_0 := by decide +kernel
theorem dX18_init_0 : decode cX18_init 0 = .ok (.aload_n 0, 1) := dk_42 (dk_at dksX18_init_0 0 rfl rfl)
theorem dX18_init_1 : decode cX18_init 1 = .ok (.invokespecial 1, 3) := dk_183 0 1 (dk_at dksX18_init_0 1 rfl rfl)
theorem dX18_init_4 : decode cX18_init 4 = .ok (.aload_n 0, 1) := dk_42 (dk_at dksX18_init_0 4 rfl rfl)
theorem dX18_init_5 : decode cX18_init 5 = .ok (.iload_n 1, 1) := dk_27 (dk_at dksX18_init_0 5 rfl rfl)
theorem dX18_init_6 : decode cX18_init 6 = .ok (.putfield 7, 3) := dk_181 0 7 (dk_at dksX18_init_0 6 rfl rfl)
theorem dX18_init_9 : decode cX18_init 9 = .ok (.aload_n 0, 1) := dk_42 (dk_at dksX18_init_0 9 rfl rfl)
theorem dX18_init_10 : decode cX18_init 10 = .ok (.iload_n 2, 1) := dk_28 (dk_at dksX18_init_0 10 rfl rfl)
theorem dX18_init_11 : decode cX18_init 11 = .ok (.putfield 13, 3) := dk_181 0 13 (dk_at dksX18_init_0 11 rfl rfl)
theorem dX18_init_14 : decode cX18_init 14 = .ok (.aload_n 0, 1) := dk_42 (dk_at dksX18_init_0 14 rfl rfl)
theorem dX18_init_15 : decode cX18_init 15 = .ok (.iload_n 3, 1) := dk_29 (dk_at dksX18_init_0 15 rfl rfl)
theorem dX18_init_16 : decode cX18_init 16 = .ok (.putfield 16, 3) := dk_181 0 16 (dk_at dksX18_init_0 16 rfl rfl)
theorem dX18_init_19 : decode cX18_init 19 = .ok (.return_, 1) := dk_177 (dk_at dksX18_init_0 19 rfl rfl)
theorem q144 : (Jvm.Cond.initialized "BoneYard$Goal") ∈ lw_all := lw_g (lw_at lw_m1 36 rfl) rfl
theorem q1064 : (Jvm.Cond.selects "BoneYard$Goal" ({ cls := "java/lang/Object", name := "getClass", desc := "()Ljava/lang/Class;" } : Jvm.MethodName) ({ cls := "java/lang/Object", name := "getClass", desc := "()Ljava/lang/Class;" } : Jvm.MethodName)) ∈ lw_all := lw_g (lw_at lw_m4 236 rfl) rfl
theorem q1191 : (Jvm.Cond.instantiable "BoneYard$Goal" (3 : Nat)) ∈ lw_all := lw_g (lw_at lw_m5 123 rfl) rfl
theorem q1193 : (Jvm.Cond.instanceMethod ({ cls := "BoneYard$Goal", name := "<init>", desc := "(III)V" } : Jvm.MethodName)) ∈ lw_all := lw_g (lw_at lw_m5 125 rfl) rfl
theorem q1194 : (Jvm.Cond.code ({ cls := "BoneYard$Goal", name := "<init>", desc := "(III)V" } : Jvm.MethodName) prog_9_method_1_code (4 : Nat) (Option.none : Option Jvm.ClassFile.FieldType)) ∈ lw_all := lw_g (lw_at lw_m5 126 rfl) rfl
theorem q1195 : (Jvm.Cond.methodLink "BoneYard$Goal" (1 : Nat) ({ cls := "java/lang/Object", name := "<init>", desc := "()V" } : Jvm.MethodName)) ∈ lw_all := lw_g (lw_at lw_m5 127 rfl) rfl
theorem q1196 : (Jvm.Cond.fieldLink "BoneYard$Goal" (7 : Nat) "BoneYard$Goal" "step" "I") ∈ lw_all := lw_g (lw_at lw_m5 128 rfl) rfl
theorem q1199 : (Jvm.Cond.fieldLink "BoneYard$Goal" (13 : Nat) "BoneYard$Goal" "name" "I") ∈ lw_all := lw_g (lw_at lw_m5 131 rfl) rfl
theorem q1201 : (Jvm.Cond.fieldLink "BoneYard$Goal" (16 : Nat) "BoneYard$Goal" "place" "I") ∈ lw_all := lw_g (lw_at lw_m5 133 rfl) rfl
theorem q1203 : (Jvm.Cond.laysFinal "BoneYard$Goal" "BoneYard$Goal" "step" "I") ∈ lw_all := lw_g (lw_at lw_m5 135 rfl) rfl
theorem q1204 : (Jvm.Cond.soleField "BoneYard$Goal" "step") ∈ lw_all := lw_g (lw_at lw_m5 136 rfl) rfl
theorem q1205 : (Jvm.Cond.laysFinal "BoneYard$Goal" "BoneYard$Goal" "name" "I") ∈ lw_all := lw_g (lw_at lw_m5 137 rfl) rfl
theorem q1206 : (Jvm.Cond.soleField "BoneYard$Goal" "name") ∈ lw_all := lw_g (lw_at lw_m5 138 rfl) rfl
theorem q1207 : (Jvm.Cond.laysFinal "BoneYard$Goal" "BoneYard$Goal" "place" "I") ∈ lw_all := lw_g (lw_at lw_m5 139 rfl) rfl
theorem q1208 : (Jvm.Cond.soleField "BoneYard$Goal" "place") ∈ lw_all := lw_g (lw_at lw_m5 140 rfl) rfl
theorem q1209 : (Jvm.Cond.superclass "BoneYard$Goal" "java/lang/Object") ∈ lw_all := lw_g (lw_at lw_m5 141 rfl) rfl
theorem q2149 : (Jvm.Cond.castable "BoneYard$Goal" "java/lang/Object") ∈ lw_tbl := lw_at lw_m9 121 rfl
theorem in_X18 : ∀ w ∈ wsX180, w ∈ lw_all := lw_in wsX180 [1203, 1205, 1207] (by decide +kernel) (by decide +kernel)
