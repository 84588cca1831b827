/-! BoneYard -/
set_option maxRecDepth 100000
def RX0 : String := "BoneYard"
def TX0 : u_T := fun k => match k with
  | 0 => ("BoneYard", "rows", "[LBoneYard$Row;", true)
  | 1 => ("BoneYard", "elements", "[LBoneYard$Element;", true)
  | 2 => ("BoneYard", "bones", "[LBoneYard$Bone;", true)
  | 3 => ("BoneYard", "meats", "[I", true)
  | 4 => ("BoneYard", "coin", "[I", true)
  | 5 => ("BoneYard", "seal", "[I", true)
  | 6 => ("BoneYard", "elementMany", "I", false)
  | 7 => ("BoneYard", "boneMany", "I", false)
  | 8 => ("BoneYard", "layerMany", "I", false)
  | 9 => ("BoneYard", "near", "I", false)
  | 10 => ("BoneYard", "beyond", "I", false)
  | 11 => ("BoneYard", "overA", "[I", true)
  | 12 => ("BoneYard", "overB", "[I", true)
  | 13 => ("BoneYard", "ways", "I", false)
  | 14 => ("BoneYard", "overs", "I", false)
  | 15 => ("BoneYard", "joints", "I", false)
  | 16 => ("BoneYard", "least", "[I", true)
  | 17 => ("BoneYard", "greatest", "[I", true)
  | 18 => ("BoneYard", "reaches", "[[Z", true)
  | 19 => ("BoneYard", "tape", "[B", true)
  | 20 => ("BoneYard", "taped", "I", false)
  | 21 => ("BoneYard", "fault", "I", false)
  | 22 => ("BoneYard", "faultAt", "I", false)
  | 23 => ("BoneYard", "keyMany", "I", false)
  | 24 => ("BoneYard", "wasRead", "Z", false)
  | 25 => ("BoneYard", "reader", "LBoneYard$Reader;", true)
  | 26 => ("BoneYard", "keys", "[LBoneYard$Key;", true)
  | 27 => ("BoneYard", "name", "[I", true)
  | 28 => ("BoneYard", "with", "[I", true)
  | 29 => ("BoneYard", "partners", "[I", true)
  | 30 => ("BoneYard", "asked", "[I", true)
  | 31 => ("BoneYard", "round", "I", false)
  | 32 => ("BoneYard", "paired", "I", false)
  | 33 => ("BoneYard", "begin", "[I", true)
  | 34 => ("BoneYard", "first", "[I", true)
  | 35 => ("BoneYard", "last", "[I", true)
  | 36 => ("BoneYard", "tellers", "I", false)
  | 37 => ("BoneYard", "share", "[[I", true)
  | 38 => ("BoneYard", "herdMany", "I", false)
  | 39 => ("BoneYard", "most", "[[I", true)
  | _ => ("BoneYard", "size", "[I", true)
def tyX0 : Nat → FieldType := fun k => match k with
  | 0 => .array (.object "BoneYard$Row")
  | 1 => .array (.object "BoneYard$Element")
  | 2 => .array (.object "BoneYard$Bone")
  | 3 => .array .int
  | 4 => .array .int
  | 5 => .array .int
  | 6 => .int
  | 7 => .int
  | 8 => .int
  | 9 => .int
  | 10 => .int
  | 11 => .array .int
  | 12 => .array .int
  | 13 => .int
  | 14 => .int
  | 15 => .int
  | 16 => .array .int
  | 17 => .array .int
  | 18 => .array (.array .boolean)
  | 19 => .array .byte
  | 20 => .int
  | 21 => .int
  | 22 => .int
  | 23 => .int
  | 24 => .boolean
  | 25 => .object "BoneYard$Reader"
  | 26 => .array (.object "BoneYard$Key")
  | 27 => .array .int
  | 28 => .array .int
  | 29 => .array .int
  | 30 => .array .int
  | 31 => .int
  | 32 => .int
  | 33 => .array .int
  | 34 => .array .int
  | 35 => .array .int
  | 36 => .int
  | 37 => .array (.array .int)
  | 38 => .int
  | 39 => .array (.array .int)
  | _ => .array .int
abbrev wsX00 : List Cond := u_ws RX0 TX0 41
set_option maxRecDepth 100000 in
theorem nmX0 : ∀ a, a < 41 → ∀ b, b < 41 → a ≠ b → (TX0 a).2.1 ≠ (TX0 b).2.1 := by decide +kernel
set_option maxRecDepth 100000 in
theorem tyX0_ok : ∀ k, k < 41 → parseFieldDescriptor (TX0 k).2.2.1 = some (tyX0 k) := by decide +kernel
abbrev cX0_row : ByteArray := prog_1_method_3_code
def yX0_row : MethodName := ⟨RX0, "row", "(III)I"⟩
def dkwX0_row_2 : List UInt8 := [16, 253, 172]
abbrev dktX0_row_2 : List UInt8 := dkwX0_row_2 ++ []
def dkwX0_row_1 : List UInt8 := [164, 0, 6, 16, 254, 172, 42, 180, 0, 13, 27, 50, 28, 29, 182, 0, 17, 153, 0, 7, 3, 167, 0, 5]
abbrev dktX0_row_1 : List UInt8 := dkwX0_row_1 ++ dktX0_row_2
def dkwX0_row_0 : List UInt8 := [27, 184, 0, 9, 153, 0, 21, 28, 133, 9, 20, 0, 3, 184, 0, 5, 153, 0, 9, 29, 16, 60]
abbrev dktX0_row_0 : List UInt8 := dkwX0_row_0 ++ dktX0_row_1
theorem dksX0_row_0 : cX0_row.data.toList.drop 0 = dktX0_row_0 := by decide +kernel
theorem dksX0_row_1 : cX0_row.data.toList.drop 22 = dktX0_row_1 := dk_seg dksX0_row_0 22 rfl rfl
theorem dksX0_row_2 : cX0_row.data.toList.drop 46 = dktX0_row_2 := dk_seg dksX0_row_1 24 rfl rfl
theorem dX0_row_0 : decode cX0_row 0 = .ok (.iload_n 1, 1) := dk_27 (dk_at dksX0_row_0 0 rfl rfl)
theorem dX0_row_1 : decode cX0_row 1 = .ok (.invokestatic 9, 3) := dk_184 0 9 (dk_at dksX0_row_0 1 rfl rfl)
theorem dX0_row_4 : decode cX0_row 4 = .ok (.ifCond .eq 21, 3) := dk_153 0 21 (dk_at dksX0_row_0 4 rfl rfl)
theorem dX0_row_7 : decode cX0_row 7 = .ok (.iload_n 2, 1) := dk_28 (dk_at dksX0_row_0 7 rfl rfl)
theorem dX0_row_8 : decode cX0_row 8 = .ok (.i2l, 1) := dk_133 (dk_at dksX0_row_0 8 rfl rfl)
theorem dX0_row_9 : decode cX0_row 9 = .ok (.lconst 0, 1) := dk_9 (dk_at dksX0_row_0 9 rfl rfl)
theorem dX0_row_10 : decode cX0_row 10 = .ok (.ldc2_w 3, 3) := dk_20 0 3 (dk_at dksX0_row_0 10 rfl rfl)
theorem dX0_row_13 : decode cX0_row 13 = .ok (.invokestatic 5, 3) := dk_184 0 5 (dk_at dksX0_row_0 13 rfl rfl)
theorem dX0_row_16 : decode cX0_row 16 = .ok (.ifCond .eq 9, 3) := dk_153 0 9 (dk_at dksX0_row_0 16 rfl rfl)
theorem dX0_row_19 : decode cX0_row 19 = .ok (.iload_n 3, 1) := dk_29 (dk_at dksX0_row_0 19 rfl rfl)
theorem dX0_row_20 : decode cX0_row 20 = .ok (.bipush 60, 2) := dk_16 60 (dk_at dksX0_row_0 20 rfl rfl)
theorem dX0_row_22 : decode cX0_row 22 = .ok (.if_icmp .le 6, 3) := dk_164 0 6 (dk_at dksX0_row_1 0 rfl rfl)
theorem dX0_row_25 : decode cX0_row 25 = .ok (.bipush (-2), 2) := dk_16 254 (dk_at dksX0_row_1 3 rfl rfl)
theorem dX0_row_27 : decode cX0_row 27 = .ok (.ireturn, 1) := dk_172 (dk_at dksX0_row_1 5 rfl rfl)
theorem dX0_row_28 : decode cX0_row 28 = .ok (.aload_n 0, 1) := dk_42 (dk_at dksX0_row_1 6 rfl rfl)
theorem dX0_row_29 : decode cX0_row 29 = .ok (.getfield 13, 3) := dk_180 0 13 (dk_at dksX0_row_1 7 rfl rfl)
theorem dX0_row_32 : decode cX0_row 32 = .ok (.iload_n 1, 1) := dk_27 (dk_at dksX0_row_1 10 rfl rfl)
theorem dX0_row_33 : decode cX0_row 33 = .ok (.aaload, 1) := dk_50 (dk_at dksX0_row_1 11 rfl rfl)
theorem dX0_row_34 : decode cX0_row 34 = .ok (.iload_n 2, 1) := dk_28 (dk_at dksX0_row_1 12 rfl rfl)
theorem dX0_row_35 : decode cX0_row 35 = .ok (.iload_n 3, 1) := dk_29 (dk_at dksX0_row_1 13 rfl rfl)
theorem dX0_row_36 : decode cX0_row 36 = .ok (.invokevirtual 17, 3) := dk_182 0 17 (dk_at dksX0_row_1 14 rfl rfl)
theorem dX0_row_39 : decode cX0_row 39 = .ok (.ifCond .eq 7, 3) := dk_153 0 7 (dk_at dksX0_row_1 17 rfl rfl)
theorem dX0_row_42 : decode cX0_row 42 = .ok (.iconst 0, 1) := dk_3 (dk_at dksX0_row_1 20 rfl rfl)
theorem dX0_row_43 : decode cX0_row 43 = .ok (.goto 5, 3) := dk_167 0 5 (dk_at dksX0_row_1 21 rfl rfl)
theorem dX0_row_46 : decode cX0_row 46 = .ok (.bipush (-3), 2) := dk_16 253 (dk_at dksX0_row_2 0 rfl rfl)
theorem dX0_row_48 : decode cX0_row 48 = .ok (.ireturn, 1) := dk_172 (dk_at dksX0_row_2 2 rfl rfl)
abbrev cX0_isPlace : ByteArray := prog_1_method_2_code
def yX0_isPlace : MethodName := ⟨RX0, "isPlace", "(I)Z"⟩
def dkwX0_isPlace_0 : List UInt8 := [26, 133, 9, 20, 0, 3, 184, 0, 5, 172]
abbrev dktX0_isPlace_0 : List UInt8 := dkwX0_isPlace_0 ++ []
theorem dksX0_isPlace_0 : cX0_isPlace.data.toList.drop 0 = dktX0_isPlace_0 := by decide +kernel
theorem dX0_isPlace_0 : decode cX0_isPlace 0 = .ok (.iload_n 0, 1) := dk_26 (dk_at dksX0_isPlace_0 0 rfl rfl)
theorem dX0_isPlace_1 : decode cX0_isPlace 1 = .ok (.i2l, 1) := dk_133 (dk_at dksX0_isPlace_0 1 rfl rfl)
theorem dX0_isPlace_2 : decode cX0_isPlace 2 = .ok (.lconst 0, 1) := dk_9 (dk_at dksX0_isPlace_0 2 rfl rfl)
theorem dX0_isPlace_3 : decode cX0_isPlace 3 = .ok (.ldc2_w 3, 3) := dk_20 0 3 (dk_at dksX0_isPlace_0 3 rfl rfl)
theorem dX0_isPlace_6 : decode cX0_isPlace 6 = .ok (.invokestatic 5, 3) := dk_184 0 5 (dk_at dksX0_isPlace_0 6 rfl rfl)
theorem dX0_isPlace_9 : decode cX0_isPlace 9 = .ok (.ireturn, 1) := dk_172 (dk_at dksX0_isPlace_0 9 rfl rfl)
abbrev cX0_in : ByteArray := prog_1_method_1_code
def yX0_in : MethodName := ⟨RX0, "in", "(JJJ)Z"⟩
def dkwX0_in_0 : List UInt8 := [30, 32, 148, 155, 0, 14, 30, 22, 4, 148, 157, 0, 7, 4, 167, 0, 4, 3, 172]
abbrev dktX0_in_0 : List UInt8 := dkwX0_in_0 ++ []
theorem dksX0_in_0 : cX0_in.data.toList.drop 0 = dktX0_in_0 := by decide +kernel
theorem dX0_in_0 : decode cX0_in 0 = .ok (.lload_n 0, 1) := dk_30 (dk_at dksX0_in_0 0 rfl rfl)
theorem dX0_in_1 : decode cX0_in 1 = .ok (.lload_n 2, 1) := dk_32 (dk_at dksX0_in_0 1 rfl rfl)
theorem dX0_in_2 : decode cX0_in 2 = .ok (.lcmp, 1) := dk_148 (dk_at dksX0_in_0 2 rfl rfl)
theorem dX0_in_3 : decode cX0_in 3 = .ok (.ifCond .lt 14, 3) := dk_155 0 14 (dk_at dksX0_in_0 3 rfl rfl)
theorem dX0_in_6 : decode cX0_in 6 = .ok (.lload_n 0, 1) := dk_30 (dk_at dksX0_in_0 6 rfl rfl)
theorem dX0_in_7 : decode cX0_in 7 = .ok (.lload 4, 2) := dk_22 4 (dk_at dksX0_in_0 7 rfl rfl)
theorem dX0_in_9 : decode cX0_in 9 = .ok (.lcmp, 1) := dk_148 (dk_at dksX0_in_0 9 rfl rfl)
theorem dX0_in_10 : decode cX0_in 10 = .ok (.ifCond .gt 7, 3) := dk_157 0 7 (dk_at dksX0_in_0 10 rfl rfl)
theorem dX0_in_13 : decode cX0_in 13 = .ok (.iconst 1, 1) := dk_4 (dk_at dksX0_in_0 13 rfl rfl)
theorem dX0_in_14 : decode cX0_in 14 = .ok (.goto 4, 3) := dk_167 0 4 (dk_at dksX0_in_0 14 rfl rfl)
theorem dX0_in_17 : decode cX0_in 17 = .ok (.iconst 0, 1) := dk_3 (dk_at dksX0_in_0 17 rfl rfl)
theorem dX0_in_18 : decode cX0_in 18 = .ok (.ireturn, 1) := dk_172 (dk_at dksX0_in_0 18 rfl rfl)
abbrev cX0_tear : ByteArray := prog_1_method_4_code
def yX0_tear : MethodName := ⟨RX0, "tear", "(I)Z"⟩
def dkwX0_tear_1 : List UInt8 := [180, 0, 13, 27, 50, 1, 181, 0, 23, 4, 172]
abbrev dktX0_tear_1 : List UInt8 := dkwX0_tear_1 ++ []
def dkwX0_tear_0 : List UInt8 := [27, 184, 0, 9, 153, 0, 15, 42, 180, 0, 13, 27, 50, 180, 0, 23, 199, 0, 5, 3, 172, 42]
abbrev dktX0_tear_0 : List UInt8 := dkwX0_tear_0 ++ dktX0_tear_1
theorem dksX0_tear_0 : cX0_tear.data.toList.drop 0 = dktX0_tear_0 := by decide +kernel
theorem dksX0_tear_1 : cX0_tear.data.toList.drop 22 = dktX0_tear_1 := dk_seg dksX0_tear_0 22 rfl rfl
theorem dX0_tear_0 : decode cX0_tear 0 = .ok (.iload_n 1, 1) := dk_27 (dk_at dksX0_tear_0 0 rfl rfl)
theorem dX0_tear_1 : decode cX0_tear 1 = .ok (.invokestatic 9, 3) := dk_184 0 9 (dk_at dksX0_tear_0 1 rfl rfl)
theorem dX0_tear_4 : decode cX0_tear 4 = .ok (.ifCond .eq 15, 3) := dk_153 0 15 (dk_at dksX0_tear_0 4 rfl rfl)
theorem dX0_tear_7 : decode cX0_tear 7 = .ok (.aload_n 0, 1) := dk_42 (dk_at dksX0_tear_0 7 rfl rfl)
theorem dX0_tear_8 : decode cX0_tear 8 = .ok (.getfield 13, 3) := dk_180 0 13 (dk_at dksX0_tear_0 8 rfl rfl)
theorem dX0_tear_11 : decode cX0_tear 11 = .ok (.iload_n 1, 1) := dk_27 (dk_at dksX0_tear_0 11 rfl rfl)
theorem dX0_tear_12 : decode cX0_tear 12 = .ok (.aaload, 1) := dk_50 (dk_at dksX0_tear_0 12 rfl rfl)
theorem dX0_tear_13 : decode cX0_tear 13 = .ok (.getfield 23, 3) := dk_180 0 23 (dk_at dksX0_tear_0 13 rfl rfl)
theorem dX0_tear_16 : decode cX0_tear 16 = .ok (.ifnonnull 5, 3) := dk_199 0 5 (dk_at dksX0_tear_0 16 rfl rfl)
theorem dX0_tear_19 : decode cX0_tear 19 = .ok (.iconst 0, 1) := dk_3 (dk_at dksX0_tear_0 19 rfl rfl)
theorem dX0_tear_20 : decode cX0_tear 20 = .ok (.ireturn, 1) := dk_172 (dk_at dksX0_tear_0 20 rfl rfl)
theorem dX0_tear_21 : decode cX0_tear 21 = .ok (.aload_n 0, 1) := dk_42 (dk_at dksX0_tear_0 21 rfl rfl)
theorem dX0_tear_22 : decode cX0_tear 22 = .ok (.getfield 13, 3) := dk_180 0 13 (dk_at dksX0_tear_1 0 rfl rfl)
theorem dX0_tear_25 : decode cX0_tear 25 = .ok (.iload_n 1, 1) := dk_27 (dk_at dksX0_tear_1 3 rfl rfl)
theorem dX0_tear_26 : decode cX0_tear 26 = .ok (.aaload, 1) := dk_50 (dk_at dksX0_tear_1 4 rfl rfl)
theorem dX0_tear_27 : decode cX0_tear 27 = .ok (.aconst_null, 1) := dk_1 (dk_at dksX0_tear_1 5 rfl rfl)
theorem dX0_tear_28 : decode cX0_tear 28 = .ok (.putfield 23, 3) := dk_181 0 23 (dk_at dksX0_tear_1 6 rfl rfl)
theorem dX0_tear_31 : decode cX0_tear 31 = .ok (.iconst 1, 1) := dk_4 (dk_at dksX0_tear_1 9 rfl rfl)
theorem dX0_tear_32 : decode cX0_tear 32 = .ok (.ireturn, 1) := dk_172 (dk_at dksX0_tear_1 10 rfl rfl)
abbrev cX0_write : ByteArray := prog_1_method_5_code
def yX0_write : MethodName := ⟨RX0, "write", "(IIJ)I"⟩
def dkwX0_write_0 : List UInt8 := [27, 184, 0, 9, 153, 0, 17, 42, 180, 0, 13, 27, 50, 28, 33, 182, 0, 27, 167, 0, 5, 16, 254, 172]
abbrev dktX0_write_0 : List UInt8 := dkwX0_write_0 ++ []
theorem dksX0_write_0 : cX0_write.data.toList.drop 0 = dktX0_write_0 := by decide +kernel
theorem dX0_write_0 : decode cX0_write 0 = .ok (.iload_n 1, 1) := dk_27 (dk_at dksX0_write_0 0 rfl rfl)
theorem dX0_write_1 : decode cX0_write 1 = .ok (.invokestatic 9, 3) := dk_184 0 9 (dk_at dksX0_write_0 1 rfl rfl)
theorem dX0_write_4 : decode cX0_write 4 = .ok (.ifCond .eq 17, 3) := dk_153 0 17 (dk_at dksX0_write_0 4 rfl rfl)
theorem dX0_write_7 : decode cX0_write 7 = .ok (.aload_n 0, 1) := dk_42 (dk_at dksX0_write_0 7 rfl rfl)
theorem dX0_write_8 : decode cX0_write 8 = .ok (.getfield 13, 3) := dk_180 0 13 (dk_at dksX0_write_0 8 rfl rfl)
theorem dX0_write_11 : decode cX0_write 11 = .ok (.iload_n 1, 1) := dk_27 (dk_at dksX0_write_0 11 rfl rfl)
theorem dX0_write_12 : decode cX0_write 12 = .ok (.aaload, 1) := dk_50 (dk_at dksX0_write_0 12 rfl rfl)
theorem dX0_write_13 : decode cX0_write 13 = .ok (.iload_n 2, 1) := dk_28 (dk_at dksX0_write_0 13 rfl rfl)
theorem dX0_write_14 : decode cX0_write 14 = .ok (.lload_n 3, 1) := dk_33 (dk_at dksX0_write_0 14 rfl rfl)
theorem dX0_write_15 : decode cX0_write 15 = .ok (.invokevirtual 27, 3) := dk_182 0 27 (dk_at dksX0_write_0 15 rfl rfl)
theorem dX0_write_18 : decode cX0_write 18 = .ok (.goto 5, 3) := dk_167 0 5 (dk_at dksX0_write_0 18 rfl rfl)
theorem dX0_write_21 : decode cX0_write 21 = .ok (.bipush (-2), 2) := dk_16 254 (dk_at dksX0_write_0 21 rfl rfl)
theorem dX0_write_23 : decode cX0_write 23 = .ok (.ireturn, 1) := dk_172 (dk_at dksX0_write_0 23 rfl rfl)
abbrev cX0_paste : ByteArray := prog_1_method_6_code
def yX0_paste : MethodName := ⟨RX0, "paste", "(IIIII)I"⟩
def dkwX0_paste_1 : List UInt8 := [180, 0, 13, 29, 50, 21, 4, 21, 5, 182, 0, 31, 167, 0, 5, 16, 254, 172]
abbrev dktX0_paste_1 : List UInt8 := dkwX0_paste_1 ++ []
def dkwX0_paste_0 : List UInt8 := [27, 184, 0, 9, 153, 0, 33, 29, 184, 0, 9, 153, 0, 26, 42, 180, 0, 13, 27, 50, 28, 42]
abbrev dktX0_paste_0 : List UInt8 := dkwX0_paste_0 ++ dktX0_paste_1
theorem dksX0_paste_0 : cX0_paste.data.toList.drop 0 = dktX0_paste_0 := by decide +kernel
theorem dksX0_paste_1 : cX0_paste.data.toList.drop 22 = dktX0_paste_1 := dk_seg dksX0_paste_0 22 rfl rfl
theorem dX0_paste_0 : decode cX0_paste 0 = .ok (.iload_n 1, 1) := dk_27 (dk_at dksX0_paste_0 0 rfl rfl)
theorem dX0_paste_1 : decode cX0_paste 1 = .ok (.invokestatic 9, 3) := dk_184 0 9 (dk_at dksX0_paste_0 1 rfl rfl)
theorem dX0_paste_4 : decode cX0_paste 4 = .ok (.ifCond .eq 33, 3) := dk_153 0 33 (dk_at dksX0_paste_0 4 rfl rfl)
theorem dX0_paste_7 : decode cX0_paste 7 = .ok (.iload_n 3, 1) := dk_29 (dk_at dksX0_paste_0 7 rfl rfl)
theorem dX0_paste_8 : decode cX0_paste 8 = .ok (.invokestatic 9, 3) := dk_184 0 9 (dk_at dksX0_paste_0 8 rfl rfl)
theorem dX0_paste_11 : decode cX0_paste 11 = .ok (.ifCond .eq 26, 3) := dk_153 0 26 (dk_at dksX0_paste_0 11 rfl rfl)
theorem dX0_paste_14 : decode cX0_paste 14 = .ok (.aload_n 0, 1) := dk_42 (dk_at dksX0_paste_0 14 rfl rfl)
theorem dX0_paste_15 : decode cX0_paste 15 = .ok (.getfield 13, 3) := dk_180 0 13 (dk_at dksX0_paste_0 15 rfl rfl)
theorem dX0_paste_18 : decode cX0_paste 18 = .ok (.iload_n 1, 1) := dk_27 (dk_at dksX0_paste_0 18 rfl rfl)
theorem dX0_paste_19 : decode cX0_paste 19 = .ok (.aaload, 1) := dk_50 (dk_at dksX0_paste_0 19 rfl rfl)
theorem dX0_paste_20 : decode cX0_paste 20 = .ok (.iload_n 2, 1) := dk_28 (dk_at dksX0_paste_0 20 rfl rfl)
theorem dX0_paste_21 : decode cX0_paste 21 = .ok (.aload_n 0, 1) := dk_42 (dk_at dksX0_paste_0 21 rfl rfl)
theorem dX0_paste_22 : decode cX0_paste 22 = .ok (.getfield 13, 3) := dk_180 0 13 (dk_at dksX0_paste_1 0 rfl rfl)
theorem dX0_paste_25 : decode cX0_paste 25 = .ok (.iload_n 3, 1) := dk_29 (dk_at dksX0_paste_1 3 rfl rfl)
theorem dX0_paste_26 : decode cX0_paste 26 = .ok (.aaload, 1) := dk_50 (dk_at dksX0_paste_1 4 rfl rfl)
theorem dX0_paste_27 : decode cX0_paste 27 = .ok (.iload 4, 2) := dk_21 4 (dk_at dksX0_paste_1 5 rfl rfl)
theorem dX0_paste_29 : decode cX0_paste 29 = .ok (.iload 5, 2) := dk_21 5 (dk_at dksX0_paste_1 7 rfl rfl)
theorem dX0_paste_31 : decode cX0_paste 31 = .ok (.invokevirtual 31, 3) := dk_182 0 31 (dk_at dksX0_paste_1 9 rfl rfl)
theorem dX0_paste_34 : decode cX0_paste 34 = .ok (.goto 5, 3) := dk_167 0 5 (dk_at dksX0_paste_1 12 rfl rfl)
theorem dX0_paste_37 : decode cX0_paste 37 = .ok (.bipush (-2), 2) := dk_16 254 (dk_at dksX0_paste_1 15 rfl rfl)
theorem dX0_paste_39 : decode cX0_paste 39 = .ok (.ireturn, 1) := dk_172 (dk_at dksX0_paste_1 17 rfl rfl)
abbrev cX0_init : ByteArray := prog_1_method_8_code
def yX0_init : MethodName := ⟨RX0, "<init>", "()V"⟩
def dkwX0_init_13 : List UInt8 := [183, 0, 149, 83, 132, 1, 1, 167, 255, 235, 177]
abbrev dktX0_init_13 : List UInt8 := dkwX0_init_13 ++ []
def dkwX0_init_12 : List UInt8 := [16, 20, 188, 10, 181, 0, 146, 3, 60, 27, 7, 162, 0, 22, 42, 180, 0, 13, 27, 187, 0, 18, 89]
abbrev dktX0_init_12 : List UInt8 := dkwX0_init_12 ++ dktX0_init_13
def dkwX0_init_11 : List UInt8 := [16, 8, 16, 8, 197, 0, 138, 2, 181, 0, 140, 42, 16, 9, 16, 9, 197, 0, 138, 2, 181, 0, 143, 42]
abbrev dktX0_init_11 : List UInt8 := dkwX0_init_11 ++ dktX0_init_12
def dkwX0_init_10 : List UInt8 := [79, 181, 0, 129, 42, 17, 0, 200, 188, 10, 181, 0, 132, 42, 17, 0, 200, 188, 10, 181, 0, 135, 42]
abbrev dktX0_init_10 : List UInt8 := dkwX0_init_10 ++ dktX0_init_11
def dkwX0_init_9 : List UInt8 := [16, 12, 79, 89, 7, 16, 24, 79, 89, 8, 16, 36, 79, 89, 16, 6, 16, 48, 79, 89, 16, 7, 16, 72]
abbrev dktX0_init_9 : List UInt8 := dkwX0_init_9 ++ dktX0_init_10
def dkwX0_init_8 : List UInt8 := [181, 0, 126, 42, 16, 8, 188, 10, 89, 3, 3, 79, 89, 4, 5, 79, 89, 5, 16, 6, 79, 89, 6]
abbrev dktX0_init_8 : List UInt8 := dkwX0_init_8 ++ dktX0_init_9
def dkwX0_init_7 : List UInt8 := [17, 0, 200, 188, 10, 181, 0, 120, 42, 17, 0, 200, 188, 10, 181, 0, 123, 42, 17, 0, 200, 188, 10]
abbrev dktX0_init_7 : List UInt8 := dkwX0_init_7 ++ dktX0_init_8
def dkwX0_init_6 : List UInt8 := [181, 0, 107, 42, 16, 12, 189, 0, 111, 181, 0, 113, 42, 17, 0, 200, 188, 10, 181, 0, 117, 42]
abbrev dktX0_init_6 : List UInt8 := dkwX0_init_6 ++ dktX0_init_7
def dkwX0_init_5 : List UInt8 := [17, 1, 144, 188, 8, 181, 0, 95, 42, 2, 181, 0, 99, 42, 187, 0, 102, 89, 42, 183, 0, 104]
abbrev dktX0_init_5 : List UInt8 := dkwX0_init_5 ++ dktX0_init_6
def dkwX0_init_4 : List UInt8 := [181, 0, 84, 42, 16, 16, 188, 10, 181, 0, 87, 42, 16, 16, 16, 16, 197, 0, 90, 2, 181, 0, 92, 42]
abbrev dktX0_init_4 : List UInt8 := dkwX0_init_4 ++ dktX0_init_5
def dkwX0_init_3 : List UInt8 := [17, 0, 142, 188, 10, 181, 0, 78, 42, 17, 0, 142, 188, 10, 181, 0, 81, 42, 16, 16, 188, 10]
abbrev dktX0_init_3 : List UInt8 := dkwX0_init_3 ++ dktX0_init_4
def dkwX0_init_2 : List UInt8 := [181, 0, 65, 42, 16, 16, 188, 10, 181, 0, 68, 42, 5, 181, 0, 71, 42, 16, 20, 181, 0, 75, 42]
abbrev dktX0_init_2 : List UInt8 := dkwX0_init_2 ++ dktX0_init_3
def dkwX0_init_1 : List UInt8 := [17, 0, 200, 189, 0, 55, 181, 0, 57, 42, 16, 8, 188, 10, 181, 0, 61, 42, 16, 16, 188, 10]
abbrev dktX0_init_1 : List UInt8 := dkwX0_init_1 ++ dktX0_init_2
def dkwX0_init_0 : List UInt8 := [42, 183, 0, 43, 42, 7, 189, 0, 18, 181, 0, 13, 42, 16, 12, 189, 0, 49, 181, 0, 51, 42]
abbrev dktX0_init_0 : List UInt8 := dkwX0_init_0 ++ dktX0_init_1
theorem dksX0_init_0 : cX0_init.data.toList.drop 0 = dktX0_init_0 := by decide +kernel
theorem dksX0_init_1 : cX0_init.data.toList.drop 22 = dktX0_init_1 := dk_seg dksX0_init_0 22 rfl rfl
theorem dksX0_init_2 : cX0_init.data.toList.drop 44 = dktX0_init_2 := dk_seg dksX0_init_1 22 rfl rfl
theorem dksX0_init_3 : cX0_init.data.toList.drop 67 = dktX0_init_3 := dk_seg dksX0_init_2 23 rfl rfl
theorem dksX0_init_4 : cX0_init.data.toList.drop 89 = dktX0_init_4 := dk_seg dksX0_init_3 22 rfl rfl
theorem dksX0_init_5 : cX0_init.data.toList.drop 113 = dktX0_init_5 := dk_seg dksX0_init_4 24 rfl rfl
theorem dksX0_init_6 : cX0_init.data.toList.drop 135 = dktX0_init_6 := dk_seg dksX0_init_5 22 rfl rfl
theorem dksX0_init_7 : cX0_init.data.toList.drop 157 = dktX0_init_7 := dk_seg dksX0_init_6 22 rfl rfl
theorem dksX0_init_8 : cX0_init.data.toList.drop 180 = dktX0_init_8 := dk_seg dksX0_init_7 23 rfl rfl
theorem dksX0_init_9 : cX0_init.data.toList.drop 203 = dktX0_init_9 := dk_seg dksX0_init_8 23 rfl rfl
theorem dksX0_init_10 : cX0_init.data.toList.drop 227 = dktX0_init_10 := dk_seg dksX0_init_9 24 rfl rfl
theorem dksX0_init_11 : cX0_init.data.toList.drop 250 = dktX0_init_11 := dk_seg dksX0_init_10 23 rfl rfl
theorem dksX0_init_12 : cX0_init.data.toList.drop 274 = dktX0_init_12 := dk_seg dksX0_init_11 24 rfl rfl
theorem dksX0_init_13 : cX0_init.data.toList.drop 297 = dktX0_init_13 := dk_seg dksX0_init_12 23 rfl rfl
theorem dX0_init_0 : decode cX0_init 0 = .ok (.aload_n 0, 1) := dk_42 (dk_at dksX0_init_0 0 rfl rfl)
theorem dX0_init_1 : decode cX0_init 1 = .ok (.invokespecial 43, 3) := dk_183 0 43 (dk_at dksX0_init_0 1 rfl rfl)
theorem dX0_init_4 : decode cX0_init 4 = .ok (.aload_n 0, 1) := dk_42 (dk_at dksX0_init_0 4 rfl rfl)
theorem dX0_init_5 : decode cX0_init 5 = .ok (.iconst 4, 1) := dk_7 (dk_at dksX0_init_0 5 rfl rfl)
theorem dX0_init_6 : decode cX0_init 6 = .ok (.anewarray 18, 3) := dk_189 0 18 (dk_at dksX0_init_0 6 rfl rfl)
theorem dX0_init_9 : decode cX0_init 9 = .ok (.putfield 13, 3) := dk_181 0 13 (dk_at dksX0_init_0 9 rfl rfl)
theorem dX0_init_12 : decode cX0_init 12 = .ok (.aload_n 0, 1) := dk_42 (dk_at dksX0_init_0 12 rfl rfl)
theorem dX0_init_13 : decode cX0_init 13 = .ok (.bipush 12, 2) := dk_16 12 (dk_at dksX0_init_0 13 rfl rfl)
theorem dX0_init_15 : decode cX0_init 15 = .ok (.anewarray 49, 3) := dk_189 0 49 (dk_at dksX0_init_0 15 rfl rfl)
theorem dX0_init_18 : decode cX0_init 18 = .ok (.putfield 51, 3) := dk_181 0 51 (dk_at dksX0_init_0 18 rfl rfl)
theorem dX0_init_21 : decode cX0_init 21 = .ok (.aload_n 0, 1) := dk_42 (dk_at dksX0_init_0 21 rfl rfl)
theorem dX0_init_22 : decode cX0_init 22 = .ok (.sipush 200, 3) := dk_17 0 200 (dk_at dksX0_init_1 0 rfl rfl)
theorem dX0_init_25 : decode cX0_init 25 = .ok (.anewarray 55, 3) := dk_189 0 55 (dk_at dksX0_init_1 3 rfl rfl)
theorem dX0_init_28 : decode cX0_init 28 = .ok (.putfield 57, 3) := dk_181 0 57 (dk_at dksX0_init_1 6 rfl rfl)
theorem dX0_init_31 : decode cX0_init 31 = .ok (.aload_n 0, 1) := dk_42 (dk_at dksX0_init_1 9 rfl rfl)
theorem dX0_init_32 : decode cX0_init 32 = .ok (.bipush 8, 2) := dk_16 8 (dk_at dksX0_init_1 10 rfl rfl)
theorem dX0_init_34 : decode cX0_init 34 = .ok (.newarray .int, 2) := dk_188_10 (dk_at dksX0_init_1 12 rfl rfl)
theorem dX0_init_36 : decode cX0_init 36 = .ok (.putfield 61, 3) := dk_181 0 61 (dk_at dksX0_init_1 14 rfl rfl)
theorem dX0_init_39 : decode cX0_init 39 = .ok (.aload_n 0, 1) := dk_42 (dk_at dksX0_init_1 17 rfl rfl)
theorem dX0_init_40 : decode cX0_init 40 = .ok (.bipush 16, 2) := dk_16 16 (dk_at dksX0_init_1 18 rfl rfl)
theorem dX0_init_42 : decode cX0_init 42 = .ok (.newarray .int, 2) := dk_188_10 (dk_at dksX0_init_1 20 rfl rfl)
theorem dX0_init_44 : decode cX0_init 44 = .ok (.putfield 65, 3) := dk_181 0 65 (dk_at dksX0_init_2 0 rfl rfl)
theorem dX0_init_47 : decode cX0_init 47 = .ok (.aload_n 0, 1) := dk_42 (dk_at dksX0_init_2 3 rfl rfl)
theorem dX0_init_48 : decode cX0_init 48 = .ok (.bipush 16, 2) := dk_16 16 (dk_at dksX0_init_2 4 rfl rfl)
theorem dX0_init_50 : decode cX0_init 50 = .ok (.newarray .int, 2) := dk_188_10 (dk_at dksX0_init_2 6 rfl rfl)
theorem dX0_init_52 : decode cX0_init 52 = .ok (.putfield 68, 3) := dk_181 0 68 (dk_at dksX0_init_2 8 rfl rfl)
theorem dX0_init_55 : decode cX0_init 55 = .ok (.aload_n 0, 1) := dk_42 (dk_at dksX0_init_2 11 rfl rfl)
theorem dX0_init_56 : decode cX0_init 56 = .ok (.iconst 2, 1) := dk_5 (dk_at dksX0_init_2 12 rfl rfl)
theorem dX0_init_57 : decode cX0_init 57 = .ok (.putfield 71, 3) := dk_181 0 71 (dk_at dksX0_init_2 13 rfl rfl)
theorem dX0_init_60 : decode cX0_init 60 = .ok (.aload_n 0, 1) := dk_42 (dk_at dksX0_init_2 16 rfl rfl)
theorem dX0_init_61 : decode cX0_init 61 = .ok (.bipush 20, 2) := dk_16 20 (dk_at dksX0_init_2 17 rfl rfl)
theorem dX0_init_63 : decode cX0_init 63 = .ok (.putfield 75, 3) := dk_181 0 75 (dk_at dksX0_init_2 19 rfl rfl)
theorem dX0_init_66 : decode cX0_init 66 = .ok (.aload_n 0, 1) := dk_42 (dk_at dksX0_init_2 22 rfl rfl)
theorem dX0_init_67 : decode cX0_init 67 = .ok (.sipush 142, 3) := dk_17 0 142 (dk_at dksX0_init_3 0 rfl rfl)
theorem dX0_init_70 : decode cX0_init 70 = .ok (.newarray .int, 2) := dk_188_10 (dk_at dksX0_init_3 3 rfl rfl)
theorem dX0_init_72 : decode cX0_init 72 = .ok (.putfield 78, 3) := dk_181 0 78 (dk_at dksX0_init_3 5 rfl rfl)
theorem dX0_init_75 : decode cX0_init 75 = .ok (.aload_n 0, 1) := dk_42 (dk_at dksX0_init_3 8 rfl rfl)
theorem dX0_init_76 : decode cX0_init 76 = .ok (.sipush 142, 3) := dk_17 0 142 (dk_at dksX0_init_3 9 rfl rfl)
theorem dX0_init_79 : decode cX0_init 79 = .ok (.newarray .int, 2) := dk_188_10 (dk_at dksX0_init_3 12 rfl rfl)
theorem dX0_init_81 : decode cX0_init 81 = .ok (.putfield 81, 3) := dk_181 0 81 (dk_at dksX0_init_3 14 rfl rfl)
theorem dX0_init_84 : decode cX0_init 84 = .ok (.aload_n 0, 1) := dk_42 (dk_at dksX0_init_3 17 rfl rfl)
theorem dX0_init_85 : decode cX0_init 85 = .ok (.bipush 16, 2) := dk_16 16 (dk_at dksX0_init_3 18 rfl rfl)
theorem dX0_init_87 : decode cX0_init 87 = .ok (.newarray .int, 2) := dk_188_10 (dk_at dksX0_init_3 20 rfl rfl)
theorem dX0_init_89 : decode cX0_init 89 = .ok (.putfield 84, 3) := dk_181 0 84 (dk_at dksX0_init_4 0 rfl rfl)
theorem dX0_init_92 : decode cX0_init 92 = .ok (.aload_n 0, 1) := dk_42 (dk_at dksX0_init_4 3 rfl rfl)
theorem dX0_init_93 : decode cX0_init 93 = .ok (.bipush 16, 2) := dk_16 16 (dk_at dksX0_init_4 4 rfl rfl)
theorem dX0_init_95 : decode cX0_init 95 = .ok (.newarray .int, 2) := dk_188_10 (dk_at dksX0_init_4 6 rfl rfl)
theorem dX0_init_97 : decode cX0_init 97 = .ok (.putfield 87, 3) := dk_181 0 87 (dk_at dksX0_init_4 8 rfl rfl)
theorem dX0_init_100 : decode cX0_init 100 = .ok (.aload_n 0, 1) := dk_42 (dk_at dksX0_init_4 11 rfl rfl)
theorem dX0_init_101 : decode cX0_init 101 = .ok (.bipush 16, 2) := dk_16 16 (dk_at dksX0_init_4 12 rfl rfl)
theorem dX0_init_103 : decode cX0_init 103 = .ok (.bipush 16, 2) := dk_16 16 (dk_at dksX0_init_4 14 rfl rfl)
theorem dX0_init_105 : decode cX0_init 105 = .ok (.multianewarray 90 2, 4) := by decide +kernel
theorem dX0_init_109 : decode cX0_init 109 = .ok (.putfield 92, 3) := dk_181 0 92 (dk_at dksX0_init_4 20 rfl rfl)
theorem dX0_init_112 : decode cX0_init 112 = .ok (.aload_n 0, 1) := dk_42 (dk_at dksX0_init_4 23 rfl rfl)
theorem dX0_init_113 : decode cX0_init 113 = .ok (.sipush 400, 3) := dk_17 1 144 (dk_at dksX0_init_5 0 rfl rfl)
theorem dX0_init_116 : decode cX0_init 116 = .ok (.newarray .byte, 2) := dk_188_8 (dk_at dksX0_init_5 3 rfl rfl)
theorem dX0_init_118 : decode cX0_init 118 = .ok (.putfield 95, 3) := dk_181 0 95 (dk_at dksX0_init_5 5 rfl rfl)
theorem dX0_init_121 : decode cX0_init 121 = .ok (.aload_n 0, 1) := dk_42 (dk_at dksX0_init_5 8 rfl rfl)
theorem dX0_init_122 : decode cX0_init 122 = .ok (.iconst (-1), 1) := dk_2 (dk_at dksX0_init_5 9 rfl rfl)
theorem dX0_init_123 : decode cX0_init 123 = .ok (.putfield 99, 3) := dk_181 0 99 (dk_at dksX0_init_5 10 rfl rfl)
theorem dX0_init_126 : decode cX0_init 126 = .ok (.aload_n 0, 1) := dk_42 (dk_at dksX0_init_5 13 rfl rfl)
theorem dX0_init_127 : decode cX0_init 127 = .ok (.new 102, 3) := dk_187 0 102 (dk_at dksX0_init_5 14 rfl rfl)
theorem dX0_init_130 : decode cX0_init 130 = .ok (.dup, 1) := dk_89 (dk_at dksX0_init_5 17 rfl rfl)
theorem dX0_init_131 : decode cX0_init 131 = .ok (.aload_n 0, 1) := dk_42 (dk_at dksX0_init_5 18 rfl rfl)
theorem dX0_init_132 : decode cX0_init 132 = .ok (.invokespecial 104, 3) := dk_183 0 104 (dk_at dksX0_init_5 19 rfl rfl)
theorem dX0_init_135 : decode cX0_init 135 = .ok (.putfield 107, 3) := dk_181 0 107 (dk_at dksX0_init_6 0 rfl rfl)
theorem dX0_init_138 : decode cX0_init 138 = .ok (.aload_n 0, 1) := dk_42 (dk_at dksX0_init_6 3 rfl rfl)
theorem dX0_init_139 : decode cX0_init 139 = .ok (.bipush 12, 2) := dk_16 12 (dk_at dksX0_init_6 4 rfl rfl)
theorem dX0_init_141 : decode cX0_init 141 = .ok (.anewarray 111, 3) := dk_189 0 111 (dk_at dksX0_init_6 6 rfl rfl)
theorem dX0_init_144 : decode cX0_init 144 = .ok (.putfield 113, 3) := dk_181 0 113 (dk_at dksX0_init_6 9 rfl rfl)
theorem dX0_init_147 : decode cX0_init 147 = .ok (.aload_n 0, 1) := dk_42 (dk_at dksX0_init_6 12 rfl rfl)
theorem dX0_init_148 : decode cX0_init 148 = .ok (.sipush 200, 3) := dk_17 0 200 (dk_at dksX0_init_6 13 rfl rfl)
theorem dX0_init_151 : decode cX0_init 151 = .ok (.newarray .int, 2) := dk_188_10 (dk_at dksX0_init_6 16 rfl rfl)
theorem dX0_init_153 : decode cX0_init 153 = .ok (.putfield 117, 3) := dk_181 0 117 (dk_at dksX0_init_6 18 rfl rfl)
theorem dX0_init_156 : decode cX0_init 156 = .ok (.aload_n 0, 1) := dk_42 (dk_at dksX0_init_6 21 rfl rfl)
theorem dX0_init_157 : decode cX0_init 157 = .ok (.sipush 200, 3) := dk_17 0 200 (dk_at dksX0_init_7 0 rfl rfl)
theorem dX0_init_160 : decode cX0_init 160 = .ok (.newarray .int, 2) := dk_188_10 (dk_at dksX0_init_7 3 rfl rfl)
theorem dX0_init_162 : decode cX0_init 162 = .ok (.putfield 120, 3) := dk_181 0 120 (dk_at dksX0_init_7 5 rfl rfl)
theorem dX0_init_165 : decode cX0_init 165 = .ok (.aload_n 0, 1) := dk_42 (dk_at dksX0_init_7 8 rfl rfl)
theorem dX0_init_166 : decode cX0_init 166 = .ok (.sipush 200, 3) := dk_17 0 200 (dk_at dksX0_init_7 9 rfl rfl)
theorem dX0_init_169 : decode cX0_init 169 = .ok (.newarray .int, 2) := dk_188_10 (dk_at dksX0_init_7 12 rfl rfl)
theorem dX0_init_171 : decode cX0_init 171 = .ok (.putfield 123, 3) := dk_181 0 123 (dk_at dksX0_init_7 14 rfl rfl)
theorem dX0_init_174 : decode cX0_init 174 = .ok (.aload_n 0, 1) := dk_42 (dk_at dksX0_init_7 17 rfl rfl)
theorem dX0_init_175 : decode cX0_init 175 = .ok (.sipush 200, 3) := dk_17 0 200 (dk_at dksX0_init_7 18 rfl rfl)
theorem dX0_init_178 : decode cX0_init 178 = .ok (.newarray .int, 2) := dk_188_10 (dk_at dksX0_init_7 21 rfl rfl)
theorem dX0_init_180 : decode cX0_init 180 = .ok (.putfield 126, 3) := dk_181 0 126 (dk_at dksX0_init_8 0 rfl rfl)
theorem dX0_init_183 : decode cX0_init 183 = .ok (.aload_n 0, 1) := dk_42 (dk_at dksX0_init_8 3 rfl rfl)
theorem dX0_init_184 : decode cX0_init 184 = .ok (.bipush 8, 2) := dk_16 8 (dk_at dksX0_init_8 4 rfl rfl)
theorem dX0_init_186 : decode cX0_init 186 = .ok (.newarray .int, 2) := dk_188_10 (dk_at dksX0_init_8 6 rfl rfl)
theorem dX0_init_188 : decode cX0_init 188 = .ok (.dup, 1) := dk_89 (dk_at dksX0_init_8 8 rfl rfl)
theorem dX0_init_189 : decode cX0_init 189 = .ok (.iconst 0, 1) := dk_3 (dk_at dksX0_init_8 9 rfl rfl)
theorem dX0_init_190 : decode cX0_init 190 = .ok (.iconst 0, 1) := dk_3 (dk_at dksX0_init_8 10 rfl rfl)
theorem dX0_init_191 : decode cX0_init 191 = .ok (.iastore, 1) := dk_79 (dk_at dksX0_init_8 11 rfl rfl)
theorem dX0_init_192 : decode cX0_init 192 = .ok (.dup, 1) := dk_89 (dk_at dksX0_init_8 12 rfl rfl)
theorem dX0_init_193 : decode cX0_init 193 = .ok (.iconst 1, 1) := dk_4 (dk_at dksX0_init_8 13 rfl rfl)
theorem dX0_init_194 : decode cX0_init 194 = .ok (.iconst 2, 1) := dk_5 (dk_at dksX0_init_8 14 rfl rfl)
theorem dX0_init_195 : decode cX0_init 195 = .ok (.iastore, 1) := dk_79 (dk_at dksX0_init_8 15 rfl rfl)
theorem dX0_init_196 : decode cX0_init 196 = .ok (.dup, 1) := dk_89 (dk_at dksX0_init_8 16 rfl rfl)
theorem dX0_init_197 : decode cX0_init 197 = .ok (.iconst 2, 1) := dk_5 (dk_at dksX0_init_8 17 rfl rfl)
theorem dX0_init_198 : decode cX0_init 198 = .ok (.bipush 6, 2) := dk_16 6 (dk_at dksX0_init_8 18 rfl rfl)
theorem dX0_init_200 : decode cX0_init 200 = .ok (.iastore, 1) := dk_79 (dk_at dksX0_init_8 20 rfl rfl)
theorem dX0_init_201 : decode cX0_init 201 = .ok (.dup, 1) := dk_89 (dk_at dksX0_init_8 21 rfl rfl)
theorem dX0_init_202 : decode cX0_init 202 = .ok (.iconst 3, 1) := dk_6 (dk_at dksX0_init_8 22 rfl rfl)
theorem dX0_init_203 : decode cX0_init 203 = .ok (.bipush 12, 2) := dk_16 12 (dk_at dksX0_init_9 0 rfl rfl)
theorem dX0_init_205 : decode cX0_init 205 = .ok (.iastore, 1) := dk_79 (dk_at dksX0_init_9 2 rfl rfl)
theorem dX0_init_206 : decode cX0_init 206 = .ok (.dup, 1) := dk_89 (dk_at dksX0_init_9 3 rfl rfl)
theorem dX0_init_207 : decode cX0_init 207 = .ok (.iconst 4, 1) := dk_7 (dk_at dksX0_init_9 4 rfl rfl)
theorem dX0_init_208 : decode cX0_init 208 = .ok (.bipush 24, 2) := dk_16 24 (dk_at dksX0_init_9 5 rfl rfl)
theorem dX0_init_210 : decode cX0_init 210 = .ok (.iastore, 1) := dk_79 (dk_at dksX0_init_9 7 rfl rfl)
theorem dX0_init_211 : decode cX0_init 211 = .ok (.dup, 1) := dk_89 (dk_at dksX0_init_9 8 rfl rfl)
theorem dX0_init_212 : decode cX0_init 212 = .ok (.iconst 5, 1) := dk_8 (dk_at dksX0_init_9 9 rfl rfl)
theorem dX0_init_213 : decode cX0_init 213 = .ok (.bipush 36, 2) := dk_16 36 (dk_at dksX0_init_9 10 rfl rfl)
theorem dX0_init_215 : decode cX0_init 215 = .ok (.iastore, 1) := dk_79 (dk_at dksX0_init_9 12 rfl rfl)
theorem dX0_init_216 : decode cX0_init 216 = .ok (.dup, 1) := dk_89 (dk_at dksX0_init_9 13 rfl rfl)
theorem dX0_init_217 : decode cX0_init 217 = .ok (.bipush 6, 2) := dk_16 6 (dk_at dksX0_init_9 14 rfl rfl)
theorem dX0_init_219 : decode cX0_init 219 = .ok (.bipush 48, 2) := dk_16 48 (dk_at dksX0_init_9 16 rfl rfl)
theorem dX0_init_221 : decode cX0_init 221 = .ok (.iastore, 1) := dk_79 (dk_at dksX0_init_9 18 rfl rfl)
theorem dX0_init_222 : decode cX0_init 222 = .ok (.dup, 1) := dk_89 (dk_at dksX0_init_9 19 rfl rfl)
theorem dX0_init_223 : decode cX0_init 223 = .ok (.bipush 7, 2) := dk_16 7 (dk_at dksX0_init_9 20 rfl rfl)
theorem dX0_init_225 : decode cX0_init 225 = .ok (.bipush 72, 2) := dk_16 72 (dk_at dksX0_init_9 22 rfl rfl)
theorem dX0_init_227 : decode cX0_init 227 = .ok (.iastore, 1) := dk_79 (dk_at dksX0_init_10 0 rfl rfl)
theorem dX0_init_228 : decode cX0_init 228 = .ok (.putfield 129, 3) := dk_181 0 129 (dk_at dksX0_init_10 1 rfl rfl)
theorem dX0_init_231 : decode cX0_init 231 = .ok (.aload_n 0, 1) := dk_42 (dk_at dksX0_init_10 4 rfl rfl)
theorem dX0_init_232 : decode cX0_init 232 = .ok (.sipush 200, 3) := dk_17 0 200 (dk_at dksX0_init_10 5 rfl rfl)
theorem dX0_init_235 : decode cX0_init 235 = .ok (.newarray .int, 2) := dk_188_10 (dk_at dksX0_init_10 8 rfl rfl)
theorem dX0_init_237 : decode cX0_init 237 = .ok (.putfield 132, 3) := dk_181 0 132 (dk_at dksX0_init_10 10 rfl rfl)
theorem dX0_init_240 : decode cX0_init 240 = .ok (.aload_n 0, 1) := dk_42 (dk_at dksX0_init_10 13 rfl rfl)
theorem dX0_init_241 : decode cX0_init 241 = .ok (.sipush 200, 3) := dk_17 0 200 (dk_at dksX0_init_10 14 rfl rfl)
theorem dX0_init_244 : decode cX0_init 244 = .ok (.newarray .int, 2) := dk_188_10 (dk_at dksX0_init_10 17 rfl rfl)
theorem dX0_init_246 : decode cX0_init 246 = .ok (.putfield 135, 3) := dk_181 0 135 (dk_at dksX0_init_10 19 rfl rfl)
theorem dX0_init_249 : decode cX0_init 249 = .ok (.aload_n 0, 1) := dk_42 (dk_at dksX0_init_10 22 rfl rfl)
theorem dX0_init_250 : decode cX0_init 250 = .ok (.bipush 8, 2) := dk_16 8 (dk_at dksX0_init_11 0 rfl rfl)
theorem dX0_init_252 : decode cX0_init 252 = .ok (.bipush 8, 2) := dk_16 8 (dk_at dksX0_init_11 2 rfl rfl)
theorem dX0_init_254 : decode cX0_init 254 = .ok (.multianewarray 138 2, 4) := by decide +kernel
theorem dX0_init_258 : decode cX0_init 258 = .ok (.putfield 140, 3) := dk_181 0 140 (dk_at dksX0_init_11 8 rfl rfl)
theorem dX0_init_261 : decode cX0_init 261 = .ok (.aload_n 0, 1) := dk_42 (dk_at dksX0_init_11 11 rfl rfl)
theorem dX0_init_262 : decode cX0_init 262 = .ok (.bipush 9, 2) := dk_16 9 (dk_at dksX0_init_11 12 rfl rfl)
theorem dX0_init_264 : decode cX0_init 264 = .ok (.bipush 9, 2) := dk_16 9 (dk_at dksX0_init_11 14 rfl rfl)
theorem dX0_init_266 : decode cX0_init 266 = .ok (.multianewarray 138 2, 4) := by decide +kernel
theorem dX0_init_270 : decode cX0_init 270 = .ok (.putfield 143, 3) := dk_181 0 143 (dk_at dksX0_init_11 20 rfl rfl)
theorem dX0_init_273 : decode cX0_init 273 = .ok (.aload_n 0, 1) := dk_42 (dk_at dksX0_init_11 23 rfl rfl)
theorem dX0_init_274 : decode cX0_init 274 = .ok (.bipush 20, 2) := dk_16 20 (dk_at dksX0_init_12 0 rfl rfl)
theorem dX0_init_276 : decode cX0_init 276 = .ok (.newarray .int, 2) := dk_188_10 (dk_at dksX0_init_12 2 rfl rfl)
theorem dX0_init_278 : decode cX0_init 278 = .ok (.putfield 146, 3) := dk_181 0 146 (dk_at dksX0_init_12 4 rfl rfl)
theorem dX0_init_281 : decode cX0_init 281 = .ok (.iconst 0, 1) := dk_3 (dk_at dksX0_init_12 7 rfl rfl)
theorem dX0_init_282 : decode cX0_init 282 = .ok (.istore_n 1, 1) := dk_60 (dk_at dksX0_init_12 8 rfl rfl)
theorem dX0_init_283 : decode cX0_init 283 = .ok (.iload_n 1, 1) := dk_27 (dk_at dksX0_init_12 9 rfl rfl)
theorem dX0_init_284 : decode cX0_init 284 = .ok (.iconst 4, 1) := dk_7 (dk_at dksX0_init_12 10 rfl rfl)
theorem dX0_init_285 : decode cX0_init 285 = .ok (.if_icmp .ge 22, 3) := dk_162 0 22 (dk_at dksX0_init_12 11 rfl rfl)
theorem dX0_init_288 : decode cX0_init 288 = .ok (.aload_n 0, 1) := dk_42 (dk_at dksX0_init_12 14 rfl rfl)
theorem dX0_init_289 : decode cX0_init 289 = .ok (.getfield 13, 3) := dk_180 0 13 (dk_at dksX0_init_12 15 rfl rfl)
theorem dX0_init_292 : decode cX0_init 292 = .ok (.iload_n 1, 1) := dk_27 (dk_at dksX0_init_12 18 rfl rfl)
theorem dX0_init_293 : decode cX0_init 293 = .ok (.new 18, 3) := dk_187 0 18 (dk_at dksX0_init_12 19 rfl rfl)
theorem dX0_init_296 : decode cX0_init 296 = .ok (.dup, 1) := dk_89 (dk_at dksX0_init_12 22 rfl rfl)
theorem dX0_init_297 : decode cX0_init 297 = .ok (.invokespecial 149, 3) := dk_183 0 149 (dk_at dksX0_init_13 0 rfl rfl)
theorem dX0_init_300 : decode cX0_init 300 = .ok (.aastore, 1) := dk_83 (dk_at dksX0_init_13 3 rfl rfl)
theorem dX0_init_301 : decode cX0_init 301 = .ok (.iinc 1 1, 3) := dk_132 1 1 (dk_at dksX0_init_13 4 rfl rfl)
theorem dX0_init_304 : decode cX0_init 304 = .ok (.goto (-21), 3) := dk_167 255 235 (dk_at dksX0_init_13 7 rfl rfl)
theorem dX0_init_307 : decode cX0_init 307 = .ok (.return_, 1) := dk_177 (dk_at dksX0_init_13 10 rfl rfl)
abbrev cX0_terms : ByteArray := prog_1_method_14_code
def yX0_terms : MethodName := ⟨RX0, "terms", "(II)I"⟩
def dkwX0_terms_1 : List UInt8 := [16, 254, 172, 42, 27, 181, 0, 71, 42, 28, 181, 0, 75, 3, 172]
abbrev dktX0_terms_1 : List UInt8 := dkwX0_terms_1 ++ []
def dkwX0_terms_0 : List UInt8 := [27, 133, 9, 20, 0, 161, 184, 0, 5, 153, 0, 15, 28, 133, 9, 20, 0, 163, 184, 0, 5, 154, 0, 6]
abbrev dktX0_terms_0 : List UInt8 := dkwX0_terms_0 ++ dktX0_terms_1
theorem dksX0_terms_0 : cX0_terms.data.toList.drop 0 = dktX0_terms_0 := by decide +kernel
theorem dksX0_terms_1 : cX0_terms.data.toList.drop 24 = dktX0_terms_1 := dk_seg dksX0_terms_0 24 rfl rfl
theorem dX0_terms_0 : decode cX0_terms 0 = .ok (.iload_n 1, 1) := dk_27 (dk_at dksX0_terms_0 0 rfl rfl)
theorem dX0_terms_1 : decode cX0_terms 1 = .ok (.i2l, 1) := dk_133 (dk_at dksX0_terms_0 1 rfl rfl)
theorem dX0_terms_2 : decode cX0_terms 2 = .ok (.lconst 0, 1) := dk_9 (dk_at dksX0_terms_0 2 rfl rfl)
theorem dX0_terms_3 : decode cX0_terms 3 = .ok (.ldc2_w 161, 3) := dk_20 0 161 (dk_at dksX0_terms_0 3 rfl rfl)
theorem dX0_terms_6 : decode cX0_terms 6 = .ok (.invokestatic 5, 3) := dk_184 0 5 (dk_at dksX0_terms_0 6 rfl rfl)
theorem dX0_terms_9 : decode cX0_terms 9 = .ok (.ifCond .eq 15, 3) := dk_153 0 15 (dk_at dksX0_terms_0 9 rfl rfl)
theorem dX0_terms_12 : decode cX0_terms 12 = .ok (.iload_n 2, 1) := dk_28 (dk_at dksX0_terms_0 12 rfl rfl)
theorem dX0_terms_13 : decode cX0_terms 13 = .ok (.i2l, 1) := dk_133 (dk_at dksX0_terms_0 13 rfl rfl)
theorem dX0_terms_14 : decode cX0_terms 14 = .ok (.lconst 0, 1) := dk_9 (dk_at dksX0_terms_0 14 rfl rfl)
theorem dX0_terms_15 : decode cX0_terms 15 = .ok (.ldc2_w 163, 3) := dk_20 0 163 (dk_at dksX0_terms_0 15 rfl rfl)
theorem dX0_terms_18 : decode cX0_terms 18 = .ok (.invokestatic 5, 3) := dk_184 0 5 (dk_at dksX0_terms_0 18 rfl rfl)
theorem dX0_terms_21 : decode cX0_terms 21 = .ok (.ifCond .ne 6, 3) := dk_154 0 6 (dk_at dksX0_terms_0 21 rfl rfl)
theorem dX0_terms_24 : decode cX0_terms 24 = .ok (.bipush (-2), 2) := dk_16 254 (dk_at dksX0_terms_1 0 rfl rfl)
theorem dX0_terms_26 : decode cX0_terms 26 = .ok (.ireturn, 1) := dk_172 (dk_at dksX0_terms_1 2 rfl rfl)
theorem dX0_terms_27 : decode cX0_terms 27 = .ok (.aload_n 0, 1) := dk_42 (dk_at dksX0_terms_1 3 rfl rfl)
theorem dX0_terms_28 : decode cX0_terms 28 = .ok (.iload_n 1, 1) := dk_27 (dk_at dksX0_terms_1 4 rfl rfl)
theorem dX0_terms_29 : decode cX0_terms 29 = .ok (.putfield 71, 3) := dk_181 0 71 (dk_at dksX0_terms_1 5 rfl rfl)
theorem dX0_terms_32 : decode cX0_terms 32 = .ok (.aload_n 0, 1) := dk_42 (dk_at dksX0_terms_1 8 rfl rfl)
theorem dX0_terms_33 : decode cX0_terms 33 = .ok (.iload_n 2, 1) := dk_28 (dk_at dksX0_terms_1 9 rfl rfl)
theorem dX0_terms_34 : decode cX0_terms 34 = .ok (.putfield 75, 3) := dk_181 0 75 (dk_at dksX0_terms_1 10 rfl rfl)
theorem dX0_terms_37 : decode cX0_terms 37 = .ok (.iconst 0, 1) := dk_3 (dk_at dksX0_terms_1 13 rfl rfl)
theorem dX0_terms_38 : decode cX0_terms 38 = .ok (.ireturn, 1) := dk_172 (dk_at dksX0_terms_1 14 rfl rfl)
abbrev cX0_element : ByteArray := prog_1_method_15_code
def yX0_element : MethodName := ⟨RX0, "element", "(ZIIII)I"⟩
def dkwX0_element_5 : List UInt8 := [172]
abbrev dktX0_element_5 : List UInt8 := dkwX0_element_5 ++ []
def dkwX0_element_4 : List UInt8 := [21, 4, 21, 5, 183, 0, 169, 83, 42, 89, 180, 0, 150, 4, 96, 181, 0, 150, 42, 180, 0, 150, 4, 100]
abbrev dktX0_element_4 : List UInt8 := dkwX0_element_4 ++ dktX0_element_5
def dkwX0_element_3 : List UInt8 := [16, 12, 160, 0, 6, 16, 253, 172, 42, 180, 0, 51, 42, 180, 0, 150, 187, 0, 49, 89, 27, 28, 29]
abbrev dktX0_element_3 : List UInt8 := dkwX0_element_3 ++ dktX0_element_4
def dkwX0_element_2 : List UInt8 := [184, 0, 5, 153, 0, 14, 27, 153, 0, 13, 28, 5, 112, 4, 160, 0, 6, 16, 254, 172, 42, 180, 0, 150]
abbrev dktX0_element_2 : List UInt8 := dkwX0_element_2 ++ dktX0_element_3
def dkwX0_element_1 : List UInt8 := [21, 4, 133, 9, 20, 0, 167, 184, 0, 5, 153, 0, 29, 21, 5, 133, 21, 4, 133, 20, 0, 167]
abbrev dktX0_element_1 : List UInt8 := dkwX0_element_1 ++ dktX0_element_2
def dkwX0_element_0 : List UInt8 := [28, 133, 10, 20, 0, 165, 184, 0, 5, 153, 0, 54, 29, 133, 10, 20, 0, 163, 184, 0, 5, 153, 0, 42]
abbrev dktX0_element_0 : List UInt8 := dkwX0_element_0 ++ dktX0_element_1
theorem dksX0_element_0 : cX0_element.data.toList.drop 0 = dktX0_element_0 := by decide +kernel
theorem dksX0_element_1 : cX0_element.data.toList.drop 24 = dktX0_element_1 := dk_seg dksX0_element_0 24 rfl rfl
theorem dksX0_element_2 : cX0_element.data.toList.drop 46 = dktX0_element_2 := dk_seg dksX0_element_1 22 rfl rfl
theorem dksX0_element_3 : cX0_element.data.toList.drop 70 = dktX0_element_3 := dk_seg dksX0_element_2 24 rfl rfl
theorem dksX0_element_4 : cX0_element.data.toList.drop 93 = dktX0_element_4 := dk_seg dksX0_element_3 23 rfl rfl
theorem dksX0_element_5 : cX0_element.data.toList.drop 117 = dktX0_element_5 := dk_seg dksX0_element_4 24 rfl rfl
theorem dX0_element_0 : decode cX0_element 0 = .ok (.iload_n 2, 1) := dk_28 (dk_at dksX0_element_0 0 rfl rfl)
theorem dX0_element_1 : decode cX0_element 1 = .ok (.i2l, 1) := dk_133 (dk_at dksX0_element_0 1 rfl rfl)
theorem dX0_element_2 : decode cX0_element 2 = .ok (.lconst 1, 1) := dk_10 (dk_at dksX0_element_0 2 rfl rfl)
theorem dX0_element_3 : decode cX0_element 3 = .ok (.ldc2_w 165, 3) := dk_20 0 165 (dk_at dksX0_element_0 3 rfl rfl)
theorem dX0_element_6 : decode cX0_element 6 = .ok (.invokestatic 5, 3) := dk_184 0 5 (dk_at dksX0_element_0 6 rfl rfl)
theorem dX0_element_9 : decode cX0_element 9 = .ok (.ifCond .eq 54, 3) := dk_153 0 54 (dk_at dksX0_element_0 9 rfl rfl)
theorem dX0_element_12 : decode cX0_element 12 = .ok (.iload_n 3, 1) := dk_29 (dk_at dksX0_element_0 12 rfl rfl)
theorem dX0_element_13 : decode cX0_element 13 = .ok (.i2l, 1) := dk_133 (dk_at dksX0_element_0 13 rfl rfl)
theorem dX0_element_14 : decode cX0_element 14 = .ok (.lconst 1, 1) := dk_10 (dk_at dksX0_element_0 14 rfl rfl)
theorem dX0_element_15 : decode cX0_element 15 = .ok (.ldc2_w 163, 3) := dk_20 0 163 (dk_at dksX0_element_0 15 rfl rfl)
theorem dX0_element_18 : decode cX0_element 18 = .ok (.invokestatic 5, 3) := dk_184 0 5 (dk_at dksX0_element_0 18 rfl rfl)
theorem dX0_element_21 : decode cX0_element 21 = .ok (.ifCond .eq 42, 3) := dk_153 0 42 (dk_at dksX0_element_0 21 rfl rfl)
theorem dX0_element_24 : decode cX0_element 24 = .ok (.iload 4, 2) := dk_21 4 (dk_at dksX0_element_1 0 rfl rfl)
theorem dX0_element_26 : decode cX0_element 26 = .ok (.i2l, 1) := dk_133 (dk_at dksX0_element_1 2 rfl rfl)
theorem dX0_element_27 : decode cX0_element 27 = .ok (.lconst 0, 1) := dk_9 (dk_at dksX0_element_1 3 rfl rfl)
theorem dX0_element_28 : decode cX0_element 28 = .ok (.ldc2_w 167, 3) := dk_20 0 167 (dk_at dksX0_element_1 4 rfl rfl)
theorem dX0_element_31 : decode cX0_element 31 = .ok (.invokestatic 5, 3) := dk_184 0 5 (dk_at dksX0_element_1 7 rfl rfl)
theorem dX0_element_34 : decode cX0_element 34 = .ok (.ifCond .eq 29, 3) := dk_153 0 29 (dk_at dksX0_element_1 10 rfl rfl)
theorem dX0_element_37 : decode cX0_element 37 = .ok (.iload 5, 2) := dk_21 5 (dk_at dksX0_element_1 13 rfl rfl)
theorem dX0_element_39 : decode cX0_element 39 = .ok (.i2l, 1) := dk_133 (dk_at dksX0_element_1 15 rfl rfl)
theorem dX0_element_40 : decode cX0_element 40 = .ok (.iload 4, 2) := dk_21 4 (dk_at dksX0_element_1 16 rfl rfl)
theorem dX0_element_42 : decode cX0_element 42 = .ok (.i2l, 1) := dk_133 (dk_at dksX0_element_1 18 rfl rfl)
theorem dX0_element_43 : decode cX0_element 43 = .ok (.ldc2_w 167, 3) := dk_20 0 167 (dk_at dksX0_element_1 19 rfl rfl)
theorem dX0_element_46 : decode cX0_element 46 = .ok (.invokestatic 5, 3) := dk_184 0 5 (dk_at dksX0_element_2 0 rfl rfl)
theorem dX0_element_49 : decode cX0_element 49 = .ok (.ifCond .eq 14, 3) := dk_153 0 14 (dk_at dksX0_element_2 3 rfl rfl)
theorem dX0_element_52 : decode cX0_element 52 = .ok (.iload_n 1, 1) := dk_27 (dk_at dksX0_element_2 6 rfl rfl)
theorem dX0_element_53 : decode cX0_element 53 = .ok (.ifCond .eq 13, 3) := dk_153 0 13 (dk_at dksX0_element_2 7 rfl rfl)
theorem dX0_element_56 : decode cX0_element 56 = .ok (.iload_n 2, 1) := dk_28 (dk_at dksX0_element_2 10 rfl rfl)
theorem dX0_element_57 : decode cX0_element 57 = .ok (.iconst 2, 1) := dk_5 (dk_at dksX0_element_2 11 rfl rfl)
theorem dX0_element_58 : decode cX0_element 58 = .ok (.irem, 1) := dk_112 (dk_at dksX0_element_2 12 rfl rfl)
theorem dX0_element_59 : decode cX0_element 59 = .ok (.iconst 1, 1) := dk_4 (dk_at dksX0_element_2 13 rfl rfl)
theorem dX0_element_60 : decode cX0_element 60 = .ok (.if_icmp .ne 6, 3) := dk_160 0 6 (dk_at dksX0_element_2 14 rfl rfl)
theorem dX0_element_63 : decode cX0_element 63 = .ok (.bipush (-2), 2) := dk_16 254 (dk_at dksX0_element_2 17 rfl rfl)
theorem dX0_element_65 : decode cX0_element 65 = .ok (.ireturn, 1) := dk_172 (dk_at dksX0_element_2 19 rfl rfl)
theorem dX0_element_66 : decode cX0_element 66 = .ok (.aload_n 0, 1) := dk_42 (dk_at dksX0_element_2 20 rfl rfl)
theorem dX0_element_67 : decode cX0_element 67 = .ok (.getfield 150, 3) := dk_180 0 150 (dk_at dksX0_element_2 21 rfl rfl)
theorem dX0_element_70 : decode cX0_element 70 = .ok (.bipush 12, 2) := dk_16 12 (dk_at dksX0_element_3 0 rfl rfl)
theorem dX0_element_72 : decode cX0_element 72 = .ok (.if_icmp .ne 6, 3) := dk_160 0 6 (dk_at dksX0_element_3 2 rfl rfl)
theorem dX0_element_75 : decode cX0_element 75 = .ok (.bipush (-3), 2) := dk_16 253 (dk_at dksX0_element_3 5 rfl rfl)
theorem dX0_element_77 : decode cX0_element 77 = .ok (.ireturn, 1) := dk_172 (dk_at dksX0_element_3 7 rfl rfl)
theorem dX0_element_78 : decode cX0_element 78 = .ok (.aload_n 0, 1) := dk_42 (dk_at dksX0_element_3 8 rfl rfl)
theorem dX0_element_79 : decode cX0_element 79 = .ok (.getfield 51, 3) := dk_180 0 51 (dk_at dksX0_element_3 9 rfl rfl)
theorem dX0_element_82 : decode cX0_element 82 = .ok (.aload_n 0, 1) := dk_42 (dk_at dksX0_element_3 12 rfl rfl)
theorem dX0_element_83 : decode cX0_element 83 = .ok (.getfield 150, 3) := dk_180 0 150 (dk_at dksX0_element_3 13 rfl rfl)
theorem dX0_element_86 : decode cX0_element 86 = .ok (.new 49, 3) := dk_187 0 49 (dk_at dksX0_element_3 16 rfl rfl)
theorem dX0_element_89 : decode cX0_element 89 = .ok (.dup, 1) := dk_89 (dk_at dksX0_element_3 19 rfl rfl)
theorem dX0_element_90 : decode cX0_element 90 = .ok (.iload_n 1, 1) := dk_27 (dk_at dksX0_element_3 20 rfl rfl)
theorem dX0_element_91 : decode cX0_element 91 = .ok (.iload_n 2, 1) := dk_28 (dk_at dksX0_element_3 21 rfl rfl)
theorem dX0_element_92 : decode cX0_element 92 = .ok (.iload_n 3, 1) := dk_29 (dk_at dksX0_element_3 22 rfl rfl)
theorem dX0_element_93 : decode cX0_element 93 = .ok (.iload 4, 2) := dk_21 4 (dk_at dksX0_element_4 0 rfl rfl)
theorem dX0_element_95 : decode cX0_element 95 = .ok (.iload 5, 2) := dk_21 5 (dk_at dksX0_element_4 2 rfl rfl)
theorem dX0_element_97 : decode cX0_element 97 = .ok (.invokespecial 169, 3) := dk_183 0 169 (dk_at dksX0_element_4 4 rfl rfl)
theorem dX0_element_100 : decode cX0_element 100 = .ok (.aastore, 1) := dk_83 (dk_at dksX0_element_4 7 rfl rfl)
theorem dX0_element_101 : decode cX0_element 101 = .ok (.aload_n 0, 1) := dk_42 (dk_at dksX0_element_4 8 rfl rfl)
theorem dX0_element_102 : decode cX0_element 102 = .ok (.dup, 1) := dk_89 (dk_at dksX0_element_4 9 rfl rfl)
theorem dX0_element_103 : decode cX0_element 103 = .ok (.getfield 150, 3) := dk_180 0 150 (dk_at dksX0_element_4 10 rfl rfl)
theorem dX0_element_106 : decode cX0_element 106 = .ok (.iconst 1, 1) := dk_4 (dk_at dksX0_element_4 13 rfl rfl)
theorem dX0_element_107 : decode cX0_element 107 = .ok (.iadd, 1) := dk_96 (dk_at dksX0_element_4 14 rfl rfl)
theorem dX0_element_108 : decode cX0_element 108 = .ok (.putfield 150, 3) := dk_181 0 150 (dk_at dksX0_element_4 15 rfl rfl)
theorem dX0_element_111 : decode cX0_element 111 = .ok (.aload_n 0, 1) := dk_42 (dk_at dksX0_element_4 18 rfl rfl)
theorem dX0_element_112 : decode cX0_element 112 = .ok (.getfield 150, 3) := dk_180 0 150 (dk_at dksX0_element_4 19 rfl rfl)
theorem dX0_element_115 : decode cX0_element 115 = .ok (.iconst 1, 1) := dk_4 (dk_at dksX0_element_4 22 rfl rfl)
theorem dX0_element_116 : decode cX0_element 116 = .ok (.isub, 1) := dk_100 (dk_at dksX0_element_4 23 rfl rfl)
theorem dX0_element_117 : decode cX0_element 117 = .ok (.ireturn, 1) := dk_172 (dk_at dksX0_element_5 0 rfl rfl)
abbrev cX0_meat : ByteArray := prog_1_method_16_code
def yX0_meat : MethodName := ⟨RX0, "meat", "(II)I"⟩
def dkwX0_meat_1 : List UInt8 := [180, 0, 61, 27, 46, 62, 42, 180, 0, 61, 27, 28, 79, 29, 172]
abbrev dktX0_meat_1 : List UInt8 := dkwX0_meat_1 ++ []
def dkwX0_meat_0 : List UInt8 := [27, 184, 0, 172, 153, 0, 15, 28, 133, 9, 20, 0, 175, 184, 0, 5, 154, 0, 6, 16, 254, 172, 42]
abbrev dktX0_meat_0 : List UInt8 := dkwX0_meat_0 ++ dktX0_meat_1
theorem dksX0_meat_0 : cX0_meat.data.toList.drop 0 = dktX0_meat_0 := by decide +kernel
theorem dksX0_meat_1 : cX0_meat.data.toList.drop 23 = dktX0_meat_1 := dk_seg dksX0_meat_0 23 rfl rfl
theorem dX0_meat_0 : decode cX0_meat 0 = .ok (.iload_n 1, 1) := dk_27 (dk_at dksX0_meat_0 0 rfl rfl)
theorem dX0_meat_1 : decode cX0_meat 1 = .ok (.invokestatic 172, 3) := dk_184 0 172 (dk_at dksX0_meat_0 1 rfl rfl)
theorem dX0_meat_4 : decode cX0_meat 4 = .ok (.ifCond .eq 15, 3) := dk_153 0 15 (dk_at dksX0_meat_0 4 rfl rfl)
theorem dX0_meat_7 : decode cX0_meat 7 = .ok (.iload_n 2, 1) := dk_28 (dk_at dksX0_meat_0 7 rfl rfl)
theorem dX0_meat_8 : decode cX0_meat 8 = .ok (.i2l, 1) := dk_133 (dk_at dksX0_meat_0 8 rfl rfl)
theorem dX0_meat_9 : decode cX0_meat 9 = .ok (.lconst 0, 1) := dk_9 (dk_at dksX0_meat_0 9 rfl rfl)
theorem dX0_meat_10 : decode cX0_meat 10 = .ok (.ldc2_w 175, 3) := dk_20 0 175 (dk_at dksX0_meat_0 10 rfl rfl)
theorem dX0_meat_13 : decode cX0_meat 13 = .ok (.invokestatic 5, 3) := dk_184 0 5 (dk_at dksX0_meat_0 13 rfl rfl)
theorem dX0_meat_16 : decode cX0_meat 16 = .ok (.ifCond .ne 6, 3) := dk_154 0 6 (dk_at dksX0_meat_0 16 rfl rfl)
theorem dX0_meat_19 : decode cX0_meat 19 = .ok (.bipush (-2), 2) := dk_16 254 (dk_at dksX0_meat_0 19 rfl rfl)
theorem dX0_meat_21 : decode cX0_meat 21 = .ok (.ireturn, 1) := dk_172 (dk_at dksX0_meat_0 21 rfl rfl)
theorem dX0_meat_22 : decode cX0_meat 22 = .ok (.aload_n 0, 1) := dk_42 (dk_at dksX0_meat_0 22 rfl rfl)
theorem dX0_meat_23 : decode cX0_meat 23 = .ok (.getfield 61, 3) := dk_180 0 61 (dk_at dksX0_meat_1 0 rfl rfl)
theorem dX0_meat_26 : decode cX0_meat 26 = .ok (.iload_n 1, 1) := dk_27 (dk_at dksX0_meat_1 3 rfl rfl)
theorem dX0_meat_27 : decode cX0_meat 27 = .ok (.iaload, 1) := dk_46 (dk_at dksX0_meat_1 4 rfl rfl)
theorem dX0_meat_28 : decode cX0_meat 28 = .ok (.istore_n 3, 1) := dk_62 (dk_at dksX0_meat_1 5 rfl rfl)
theorem dX0_meat_29 : decode cX0_meat 29 = .ok (.aload_n 0, 1) := dk_42 (dk_at dksX0_meat_1 6 rfl rfl)
theorem dX0_meat_30 : decode cX0_meat 30 = .ok (.getfield 61, 3) := dk_180 0 61 (dk_at dksX0_meat_1 7 rfl rfl)
theorem dX0_meat_33 : decode cX0_meat 33 = .ok (.iload_n 1, 1) := dk_27 (dk_at dksX0_meat_1 10 rfl rfl)
theorem dX0_meat_34 : decode cX0_meat 34 = .ok (.iload_n 2, 1) := dk_28 (dk_at dksX0_meat_1 11 rfl rfl)
theorem dX0_meat_35 : decode cX0_meat 35 = .ok (.iastore, 1) := dk_79 (dk_at dksX0_meat_1 12 rfl rfl)
theorem dX0_meat_36 : decode cX0_meat 36 = .ok (.iload_n 3, 1) := dk_29 (dk_at dksX0_meat_1 13 rfl rfl)
theorem dX0_meat_37 : decode cX0_meat 37 = .ok (.ireturn, 1) := dk_172 (dk_at dksX0_meat_1 14 rfl rfl)
abbrev cX0_isKind : ByteArray := prog_1_method_12_code
def yX0_isKind : MethodName := ⟨RX0, "isKind", "(I)Z"⟩
def dkwX0_isKind_0 : List UInt8 := [26, 133, 9, 20, 0, 159, 184, 0, 5, 172]
abbrev dktX0_isKind_0 : List UInt8 := dkwX0_isKind_0 ++ []
theorem dksX0_isKind_0 : cX0_isKind.data.toList.drop 0 = dktX0_isKind_0 := by decide +kernel
theorem dX0_isKind_0 : decode cX0_isKind 0 = .ok (.iload_n 0, 1) := dk_26 (dk_at dksX0_isKind_0 0 rfl rfl)
theorem dX0_isKind_1 : decode cX0_isKind 1 = .ok (.i2l, 1) := dk_133 (dk_at dksX0_isKind_0 1 rfl rfl)
theorem dX0_isKind_2 : decode cX0_isKind 2 = .ok (.lconst 0, 1) := dk_9 (dk_at dksX0_isKind_0 2 rfl rfl)
theorem dX0_isKind_3 : decode cX0_isKind 3 = .ok (.ldc2_w 159, 3) := dk_20 0 159 (dk_at dksX0_isKind_0 3 rfl rfl)
theorem dX0_isKind_6 : decode cX0_isKind 6 = .ok (.invokestatic 5, 3) := dk_184 0 5 (dk_at dksX0_isKind_0 6 rfl rfl)
theorem dX0_isKind_9 : decode cX0_isKind 9 = .ok (.ireturn, 1) := dk_172 (dk_at dksX0_isKind_0 9 rfl rfl)
abbrev cX0_bone : ByteArray := prog_1_method_17_code
def yX0_bone : MethodName := ⟨RX0, "bone", "(IIIIIIZ)I"⟩
def dkwX0_bone_7 : List UInt8 := [180, 0, 156, 25, 9, 83, 42, 89, 180, 0, 156, 4, 96, 181, 0, 156, 42, 180, 0, 156, 4, 100, 172]
abbrev dktX0_bone_7 : List UInt8 := dkwX0_bone_7 ++ []
def dkwX0_bone_6 : List UInt8 := [180, 0, 13, 28, 50, 21, 10, 182, 0, 39, 136, 79, 132, 10, 1, 167, 255, 226, 42, 180, 0, 57, 42]
abbrev dktX0_bone_6 : List UInt8 := dkwX0_bone_6 ++ dktX0_bone_7
def dkwX0_bone_5 : List UInt8 := [183, 0, 192, 58, 9, 3, 54, 10, 21, 10, 16, 6, 162, 0, 29, 25, 9, 180, 0, 195, 21, 10, 42]
abbrev dktX0_bone_5 : List UInt8 := dkwX0_bone_5 ++ dktX0_bone_6
def dkwX0_bone_4 : List UInt8 := [17, 0, 200, 160, 0, 6, 16, 253, 172, 187, 0, 55, 89, 27, 29, 21, 4, 21, 5, 21, 6, 21, 7]
abbrev dktX0_bone_4 : List UInt8 := dkwX0_bone_4 ++ dktX0_bone_5
def dkwX0_bone_3 : List UInt8 := [42, 28, 16, 6, 20, 0, 186, 182, 0, 188, 54, 8, 21, 8, 153, 0, 6, 21, 8, 172, 42, 180, 0, 156]
abbrev dktX0_bone_3 : List UInt8 := dkwX0_bone_3 ++ dktX0_bone_4
def dkwX0_bone_2 : List UInt8 := [184, 0, 5, 153, 0, 18, 21, 6, 133, 20, 0, 184, 20, 0, 165, 184, 0, 5, 154, 0, 6, 16, 254, 172]
abbrev dktX0_bone_2 : List UInt8 := dkwX0_bone_2 ++ dktX0_bone_3
def dkwX0_bone_1 : List UInt8 := [153, 0, 44, 21, 4, 133, 9, 20, 0, 182, 184, 0, 5, 153, 0, 31, 21, 5, 133, 9, 20, 0, 182]
abbrev dktX0_bone_1 : List UInt8 := dkwX0_bone_1 ++ dktX0_bone_2
def dkwX0_bone_0 : List UInt8 := [42, 27, 182, 0, 177, 153, 0, 63, 28, 184, 0, 9, 153, 0, 56, 29, 133, 10, 20, 0, 180, 184, 0, 5]
abbrev dktX0_bone_0 : List UInt8 := dkwX0_bone_0 ++ dktX0_bone_1
theorem dksX0_bone_0 : cX0_bone.data.toList.drop 0 = dktX0_bone_0 := by decide +kernel
theorem dksX0_bone_1 : cX0_bone.data.toList.drop 24 = dktX0_bone_1 := dk_seg dksX0_bone_0 24 rfl rfl
theorem dksX0_bone_2 : cX0_bone.data.toList.drop 47 = dktX0_bone_2 := dk_seg dksX0_bone_1 23 rfl rfl
theorem dksX0_bone_3 : cX0_bone.data.toList.drop 71 = dktX0_bone_3 := dk_seg dksX0_bone_2 24 rfl rfl
theorem dksX0_bone_4 : cX0_bone.data.toList.drop 95 = dktX0_bone_4 := dk_seg dksX0_bone_3 24 rfl rfl
theorem dksX0_bone_5 : cX0_bone.data.toList.drop 118 = dktX0_bone_5 := dk_seg dksX0_bone_4 23 rfl rfl
theorem dksX0_bone_6 : cX0_bone.data.toList.drop 141 = dktX0_bone_6 := dk_seg dksX0_bone_5 23 rfl rfl
theorem dksX0_bone_7 : cX0_bone.data.toList.drop 164 = dktX0_bone_7 := dk_seg dksX0_bone_6 23 rfl rfl
theorem dX0_bone_0 : decode cX0_bone 0 = .ok (.aload_n 0, 1) := dk_42 (dk_at dksX0_bone_0 0 rfl rfl)
theorem dX0_bone_1 : decode cX0_bone 1 = .ok (.iload_n 1, 1) := dk_27 (dk_at dksX0_bone_0 1 rfl rfl)
theorem dX0_bone_2 : decode cX0_bone 2 = .ok (.invokevirtual 177, 3) := dk_182 0 177 (dk_at dksX0_bone_0 2 rfl rfl)
theorem dX0_bone_5 : decode cX0_bone 5 = .ok (.ifCond .eq 63, 3) := dk_153 0 63 (dk_at dksX0_bone_0 5 rfl rfl)
theorem dX0_bone_8 : decode cX0_bone 8 = .ok (.iload_n 2, 1) := dk_28 (dk_at dksX0_bone_0 8 rfl rfl)
theorem dX0_bone_9 : decode cX0_bone 9 = .ok (.invokestatic 9, 3) := dk_184 0 9 (dk_at dksX0_bone_0 9 rfl rfl)
theorem dX0_bone_12 : decode cX0_bone 12 = .ok (.ifCond .eq 56, 3) := dk_153 0 56 (dk_at dksX0_bone_0 12 rfl rfl)
theorem dX0_bone_15 : decode cX0_bone 15 = .ok (.iload_n 3, 1) := dk_29 (dk_at dksX0_bone_0 15 rfl rfl)
theorem dX0_bone_16 : decode cX0_bone 16 = .ok (.i2l, 1) := dk_133 (dk_at dksX0_bone_0 16 rfl rfl)
theorem dX0_bone_17 : decode cX0_bone 17 = .ok (.lconst 1, 1) := dk_10 (dk_at dksX0_bone_0 17 rfl rfl)
theorem dX0_bone_18 : decode cX0_bone 18 = .ok (.ldc2_w 180, 3) := dk_20 0 180 (dk_at dksX0_bone_0 18 rfl rfl)
theorem dX0_bone_21 : decode cX0_bone 21 = .ok (.invokestatic 5, 3) := dk_184 0 5 (dk_at dksX0_bone_0 21 rfl rfl)
theorem dX0_bone_24 : decode cX0_bone 24 = .ok (.ifCond .eq 44, 3) := dk_153 0 44 (dk_at dksX0_bone_1 0 rfl rfl)
theorem dX0_bone_27 : decode cX0_bone 27 = .ok (.iload 4, 2) := dk_21 4 (dk_at dksX0_bone_1 3 rfl rfl)
theorem dX0_bone_29 : decode cX0_bone 29 = .ok (.i2l, 1) := dk_133 (dk_at dksX0_bone_1 5 rfl rfl)
theorem dX0_bone_30 : decode cX0_bone 30 = .ok (.lconst 0, 1) := dk_9 (dk_at dksX0_bone_1 6 rfl rfl)
theorem dX0_bone_31 : decode cX0_bone 31 = .ok (.ldc2_w 182, 3) := dk_20 0 182 (dk_at dksX0_bone_1 7 rfl rfl)
theorem dX0_bone_34 : decode cX0_bone 34 = .ok (.invokestatic 5, 3) := dk_184 0 5 (dk_at dksX0_bone_1 10 rfl rfl)
theorem dX0_bone_37 : decode cX0_bone 37 = .ok (.ifCond .eq 31, 3) := dk_153 0 31 (dk_at dksX0_bone_1 13 rfl rfl)
theorem dX0_bone_40 : decode cX0_bone 40 = .ok (.iload 5, 2) := dk_21 5 (dk_at dksX0_bone_1 16 rfl rfl)
theorem dX0_bone_42 : decode cX0_bone 42 = .ok (.i2l, 1) := dk_133 (dk_at dksX0_bone_1 18 rfl rfl)
theorem dX0_bone_43 : decode cX0_bone 43 = .ok (.lconst 0, 1) := dk_9 (dk_at dksX0_bone_1 19 rfl rfl)
theorem dX0_bone_44 : decode cX0_bone 44 = .ok (.ldc2_w 182, 3) := dk_20 0 182 (dk_at dksX0_bone_1 20 rfl rfl)
theorem dX0_bone_47 : decode cX0_bone 47 = .ok (.invokestatic 5, 3) := dk_184 0 5 (dk_at dksX0_bone_2 0 rfl rfl)
theorem dX0_bone_50 : decode cX0_bone 50 = .ok (.ifCond .eq 18, 3) := dk_153 0 18 (dk_at dksX0_bone_2 3 rfl rfl)
theorem dX0_bone_53 : decode cX0_bone 53 = .ok (.iload 6, 2) := dk_21 6 (dk_at dksX0_bone_2 6 rfl rfl)
theorem dX0_bone_55 : decode cX0_bone 55 = .ok (.i2l, 1) := dk_133 (dk_at dksX0_bone_2 8 rfl rfl)
theorem dX0_bone_56 : decode cX0_bone 56 = .ok (.ldc2_w 184, 3) := dk_20 0 184 (dk_at dksX0_bone_2 9 rfl rfl)
theorem dX0_bone_59 : decode cX0_bone 59 = .ok (.ldc2_w 165, 3) := dk_20 0 165 (dk_at dksX0_bone_2 12 rfl rfl)
theorem dX0_bone_62 : decode cX0_bone 62 = .ok (.invokestatic 5, 3) := dk_184 0 5 (dk_at dksX0_bone_2 15 rfl rfl)
theorem dX0_bone_65 : decode cX0_bone 65 = .ok (.ifCond .ne 6, 3) := dk_154 0 6 (dk_at dksX0_bone_2 18 rfl rfl)
theorem dX0_bone_68 : decode cX0_bone 68 = .ok (.bipush (-2), 2) := dk_16 254 (dk_at dksX0_bone_2 21 rfl rfl)
theorem dX0_bone_70 : decode cX0_bone 70 = .ok (.ireturn, 1) := dk_172 (dk_at dksX0_bone_2 23 rfl rfl)
theorem dX0_bone_71 : decode cX0_bone 71 = .ok (.aload_n 0, 1) := dk_42 (dk_at dksX0_bone_3 0 rfl rfl)
theorem dX0_bone_72 : decode cX0_bone 72 = .ok (.iload_n 2, 1) := dk_28 (dk_at dksX0_bone_3 1 rfl rfl)
theorem dX0_bone_73 : decode cX0_bone 73 = .ok (.bipush 6, 2) := dk_16 6 (dk_at dksX0_bone_3 2 rfl rfl)
theorem dX0_bone_75 : decode cX0_bone 75 = .ok (.ldc2_w 186, 3) := dk_20 0 186 (dk_at dksX0_bone_3 4 rfl rfl)
theorem dX0_bone_78 : decode cX0_bone 78 = .ok (.invokevirtual 188, 3) := dk_182 0 188 (dk_at dksX0_bone_3 7 rfl rfl)
theorem dX0_bone_81 : decode cX0_bone 81 = .ok (.istore 8, 2) := dk_54 8 (dk_at dksX0_bone_3 10 rfl rfl)
theorem dX0_bone_83 : decode cX0_bone 83 = .ok (.iload 8, 2) := dk_21 8 (dk_at dksX0_bone_3 12 rfl rfl)
theorem dX0_bone_85 : decode cX0_bone 85 = .ok (.ifCond .eq 6, 3) := dk_153 0 6 (dk_at dksX0_bone_3 14 rfl rfl)
theorem dX0_bone_88 : decode cX0_bone 88 = .ok (.iload 8, 2) := dk_21 8 (dk_at dksX0_bone_3 17 rfl rfl)
theorem dX0_bone_90 : decode cX0_bone 90 = .ok (.ireturn, 1) := dk_172 (dk_at dksX0_bone_3 19 rfl rfl)
theorem dX0_bone_91 : decode cX0_bone 91 = .ok (.aload_n 0, 1) := dk_42 (dk_at dksX0_bone_3 20 rfl rfl)
theorem dX0_bone_92 : decode cX0_bone 92 = .ok (.getfield 156, 3) := dk_180 0 156 (dk_at dksX0_bone_3 21 rfl rfl)
theorem dX0_bone_95 : decode cX0_bone 95 = .ok (.sipush 200, 3) := dk_17 0 200 (dk_at dksX0_bone_4 0 rfl rfl)
theorem dX0_bone_98 : decode cX0_bone 98 = .ok (.if_icmp .ne 6, 3) := dk_160 0 6 (dk_at dksX0_bone_4 3 rfl rfl)
theorem dX0_bone_101 : decode cX0_bone 101 = .ok (.bipush (-3), 2) := dk_16 253 (dk_at dksX0_bone_4 6 rfl rfl)
theorem dX0_bone_103 : decode cX0_bone 103 = .ok (.ireturn, 1) := dk_172 (dk_at dksX0_bone_4 8 rfl rfl)
theorem dX0_bone_104 : decode cX0_bone 104 = .ok (.new 55, 3) := dk_187 0 55 (dk_at dksX0_bone_4 9 rfl rfl)
theorem dX0_bone_107 : decode cX0_bone 107 = .ok (.dup, 1) := dk_89 (dk_at dksX0_bone_4 12 rfl rfl)
theorem dX0_bone_108 : decode cX0_bone 108 = .ok (.iload_n 1, 1) := dk_27 (dk_at dksX0_bone_4 13 rfl rfl)
theorem dX0_bone_109 : decode cX0_bone 109 = .ok (.iload_n 3, 1) := dk_29 (dk_at dksX0_bone_4 14 rfl rfl)
theorem dX0_bone_110 : decode cX0_bone 110 = .ok (.iload 4, 2) := dk_21 4 (dk_at dksX0_bone_4 15 rfl rfl)
theorem dX0_bone_112 : decode cX0_bone 112 = .ok (.iload 5, 2) := dk_21 5 (dk_at dksX0_bone_4 17 rfl rfl)
theorem dX0_bone_114 : decode cX0_bone 114 = .ok (.iload 6, 2) := dk_21 6 (dk_at dksX0_bone_4 19 rfl rfl)
theorem dX0_bone_116 : decode cX0_bone 116 = .ok (.iload 7, 2) := dk_21 7 (dk_at dksX0_bone_4 21 rfl rfl)
theorem dX0_bone_118 : decode cX0_bone 118 = .ok (.invokespecial 192, 3) := dk_183 0 192 (dk_at dksX0_bone_5 0 rfl rfl)
theorem dX0_bone_121 : decode cX0_bone 121 = .ok (.astore 9, 2) := dk_58 9 (dk_at dksX0_bone_5 3 rfl rfl)
theorem dX0_bone_123 : decode cX0_bone 123 = .ok (.iconst 0, 1) := dk_3 (dk_at dksX0_bone_5 5 rfl rfl)
theorem dX0_bone_124 : decode cX0_bone 124 = .ok (.istore 10, 2) := dk_54 10 (dk_at dksX0_bone_5 6 rfl rfl)
theorem dX0_bone_126 : decode cX0_bone 126 = .ok (.iload 10, 2) := dk_21 10 (dk_at dksX0_bone_5 8 rfl rfl)
theorem dX0_bone_128 : decode cX0_bone 128 = .ok (.bipush 6, 2) := dk_16 6 (dk_at dksX0_bone_5 10 rfl rfl)
theorem dX0_bone_130 : decode cX0_bone 130 = .ok (.if_icmp .ge 29, 3) := dk_162 0 29 (dk_at dksX0_bone_5 12 rfl rfl)
theorem dX0_bone_133 : decode cX0_bone 133 = .ok (.aload 9, 2) := dk_25 9 (dk_at dksX0_bone_5 15 rfl rfl)
theorem dX0_bone_135 : decode cX0_bone 135 = .ok (.getfield 195, 3) := dk_180 0 195 (dk_at dksX0_bone_5 17 rfl rfl)
theorem dX0_bone_138 : decode cX0_bone 138 = .ok (.iload 10, 2) := dk_21 10 (dk_at dksX0_bone_5 20 rfl rfl)
theorem dX0_bone_140 : decode cX0_bone 140 = .ok (.aload_n 0, 1) := dk_42 (dk_at dksX0_bone_5 22 rfl rfl)
theorem dX0_bone_141 : decode cX0_bone 141 = .ok (.getfield 13, 3) := dk_180 0 13 (dk_at dksX0_bone_6 0 rfl rfl)
theorem dX0_bone_144 : decode cX0_bone 144 = .ok (.iload_n 2, 1) := dk_28 (dk_at dksX0_bone_6 3 rfl rfl)
theorem dX0_bone_145 : decode cX0_bone 145 = .ok (.aaload, 1) := dk_50 (dk_at dksX0_bone_6 4 rfl rfl)
theorem dX0_bone_146 : decode cX0_bone 146 = .ok (.iload 10, 2) := dk_21 10 (dk_at dksX0_bone_6 5 rfl rfl)
theorem dX0_bone_148 : decode cX0_bone 148 = .ok (.invokevirtual 39, 3) := dk_182 0 39 (dk_at dksX0_bone_6 7 rfl rfl)
theorem dX0_bone_151 : decode cX0_bone 151 = .ok (.l2i, 1) := dk_136 (dk_at dksX0_bone_6 10 rfl rfl)
theorem dX0_bone_152 : decode cX0_bone 152 = .ok (.iastore, 1) := dk_79 (dk_at dksX0_bone_6 11 rfl rfl)
theorem dX0_bone_153 : decode cX0_bone 153 = .ok (.iinc 10 1, 3) := dk_132 10 1 (dk_at dksX0_bone_6 12 rfl rfl)
theorem dX0_bone_156 : decode cX0_bone 156 = .ok (.goto (-30), 3) := dk_167 255 226 (dk_at dksX0_bone_6 15 rfl rfl)
theorem dX0_bone_159 : decode cX0_bone 159 = .ok (.aload_n 0, 1) := dk_42 (dk_at dksX0_bone_6 18 rfl rfl)
theorem dX0_bone_160 : decode cX0_bone 160 = .ok (.getfield 57, 3) := dk_180 0 57 (dk_at dksX0_bone_6 19 rfl rfl)
theorem dX0_bone_163 : decode cX0_bone 163 = .ok (.aload_n 0, 1) := dk_42 (dk_at dksX0_bone_6 22 rfl rfl)
theorem dX0_bone_164 : decode cX0_bone 164 = .ok (.getfield 156, 3) := dk_180 0 156 (dk_at dksX0_bone_7 0 rfl rfl)
theorem dX0_bone_167 : decode cX0_bone 167 = .ok (.aload 9, 2) := dk_25 9 (dk_at dksX0_bone_7 3 rfl rfl)
theorem dX0_bone_169 : decode cX0_bone 169 = .ok (.aastore, 1) := dk_83 (dk_at dksX0_bone_7 5 rfl rfl)
theorem dX0_bone_170 : decode cX0_bone 170 = .ok (.aload_n 0, 1) := dk_42 (dk_at dksX0_bone_7 6 rfl rfl)
theorem dX0_bone_171 : decode cX0_bone 171 = .ok (.dup, 1) := dk_89 (dk_at dksX0_bone_7 7 rfl rfl)
theorem dX0_bone_172 : decode cX0_bone 172 = .ok (.getfield 156, 3) := dk_180 0 156 (dk_at dksX0_bone_7 8 rfl rfl)
theorem dX0_bone_175 : decode cX0_bone 175 = .ok (.iconst 1, 1) := dk_4 (dk_at dksX0_bone_7 11 rfl rfl)
theorem dX0_bone_176 : decode cX0_bone 176 = .ok (.iadd, 1) := dk_96 (dk_at dksX0_bone_7 12 rfl rfl)
theorem dX0_bone_177 : decode cX0_bone 177 = .ok (.putfield 156, 3) := dk_181 0 156 (dk_at dksX0_bone_7 13 rfl rfl)
theorem dX0_bone_180 : decode cX0_bone 180 = .ok (.aload_n 0, 1) := dk_42 (dk_at dksX0_bone_7 16 rfl rfl)
theorem dX0_bone_181 : decode cX0_bone 181 = .ok (.getfield 156, 3) := dk_180 0 156 (dk_at dksX0_bone_7 17 rfl rfl)
theorem dX0_bone_184 : decode cX0_bone 184 = .ok (.iconst 1, 1) := dk_4 (dk_at dksX0_bone_7 20 rfl rfl)
theorem dX0_bone_185 : decode cX0_bone 185 = .ok (.isub, 1) := dk_100 (dk_at dksX0_bone_7 21 rfl rfl)
theorem dX0_bone_186 : decode cX0_bone 186 = .ok (.ireturn, 1) := dk_172 (dk_at dksX0_bone_7 22 rfl rfl)
abbrev cX0_isLayer : ByteArray := prog_1_method_10_code
def yX0_isLayer : MethodName := ⟨RX0, "isLayer", "(I)Z"⟩
def dkwX0_isLayer_0 : List UInt8 := [27, 133, 9, 42, 180, 0, 153, 4, 100, 133, 184, 0, 5, 172]
abbrev dktX0_isLayer_0 : List UInt8 := dkwX0_isLayer_0 ++ []
theorem dksX0_isLayer_0 : cX0_isLayer.data.toList.drop 0 = dktX0_isLayer_0 := by decide +kernel
theorem dX0_isLayer_0 : decode cX0_isLayer 0 = .ok (.iload_n 1, 1) := dk_27 (dk_at dksX0_isLayer_0 0 rfl rfl)
theorem dX0_isLayer_1 : decode cX0_isLayer 1 = .ok (.i2l, 1) := dk_133 (dk_at dksX0_isLayer_0 1 rfl rfl)
theorem dX0_isLayer_2 : decode cX0_isLayer 2 = .ok (.lconst 0, 1) := dk_9 (dk_at dksX0_isLayer_0 2 rfl rfl)
theorem dX0_isLayer_3 : decode cX0_isLayer 3 = .ok (.aload_n 0, 1) := dk_42 (dk_at dksX0_isLayer_0 3 rfl rfl)
theorem dX0_isLayer_4 : decode cX0_isLayer 4 = .ok (.getfield 153, 3) := dk_180 0 153 (dk_at dksX0_isLayer_0 4 rfl rfl)
theorem dX0_isLayer_7 : decode cX0_isLayer 7 = .ok (.iconst 1, 1) := dk_4 (dk_at dksX0_isLayer_0 7 rfl rfl)
theorem dX0_isLayer_8 : decode cX0_isLayer 8 = .ok (.isub, 1) := dk_100 (dk_at dksX0_isLayer_0 8 rfl rfl)
theorem dX0_isLayer_9 : decode cX0_isLayer 9 = .ok (.i2l, 1) := dk_133 (dk_at dksX0_isLayer_0 9 rfl rfl)
theorem dX0_isLayer_10 : decode cX0_isLayer 10 = .ok (.invokestatic 5, 3) := dk_184 0 5 (dk_at dksX0_isLayer_0 10 rfl rfl)
theorem dX0_isLayer_13 : decode cX0_isLayer 13 = .ok (.ireturn, 1) := dk_172 (dk_at dksX0_isLayer_0 13 rfl rfl)
abbrev cX0_reads : ByteArray := prog_1_method_7_code
def yX0_reads : MethodName := ⟨RX0, "reads", "(IIJ)I"⟩
def dkwX0_reads_2 : List UInt8 := [33, 184, 0, 5, 154, 0, 6, 16, 252, 172, 132, 6, 1, 167, 255, 229, 3, 172]
abbrev dktX0_reads_2 : List UInt8 := dkwX0_reads_2 ++ []
def dkwX0_reads_1 : List UInt8 := [28, 162, 0, 6, 16, 250, 172, 3, 54, 6, 21, 6, 28, 162, 0, 27, 25, 5, 21, 6, 182, 0, 39, 9]
abbrev dktX0_reads_1 : List UInt8 := dkwX0_reads_1 ++ dktX0_reads_2
def dkwX0_reads_0 : List UInt8 := [42, 180, 0, 13, 27, 50, 58, 5, 25, 5, 180, 0, 23, 199, 0, 6, 16, 251, 172, 25, 5, 182, 0, 35]
abbrev dktX0_reads_0 : List UInt8 := dkwX0_reads_0 ++ dktX0_reads_1
theorem dksX0_reads_0 : cX0_reads.data.toList.drop 0 = dktX0_reads_0 := by decide +kernel
theorem dksX0_reads_1 : cX0_reads.data.toList.drop 24 = dktX0_reads_1 := dk_seg dksX0_reads_0 24 rfl rfl
theorem dksX0_reads_2 : cX0_reads.data.toList.drop 48 = dktX0_reads_2 := dk_seg dksX0_reads_1 24 rfl rfl
theorem dX0_reads_0 : decode cX0_reads 0 = .ok (.aload_n 0, 1) := dk_42 (dk_at dksX0_reads_0 0 rfl rfl)
theorem dX0_reads_1 : decode cX0_reads 1 = .ok (.getfield 13, 3) := dk_180 0 13 (dk_at dksX0_reads_0 1 rfl rfl)
theorem dX0_reads_4 : decode cX0_reads 4 = .ok (.iload_n 1, 1) := dk_27 (dk_at dksX0_reads_0 4 rfl rfl)
theorem dX0_reads_5 : decode cX0_reads 5 = .ok (.aaload, 1) := dk_50 (dk_at dksX0_reads_0 5 rfl rfl)
theorem dX0_reads_6 : decode cX0_reads 6 = .ok (.astore 5, 2) := dk_58 5 (dk_at dksX0_reads_0 6 rfl rfl)
theorem dX0_reads_8 : decode cX0_reads 8 = .ok (.aload 5, 2) := dk_25 5 (dk_at dksX0_reads_0 8 rfl rfl)
theorem dX0_reads_10 : decode cX0_reads 10 = .ok (.getfield 23, 3) := dk_180 0 23 (dk_at dksX0_reads_0 10 rfl rfl)
theorem dX0_reads_13 : decode cX0_reads 13 = .ok (.ifnonnull 6, 3) := dk_199 0 6 (dk_at dksX0_reads_0 13 rfl rfl)
theorem dX0_reads_16 : decode cX0_reads 16 = .ok (.bipush (-5), 2) := dk_16 251 (dk_at dksX0_reads_0 16 rfl rfl)
theorem dX0_reads_18 : decode cX0_reads 18 = .ok (.ireturn, 1) := dk_172 (dk_at dksX0_reads_0 18 rfl rfl)
theorem dX0_reads_19 : decode cX0_reads 19 = .ok (.aload 5, 2) := dk_25 5 (dk_at dksX0_reads_0 19 rfl rfl)
theorem dX0_reads_21 : decode cX0_reads 21 = .ok (.invokevirtual 35, 3) := dk_182 0 35 (dk_at dksX0_reads_0 21 rfl rfl)
theorem dX0_reads_24 : decode cX0_reads 24 = .ok (.iload_n 2, 1) := dk_28 (dk_at dksX0_reads_1 0 rfl rfl)
theorem dX0_reads_25 : decode cX0_reads 25 = .ok (.if_icmp .ge 6, 3) := dk_162 0 6 (dk_at dksX0_reads_1 1 rfl rfl)
theorem dX0_reads_28 : decode cX0_reads 28 = .ok (.bipush (-6), 2) := dk_16 250 (dk_at dksX0_reads_1 4 rfl rfl)
theorem dX0_reads_30 : decode cX0_reads 30 = .ok (.ireturn, 1) := dk_172 (dk_at dksX0_reads_1 6 rfl rfl)
theorem dX0_reads_31 : decode cX0_reads 31 = .ok (.iconst 0, 1) := dk_3 (dk_at dksX0_reads_1 7 rfl rfl)
theorem dX0_reads_32 : decode cX0_reads 32 = .ok (.istore 6, 2) := dk_54 6 (dk_at dksX0_reads_1 8 rfl rfl)
theorem dX0_reads_34 : decode cX0_reads 34 = .ok (.iload 6, 2) := dk_21 6 (dk_at dksX0_reads_1 10 rfl rfl)
theorem dX0_reads_36 : decode cX0_reads 36 = .ok (.iload_n 2, 1) := dk_28 (dk_at dksX0_reads_1 12 rfl rfl)
theorem dX0_reads_37 : decode cX0_reads 37 = .ok (.if_icmp .ge 27, 3) := dk_162 0 27 (dk_at dksX0_reads_1 13 rfl rfl)
theorem dX0_reads_40 : decode cX0_reads 40 = .ok (.aload 5, 2) := dk_25 5 (dk_at dksX0_reads_1 16 rfl rfl)
theorem dX0_reads_42 : decode cX0_reads 42 = .ok (.iload 6, 2) := dk_21 6 (dk_at dksX0_reads_1 18 rfl rfl)
theorem dX0_reads_44 : decode cX0_reads 44 = .ok (.invokevirtual 39, 3) := dk_182 0 39 (dk_at dksX0_reads_1 20 rfl rfl)
theorem dX0_reads_47 : decode cX0_reads 47 = .ok (.lconst 0, 1) := dk_9 (dk_at dksX0_reads_1 23 rfl rfl)
theorem dX0_reads_48 : decode cX0_reads 48 = .ok (.lload_n 3, 1) := dk_33 (dk_at dksX0_reads_2 0 rfl rfl)
theorem dX0_reads_49 : decode cX0_reads 49 = .ok (.invokestatic 5, 3) := dk_184 0 5 (dk_at dksX0_reads_2 1 rfl rfl)
theorem dX0_reads_52 : decode cX0_reads 52 = .ok (.ifCond .ne 6, 3) := dk_154 0 6 (dk_at dksX0_reads_2 4 rfl rfl)
theorem dX0_reads_55 : decode cX0_reads 55 = .ok (.bipush (-4), 2) := dk_16 252 (dk_at dksX0_reads_2 7 rfl rfl)
theorem dX0_reads_57 : decode cX0_reads 57 = .ok (.ireturn, 1) := dk_172 (dk_at dksX0_reads_2 9 rfl rfl)
theorem dX0_reads_58 : decode cX0_reads 58 = .ok (.iinc 6 1, 3) := dk_132 6 1 (dk_at dksX0_reads_2 10 rfl rfl)
theorem dX0_reads_61 : decode cX0_reads 61 = .ok (.goto (-27), 3) := dk_167 255 229 (dk_at dksX0_reads_2 13 rfl rfl)
theorem dX0_reads_64 : decode cX0_reads 64 = .ok (.iconst 0, 1) := dk_3 (dk_at dksX0_reads_2 16 rfl rfl)
theorem dX0_reads_65 : decode cX0_reads 65 = .ok (.ireturn, 1) := dk_172 (dk_at dksX0_reads_2 17 rfl rfl)
abbrev cX0_layer : ByteArray := prog_1_method_18_code
def yX0_layer : MethodName := ⟨RX0, "layer", "(I)I"⟩
def dkwX0_layer_2 : List UInt8 := [79, 42, 89, 180, 0, 153, 4, 96, 181, 0, 153, 42, 180, 0, 153, 4, 100, 172]
abbrev dktX0_layer_2 : List UInt8 := dkwX0_layer_2 ++ []
def dkwX0_layer_1 : List UInt8 := [16, 253, 172, 42, 180, 0, 65, 42, 180, 0, 153, 27, 79, 42, 180, 0, 68, 42, 180, 0, 153, 17, 7, 208]
abbrev dktX0_layer_1 : List UInt8 := dkwX0_layer_1 ++ dktX0_layer_2
def dkwX0_layer_0 : List UInt8 := [27, 133, 9, 20, 0, 198, 184, 0, 5, 154, 0, 6, 16, 254, 172, 42, 180, 0, 153, 16, 16, 160, 0, 6]
abbrev dktX0_layer_0 : List UInt8 := dkwX0_layer_0 ++ dktX0_layer_1
theorem dksX0_layer_0 : cX0_layer.data.toList.drop 0 = dktX0_layer_0 := by decide +kernel
theorem dksX0_layer_1 : cX0_layer.data.toList.drop 24 = dktX0_layer_1 := dk_seg dksX0_layer_0 24 rfl rfl
theorem dksX0_layer_2 : cX0_layer.data.toList.drop 48 = dktX0_layer_2 := dk_seg dksX0_layer_1 24 rfl rfl
theorem dX0_layer_0 : decode cX0_layer 0 = .ok (.iload_n 1, 1) := dk_27 (dk_at dksX0_layer_0 0 rfl rfl)
theorem dX0_layer_1 : decode cX0_layer 1 = .ok (.i2l, 1) := dk_133 (dk_at dksX0_layer_0 1 rfl rfl)
theorem dX0_layer_2 : decode cX0_layer 2 = .ok (.lconst 0, 1) := dk_9 (dk_at dksX0_layer_0 2 rfl rfl)
theorem dX0_layer_3 : decode cX0_layer 3 = .ok (.ldc2_w 198, 3) := dk_20 0 198 (dk_at dksX0_layer_0 3 rfl rfl)
theorem dX0_layer_6 : decode cX0_layer 6 = .ok (.invokestatic 5, 3) := dk_184 0 5 (dk_at dksX0_layer_0 6 rfl rfl)
theorem dX0_layer_9 : decode cX0_layer 9 = .ok (.ifCond .ne 6, 3) := dk_154 0 6 (dk_at dksX0_layer_0 9 rfl rfl)
theorem dX0_layer_12 : decode cX0_layer 12 = .ok (.bipush (-2), 2) := dk_16 254 (dk_at dksX0_layer_0 12 rfl rfl)
theorem dX0_layer_14 : decode cX0_layer 14 = .ok (.ireturn, 1) := dk_172 (dk_at dksX0_layer_0 14 rfl rfl)
theorem dX0_layer_15 : decode cX0_layer 15 = .ok (.aload_n 0, 1) := dk_42 (dk_at dksX0_layer_0 15 rfl rfl)
theorem dX0_layer_16 : decode cX0_layer 16 = .ok (.getfield 153, 3) := dk_180 0 153 (dk_at dksX0_layer_0 16 rfl rfl)
theorem dX0_layer_19 : decode cX0_layer 19 = .ok (.bipush 16, 2) := dk_16 16 (dk_at dksX0_layer_0 19 rfl rfl)
theorem dX0_layer_21 : decode cX0_layer 21 = .ok (.if_icmp .ne 6, 3) := dk_160 0 6 (dk_at dksX0_layer_0 21 rfl rfl)
theorem dX0_layer_24 : decode cX0_layer 24 = .ok (.bipush (-3), 2) := dk_16 253 (dk_at dksX0_layer_1 0 rfl rfl)
theorem dX0_layer_26 : decode cX0_layer 26 = .ok (.ireturn, 1) := dk_172 (dk_at dksX0_layer_1 2 rfl rfl)
theorem dX0_layer_27 : decode cX0_layer 27 = .ok (.aload_n 0, 1) := dk_42 (dk_at dksX0_layer_1 3 rfl rfl)
theorem dX0_layer_28 : decode cX0_layer 28 = .ok (.getfield 65, 3) := dk_180 0 65 (dk_at dksX0_layer_1 4 rfl rfl)
theorem dX0_layer_31 : decode cX0_layer 31 = .ok (.aload_n 0, 1) := dk_42 (dk_at dksX0_layer_1 7 rfl rfl)
theorem dX0_layer_32 : decode cX0_layer 32 = .ok (.getfield 153, 3) := dk_180 0 153 (dk_at dksX0_layer_1 8 rfl rfl)
theorem dX0_layer_35 : decode cX0_layer 35 = .ok (.iload_n 1, 1) := dk_27 (dk_at dksX0_layer_1 11 rfl rfl)
theorem dX0_layer_36 : decode cX0_layer 36 = .ok (.iastore, 1) := dk_79 (dk_at dksX0_layer_1 12 rfl rfl)
theorem dX0_layer_37 : decode cX0_layer 37 = .ok (.aload_n 0, 1) := dk_42 (dk_at dksX0_layer_1 13 rfl rfl)
theorem dX0_layer_38 : decode cX0_layer 38 = .ok (.getfield 68, 3) := dk_180 0 68 (dk_at dksX0_layer_1 14 rfl rfl)
theorem dX0_layer_41 : decode cX0_layer 41 = .ok (.aload_n 0, 1) := dk_42 (dk_at dksX0_layer_1 17 rfl rfl)
theorem dX0_layer_42 : decode cX0_layer 42 = .ok (.getfield 153, 3) := dk_180 0 153 (dk_at dksX0_layer_1 18 rfl rfl)
theorem dX0_layer_45 : decode cX0_layer 45 = .ok (.sipush 2000, 3) := dk_17 7 208 (dk_at dksX0_layer_1 21 rfl rfl)
theorem dX0_layer_48 : decode cX0_layer 48 = .ok (.iastore, 1) := dk_79 (dk_at dksX0_layer_2 0 rfl rfl)
theorem dX0_layer_49 : decode cX0_layer 49 = .ok (.aload_n 0, 1) := dk_42 (dk_at dksX0_layer_2 1 rfl rfl)
theorem dX0_layer_50 : decode cX0_layer 50 = .ok (.dup, 1) := dk_89 (dk_at dksX0_layer_2 2 rfl rfl)
theorem dX0_layer_51 : decode cX0_layer 51 = .ok (.getfield 153, 3) := dk_180 0 153 (dk_at dksX0_layer_2 3 rfl rfl)
theorem dX0_layer_54 : decode cX0_layer 54 = .ok (.iconst 1, 1) := dk_4 (dk_at dksX0_layer_2 6 rfl rfl)
theorem dX0_layer_55 : decode cX0_layer 55 = .ok (.iadd, 1) := dk_96 (dk_at dksX0_layer_2 7 rfl rfl)
theorem dX0_layer_56 : decode cX0_layer 56 = .ok (.putfield 153, 3) := dk_181 0 153 (dk_at dksX0_layer_2 8 rfl rfl)
theorem dX0_layer_59 : decode cX0_layer 59 = .ok (.aload_n 0, 1) := dk_42 (dk_at dksX0_layer_2 11 rfl rfl)
theorem dX0_layer_60 : decode cX0_layer 60 = .ok (.getfield 153, 3) := dk_180 0 153 (dk_at dksX0_layer_2 12 rfl rfl)
theorem dX0_layer_63 : decode cX0_layer 63 = .ok (.iconst 1, 1) := dk_4 (dk_at dksX0_layer_2 15 rfl rfl)
theorem dX0_layer_64 : decode cX0_layer 64 = .ok (.isub, 1) := dk_100 (dk_at dksX0_layer_2 16 rfl rfl)
theorem dX0_layer_65 : decode cX0_layer 65 = .ok (.ireturn, 1) := dk_172 (dk_at dksX0_layer_2 17 rfl rfl)
abbrev cX0_over : ByteArray := prog_1_method_22_code
def yX0_over : MethodName := ⟨RX0, "over", "(II)I"⟩
def dkwX0_over_5 : List UInt8 := [181, 0, 215, 3, 172]
abbrev dktX0_over_5 : List UInt8 := dkwX0_over_5 ++ []
def dkwX0_over_4 : List UInt8 := [154, 0, 16, 42, 89, 180, 0, 200, 4, 100, 181, 0, 200, 16, 249, 172, 42, 89, 180, 0, 215, 4, 96]
abbrev dktX0_over_4 : List UInt8 := dkwX0_over_4 ++ dktX0_over_5
def dkwX0_over_3 : List UInt8 := [29, 153, 0, 8, 16, 253, 167, 0, 5, 16, 249, 172, 42, 27, 28, 182, 0, 218, 42, 182, 0, 222]
abbrev dktX0_over_3 : List UInt8 := dkwX0_over_3 ++ dktX0_over_4
def dkwX0_over_2 : List UInt8 := [160, 0, 36, 42, 27, 28, 182, 0, 218, 42, 182, 0, 222, 62, 42, 89, 180, 0, 200, 4, 100, 181, 0, 200]
abbrev dktX0_over_2 : List UInt8 := dkwX0_over_2 ++ dktX0_over_3
def dkwX0_over_1 : List UInt8 := [42, 182, 0, 212, 42, 180, 0, 92, 28, 50, 27, 51, 153, 0, 6, 16, 249, 172, 42, 180, 0, 215, 16, 60]
abbrev dktX0_over_1 : List UInt8 := dkwX0_over_1 ++ dktX0_over_2
def dkwX0_over_0 : List UInt8 := [42, 27, 182, 0, 177, 153, 0, 16, 42, 28, 182, 0, 177, 153, 0, 8, 27, 28, 160, 0, 6, 16, 254, 172]
abbrev dktX0_over_0 : List UInt8 := dkwX0_over_0 ++ dktX0_over_1
theorem dksX0_over_0 : cX0_over.data.toList.drop 0 = dktX0_over_0 := by decide +kernel
theorem dksX0_over_1 : cX0_over.data.toList.drop 24 = dktX0_over_1 := dk_seg dksX0_over_0 24 rfl rfl
theorem dksX0_over_2 : cX0_over.data.toList.drop 48 = dktX0_over_2 := dk_seg dksX0_over_1 24 rfl rfl
theorem dksX0_over_3 : cX0_over.data.toList.drop 72 = dktX0_over_3 := dk_seg dksX0_over_2 24 rfl rfl
theorem dksX0_over_4 : cX0_over.data.toList.drop 94 = dktX0_over_4 := dk_seg dksX0_over_3 22 rfl rfl
theorem dksX0_over_5 : cX0_over.data.toList.drop 117 = dktX0_over_5 := dk_seg dksX0_over_4 23 rfl rfl
theorem dX0_over_0 : decode cX0_over 0 = .ok (.aload_n 0, 1) := dk_42 (dk_at dksX0_over_0 0 rfl rfl)
theorem dX0_over_1 : decode cX0_over 1 = .ok (.iload_n 1, 1) := dk_27 (dk_at dksX0_over_0 1 rfl rfl)
theorem dX0_over_2 : decode cX0_over 2 = .ok (.invokevirtual 177, 3) := dk_182 0 177 (dk_at dksX0_over_0 2 rfl rfl)
theorem dX0_over_5 : decode cX0_over 5 = .ok (.ifCond .eq 16, 3) := dk_153 0 16 (dk_at dksX0_over_0 5 rfl rfl)
theorem dX0_over_8 : decode cX0_over 8 = .ok (.aload_n 0, 1) := dk_42 (dk_at dksX0_over_0 8 rfl rfl)
theorem dX0_over_9 : decode cX0_over 9 = .ok (.iload_n 2, 1) := dk_28 (dk_at dksX0_over_0 9 rfl rfl)
theorem dX0_over_10 : decode cX0_over 10 = .ok (.invokevirtual 177, 3) := dk_182 0 177 (dk_at dksX0_over_0 10 rfl rfl)
theorem dX0_over_13 : decode cX0_over 13 = .ok (.ifCond .eq 8, 3) := dk_153 0 8 (dk_at dksX0_over_0 13 rfl rfl)
theorem dX0_over_16 : decode cX0_over 16 = .ok (.iload_n 1, 1) := dk_27 (dk_at dksX0_over_0 16 rfl rfl)
theorem dX0_over_17 : decode cX0_over 17 = .ok (.iload_n 2, 1) := dk_28 (dk_at dksX0_over_0 17 rfl rfl)
theorem dX0_over_18 : decode cX0_over 18 = .ok (.if_icmp .ne 6, 3) := dk_160 0 6 (dk_at dksX0_over_0 18 rfl rfl)
theorem dX0_over_21 : decode cX0_over 21 = .ok (.bipush (-2), 2) := dk_16 254 (dk_at dksX0_over_0 21 rfl rfl)
theorem dX0_over_23 : decode cX0_over 23 = .ok (.ireturn, 1) := dk_172 (dk_at dksX0_over_0 23 rfl rfl)
theorem dX0_over_24 : decode cX0_over 24 = .ok (.aload_n 0, 1) := dk_42 (dk_at dksX0_over_1 0 rfl rfl)
theorem dX0_over_25 : decode cX0_over 25 = .ok (.invokevirtual 212, 3) := dk_182 0 212 (dk_at dksX0_over_1 1 rfl rfl)
theorem dX0_over_28 : decode cX0_over 28 = .ok (.aload_n 0, 1) := dk_42 (dk_at dksX0_over_1 4 rfl rfl)
theorem dX0_over_29 : decode cX0_over 29 = .ok (.getfield 92, 3) := dk_180 0 92 (dk_at dksX0_over_1 5 rfl rfl)
theorem dX0_over_32 : decode cX0_over 32 = .ok (.iload_n 2, 1) := dk_28 (dk_at dksX0_over_1 8 rfl rfl)
theorem dX0_over_33 : decode cX0_over 33 = .ok (.aaload, 1) := dk_50 (dk_at dksX0_over_1 9 rfl rfl)
theorem dX0_over_34 : decode cX0_over 34 = .ok (.iload_n 1, 1) := dk_27 (dk_at dksX0_over_1 10 rfl rfl)
theorem dX0_over_35 : decode cX0_over 35 = .ok (.baload, 1) := dk_51 (dk_at dksX0_over_1 11 rfl rfl)
theorem dX0_over_36 : decode cX0_over 36 = .ok (.ifCond .eq 6, 3) := dk_153 0 6 (dk_at dksX0_over_1 12 rfl rfl)
theorem dX0_over_39 : decode cX0_over 39 = .ok (.bipush (-7), 2) := dk_16 249 (dk_at dksX0_over_1 15 rfl rfl)
theorem dX0_over_41 : decode cX0_over 41 = .ok (.ireturn, 1) := dk_172 (dk_at dksX0_over_1 17 rfl rfl)
theorem dX0_over_42 : decode cX0_over 42 = .ok (.aload_n 0, 1) := dk_42 (dk_at dksX0_over_1 18 rfl rfl)
theorem dX0_over_43 : decode cX0_over 43 = .ok (.getfield 215, 3) := dk_180 0 215 (dk_at dksX0_over_1 19 rfl rfl)
theorem dX0_over_46 : decode cX0_over 46 = .ok (.bipush 60, 2) := dk_16 60 (dk_at dksX0_over_1 22 rfl rfl)
theorem dX0_over_48 : decode cX0_over 48 = .ok (.if_icmp .ne 36, 3) := dk_160 0 36 (dk_at dksX0_over_2 0 rfl rfl)
theorem dX0_over_51 : decode cX0_over 51 = .ok (.aload_n 0, 1) := dk_42 (dk_at dksX0_over_2 3 rfl rfl)
theorem dX0_over_52 : decode cX0_over 52 = .ok (.iload_n 1, 1) := dk_27 (dk_at dksX0_over_2 4 rfl rfl)
theorem dX0_over_53 : decode cX0_over 53 = .ok (.iload_n 2, 1) := dk_28 (dk_at dksX0_over_2 5 rfl rfl)
theorem dX0_over_54 : decode cX0_over 54 = .ok (.invokevirtual 218, 3) := dk_182 0 218 (dk_at dksX0_over_2 6 rfl rfl)
theorem dX0_over_57 : decode cX0_over 57 = .ok (.aload_n 0, 1) := dk_42 (dk_at dksX0_over_2 9 rfl rfl)
theorem dX0_over_58 : decode cX0_over 58 = .ok (.invokevirtual 222, 3) := dk_182 0 222 (dk_at dksX0_over_2 10 rfl rfl)
theorem dX0_over_61 : decode cX0_over 61 = .ok (.istore_n 3, 1) := dk_62 (dk_at dksX0_over_2 13 rfl rfl)
theorem dX0_over_62 : decode cX0_over 62 = .ok (.aload_n 0, 1) := dk_42 (dk_at dksX0_over_2 14 rfl rfl)
theorem dX0_over_63 : decode cX0_over 63 = .ok (.dup, 1) := dk_89 (dk_at dksX0_over_2 15 rfl rfl)
theorem dX0_over_64 : decode cX0_over 64 = .ok (.getfield 200, 3) := dk_180 0 200 (dk_at dksX0_over_2 16 rfl rfl)
theorem dX0_over_67 : decode cX0_over 67 = .ok (.iconst 1, 1) := dk_4 (dk_at dksX0_over_2 19 rfl rfl)
theorem dX0_over_68 : decode cX0_over 68 = .ok (.isub, 1) := dk_100 (dk_at dksX0_over_2 20 rfl rfl)
theorem dX0_over_69 : decode cX0_over 69 = .ok (.putfield 200, 3) := dk_181 0 200 (dk_at dksX0_over_2 21 rfl rfl)
theorem dX0_over_72 : decode cX0_over 72 = .ok (.iload_n 3, 1) := dk_29 (dk_at dksX0_over_3 0 rfl rfl)
theorem dX0_over_73 : decode cX0_over 73 = .ok (.ifCond .eq 8, 3) := dk_153 0 8 (dk_at dksX0_over_3 1 rfl rfl)
theorem dX0_over_76 : decode cX0_over 76 = .ok (.bipush (-3), 2) := dk_16 253 (dk_at dksX0_over_3 4 rfl rfl)
theorem dX0_over_78 : decode cX0_over 78 = .ok (.goto 5, 3) := dk_167 0 5 (dk_at dksX0_over_3 6 rfl rfl)
theorem dX0_over_81 : decode cX0_over 81 = .ok (.bipush (-7), 2) := dk_16 249 (dk_at dksX0_over_3 9 rfl rfl)
theorem dX0_over_83 : decode cX0_over 83 = .ok (.ireturn, 1) := dk_172 (dk_at dksX0_over_3 11 rfl rfl)
theorem dX0_over_84 : decode cX0_over 84 = .ok (.aload_n 0, 1) := dk_42 (dk_at dksX0_over_3 12 rfl rfl)
theorem dX0_over_85 : decode cX0_over 85 = .ok (.iload_n 1, 1) := dk_27 (dk_at dksX0_over_3 13 rfl rfl)
theorem dX0_over_86 : decode cX0_over 86 = .ok (.iload_n 2, 1) := dk_28 (dk_at dksX0_over_3 14 rfl rfl)
theorem dX0_over_87 : decode cX0_over 87 = .ok (.invokevirtual 218, 3) := dk_182 0 218 (dk_at dksX0_over_3 15 rfl rfl)
theorem dX0_over_90 : decode cX0_over 90 = .ok (.aload_n 0, 1) := dk_42 (dk_at dksX0_over_3 18 rfl rfl)
theorem dX0_over_91 : decode cX0_over 91 = .ok (.invokevirtual 222, 3) := dk_182 0 222 (dk_at dksX0_over_3 19 rfl rfl)
theorem dX0_over_94 : decode cX0_over 94 = .ok (.ifCond .ne 16, 3) := dk_154 0 16 (dk_at dksX0_over_4 0 rfl rfl)
theorem dX0_over_97 : decode cX0_over 97 = .ok (.aload_n 0, 1) := dk_42 (dk_at dksX0_over_4 3 rfl rfl)
theorem dX0_over_98 : decode cX0_over 98 = .ok (.dup, 1) := dk_89 (dk_at dksX0_over_4 4 rfl rfl)
theorem dX0_over_99 : decode cX0_over 99 = .ok (.getfield 200, 3) := dk_180 0 200 (dk_at dksX0_over_4 5 rfl rfl)
theorem dX0_over_102 : decode cX0_over 102 = .ok (.iconst 1, 1) := dk_4 (dk_at dksX0_over_4 8 rfl rfl)
theorem dX0_over_103 : decode cX0_over 103 = .ok (.isub, 1) := dk_100 (dk_at dksX0_over_4 9 rfl rfl)
theorem dX0_over_104 : decode cX0_over 104 = .ok (.putfield 200, 3) := dk_181 0 200 (dk_at dksX0_over_4 10 rfl rfl)
theorem dX0_over_107 : decode cX0_over 107 = .ok (.bipush (-7), 2) := dk_16 249 (dk_at dksX0_over_4 13 rfl rfl)
theorem dX0_over_109 : decode cX0_over 109 = .ok (.ireturn, 1) := dk_172 (dk_at dksX0_over_4 15 rfl rfl)
theorem dX0_over_110 : decode cX0_over 110 = .ok (.aload_n 0, 1) := dk_42 (dk_at dksX0_over_4 16 rfl rfl)
theorem dX0_over_111 : decode cX0_over 111 = .ok (.dup, 1) := dk_89 (dk_at dksX0_over_4 17 rfl rfl)
theorem dX0_over_112 : decode cX0_over 112 = .ok (.getfield 215, 3) := dk_180 0 215 (dk_at dksX0_over_4 18 rfl rfl)
theorem dX0_over_115 : decode cX0_over 115 = .ok (.iconst 1, 1) := dk_4 (dk_at dksX0_over_4 21 rfl rfl)
theorem dX0_over_116 : decode cX0_over 116 = .ok (.iadd, 1) := dk_96 (dk_at dksX0_over_4 22 rfl rfl)
theorem dX0_over_117 : decode cX0_over 117 = .ok (.putfield 215, 3) := dk_181 0 215 (dk_at dksX0_over_5 0 rfl rfl)
theorem dX0_over_120 : decode cX0_over 120 = .ok (.iconst 0, 1) := dk_3 (dk_at dksX0_over_5 3 rfl rfl)
theorem dX0_over_121 : decode cX0_over 121 = .ok (.ireturn, 1) := dk_172 (dk_at dksX0_over_5 4 rfl rfl)
abbrev cX0_goesOver : ByteArray := prog_1_method_20_code
def yX0_goesOver : MethodName := ⟨RX0, "goesOver", "()V"⟩
def dkwX0_goesOver_7 : List UInt8 := [167, 255, 199, 132, 2, 1, 167, 255, 183, 132, 1, 1, 167, 255, 167, 177]
abbrev dktX0_goesOver_7 : List UInt8 := dkwX0_goesOver_7 ++ []
def dkwX0_goesOver_6 : List UInt8 := [153, 0, 18, 42, 180, 0, 92, 27, 50, 29, 51, 153, 0, 7, 4, 167, 0, 4, 3, 84, 132, 3, 1]
abbrev dktX0_goesOver_6 : List UInt8 := dkwX0_goesOver_6 ++ dktX0_goesOver_7
def dkwX0_goesOver_5 : List UInt8 := [28, 50, 29, 42, 180, 0, 92, 28, 50, 29, 51, 154, 0, 25, 42, 180, 0, 92, 28, 50, 27, 51]
abbrev dktX0_goesOver_5 : List UInt8 := dkwX0_goesOver_5 ++ dktX0_goesOver_6
def dkwX0_goesOver_4 : List UInt8 := [3, 61, 28, 42, 180, 0, 153, 162, 0, 71, 3, 62, 29, 42, 180, 0, 153, 162, 0, 55, 42, 180, 0, 92]
abbrev dktX0_goesOver_4 : List UInt8 := dkwX0_goesOver_4 ++ dktX0_goesOver_5
def dkwX0_goesOver_3 : List UInt8 := [42, 180, 0, 81, 27, 46, 4, 84, 132, 1, 1, 167, 255, 226, 3, 60, 27, 42, 180, 0, 153, 162, 0, 87]
abbrev dktX0_goesOver_3 : List UInt8 := dkwX0_goesOver_3 ++ dktX0_goesOver_4
def dkwX0_goesOver_2 : List UInt8 := [167, 255, 211, 3, 60, 27, 42, 180, 0, 200, 162, 0, 28, 42, 180, 0, 92, 42, 180, 0, 78, 27, 46, 50]
abbrev dktX0_goesOver_2 : List UInt8 := dkwX0_goesOver_2 ++ dktX0_goesOver_3
def dkwX0_goesOver_1 : List UInt8 := [27, 50, 28, 27, 28, 160, 0, 7, 4, 167, 0, 4, 3, 84, 132, 2, 1, 167, 255, 227, 132, 1, 1]
abbrev dktX0_goesOver_1 : List UInt8 := dkwX0_goesOver_1 ++ dktX0_goesOver_2
def dkwX0_goesOver_0 : List UInt8 := [3, 60, 27, 42, 180, 0, 153, 162, 0, 43, 3, 61, 28, 42, 180, 0, 153, 162, 0, 27, 42, 180, 0, 92]
abbrev dktX0_goesOver_0 : List UInt8 := dkwX0_goesOver_0 ++ dktX0_goesOver_1
theorem dksX0_goesOver_0 : cX0_goesOver.data.toList.drop 0 = dktX0_goesOver_0 := by decide +kernel
theorem dksX0_goesOver_1 : cX0_goesOver.data.toList.drop 24 = dktX0_goesOver_1 := dk_seg dksX0_goesOver_0 24 rfl rfl
theorem dksX0_goesOver_2 : cX0_goesOver.data.toList.drop 47 = dktX0_goesOver_2 := dk_seg dksX0_goesOver_1 23 rfl rfl
theorem dksX0_goesOver_3 : cX0_goesOver.data.toList.drop 71 = dktX0_goesOver_3 := dk_seg dksX0_goesOver_2 24 rfl rfl
theorem dksX0_goesOver_4 : cX0_goesOver.data.toList.drop 95 = dktX0_goesOver_4 := dk_seg dksX0_goesOver_3 24 rfl rfl
theorem dksX0_goesOver_5 : cX0_goesOver.data.toList.drop 119 = dktX0_goesOver_5 := dk_seg dksX0_goesOver_4 24 rfl rfl
theorem dksX0_goesOver_6 : cX0_goesOver.data.toList.drop 141 = dktX0_goesOver_6 := dk_seg dksX0_goesOver_5 22 rfl rfl
theorem dksX0_goesOver_7 : cX0_goesOver.data.toList.drop 164 = dktX0_goesOver_7 := dk_seg dksX0_goesOver_6 23 rfl rfl
theorem dX0_goesOver_0 : decode cX0_goesOver 0 = .ok (.iconst 0, 1) := dk_3 (dk_at dksX0_goesOver_0 0 rfl rfl)
theorem dX0_goesOver_1 : decode cX0_goesOver 1 = .ok (.istore_n 1, 1) := dk_60 (dk_at dksX0_goesOver_0 1 rfl rfl)
theorem dX0_goesOver_2 : decode cX0_goesOver 2 = .ok (.iload_n 1, 1) := dk_27 (dk_at dksX0_goesOver_0 2 rfl rfl)
theorem dX0_goesOver_3 : decode cX0_goesOver 3 = .ok (.aload_n 0, 1) := dk_42 (dk_at dksX0_goesOver_0 3 rfl rfl)
theorem dX0_goesOver_4 : decode cX0_goesOver 4 = .ok (.getfield 153, 3) := dk_180 0 153 (dk_at dksX0_goesOver_0 4 rfl rfl)
theorem dX0_goesOver_7 : decode cX0_goesOver 7 = .ok (.if_icmp .ge 43, 3) := dk_162 0 43 (dk_at dksX0_goesOver_0 7 rfl rfl)
theorem dX0_goesOver_10 : decode cX0_goesOver 10 = .ok (.iconst 0, 1) := dk_3 (dk_at dksX0_goesOver_0 10 rfl rfl)
theorem dX0_goesOver_11 : decode cX0_goesOver 11 = .ok (.istore_n 2, 1) := dk_61 (dk_at dksX0_goesOver_0 11 rfl rfl)
theorem dX0_goesOver_12 : decode cX0_goesOver 12 = .ok (.iload_n 2, 1) := dk_28 (dk_at dksX0_goesOver_0 12 rfl rfl)
theorem dX0_goesOver_13 : decode cX0_goesOver 13 = .ok (.aload_n 0, 1) := dk_42 (dk_at dksX0_goesOver_0 13 rfl rfl)
theorem dX0_goesOver_14 : decode cX0_goesOver 14 = .ok (.getfield 153, 3) := dk_180 0 153 (dk_at dksX0_goesOver_0 14 rfl rfl)
theorem dX0_goesOver_17 : decode cX0_goesOver 17 = .ok (.if_icmp .ge 27, 3) := dk_162 0 27 (dk_at dksX0_goesOver_0 17 rfl rfl)
theorem dX0_goesOver_20 : decode cX0_goesOver 20 = .ok (.aload_n 0, 1) := dk_42 (dk_at dksX0_goesOver_0 20 rfl rfl)
theorem dX0_goesOver_21 : decode cX0_goesOver 21 = .ok (.getfield 92, 3) := dk_180 0 92 (dk_at dksX0_goesOver_0 21 rfl rfl)
theorem dX0_goesOver_24 : decode cX0_goesOver 24 = .ok (.iload_n 1, 1) := dk_27 (dk_at dksX0_goesOver_1 0 rfl rfl)
theorem dX0_goesOver_25 : decode cX0_goesOver 25 = .ok (.aaload, 1) := dk_50 (dk_at dksX0_goesOver_1 1 rfl rfl)
theorem dX0_goesOver_26 : decode cX0_goesOver 26 = .ok (.iload_n 2, 1) := dk_28 (dk_at dksX0_goesOver_1 2 rfl rfl)
theorem dX0_goesOver_27 : decode cX0_goesOver 27 = .ok (.iload_n 1, 1) := dk_27 (dk_at dksX0_goesOver_1 3 rfl rfl)
theorem dX0_goesOver_28 : decode cX0_goesOver 28 = .ok (.iload_n 2, 1) := dk_28 (dk_at dksX0_goesOver_1 4 rfl rfl)
theorem dX0_goesOver_29 : decode cX0_goesOver 29 = .ok (.if_icmp .ne 7, 3) := dk_160 0 7 (dk_at dksX0_goesOver_1 5 rfl rfl)
theorem dX0_goesOver_32 : decode cX0_goesOver 32 = .ok (.iconst 1, 1) := dk_4 (dk_at dksX0_goesOver_1 8 rfl rfl)
theorem dX0_goesOver_33 : decode cX0_goesOver 33 = .ok (.goto 4, 3) := dk_167 0 4 (dk_at dksX0_goesOver_1 9 rfl rfl)
theorem dX0_goesOver_36 : decode cX0_goesOver 36 = .ok (.iconst 0, 1) := dk_3 (dk_at dksX0_goesOver_1 12 rfl rfl)
theorem dX0_goesOver_37 : decode cX0_goesOver 37 = .ok (.bastore, 1) := dk_84 (dk_at dksX0_goesOver_1 13 rfl rfl)
theorem dX0_goesOver_38 : decode cX0_goesOver 38 = .ok (.iinc 2 1, 3) := dk_132 2 1 (dk_at dksX0_goesOver_1 14 rfl rfl)
theorem dX0_goesOver_41 : decode cX0_goesOver 41 = .ok (.goto (-29), 3) := dk_167 255 227 (dk_at dksX0_goesOver_1 17 rfl rfl)
theorem dX0_goesOver_44 : decode cX0_goesOver 44 = .ok (.iinc 1 1, 3) := dk_132 1 1 (dk_at dksX0_goesOver_1 20 rfl rfl)
theorem dX0_goesOver_47 : decode cX0_goesOver 47 = .ok (.goto (-45), 3) := dk_167 255 211 (dk_at dksX0_goesOver_2 0 rfl rfl)
theorem dX0_goesOver_50 : decode cX0_goesOver 50 = .ok (.iconst 0, 1) := dk_3 (dk_at dksX0_goesOver_2 3 rfl rfl)
theorem dX0_goesOver_51 : decode cX0_goesOver 51 = .ok (.istore_n 1, 1) := dk_60 (dk_at dksX0_goesOver_2 4 rfl rfl)
theorem dX0_goesOver_52 : decode cX0_goesOver 52 = .ok (.iload_n 1, 1) := dk_27 (dk_at dksX0_goesOver_2 5 rfl rfl)
theorem dX0_goesOver_53 : decode cX0_goesOver 53 = .ok (.aload_n 0, 1) := dk_42 (dk_at dksX0_goesOver_2 6 rfl rfl)
theorem dX0_goesOver_54 : decode cX0_goesOver 54 = .ok (.getfield 200, 3) := dk_180 0 200 (dk_at dksX0_goesOver_2 7 rfl rfl)
theorem dX0_goesOver_57 : decode cX0_goesOver 57 = .ok (.if_icmp .ge 28, 3) := dk_162 0 28 (dk_at dksX0_goesOver_2 10 rfl rfl)
theorem dX0_goesOver_60 : decode cX0_goesOver 60 = .ok (.aload_n 0, 1) := dk_42 (dk_at dksX0_goesOver_2 13 rfl rfl)
theorem dX0_goesOver_61 : decode cX0_goesOver 61 = .ok (.getfield 92, 3) := dk_180 0 92 (dk_at dksX0_goesOver_2 14 rfl rfl)
theorem dX0_goesOver_64 : decode cX0_goesOver 64 = .ok (.aload_n 0, 1) := dk_42 (dk_at dksX0_goesOver_2 17 rfl rfl)
theorem dX0_goesOver_65 : decode cX0_goesOver 65 = .ok (.getfield 78, 3) := dk_180 0 78 (dk_at dksX0_goesOver_2 18 rfl rfl)
theorem dX0_goesOver_68 : decode cX0_goesOver 68 = .ok (.iload_n 1, 1) := dk_27 (dk_at dksX0_goesOver_2 21 rfl rfl)
theorem dX0_goesOver_69 : decode cX0_goesOver 69 = .ok (.iaload, 1) := dk_46 (dk_at dksX0_goesOver_2 22 rfl rfl)
theorem dX0_goesOver_70 : decode cX0_goesOver 70 = .ok (.aaload, 1) := dk_50 (dk_at dksX0_goesOver_2 23 rfl rfl)
theorem dX0_goesOver_71 : decode cX0_goesOver 71 = .ok (.aload_n 0, 1) := dk_42 (dk_at dksX0_goesOver_3 0 rfl rfl)
theorem dX0_goesOver_72 : decode cX0_goesOver 72 = .ok (.getfield 81, 3) := dk_180 0 81 (dk_at dksX0_goesOver_3 1 rfl rfl)
theorem dX0_goesOver_75 : decode cX0_goesOver 75 = .ok (.iload_n 1, 1) := dk_27 (dk_at dksX0_goesOver_3 4 rfl rfl)
theorem dX0_goesOver_76 : decode cX0_goesOver 76 = .ok (.iaload, 1) := dk_46 (dk_at dksX0_goesOver_3 5 rfl rfl)
theorem dX0_goesOver_77 : decode cX0_goesOver 77 = .ok (.iconst 1, 1) := dk_4 (dk_at dksX0_goesOver_3 6 rfl rfl)
theorem dX0_goesOver_78 : decode cX0_goesOver 78 = .ok (.bastore, 1) := dk_84 (dk_at dksX0_goesOver_3 7 rfl rfl)
theorem dX0_goesOver_79 : decode cX0_goesOver 79 = .ok (.iinc 1 1, 3) := dk_132 1 1 (dk_at dksX0_goesOver_3 8 rfl rfl)
theorem dX0_goesOver_82 : decode cX0_goesOver 82 = .ok (.goto (-30), 3) := dk_167 255 226 (dk_at dksX0_goesOver_3 11 rfl rfl)
theorem dX0_goesOver_85 : decode cX0_goesOver 85 = .ok (.iconst 0, 1) := dk_3 (dk_at dksX0_goesOver_3 14 rfl rfl)
theorem dX0_goesOver_86 : decode cX0_goesOver 86 = .ok (.istore_n 1, 1) := dk_60 (dk_at dksX0_goesOver_3 15 rfl rfl)
theorem dX0_goesOver_87 : decode cX0_goesOver 87 = .ok (.iload_n 1, 1) := dk_27 (dk_at dksX0_goesOver_3 16 rfl rfl)
theorem dX0_goesOver_88 : decode cX0_goesOver 88 = .ok (.aload_n 0, 1) := dk_42 (dk_at dksX0_goesOver_3 17 rfl rfl)
theorem dX0_goesOver_89 : decode cX0_goesOver 89 = .ok (.getfield 153, 3) := dk_180 0 153 (dk_at dksX0_goesOver_3 18 rfl rfl)
theorem dX0_goesOver_92 : decode cX0_goesOver 92 = .ok (.if_icmp .ge 87, 3) := dk_162 0 87 (dk_at dksX0_goesOver_3 21 rfl rfl)
theorem dX0_goesOver_95 : decode cX0_goesOver 95 = .ok (.iconst 0, 1) := dk_3 (dk_at dksX0_goesOver_4 0 rfl rfl)
theorem dX0_goesOver_96 : decode cX0_goesOver 96 = .ok (.istore_n 2, 1) := dk_61 (dk_at dksX0_goesOver_4 1 rfl rfl)
theorem dX0_goesOver_97 : decode cX0_goesOver 97 = .ok (.iload_n 2, 1) := dk_28 (dk_at dksX0_goesOver_4 2 rfl rfl)
theorem dX0_goesOver_98 : decode cX0_goesOver 98 = .ok (.aload_n 0, 1) := dk_42 (dk_at dksX0_goesOver_4 3 rfl rfl)
theorem dX0_goesOver_99 : decode cX0_goesOver 99 = .ok (.getfield 153, 3) := dk_180 0 153 (dk_at dksX0_goesOver_4 4 rfl rfl)
theorem dX0_goesOver_102 : decode cX0_goesOver 102 = .ok (.if_icmp .ge 71, 3) := dk_162 0 71 (dk_at dksX0_goesOver_4 7 rfl rfl)
theorem dX0_goesOver_105 : decode cX0_goesOver 105 = .ok (.iconst 0, 1) := dk_3 (dk_at dksX0_goesOver_4 10 rfl rfl)
theorem dX0_goesOver_106 : decode cX0_goesOver 106 = .ok (.istore_n 3, 1) := dk_62 (dk_at dksX0_goesOver_4 11 rfl rfl)
theorem dX0_goesOver_107 : decode cX0_goesOver 107 = .ok (.iload_n 3, 1) := dk_29 (dk_at dksX0_goesOver_4 12 rfl rfl)
theorem dX0_goesOver_108 : decode cX0_goesOver 108 = .ok (.aload_n 0, 1) := dk_42 (dk_at dksX0_goesOver_4 13 rfl rfl)
theorem dX0_goesOver_109 : decode cX0_goesOver 109 = .ok (.getfield 153, 3) := dk_180 0 153 (dk_at dksX0_goesOver_4 14 rfl rfl)
theorem dX0_goesOver_112 : decode cX0_goesOver 112 = .ok (.if_icmp .ge 55, 3) := dk_162 0 55 (dk_at dksX0_goesOver_4 17 rfl rfl)
theorem dX0_goesOver_115 : decode cX0_goesOver 115 = .ok (.aload_n 0, 1) := dk_42 (dk_at dksX0_goesOver_4 20 rfl rfl)
theorem dX0_goesOver_116 : decode cX0_goesOver 116 = .ok (.getfield 92, 3) := dk_180 0 92 (dk_at dksX0_goesOver_4 21 rfl rfl)
theorem dX0_goesOver_119 : decode cX0_goesOver 119 = .ok (.iload_n 2, 1) := dk_28 (dk_at dksX0_goesOver_5 0 rfl rfl)
theorem dX0_goesOver_120 : decode cX0_goesOver 120 = .ok (.aaload, 1) := dk_50 (dk_at dksX0_goesOver_5 1 rfl rfl)
theorem dX0_goesOver_121 : decode cX0_goesOver 121 = .ok (.iload_n 3, 1) := dk_29 (dk_at dksX0_goesOver_5 2 rfl rfl)
theorem dX0_goesOver_122 : decode cX0_goesOver 122 = .ok (.aload_n 0, 1) := dk_42 (dk_at dksX0_goesOver_5 3 rfl rfl)
theorem dX0_goesOver_123 : decode cX0_goesOver 123 = .ok (.getfield 92, 3) := dk_180 0 92 (dk_at dksX0_goesOver_5 4 rfl rfl)
theorem dX0_goesOver_126 : decode cX0_goesOver 126 = .ok (.iload_n 2, 1) := dk_28 (dk_at dksX0_goesOver_5 7 rfl rfl)
theorem dX0_goesOver_127 : decode cX0_goesOver 127 = .ok (.aaload, 1) := dk_50 (dk_at dksX0_goesOver_5 8 rfl rfl)
theorem dX0_goesOver_128 : decode cX0_goesOver 128 = .ok (.iload_n 3, 1) := dk_29 (dk_at dksX0_goesOver_5 9 rfl rfl)
theorem dX0_goesOver_129 : decode cX0_goesOver 129 = .ok (.baload, 1) := dk_51 (dk_at dksX0_goesOver_5 10 rfl rfl)
theorem dX0_goesOver_130 : decode cX0_goesOver 130 = .ok (.ifCond .ne 25, 3) := dk_154 0 25 (dk_at dksX0_goesOver_5 11 rfl rfl)
theorem dX0_goesOver_133 : decode cX0_goesOver 133 = .ok (.aload_n 0, 1) := dk_42 (dk_at dksX0_goesOver_5 14 rfl rfl)
theorem dX0_goesOver_134 : decode cX0_goesOver 134 = .ok (.getfield 92, 3) := dk_180 0 92 (dk_at dksX0_goesOver_5 15 rfl rfl)
theorem dX0_goesOver_137 : decode cX0_goesOver 137 = .ok (.iload_n 2, 1) := dk_28 (dk_at dksX0_goesOver_5 18 rfl rfl)
theorem dX0_goesOver_138 : decode cX0_goesOver 138 = .ok (.aaload, 1) := dk_50 (dk_at dksX0_goesOver_5 19 rfl rfl)
theorem dX0_goesOver_139 : decode cX0_goesOver 139 = .ok (.iload_n 1, 1) := dk_27 (dk_at dksX0_goesOver_5 20 rfl rfl)
theorem dX0_goesOver_140 : decode cX0_goesOver 140 = .ok (.baload, 1) := dk_51 (dk_at dksX0_goesOver_5 21 rfl rfl)
theorem dX0_goesOver_141 : decode cX0_goesOver 141 = .ok (.ifCond .eq 18, 3) := dk_153 0 18 (dk_at dksX0_goesOver_6 0 rfl rfl)
theorem dX0_goesOver_144 : decode cX0_goesOver 144 = .ok (.aload_n 0, 1) := dk_42 (dk_at dksX0_goesOver_6 3 rfl rfl)
theorem dX0_goesOver_145 : decode cX0_goesOver 145 = .ok (.getfield 92, 3) := dk_180 0 92 (dk_at dksX0_goesOver_6 4 rfl rfl)
theorem dX0_goesOver_148 : decode cX0_goesOver 148 = .ok (.iload_n 1, 1) := dk_27 (dk_at dksX0_goesOver_6 7 rfl rfl)
theorem dX0_goesOver_149 : decode cX0_goesOver 149 = .ok (.aaload, 1) := dk_50 (dk_at dksX0_goesOver_6 8 rfl rfl)
theorem dX0_goesOver_150 : decode cX0_goesOver 150 = .ok (.iload_n 3, 1) := dk_29 (dk_at dksX0_goesOver_6 9 rfl rfl)
theorem dX0_goesOver_151 : decode cX0_goesOver 151 = .ok (.baload, 1) := dk_51 (dk_at dksX0_goesOver_6 10 rfl rfl)
theorem dX0_goesOver_152 : decode cX0_goesOver 152 = .ok (.ifCond .eq 7, 3) := dk_153 0 7 (dk_at dksX0_goesOver_6 11 rfl rfl)
theorem dX0_goesOver_155 : decode cX0_goesOver 155 = .ok (.iconst 1, 1) := dk_4 (dk_at dksX0_goesOver_6 14 rfl rfl)
theorem dX0_goesOver_156 : decode cX0_goesOver 156 = .ok (.goto 4, 3) := dk_167 0 4 (dk_at dksX0_goesOver_6 15 rfl rfl)
theorem dX0_goesOver_159 : decode cX0_goesOver 159 = .ok (.iconst 0, 1) := dk_3 (dk_at dksX0_goesOver_6 18 rfl rfl)
theorem dX0_goesOver_160 : decode cX0_goesOver 160 = .ok (.bastore, 1) := dk_84 (dk_at dksX0_goesOver_6 19 rfl rfl)
theorem dX0_goesOver_161 : decode cX0_goesOver 161 = .ok (.iinc 3 1, 3) := dk_132 3 1 (dk_at dksX0_goesOver_6 20 rfl rfl)
theorem dX0_goesOver_164 : decode cX0_goesOver 164 = .ok (.goto (-57), 3) := dk_167 255 199 (dk_at dksX0_goesOver_7 0 rfl rfl)
theorem dX0_goesOver_167 : decode cX0_goesOver 167 = .ok (.iinc 2 1, 3) := dk_132 2 1 (dk_at dksX0_goesOver_7 3 rfl rfl)
theorem dX0_goesOver_170 : decode cX0_goesOver 170 = .ok (.goto (-73), 3) := dk_167 255 183 (dk_at dksX0_goesOver_7 6 rfl rfl)
theorem dX0_goesOver_173 : decode cX0_goesOver 173 = .ok (.iinc 1 1, 3) := dk_132 1 1 (dk_at dksX0_goesOver_7 9 rfl rfl)
theorem dX0_goesOver_176 : decode cX0_goesOver 176 = .ok (.goto (-89), 3) := dk_167 255 167 (dk_at dksX0_goesOver_7 12 rfl rfl)
theorem dX0_goesOver_179 : decode cX0_goesOver 179 = .ok (.return_, 1) := dk_177 (dk_at dksX0_goesOver_7 15 rfl rfl)
abbrev cX0_tells : ByteArray := prog_1_method_21_code
def yX0_tells : MethodName := ⟨RX0, "tells", "(II)V"⟩
def dkwX0_tells_1 : List UInt8 := [180, 0, 200, 4, 96, 181, 0, 200, 177]
abbrev dktX0_tells_1 : List UInt8 := dkwX0_tells_1 ++ []
def dkwX0_tells_0 : List UInt8 := [42, 180, 0, 78, 42, 180, 0, 200, 27, 79, 42, 180, 0, 81, 42, 180, 0, 200, 28, 79, 42, 89]
abbrev dktX0_tells_0 : List UInt8 := dkwX0_tells_0 ++ dktX0_tells_1
theorem dksX0_tells_0 : cX0_tells.data.toList.drop 0 = dktX0_tells_0 := by decide +kernel
theorem dksX0_tells_1 : cX0_tells.data.toList.drop 22 = dktX0_tells_1 := dk_seg dksX0_tells_0 22 rfl rfl
theorem dX0_tells_0 : decode cX0_tells 0 = .ok (.aload_n 0, 1) := dk_42 (dk_at dksX0_tells_0 0 rfl rfl)
theorem dX0_tells_1 : decode cX0_tells 1 = .ok (.getfield 78, 3) := dk_180 0 78 (dk_at dksX0_tells_0 1 rfl rfl)
theorem dX0_tells_4 : decode cX0_tells 4 = .ok (.aload_n 0, 1) := dk_42 (dk_at dksX0_tells_0 4 rfl rfl)
theorem dX0_tells_5 : decode cX0_tells 5 = .ok (.getfield 200, 3) := dk_180 0 200 (dk_at dksX0_tells_0 5 rfl rfl)
theorem dX0_tells_8 : decode cX0_tells 8 = .ok (.iload_n 1, 1) := dk_27 (dk_at dksX0_tells_0 8 rfl rfl)
theorem dX0_tells_9 : decode cX0_tells 9 = .ok (.iastore, 1) := dk_79 (dk_at dksX0_tells_0 9 rfl rfl)
theorem dX0_tells_10 : decode cX0_tells 10 = .ok (.aload_n 0, 1) := dk_42 (dk_at dksX0_tells_0 10 rfl rfl)
theorem dX0_tells_11 : decode cX0_tells 11 = .ok (.getfield 81, 3) := dk_180 0 81 (dk_at dksX0_tells_0 11 rfl rfl)
theorem dX0_tells_14 : decode cX0_tells 14 = .ok (.aload_n 0, 1) := dk_42 (dk_at dksX0_tells_0 14 rfl rfl)
theorem dX0_tells_15 : decode cX0_tells 15 = .ok (.getfield 200, 3) := dk_180 0 200 (dk_at dksX0_tells_0 15 rfl rfl)
theorem dX0_tells_18 : decode cX0_tells 18 = .ok (.iload_n 2, 1) := dk_28 (dk_at dksX0_tells_0 18 rfl rfl)
theorem dX0_tells_19 : decode cX0_tells 19 = .ok (.iastore, 1) := dk_79 (dk_at dksX0_tells_0 19 rfl rfl)
theorem dX0_tells_20 : decode cX0_tells 20 = .ok (.aload_n 0, 1) := dk_42 (dk_at dksX0_tells_0 20 rfl rfl)
theorem dX0_tells_21 : decode cX0_tells 21 = .ok (.dup, 1) := dk_89 (dk_at dksX0_tells_0 21 rfl rfl)
theorem dX0_tells_22 : decode cX0_tells 22 = .ok (.getfield 200, 3) := dk_180 0 200 (dk_at dksX0_tells_1 0 rfl rfl)
theorem dX0_tells_25 : decode cX0_tells 25 = .ok (.iconst 1, 1) := dk_4 (dk_at dksX0_tells_1 3 rfl rfl)
theorem dX0_tells_26 : decode cX0_tells 26 = .ok (.iadd, 1) := dk_96 (dk_at dksX0_tells_1 4 rfl rfl)
theorem dX0_tells_27 : decode cX0_tells 27 = .ok (.putfield 200, 3) := dk_181 0 200 (dk_at dksX0_tells_1 5 rfl rfl)
theorem dX0_tells_30 : decode cX0_tells 30 = .ok (.return_, 1) := dk_177 (dk_at dksX0_tells_1 8 rfl rfl)
abbrev cX0_dates : ByteArray := prog_1_method_19_code
def yX0_dates : MethodName := ⟨RX0, "dates", "()Z"⟩
def dkwX0_dates_7 : List UInt8 := [46, 42, 180, 0, 87, 28, 46, 163, 0, 7, 4, 167, 0, 4, 3, 60, 132, 2, 1, 167, 255, 220, 27, 172]
abbrev dktX0_dates_7 : List UInt8 := dkwX0_dates_7 ++ []
def dkwX0_dates_6 : List UInt8 := [167, 255, 157, 4, 60, 3, 61, 28, 42, 180, 0, 153, 162, 0, 34, 27, 153, 0, 30, 42, 180, 0, 84, 28]
abbrev dktX0_dates_6 : List UInt8 := dkwX0_dates_6 ++ dktX0_dates_7
def dkwX0_dates_5 : List UInt8 := [180, 0, 87, 42, 180, 0, 78, 28, 46, 46, 184, 0, 209, 79, 132, 2, 1, 167, 255, 173, 132, 1, 1]
abbrev dktX0_dates_5 : List UInt8 := dkwX0_dates_5 ++ dktX0_dates_6
def dkwX0_dates_4 : List UInt8 := [79, 42, 180, 0, 87, 42, 180, 0, 81, 28, 46, 42, 180, 0, 87, 42, 180, 0, 81, 28, 46, 46, 42]
abbrev dktX0_dates_4 : List UInt8 := dkwX0_dates_4 ++ dktX0_dates_5
def dkwX0_dates_3 : List UInt8 := [180, 0, 84, 42, 180, 0, 78, 28, 46, 46, 42, 180, 0, 84, 42, 180, 0, 81, 28, 46, 46, 184, 0, 203]
abbrev dktX0_dates_3 : List UInt8 := dkwX0_dates_3 ++ dktX0_dates_4
def dkwX0_dates_2 : List UInt8 := [162, 0, 97, 3, 61, 28, 42, 180, 0, 200, 162, 0, 81, 42, 180, 0, 84, 42, 180, 0, 78, 28, 46, 42]
abbrev dktX0_dates_2 : List UInt8 := dkwX0_dates_2 ++ dktX0_dates_3
def dkwX0_dates_1 : List UInt8 := [180, 0, 87, 27, 42, 180, 0, 68, 27, 46, 79, 132, 1, 1, 167, 255, 221, 3, 60, 27, 42, 180, 0, 153]
abbrev dktX0_dates_1 : List UInt8 := dkwX0_dates_1 ++ dktX0_dates_2
def dkwX0_dates_0 : List UInt8 := [3, 60, 27, 42, 180, 0, 153, 162, 0, 33, 42, 180, 0, 84, 27, 42, 180, 0, 65, 27, 46, 79, 42]
abbrev dktX0_dates_0 : List UInt8 := dkwX0_dates_0 ++ dktX0_dates_1
theorem dksX0_dates_0 : cX0_dates.data.toList.drop 0 = dktX0_dates_0 := by decide +kernel
theorem dksX0_dates_1 : cX0_dates.data.toList.drop 23 = dktX0_dates_1 := dk_seg dksX0_dates_0 23 rfl rfl
theorem dksX0_dates_2 : cX0_dates.data.toList.drop 47 = dktX0_dates_2 := dk_seg dksX0_dates_1 24 rfl rfl
theorem dksX0_dates_3 : cX0_dates.data.toList.drop 71 = dktX0_dates_3 := dk_seg dksX0_dates_2 24 rfl rfl
theorem dksX0_dates_4 : cX0_dates.data.toList.drop 95 = dktX0_dates_4 := dk_seg dksX0_dates_3 24 rfl rfl
theorem dksX0_dates_5 : cX0_dates.data.toList.drop 118 = dktX0_dates_5 := dk_seg dksX0_dates_4 23 rfl rfl
theorem dksX0_dates_6 : cX0_dates.data.toList.drop 141 = dktX0_dates_6 := dk_seg dksX0_dates_5 23 rfl rfl
theorem dksX0_dates_7 : cX0_dates.data.toList.drop 165 = dktX0_dates_7 := dk_seg dksX0_dates_6 24 rfl rfl
theorem dX0_dates_0 : decode cX0_dates 0 = .ok (.iconst 0, 1) := dk_3 (dk_at dksX0_dates_0 0 rfl rfl)
theorem dX0_dates_1 : decode cX0_dates 1 = .ok (.istore_n 1, 1) := dk_60 (dk_at dksX0_dates_0 1 rfl rfl)
theorem dX0_dates_2 : decode cX0_dates 2 = .ok (.iload_n 1, 1) := dk_27 (dk_at dksX0_dates_0 2 rfl rfl)
theorem dX0_dates_3 : decode cX0_dates 3 = .ok (.aload_n 0, 1) := dk_42 (dk_at dksX0_dates_0 3 rfl rfl)
theorem dX0_dates_4 : decode cX0_dates 4 = .ok (.getfield 153, 3) := dk_180 0 153 (dk_at dksX0_dates_0 4 rfl rfl)
theorem dX0_dates_7 : decode cX0_dates 7 = .ok (.if_icmp .ge 33, 3) := dk_162 0 33 (dk_at dksX0_dates_0 7 rfl rfl)
theorem dX0_dates_10 : decode cX0_dates 10 = .ok (.aload_n 0, 1) := dk_42 (dk_at dksX0_dates_0 10 rfl rfl)
theorem dX0_dates_11 : decode cX0_dates 11 = .ok (.getfield 84, 3) := dk_180 0 84 (dk_at dksX0_dates_0 11 rfl rfl)
theorem dX0_dates_14 : decode cX0_dates 14 = .ok (.iload_n 1, 1) := dk_27 (dk_at dksX0_dates_0 14 rfl rfl)
theorem dX0_dates_15 : decode cX0_dates 15 = .ok (.aload_n 0, 1) := dk_42 (dk_at dksX0_dates_0 15 rfl rfl)
theorem dX0_dates_16 : decode cX0_dates 16 = .ok (.getfield 65, 3) := dk_180 0 65 (dk_at dksX0_dates_0 16 rfl rfl)
theorem dX0_dates_19 : decode cX0_dates 19 = .ok (.iload_n 1, 1) := dk_27 (dk_at dksX0_dates_0 19 rfl rfl)
theorem dX0_dates_20 : decode cX0_dates 20 = .ok (.iaload, 1) := dk_46 (dk_at dksX0_dates_0 20 rfl rfl)
theorem dX0_dates_21 : decode cX0_dates 21 = .ok (.iastore, 1) := dk_79 (dk_at dksX0_dates_0 21 rfl rfl)
theorem dX0_dates_22 : decode cX0_dates 22 = .ok (.aload_n 0, 1) := dk_42 (dk_at dksX0_dates_0 22 rfl rfl)
theorem dX0_dates_23 : decode cX0_dates 23 = .ok (.getfield 87, 3) := dk_180 0 87 (dk_at dksX0_dates_1 0 rfl rfl)
theorem dX0_dates_26 : decode cX0_dates 26 = .ok (.iload_n 1, 1) := dk_27 (dk_at dksX0_dates_1 3 rfl rfl)
theorem dX0_dates_27 : decode cX0_dates 27 = .ok (.aload_n 0, 1) := dk_42 (dk_at dksX0_dates_1 4 rfl rfl)
theorem dX0_dates_28 : decode cX0_dates 28 = .ok (.getfield 68, 3) := dk_180 0 68 (dk_at dksX0_dates_1 5 rfl rfl)
theorem dX0_dates_31 : decode cX0_dates 31 = .ok (.iload_n 1, 1) := dk_27 (dk_at dksX0_dates_1 8 rfl rfl)
theorem dX0_dates_32 : decode cX0_dates 32 = .ok (.iaload, 1) := dk_46 (dk_at dksX0_dates_1 9 rfl rfl)
theorem dX0_dates_33 : decode cX0_dates 33 = .ok (.iastore, 1) := dk_79 (dk_at dksX0_dates_1 10 rfl rfl)
theorem dX0_dates_34 : decode cX0_dates 34 = .ok (.iinc 1 1, 3) := dk_132 1 1 (dk_at dksX0_dates_1 11 rfl rfl)
theorem dX0_dates_37 : decode cX0_dates 37 = .ok (.goto (-35), 3) := dk_167 255 221 (dk_at dksX0_dates_1 14 rfl rfl)
theorem dX0_dates_40 : decode cX0_dates 40 = .ok (.iconst 0, 1) := dk_3 (dk_at dksX0_dates_1 17 rfl rfl)
theorem dX0_dates_41 : decode cX0_dates 41 = .ok (.istore_n 1, 1) := dk_60 (dk_at dksX0_dates_1 18 rfl rfl)
theorem dX0_dates_42 : decode cX0_dates 42 = .ok (.iload_n 1, 1) := dk_27 (dk_at dksX0_dates_1 19 rfl rfl)
theorem dX0_dates_43 : decode cX0_dates 43 = .ok (.aload_n 0, 1) := dk_42 (dk_at dksX0_dates_1 20 rfl rfl)
theorem dX0_dates_44 : decode cX0_dates 44 = .ok (.getfield 153, 3) := dk_180 0 153 (dk_at dksX0_dates_1 21 rfl rfl)
theorem dX0_dates_47 : decode cX0_dates 47 = .ok (.if_icmp .ge 97, 3) := dk_162 0 97 (dk_at dksX0_dates_2 0 rfl rfl)
theorem dX0_dates_50 : decode cX0_dates 50 = .ok (.iconst 0, 1) := dk_3 (dk_at dksX0_dates_2 3 rfl rfl)
theorem dX0_dates_51 : decode cX0_dates 51 = .ok (.istore_n 2, 1) := dk_61 (dk_at dksX0_dates_2 4 rfl rfl)
theorem dX0_dates_52 : decode cX0_dates 52 = .ok (.iload_n 2, 1) := dk_28 (dk_at dksX0_dates_2 5 rfl rfl)
theorem dX0_dates_53 : decode cX0_dates 53 = .ok (.aload_n 0, 1) := dk_42 (dk_at dksX0_dates_2 6 rfl rfl)
theorem dX0_dates_54 : decode cX0_dates 54 = .ok (.getfield 200, 3) := dk_180 0 200 (dk_at dksX0_dates_2 7 rfl rfl)
theorem dX0_dates_57 : decode cX0_dates 57 = .ok (.if_icmp .ge 81, 3) := dk_162 0 81 (dk_at dksX0_dates_2 10 rfl rfl)
theorem dX0_dates_60 : decode cX0_dates 60 = .ok (.aload_n 0, 1) := dk_42 (dk_at dksX0_dates_2 13 rfl rfl)
theorem dX0_dates_61 : decode cX0_dates 61 = .ok (.getfield 84, 3) := dk_180 0 84 (dk_at dksX0_dates_2 14 rfl rfl)
theorem dX0_dates_64 : decode cX0_dates 64 = .ok (.aload_n 0, 1) := dk_42 (dk_at dksX0_dates_2 17 rfl rfl)
theorem dX0_dates_65 : decode cX0_dates 65 = .ok (.getfield 78, 3) := dk_180 0 78 (dk_at dksX0_dates_2 18 rfl rfl)
theorem dX0_dates_68 : decode cX0_dates 68 = .ok (.iload_n 2, 1) := dk_28 (dk_at dksX0_dates_2 21 rfl rfl)
theorem dX0_dates_69 : decode cX0_dates 69 = .ok (.iaload, 1) := dk_46 (dk_at dksX0_dates_2 22 rfl rfl)
theorem dX0_dates_70 : decode cX0_dates 70 = .ok (.aload_n 0, 1) := dk_42 (dk_at dksX0_dates_2 23 rfl rfl)
theorem dX0_dates_71 : decode cX0_dates 71 = .ok (.getfield 84, 3) := dk_180 0 84 (dk_at dksX0_dates_3 0 rfl rfl)
theorem dX0_dates_74 : decode cX0_dates 74 = .ok (.aload_n 0, 1) := dk_42 (dk_at dksX0_dates_3 3 rfl rfl)
theorem dX0_dates_75 : decode cX0_dates 75 = .ok (.getfield 78, 3) := dk_180 0 78 (dk_at dksX0_dates_3 4 rfl rfl)
theorem dX0_dates_78 : decode cX0_dates 78 = .ok (.iload_n 2, 1) := dk_28 (dk_at dksX0_dates_3 7 rfl rfl)
theorem dX0_dates_79 : decode cX0_dates 79 = .ok (.iaload, 1) := dk_46 (dk_at dksX0_dates_3 8 rfl rfl)
theorem dX0_dates_80 : decode cX0_dates 80 = .ok (.iaload, 1) := dk_46 (dk_at dksX0_dates_3 9 rfl rfl)
theorem dX0_dates_81 : decode cX0_dates 81 = .ok (.aload_n 0, 1) := dk_42 (dk_at dksX0_dates_3 10 rfl rfl)
theorem dX0_dates_82 : decode cX0_dates 82 = .ok (.getfield 84, 3) := dk_180 0 84 (dk_at dksX0_dates_3 11 rfl rfl)
theorem dX0_dates_85 : decode cX0_dates 85 = .ok (.aload_n 0, 1) := dk_42 (dk_at dksX0_dates_3 14 rfl rfl)
theorem dX0_dates_86 : decode cX0_dates 86 = .ok (.getfield 81, 3) := dk_180 0 81 (dk_at dksX0_dates_3 15 rfl rfl)
theorem dX0_dates_89 : decode cX0_dates 89 = .ok (.iload_n 2, 1) := dk_28 (dk_at dksX0_dates_3 18 rfl rfl)
theorem dX0_dates_90 : decode cX0_dates 90 = .ok (.iaload, 1) := dk_46 (dk_at dksX0_dates_3 19 rfl rfl)
theorem dX0_dates_91 : decode cX0_dates 91 = .ok (.iaload, 1) := dk_46 (dk_at dksX0_dates_3 20 rfl rfl)
theorem dX0_dates_92 : decode cX0_dates 92 = .ok (.invokestatic 203, 3) := dk_184 0 203 (dk_at dksX0_dates_3 21 rfl rfl)
theorem dX0_dates_95 : decode cX0_dates 95 = .ok (.iastore, 1) := dk_79 (dk_at dksX0_dates_4 0 rfl rfl)
theorem dX0_dates_96 : decode cX0_dates 96 = .ok (.aload_n 0, 1) := dk_42 (dk_at dksX0_dates_4 1 rfl rfl)
theorem dX0_dates_97 : decode cX0_dates 97 = .ok (.getfield 87, 3) := dk_180 0 87 (dk_at dksX0_dates_4 2 rfl rfl)
theorem dX0_dates_100 : decode cX0_dates 100 = .ok (.aload_n 0, 1) := dk_42 (dk_at dksX0_dates_4 5 rfl rfl)
theorem dX0_dates_101 : decode cX0_dates 101 = .ok (.getfield 81, 3) := dk_180 0 81 (dk_at dksX0_dates_4 6 rfl rfl)
theorem dX0_dates_104 : decode cX0_dates 104 = .ok (.iload_n 2, 1) := dk_28 (dk_at dksX0_dates_4 9 rfl rfl)
theorem dX0_dates_105 : decode cX0_dates 105 = .ok (.iaload, 1) := dk_46 (dk_at dksX0_dates_4 10 rfl rfl)
theorem dX0_dates_106 : decode cX0_dates 106 = .ok (.aload_n 0, 1) := dk_42 (dk_at dksX0_dates_4 11 rfl rfl)
theorem dX0_dates_107 : decode cX0_dates 107 = .ok (.getfield 87, 3) := dk_180 0 87 (dk_at dksX0_dates_4 12 rfl rfl)
theorem dX0_dates_110 : decode cX0_dates 110 = .ok (.aload_n 0, 1) := dk_42 (dk_at dksX0_dates_4 15 rfl rfl)
theorem dX0_dates_111 : decode cX0_dates 111 = .ok (.getfield 81, 3) := dk_180 0 81 (dk_at dksX0_dates_4 16 rfl rfl)
theorem dX0_dates_114 : decode cX0_dates 114 = .ok (.iload_n 2, 1) := dk_28 (dk_at dksX0_dates_4 19 rfl rfl)
theorem dX0_dates_115 : decode cX0_dates 115 = .ok (.iaload, 1) := dk_46 (dk_at dksX0_dates_4 20 rfl rfl)
theorem dX0_dates_116 : decode cX0_dates 116 = .ok (.iaload, 1) := dk_46 (dk_at dksX0_dates_4 21 rfl rfl)
theorem dX0_dates_117 : decode cX0_dates 117 = .ok (.aload_n 0, 1) := dk_42 (dk_at dksX0_dates_4 22 rfl rfl)
theorem dX0_dates_118 : decode cX0_dates 118 = .ok (.getfield 87, 3) := dk_180 0 87 (dk_at dksX0_dates_5 0 rfl rfl)
theorem dX0_dates_121 : decode cX0_dates 121 = .ok (.aload_n 0, 1) := dk_42 (dk_at dksX0_dates_5 3 rfl rfl)
theorem dX0_dates_122 : decode cX0_dates 122 = .ok (.getfield 78, 3) := dk_180 0 78 (dk_at dksX0_dates_5 4 rfl rfl)
theorem dX0_dates_125 : decode cX0_dates 125 = .ok (.iload_n 2, 1) := dk_28 (dk_at dksX0_dates_5 7 rfl rfl)
theorem dX0_dates_126 : decode cX0_dates 126 = .ok (.iaload, 1) := dk_46 (dk_at dksX0_dates_5 8 rfl rfl)
theorem dX0_dates_127 : decode cX0_dates 127 = .ok (.iaload, 1) := dk_46 (dk_at dksX0_dates_5 9 rfl rfl)
theorem dX0_dates_128 : decode cX0_dates 128 = .ok (.invokestatic 209, 3) := dk_184 0 209 (dk_at dksX0_dates_5 10 rfl rfl)
theorem dX0_dates_131 : decode cX0_dates 131 = .ok (.iastore, 1) := dk_79 (dk_at dksX0_dates_5 13 rfl rfl)
theorem dX0_dates_132 : decode cX0_dates 132 = .ok (.iinc 2 1, 3) := dk_132 2 1 (dk_at dksX0_dates_5 14 rfl rfl)
theorem dX0_dates_135 : decode cX0_dates 135 = .ok (.goto (-83), 3) := dk_167 255 173 (dk_at dksX0_dates_5 17 rfl rfl)
theorem dX0_dates_138 : decode cX0_dates 138 = .ok (.iinc 1 1, 3) := dk_132 1 1 (dk_at dksX0_dates_5 20 rfl rfl)
theorem dX0_dates_141 : decode cX0_dates 141 = .ok (.goto (-99), 3) := dk_167 255 157 (dk_at dksX0_dates_6 0 rfl rfl)
theorem dX0_dates_144 : decode cX0_dates 144 = .ok (.iconst 1, 1) := dk_4 (dk_at dksX0_dates_6 3 rfl rfl)
theorem dX0_dates_145 : decode cX0_dates 145 = .ok (.istore_n 1, 1) := dk_60 (dk_at dksX0_dates_6 4 rfl rfl)
theorem dX0_dates_146 : decode cX0_dates 146 = .ok (.iconst 0, 1) := dk_3 (dk_at dksX0_dates_6 5 rfl rfl)
theorem dX0_dates_147 : decode cX0_dates 147 = .ok (.istore_n 2, 1) := dk_61 (dk_at dksX0_dates_6 6 rfl rfl)
theorem dX0_dates_148 : decode cX0_dates 148 = .ok (.iload_n 2, 1) := dk_28 (dk_at dksX0_dates_6 7 rfl rfl)
theorem dX0_dates_149 : decode cX0_dates 149 = .ok (.aload_n 0, 1) := dk_42 (dk_at dksX0_dates_6 8 rfl rfl)
theorem dX0_dates_150 : decode cX0_dates 150 = .ok (.getfield 153, 3) := dk_180 0 153 (dk_at dksX0_dates_6 9 rfl rfl)
theorem dX0_dates_153 : decode cX0_dates 153 = .ok (.if_icmp .ge 34, 3) := dk_162 0 34 (dk_at dksX0_dates_6 12 rfl rfl)
theorem dX0_dates_156 : decode cX0_dates 156 = .ok (.iload_n 1, 1) := dk_27 (dk_at dksX0_dates_6 15 rfl rfl)
theorem dX0_dates_157 : decode cX0_dates 157 = .ok (.ifCond .eq 30, 3) := dk_153 0 30 (dk_at dksX0_dates_6 16 rfl rfl)
theorem dX0_dates_160 : decode cX0_dates 160 = .ok (.aload_n 0, 1) := dk_42 (dk_at dksX0_dates_6 19 rfl rfl)
theorem dX0_dates_161 : decode cX0_dates 161 = .ok (.getfield 84, 3) := dk_180 0 84 (dk_at dksX0_dates_6 20 rfl rfl)
theorem dX0_dates_164 : decode cX0_dates 164 = .ok (.iload_n 2, 1) := dk_28 (dk_at dksX0_dates_6 23 rfl rfl)
theorem dX0_dates_165 : decode cX0_dates 165 = .ok (.iaload, 1) := dk_46 (dk_at dksX0_dates_7 0 rfl rfl)
theorem dX0_dates_166 : decode cX0_dates 166 = .ok (.aload_n 0, 1) := dk_42 (dk_at dksX0_dates_7 1 rfl rfl)
theorem dX0_dates_167 : decode cX0_dates 167 = .ok (.getfield 87, 3) := dk_180 0 87 (dk_at dksX0_dates_7 2 rfl rfl)
theorem dX0_dates_170 : decode cX0_dates 170 = .ok (.iload_n 2, 1) := dk_28 (dk_at dksX0_dates_7 5 rfl rfl)
theorem dX0_dates_171 : decode cX0_dates 171 = .ok (.iaload, 1) := dk_46 (dk_at dksX0_dates_7 6 rfl rfl)
theorem dX0_dates_172 : decode cX0_dates 172 = .ok (.if_icmp .gt 7, 3) := dk_163 0 7 (dk_at dksX0_dates_7 7 rfl rfl)
theorem dX0_dates_175 : decode cX0_dates 175 = .ok (.iconst 1, 1) := dk_4 (dk_at dksX0_dates_7 10 rfl rfl)
theorem dX0_dates_176 : decode cX0_dates 176 = .ok (.goto 4, 3) := dk_167 0 4 (dk_at dksX0_dates_7 11 rfl rfl)
theorem dX0_dates_179 : decode cX0_dates 179 = .ok (.iconst 0, 1) := dk_3 (dk_at dksX0_dates_7 14 rfl rfl)
theorem dX0_dates_180 : decode cX0_dates 180 = .ok (.istore_n 1, 1) := dk_60 (dk_at dksX0_dates_7 15 rfl rfl)
theorem dX0_dates_181 : decode cX0_dates 181 = .ok (.iinc 2 1, 3) := dk_132 2 1 (dk_at dksX0_dates_7 16 rfl rfl)
theorem dX0_dates_184 : decode cX0_dates 184 = .ok (.goto (-36), 3) := dk_167 255 220 (dk_at dksX0_dates_7 19 rfl rfl)
theorem dX0_dates_187 : decode cX0_dates 187 = .ok (.iload_n 1, 1) := dk_27 (dk_at dksX0_dates_7 22 rfl rfl)
theorem dX0_dates_188 : decode cX0_dates 188 = .ok (.ireturn, 1) := dk_172 (dk_at dksX0_dates_7 23 rfl rfl)
abbrev cX0_sealed : ByteArray := prog_1_method_23_code
def yX0_sealed : MethodName := ⟨RX0, "sealed", "(II)I"⟩
def dkwX0_sealed_2 : List UInt8 := [180, 0, 68, 27, 29, 79, 16, 249, 172]
abbrev dktX0_sealed_2 : List UInt8 := dkwX0_sealed_2 ++ []
def dkwX0_sealed_1 : List UInt8 := [180, 0, 68, 27, 46, 62, 42, 180, 0, 68, 27, 28, 79, 42, 182, 0, 222, 153, 0, 5, 3, 172, 42]
abbrev dktX0_sealed_1 : List UInt8 := dkwX0_sealed_1 ++ dktX0_sealed_2
def dkwX0_sealed_0 : List UInt8 := [42, 27, 182, 0, 177, 153, 0, 15, 28, 133, 9, 20, 0, 198, 184, 0, 5, 154, 0, 6, 16, 254, 172, 42]
abbrev dktX0_sealed_0 : List UInt8 := dkwX0_sealed_0 ++ dktX0_sealed_1
theorem dksX0_sealed_0 : cX0_sealed.data.toList.drop 0 = dktX0_sealed_0 := by decide +kernel
theorem dksX0_sealed_1 : cX0_sealed.data.toList.drop 24 = dktX0_sealed_1 := dk_seg dksX0_sealed_0 24 rfl rfl
theorem dksX0_sealed_2 : cX0_sealed.data.toList.drop 47 = dktX0_sealed_2 := dk_seg dksX0_sealed_1 23 rfl rfl
theorem dX0_sealed_0 : decode cX0_sealed 0 = .ok (.aload_n 0, 1) := dk_42 (dk_at dksX0_sealed_0 0 rfl rfl)
theorem dX0_sealed_1 : decode cX0_sealed 1 = .ok (.iload_n 1, 1) := dk_27 (dk_at dksX0_sealed_0 1 rfl rfl)
theorem dX0_sealed_2 : decode cX0_sealed 2 = .ok (.invokevirtual 177, 3) := dk_182 0 177 (dk_at dksX0_sealed_0 2 rfl rfl)
theorem dX0_sealed_5 : decode cX0_sealed 5 = .ok (.ifCond .eq 15, 3) := dk_153 0 15 (dk_at dksX0_sealed_0 5 rfl rfl)
theorem dX0_sealed_8 : decode cX0_sealed 8 = .ok (.iload_n 2, 1) := dk_28 (dk_at dksX0_sealed_0 8 rfl rfl)
theorem dX0_sealed_9 : decode cX0_sealed 9 = .ok (.i2l, 1) := dk_133 (dk_at dksX0_sealed_0 9 rfl rfl)
theorem dX0_sealed_10 : decode cX0_sealed 10 = .ok (.lconst 0, 1) := dk_9 (dk_at dksX0_sealed_0 10 rfl rfl)
theorem dX0_sealed_11 : decode cX0_sealed 11 = .ok (.ldc2_w 198, 3) := dk_20 0 198 (dk_at dksX0_sealed_0 11 rfl rfl)
theorem dX0_sealed_14 : decode cX0_sealed 14 = .ok (.invokestatic 5, 3) := dk_184 0 5 (dk_at dksX0_sealed_0 14 rfl rfl)
theorem dX0_sealed_17 : decode cX0_sealed 17 = .ok (.ifCond .ne 6, 3) := dk_154 0 6 (dk_at dksX0_sealed_0 17 rfl rfl)
theorem dX0_sealed_20 : decode cX0_sealed 20 = .ok (.bipush (-2), 2) := dk_16 254 (dk_at dksX0_sealed_0 20 rfl rfl)
theorem dX0_sealed_22 : decode cX0_sealed 22 = .ok (.ireturn, 1) := dk_172 (dk_at dksX0_sealed_0 22 rfl rfl)
theorem dX0_sealed_23 : decode cX0_sealed 23 = .ok (.aload_n 0, 1) := dk_42 (dk_at dksX0_sealed_0 23 rfl rfl)
theorem dX0_sealed_24 : decode cX0_sealed 24 = .ok (.getfield 68, 3) := dk_180 0 68 (dk_at dksX0_sealed_1 0 rfl rfl)
theorem dX0_sealed_27 : decode cX0_sealed 27 = .ok (.iload_n 1, 1) := dk_27 (dk_at dksX0_sealed_1 3 rfl rfl)
theorem dX0_sealed_28 : decode cX0_sealed 28 = .ok (.iaload, 1) := dk_46 (dk_at dksX0_sealed_1 4 rfl rfl)
theorem dX0_sealed_29 : decode cX0_sealed 29 = .ok (.istore_n 3, 1) := dk_62 (dk_at dksX0_sealed_1 5 rfl rfl)
theorem dX0_sealed_30 : decode cX0_sealed 30 = .ok (.aload_n 0, 1) := dk_42 (dk_at dksX0_sealed_1 6 rfl rfl)
theorem dX0_sealed_31 : decode cX0_sealed 31 = .ok (.getfield 68, 3) := dk_180 0 68 (dk_at dksX0_sealed_1 7 rfl rfl)
theorem dX0_sealed_34 : decode cX0_sealed 34 = .ok (.iload_n 1, 1) := dk_27 (dk_at dksX0_sealed_1 10 rfl rfl)
theorem dX0_sealed_35 : decode cX0_sealed 35 = .ok (.iload_n 2, 1) := dk_28 (dk_at dksX0_sealed_1 11 rfl rfl)
theorem dX0_sealed_36 : decode cX0_sealed 36 = .ok (.iastore, 1) := dk_79 (dk_at dksX0_sealed_1 12 rfl rfl)
theorem dX0_sealed_37 : decode cX0_sealed 37 = .ok (.aload_n 0, 1) := dk_42 (dk_at dksX0_sealed_1 13 rfl rfl)
theorem dX0_sealed_38 : decode cX0_sealed 38 = .ok (.invokevirtual 222, 3) := dk_182 0 222 (dk_at dksX0_sealed_1 14 rfl rfl)
theorem dX0_sealed_41 : decode cX0_sealed 41 = .ok (.ifCond .eq 5, 3) := dk_153 0 5 (dk_at dksX0_sealed_1 17 rfl rfl)
theorem dX0_sealed_44 : decode cX0_sealed 44 = .ok (.iconst 0, 1) := dk_3 (dk_at dksX0_sealed_1 20 rfl rfl)
theorem dX0_sealed_45 : decode cX0_sealed 45 = .ok (.ireturn, 1) := dk_172 (dk_at dksX0_sealed_1 21 rfl rfl)
theorem dX0_sealed_46 : decode cX0_sealed 46 = .ok (.aload_n 0, 1) := dk_42 (dk_at dksX0_sealed_1 22 rfl rfl)
theorem dX0_sealed_47 : decode cX0_sealed 47 = .ok (.getfield 68, 3) := dk_180 0 68 (dk_at dksX0_sealed_2 0 rfl rfl)
theorem dX0_sealed_50 : decode cX0_sealed 50 = .ok (.iload_n 1, 1) := dk_27 (dk_at dksX0_sealed_2 3 rfl rfl)
theorem dX0_sealed_51 : decode cX0_sealed 51 = .ok (.iload_n 3, 1) := dk_29 (dk_at dksX0_sealed_2 4 rfl rfl)
theorem dX0_sealed_52 : decode cX0_sealed 52 = .ok (.iastore, 1) := dk_79 (dk_at dksX0_sealed_2 5 rfl rfl)
theorem dX0_sealed_53 : decode cX0_sealed 53 = .ok (.bipush (-7), 2) := dk_16 249 (dk_at dksX0_sealed_2 6 rfl rfl)
theorem dX0_sealed_55 : decode cX0_sealed 55 = .ok (.ireturn, 1) := dk_172 (dk_at dksX0_sealed_2 8 rfl rfl)
abbrev cX0_joint : ByteArray := prog_1_method_24_code
def yX0_joint : MethodName := ⟨RX0, "joint", "(II)I"⟩
def dkwX0_joint_6 : List UInt8 := [42, 89, 180, 0, 232, 4, 96, 181, 0, 232, 3, 172]
abbrev dktX0_joint_6 : List UInt8 := dkwX0_joint_6 ++ []
def dkwX0_joint_5 : List UInt8 := [29, 182, 0, 218, 42, 182, 0, 222, 154, 0, 16, 42, 89, 180, 0, 200, 5, 100, 181, 0, 200, 16, 249, 172]
abbrev dktX0_joint_5 : List UInt8 := dkwX0_joint_5 ++ dktX0_joint_6
def dkwX0_joint_4 : List UInt8 := [182, 0, 235, 153, 0, 8, 16, 253, 167, 0, 5, 16, 249, 172, 42, 29, 21, 4, 182, 0, 218, 42, 21, 4]
abbrev dktX0_joint_4 : List UInt8 := dkwX0_joint_4 ++ dktX0_joint_5
def dkwX0_joint_3 : List UInt8 := [50, 29, 51, 159, 0, 6, 16, 249, 172, 42, 180, 0, 232, 16, 40, 160, 0, 21, 42, 29, 21, 4]
abbrev dktX0_joint_3 : List UInt8 := dkwX0_joint_3 ++ dktX0_joint_4
def dkwX0_joint_2 : List UInt8 := [182, 0, 212, 29, 21, 4, 159, 0, 27, 42, 180, 0, 92, 29, 50, 21, 4, 51, 42, 180, 0, 92, 21, 4]
abbrev dktX0_joint_2 : List UInt8 := dkwX0_joint_2 ++ dktX0_joint_3
def dkwX0_joint_1 : List UInt8 := [42, 180, 0, 57, 27, 50, 180, 0, 229, 62, 42, 180, 0, 57, 28, 50, 180, 0, 229, 54, 4, 42]
abbrev dktX0_joint_1 : List UInt8 := dkwX0_joint_1 ++ dktX0_joint_2
def dkwX0_joint_0 : List UInt8 := [42, 27, 182, 0, 226, 153, 0, 16, 42, 28, 182, 0, 226, 153, 0, 8, 27, 28, 160, 0, 6, 16, 254, 172]
abbrev dktX0_joint_0 : List UInt8 := dkwX0_joint_0 ++ dktX0_joint_1
theorem dksX0_joint_0 : cX0_joint.data.toList.drop 0 = dktX0_joint_0 := by decide +kernel
theorem dksX0_joint_1 : cX0_joint.data.toList.drop 24 = dktX0_joint_1 := dk_seg dksX0_joint_0 24 rfl rfl
theorem dksX0_joint_2 : cX0_joint.data.toList.drop 46 = dktX0_joint_2 := dk_seg dksX0_joint_1 22 rfl rfl
theorem dksX0_joint_3 : cX0_joint.data.toList.drop 70 = dktX0_joint_3 := dk_seg dksX0_joint_2 24 rfl rfl
theorem dksX0_joint_4 : cX0_joint.data.toList.drop 92 = dktX0_joint_4 := dk_seg dksX0_joint_3 22 rfl rfl
theorem dksX0_joint_5 : cX0_joint.data.toList.drop 116 = dktX0_joint_5 := dk_seg dksX0_joint_4 24 rfl rfl
theorem dksX0_joint_6 : cX0_joint.data.toList.drop 140 = dktX0_joint_6 := dk_seg dksX0_joint_5 24 rfl rfl
theorem dX0_joint_0 : decode cX0_joint 0 = .ok (.aload_n 0, 1) := dk_42 (dk_at dksX0_joint_0 0 rfl rfl)
theorem dX0_joint_1 : decode cX0_joint 1 = .ok (.iload_n 1, 1) := dk_27 (dk_at dksX0_joint_0 1 rfl rfl)
theorem dX0_joint_2 : decode cX0_joint 2 = .ok (.invokevirtual 226, 3) := dk_182 0 226 (dk_at dksX0_joint_0 2 rfl rfl)
theorem dX0_joint_5 : decode cX0_joint 5 = .ok (.ifCond .eq 16, 3) := dk_153 0 16 (dk_at dksX0_joint_0 5 rfl rfl)
theorem dX0_joint_8 : decode cX0_joint 8 = .ok (.aload_n 0, 1) := dk_42 (dk_at dksX0_joint_0 8 rfl rfl)
theorem dX0_joint_9 : decode cX0_joint 9 = .ok (.iload_n 2, 1) := dk_28 (dk_at dksX0_joint_0 9 rfl rfl)
theorem dX0_joint_10 : decode cX0_joint 10 = .ok (.invokevirtual 226, 3) := dk_182 0 226 (dk_at dksX0_joint_0 10 rfl rfl)
theorem dX0_joint_13 : decode cX0_joint 13 = .ok (.ifCond .eq 8, 3) := dk_153 0 8 (dk_at dksX0_joint_0 13 rfl rfl)
theorem dX0_joint_16 : decode cX0_joint 16 = .ok (.iload_n 1, 1) := dk_27 (dk_at dksX0_joint_0 16 rfl rfl)
theorem dX0_joint_17 : decode cX0_joint 17 = .ok (.iload_n 2, 1) := dk_28 (dk_at dksX0_joint_0 17 rfl rfl)
theorem dX0_joint_18 : decode cX0_joint 18 = .ok (.if_icmp .ne 6, 3) := dk_160 0 6 (dk_at dksX0_joint_0 18 rfl rfl)
theorem dX0_joint_21 : decode cX0_joint 21 = .ok (.bipush (-2), 2) := dk_16 254 (dk_at dksX0_joint_0 21 rfl rfl)
theorem dX0_joint_23 : decode cX0_joint 23 = .ok (.ireturn, 1) := dk_172 (dk_at dksX0_joint_0 23 rfl rfl)
theorem dX0_joint_24 : decode cX0_joint 24 = .ok (.aload_n 0, 1) := dk_42 (dk_at dksX0_joint_1 0 rfl rfl)
theorem dX0_joint_25 : decode cX0_joint 25 = .ok (.getfield 57, 3) := dk_180 0 57 (dk_at dksX0_joint_1 1 rfl rfl)
theorem dX0_joint_28 : decode cX0_joint 28 = .ok (.iload_n 1, 1) := dk_27 (dk_at dksX0_joint_1 4 rfl rfl)
theorem dX0_joint_29 : decode cX0_joint 29 = .ok (.aaload, 1) := dk_50 (dk_at dksX0_joint_1 5 rfl rfl)
theorem dX0_joint_30 : decode cX0_joint 30 = .ok (.getfield 229, 3) := dk_180 0 229 (dk_at dksX0_joint_1 6 rfl rfl)
theorem dX0_joint_33 : decode cX0_joint 33 = .ok (.istore_n 3, 1) := dk_62 (dk_at dksX0_joint_1 9 rfl rfl)
theorem dX0_joint_34 : decode cX0_joint 34 = .ok (.aload_n 0, 1) := dk_42 (dk_at dksX0_joint_1 10 rfl rfl)
theorem dX0_joint_35 : decode cX0_joint 35 = .ok (.getfield 57, 3) := dk_180 0 57 (dk_at dksX0_joint_1 11 rfl rfl)
theorem dX0_joint_38 : decode cX0_joint 38 = .ok (.iload_n 2, 1) := dk_28 (dk_at dksX0_joint_1 14 rfl rfl)
theorem dX0_joint_39 : decode cX0_joint 39 = .ok (.aaload, 1) := dk_50 (dk_at dksX0_joint_1 15 rfl rfl)
theorem dX0_joint_40 : decode cX0_joint 40 = .ok (.getfield 229, 3) := dk_180 0 229 (dk_at dksX0_joint_1 16 rfl rfl)
theorem dX0_joint_43 : decode cX0_joint 43 = .ok (.istore 4, 2) := dk_54 4 (dk_at dksX0_joint_1 19 rfl rfl)
theorem dX0_joint_45 : decode cX0_joint 45 = .ok (.aload_n 0, 1) := dk_42 (dk_at dksX0_joint_1 21 rfl rfl)
theorem dX0_joint_46 : decode cX0_joint 46 = .ok (.invokevirtual 212, 3) := dk_182 0 212 (dk_at dksX0_joint_2 0 rfl rfl)
theorem dX0_joint_49 : decode cX0_joint 49 = .ok (.iload_n 3, 1) := dk_29 (dk_at dksX0_joint_2 3 rfl rfl)
theorem dX0_joint_50 : decode cX0_joint 50 = .ok (.iload 4, 2) := dk_21 4 (dk_at dksX0_joint_2 4 rfl rfl)
theorem dX0_joint_52 : decode cX0_joint 52 = .ok (.if_icmp .eq 27, 3) := dk_159 0 27 (dk_at dksX0_joint_2 6 rfl rfl)
theorem dX0_joint_55 : decode cX0_joint 55 = .ok (.aload_n 0, 1) := dk_42 (dk_at dksX0_joint_2 9 rfl rfl)
theorem dX0_joint_56 : decode cX0_joint 56 = .ok (.getfield 92, 3) := dk_180 0 92 (dk_at dksX0_joint_2 10 rfl rfl)
theorem dX0_joint_59 : decode cX0_joint 59 = .ok (.iload_n 3, 1) := dk_29 (dk_at dksX0_joint_2 13 rfl rfl)
theorem dX0_joint_60 : decode cX0_joint 60 = .ok (.aaload, 1) := dk_50 (dk_at dksX0_joint_2 14 rfl rfl)
theorem dX0_joint_61 : decode cX0_joint 61 = .ok (.iload 4, 2) := dk_21 4 (dk_at dksX0_joint_2 15 rfl rfl)
theorem dX0_joint_63 : decode cX0_joint 63 = .ok (.baload, 1) := dk_51 (dk_at dksX0_joint_2 17 rfl rfl)
theorem dX0_joint_64 : decode cX0_joint 64 = .ok (.aload_n 0, 1) := dk_42 (dk_at dksX0_joint_2 18 rfl rfl)
theorem dX0_joint_65 : decode cX0_joint 65 = .ok (.getfield 92, 3) := dk_180 0 92 (dk_at dksX0_joint_2 19 rfl rfl)
theorem dX0_joint_68 : decode cX0_joint 68 = .ok (.iload 4, 2) := dk_21 4 (dk_at dksX0_joint_2 22 rfl rfl)
theorem dX0_joint_70 : decode cX0_joint 70 = .ok (.aaload, 1) := dk_50 (dk_at dksX0_joint_3 0 rfl rfl)
theorem dX0_joint_71 : decode cX0_joint 71 = .ok (.iload_n 3, 1) := dk_29 (dk_at dksX0_joint_3 1 rfl rfl)
theorem dX0_joint_72 : decode cX0_joint 72 = .ok (.baload, 1) := dk_51 (dk_at dksX0_joint_3 2 rfl rfl)
theorem dX0_joint_73 : decode cX0_joint 73 = .ok (.if_icmp .eq 6, 3) := dk_159 0 6 (dk_at dksX0_joint_3 3 rfl rfl)
theorem dX0_joint_76 : decode cX0_joint 76 = .ok (.bipush (-7), 2) := dk_16 249 (dk_at dksX0_joint_3 6 rfl rfl)
theorem dX0_joint_78 : decode cX0_joint 78 = .ok (.ireturn, 1) := dk_172 (dk_at dksX0_joint_3 8 rfl rfl)
theorem dX0_joint_79 : decode cX0_joint 79 = .ok (.aload_n 0, 1) := dk_42 (dk_at dksX0_joint_3 9 rfl rfl)
theorem dX0_joint_80 : decode cX0_joint 80 = .ok (.getfield 232, 3) := dk_180 0 232 (dk_at dksX0_joint_3 10 rfl rfl)
theorem dX0_joint_83 : decode cX0_joint 83 = .ok (.bipush 40, 2) := dk_16 40 (dk_at dksX0_joint_3 13 rfl rfl)
theorem dX0_joint_85 : decode cX0_joint 85 = .ok (.if_icmp .ne 21, 3) := dk_160 0 21 (dk_at dksX0_joint_3 15 rfl rfl)
theorem dX0_joint_88 : decode cX0_joint 88 = .ok (.aload_n 0, 1) := dk_42 (dk_at dksX0_joint_3 18 rfl rfl)
theorem dX0_joint_89 : decode cX0_joint 89 = .ok (.iload_n 3, 1) := dk_29 (dk_at dksX0_joint_3 19 rfl rfl)
theorem dX0_joint_90 : decode cX0_joint 90 = .ok (.iload 4, 2) := dk_21 4 (dk_at dksX0_joint_3 20 rfl rfl)
theorem dX0_joint_92 : decode cX0_joint 92 = .ok (.invokevirtual 235, 3) := dk_182 0 235 (dk_at dksX0_joint_4 0 rfl rfl)
theorem dX0_joint_95 : decode cX0_joint 95 = .ok (.ifCond .eq 8, 3) := dk_153 0 8 (dk_at dksX0_joint_4 3 rfl rfl)
theorem dX0_joint_98 : decode cX0_joint 98 = .ok (.bipush (-3), 2) := dk_16 253 (dk_at dksX0_joint_4 6 rfl rfl)
theorem dX0_joint_100 : decode cX0_joint 100 = .ok (.goto 5, 3) := dk_167 0 5 (dk_at dksX0_joint_4 8 rfl rfl)
theorem dX0_joint_103 : decode cX0_joint 103 = .ok (.bipush (-7), 2) := dk_16 249 (dk_at dksX0_joint_4 11 rfl rfl)
theorem dX0_joint_105 : decode cX0_joint 105 = .ok (.ireturn, 1) := dk_172 (dk_at dksX0_joint_4 13 rfl rfl)
theorem dX0_joint_106 : decode cX0_joint 106 = .ok (.aload_n 0, 1) := dk_42 (dk_at dksX0_joint_4 14 rfl rfl)
theorem dX0_joint_107 : decode cX0_joint 107 = .ok (.iload_n 3, 1) := dk_29 (dk_at dksX0_joint_4 15 rfl rfl)
theorem dX0_joint_108 : decode cX0_joint 108 = .ok (.iload 4, 2) := dk_21 4 (dk_at dksX0_joint_4 16 rfl rfl)
theorem dX0_joint_110 : decode cX0_joint 110 = .ok (.invokevirtual 218, 3) := dk_182 0 218 (dk_at dksX0_joint_4 18 rfl rfl)
theorem dX0_joint_113 : decode cX0_joint 113 = .ok (.aload_n 0, 1) := dk_42 (dk_at dksX0_joint_4 21 rfl rfl)
theorem dX0_joint_114 : decode cX0_joint 114 = .ok (.iload 4, 2) := dk_21 4 (dk_at dksX0_joint_4 22 rfl rfl)
theorem dX0_joint_116 : decode cX0_joint 116 = .ok (.iload_n 3, 1) := dk_29 (dk_at dksX0_joint_5 0 rfl rfl)
theorem dX0_joint_117 : decode cX0_joint 117 = .ok (.invokevirtual 218, 3) := dk_182 0 218 (dk_at dksX0_joint_5 1 rfl rfl)
theorem dX0_joint_120 : decode cX0_joint 120 = .ok (.aload_n 0, 1) := dk_42 (dk_at dksX0_joint_5 4 rfl rfl)
theorem dX0_joint_121 : decode cX0_joint 121 = .ok (.invokevirtual 222, 3) := dk_182 0 222 (dk_at dksX0_joint_5 5 rfl rfl)
theorem dX0_joint_124 : decode cX0_joint 124 = .ok (.ifCond .ne 16, 3) := dk_154 0 16 (dk_at dksX0_joint_5 8 rfl rfl)
theorem dX0_joint_127 : decode cX0_joint 127 = .ok (.aload_n 0, 1) := dk_42 (dk_at dksX0_joint_5 11 rfl rfl)
theorem dX0_joint_128 : decode cX0_joint 128 = .ok (.dup, 1) := dk_89 (dk_at dksX0_joint_5 12 rfl rfl)
theorem dX0_joint_129 : decode cX0_joint 129 = .ok (.getfield 200, 3) := dk_180 0 200 (dk_at dksX0_joint_5 13 rfl rfl)
theorem dX0_joint_132 : decode cX0_joint 132 = .ok (.iconst 2, 1) := dk_5 (dk_at dksX0_joint_5 16 rfl rfl)
theorem dX0_joint_133 : decode cX0_joint 133 = .ok (.isub, 1) := dk_100 (dk_at dksX0_joint_5 17 rfl rfl)
theorem dX0_joint_134 : decode cX0_joint 134 = .ok (.putfield 200, 3) := dk_181 0 200 (dk_at dksX0_joint_5 18 rfl rfl)
theorem dX0_joint_137 : decode cX0_joint 137 = .ok (.bipush (-7), 2) := dk_16 249 (dk_at dksX0_joint_5 21 rfl rfl)
theorem dX0_joint_139 : decode cX0_joint 139 = .ok (.ireturn, 1) := dk_172 (dk_at dksX0_joint_5 23 rfl rfl)
theorem dX0_joint_140 : decode cX0_joint 140 = .ok (.aload_n 0, 1) := dk_42 (dk_at dksX0_joint_6 0 rfl rfl)
theorem dX0_joint_141 : decode cX0_joint 141 = .ok (.dup, 1) := dk_89 (dk_at dksX0_joint_6 1 rfl rfl)
theorem dX0_joint_142 : decode cX0_joint 142 = .ok (.getfield 232, 3) := dk_180 0 232 (dk_at dksX0_joint_6 2 rfl rfl)
theorem dX0_joint_145 : decode cX0_joint 145 = .ok (.iconst 1, 1) := dk_4 (dk_at dksX0_joint_6 5 rfl rfl)
theorem dX0_joint_146 : decode cX0_joint 146 = .ok (.iadd, 1) := dk_96 (dk_at dksX0_joint_6 6 rfl rfl)
theorem dX0_joint_147 : decode cX0_joint 147 = .ok (.putfield 232, 3) := dk_181 0 232 (dk_at dksX0_joint_6 7 rfl rfl)
theorem dX0_joint_150 : decode cX0_joint 150 = .ok (.iconst 0, 1) := dk_3 (dk_at dksX0_joint_6 10 rfl rfl)
theorem dX0_joint_151 : decode cX0_joint 151 = .ok (.ireturn, 1) := dk_172 (dk_at dksX0_joint_6 11 rfl rfl)
abbrev cX0_isBone : ByteArray := prog_1_method_11_code
def yX0_isBone : MethodName := ⟨RX0, "isBone", "(I)Z"⟩
def dkwX0_isBone_0 : List UInt8 := [27, 133, 9, 42, 180, 0, 156, 4, 100, 133, 184, 0, 5, 172]
abbrev dktX0_isBone_0 : List UInt8 := dkwX0_isBone_0 ++ []
theorem dksX0_isBone_0 : cX0_isBone.data.toList.drop 0 = dktX0_isBone_0 := by decide +kernel
theorem dX0_isBone_0 : decode cX0_isBone 0 = .ok (.iload_n 1, 1) := dk_27 (dk_at dksX0_isBone_0 0 rfl rfl)
theorem dX0_isBone_1 : decode cX0_isBone 1 = .ok (.i2l, 1) := dk_133 (dk_at dksX0_isBone_0 1 rfl rfl)
theorem dX0_isBone_2 : decode cX0_isBone 2 = .ok (.lconst 0, 1) := dk_9 (dk_at dksX0_isBone_0 2 rfl rfl)
theorem dX0_isBone_3 : decode cX0_isBone 3 = .ok (.aload_n 0, 1) := dk_42 (dk_at dksX0_isBone_0 3 rfl rfl)
theorem dX0_isBone_4 : decode cX0_isBone 4 = .ok (.getfield 156, 3) := dk_180 0 156 (dk_at dksX0_isBone_0 4 rfl rfl)
theorem dX0_isBone_7 : decode cX0_isBone 7 = .ok (.iconst 1, 1) := dk_4 (dk_at dksX0_isBone_0 7 rfl rfl)
theorem dX0_isBone_8 : decode cX0_isBone 8 = .ok (.isub, 1) := dk_100 (dk_at dksX0_isBone_0 8 rfl rfl)
theorem dX0_isBone_9 : decode cX0_isBone 9 = .ok (.i2l, 1) := dk_133 (dk_at dksX0_isBone_0 9 rfl rfl)
theorem dX0_isBone_10 : decode cX0_isBone 10 = .ok (.invokestatic 5, 3) := dk_184 0 5 (dk_at dksX0_isBone_0 10 rfl rfl)
theorem dX0_isBone_13 : decode cX0_isBone 13 = .ok (.ireturn, 1) := dk_172 (dk_at dksX0_isBone_0 13 rfl rfl)
abbrev cX0_goTogether : ByteArray := prog_1_method_25_code
def yX0_goTogether : MethodName := ⟨RX0, "goTogether", "(II)Z"⟩
def dkwX0_goTogether_1 : List UInt8 := [27, 46, 42, 180, 0, 87, 28, 46, 184, 0, 209, 163, 0, 7, 4, 167, 0, 4, 3, 172]
abbrev dktX0_goTogether_1 : List UInt8 := dkwX0_goTogether_1 ++ []
def dkwX0_goTogether_0 : List UInt8 := [42, 182, 0, 222, 87, 42, 180, 0, 84, 27, 46, 42, 180, 0, 84, 28, 46, 184, 0, 203, 42, 180, 0, 87]
abbrev dktX0_goTogether_0 : List UInt8 := dkwX0_goTogether_0 ++ dktX0_goTogether_1
theorem dksX0_goTogether_0 : cX0_goTogether.data.toList.drop 0 = dktX0_goTogether_0 := by decide +kernel
theorem dksX0_goTogether_1 : cX0_goTogether.data.toList.drop 24 = dktX0_goTogether_1 := dk_seg dksX0_goTogether_0 24 rfl rfl
theorem dX0_goTogether_0 : decode cX0_goTogether 0 = .ok (.aload_n 0, 1) := dk_42 (dk_at dksX0_goTogether_0 0 rfl rfl)
theorem dX0_goTogether_1 : decode cX0_goTogether 1 = .ok (.invokevirtual 222, 3) := dk_182 0 222 (dk_at dksX0_goTogether_0 1 rfl rfl)
theorem dX0_goTogether_4 : decode cX0_goTogether 4 = .ok (.pop, 1) := dk_87 (dk_at dksX0_goTogether_0 4 rfl rfl)
theorem dX0_goTogether_5 : decode cX0_goTogether 5 = .ok (.aload_n 0, 1) := dk_42 (dk_at dksX0_goTogether_0 5 rfl rfl)
theorem dX0_goTogether_6 : decode cX0_goTogether 6 = .ok (.getfield 84, 3) := dk_180 0 84 (dk_at dksX0_goTogether_0 6 rfl rfl)
theorem dX0_goTogether_9 : decode cX0_goTogether 9 = .ok (.iload_n 1, 1) := dk_27 (dk_at dksX0_goTogether_0 9 rfl rfl)
theorem dX0_goTogether_10 : decode cX0_goTogether 10 = .ok (.iaload, 1) := dk_46 (dk_at dksX0_goTogether_0 10 rfl rfl)
theorem dX0_goTogether_11 : decode cX0_goTogether 11 = .ok (.aload_n 0, 1) := dk_42 (dk_at dksX0_goTogether_0 11 rfl rfl)
theorem dX0_goTogether_12 : decode cX0_goTogether 12 = .ok (.getfield 84, 3) := dk_180 0 84 (dk_at dksX0_goTogether_0 12 rfl rfl)
theorem dX0_goTogether_15 : decode cX0_goTogether 15 = .ok (.iload_n 2, 1) := dk_28 (dk_at dksX0_goTogether_0 15 rfl rfl)
theorem dX0_goTogether_16 : decode cX0_goTogether 16 = .ok (.iaload, 1) := dk_46 (dk_at dksX0_goTogether_0 16 rfl rfl)
theorem dX0_goTogether_17 : decode cX0_goTogether 17 = .ok (.invokestatic 203, 3) := dk_184 0 203 (dk_at dksX0_goTogether_0 17 rfl rfl)
theorem dX0_goTogether_20 : decode cX0_goTogether 20 = .ok (.aload_n 0, 1) := dk_42 (dk_at dksX0_goTogether_0 20 rfl rfl)
theorem dX0_goTogether_21 : decode cX0_goTogether 21 = .ok (.getfield 87, 3) := dk_180 0 87 (dk_at dksX0_goTogether_0 21 rfl rfl)
theorem dX0_goTogether_24 : decode cX0_goTogether 24 = .ok (.iload_n 1, 1) := dk_27 (dk_at dksX0_goTogether_1 0 rfl rfl)
theorem dX0_goTogether_25 : decode cX0_goTogether 25 = .ok (.iaload, 1) := dk_46 (dk_at dksX0_goTogether_1 1 rfl rfl)
theorem dX0_goTogether_26 : decode cX0_goTogether 26 = .ok (.aload_n 0, 1) := dk_42 (dk_at dksX0_goTogether_1 2 rfl rfl)
theorem dX0_goTogether_27 : decode cX0_goTogether 27 = .ok (.getfield 87, 3) := dk_180 0 87 (dk_at dksX0_goTogether_1 3 rfl rfl)
theorem dX0_goTogether_30 : decode cX0_goTogether 30 = .ok (.iload_n 2, 1) := dk_28 (dk_at dksX0_goTogether_1 6 rfl rfl)
theorem dX0_goTogether_31 : decode cX0_goTogether 31 = .ok (.iaload, 1) := dk_46 (dk_at dksX0_goTogether_1 7 rfl rfl)
theorem dX0_goTogether_32 : decode cX0_goTogether 32 = .ok (.invokestatic 209, 3) := dk_184 0 209 (dk_at dksX0_goTogether_1 8 rfl rfl)
theorem dX0_goTogether_35 : decode cX0_goTogether 35 = .ok (.if_icmp .gt 7, 3) := dk_163 0 7 (dk_at dksX0_goTogether_1 11 rfl rfl)
theorem dX0_goTogether_38 : decode cX0_goTogether 38 = .ok (.iconst 1, 1) := dk_4 (dk_at dksX0_goTogether_1 14 rfl rfl)
theorem dX0_goTogether_39 : decode cX0_goTogether 39 = .ok (.goto 4, 3) := dk_167 0 4 (dk_at dksX0_goTogether_1 15 rfl rfl)
theorem dX0_goTogether_42 : decode cX0_goTogether 42 = .ok (.iconst 0, 1) := dk_3 (dk_at dksX0_goTogether_1 18 rfl rfl)
theorem dX0_goTogether_43 : decode cX0_goTogether 43 = .ok (.ireturn, 1) := dk_172 (dk_at dksX0_goTogether_1 19 rfl rfl)
abbrev cX0_dated : ByteArray := prog_1_method_26_code
def yX0_dated : MethodName := ⟨RX0, "dated", "(II)I"⟩
def dkwX0_dated_1 : List UInt8 := [27, 46, 167, 0, 19, 28, 4, 160, 0, 12, 42, 180, 0, 87, 27, 46, 167, 0, 5, 16, 254, 172]
abbrev dktX0_dated_1 : List UInt8 := dkwX0_dated_1 ++ []
def dkwX0_dated_0 : List UInt8 := [42, 27, 182, 0, 177, 154, 0, 6, 16, 254, 172, 42, 182, 0, 222, 87, 28, 154, 0, 12, 42, 180, 0, 84]
abbrev dktX0_dated_0 : List UInt8 := dkwX0_dated_0 ++ dktX0_dated_1
theorem dksX0_dated_0 : cX0_dated.data.toList.drop 0 = dktX0_dated_0 := by decide +kernel
theorem dksX0_dated_1 : cX0_dated.data.toList.drop 24 = dktX0_dated_1 := dk_seg dksX0_dated_0 24 rfl rfl
theorem dX0_dated_0 : decode cX0_dated 0 = .ok (.aload_n 0, 1) := dk_42 (dk_at dksX0_dated_0 0 rfl rfl)
theorem dX0_dated_1 : decode cX0_dated 1 = .ok (.iload_n 1, 1) := dk_27 (dk_at dksX0_dated_0 1 rfl rfl)
theorem dX0_dated_2 : decode cX0_dated 2 = .ok (.invokevirtual 177, 3) := dk_182 0 177 (dk_at dksX0_dated_0 2 rfl rfl)
theorem dX0_dated_5 : decode cX0_dated 5 = .ok (.ifCond .ne 6, 3) := dk_154 0 6 (dk_at dksX0_dated_0 5 rfl rfl)
theorem dX0_dated_8 : decode cX0_dated 8 = .ok (.bipush (-2), 2) := dk_16 254 (dk_at dksX0_dated_0 8 rfl rfl)
theorem dX0_dated_10 : decode cX0_dated 10 = .ok (.ireturn, 1) := dk_172 (dk_at dksX0_dated_0 10 rfl rfl)
theorem dX0_dated_11 : decode cX0_dated 11 = .ok (.aload_n 0, 1) := dk_42 (dk_at dksX0_dated_0 11 rfl rfl)
theorem dX0_dated_12 : decode cX0_dated 12 = .ok (.invokevirtual 222, 3) := dk_182 0 222 (dk_at dksX0_dated_0 12 rfl rfl)
theorem dX0_dated_15 : decode cX0_dated 15 = .ok (.pop, 1) := dk_87 (dk_at dksX0_dated_0 15 rfl rfl)
theorem dX0_dated_16 : decode cX0_dated 16 = .ok (.iload_n 2, 1) := dk_28 (dk_at dksX0_dated_0 16 rfl rfl)
theorem dX0_dated_17 : decode cX0_dated 17 = .ok (.ifCond .ne 12, 3) := dk_154 0 12 (dk_at dksX0_dated_0 17 rfl rfl)
theorem dX0_dated_20 : decode cX0_dated 20 = .ok (.aload_n 0, 1) := dk_42 (dk_at dksX0_dated_0 20 rfl rfl)
theorem dX0_dated_21 : decode cX0_dated 21 = .ok (.getfield 84, 3) := dk_180 0 84 (dk_at dksX0_dated_0 21 rfl rfl)
theorem dX0_dated_24 : decode cX0_dated 24 = .ok (.iload_n 1, 1) := dk_27 (dk_at dksX0_dated_1 0 rfl rfl)
theorem dX0_dated_25 : decode cX0_dated 25 = .ok (.iaload, 1) := dk_46 (dk_at dksX0_dated_1 1 rfl rfl)
theorem dX0_dated_26 : decode cX0_dated 26 = .ok (.goto 19, 3) := dk_167 0 19 (dk_at dksX0_dated_1 2 rfl rfl)
theorem dX0_dated_29 : decode cX0_dated 29 = .ok (.iload_n 2, 1) := dk_28 (dk_at dksX0_dated_1 5 rfl rfl)
theorem dX0_dated_30 : decode cX0_dated 30 = .ok (.iconst 1, 1) := dk_4 (dk_at dksX0_dated_1 6 rfl rfl)
theorem dX0_dated_31 : decode cX0_dated 31 = .ok (.if_icmp .ne 12, 3) := dk_160 0 12 (dk_at dksX0_dated_1 7 rfl rfl)
theorem dX0_dated_34 : decode cX0_dated 34 = .ok (.aload_n 0, 1) := dk_42 (dk_at dksX0_dated_1 10 rfl rfl)
theorem dX0_dated_35 : decode cX0_dated 35 = .ok (.getfield 87, 3) := dk_180 0 87 (dk_at dksX0_dated_1 11 rfl rfl)
theorem dX0_dated_38 : decode cX0_dated 38 = .ok (.iload_n 1, 1) := dk_27 (dk_at dksX0_dated_1 14 rfl rfl)
theorem dX0_dated_39 : decode cX0_dated 39 = .ok (.iaload, 1) := dk_46 (dk_at dksX0_dated_1 15 rfl rfl)
theorem dX0_dated_40 : decode cX0_dated 40 = .ok (.goto 5, 3) := dk_167 0 5 (dk_at dksX0_dated_1 16 rfl rfl)
theorem dX0_dated_43 : decode cX0_dated 43 = .ok (.bipush (-2), 2) := dk_16 254 (dk_at dksX0_dated_1 19 rfl rfl)
theorem dX0_dated_45 : decode cX0_dated 45 = .ok (.ireturn, 1) := dk_172 (dk_at dksX0_dated_1 21 rfl rfl)
abbrev cX0_older : ByteArray := prog_1_method_27_code
def yX0_older : MethodName := ⟨RX0, "older", "(II)I"⟩
def dkwX0_older_2 : List UInt8 := [3, 172]
abbrev dktX0_older_2 : List UInt8 := dkwX0_older_2 ++ []
def dkwX0_older_1 : List UInt8 := [42, 182, 0, 222, 87, 42, 180, 0, 87, 27, 46, 42, 180, 0, 84, 28, 46, 162, 0, 7, 4, 167, 0, 4]
abbrev dktX0_older_1 : List UInt8 := dkwX0_older_1 ++ dktX0_older_2
def dkwX0_older_0 : List UInt8 := [42, 27, 182, 0, 177, 153, 0, 16, 42, 28, 182, 0, 177, 153, 0, 8, 27, 28, 160, 0, 6, 16, 254, 172]
abbrev dktX0_older_0 : List UInt8 := dkwX0_older_0 ++ dktX0_older_1
theorem dksX0_older_0 : cX0_older.data.toList.drop 0 = dktX0_older_0 := by decide +kernel
theorem dksX0_older_1 : cX0_older.data.toList.drop 24 = dktX0_older_1 := dk_seg dksX0_older_0 24 rfl rfl
theorem dksX0_older_2 : cX0_older.data.toList.drop 48 = dktX0_older_2 := dk_seg dksX0_older_1 24 rfl rfl
theorem dX0_older_0 : decode cX0_older 0 = .ok (.aload_n 0, 1) := dk_42 (dk_at dksX0_older_0 0 rfl rfl)
theorem dX0_older_1 : decode cX0_older 1 = .ok (.iload_n 1, 1) := dk_27 (dk_at dksX0_older_0 1 rfl rfl)
theorem dX0_older_2 : decode cX0_older 2 = .ok (.invokevirtual 177, 3) := dk_182 0 177 (dk_at dksX0_older_0 2 rfl rfl)
theorem dX0_older_5 : decode cX0_older 5 = .ok (.ifCond .eq 16, 3) := dk_153 0 16 (dk_at dksX0_older_0 5 rfl rfl)
theorem dX0_older_8 : decode cX0_older 8 = .ok (.aload_n 0, 1) := dk_42 (dk_at dksX0_older_0 8 rfl rfl)
theorem dX0_older_9 : decode cX0_older 9 = .ok (.iload_n 2, 1) := dk_28 (dk_at dksX0_older_0 9 rfl rfl)
theorem dX0_older_10 : decode cX0_older 10 = .ok (.invokevirtual 177, 3) := dk_182 0 177 (dk_at dksX0_older_0 10 rfl rfl)
theorem dX0_older_13 : decode cX0_older 13 = .ok (.ifCond .eq 8, 3) := dk_153 0 8 (dk_at dksX0_older_0 13 rfl rfl)
theorem dX0_older_16 : decode cX0_older 16 = .ok (.iload_n 1, 1) := dk_27 (dk_at dksX0_older_0 16 rfl rfl)
theorem dX0_older_17 : decode cX0_older 17 = .ok (.iload_n 2, 1) := dk_28 (dk_at dksX0_older_0 17 rfl rfl)
theorem dX0_older_18 : decode cX0_older 18 = .ok (.if_icmp .ne 6, 3) := dk_160 0 6 (dk_at dksX0_older_0 18 rfl rfl)
theorem dX0_older_21 : decode cX0_older 21 = .ok (.bipush (-2), 2) := dk_16 254 (dk_at dksX0_older_0 21 rfl rfl)
theorem dX0_older_23 : decode cX0_older 23 = .ok (.ireturn, 1) := dk_172 (dk_at dksX0_older_0 23 rfl rfl)
theorem dX0_older_24 : decode cX0_older 24 = .ok (.aload_n 0, 1) := dk_42 (dk_at dksX0_older_1 0 rfl rfl)
theorem dX0_older_25 : decode cX0_older 25 = .ok (.invokevirtual 222, 3) := dk_182 0 222 (dk_at dksX0_older_1 1 rfl rfl)
theorem dX0_older_28 : decode cX0_older 28 = .ok (.pop, 1) := dk_87 (dk_at dksX0_older_1 4 rfl rfl)
theorem dX0_older_29 : decode cX0_older 29 = .ok (.aload_n 0, 1) := dk_42 (dk_at dksX0_older_1 5 rfl rfl)
theorem dX0_older_30 : decode cX0_older 30 = .ok (.getfield 87, 3) := dk_180 0 87 (dk_at dksX0_older_1 6 rfl rfl)
theorem dX0_older_33 : decode cX0_older 33 = .ok (.iload_n 1, 1) := dk_27 (dk_at dksX0_older_1 9 rfl rfl)
theorem dX0_older_34 : decode cX0_older 34 = .ok (.iaload, 1) := dk_46 (dk_at dksX0_older_1 10 rfl rfl)
theorem dX0_older_35 : decode cX0_older 35 = .ok (.aload_n 0, 1) := dk_42 (dk_at dksX0_older_1 11 rfl rfl)
theorem dX0_older_36 : decode cX0_older 36 = .ok (.getfield 84, 3) := dk_180 0 84 (dk_at dksX0_older_1 12 rfl rfl)
theorem dX0_older_39 : decode cX0_older 39 = .ok (.iload_n 2, 1) := dk_28 (dk_at dksX0_older_1 15 rfl rfl)
theorem dX0_older_40 : decode cX0_older 40 = .ok (.iaload, 1) := dk_46 (dk_at dksX0_older_1 16 rfl rfl)
theorem dX0_older_41 : decode cX0_older 41 = .ok (.if_icmp .ge 7, 3) := dk_162 0 7 (dk_at dksX0_older_1 17 rfl rfl)
theorem dX0_older_44 : decode cX0_older 44 = .ok (.iconst 1, 1) := dk_4 (dk_at dksX0_older_1 20 rfl rfl)
theorem dX0_older_45 : decode cX0_older 45 = .ok (.goto 4, 3) := dk_167 0 4 (dk_at dksX0_older_1 21 rfl rfl)
theorem dX0_older_48 : decode cX0_older 48 = .ok (.iconst 0, 1) := dk_3 (dk_at dksX0_older_2 0 rfl rfl)
theorem dX0_older_49 : decode cX0_older 49 = .ok (.ireturn, 1) := dk_172 (dk_at dksX0_older_2 1 rfl rfl)
abbrev cX0_feed : ByteArray := prog_1_method_28_code
def yX0_feed : MethodName := ⟨RX0, "feed", "(IIIII)I"⟩
def dkwX0_feed_2 : List UInt8 := [172]
abbrev dktX0_feed_2 : List UInt8 := dkwX0_feed_2 ++ []
def dkwX0_feed_1 : List UInt8 := [182, 0, 241, 42, 29, 182, 0, 241, 42, 21, 4, 182, 0, 241, 42, 21, 5, 182, 0, 241, 42, 180, 0, 238]
abbrev dktX0_feed_1 : List UInt8 := dkwX0_feed_1 ++ dktX0_feed_2
def dkwX0_feed_0 : List UInt8 := [42, 180, 0, 238, 16, 20, 96, 17, 1, 144, 164, 0, 5, 2, 172, 42, 27, 182, 0, 241, 42, 28]
abbrev dktX0_feed_0 : List UInt8 := dkwX0_feed_0 ++ dktX0_feed_1
theorem dksX0_feed_0 : cX0_feed.data.toList.drop 0 = dktX0_feed_0 := by decide +kernel
theorem dksX0_feed_1 : cX0_feed.data.toList.drop 22 = dktX0_feed_1 := dk_seg dksX0_feed_0 22 rfl rfl
theorem dksX0_feed_2 : cX0_feed.data.toList.drop 46 = dktX0_feed_2 := dk_seg dksX0_feed_1 24 rfl rfl
theorem dX0_feed_0 : decode cX0_feed 0 = .ok (.aload_n 0, 1) := dk_42 (dk_at dksX0_feed_0 0 rfl rfl)
theorem dX0_feed_1 : decode cX0_feed 1 = .ok (.getfield 238, 3) := dk_180 0 238 (dk_at dksX0_feed_0 1 rfl rfl)
theorem dX0_feed_4 : decode cX0_feed 4 = .ok (.bipush 20, 2) := dk_16 20 (dk_at dksX0_feed_0 4 rfl rfl)
theorem dX0_feed_6 : decode cX0_feed 6 = .ok (.iadd, 1) := dk_96 (dk_at dksX0_feed_0 6 rfl rfl)
theorem dX0_feed_7 : decode cX0_feed 7 = .ok (.sipush 400, 3) := dk_17 1 144 (dk_at dksX0_feed_0 7 rfl rfl)
theorem dX0_feed_10 : decode cX0_feed 10 = .ok (.if_icmp .le 5, 3) := dk_164 0 5 (dk_at dksX0_feed_0 10 rfl rfl)
theorem dX0_feed_13 : decode cX0_feed 13 = .ok (.iconst (-1), 1) := dk_2 (dk_at dksX0_feed_0 13 rfl rfl)
theorem dX0_feed_14 : decode cX0_feed 14 = .ok (.ireturn, 1) := dk_172 (dk_at dksX0_feed_0 14 rfl rfl)
theorem dX0_feed_15 : decode cX0_feed 15 = .ok (.aload_n 0, 1) := dk_42 (dk_at dksX0_feed_0 15 rfl rfl)
theorem dX0_feed_16 : decode cX0_feed 16 = .ok (.iload_n 1, 1) := dk_27 (dk_at dksX0_feed_0 16 rfl rfl)
theorem dX0_feed_17 : decode cX0_feed 17 = .ok (.invokevirtual 241, 3) := dk_182 0 241 (dk_at dksX0_feed_0 17 rfl rfl)
theorem dX0_feed_20 : decode cX0_feed 20 = .ok (.aload_n 0, 1) := dk_42 (dk_at dksX0_feed_0 20 rfl rfl)
theorem dX0_feed_21 : decode cX0_feed 21 = .ok (.iload_n 2, 1) := dk_28 (dk_at dksX0_feed_0 21 rfl rfl)
theorem dX0_feed_22 : decode cX0_feed 22 = .ok (.invokevirtual 241, 3) := dk_182 0 241 (dk_at dksX0_feed_1 0 rfl rfl)
theorem dX0_feed_25 : decode cX0_feed 25 = .ok (.aload_n 0, 1) := dk_42 (dk_at dksX0_feed_1 3 rfl rfl)
theorem dX0_feed_26 : decode cX0_feed 26 = .ok (.iload_n 3, 1) := dk_29 (dk_at dksX0_feed_1 4 rfl rfl)
theorem dX0_feed_27 : decode cX0_feed 27 = .ok (.invokevirtual 241, 3) := dk_182 0 241 (dk_at dksX0_feed_1 5 rfl rfl)
theorem dX0_feed_30 : decode cX0_feed 30 = .ok (.aload_n 0, 1) := dk_42 (dk_at dksX0_feed_1 8 rfl rfl)
theorem dX0_feed_31 : decode cX0_feed 31 = .ok (.iload 4, 2) := dk_21 4 (dk_at dksX0_feed_1 9 rfl rfl)
theorem dX0_feed_33 : decode cX0_feed 33 = .ok (.invokevirtual 241, 3) := dk_182 0 241 (dk_at dksX0_feed_1 11 rfl rfl)
theorem dX0_feed_36 : decode cX0_feed 36 = .ok (.aload_n 0, 1) := dk_42 (dk_at dksX0_feed_1 14 rfl rfl)
theorem dX0_feed_37 : decode cX0_feed 37 = .ok (.iload 5, 2) := dk_21 5 (dk_at dksX0_feed_1 15 rfl rfl)
theorem dX0_feed_39 : decode cX0_feed 39 = .ok (.invokevirtual 241, 3) := dk_182 0 241 (dk_at dksX0_feed_1 17 rfl rfl)
theorem dX0_feed_42 : decode cX0_feed 42 = .ok (.aload_n 0, 1) := dk_42 (dk_at dksX0_feed_1 20 rfl rfl)
theorem dX0_feed_43 : decode cX0_feed 43 = .ok (.getfield 238, 3) := dk_180 0 238 (dk_at dksX0_feed_1 21 rfl rfl)
theorem dX0_feed_46 : decode cX0_feed 46 = .ok (.ireturn, 1) := dk_172 (dk_at dksX0_feed_2 0 rfl rfl)
abbrev cX0_puts : ByteArray := prog_1_method_29_code
def yX0_puts : MethodName := ⟨RX0, "puts", "(I)V"⟩
def dkwX0_puts_1 : List UInt8 := [180, 0, 238, 4, 96, 181, 0, 238, 132, 2, 248, 167, 255, 226, 177]
abbrev dktX0_puts_1 : List UInt8 := dkwX0_puts_1 ++ []
def dkwX0_puts_0 : List UInt8 := [16, 24, 61, 28, 155, 0, 32, 42, 180, 0, 95, 42, 180, 0, 238, 27, 28, 122, 145, 84, 42, 89]
abbrev dktX0_puts_0 : List UInt8 := dkwX0_puts_0 ++ dktX0_puts_1
theorem dksX0_puts_0 : cX0_puts.data.toList.drop 0 = dktX0_puts_0 := by decide +kernel
theorem dksX0_puts_1 : cX0_puts.data.toList.drop 22 = dktX0_puts_1 := dk_seg dksX0_puts_0 22 rfl rfl
theorem dX0_puts_0 : decode cX0_puts 0 = .ok (.bipush 24, 2) := dk_16 24 (dk_at dksX0_puts_0 0 rfl rfl)
theorem dX0_puts_2 : decode cX0_puts 2 = .ok (.istore_n 2, 1) := dk_61 (dk_at dksX0_puts_0 2 rfl rfl)
theorem dX0_puts_3 : decode cX0_puts 3 = .ok (.iload_n 2, 1) := dk_28 (dk_at dksX0_puts_0 3 rfl rfl)
theorem dX0_puts_4 : decode cX0_puts 4 = .ok (.ifCond .lt 32, 3) := dk_155 0 32 (dk_at dksX0_puts_0 4 rfl rfl)
theorem dX0_puts_7 : decode cX0_puts 7 = .ok (.aload_n 0, 1) := dk_42 (dk_at dksX0_puts_0 7 rfl rfl)
theorem dX0_puts_8 : decode cX0_puts 8 = .ok (.getfield 95, 3) := dk_180 0 95 (dk_at dksX0_puts_0 8 rfl rfl)
theorem dX0_puts_11 : decode cX0_puts 11 = .ok (.aload_n 0, 1) := dk_42 (dk_at dksX0_puts_0 11 rfl rfl)
theorem dX0_puts_12 : decode cX0_puts 12 = .ok (.getfield 238, 3) := dk_180 0 238 (dk_at dksX0_puts_0 12 rfl rfl)
theorem dX0_puts_15 : decode cX0_puts 15 = .ok (.iload_n 1, 1) := dk_27 (dk_at dksX0_puts_0 15 rfl rfl)
theorem dX0_puts_16 : decode cX0_puts 16 = .ok (.iload_n 2, 1) := dk_28 (dk_at dksX0_puts_0 16 rfl rfl)
theorem dX0_puts_17 : decode cX0_puts 17 = .ok (.ishr, 1) := dk_122 (dk_at dksX0_puts_0 17 rfl rfl)
theorem dX0_puts_18 : decode cX0_puts 18 = .ok (.i2b, 1) := dk_145 (dk_at dksX0_puts_0 18 rfl rfl)
theorem dX0_puts_19 : decode cX0_puts 19 = .ok (.bastore, 1) := dk_84 (dk_at dksX0_puts_0 19 rfl rfl)
theorem dX0_puts_20 : decode cX0_puts 20 = .ok (.aload_n 0, 1) := dk_42 (dk_at dksX0_puts_0 20 rfl rfl)
theorem dX0_puts_21 : decode cX0_puts 21 = .ok (.dup, 1) := dk_89 (dk_at dksX0_puts_0 21 rfl rfl)
theorem dX0_puts_22 : decode cX0_puts 22 = .ok (.getfield 238, 3) := dk_180 0 238 (dk_at dksX0_puts_1 0 rfl rfl)
theorem dX0_puts_25 : decode cX0_puts 25 = .ok (.iconst 1, 1) := dk_4 (dk_at dksX0_puts_1 3 rfl rfl)
theorem dX0_puts_26 : decode cX0_puts 26 = .ok (.iadd, 1) := dk_96 (dk_at dksX0_puts_1 4 rfl rfl)
theorem dX0_puts_27 : decode cX0_puts 27 = .ok (.putfield 238, 3) := dk_181 0 238 (dk_at dksX0_puts_1 5 rfl rfl)
theorem dX0_puts_30 : decode cX0_puts 30 = .ok (.iinc 2 (-8), 3) := dk_132 2 248 (dk_at dksX0_puts_1 8 rfl rfl)
theorem dX0_puts_33 : decode cX0_puts 33 = .ok (.goto (-30), 3) := dk_167 255 226 (dk_at dksX0_puts_1 11 rfl rfl)
theorem dX0_puts_36 : decode cX0_puts 36 = .ok (.return_, 1) := dk_177 (dk_at dksX0_puts_1 14 rfl rfl)
abbrev cX0_end : ByteArray := prog_1_method_30_code
def yX0_end : MethodName := ⟨RX0, "end", "(I)I"⟩
def dkwX0_end_0 : List UInt8 := [27, 133, 9, 42, 180, 0, 238, 133, 184, 0, 5, 154, 0, 5, 2, 172, 42, 27, 181, 0, 238, 27, 172]
abbrev dktX0_end_0 : List UInt8 := dkwX0_end_0 ++ []
theorem dksX0_end_0 : cX0_end.data.toList.drop 0 = dktX0_end_0 := by decide +kernel
theorem dX0_end_0 : decode cX0_end 0 = .ok (.iload_n 1, 1) := dk_27 (dk_at dksX0_end_0 0 rfl rfl)
theorem dX0_end_1 : decode cX0_end 1 = .ok (.i2l, 1) := dk_133 (dk_at dksX0_end_0 1 rfl rfl)
theorem dX0_end_2 : decode cX0_end 2 = .ok (.lconst 0, 1) := dk_9 (dk_at dksX0_end_0 2 rfl rfl)
theorem dX0_end_3 : decode cX0_end 3 = .ok (.aload_n 0, 1) := dk_42 (dk_at dksX0_end_0 3 rfl rfl)
theorem dX0_end_4 : decode cX0_end 4 = .ok (.getfield 238, 3) := dk_180 0 238 (dk_at dksX0_end_0 4 rfl rfl)
theorem dX0_end_7 : decode cX0_end 7 = .ok (.i2l, 1) := dk_133 (dk_at dksX0_end_0 7 rfl rfl)
theorem dX0_end_8 : decode cX0_end 8 = .ok (.invokestatic 5, 3) := dk_184 0 5 (dk_at dksX0_end_0 8 rfl rfl)
theorem dX0_end_11 : decode cX0_end 11 = .ok (.ifCond .ne 5, 3) := dk_154 0 5 (dk_at dksX0_end_0 11 rfl rfl)
theorem dX0_end_14 : decode cX0_end 14 = .ok (.iconst (-1), 1) := dk_2 (dk_at dksX0_end_0 14 rfl rfl)
theorem dX0_end_15 : decode cX0_end 15 = .ok (.ireturn, 1) := dk_172 (dk_at dksX0_end_0 15 rfl rfl)
theorem dX0_end_16 : decode cX0_end 16 = .ok (.aload_n 0, 1) := dk_42 (dk_at dksX0_end_0 16 rfl rfl)
theorem dX0_end_17 : decode cX0_end 17 = .ok (.iload_n 1, 1) := dk_27 (dk_at dksX0_end_0 17 rfl rfl)
theorem dX0_end_18 : decode cX0_end 18 = .ok (.putfield 238, 3) := dk_181 0 238 (dk_at dksX0_end_0 18 rfl rfl)
theorem dX0_end_21 : decode cX0_end 21 = .ok (.iload_n 1, 1) := dk_27 (dk_at dksX0_end_0 21 rfl rfl)
theorem dX0_end_22 : decode cX0_end 22 = .ok (.ireturn, 1) := dk_172 (dk_at dksX0_end_0 22 rfl rfl)
abbrev cX0_key : ByteArray := prog_1_method_31_code
def yX0_key : MethodName := ⟨RX0, "key", "()I"⟩
def dkwX0_key_4 : List UInt8 := [61, 42, 3, 181, 0, 238, 28, 172, 78, 42, 3, 181, 0, 238, 45, 191]
abbrev dktX0_key_4 : List UInt8 := dkwX0_key_4 ++ []
def dkwX0_key_3 : List UInt8 := [181, 0, 238, 27, 172, 76, 42, 43, 180, 1, 4, 181, 0, 251, 42, 43, 180, 1, 7, 181, 0, 99, 16, 252]
abbrev dktX0_key_3 : List UInt8 := dkwX0_key_3 ++ dktX0_key_4
def dkwX0_key_2 : List UInt8 := [182, 0, 254, 83, 42, 89, 180, 0, 244, 4, 96, 181, 0, 244, 42, 180, 0, 244, 4, 100, 60, 42, 3]
abbrev dktX0_key_2 : List UInt8 := dkwX0_key_2 ++ dktX0_key_3
def dkwX0_key_1 : List UInt8 := [181, 0, 99, 42, 180, 0, 113, 42, 180, 0, 244, 42, 180, 0, 107, 42, 180, 0, 95, 42, 180, 0, 238]
abbrev dktX0_key_1 : List UInt8 := dkwX0_key_1 ++ dktX0_key_2
def dkwX0_key_0 : List UInt8 := [42, 180, 0, 244, 16, 12, 160, 0, 6, 16, 253, 172, 42, 4, 181, 0, 247, 42, 3, 181, 0, 251, 42, 2]
abbrev dktX0_key_0 : List UInt8 := dkwX0_key_0 ++ dktX0_key_1
theorem dksX0_key_0 : cX0_key.data.toList.drop 0 = dktX0_key_0 := by decide +kernel
theorem dksX0_key_1 : cX0_key.data.toList.drop 24 = dktX0_key_1 := dk_seg dksX0_key_0 24 rfl rfl
theorem dksX0_key_2 : cX0_key.data.toList.drop 47 = dktX0_key_2 := dk_seg dksX0_key_1 23 rfl rfl
theorem dksX0_key_3 : cX0_key.data.toList.drop 70 = dktX0_key_3 := dk_seg dksX0_key_2 23 rfl rfl
theorem dksX0_key_4 : cX0_key.data.toList.drop 94 = dktX0_key_4 := dk_seg dksX0_key_3 24 rfl rfl
theorem dX0_key_0 : decode cX0_key 0 = .ok (.aload_n 0, 1) := dk_42 (dk_at dksX0_key_0 0 rfl rfl)
theorem dX0_key_1 : decode cX0_key 1 = .ok (.getfield 244, 3) := dk_180 0 244 (dk_at dksX0_key_0 1 rfl rfl)
theorem dX0_key_4 : decode cX0_key 4 = .ok (.bipush 12, 2) := dk_16 12 (dk_at dksX0_key_0 4 rfl rfl)
theorem dX0_key_6 : decode cX0_key 6 = .ok (.if_icmp .ne 6, 3) := dk_160 0 6 (dk_at dksX0_key_0 6 rfl rfl)
theorem dX0_key_9 : decode cX0_key 9 = .ok (.bipush (-3), 2) := dk_16 253 (dk_at dksX0_key_0 9 rfl rfl)
theorem dX0_key_11 : decode cX0_key 11 = .ok (.ireturn, 1) := dk_172 (dk_at dksX0_key_0 11 rfl rfl)
theorem dX0_key_12 : decode cX0_key 12 = .ok (.aload_n 0, 1) := dk_42 (dk_at dksX0_key_0 12 rfl rfl)
theorem dX0_key_13 : decode cX0_key 13 = .ok (.iconst 1, 1) := dk_4 (dk_at dksX0_key_0 13 rfl rfl)
theorem dX0_key_14 : decode cX0_key 14 = .ok (.putfield 247, 3) := dk_181 0 247 (dk_at dksX0_key_0 14 rfl rfl)
theorem dX0_key_17 : decode cX0_key 17 = .ok (.aload_n 0, 1) := dk_42 (dk_at dksX0_key_0 17 rfl rfl)
theorem dX0_key_18 : decode cX0_key 18 = .ok (.iconst 0, 1) := dk_3 (dk_at dksX0_key_0 18 rfl rfl)
theorem dX0_key_19 : decode cX0_key 19 = .ok (.putfield 251, 3) := dk_181 0 251 (dk_at dksX0_key_0 19 rfl rfl)
theorem dX0_key_22 : decode cX0_key 22 = .ok (.aload_n 0, 1) := dk_42 (dk_at dksX0_key_0 22 rfl rfl)
theorem dX0_key_23 : decode cX0_key 23 = .ok (.iconst (-1), 1) := dk_2 (dk_at dksX0_key_0 23 rfl rfl)
theorem dX0_key_24 : decode cX0_key 24 = .ok (.putfield 99, 3) := dk_181 0 99 (dk_at dksX0_key_1 0 rfl rfl)
theorem dX0_key_27 : decode cX0_key 27 = .ok (.aload_n 0, 1) := dk_42 (dk_at dksX0_key_1 3 rfl rfl)
theorem dX0_key_28 : decode cX0_key 28 = .ok (.getfield 113, 3) := dk_180 0 113 (dk_at dksX0_key_1 4 rfl rfl)
theorem dX0_key_31 : decode cX0_key 31 = .ok (.aload_n 0, 1) := dk_42 (dk_at dksX0_key_1 7 rfl rfl)
theorem dX0_key_32 : decode cX0_key 32 = .ok (.getfield 244, 3) := dk_180 0 244 (dk_at dksX0_key_1 8 rfl rfl)
theorem dX0_key_35 : decode cX0_key 35 = .ok (.aload_n 0, 1) := dk_42 (dk_at dksX0_key_1 11 rfl rfl)
theorem dX0_key_36 : decode cX0_key 36 = .ok (.getfield 107, 3) := dk_180 0 107 (dk_at dksX0_key_1 12 rfl rfl)
theorem dX0_key_39 : decode cX0_key 39 = .ok (.aload_n 0, 1) := dk_42 (dk_at dksX0_key_1 15 rfl rfl)
theorem dX0_key_40 : decode cX0_key 40 = .ok (.getfield 95, 3) := dk_180 0 95 (dk_at dksX0_key_1 16 rfl rfl)
theorem dX0_key_43 : decode cX0_key 43 = .ok (.aload_n 0, 1) := dk_42 (dk_at dksX0_key_1 19 rfl rfl)
theorem dX0_key_44 : decode cX0_key 44 = .ok (.getfield 238, 3) := dk_180 0 238 (dk_at dksX0_key_1 20 rfl rfl)
theorem dX0_key_47 : decode cX0_key 47 = .ok (.invokevirtual 254, 3) := dk_182 0 254 (dk_at dksX0_key_2 0 rfl rfl)
theorem dX0_key_50 : decode cX0_key 50 = .ok (.aastore, 1) := dk_83 (dk_at dksX0_key_2 3 rfl rfl)
theorem dX0_key_51 : decode cX0_key 51 = .ok (.aload_n 0, 1) := dk_42 (dk_at dksX0_key_2 4 rfl rfl)
theorem dX0_key_52 : decode cX0_key 52 = .ok (.dup, 1) := dk_89 (dk_at dksX0_key_2 5 rfl rfl)
theorem dX0_key_53 : decode cX0_key 53 = .ok (.getfield 244, 3) := dk_180 0 244 (dk_at dksX0_key_2 6 rfl rfl)
theorem dX0_key_56 : decode cX0_key 56 = .ok (.iconst 1, 1) := dk_4 (dk_at dksX0_key_2 9 rfl rfl)
theorem dX0_key_57 : decode cX0_key 57 = .ok (.iadd, 1) := dk_96 (dk_at dksX0_key_2 10 rfl rfl)
theorem dX0_key_58 : decode cX0_key 58 = .ok (.putfield 244, 3) := dk_181 0 244 (dk_at dksX0_key_2 11 rfl rfl)
theorem dX0_key_61 : decode cX0_key 61 = .ok (.aload_n 0, 1) := dk_42 (dk_at dksX0_key_2 14 rfl rfl)
theorem dX0_key_62 : decode cX0_key 62 = .ok (.getfield 244, 3) := dk_180 0 244 (dk_at dksX0_key_2 15 rfl rfl)
theorem dX0_key_65 : decode cX0_key 65 = .ok (.iconst 1, 1) := dk_4 (dk_at dksX0_key_2 18 rfl rfl)
theorem dX0_key_66 : decode cX0_key 66 = .ok (.isub, 1) := dk_100 (dk_at dksX0_key_2 19 rfl rfl)
theorem dX0_key_67 : decode cX0_key 67 = .ok (.istore_n 1, 1) := dk_60 (dk_at dksX0_key_2 20 rfl rfl)
theorem dX0_key_68 : decode cX0_key 68 = .ok (.aload_n 0, 1) := dk_42 (dk_at dksX0_key_2 21 rfl rfl)
theorem dX0_key_69 : decode cX0_key 69 = .ok (.iconst 0, 1) := dk_3 (dk_at dksX0_key_2 22 rfl rfl)
theorem dX0_key_70 : decode cX0_key 70 = .ok (.putfield 238, 3) := dk_181 0 238 (dk_at dksX0_key_3 0 rfl rfl)
theorem dX0_key_73 : decode cX0_key 73 = .ok (.iload_n 1, 1) := dk_27 (dk_at dksX0_key_3 3 rfl rfl)
theorem dX0_key_74 : decode cX0_key 74 = .ok (.ireturn, 1) := dk_172 (dk_at dksX0_key_3 4 rfl rfl)
theorem dX0_key_75 : decode cX0_key 75 = .ok (.astore_n 1, 1) := dk_76 (dk_at dksX0_key_3 5 rfl rfl)
theorem dX0_key_76 : decode cX0_key 76 = .ok (.aload_n 0, 1) := dk_42 (dk_at dksX0_key_3 6 rfl rfl)
theorem dX0_key_77 : decode cX0_key 77 = .ok (.aload_n 1, 1) := dk_43 (dk_at dksX0_key_3 7 rfl rfl)
theorem dX0_key_78 : decode cX0_key 78 = .ok (.getfield 260, 3) := dk_180 1 4 (dk_at dksX0_key_3 8 rfl rfl)
theorem dX0_key_81 : decode cX0_key 81 = .ok (.putfield 251, 3) := dk_181 0 251 (dk_at dksX0_key_3 11 rfl rfl)
theorem dX0_key_84 : decode cX0_key 84 = .ok (.aload_n 0, 1) := dk_42 (dk_at dksX0_key_3 14 rfl rfl)
theorem dX0_key_85 : decode cX0_key 85 = .ok (.aload_n 1, 1) := dk_43 (dk_at dksX0_key_3 15 rfl rfl)
theorem dX0_key_86 : decode cX0_key 86 = .ok (.getfield 263, 3) := dk_180 1 7 (dk_at dksX0_key_3 16 rfl rfl)
theorem dX0_key_89 : decode cX0_key 89 = .ok (.putfield 99, 3) := dk_181 0 99 (dk_at dksX0_key_3 19 rfl rfl)
theorem dX0_key_92 : decode cX0_key 92 = .ok (.bipush (-4), 2) := dk_16 252 (dk_at dksX0_key_3 22 rfl rfl)
theorem dX0_key_94 : decode cX0_key 94 = .ok (.istore_n 2, 1) := dk_61 (dk_at dksX0_key_4 0 rfl rfl)
theorem dX0_key_95 : decode cX0_key 95 = .ok (.aload_n 0, 1) := dk_42 (dk_at dksX0_key_4 1 rfl rfl)
theorem dX0_key_96 : decode cX0_key 96 = .ok (.iconst 0, 1) := dk_3 (dk_at dksX0_key_4 2 rfl rfl)
theorem dX0_key_97 : decode cX0_key 97 = .ok (.putfield 238, 3) := dk_181 0 238 (dk_at dksX0_key_4 3 rfl rfl)
theorem dX0_key_100 : decode cX0_key 100 = .ok (.iload_n 2, 1) := dk_28 (dk_at dksX0_key_4 6 rfl rfl)
theorem dX0_key_101 : decode cX0_key 101 = .ok (.ireturn, 1) := dk_172 (dk_at dksX0_key_4 7 rfl rfl)
theorem dX0_key_102 : decode cX0_key 102 = .ok (.astore_n 3, 1) := dk_78 (dk_at dksX0_key_4 8 rfl rfl)
theorem dX0_key_103 : decode cX0_key 103 = .ok (.aload_n 0, 1) := dk_42 (dk_at dksX0_key_4 9 rfl rfl)
theorem dX0_key_104 : decode cX0_key 104 = .ok (.iconst 0, 1) := dk_3 (dk_at dksX0_key_4 10 rfl rfl)
theorem dX0_key_105 : decode cX0_key 105 = .ok (.putfield 238, 3) := dk_181 0 238 (dk_at dksX0_key_4 11 rfl rfl)
theorem dX0_key_108 : decode cX0_key 108 = .ok (.aload_n 3, 1) := dk_45 (dk_at dksX0_key_4 14 rfl rfl)
theorem dX0_key_109 : decode cX0_key 109 = .ok (.athrow, 1) := dk_191 (dk_at dksX0_key_4 15 rfl rfl)
abbrev cX0_fault : ByteArray := prog_1_method_32_code
def yX0_fault : MethodName := ⟨RX0, "fault", "(I)I"⟩
def dkwX0_fault_1 : List UInt8 := [160, 0, 10, 42, 180, 0, 99, 167, 0, 4, 2, 172]
abbrev dktX0_fault_1 : List UInt8 := dkwX0_fault_1 ++ []
def dkwX0_fault_0 : List UInt8 := [42, 180, 0, 247, 154, 0, 7, 2, 167, 0, 27, 27, 154, 0, 10, 42, 180, 0, 251, 167, 0, 16, 27, 4]
abbrev dktX0_fault_0 : List UInt8 := dkwX0_fault_0 ++ dktX0_fault_1
theorem dksX0_fault_0 : cX0_fault.data.toList.drop 0 = dktX0_fault_0 := by decide +kernel
theorem dksX0_fault_1 : cX0_fault.data.toList.drop 24 = dktX0_fault_1 := dk_seg dksX0_fault_0 24 rfl rfl
theorem dX0_fault_0 : decode cX0_fault 0 = .ok (.aload_n 0, 1) := dk_42 (dk_at dksX0_fault_0 0 rfl rfl)
theorem dX0_fault_1 : decode cX0_fault 1 = .ok (.getfield 247, 3) := dk_180 0 247 (dk_at dksX0_fault_0 1 rfl rfl)
theorem dX0_fault_4 : decode cX0_fault 4 = .ok (.ifCond .ne 7, 3) := dk_154 0 7 (dk_at dksX0_fault_0 4 rfl rfl)
theorem dX0_fault_7 : decode cX0_fault 7 = .ok (.iconst (-1), 1) := dk_2 (dk_at dksX0_fault_0 7 rfl rfl)
theorem dX0_fault_8 : decode cX0_fault 8 = .ok (.goto 27, 3) := dk_167 0 27 (dk_at dksX0_fault_0 8 rfl rfl)
theorem dX0_fault_11 : decode cX0_fault 11 = .ok (.iload_n 1, 1) := dk_27 (dk_at dksX0_fault_0 11 rfl rfl)
theorem dX0_fault_12 : decode cX0_fault 12 = .ok (.ifCond .ne 10, 3) := dk_154 0 10 (dk_at dksX0_fault_0 12 rfl rfl)
theorem dX0_fault_15 : decode cX0_fault 15 = .ok (.aload_n 0, 1) := dk_42 (dk_at dksX0_fault_0 15 rfl rfl)
theorem dX0_fault_16 : decode cX0_fault 16 = .ok (.getfield 251, 3) := dk_180 0 251 (dk_at dksX0_fault_0 16 rfl rfl)
theorem dX0_fault_19 : decode cX0_fault 19 = .ok (.goto 16, 3) := dk_167 0 16 (dk_at dksX0_fault_0 19 rfl rfl)
theorem dX0_fault_22 : decode cX0_fault 22 = .ok (.iload_n 1, 1) := dk_27 (dk_at dksX0_fault_0 22 rfl rfl)
theorem dX0_fault_23 : decode cX0_fault 23 = .ok (.iconst 1, 1) := dk_4 (dk_at dksX0_fault_0 23 rfl rfl)
theorem dX0_fault_24 : decode cX0_fault 24 = .ok (.if_icmp .ne 10, 3) := dk_160 0 10 (dk_at dksX0_fault_1 0 rfl rfl)
theorem dX0_fault_27 : decode cX0_fault 27 = .ok (.aload_n 0, 1) := dk_42 (dk_at dksX0_fault_1 3 rfl rfl)
theorem dX0_fault_28 : decode cX0_fault 28 = .ok (.getfield 99, 3) := dk_180 0 99 (dk_at dksX0_fault_1 4 rfl rfl)
theorem dX0_fault_31 : decode cX0_fault 31 = .ok (.goto 4, 3) := dk_167 0 4 (dk_at dksX0_fault_1 7 rfl rfl)
theorem dX0_fault_34 : decode cX0_fault 34 = .ok (.iconst (-1), 1) := dk_2 (dk_at dksX0_fault_1 10 rfl rfl)
theorem dX0_fault_35 : decode cX0_fault 35 = .ok (.ireturn, 1) := dk_172 (dk_at dksX0_fault_1 11 rfl rfl)
abbrev cX0_named : ByteArray := prog_1_method_34_code
def yX0_named : MethodName := ⟨RX0, "named", "(II)I"⟩
def dkwX0_named_1 : List UInt8 := [180, 0, 57, 27, 50, 4, 182, 1, 13, 167, 0, 5, 16, 254, 172]
abbrev dktX0_named_1 : List UInt8 := dkwX0_named_1 ++ []
def dkwX0_named_0 : List UInt8 := [42, 27, 182, 0, 226, 153, 0, 30, 42, 28, 182, 1, 10, 153, 0, 22, 42, 180, 0, 113, 28, 50, 42]
abbrev dktX0_named_0 : List UInt8 := dkwX0_named_0 ++ dktX0_named_1
theorem dksX0_named_0 : cX0_named.data.toList.drop 0 = dktX0_named_0 := by decide +kernel
theorem dksX0_named_1 : cX0_named.data.toList.drop 23 = dktX0_named_1 := dk_seg dksX0_named_0 23 rfl rfl
theorem dX0_named_0 : decode cX0_named 0 = .ok (.aload_n 0, 1) := dk_42 (dk_at dksX0_named_0 0 rfl rfl)
theorem dX0_named_1 : decode cX0_named 1 = .ok (.iload_n 1, 1) := dk_27 (dk_at dksX0_named_0 1 rfl rfl)
theorem dX0_named_2 : decode cX0_named 2 = .ok (.invokevirtual 226, 3) := dk_182 0 226 (dk_at dksX0_named_0 2 rfl rfl)
theorem dX0_named_5 : decode cX0_named 5 = .ok (.ifCond .eq 30, 3) := dk_153 0 30 (dk_at dksX0_named_0 5 rfl rfl)
theorem dX0_named_8 : decode cX0_named 8 = .ok (.aload_n 0, 1) := dk_42 (dk_at dksX0_named_0 8 rfl rfl)
theorem dX0_named_9 : decode cX0_named 9 = .ok (.iload_n 2, 1) := dk_28 (dk_at dksX0_named_0 9 rfl rfl)
theorem dX0_named_10 : decode cX0_named 10 = .ok (.invokevirtual 266, 3) := dk_182 1 10 (dk_at dksX0_named_0 10 rfl rfl)
theorem dX0_named_13 : decode cX0_named 13 = .ok (.ifCond .eq 22, 3) := dk_153 0 22 (dk_at dksX0_named_0 13 rfl rfl)
theorem dX0_named_16 : decode cX0_named 16 = .ok (.aload_n 0, 1) := dk_42 (dk_at dksX0_named_0 16 rfl rfl)
theorem dX0_named_17 : decode cX0_named 17 = .ok (.getfield 113, 3) := dk_180 0 113 (dk_at dksX0_named_0 17 rfl rfl)
theorem dX0_named_20 : decode cX0_named 20 = .ok (.iload_n 2, 1) := dk_28 (dk_at dksX0_named_0 20 rfl rfl)
theorem dX0_named_21 : decode cX0_named 21 = .ok (.aaload, 1) := dk_50 (dk_at dksX0_named_0 21 rfl rfl)
theorem dX0_named_22 : decode cX0_named 22 = .ok (.aload_n 0, 1) := dk_42 (dk_at dksX0_named_0 22 rfl rfl)
theorem dX0_named_23 : decode cX0_named 23 = .ok (.getfield 57, 3) := dk_180 0 57 (dk_at dksX0_named_1 0 rfl rfl)
theorem dX0_named_26 : decode cX0_named 26 = .ok (.iload_n 1, 1) := dk_27 (dk_at dksX0_named_1 3 rfl rfl)
theorem dX0_named_27 : decode cX0_named 27 = .ok (.aaload, 1) := dk_50 (dk_at dksX0_named_1 4 rfl rfl)
theorem dX0_named_28 : decode cX0_named 28 = .ok (.iconst 1, 1) := dk_4 (dk_at dksX0_named_1 5 rfl rfl)
theorem dX0_named_29 : decode cX0_named 29 = .ok (.invokevirtual 269, 3) := dk_182 1 13 (dk_at dksX0_named_1 6 rfl rfl)
theorem dX0_named_32 : decode cX0_named 32 = .ok (.goto 5, 3) := dk_167 0 5 (dk_at dksX0_named_1 9 rfl rfl)
theorem dX0_named_35 : decode cX0_named 35 = .ok (.bipush (-2), 2) := dk_16 254 (dk_at dksX0_named_1 12 rfl rfl)
theorem dX0_named_37 : decode cX0_named 37 = .ok (.ireturn, 1) := dk_172 (dk_at dksX0_named_1 14 rfl rfl)
abbrev cX0_isKey : ByteArray := prog_1_method_33_code
def yX0_isKey : MethodName := ⟨RX0, "isKey", "(I)Z"⟩
def dkwX0_isKey_0 : List UInt8 := [27, 133, 9, 42, 180, 0, 244, 4, 100, 133, 184, 0, 5, 172]
abbrev dktX0_isKey_0 : List UInt8 := dkwX0_isKey_0 ++ []
theorem dksX0_isKey_0 : cX0_isKey.data.toList.drop 0 = dktX0_isKey_0 := by decide +kernel
theorem dX0_isKey_0 : decode cX0_isKey 0 = .ok (.iload_n 1, 1) := dk_27 (dk_at dksX0_isKey_0 0 rfl rfl)
theorem dX0_isKey_1 : decode cX0_isKey 1 = .ok (.i2l, 1) := dk_133 (dk_at dksX0_isKey_0 1 rfl rfl)
theorem dX0_isKey_2 : decode cX0_isKey 2 = .ok (.lconst 0, 1) := dk_9 (dk_at dksX0_isKey_0 2 rfl rfl)
theorem dX0_isKey_3 : decode cX0_isKey 3 = .ok (.aload_n 0, 1) := dk_42 (dk_at dksX0_isKey_0 3 rfl rfl)
theorem dX0_isKey_4 : decode cX0_isKey 4 = .ok (.getfield 244, 3) := dk_180 0 244 (dk_at dksX0_isKey_0 4 rfl rfl)
theorem dX0_isKey_7 : decode cX0_isKey 7 = .ok (.iconst 1, 1) := dk_4 (dk_at dksX0_isKey_0 7 rfl rfl)
theorem dX0_isKey_8 : decode cX0_isKey 8 = .ok (.isub, 1) := dk_100 (dk_at dksX0_isKey_0 8 rfl rfl)
theorem dX0_isKey_9 : decode cX0_isKey 9 = .ok (.i2l, 1) := dk_133 (dk_at dksX0_isKey_0 9 rfl rfl)
theorem dX0_isKey_10 : decode cX0_isKey 10 = .ok (.invokestatic 5, 3) := dk_184 0 5 (dk_at dksX0_isKey_0 10 rfl rfl)
theorem dX0_isKey_13 : decode cX0_isKey 13 = .ok (.ireturn, 1) := dk_172 (dk_at dksX0_isKey_0 13 rfl rfl)
abbrev cX0_steps : ByteArray := prog_1_method_35_code
def yX0_steps : MethodName := ⟨RX0, "steps", "(II)I"⟩
def dkwX0_steps_1 : List UInt8 := [180, 0, 57, 27, 50, 3, 182, 1, 13, 167, 0, 5, 16, 254, 172]
abbrev dktX0_steps_1 : List UInt8 := dkwX0_steps_1 ++ []
def dkwX0_steps_0 : List UInt8 := [42, 27, 182, 0, 226, 153, 0, 30, 42, 28, 182, 1, 10, 153, 0, 22, 42, 180, 0, 113, 28, 50, 42]
abbrev dktX0_steps_0 : List UInt8 := dkwX0_steps_0 ++ dktX0_steps_1
theorem dksX0_steps_0 : cX0_steps.data.toList.drop 0 = dktX0_steps_0 := by decide +kernel
theorem dksX0_steps_1 : cX0_steps.data.toList.drop 23 = dktX0_steps_1 := dk_seg dksX0_steps_0 23 rfl rfl
theorem dX0_steps_0 : decode cX0_steps 0 = .ok (.aload_n 0, 1) := dk_42 (dk_at dksX0_steps_0 0 rfl rfl)
theorem dX0_steps_1 : decode cX0_steps 1 = .ok (.iload_n 1, 1) := dk_27 (dk_at dksX0_steps_0 1 rfl rfl)
theorem dX0_steps_2 : decode cX0_steps 2 = .ok (.invokevirtual 226, 3) := dk_182 0 226 (dk_at dksX0_steps_0 2 rfl rfl)
theorem dX0_steps_5 : decode cX0_steps 5 = .ok (.ifCond .eq 30, 3) := dk_153 0 30 (dk_at dksX0_steps_0 5 rfl rfl)
theorem dX0_steps_8 : decode cX0_steps 8 = .ok (.aload_n 0, 1) := dk_42 (dk_at dksX0_steps_0 8 rfl rfl)
theorem dX0_steps_9 : decode cX0_steps 9 = .ok (.iload_n 2, 1) := dk_28 (dk_at dksX0_steps_0 9 rfl rfl)
theorem dX0_steps_10 : decode cX0_steps 10 = .ok (.invokevirtual 266, 3) := dk_182 1 10 (dk_at dksX0_steps_0 10 rfl rfl)
theorem dX0_steps_13 : decode cX0_steps 13 = .ok (.ifCond .eq 22, 3) := dk_153 0 22 (dk_at dksX0_steps_0 13 rfl rfl)
theorem dX0_steps_16 : decode cX0_steps 16 = .ok (.aload_n 0, 1) := dk_42 (dk_at dksX0_steps_0 16 rfl rfl)
theorem dX0_steps_17 : decode cX0_steps 17 = .ok (.getfield 113, 3) := dk_180 0 113 (dk_at dksX0_steps_0 17 rfl rfl)
theorem dX0_steps_20 : decode cX0_steps 20 = .ok (.iload_n 2, 1) := dk_28 (dk_at dksX0_steps_0 20 rfl rfl)
theorem dX0_steps_21 : decode cX0_steps 21 = .ok (.aaload, 1) := dk_50 (dk_at dksX0_steps_0 21 rfl rfl)
theorem dX0_steps_22 : decode cX0_steps 22 = .ok (.aload_n 0, 1) := dk_42 (dk_at dksX0_steps_0 22 rfl rfl)
theorem dX0_steps_23 : decode cX0_steps 23 = .ok (.getfield 57, 3) := dk_180 0 57 (dk_at dksX0_steps_1 0 rfl rfl)
theorem dX0_steps_26 : decode cX0_steps 26 = .ok (.iload_n 1, 1) := dk_27 (dk_at dksX0_steps_1 3 rfl rfl)
theorem dX0_steps_27 : decode cX0_steps 27 = .ok (.aaload, 1) := dk_50 (dk_at dksX0_steps_1 4 rfl rfl)
theorem dX0_steps_28 : decode cX0_steps 28 = .ok (.iconst 0, 1) := dk_3 (dk_at dksX0_steps_1 5 rfl rfl)
theorem dX0_steps_29 : decode cX0_steps 29 = .ok (.invokevirtual 269, 3) := dk_182 1 13 (dk_at dksX0_steps_1 6 rfl rfl)
theorem dX0_steps_32 : decode cX0_steps 32 = .ok (.goto 5, 3) := dk_167 0 5 (dk_at dksX0_steps_1 9 rfl rfl)
theorem dX0_steps_35 : decode cX0_steps 35 = .ok (.bipush (-2), 2) := dk_16 254 (dk_at dksX0_steps_1 12 rfl rfl)
theorem dX0_steps_37 : decode cX0_steps 37 = .ok (.ireturn, 1) := dk_172 (dk_at dksX0_steps_1 14 rfl rfl)
abbrev cX0_alike : ByteArray := prog_1_method_36_code
def yX0_alike : MethodName := ⟨RX0, "alike", "(III)I"⟩
def dkwX0_alike_6 : List UInt8 := [3, 96, 54, 4, 132, 5, 1, 167, 255, 146, 21, 4, 172]
abbrev dktX0_alike_6 : List UInt8 := dkwX0_alike_6 ++ []
def dkwX0_alike_5 : List UInt8 := [21, 7, 160, 0, 7, 3, 167, 0, 4, 4, 54, 8, 21, 4, 21, 8, 29, 160, 0, 7, 4, 167, 0, 4]
abbrev dktX0_alike_5 : List UInt8 := dkwX0_alike_5 ++ dktX0_alike_6
def dkwX0_alike_4 : List UInt8 := [160, 0, 7, 7, 167, 0, 29, 6, 167, 0, 25, 21, 7, 2, 160, 0, 7, 5, 167, 0, 15, 21, 6]
abbrev dktX0_alike_4 : List UInt8 := dkwX0_alike_4 ++ dktX0_alike_5
def dkwX0_alike_3 : List UInt8 := [50, 42, 180, 0, 57, 21, 5, 50, 4, 182, 1, 13, 54, 7, 21, 6, 2, 160, 0, 17, 21, 7, 2]
abbrev dktX0_alike_3 : List UInt8 := dkwX0_alike_3 ++ dktX0_alike_4
def dkwX0_alike_2 : List UInt8 := [42, 180, 0, 113, 27, 50, 42, 180, 0, 57, 21, 5, 50, 4, 182, 1, 13, 54, 6, 42, 180, 0, 113, 28]
abbrev dktX0_alike_2 : List UInt8 := dkwX0_alike_2 ++ dktX0_alike_3
def dkwX0_alike_1 : List UInt8 := [184, 0, 5, 154, 0, 6, 16, 254, 172, 3, 54, 4, 3, 54, 5, 21, 5, 42, 180, 0, 156, 162, 0, 107]
abbrev dktX0_alike_1 : List UInt8 := dkwX0_alike_1 ++ dktX0_alike_2
def dkwX0_alike_0 : List UInt8 := [42, 27, 182, 1, 10, 153, 0, 23, 42, 28, 182, 1, 10, 153, 0, 15, 29, 133, 9, 20, 1, 17]
abbrev dktX0_alike_0 : List UInt8 := dkwX0_alike_0 ++ dktX0_alike_1
theorem dksX0_alike_0 : cX0_alike.data.toList.drop 0 = dktX0_alike_0 := by decide +kernel
theorem dksX0_alike_1 : cX0_alike.data.toList.drop 22 = dktX0_alike_1 := dk_seg dksX0_alike_0 22 rfl rfl
theorem dksX0_alike_2 : cX0_alike.data.toList.drop 46 = dktX0_alike_2 := dk_seg dksX0_alike_1 24 rfl rfl
theorem dksX0_alike_3 : cX0_alike.data.toList.drop 70 = dktX0_alike_3 := dk_seg dksX0_alike_2 24 rfl rfl
theorem dksX0_alike_4 : cX0_alike.data.toList.drop 93 = dktX0_alike_4 := dk_seg dksX0_alike_3 23 rfl rfl
theorem dksX0_alike_5 : cX0_alike.data.toList.drop 116 = dktX0_alike_5 := dk_seg dksX0_alike_4 23 rfl rfl
theorem dksX0_alike_6 : cX0_alike.data.toList.drop 140 = dktX0_alike_6 := dk_seg dksX0_alike_5 24 rfl rfl
theorem dX0_alike_0 : decode cX0_alike 0 = .ok (.aload_n 0, 1) := dk_42 (dk_at dksX0_alike_0 0 rfl rfl)
theorem dX0_alike_1 : decode cX0_alike 1 = .ok (.iload_n 1, 1) := dk_27 (dk_at dksX0_alike_0 1 rfl rfl)
theorem dX0_alike_2 : decode cX0_alike 2 = .ok (.invokevirtual 266, 3) := dk_182 1 10 (dk_at dksX0_alike_0 2 rfl rfl)
theorem dX0_alike_5 : decode cX0_alike 5 = .ok (.ifCond .eq 23, 3) := dk_153 0 23 (dk_at dksX0_alike_0 5 rfl rfl)
theorem dX0_alike_8 : decode cX0_alike 8 = .ok (.aload_n 0, 1) := dk_42 (dk_at dksX0_alike_0 8 rfl rfl)
theorem dX0_alike_9 : decode cX0_alike 9 = .ok (.iload_n 2, 1) := dk_28 (dk_at dksX0_alike_0 9 rfl rfl)
theorem dX0_alike_10 : decode cX0_alike 10 = .ok (.invokevirtual 266, 3) := dk_182 1 10 (dk_at dksX0_alike_0 10 rfl rfl)
theorem dX0_alike_13 : decode cX0_alike 13 = .ok (.ifCond .eq 15, 3) := dk_153 0 15 (dk_at dksX0_alike_0 13 rfl rfl)
theorem dX0_alike_16 : decode cX0_alike 16 = .ok (.iload_n 3, 1) := dk_29 (dk_at dksX0_alike_0 16 rfl rfl)
theorem dX0_alike_17 : decode cX0_alike 17 = .ok (.i2l, 1) := dk_133 (dk_at dksX0_alike_0 17 rfl rfl)
theorem dX0_alike_18 : decode cX0_alike 18 = .ok (.lconst 0, 1) := dk_9 (dk_at dksX0_alike_0 18 rfl rfl)
theorem dX0_alike_19 : decode cX0_alike 19 = .ok (.ldc2_w 273, 3) := dk_20 1 17 (dk_at dksX0_alike_0 19 rfl rfl)
theorem dX0_alike_22 : decode cX0_alike 22 = .ok (.invokestatic 5, 3) := dk_184 0 5 (dk_at dksX0_alike_1 0 rfl rfl)
theorem dX0_alike_25 : decode cX0_alike 25 = .ok (.ifCond .ne 6, 3) := dk_154 0 6 (dk_at dksX0_alike_1 3 rfl rfl)
theorem dX0_alike_28 : decode cX0_alike 28 = .ok (.bipush (-2), 2) := dk_16 254 (dk_at dksX0_alike_1 6 rfl rfl)
theorem dX0_alike_30 : decode cX0_alike 30 = .ok (.ireturn, 1) := dk_172 (dk_at dksX0_alike_1 8 rfl rfl)
theorem dX0_alike_31 : decode cX0_alike 31 = .ok (.iconst 0, 1) := dk_3 (dk_at dksX0_alike_1 9 rfl rfl)
theorem dX0_alike_32 : decode cX0_alike 32 = .ok (.istore 4, 2) := dk_54 4 (dk_at dksX0_alike_1 10 rfl rfl)
theorem dX0_alike_34 : decode cX0_alike 34 = .ok (.iconst 0, 1) := dk_3 (dk_at dksX0_alike_1 12 rfl rfl)
theorem dX0_alike_35 : decode cX0_alike 35 = .ok (.istore 5, 2) := dk_54 5 (dk_at dksX0_alike_1 13 rfl rfl)
theorem dX0_alike_37 : decode cX0_alike 37 = .ok (.iload 5, 2) := dk_21 5 (dk_at dksX0_alike_1 15 rfl rfl)
theorem dX0_alike_39 : decode cX0_alike 39 = .ok (.aload_n 0, 1) := dk_42 (dk_at dksX0_alike_1 17 rfl rfl)
theorem dX0_alike_40 : decode cX0_alike 40 = .ok (.getfield 156, 3) := dk_180 0 156 (dk_at dksX0_alike_1 18 rfl rfl)
theorem dX0_alike_43 : decode cX0_alike 43 = .ok (.if_icmp .ge 107, 3) := dk_162 0 107 (dk_at dksX0_alike_1 21 rfl rfl)
theorem dX0_alike_46 : decode cX0_alike 46 = .ok (.aload_n 0, 1) := dk_42 (dk_at dksX0_alike_2 0 rfl rfl)
theorem dX0_alike_47 : decode cX0_alike 47 = .ok (.getfield 113, 3) := dk_180 0 113 (dk_at dksX0_alike_2 1 rfl rfl)
theorem dX0_alike_50 : decode cX0_alike 50 = .ok (.iload_n 1, 1) := dk_27 (dk_at dksX0_alike_2 4 rfl rfl)
theorem dX0_alike_51 : decode cX0_alike 51 = .ok (.aaload, 1) := dk_50 (dk_at dksX0_alike_2 5 rfl rfl)
theorem dX0_alike_52 : decode cX0_alike 52 = .ok (.aload_n 0, 1) := dk_42 (dk_at dksX0_alike_2 6 rfl rfl)
theorem dX0_alike_53 : decode cX0_alike 53 = .ok (.getfield 57, 3) := dk_180 0 57 (dk_at dksX0_alike_2 7 rfl rfl)
theorem dX0_alike_56 : decode cX0_alike 56 = .ok (.iload 5, 2) := dk_21 5 (dk_at dksX0_alike_2 10 rfl rfl)
theorem dX0_alike_58 : decode cX0_alike 58 = .ok (.aaload, 1) := dk_50 (dk_at dksX0_alike_2 12 rfl rfl)
theorem dX0_alike_59 : decode cX0_alike 59 = .ok (.iconst 1, 1) := dk_4 (dk_at dksX0_alike_2 13 rfl rfl)
theorem dX0_alike_60 : decode cX0_alike 60 = .ok (.invokevirtual 269, 3) := dk_182 1 13 (dk_at dksX0_alike_2 14 rfl rfl)
theorem dX0_alike_63 : decode cX0_alike 63 = .ok (.istore 6, 2) := dk_54 6 (dk_at dksX0_alike_2 17 rfl rfl)
theorem dX0_alike_65 : decode cX0_alike 65 = .ok (.aload_n 0, 1) := dk_42 (dk_at dksX0_alike_2 19 rfl rfl)
theorem dX0_alike_66 : decode cX0_alike 66 = .ok (.getfield 113, 3) := dk_180 0 113 (dk_at dksX0_alike_2 20 rfl rfl)
theorem dX0_alike_69 : decode cX0_alike 69 = .ok (.iload_n 2, 1) := dk_28 (dk_at dksX0_alike_2 23 rfl rfl)
theorem dX0_alike_70 : decode cX0_alike 70 = .ok (.aaload, 1) := dk_50 (dk_at dksX0_alike_3 0 rfl rfl)
theorem dX0_alike_71 : decode cX0_alike 71 = .ok (.aload_n 0, 1) := dk_42 (dk_at dksX0_alike_3 1 rfl rfl)
theorem dX0_alike_72 : decode cX0_alike 72 = .ok (.getfield 57, 3) := dk_180 0 57 (dk_at dksX0_alike_3 2 rfl rfl)
theorem dX0_alike_75 : decode cX0_alike 75 = .ok (.iload 5, 2) := dk_21 5 (dk_at dksX0_alike_3 5 rfl rfl)
theorem dX0_alike_77 : decode cX0_alike 77 = .ok (.aaload, 1) := dk_50 (dk_at dksX0_alike_3 7 rfl rfl)
theorem dX0_alike_78 : decode cX0_alike 78 = .ok (.iconst 1, 1) := dk_4 (dk_at dksX0_alike_3 8 rfl rfl)
theorem dX0_alike_79 : decode cX0_alike 79 = .ok (.invokevirtual 269, 3) := dk_182 1 13 (dk_at dksX0_alike_3 9 rfl rfl)
theorem dX0_alike_82 : decode cX0_alike 82 = .ok (.istore 7, 2) := dk_54 7 (dk_at dksX0_alike_3 12 rfl rfl)
theorem dX0_alike_84 : decode cX0_alike 84 = .ok (.iload 6, 2) := dk_21 6 (dk_at dksX0_alike_3 14 rfl rfl)
theorem dX0_alike_86 : decode cX0_alike 86 = .ok (.iconst (-1), 1) := dk_2 (dk_at dksX0_alike_3 16 rfl rfl)
theorem dX0_alike_87 : decode cX0_alike 87 = .ok (.if_icmp .ne 17, 3) := dk_160 0 17 (dk_at dksX0_alike_3 17 rfl rfl)
theorem dX0_alike_90 : decode cX0_alike 90 = .ok (.iload 7, 2) := dk_21 7 (dk_at dksX0_alike_3 20 rfl rfl)
theorem dX0_alike_92 : decode cX0_alike 92 = .ok (.iconst (-1), 1) := dk_2 (dk_at dksX0_alike_3 22 rfl rfl)
theorem dX0_alike_93 : decode cX0_alike 93 = .ok (.if_icmp .ne 7, 3) := dk_160 0 7 (dk_at dksX0_alike_4 0 rfl rfl)
theorem dX0_alike_96 : decode cX0_alike 96 = .ok (.iconst 4, 1) := dk_7 (dk_at dksX0_alike_4 3 rfl rfl)
theorem dX0_alike_97 : decode cX0_alike 97 = .ok (.goto 29, 3) := dk_167 0 29 (dk_at dksX0_alike_4 4 rfl rfl)
theorem dX0_alike_100 : decode cX0_alike 100 = .ok (.iconst 3, 1) := dk_6 (dk_at dksX0_alike_4 7 rfl rfl)
theorem dX0_alike_101 : decode cX0_alike 101 = .ok (.goto 25, 3) := dk_167 0 25 (dk_at dksX0_alike_4 8 rfl rfl)
theorem dX0_alike_104 : decode cX0_alike 104 = .ok (.iload 7, 2) := dk_21 7 (dk_at dksX0_alike_4 11 rfl rfl)
theorem dX0_alike_106 : decode cX0_alike 106 = .ok (.iconst (-1), 1) := dk_2 (dk_at dksX0_alike_4 13 rfl rfl)
theorem dX0_alike_107 : decode cX0_alike 107 = .ok (.if_icmp .ne 7, 3) := dk_160 0 7 (dk_at dksX0_alike_4 14 rfl rfl)
theorem dX0_alike_110 : decode cX0_alike 110 = .ok (.iconst 2, 1) := dk_5 (dk_at dksX0_alike_4 17 rfl rfl)
theorem dX0_alike_111 : decode cX0_alike 111 = .ok (.goto 15, 3) := dk_167 0 15 (dk_at dksX0_alike_4 18 rfl rfl)
theorem dX0_alike_114 : decode cX0_alike 114 = .ok (.iload 6, 2) := dk_21 6 (dk_at dksX0_alike_4 21 rfl rfl)
theorem dX0_alike_116 : decode cX0_alike 116 = .ok (.iload 7, 2) := dk_21 7 (dk_at dksX0_alike_5 0 rfl rfl)
theorem dX0_alike_118 : decode cX0_alike 118 = .ok (.if_icmp .ne 7, 3) := dk_160 0 7 (dk_at dksX0_alike_5 2 rfl rfl)
theorem dX0_alike_121 : decode cX0_alike 121 = .ok (.iconst 0, 1) := dk_3 (dk_at dksX0_alike_5 5 rfl rfl)
theorem dX0_alike_122 : decode cX0_alike 122 = .ok (.goto 4, 3) := dk_167 0 4 (dk_at dksX0_alike_5 6 rfl rfl)
theorem dX0_alike_125 : decode cX0_alike 125 = .ok (.iconst 1, 1) := dk_4 (dk_at dksX0_alike_5 9 rfl rfl)
theorem dX0_alike_126 : decode cX0_alike 126 = .ok (.istore 8, 2) := dk_54 8 (dk_at dksX0_alike_5 10 rfl rfl)
theorem dX0_alike_128 : decode cX0_alike 128 = .ok (.iload 4, 2) := dk_21 4 (dk_at dksX0_alike_5 12 rfl rfl)
theorem dX0_alike_130 : decode cX0_alike 130 = .ok (.iload 8, 2) := dk_21 8 (dk_at dksX0_alike_5 14 rfl rfl)
theorem dX0_alike_132 : decode cX0_alike 132 = .ok (.iload_n 3, 1) := dk_29 (dk_at dksX0_alike_5 16 rfl rfl)
theorem dX0_alike_133 : decode cX0_alike 133 = .ok (.if_icmp .ne 7, 3) := dk_160 0 7 (dk_at dksX0_alike_5 17 rfl rfl)
theorem dX0_alike_136 : decode cX0_alike 136 = .ok (.iconst 1, 1) := dk_4 (dk_at dksX0_alike_5 20 rfl rfl)
theorem dX0_alike_137 : decode cX0_alike 137 = .ok (.goto 4, 3) := dk_167 0 4 (dk_at dksX0_alike_5 21 rfl rfl)
theorem dX0_alike_140 : decode cX0_alike 140 = .ok (.iconst 0, 1) := dk_3 (dk_at dksX0_alike_6 0 rfl rfl)
theorem dX0_alike_141 : decode cX0_alike 141 = .ok (.iadd, 1) := dk_96 (dk_at dksX0_alike_6 1 rfl rfl)
theorem dX0_alike_142 : decode cX0_alike 142 = .ok (.istore 4, 2) := dk_54 4 (dk_at dksX0_alike_6 2 rfl rfl)
theorem dX0_alike_144 : decode cX0_alike 144 = .ok (.iinc 5 1, 3) := dk_132 5 1 (dk_at dksX0_alike_6 4 rfl rfl)
theorem dX0_alike_147 : decode cX0_alike 147 = .ok (.goto (-110), 3) := dk_167 255 146 (dk_at dksX0_alike_6 7 rfl rfl)
theorem dX0_alike_150 : decode cX0_alike 150 = .ok (.iload 4, 2) := dk_21 4 (dk_at dksX0_alike_6 10 rfl rfl)
theorem dX0_alike_152 : decode cX0_alike 152 = .ok (.ireturn, 1) := dk_172 (dk_at dksX0_alike_6 12 rfl rfl)
abbrev cX0_beasts : ByteArray := prog_1_method_46_code
def yX0_beasts : MethodName := ⟨RX0, "beasts", "(IIIII)I"⟩
def dkwX0_beasts_5 : List UInt8 := [132, 7, 1, 167, 255, 231, 167, 0, 13, 42, 182, 1, 73, 54, 6, 42, 182, 1, 76, 21, 6, 172]
abbrev dktX0_beasts_5 : List UInt8 := dkwX0_beasts_5 ++ []
def dkwX0_beasts_4 : List UInt8 := [54, 7, 21, 7, 42, 180, 0, 150, 162, 0, 22, 21, 6, 42, 21, 7, 182, 1, 57, 184, 0, 203, 54, 6]
abbrev dktX0_beasts_4 : List UInt8 := dkwX0_beasts_4 ++ dktX0_beasts_5
def dkwX0_beasts_3 : List UInt8 := [3, 167, 0, 4, 4, 96, 54, 6, 132, 7, 1, 167, 255, 223, 167, 0, 53, 21, 5, 4, 160, 0, 37, 3]
abbrev dktX0_beasts_3 : List UInt8 := dkwX0_beasts_3 ++ dktX0_beasts_4
def dkwX0_beasts_2 : List UInt8 := [54, 7, 21, 7, 42, 180, 0, 156, 162, 0, 30, 21, 6, 42, 180, 0, 117, 21, 7, 46, 2, 160, 0, 7]
abbrev dktX0_beasts_2 : List UInt8 := dkwX0_beasts_2 ++ dktX0_beasts_3
def dkwX0_beasts_1 : List UInt8 := [154, 0, 6, 16, 254, 172, 42, 27, 28, 29, 21, 4, 182, 1, 69, 3, 54, 6, 21, 5, 154, 0, 45, 3]
abbrev dktX0_beasts_1 : List UInt8 := dkwX0_beasts_1 ++ dktX0_beasts_2
def dkwX0_beasts_0 : List UInt8 := [42, 27, 28, 29, 21, 4, 182, 1, 65, 153, 0, 16, 21, 5, 133, 9, 20, 0, 182, 184, 0, 5]
abbrev dktX0_beasts_0 : List UInt8 := dkwX0_beasts_0 ++ dktX0_beasts_1
theorem dksX0_beasts_0 : cX0_beasts.data.toList.drop 0 = dktX0_beasts_0 := by decide +kernel
theorem dksX0_beasts_1 : cX0_beasts.data.toList.drop 22 = dktX0_beasts_1 := dk_seg dksX0_beasts_0 22 rfl rfl
theorem dksX0_beasts_2 : cX0_beasts.data.toList.drop 46 = dktX0_beasts_2 := dk_seg dksX0_beasts_1 24 rfl rfl
theorem dksX0_beasts_3 : cX0_beasts.data.toList.drop 70 = dktX0_beasts_3 := dk_seg dksX0_beasts_2 24 rfl rfl
theorem dksX0_beasts_4 : cX0_beasts.data.toList.drop 94 = dktX0_beasts_4 := dk_seg dksX0_beasts_3 24 rfl rfl
theorem dksX0_beasts_5 : cX0_beasts.data.toList.drop 118 = dktX0_beasts_5 := dk_seg dksX0_beasts_4 24 rfl rfl
theorem dX0_beasts_0 : decode cX0_beasts 0 = .ok (.aload_n 0, 1) := dk_42 (dk_at dksX0_beasts_0 0 rfl rfl)
theorem dX0_beasts_1 : decode cX0_beasts 1 = .ok (.iload_n 1, 1) := dk_27 (dk_at dksX0_beasts_0 1 rfl rfl)
theorem dX0_beasts_2 : decode cX0_beasts 2 = .ok (.iload_n 2, 1) := dk_28 (dk_at dksX0_beasts_0 2 rfl rfl)
theorem dX0_beasts_3 : decode cX0_beasts 3 = .ok (.iload_n 3, 1) := dk_29 (dk_at dksX0_beasts_0 3 rfl rfl)
theorem dX0_beasts_4 : decode cX0_beasts 4 = .ok (.iload 4, 2) := dk_21 4 (dk_at dksX0_beasts_0 4 rfl rfl)
theorem dX0_beasts_6 : decode cX0_beasts 6 = .ok (.invokevirtual 321, 3) := dk_182 1 65 (dk_at dksX0_beasts_0 6 rfl rfl)
theorem dX0_beasts_9 : decode cX0_beasts 9 = .ok (.ifCond .eq 16, 3) := dk_153 0 16 (dk_at dksX0_beasts_0 9 rfl rfl)
theorem dX0_beasts_12 : decode cX0_beasts 12 = .ok (.iload 5, 2) := dk_21 5 (dk_at dksX0_beasts_0 12 rfl rfl)
theorem dX0_beasts_14 : decode cX0_beasts 14 = .ok (.i2l, 1) := dk_133 (dk_at dksX0_beasts_0 14 rfl rfl)
theorem dX0_beasts_15 : decode cX0_beasts 15 = .ok (.lconst 0, 1) := dk_9 (dk_at dksX0_beasts_0 15 rfl rfl)
theorem dX0_beasts_16 : decode cX0_beasts 16 = .ok (.ldc2_w 182, 3) := dk_20 0 182 (dk_at dksX0_beasts_0 16 rfl rfl)
theorem dX0_beasts_19 : decode cX0_beasts 19 = .ok (.invokestatic 5, 3) := dk_184 0 5 (dk_at dksX0_beasts_0 19 rfl rfl)
theorem dX0_beasts_22 : decode cX0_beasts 22 = .ok (.ifCond .ne 6, 3) := dk_154 0 6 (dk_at dksX0_beasts_1 0 rfl rfl)
theorem dX0_beasts_25 : decode cX0_beasts 25 = .ok (.bipush (-2), 2) := dk_16 254 (dk_at dksX0_beasts_1 3 rfl rfl)
theorem dX0_beasts_27 : decode cX0_beasts 27 = .ok (.ireturn, 1) := dk_172 (dk_at dksX0_beasts_1 5 rfl rfl)
theorem dX0_beasts_28 : decode cX0_beasts 28 = .ok (.aload_n 0, 1) := dk_42 (dk_at dksX0_beasts_1 6 rfl rfl)
theorem dX0_beasts_29 : decode cX0_beasts 29 = .ok (.iload_n 1, 1) := dk_27 (dk_at dksX0_beasts_1 7 rfl rfl)
theorem dX0_beasts_30 : decode cX0_beasts 30 = .ok (.iload_n 2, 1) := dk_28 (dk_at dksX0_beasts_1 8 rfl rfl)
theorem dX0_beasts_31 : decode cX0_beasts 31 = .ok (.iload_n 3, 1) := dk_29 (dk_at dksX0_beasts_1 9 rfl rfl)
theorem dX0_beasts_32 : decode cX0_beasts 32 = .ok (.iload 4, 2) := dk_21 4 (dk_at dksX0_beasts_1 10 rfl rfl)
theorem dX0_beasts_34 : decode cX0_beasts 34 = .ok (.invokevirtual 325, 3) := dk_182 1 69 (dk_at dksX0_beasts_1 12 rfl rfl)
theorem dX0_beasts_37 : decode cX0_beasts 37 = .ok (.iconst 0, 1) := dk_3 (dk_at dksX0_beasts_1 15 rfl rfl)
theorem dX0_beasts_38 : decode cX0_beasts 38 = .ok (.istore 6, 2) := dk_54 6 (dk_at dksX0_beasts_1 16 rfl rfl)
theorem dX0_beasts_40 : decode cX0_beasts 40 = .ok (.iload 5, 2) := dk_21 5 (dk_at dksX0_beasts_1 18 rfl rfl)
theorem dX0_beasts_42 : decode cX0_beasts 42 = .ok (.ifCond .ne 45, 3) := dk_154 0 45 (dk_at dksX0_beasts_1 20 rfl rfl)
theorem dX0_beasts_45 : decode cX0_beasts 45 = .ok (.iconst 0, 1) := dk_3 (dk_at dksX0_beasts_1 23 rfl rfl)
theorem dX0_beasts_46 : decode cX0_beasts 46 = .ok (.istore 7, 2) := dk_54 7 (dk_at dksX0_beasts_2 0 rfl rfl)
theorem dX0_beasts_48 : decode cX0_beasts 48 = .ok (.iload 7, 2) := dk_21 7 (dk_at dksX0_beasts_2 2 rfl rfl)
theorem dX0_beasts_50 : decode cX0_beasts 50 = .ok (.aload_n 0, 1) := dk_42 (dk_at dksX0_beasts_2 4 rfl rfl)
theorem dX0_beasts_51 : decode cX0_beasts 51 = .ok (.getfield 156, 3) := dk_180 0 156 (dk_at dksX0_beasts_2 5 rfl rfl)
theorem dX0_beasts_54 : decode cX0_beasts 54 = .ok (.if_icmp .ge 30, 3) := dk_162 0 30 (dk_at dksX0_beasts_2 8 rfl rfl)
theorem dX0_beasts_57 : decode cX0_beasts 57 = .ok (.iload 6, 2) := dk_21 6 (dk_at dksX0_beasts_2 11 rfl rfl)
theorem dX0_beasts_59 : decode cX0_beasts 59 = .ok (.aload_n 0, 1) := dk_42 (dk_at dksX0_beasts_2 13 rfl rfl)
theorem dX0_beasts_60 : decode cX0_beasts 60 = .ok (.getfield 117, 3) := dk_180 0 117 (dk_at dksX0_beasts_2 14 rfl rfl)
theorem dX0_beasts_63 : decode cX0_beasts 63 = .ok (.iload 7, 2) := dk_21 7 (dk_at dksX0_beasts_2 17 rfl rfl)
theorem dX0_beasts_65 : decode cX0_beasts 65 = .ok (.iaload, 1) := dk_46 (dk_at dksX0_beasts_2 19 rfl rfl)
theorem dX0_beasts_66 : decode cX0_beasts 66 = .ok (.iconst (-1), 1) := dk_2 (dk_at dksX0_beasts_2 20 rfl rfl)
theorem dX0_beasts_67 : decode cX0_beasts 67 = .ok (.if_icmp .ne 7, 3) := dk_160 0 7 (dk_at dksX0_beasts_2 21 rfl rfl)
theorem dX0_beasts_70 : decode cX0_beasts 70 = .ok (.iconst 0, 1) := dk_3 (dk_at dksX0_beasts_3 0 rfl rfl)
theorem dX0_beasts_71 : decode cX0_beasts 71 = .ok (.goto 4, 3) := dk_167 0 4 (dk_at dksX0_beasts_3 1 rfl rfl)
theorem dX0_beasts_74 : decode cX0_beasts 74 = .ok (.iconst 1, 1) := dk_4 (dk_at dksX0_beasts_3 4 rfl rfl)
theorem dX0_beasts_75 : decode cX0_beasts 75 = .ok (.iadd, 1) := dk_96 (dk_at dksX0_beasts_3 5 rfl rfl)
theorem dX0_beasts_76 : decode cX0_beasts 76 = .ok (.istore 6, 2) := dk_54 6 (dk_at dksX0_beasts_3 6 rfl rfl)
theorem dX0_beasts_78 : decode cX0_beasts 78 = .ok (.iinc 7 1, 3) := dk_132 7 1 (dk_at dksX0_beasts_3 8 rfl rfl)
theorem dX0_beasts_81 : decode cX0_beasts 81 = .ok (.goto (-33), 3) := dk_167 255 223 (dk_at dksX0_beasts_3 11 rfl rfl)
theorem dX0_beasts_84 : decode cX0_beasts 84 = .ok (.goto 53, 3) := dk_167 0 53 (dk_at dksX0_beasts_3 14 rfl rfl)
theorem dX0_beasts_87 : decode cX0_beasts 87 = .ok (.iload 5, 2) := dk_21 5 (dk_at dksX0_beasts_3 17 rfl rfl)
theorem dX0_beasts_89 : decode cX0_beasts 89 = .ok (.iconst 1, 1) := dk_4 (dk_at dksX0_beasts_3 19 rfl rfl)
theorem dX0_beasts_90 : decode cX0_beasts 90 = .ok (.if_icmp .ne 37, 3) := dk_160 0 37 (dk_at dksX0_beasts_3 20 rfl rfl)
theorem dX0_beasts_93 : decode cX0_beasts 93 = .ok (.iconst 0, 1) := dk_3 (dk_at dksX0_beasts_3 23 rfl rfl)
theorem dX0_beasts_94 : decode cX0_beasts 94 = .ok (.istore 7, 2) := dk_54 7 (dk_at dksX0_beasts_4 0 rfl rfl)
theorem dX0_beasts_96 : decode cX0_beasts 96 = .ok (.iload 7, 2) := dk_21 7 (dk_at dksX0_beasts_4 2 rfl rfl)
theorem dX0_beasts_98 : decode cX0_beasts 98 = .ok (.aload_n 0, 1) := dk_42 (dk_at dksX0_beasts_4 4 rfl rfl)
theorem dX0_beasts_99 : decode cX0_beasts 99 = .ok (.getfield 150, 3) := dk_180 0 150 (dk_at dksX0_beasts_4 5 rfl rfl)
theorem dX0_beasts_102 : decode cX0_beasts 102 = .ok (.if_icmp .ge 22, 3) := dk_162 0 22 (dk_at dksX0_beasts_4 8 rfl rfl)
theorem dX0_beasts_105 : decode cX0_beasts 105 = .ok (.iload 6, 2) := dk_21 6 (dk_at dksX0_beasts_4 11 rfl rfl)
theorem dX0_beasts_107 : decode cX0_beasts 107 = .ok (.aload_n 0, 1) := dk_42 (dk_at dksX0_beasts_4 13 rfl rfl)
theorem dX0_beasts_108 : decode cX0_beasts 108 = .ok (.iload 7, 2) := dk_21 7 (dk_at dksX0_beasts_4 14 rfl rfl)
theorem dX0_beasts_110 : decode cX0_beasts 110 = .ok (.invokevirtual 313, 3) := dk_182 1 57 (dk_at dksX0_beasts_4 16 rfl rfl)
theorem dX0_beasts_113 : decode cX0_beasts 113 = .ok (.invokestatic 203, 3) := dk_184 0 203 (dk_at dksX0_beasts_4 19 rfl rfl)
theorem dX0_beasts_116 : decode cX0_beasts 116 = .ok (.istore 6, 2) := dk_54 6 (dk_at dksX0_beasts_4 22 rfl rfl)
theorem dX0_beasts_118 : decode cX0_beasts 118 = .ok (.iinc 7 1, 3) := dk_132 7 1 (dk_at dksX0_beasts_5 0 rfl rfl)
theorem dX0_beasts_121 : decode cX0_beasts 121 = .ok (.goto (-25), 3) := dk_167 255 231 (dk_at dksX0_beasts_5 3 rfl rfl)
theorem dX0_beasts_124 : decode cX0_beasts 124 = .ok (.goto 13, 3) := dk_167 0 13 (dk_at dksX0_beasts_5 6 rfl rfl)
theorem dX0_beasts_127 : decode cX0_beasts 127 = .ok (.aload_n 0, 1) := dk_42 (dk_at dksX0_beasts_5 9 rfl rfl)
theorem dX0_beasts_128 : decode cX0_beasts 128 = .ok (.invokevirtual 329, 3) := dk_182 1 73 (dk_at dksX0_beasts_5 10 rfl rfl)
theorem dX0_beasts_131 : decode cX0_beasts 131 = .ok (.istore 6, 2) := dk_54 6 (dk_at dksX0_beasts_5 13 rfl rfl)
theorem dX0_beasts_133 : decode cX0_beasts 133 = .ok (.aload_n 0, 1) := dk_42 (dk_at dksX0_beasts_5 15 rfl rfl)
theorem dX0_beasts_134 : decode cX0_beasts 134 = .ok (.invokevirtual 332, 3) := dk_182 1 76 (dk_at dksX0_beasts_5 16 rfl rfl)
theorem dX0_beasts_137 : decode cX0_beasts 137 = .ok (.iload 6, 2) := dk_21 6 (dk_at dksX0_beasts_5 19 rfl rfl)
theorem dX0_beasts_139 : decode cX0_beasts 139 = .ok (.ireturn, 1) := dk_172 (dk_at dksX0_beasts_5 21 rfl rfl)
abbrev cX0_isAsk : ByteArray := prog_1_method_37_code
def yX0_isAsk : MethodName := ⟨RX0, "isAsk", "(IIII)Z"⟩
def dkwX0_isAsk_1 : List UInt8 := [21, 4, 133, 9, 42, 180, 0, 156, 133, 184, 0, 5, 153, 0, 7, 4, 167, 0, 4, 3, 172]
abbrev dktX0_isAsk_1 : List UInt8 := dkwX0_isAsk_1 ++ []
def dkwX0_isAsk_0 : List UInt8 := [27, 184, 0, 172, 153, 0, 38, 42, 28, 182, 1, 19, 153, 0, 30, 42, 29, 182, 1, 10, 153, 0, 22]
abbrev dktX0_isAsk_0 : List UInt8 := dkwX0_isAsk_0 ++ dktX0_isAsk_1
theorem dksX0_isAsk_0 : cX0_isAsk.data.toList.drop 0 = dktX0_isAsk_0 := by decide +kernel
theorem dksX0_isAsk_1 : cX0_isAsk.data.toList.drop 23 = dktX0_isAsk_1 := dk_seg dksX0_isAsk_0 23 rfl rfl
theorem dX0_isAsk_0 : decode cX0_isAsk 0 = .ok (.iload_n 1, 1) := dk_27 (dk_at dksX0_isAsk_0 0 rfl rfl)
theorem dX0_isAsk_1 : decode cX0_isAsk 1 = .ok (.invokestatic 172, 3) := dk_184 0 172 (dk_at dksX0_isAsk_0 1 rfl rfl)
theorem dX0_isAsk_4 : decode cX0_isAsk 4 = .ok (.ifCond .eq 38, 3) := dk_153 0 38 (dk_at dksX0_isAsk_0 4 rfl rfl)
theorem dX0_isAsk_7 : decode cX0_isAsk 7 = .ok (.aload_n 0, 1) := dk_42 (dk_at dksX0_isAsk_0 7 rfl rfl)
theorem dX0_isAsk_8 : decode cX0_isAsk 8 = .ok (.iload_n 2, 1) := dk_28 (dk_at dksX0_isAsk_0 8 rfl rfl)
theorem dX0_isAsk_9 : decode cX0_isAsk 9 = .ok (.invokevirtual 275, 3) := dk_182 1 19 (dk_at dksX0_isAsk_0 9 rfl rfl)
theorem dX0_isAsk_12 : decode cX0_isAsk 12 = .ok (.ifCond .eq 30, 3) := dk_153 0 30 (dk_at dksX0_isAsk_0 12 rfl rfl)
theorem dX0_isAsk_15 : decode cX0_isAsk 15 = .ok (.aload_n 0, 1) := dk_42 (dk_at dksX0_isAsk_0 15 rfl rfl)
theorem dX0_isAsk_16 : decode cX0_isAsk 16 = .ok (.iload_n 3, 1) := dk_29 (dk_at dksX0_isAsk_0 16 rfl rfl)
theorem dX0_isAsk_17 : decode cX0_isAsk 17 = .ok (.invokevirtual 266, 3) := dk_182 1 10 (dk_at dksX0_isAsk_0 17 rfl rfl)
theorem dX0_isAsk_20 : decode cX0_isAsk 20 = .ok (.ifCond .eq 22, 3) := dk_153 0 22 (dk_at dksX0_isAsk_0 20 rfl rfl)
theorem dX0_isAsk_23 : decode cX0_isAsk 23 = .ok (.iload 4, 2) := dk_21 4 (dk_at dksX0_isAsk_1 0 rfl rfl)
theorem dX0_isAsk_25 : decode cX0_isAsk 25 = .ok (.i2l, 1) := dk_133 (dk_at dksX0_isAsk_1 2 rfl rfl)
theorem dX0_isAsk_26 : decode cX0_isAsk 26 = .ok (.lconst 0, 1) := dk_9 (dk_at dksX0_isAsk_1 3 rfl rfl)
theorem dX0_isAsk_27 : decode cX0_isAsk 27 = .ok (.aload_n 0, 1) := dk_42 (dk_at dksX0_isAsk_1 4 rfl rfl)
theorem dX0_isAsk_28 : decode cX0_isAsk 28 = .ok (.getfield 156, 3) := dk_180 0 156 (dk_at dksX0_isAsk_1 5 rfl rfl)
theorem dX0_isAsk_31 : decode cX0_isAsk 31 = .ok (.i2l, 1) := dk_133 (dk_at dksX0_isAsk_1 8 rfl rfl)
theorem dX0_isAsk_32 : decode cX0_isAsk 32 = .ok (.invokestatic 5, 3) := dk_184 0 5 (dk_at dksX0_isAsk_1 9 rfl rfl)
theorem dX0_isAsk_35 : decode cX0_isAsk 35 = .ok (.ifCond .eq 7, 3) := dk_153 0 7 (dk_at dksX0_isAsk_1 12 rfl rfl)
theorem dX0_isAsk_38 : decode cX0_isAsk 38 = .ok (.iconst 1, 1) := dk_4 (dk_at dksX0_isAsk_1 15 rfl rfl)
theorem dX0_isAsk_39 : decode cX0_isAsk 39 = .ok (.goto 4, 3) := dk_167 0 4 (dk_at dksX0_isAsk_1 16 rfl rfl)
theorem dX0_isAsk_42 : decode cX0_isAsk 42 = .ok (.iconst 0, 1) := dk_3 (dk_at dksX0_isAsk_1 19 rfl rfl)
theorem dX0_isAsk_43 : decode cX0_isAsk 43 = .ok (.ireturn, 1) := dk_172 (dk_at dksX0_isAsk_1 20 rfl rfl)
abbrev cX0_areLayers : ByteArray := prog_1_method_13_code
def yX0_areLayers : MethodName := ⟨RX0, "areLayers", "(I)Z"⟩
def dkwX0_areLayers_0 : List UInt8 := [27, 133, 9, 4, 42, 180, 0, 153, 120, 4, 100, 133, 184, 0, 5, 172]
abbrev dktX0_areLayers_0 : List UInt8 := dkwX0_areLayers_0 ++ []
theorem dksX0_areLayers_0 : cX0_areLayers.data.toList.drop 0 = dktX0_areLayers_0 := by decide +kernel
theorem dX0_areLayers_0 : decode cX0_areLayers 0 = .ok (.iload_n 1, 1) := dk_27 (dk_at dksX0_areLayers_0 0 rfl rfl)
theorem dX0_areLayers_1 : decode cX0_areLayers 1 = .ok (.i2l, 1) := dk_133 (dk_at dksX0_areLayers_0 1 rfl rfl)
theorem dX0_areLayers_2 : decode cX0_areLayers 2 = .ok (.lconst 0, 1) := dk_9 (dk_at dksX0_areLayers_0 2 rfl rfl)
theorem dX0_areLayers_3 : decode cX0_areLayers 3 = .ok (.iconst 1, 1) := dk_4 (dk_at dksX0_areLayers_0 3 rfl rfl)
theorem dX0_areLayers_4 : decode cX0_areLayers 4 = .ok (.aload_n 0, 1) := dk_42 (dk_at dksX0_areLayers_0 4 rfl rfl)
theorem dX0_areLayers_5 : decode cX0_areLayers 5 = .ok (.getfield 153, 3) := dk_180 0 153 (dk_at dksX0_areLayers_0 5 rfl rfl)
theorem dX0_areLayers_8 : decode cX0_areLayers 8 = .ok (.ishl, 1) := dk_120 (dk_at dksX0_areLayers_0 8 rfl rfl)
theorem dX0_areLayers_9 : decode cX0_areLayers 9 = .ok (.iconst 1, 1) := dk_4 (dk_at dksX0_areLayers_0 9 rfl rfl)
theorem dX0_areLayers_10 : decode cX0_areLayers 10 = .ok (.isub, 1) := dk_100 (dk_at dksX0_areLayers_0 10 rfl rfl)
theorem dX0_areLayers_11 : decode cX0_areLayers 11 = .ok (.i2l, 1) := dk_133 (dk_at dksX0_areLayers_0 11 rfl rfl)
theorem dX0_areLayers_12 : decode cX0_areLayers 12 = .ok (.invokestatic 5, 3) := dk_184 0 5 (dk_at dksX0_areLayers_0 12 rfl rfl)
theorem dX0_areLayers_15 : decode cX0_areLayers 15 = .ok (.ireturn, 1) := dk_172 (dk_at dksX0_areLayers_0 15 rfl rfl)
abbrev cX0_names : ByteArray := prog_1_method_38_code
def yX0_names : MethodName := ⟨RX0, "names", "(IIII)V"⟩
def dkwX0_names_4 : List UInt8 := [180, 0, 120, 21, 5, 2, 79, 132, 5, 1, 167, 255, 157, 177]
abbrev dktX0_names_4 : List UInt8 := dkwX0_names_4 ++ []
def dkwX0_names_3 : List UInt8 := [159, 0, 20, 21, 6, 16, 100, 108, 27, 160, 0, 11, 21, 6, 16, 100, 112, 167, 0, 4, 2, 79, 42]
abbrev dktX0_names_3 : List UInt8 := dkwX0_names_3 ++ dktX0_names_4
def dkwX0_names_2 : List UInt8 := [21, 5, 50, 4, 182, 1, 13, 167, 0, 4, 2, 54, 6, 42, 180, 0, 117, 21, 5, 21, 6, 2]
abbrev dktX0_names_2 : List UInt8 := dkwX0_names_2 ++ dktX0_names_3
def dkwX0_names_1 : List UInt8 := [21, 5, 50, 180, 0, 229, 122, 4, 126, 4, 160, 0, 23, 42, 180, 0, 113, 29, 50, 42, 180, 0, 57]
abbrev dktX0_names_1 : List UInt8 := dkwX0_names_1 ++ dktX0_names_2
def dkwX0_names_0 : List UInt8 := [3, 54, 5, 21, 5, 42, 180, 0, 156, 162, 0, 96, 21, 5, 21, 4, 162, 0, 41, 28, 42, 180, 0, 57]
abbrev dktX0_names_0 : List UInt8 := dkwX0_names_0 ++ dktX0_names_1
theorem dksX0_names_0 : cX0_names.data.toList.drop 0 = dktX0_names_0 := by decide +kernel
theorem dksX0_names_1 : cX0_names.data.toList.drop 24 = dktX0_names_1 := dk_seg dksX0_names_0 24 rfl rfl
theorem dksX0_names_2 : cX0_names.data.toList.drop 47 = dktX0_names_2 := dk_seg dksX0_names_1 23 rfl rfl
theorem dksX0_names_3 : cX0_names.data.toList.drop 69 = dktX0_names_3 := dk_seg dksX0_names_2 22 rfl rfl
theorem dksX0_names_4 : cX0_names.data.toList.drop 92 = dktX0_names_4 := dk_seg dksX0_names_3 23 rfl rfl
theorem dX0_names_0 : decode cX0_names 0 = .ok (.iconst 0, 1) := dk_3 (dk_at dksX0_names_0 0 rfl rfl)
theorem dX0_names_1 : decode cX0_names 1 = .ok (.istore 5, 2) := dk_54 5 (dk_at dksX0_names_0 1 rfl rfl)
theorem dX0_names_3 : decode cX0_names 3 = .ok (.iload 5, 2) := dk_21 5 (dk_at dksX0_names_0 3 rfl rfl)
theorem dX0_names_5 : decode cX0_names 5 = .ok (.aload_n 0, 1) := dk_42 (dk_at dksX0_names_0 5 rfl rfl)
theorem dX0_names_6 : decode cX0_names 6 = .ok (.getfield 156, 3) := dk_180 0 156 (dk_at dksX0_names_0 6 rfl rfl)
theorem dX0_names_9 : decode cX0_names 9 = .ok (.if_icmp .ge 96, 3) := dk_162 0 96 (dk_at dksX0_names_0 9 rfl rfl)
theorem dX0_names_12 : decode cX0_names 12 = .ok (.iload 5, 2) := dk_21 5 (dk_at dksX0_names_0 12 rfl rfl)
theorem dX0_names_14 : decode cX0_names 14 = .ok (.iload 4, 2) := dk_21 4 (dk_at dksX0_names_0 14 rfl rfl)
theorem dX0_names_16 : decode cX0_names 16 = .ok (.if_icmp .ge 41, 3) := dk_162 0 41 (dk_at dksX0_names_0 16 rfl rfl)
theorem dX0_names_19 : decode cX0_names 19 = .ok (.iload_n 2, 1) := dk_28 (dk_at dksX0_names_0 19 rfl rfl)
theorem dX0_names_20 : decode cX0_names 20 = .ok (.aload_n 0, 1) := dk_42 (dk_at dksX0_names_0 20 rfl rfl)
theorem dX0_names_21 : decode cX0_names 21 = .ok (.getfield 57, 3) := dk_180 0 57 (dk_at dksX0_names_0 21 rfl rfl)
theorem dX0_names_24 : decode cX0_names 24 = .ok (.iload 5, 2) := dk_21 5 (dk_at dksX0_names_1 0 rfl rfl)
theorem dX0_names_26 : decode cX0_names 26 = .ok (.aaload, 1) := dk_50 (dk_at dksX0_names_1 2 rfl rfl)
theorem dX0_names_27 : decode cX0_names 27 = .ok (.getfield 229, 3) := dk_180 0 229 (dk_at dksX0_names_1 3 rfl rfl)
theorem dX0_names_30 : decode cX0_names 30 = .ok (.ishr, 1) := dk_122 (dk_at dksX0_names_1 6 rfl rfl)
theorem dX0_names_31 : decode cX0_names 31 = .ok (.iconst 1, 1) := dk_4 (dk_at dksX0_names_1 7 rfl rfl)
theorem dX0_names_32 : decode cX0_names 32 = .ok (.iand, 1) := dk_126 (dk_at dksX0_names_1 8 rfl rfl)
theorem dX0_names_33 : decode cX0_names 33 = .ok (.iconst 1, 1) := dk_4 (dk_at dksX0_names_1 9 rfl rfl)
theorem dX0_names_34 : decode cX0_names 34 = .ok (.if_icmp .ne 23, 3) := dk_160 0 23 (dk_at dksX0_names_1 10 rfl rfl)
theorem dX0_names_37 : decode cX0_names 37 = .ok (.aload_n 0, 1) := dk_42 (dk_at dksX0_names_1 13 rfl rfl)
theorem dX0_names_38 : decode cX0_names 38 = .ok (.getfield 113, 3) := dk_180 0 113 (dk_at dksX0_names_1 14 rfl rfl)
theorem dX0_names_41 : decode cX0_names 41 = .ok (.iload_n 3, 1) := dk_29 (dk_at dksX0_names_1 17 rfl rfl)
theorem dX0_names_42 : decode cX0_names 42 = .ok (.aaload, 1) := dk_50 (dk_at dksX0_names_1 18 rfl rfl)
theorem dX0_names_43 : decode cX0_names 43 = .ok (.aload_n 0, 1) := dk_42 (dk_at dksX0_names_1 19 rfl rfl)
theorem dX0_names_44 : decode cX0_names 44 = .ok (.getfield 57, 3) := dk_180 0 57 (dk_at dksX0_names_1 20 rfl rfl)
theorem dX0_names_47 : decode cX0_names 47 = .ok (.iload 5, 2) := dk_21 5 (dk_at dksX0_names_2 0 rfl rfl)
theorem dX0_names_49 : decode cX0_names 49 = .ok (.aaload, 1) := dk_50 (dk_at dksX0_names_2 2 rfl rfl)
theorem dX0_names_50 : decode cX0_names 50 = .ok (.iconst 1, 1) := dk_4 (dk_at dksX0_names_2 3 rfl rfl)
theorem dX0_names_51 : decode cX0_names 51 = .ok (.invokevirtual 269, 3) := dk_182 1 13 (dk_at dksX0_names_2 4 rfl rfl)
theorem dX0_names_54 : decode cX0_names 54 = .ok (.goto 4, 3) := dk_167 0 4 (dk_at dksX0_names_2 7 rfl rfl)
theorem dX0_names_57 : decode cX0_names 57 = .ok (.iconst (-1), 1) := dk_2 (dk_at dksX0_names_2 10 rfl rfl)
theorem dX0_names_58 : decode cX0_names 58 = .ok (.istore 6, 2) := dk_54 6 (dk_at dksX0_names_2 11 rfl rfl)
theorem dX0_names_60 : decode cX0_names 60 = .ok (.aload_n 0, 1) := dk_42 (dk_at dksX0_names_2 13 rfl rfl)
theorem dX0_names_61 : decode cX0_names 61 = .ok (.getfield 117, 3) := dk_180 0 117 (dk_at dksX0_names_2 14 rfl rfl)
theorem dX0_names_64 : decode cX0_names 64 = .ok (.iload 5, 2) := dk_21 5 (dk_at dksX0_names_2 17 rfl rfl)
theorem dX0_names_66 : decode cX0_names 66 = .ok (.iload 6, 2) := dk_21 6 (dk_at dksX0_names_2 19 rfl rfl)
theorem dX0_names_68 : decode cX0_names 68 = .ok (.iconst (-1), 1) := dk_2 (dk_at dksX0_names_2 21 rfl rfl)
theorem dX0_names_69 : decode cX0_names 69 = .ok (.if_icmp .eq 20, 3) := dk_159 0 20 (dk_at dksX0_names_3 0 rfl rfl)
theorem dX0_names_72 : decode cX0_names 72 = .ok (.iload 6, 2) := dk_21 6 (dk_at dksX0_names_3 3 rfl rfl)
theorem dX0_names_74 : decode cX0_names 74 = .ok (.bipush 100, 2) := dk_16 100 (dk_at dksX0_names_3 5 rfl rfl)
theorem dX0_names_76 : decode cX0_names 76 = .ok (.idiv, 1) := dk_108 (dk_at dksX0_names_3 7 rfl rfl)
theorem dX0_names_77 : decode cX0_names 77 = .ok (.iload_n 1, 1) := dk_27 (dk_at dksX0_names_3 8 rfl rfl)
theorem dX0_names_78 : decode cX0_names 78 = .ok (.if_icmp .ne 11, 3) := dk_160 0 11 (dk_at dksX0_names_3 9 rfl rfl)
theorem dX0_names_81 : decode cX0_names 81 = .ok (.iload 6, 2) := dk_21 6 (dk_at dksX0_names_3 12 rfl rfl)
theorem dX0_names_83 : decode cX0_names 83 = .ok (.bipush 100, 2) := dk_16 100 (dk_at dksX0_names_3 14 rfl rfl)
theorem dX0_names_85 : decode cX0_names 85 = .ok (.irem, 1) := dk_112 (dk_at dksX0_names_3 16 rfl rfl)
theorem dX0_names_86 : decode cX0_names 86 = .ok (.goto 4, 3) := dk_167 0 4 (dk_at dksX0_names_3 17 rfl rfl)
theorem dX0_names_89 : decode cX0_names 89 = .ok (.iconst (-1), 1) := dk_2 (dk_at dksX0_names_3 20 rfl rfl)
theorem dX0_names_90 : decode cX0_names 90 = .ok (.iastore, 1) := dk_79 (dk_at dksX0_names_3 21 rfl rfl)
theorem dX0_names_91 : decode cX0_names 91 = .ok (.aload_n 0, 1) := dk_42 (dk_at dksX0_names_3 22 rfl rfl)
theorem dX0_names_92 : decode cX0_names 92 = .ok (.getfield 120, 3) := dk_180 0 120 (dk_at dksX0_names_4 0 rfl rfl)
theorem dX0_names_95 : decode cX0_names 95 = .ok (.iload 5, 2) := dk_21 5 (dk_at dksX0_names_4 3 rfl rfl)
theorem dX0_names_97 : decode cX0_names 97 = .ok (.iconst (-1), 1) := dk_2 (dk_at dksX0_names_4 5 rfl rfl)
theorem dX0_names_98 : decode cX0_names 98 = .ok (.iastore, 1) := dk_79 (dk_at dksX0_names_4 6 rfl rfl)
theorem dX0_names_99 : decode cX0_names 99 = .ok (.iinc 5 1, 3) := dk_132 5 1 (dk_at dksX0_names_4 7 rfl rfl)
theorem dX0_names_102 : decode cX0_names 102 = .ok (.goto (-99), 3) := dk_167 255 157 (dk_at dksX0_names_4 10 rfl rfl)
theorem dX0_names_105 : decode cX0_names 105 = .ok (.return_, 1) := dk_177 (dk_at dksX0_names_4 13 rfl rfl)
abbrev cX0_beastsByZones : ByteArray := prog_1_method_40_code
def yX0_beastsByZones : MethodName := ⟨RX0, "beastsByZones", "(I)I"⟩
def dkwX0_beastsByZones_2 : List UInt8 := [182, 1, 35, 96, 4, 100, 42, 180, 0, 51, 27, 50, 182, 1, 35, 108, 172]
abbrev dktX0_beastsByZones_2 : List UInt8 := dkwX0_beastsByZones_2 ++ []
def dkwX0_beastsByZones_1 : List UInt8 := [153, 0, 11, 28, 29, 184, 0, 203, 167, 0, 6, 28, 29, 96, 54, 4, 21, 4, 42, 180, 0, 51, 27, 50]
abbrev dktX0_beastsByZones_1 : List UInt8 := dkwX0_beastsByZones_1 ++ dktX0_beastsByZones_2
def dkwX0_beastsByZones_0 : List UInt8 := [42, 27, 3, 182, 1, 28, 61, 42, 27, 4, 182, 1, 28, 62, 42, 180, 0, 51, 27, 50, 180, 1, 32]
abbrev dktX0_beastsByZones_0 : List UInt8 := dkwX0_beastsByZones_0 ++ dktX0_beastsByZones_1
theorem dksX0_beastsByZones_0 : cX0_beastsByZones.data.toList.drop 0 = dktX0_beastsByZones_0 := by decide +kernel
theorem dksX0_beastsByZones_1 : cX0_beastsByZones.data.toList.drop 23 = dktX0_beastsByZones_1 := dk_seg dksX0_beastsByZones_0 23 rfl rfl
theorem dksX0_beastsByZones_2 : cX0_beastsByZones.data.toList.drop 47 = dktX0_beastsByZones_2 := dk_seg dksX0_beastsByZones_1 24 rfl rfl
theorem dX0_beastsByZones_0 : decode cX0_beastsByZones 0 = .ok (.aload_n 0, 1) := dk_42 (dk_at dksX0_beastsByZones_0 0 rfl rfl)
theorem dX0_beastsByZones_1 : decode cX0_beastsByZones 1 = .ok (.iload_n 1, 1) := dk_27 (dk_at dksX0_beastsByZones_0 1 rfl rfl)
theorem dX0_beastsByZones_2 : decode cX0_beastsByZones 2 = .ok (.iconst 0, 1) := dk_3 (dk_at dksX0_beastsByZones_0 2 rfl rfl)
theorem dX0_beastsByZones_3 : decode cX0_beastsByZones 3 = .ok (.invokevirtual 284, 3) := dk_182 1 28 (dk_at dksX0_beastsByZones_0 3 rfl rfl)
theorem dX0_beastsByZones_6 : decode cX0_beastsByZones 6 = .ok (.istore_n 2, 1) := dk_61 (dk_at dksX0_beastsByZones_0 6 rfl rfl)
theorem dX0_beastsByZones_7 : decode cX0_beastsByZones 7 = .ok (.aload_n 0, 1) := dk_42 (dk_at dksX0_beastsByZones_0 7 rfl rfl)
theorem dX0_beastsByZones_8 : decode cX0_beastsByZones 8 = .ok (.iload_n 1, 1) := dk_27 (dk_at dksX0_beastsByZones_0 8 rfl rfl)
theorem dX0_beastsByZones_9 : decode cX0_beastsByZones 9 = .ok (.iconst 1, 1) := dk_4 (dk_at dksX0_beastsByZones_0 9 rfl rfl)
theorem dX0_beastsByZones_10 : decode cX0_beastsByZones 10 = .ok (.invokevirtual 284, 3) := dk_182 1 28 (dk_at dksX0_beastsByZones_0 10 rfl rfl)
theorem dX0_beastsByZones_13 : decode cX0_beastsByZones 13 = .ok (.istore_n 3, 1) := dk_62 (dk_at dksX0_beastsByZones_0 13 rfl rfl)
theorem dX0_beastsByZones_14 : decode cX0_beastsByZones 14 = .ok (.aload_n 0, 1) := dk_42 (dk_at dksX0_beastsByZones_0 14 rfl rfl)
theorem dX0_beastsByZones_15 : decode cX0_beastsByZones 15 = .ok (.getfield 51, 3) := dk_180 0 51 (dk_at dksX0_beastsByZones_0 15 rfl rfl)
theorem dX0_beastsByZones_18 : decode cX0_beastsByZones 18 = .ok (.iload_n 1, 1) := dk_27 (dk_at dksX0_beastsByZones_0 18 rfl rfl)
theorem dX0_beastsByZones_19 : decode cX0_beastsByZones 19 = .ok (.aaload, 1) := dk_50 (dk_at dksX0_beastsByZones_0 19 rfl rfl)
theorem dX0_beastsByZones_20 : decode cX0_beastsByZones 20 = .ok (.getfield 288, 3) := dk_180 1 32 (dk_at dksX0_beastsByZones_0 20 rfl rfl)
theorem dX0_beastsByZones_23 : decode cX0_beastsByZones 23 = .ok (.ifCond .eq 11, 3) := dk_153 0 11 (dk_at dksX0_beastsByZones_1 0 rfl rfl)
theorem dX0_beastsByZones_26 : decode cX0_beastsByZones 26 = .ok (.iload_n 2, 1) := dk_28 (dk_at dksX0_beastsByZones_1 3 rfl rfl)
theorem dX0_beastsByZones_27 : decode cX0_beastsByZones 27 = .ok (.iload_n 3, 1) := dk_29 (dk_at dksX0_beastsByZones_1 4 rfl rfl)
theorem dX0_beastsByZones_28 : decode cX0_beastsByZones 28 = .ok (.invokestatic 203, 3) := dk_184 0 203 (dk_at dksX0_beastsByZones_1 5 rfl rfl)
theorem dX0_beastsByZones_31 : decode cX0_beastsByZones 31 = .ok (.goto 6, 3) := dk_167 0 6 (dk_at dksX0_beastsByZones_1 8 rfl rfl)
theorem dX0_beastsByZones_34 : decode cX0_beastsByZones 34 = .ok (.iload_n 2, 1) := dk_28 (dk_at dksX0_beastsByZones_1 11 rfl rfl)
theorem dX0_beastsByZones_35 : decode cX0_beastsByZones 35 = .ok (.iload_n 3, 1) := dk_29 (dk_at dksX0_beastsByZones_1 12 rfl rfl)
theorem dX0_beastsByZones_36 : decode cX0_beastsByZones 36 = .ok (.iadd, 1) := dk_96 (dk_at dksX0_beastsByZones_1 13 rfl rfl)
theorem dX0_beastsByZones_37 : decode cX0_beastsByZones 37 = .ok (.istore 4, 2) := dk_54 4 (dk_at dksX0_beastsByZones_1 14 rfl rfl)
theorem dX0_beastsByZones_39 : decode cX0_beastsByZones 39 = .ok (.iload 4, 2) := dk_21 4 (dk_at dksX0_beastsByZones_1 16 rfl rfl)
theorem dX0_beastsByZones_41 : decode cX0_beastsByZones 41 = .ok (.aload_n 0, 1) := dk_42 (dk_at dksX0_beastsByZones_1 18 rfl rfl)
theorem dX0_beastsByZones_42 : decode cX0_beastsByZones 42 = .ok (.getfield 51, 3) := dk_180 0 51 (dk_at dksX0_beastsByZones_1 19 rfl rfl)
theorem dX0_beastsByZones_45 : decode cX0_beastsByZones 45 = .ok (.iload_n 1, 1) := dk_27 (dk_at dksX0_beastsByZones_1 22 rfl rfl)
theorem dX0_beastsByZones_46 : decode cX0_beastsByZones 46 = .ok (.aaload, 1) := dk_50 (dk_at dksX0_beastsByZones_1 23 rfl rfl)
theorem dX0_beastsByZones_47 : decode cX0_beastsByZones 47 = .ok (.invokevirtual 291, 3) := dk_182 1 35 (dk_at dksX0_beastsByZones_2 0 rfl rfl)
theorem dX0_beastsByZones_50 : decode cX0_beastsByZones 50 = .ok (.iadd, 1) := dk_96 (dk_at dksX0_beastsByZones_2 3 rfl rfl)
theorem dX0_beastsByZones_51 : decode cX0_beastsByZones 51 = .ok (.iconst 1, 1) := dk_4 (dk_at dksX0_beastsByZones_2 4 rfl rfl)
theorem dX0_beastsByZones_52 : decode cX0_beastsByZones 52 = .ok (.isub, 1) := dk_100 (dk_at dksX0_beastsByZones_2 5 rfl rfl)
theorem dX0_beastsByZones_53 : decode cX0_beastsByZones 53 = .ok (.aload_n 0, 1) := dk_42 (dk_at dksX0_beastsByZones_2 6 rfl rfl)
theorem dX0_beastsByZones_54 : decode cX0_beastsByZones 54 = .ok (.getfield 51, 3) := dk_180 0 51 (dk_at dksX0_beastsByZones_2 7 rfl rfl)
theorem dX0_beastsByZones_57 : decode cX0_beastsByZones 57 = .ok (.iload_n 1, 1) := dk_27 (dk_at dksX0_beastsByZones_2 10 rfl rfl)
theorem dX0_beastsByZones_58 : decode cX0_beastsByZones 58 = .ok (.aaload, 1) := dk_50 (dk_at dksX0_beastsByZones_2 11 rfl rfl)
theorem dX0_beastsByZones_59 : decode cX0_beastsByZones 59 = .ok (.invokevirtual 291, 3) := dk_182 1 35 (dk_at dksX0_beastsByZones_2 12 rfl rfl)
theorem dX0_beastsByZones_62 : decode cX0_beastsByZones 62 = .ok (.idiv, 1) := dk_108 (dk_at dksX0_beastsByZones_2 15 rfl rfl)
theorem dX0_beastsByZones_63 : decode cX0_beastsByZones 63 = .ok (.ireturn, 1) := dk_172 (dk_at dksX0_beastsByZones_2 16 rfl rfl)
abbrev cX0_byZones : ByteArray := prog_1_method_39_code
def yX0_byZones : MethodName := ⟨RX0, "byZones", "(IZ)I"⟩
def dkwX0_byZones_4 : List UInt8 := [167, 255, 181, 29, 21, 5, 184, 0, 203, 62, 132, 4, 1, 167, 255, 156, 29, 172]
abbrev dktX0_byZones_4 : List UInt8 := dkwX0_byZones_4 ++ []
def dkwX0_byZones_3 : List UInt8 := [180, 1, 25, 21, 4, 122, 4, 126, 4, 160, 0, 7, 4, 167, 0, 4, 3, 96, 54, 5, 132, 6, 1]
abbrev dktX0_byZones_3 : List UInt8 := dkwX0_byZones_3 ++ dktX0_byZones_4
def dkwX0_byZones_2 : List UInt8 := [180, 1, 22, 4, 160, 0, 7, 4, 167, 0, 4, 3, 28, 160, 0, 26, 42, 180, 0, 57, 21, 6, 50]
abbrev dktX0_byZones_2 : List UInt8 := dkwX0_byZones_2 ++ dktX0_byZones_3
def dkwX0_byZones_1 : List UInt8 := [162, 0, 72, 21, 5, 42, 180, 0, 117, 21, 6, 46, 27, 160, 0, 49, 42, 180, 0, 57, 21, 6, 50]
abbrev dktX0_byZones_1 : List UInt8 := dkwX0_byZones_1 ++ dktX0_byZones_2
def dkwX0_byZones_0 : List UInt8 := [3, 62, 3, 54, 4, 21, 4, 7, 162, 0, 100, 3, 54, 5, 3, 54, 6, 21, 6, 42, 180, 0, 156]
abbrev dktX0_byZones_0 : List UInt8 := dkwX0_byZones_0 ++ dktX0_byZones_1
theorem dksX0_byZones_0 : cX0_byZones.data.toList.drop 0 = dktX0_byZones_0 := by decide +kernel
theorem dksX0_byZones_1 : cX0_byZones.data.toList.drop 23 = dktX0_byZones_1 := dk_seg dksX0_byZones_0 23 rfl rfl
theorem dksX0_byZones_2 : cX0_byZones.data.toList.drop 46 = dktX0_byZones_2 := dk_seg dksX0_byZones_1 23 rfl rfl
theorem dksX0_byZones_3 : cX0_byZones.data.toList.drop 69 = dktX0_byZones_3 := dk_seg dksX0_byZones_2 23 rfl rfl
theorem dksX0_byZones_4 : cX0_byZones.data.toList.drop 92 = dktX0_byZones_4 := dk_seg dksX0_byZones_3 23 rfl rfl
theorem dX0_byZones_0 : decode cX0_byZones 0 = .ok (.iconst 0, 1) := dk_3 (dk_at dksX0_byZones_0 0 rfl rfl)
theorem dX0_byZones_1 : decode cX0_byZones 1 = .ok (.istore_n 3, 1) := dk_62 (dk_at dksX0_byZones_0 1 rfl rfl)
theorem dX0_byZones_2 : decode cX0_byZones 2 = .ok (.iconst 0, 1) := dk_3 (dk_at dksX0_byZones_0 2 rfl rfl)
theorem dX0_byZones_3 : decode cX0_byZones 3 = .ok (.istore 4, 2) := dk_54 4 (dk_at dksX0_byZones_0 3 rfl rfl)
theorem dX0_byZones_5 : decode cX0_byZones 5 = .ok (.iload 4, 2) := dk_21 4 (dk_at dksX0_byZones_0 5 rfl rfl)
theorem dX0_byZones_7 : decode cX0_byZones 7 = .ok (.iconst 4, 1) := dk_7 (dk_at dksX0_byZones_0 7 rfl rfl)
theorem dX0_byZones_8 : decode cX0_byZones 8 = .ok (.if_icmp .ge 100, 3) := dk_162 0 100 (dk_at dksX0_byZones_0 8 rfl rfl)
theorem dX0_byZones_11 : decode cX0_byZones 11 = .ok (.iconst 0, 1) := dk_3 (dk_at dksX0_byZones_0 11 rfl rfl)
theorem dX0_byZones_12 : decode cX0_byZones 12 = .ok (.istore 5, 2) := dk_54 5 (dk_at dksX0_byZones_0 12 rfl rfl)
theorem dX0_byZones_14 : decode cX0_byZones 14 = .ok (.iconst 0, 1) := dk_3 (dk_at dksX0_byZones_0 14 rfl rfl)
theorem dX0_byZones_15 : decode cX0_byZones 15 = .ok (.istore 6, 2) := dk_54 6 (dk_at dksX0_byZones_0 15 rfl rfl)
theorem dX0_byZones_17 : decode cX0_byZones 17 = .ok (.iload 6, 2) := dk_21 6 (dk_at dksX0_byZones_0 17 rfl rfl)
theorem dX0_byZones_19 : decode cX0_byZones 19 = .ok (.aload_n 0, 1) := dk_42 (dk_at dksX0_byZones_0 19 rfl rfl)
theorem dX0_byZones_20 : decode cX0_byZones 20 = .ok (.getfield 156, 3) := dk_180 0 156 (dk_at dksX0_byZones_0 20 rfl rfl)
theorem dX0_byZones_23 : decode cX0_byZones 23 = .ok (.if_icmp .ge 72, 3) := dk_162 0 72 (dk_at dksX0_byZones_1 0 rfl rfl)
theorem dX0_byZones_26 : decode cX0_byZones 26 = .ok (.iload 5, 2) := dk_21 5 (dk_at dksX0_byZones_1 3 rfl rfl)
theorem dX0_byZones_28 : decode cX0_byZones 28 = .ok (.aload_n 0, 1) := dk_42 (dk_at dksX0_byZones_1 5 rfl rfl)
theorem dX0_byZones_29 : decode cX0_byZones 29 = .ok (.getfield 117, 3) := dk_180 0 117 (dk_at dksX0_byZones_1 6 rfl rfl)
theorem dX0_byZones_32 : decode cX0_byZones 32 = .ok (.iload 6, 2) := dk_21 6 (dk_at dksX0_byZones_1 9 rfl rfl)
theorem dX0_byZones_34 : decode cX0_byZones 34 = .ok (.iaload, 1) := dk_46 (dk_at dksX0_byZones_1 11 rfl rfl)
theorem dX0_byZones_35 : decode cX0_byZones 35 = .ok (.iload_n 1, 1) := dk_27 (dk_at dksX0_byZones_1 12 rfl rfl)
theorem dX0_byZones_36 : decode cX0_byZones 36 = .ok (.if_icmp .ne 49, 3) := dk_160 0 49 (dk_at dksX0_byZones_1 13 rfl rfl)
theorem dX0_byZones_39 : decode cX0_byZones 39 = .ok (.aload_n 0, 1) := dk_42 (dk_at dksX0_byZones_1 16 rfl rfl)
theorem dX0_byZones_40 : decode cX0_byZones 40 = .ok (.getfield 57, 3) := dk_180 0 57 (dk_at dksX0_byZones_1 17 rfl rfl)
theorem dX0_byZones_43 : decode cX0_byZones 43 = .ok (.iload 6, 2) := dk_21 6 (dk_at dksX0_byZones_1 20 rfl rfl)
theorem dX0_byZones_45 : decode cX0_byZones 45 = .ok (.aaload, 1) := dk_50 (dk_at dksX0_byZones_1 22 rfl rfl)
theorem dX0_byZones_46 : decode cX0_byZones 46 = .ok (.getfield 278, 3) := dk_180 1 22 (dk_at dksX0_byZones_2 0 rfl rfl)
theorem dX0_byZones_49 : decode cX0_byZones 49 = .ok (.iconst 1, 1) := dk_4 (dk_at dksX0_byZones_2 3 rfl rfl)
theorem dX0_byZones_50 : decode cX0_byZones 50 = .ok (.if_icmp .ne 7, 3) := dk_160 0 7 (dk_at dksX0_byZones_2 4 rfl rfl)
theorem dX0_byZones_53 : decode cX0_byZones 53 = .ok (.iconst 1, 1) := dk_4 (dk_at dksX0_byZones_2 7 rfl rfl)
theorem dX0_byZones_54 : decode cX0_byZones 54 = .ok (.goto 4, 3) := dk_167 0 4 (dk_at dksX0_byZones_2 8 rfl rfl)
theorem dX0_byZones_57 : decode cX0_byZones 57 = .ok (.iconst 0, 1) := dk_3 (dk_at dksX0_byZones_2 11 rfl rfl)
theorem dX0_byZones_58 : decode cX0_byZones 58 = .ok (.iload_n 2, 1) := dk_28 (dk_at dksX0_byZones_2 12 rfl rfl)
theorem dX0_byZones_59 : decode cX0_byZones 59 = .ok (.if_icmp .ne 26, 3) := dk_160 0 26 (dk_at dksX0_byZones_2 13 rfl rfl)
theorem dX0_byZones_62 : decode cX0_byZones 62 = .ok (.aload_n 0, 1) := dk_42 (dk_at dksX0_byZones_2 16 rfl rfl)
theorem dX0_byZones_63 : decode cX0_byZones 63 = .ok (.getfield 57, 3) := dk_180 0 57 (dk_at dksX0_byZones_2 17 rfl rfl)
theorem dX0_byZones_66 : decode cX0_byZones 66 = .ok (.iload 6, 2) := dk_21 6 (dk_at dksX0_byZones_2 20 rfl rfl)
theorem dX0_byZones_68 : decode cX0_byZones 68 = .ok (.aaload, 1) := dk_50 (dk_at dksX0_byZones_2 22 rfl rfl)
theorem dX0_byZones_69 : decode cX0_byZones 69 = .ok (.getfield 281, 3) := dk_180 1 25 (dk_at dksX0_byZones_3 0 rfl rfl)
theorem dX0_byZones_72 : decode cX0_byZones 72 = .ok (.iload 4, 2) := dk_21 4 (dk_at dksX0_byZones_3 3 rfl rfl)
theorem dX0_byZones_74 : decode cX0_byZones 74 = .ok (.ishr, 1) := dk_122 (dk_at dksX0_byZones_3 5 rfl rfl)
theorem dX0_byZones_75 : decode cX0_byZones 75 = .ok (.iconst 1, 1) := dk_4 (dk_at dksX0_byZones_3 6 rfl rfl)
theorem dX0_byZones_76 : decode cX0_byZones 76 = .ok (.iand, 1) := dk_126 (dk_at dksX0_byZones_3 7 rfl rfl)
theorem dX0_byZones_77 : decode cX0_byZones 77 = .ok (.iconst 1, 1) := dk_4 (dk_at dksX0_byZones_3 8 rfl rfl)
theorem dX0_byZones_78 : decode cX0_byZones 78 = .ok (.if_icmp .ne 7, 3) := dk_160 0 7 (dk_at dksX0_byZones_3 9 rfl rfl)
theorem dX0_byZones_81 : decode cX0_byZones 81 = .ok (.iconst 1, 1) := dk_4 (dk_at dksX0_byZones_3 12 rfl rfl)
theorem dX0_byZones_82 : decode cX0_byZones 82 = .ok (.goto 4, 3) := dk_167 0 4 (dk_at dksX0_byZones_3 13 rfl rfl)
theorem dX0_byZones_85 : decode cX0_byZones 85 = .ok (.iconst 0, 1) := dk_3 (dk_at dksX0_byZones_3 16 rfl rfl)
theorem dX0_byZones_86 : decode cX0_byZones 86 = .ok (.iadd, 1) := dk_96 (dk_at dksX0_byZones_3 17 rfl rfl)
theorem dX0_byZones_87 : decode cX0_byZones 87 = .ok (.istore 5, 2) := dk_54 5 (dk_at dksX0_byZones_3 18 rfl rfl)
theorem dX0_byZones_89 : decode cX0_byZones 89 = .ok (.iinc 6 1, 3) := dk_132 6 1 (dk_at dksX0_byZones_3 20 rfl rfl)
theorem dX0_byZones_92 : decode cX0_byZones 92 = .ok (.goto (-75), 3) := dk_167 255 181 (dk_at dksX0_byZones_4 0 rfl rfl)
theorem dX0_byZones_95 : decode cX0_byZones 95 = .ok (.iload_n 3, 1) := dk_29 (dk_at dksX0_byZones_4 3 rfl rfl)
theorem dX0_byZones_96 : decode cX0_byZones 96 = .ok (.iload 5, 2) := dk_21 5 (dk_at dksX0_byZones_4 4 rfl rfl)
theorem dX0_byZones_98 : decode cX0_byZones 98 = .ok (.invokestatic 203, 3) := dk_184 0 203 (dk_at dksX0_byZones_4 6 rfl rfl)
theorem dX0_byZones_101 : decode cX0_byZones 101 = .ok (.istore_n 3, 1) := dk_62 (dk_at dksX0_byZones_4 9 rfl rfl)
theorem dX0_byZones_102 : decode cX0_byZones 102 = .ok (.iinc 4 1, 3) := dk_132 4 1 (dk_at dksX0_byZones_4 10 rfl rfl)
theorem dX0_byZones_105 : decode cX0_byZones 105 = .ok (.goto (-100), 3) := dk_167 255 156 (dk_at dksX0_byZones_4 13 rfl rfl)
theorem dX0_byZones_108 : decode cX0_byZones 108 = .ok (.iload_n 3, 1) := dk_29 (dk_at dksX0_byZones_4 16 rfl rfl)
theorem dX0_byZones_109 : decode cX0_byZones 109 = .ok (.ireturn, 1) := dk_172 (dk_at dksX0_byZones_4 17 rfl rfl)
abbrev cX0_allByPairs : ByteArray := prog_1_method_45_code
def yX0_allByPairs : MethodName := ⟨RX0, "allByPairs", "()I"⟩
def dkwX0_allByPairs_1 : List UInt8 := [132, 2, 1, 167, 255, 235, 27, 172]
abbrev dktX0_allByPairs_1 : List UInt8 := dkwX0_allByPairs_1 ++ []
def dkwX0_allByPairs_0 : List UInt8 := [3, 60, 3, 61, 28, 42, 180, 0, 150, 162, 0, 19, 27, 42, 28, 182, 1, 62, 184, 0, 203, 60]
abbrev dktX0_allByPairs_0 : List UInt8 := dkwX0_allByPairs_0 ++ dktX0_allByPairs_1
theorem dksX0_allByPairs_0 : cX0_allByPairs.data.toList.drop 0 = dktX0_allByPairs_0 := by decide +kernel
theorem dksX0_allByPairs_1 : cX0_allByPairs.data.toList.drop 22 = dktX0_allByPairs_1 := dk_seg dksX0_allByPairs_0 22 rfl rfl
theorem dX0_allByPairs_0 : decode cX0_allByPairs 0 = .ok (.iconst 0, 1) := dk_3 (dk_at dksX0_allByPairs_0 0 rfl rfl)
theorem dX0_allByPairs_1 : decode cX0_allByPairs 1 = .ok (.istore_n 1, 1) := dk_60 (dk_at dksX0_allByPairs_0 1 rfl rfl)
theorem dX0_allByPairs_2 : decode cX0_allByPairs 2 = .ok (.iconst 0, 1) := dk_3 (dk_at dksX0_allByPairs_0 2 rfl rfl)
theorem dX0_allByPairs_3 : decode cX0_allByPairs 3 = .ok (.istore_n 2, 1) := dk_61 (dk_at dksX0_allByPairs_0 3 rfl rfl)
theorem dX0_allByPairs_4 : decode cX0_allByPairs 4 = .ok (.iload_n 2, 1) := dk_28 (dk_at dksX0_allByPairs_0 4 rfl rfl)
theorem dX0_allByPairs_5 : decode cX0_allByPairs 5 = .ok (.aload_n 0, 1) := dk_42 (dk_at dksX0_allByPairs_0 5 rfl rfl)
theorem dX0_allByPairs_6 : decode cX0_allByPairs 6 = .ok (.getfield 150, 3) := dk_180 0 150 (dk_at dksX0_allByPairs_0 6 rfl rfl)
theorem dX0_allByPairs_9 : decode cX0_allByPairs 9 = .ok (.if_icmp .ge 19, 3) := dk_162 0 19 (dk_at dksX0_allByPairs_0 9 rfl rfl)
theorem dX0_allByPairs_12 : decode cX0_allByPairs 12 = .ok (.iload_n 1, 1) := dk_27 (dk_at dksX0_allByPairs_0 12 rfl rfl)
theorem dX0_allByPairs_13 : decode cX0_allByPairs 13 = .ok (.aload_n 0, 1) := dk_42 (dk_at dksX0_allByPairs_0 13 rfl rfl)
theorem dX0_allByPairs_14 : decode cX0_allByPairs 14 = .ok (.iload_n 2, 1) := dk_28 (dk_at dksX0_allByPairs_0 14 rfl rfl)
theorem dX0_allByPairs_15 : decode cX0_allByPairs 15 = .ok (.invokevirtual 318, 3) := dk_182 1 62 (dk_at dksX0_allByPairs_0 15 rfl rfl)
theorem dX0_allByPairs_18 : decode cX0_allByPairs 18 = .ok (.invokestatic 203, 3) := dk_184 0 203 (dk_at dksX0_allByPairs_0 18 rfl rfl)
theorem dX0_allByPairs_21 : decode cX0_allByPairs 21 = .ok (.istore_n 1, 1) := dk_60 (dk_at dksX0_allByPairs_0 21 rfl rfl)
theorem dX0_allByPairs_22 : decode cX0_allByPairs 22 = .ok (.iinc 2 1, 3) := dk_132 2 1 (dk_at dksX0_allByPairs_1 0 rfl rfl)
theorem dX0_allByPairs_25 : decode cX0_allByPairs 25 = .ok (.goto (-21), 3) := dk_167 255 235 (dk_at dksX0_allByPairs_1 3 rfl rfl)
theorem dX0_allByPairs_28 : decode cX0_allByPairs 28 = .ok (.iload_n 1, 1) := dk_27 (dk_at dksX0_allByPairs_1 6 rfl rfl)
theorem dX0_allByPairs_29 : decode cX0_allByPairs 29 = .ok (.ireturn, 1) := dk_172 (dk_at dksX0_allByPairs_1 7 rfl rfl)
abbrev cX0_beastsByPairs : ByteArray := prog_1_method_44_code
def yX0_beastsByPairs : MethodName := ⟨RX0, "beastsByPairs", "(I)I"⟩
def dkwX0_beastsByPairs_3 : List UInt8 := [182, 1, 60, 100, 172]
abbrev dktX0_beastsByPairs_3 : List UInt8 := dkwX0_beastsByPairs_3 ++ []
def dkwX0_beastsByPairs_2 : List UInt8 := [180, 1, 22, 4, 163, 0, 7, 4, 167, 0, 4, 3, 96, 61, 132, 3, 1, 167, 255, 214, 28, 42, 27]
abbrev dktX0_beastsByPairs_2 : List UInt8 := dkwX0_beastsByPairs_2 ++ dktX0_beastsByPairs_3
def dkwX0_beastsByPairs_1 : List UInt8 := [180, 0, 156, 162, 0, 40, 28, 42, 180, 0, 117, 29, 46, 27, 160, 0, 20, 42, 180, 0, 57, 29, 50]
abbrev dktX0_beastsByPairs_1 : List UInt8 := dkwX0_beastsByPairs_1 ++ dktX0_beastsByPairs_2
def dkwX0_beastsByPairs_0 : List UInt8 := [42, 180, 0, 51, 27, 50, 182, 1, 54, 154, 0, 9, 42, 27, 182, 1, 57, 172, 3, 61, 3, 62, 29, 42]
abbrev dktX0_beastsByPairs_0 : List UInt8 := dkwX0_beastsByPairs_0 ++ dktX0_beastsByPairs_1
theorem dksX0_beastsByPairs_0 : cX0_beastsByPairs.data.toList.drop 0 = dktX0_beastsByPairs_0 := by decide +kernel
theorem dksX0_beastsByPairs_1 : cX0_beastsByPairs.data.toList.drop 24 = dktX0_beastsByPairs_1 := dk_seg dksX0_beastsByPairs_0 24 rfl rfl
theorem dksX0_beastsByPairs_2 : cX0_beastsByPairs.data.toList.drop 47 = dktX0_beastsByPairs_2 := dk_seg dksX0_beastsByPairs_1 23 rfl rfl
theorem dksX0_beastsByPairs_3 : cX0_beastsByPairs.data.toList.drop 70 = dktX0_beastsByPairs_3 := dk_seg dksX0_beastsByPairs_2 23 rfl rfl
theorem dX0_beastsByPairs_0 : decode cX0_beastsByPairs 0 = .ok (.aload_n 0, 1) := dk_42 (dk_at dksX0_beastsByPairs_0 0 rfl rfl)
theorem dX0_beastsByPairs_1 : decode cX0_beastsByPairs 1 = .ok (.getfield 51, 3) := dk_180 0 51 (dk_at dksX0_beastsByPairs_0 1 rfl rfl)
theorem dX0_beastsByPairs_4 : decode cX0_beastsByPairs 4 = .ok (.iload_n 1, 1) := dk_27 (dk_at dksX0_beastsByPairs_0 4 rfl rfl)
theorem dX0_beastsByPairs_5 : decode cX0_beastsByPairs 5 = .ok (.aaload, 1) := dk_50 (dk_at dksX0_beastsByPairs_0 5 rfl rfl)
theorem dX0_beastsByPairs_6 : decode cX0_beastsByPairs 6 = .ok (.invokevirtual 310, 3) := dk_182 1 54 (dk_at dksX0_beastsByPairs_0 6 rfl rfl)
theorem dX0_beastsByPairs_9 : decode cX0_beastsByPairs 9 = .ok (.ifCond .ne 9, 3) := dk_154 0 9 (dk_at dksX0_beastsByPairs_0 9 rfl rfl)
theorem dX0_beastsByPairs_12 : decode cX0_beastsByPairs 12 = .ok (.aload_n 0, 1) := dk_42 (dk_at dksX0_beastsByPairs_0 12 rfl rfl)
theorem dX0_beastsByPairs_13 : decode cX0_beastsByPairs 13 = .ok (.iload_n 1, 1) := dk_27 (dk_at dksX0_beastsByPairs_0 13 rfl rfl)
theorem dX0_beastsByPairs_14 : decode cX0_beastsByPairs 14 = .ok (.invokevirtual 313, 3) := dk_182 1 57 (dk_at dksX0_beastsByPairs_0 14 rfl rfl)
theorem dX0_beastsByPairs_17 : decode cX0_beastsByPairs 17 = .ok (.ireturn, 1) := dk_172 (dk_at dksX0_beastsByPairs_0 17 rfl rfl)
theorem dX0_beastsByPairs_18 : decode cX0_beastsByPairs 18 = .ok (.iconst 0, 1) := dk_3 (dk_at dksX0_beastsByPairs_0 18 rfl rfl)
theorem dX0_beastsByPairs_19 : decode cX0_beastsByPairs 19 = .ok (.istore_n 2, 1) := dk_61 (dk_at dksX0_beastsByPairs_0 19 rfl rfl)
theorem dX0_beastsByPairs_20 : decode cX0_beastsByPairs 20 = .ok (.iconst 0, 1) := dk_3 (dk_at dksX0_beastsByPairs_0 20 rfl rfl)
theorem dX0_beastsByPairs_21 : decode cX0_beastsByPairs 21 = .ok (.istore_n 3, 1) := dk_62 (dk_at dksX0_beastsByPairs_0 21 rfl rfl)
theorem dX0_beastsByPairs_22 : decode cX0_beastsByPairs 22 = .ok (.iload_n 3, 1) := dk_29 (dk_at dksX0_beastsByPairs_0 22 rfl rfl)
theorem dX0_beastsByPairs_23 : decode cX0_beastsByPairs 23 = .ok (.aload_n 0, 1) := dk_42 (dk_at dksX0_beastsByPairs_0 23 rfl rfl)
theorem dX0_beastsByPairs_24 : decode cX0_beastsByPairs 24 = .ok (.getfield 156, 3) := dk_180 0 156 (dk_at dksX0_beastsByPairs_1 0 rfl rfl)
theorem dX0_beastsByPairs_27 : decode cX0_beastsByPairs 27 = .ok (.if_icmp .ge 40, 3) := dk_162 0 40 (dk_at dksX0_beastsByPairs_1 3 rfl rfl)
theorem dX0_beastsByPairs_30 : decode cX0_beastsByPairs 30 = .ok (.iload_n 2, 1) := dk_28 (dk_at dksX0_beastsByPairs_1 6 rfl rfl)
theorem dX0_beastsByPairs_31 : decode cX0_beastsByPairs 31 = .ok (.aload_n 0, 1) := dk_42 (dk_at dksX0_beastsByPairs_1 7 rfl rfl)
theorem dX0_beastsByPairs_32 : decode cX0_beastsByPairs 32 = .ok (.getfield 117, 3) := dk_180 0 117 (dk_at dksX0_beastsByPairs_1 8 rfl rfl)
theorem dX0_beastsByPairs_35 : decode cX0_beastsByPairs 35 = .ok (.iload_n 3, 1) := dk_29 (dk_at dksX0_beastsByPairs_1 11 rfl rfl)
theorem dX0_beastsByPairs_36 : decode cX0_beastsByPairs 36 = .ok (.iaload, 1) := dk_46 (dk_at dksX0_beastsByPairs_1 12 rfl rfl)
theorem dX0_beastsByPairs_37 : decode cX0_beastsByPairs 37 = .ok (.iload_n 1, 1) := dk_27 (dk_at dksX0_beastsByPairs_1 13 rfl rfl)
theorem dX0_beastsByPairs_38 : decode cX0_beastsByPairs 38 = .ok (.if_icmp .ne 20, 3) := dk_160 0 20 (dk_at dksX0_beastsByPairs_1 14 rfl rfl)
theorem dX0_beastsByPairs_41 : decode cX0_beastsByPairs 41 = .ok (.aload_n 0, 1) := dk_42 (dk_at dksX0_beastsByPairs_1 17 rfl rfl)
theorem dX0_beastsByPairs_42 : decode cX0_beastsByPairs 42 = .ok (.getfield 57, 3) := dk_180 0 57 (dk_at dksX0_beastsByPairs_1 18 rfl rfl)
theorem dX0_beastsByPairs_45 : decode cX0_beastsByPairs 45 = .ok (.iload_n 3, 1) := dk_29 (dk_at dksX0_beastsByPairs_1 21 rfl rfl)
theorem dX0_beastsByPairs_46 : decode cX0_beastsByPairs 46 = .ok (.aaload, 1) := dk_50 (dk_at dksX0_beastsByPairs_1 22 rfl rfl)
theorem dX0_beastsByPairs_47 : decode cX0_beastsByPairs 47 = .ok (.getfield 278, 3) := dk_180 1 22 (dk_at dksX0_beastsByPairs_2 0 rfl rfl)
theorem dX0_beastsByPairs_50 : decode cX0_beastsByPairs 50 = .ok (.iconst 1, 1) := dk_4 (dk_at dksX0_beastsByPairs_2 3 rfl rfl)
theorem dX0_beastsByPairs_51 : decode cX0_beastsByPairs 51 = .ok (.if_icmp .gt 7, 3) := dk_163 0 7 (dk_at dksX0_beastsByPairs_2 4 rfl rfl)
theorem dX0_beastsByPairs_54 : decode cX0_beastsByPairs 54 = .ok (.iconst 1, 1) := dk_4 (dk_at dksX0_beastsByPairs_2 7 rfl rfl)
theorem dX0_beastsByPairs_55 : decode cX0_beastsByPairs 55 = .ok (.goto 4, 3) := dk_167 0 4 (dk_at dksX0_beastsByPairs_2 8 rfl rfl)
theorem dX0_beastsByPairs_58 : decode cX0_beastsByPairs 58 = .ok (.iconst 0, 1) := dk_3 (dk_at dksX0_beastsByPairs_2 11 rfl rfl)
theorem dX0_beastsByPairs_59 : decode cX0_beastsByPairs 59 = .ok (.iadd, 1) := dk_96 (dk_at dksX0_beastsByPairs_2 12 rfl rfl)
theorem dX0_beastsByPairs_60 : decode cX0_beastsByPairs 60 = .ok (.istore_n 2, 1) := dk_61 (dk_at dksX0_beastsByPairs_2 13 rfl rfl)
theorem dX0_beastsByPairs_61 : decode cX0_beastsByPairs 61 = .ok (.iinc 3 1, 3) := dk_132 3 1 (dk_at dksX0_beastsByPairs_2 14 rfl rfl)
theorem dX0_beastsByPairs_64 : decode cX0_beastsByPairs 64 = .ok (.goto (-42), 3) := dk_167 255 214 (dk_at dksX0_beastsByPairs_2 17 rfl rfl)
theorem dX0_beastsByPairs_67 : decode cX0_beastsByPairs 67 = .ok (.iload_n 2, 1) := dk_28 (dk_at dksX0_beastsByPairs_2 20 rfl rfl)
theorem dX0_beastsByPairs_68 : decode cX0_beastsByPairs 68 = .ok (.aload_n 0, 1) := dk_42 (dk_at dksX0_beastsByPairs_2 21 rfl rfl)
theorem dX0_beastsByPairs_69 : decode cX0_beastsByPairs 69 = .ok (.iload_n 1, 1) := dk_27 (dk_at dksX0_beastsByPairs_2 22 rfl rfl)
theorem dX0_beastsByPairs_70 : decode cX0_beastsByPairs 70 = .ok (.invokevirtual 316, 3) := dk_182 1 60 (dk_at dksX0_beastsByPairs_3 0 rfl rfl)
theorem dX0_beastsByPairs_73 : decode cX0_beastsByPairs 73 = .ok (.isub, 1) := dk_100 (dk_at dksX0_beastsByPairs_3 3 rfl rfl)
theorem dX0_beastsByPairs_74 : decode cX0_beastsByPairs 74 = .ok (.ireturn, 1) := dk_172 (dk_at dksX0_beastsByPairs_3 4 rfl rfl)
abbrev cX0_pairs : ByteArray := prog_1_method_43_code
def yX0_pairs : MethodName := ⟨RX0, "pairs", "(I)I"⟩
def dkwX0_pairs_3 : List UInt8 := [167, 0, 4, 3, 96, 61, 132, 3, 1, 167, 255, 181, 28, 172]
abbrev dktX0_pairs_3 : List UInt8 := dkwX0_pairs_3 ++ []
def dkwX0_pairs_2 : List UInt8 := [167, 0, 30, 42, 89, 180, 1, 45, 4, 96, 181, 1, 45, 28, 42, 27, 29, 182, 1, 51, 153, 0, 7, 4]
abbrev dktX0_pairs_2 : List UInt8 := dkwX0_pairs_2 ++ dktX0_pairs_3
def dkwX0_pairs_1 : List UInt8 := [42, 180, 0, 117, 29, 46, 27, 160, 0, 45, 42, 180, 0, 57, 29, 50, 180, 1, 22, 153, 0, 6]
abbrev dktX0_pairs_1 : List UInt8 := dkwX0_pairs_1 ++ dktX0_pairs_2
def dkwX0_pairs_0 : List UInt8 := [3, 61, 3, 62, 29, 42, 180, 0, 156, 162, 0, 73, 42, 180, 0, 51, 27, 50, 182, 1, 54, 153, 0, 61]
abbrev dktX0_pairs_0 : List UInt8 := dkwX0_pairs_0 ++ dktX0_pairs_1
theorem dksX0_pairs_0 : cX0_pairs.data.toList.drop 0 = dktX0_pairs_0 := by decide +kernel
theorem dksX0_pairs_1 : cX0_pairs.data.toList.drop 24 = dktX0_pairs_1 := dk_seg dksX0_pairs_0 24 rfl rfl
theorem dksX0_pairs_2 : cX0_pairs.data.toList.drop 46 = dktX0_pairs_2 := dk_seg dksX0_pairs_1 22 rfl rfl
theorem dksX0_pairs_3 : cX0_pairs.data.toList.drop 70 = dktX0_pairs_3 := dk_seg dksX0_pairs_2 24 rfl rfl
theorem dX0_pairs_0 : decode cX0_pairs 0 = .ok (.iconst 0, 1) := dk_3 (dk_at dksX0_pairs_0 0 rfl rfl)
theorem dX0_pairs_1 : decode cX0_pairs 1 = .ok (.istore_n 2, 1) := dk_61 (dk_at dksX0_pairs_0 1 rfl rfl)
theorem dX0_pairs_2 : decode cX0_pairs 2 = .ok (.iconst 0, 1) := dk_3 (dk_at dksX0_pairs_0 2 rfl rfl)
theorem dX0_pairs_3 : decode cX0_pairs 3 = .ok (.istore_n 3, 1) := dk_62 (dk_at dksX0_pairs_0 3 rfl rfl)
theorem dX0_pairs_4 : decode cX0_pairs 4 = .ok (.iload_n 3, 1) := dk_29 (dk_at dksX0_pairs_0 4 rfl rfl)
theorem dX0_pairs_5 : decode cX0_pairs 5 = .ok (.aload_n 0, 1) := dk_42 (dk_at dksX0_pairs_0 5 rfl rfl)
theorem dX0_pairs_6 : decode cX0_pairs 6 = .ok (.getfield 156, 3) := dk_180 0 156 (dk_at dksX0_pairs_0 6 rfl rfl)
theorem dX0_pairs_9 : decode cX0_pairs 9 = .ok (.if_icmp .ge 73, 3) := dk_162 0 73 (dk_at dksX0_pairs_0 9 rfl rfl)
theorem dX0_pairs_12 : decode cX0_pairs 12 = .ok (.aload_n 0, 1) := dk_42 (dk_at dksX0_pairs_0 12 rfl rfl)
theorem dX0_pairs_13 : decode cX0_pairs 13 = .ok (.getfield 51, 3) := dk_180 0 51 (dk_at dksX0_pairs_0 13 rfl rfl)
theorem dX0_pairs_16 : decode cX0_pairs 16 = .ok (.iload_n 1, 1) := dk_27 (dk_at dksX0_pairs_0 16 rfl rfl)
theorem dX0_pairs_17 : decode cX0_pairs 17 = .ok (.aaload, 1) := dk_50 (dk_at dksX0_pairs_0 17 rfl rfl)
theorem dX0_pairs_18 : decode cX0_pairs 18 = .ok (.invokevirtual 310, 3) := dk_182 1 54 (dk_at dksX0_pairs_0 18 rfl rfl)
theorem dX0_pairs_21 : decode cX0_pairs 21 = .ok (.ifCond .eq 61, 3) := dk_153 0 61 (dk_at dksX0_pairs_0 21 rfl rfl)
theorem dX0_pairs_24 : decode cX0_pairs 24 = .ok (.aload_n 0, 1) := dk_42 (dk_at dksX0_pairs_1 0 rfl rfl)
theorem dX0_pairs_25 : decode cX0_pairs 25 = .ok (.getfield 117, 3) := dk_180 0 117 (dk_at dksX0_pairs_1 1 rfl rfl)
theorem dX0_pairs_28 : decode cX0_pairs 28 = .ok (.iload_n 3, 1) := dk_29 (dk_at dksX0_pairs_1 4 rfl rfl)
theorem dX0_pairs_29 : decode cX0_pairs 29 = .ok (.iaload, 1) := dk_46 (dk_at dksX0_pairs_1 5 rfl rfl)
theorem dX0_pairs_30 : decode cX0_pairs 30 = .ok (.iload_n 1, 1) := dk_27 (dk_at dksX0_pairs_1 6 rfl rfl)
theorem dX0_pairs_31 : decode cX0_pairs 31 = .ok (.if_icmp .ne 45, 3) := dk_160 0 45 (dk_at dksX0_pairs_1 7 rfl rfl)
theorem dX0_pairs_34 : decode cX0_pairs 34 = .ok (.aload_n 0, 1) := dk_42 (dk_at dksX0_pairs_1 10 rfl rfl)
theorem dX0_pairs_35 : decode cX0_pairs 35 = .ok (.getfield 57, 3) := dk_180 0 57 (dk_at dksX0_pairs_1 11 rfl rfl)
theorem dX0_pairs_38 : decode cX0_pairs 38 = .ok (.iload_n 3, 1) := dk_29 (dk_at dksX0_pairs_1 14 rfl rfl)
theorem dX0_pairs_39 : decode cX0_pairs 39 = .ok (.aaload, 1) := dk_50 (dk_at dksX0_pairs_1 15 rfl rfl)
theorem dX0_pairs_40 : decode cX0_pairs 40 = .ok (.getfield 278, 3) := dk_180 1 22 (dk_at dksX0_pairs_1 16 rfl rfl)
theorem dX0_pairs_43 : decode cX0_pairs 43 = .ok (.ifCond .eq 6, 3) := dk_153 0 6 (dk_at dksX0_pairs_1 19 rfl rfl)
theorem dX0_pairs_46 : decode cX0_pairs 46 = .ok (.goto 30, 3) := dk_167 0 30 (dk_at dksX0_pairs_2 0 rfl rfl)
theorem dX0_pairs_49 : decode cX0_pairs 49 = .ok (.aload_n 0, 1) := dk_42 (dk_at dksX0_pairs_2 3 rfl rfl)
theorem dX0_pairs_50 : decode cX0_pairs 50 = .ok (.dup, 1) := dk_89 (dk_at dksX0_pairs_2 4 rfl rfl)
theorem dX0_pairs_51 : decode cX0_pairs 51 = .ok (.getfield 301, 3) := dk_180 1 45 (dk_at dksX0_pairs_2 5 rfl rfl)
theorem dX0_pairs_54 : decode cX0_pairs 54 = .ok (.iconst 1, 1) := dk_4 (dk_at dksX0_pairs_2 8 rfl rfl)
theorem dX0_pairs_55 : decode cX0_pairs 55 = .ok (.iadd, 1) := dk_96 (dk_at dksX0_pairs_2 9 rfl rfl)
theorem dX0_pairs_56 : decode cX0_pairs 56 = .ok (.putfield 301, 3) := dk_181 1 45 (dk_at dksX0_pairs_2 10 rfl rfl)
theorem dX0_pairs_59 : decode cX0_pairs 59 = .ok (.iload_n 2, 1) := dk_28 (dk_at dksX0_pairs_2 13 rfl rfl)
theorem dX0_pairs_60 : decode cX0_pairs 60 = .ok (.aload_n 0, 1) := dk_42 (dk_at dksX0_pairs_2 14 rfl rfl)
theorem dX0_pairs_61 : decode cX0_pairs 61 = .ok (.iload_n 1, 1) := dk_27 (dk_at dksX0_pairs_2 15 rfl rfl)
theorem dX0_pairs_62 : decode cX0_pairs 62 = .ok (.iload_n 3, 1) := dk_29 (dk_at dksX0_pairs_2 16 rfl rfl)
theorem dX0_pairs_63 : decode cX0_pairs 63 = .ok (.invokevirtual 307, 3) := dk_182 1 51 (dk_at dksX0_pairs_2 17 rfl rfl)
theorem dX0_pairs_66 : decode cX0_pairs 66 = .ok (.ifCond .eq 7, 3) := dk_153 0 7 (dk_at dksX0_pairs_2 20 rfl rfl)
theorem dX0_pairs_69 : decode cX0_pairs 69 = .ok (.iconst 1, 1) := dk_4 (dk_at dksX0_pairs_2 23 rfl rfl)
theorem dX0_pairs_70 : decode cX0_pairs 70 = .ok (.goto 4, 3) := dk_167 0 4 (dk_at dksX0_pairs_3 0 rfl rfl)
theorem dX0_pairs_73 : decode cX0_pairs 73 = .ok (.iconst 0, 1) := dk_3 (dk_at dksX0_pairs_3 3 rfl rfl)
theorem dX0_pairs_74 : decode cX0_pairs 74 = .ok (.iadd, 1) := dk_96 (dk_at dksX0_pairs_3 4 rfl rfl)
theorem dX0_pairs_75 : decode cX0_pairs 75 = .ok (.istore_n 2, 1) := dk_61 (dk_at dksX0_pairs_3 5 rfl rfl)
theorem dX0_pairs_76 : decode cX0_pairs 76 = .ok (.iinc 3 1, 3) := dk_132 3 1 (dk_at dksX0_pairs_3 6 rfl rfl)
theorem dX0_pairs_79 : decode cX0_pairs 79 = .ok (.goto (-75), 3) := dk_167 255 181 (dk_at dksX0_pairs_3 9 rfl rfl)
theorem dX0_pairs_82 : decode cX0_pairs 82 = .ok (.iload_n 2, 1) := dk_28 (dk_at dksX0_pairs_3 12 rfl rfl)
theorem dX0_pairs_83 : decode cX0_pairs 83 = .ok (.ireturn, 1) := dk_172 (dk_at dksX0_pairs_3 13 rfl rfl)
abbrev cX0_finds : ByteArray := prog_1_method_42_code
def yX0_finds : MethodName := ⟨RX0, "finds", "(II)Z"⟩
def dkwX0_finds_4 : List UInt8 := [180, 0, 120, 29, 28, 79, 42, 180, 0, 120, 28, 29, 79, 4, 172, 132, 3, 1, 167, 255, 144, 3, 172]
abbrev dktX0_finds_4 : List UInt8 := dkwX0_finds_4 ++ []
def dkwX0_finds_3 : List UInt8 := [29, 46, 2, 159, 0, 20, 42, 27, 42, 180, 0, 120, 29, 46, 182, 1, 51, 154, 0, 6, 167, 0, 19, 42]
abbrev dktX0_finds_3 : List UInt8 := dkwX0_finds_3 ++ dktX0_finds_4
def dkwX0_finds_2 : List UInt8 := [29, 182, 1, 48, 154, 0, 6, 167, 0, 56, 42, 180, 0, 126, 29, 42, 180, 1, 45, 79, 42, 180, 0, 120]
abbrev dktX0_finds_2 : List UInt8 := dkwX0_finds_2 ++ dktX0_finds_3
def dkwX0_finds_1 : List UInt8 := [29, 50, 180, 1, 22, 4, 160, 0, 81, 42, 180, 0, 126, 29, 46, 42, 180, 1, 45, 159, 0, 68, 42, 28]
abbrev dktX0_finds_1 : List UInt8 := dkwX0_finds_1 ++ dktX0_finds_2
def dkwX0_finds_0 : List UInt8 := [3, 62, 29, 42, 180, 0, 156, 162, 0, 110, 42, 180, 0, 117, 29, 46, 27, 160, 0, 94, 42, 180, 0, 57]
abbrev dktX0_finds_0 : List UInt8 := dkwX0_finds_0 ++ dktX0_finds_1
theorem dksX0_finds_0 : cX0_finds.data.toList.drop 0 = dktX0_finds_0 := by decide +kernel
theorem dksX0_finds_1 : cX0_finds.data.toList.drop 24 = dktX0_finds_1 := dk_seg dksX0_finds_0 24 rfl rfl
theorem dksX0_finds_2 : cX0_finds.data.toList.drop 48 = dktX0_finds_2 := dk_seg dksX0_finds_1 24 rfl rfl
theorem dksX0_finds_3 : cX0_finds.data.toList.drop 72 = dktX0_finds_3 := dk_seg dksX0_finds_2 24 rfl rfl
theorem dksX0_finds_4 : cX0_finds.data.toList.drop 96 = dktX0_finds_4 := dk_seg dksX0_finds_3 24 rfl rfl
theorem dX0_finds_0 : decode cX0_finds 0 = .ok (.iconst 0, 1) := dk_3 (dk_at dksX0_finds_0 0 rfl rfl)
theorem dX0_finds_1 : decode cX0_finds 1 = .ok (.istore_n 3, 1) := dk_62 (dk_at dksX0_finds_0 1 rfl rfl)
theorem dX0_finds_2 : decode cX0_finds 2 = .ok (.iload_n 3, 1) := dk_29 (dk_at dksX0_finds_0 2 rfl rfl)
theorem dX0_finds_3 : decode cX0_finds 3 = .ok (.aload_n 0, 1) := dk_42 (dk_at dksX0_finds_0 3 rfl rfl)
theorem dX0_finds_4 : decode cX0_finds 4 = .ok (.getfield 156, 3) := dk_180 0 156 (dk_at dksX0_finds_0 4 rfl rfl)
theorem dX0_finds_7 : decode cX0_finds 7 = .ok (.if_icmp .ge 110, 3) := dk_162 0 110 (dk_at dksX0_finds_0 7 rfl rfl)
theorem dX0_finds_10 : decode cX0_finds 10 = .ok (.aload_n 0, 1) := dk_42 (dk_at dksX0_finds_0 10 rfl rfl)
theorem dX0_finds_11 : decode cX0_finds 11 = .ok (.getfield 117, 3) := dk_180 0 117 (dk_at dksX0_finds_0 11 rfl rfl)
theorem dX0_finds_14 : decode cX0_finds 14 = .ok (.iload_n 3, 1) := dk_29 (dk_at dksX0_finds_0 14 rfl rfl)
theorem dX0_finds_15 : decode cX0_finds 15 = .ok (.iaload, 1) := dk_46 (dk_at dksX0_finds_0 15 rfl rfl)
theorem dX0_finds_16 : decode cX0_finds 16 = .ok (.iload_n 1, 1) := dk_27 (dk_at dksX0_finds_0 16 rfl rfl)
theorem dX0_finds_17 : decode cX0_finds 17 = .ok (.if_icmp .ne 94, 3) := dk_160 0 94 (dk_at dksX0_finds_0 17 rfl rfl)
theorem dX0_finds_20 : decode cX0_finds 20 = .ok (.aload_n 0, 1) := dk_42 (dk_at dksX0_finds_0 20 rfl rfl)
theorem dX0_finds_21 : decode cX0_finds 21 = .ok (.getfield 57, 3) := dk_180 0 57 (dk_at dksX0_finds_0 21 rfl rfl)
theorem dX0_finds_24 : decode cX0_finds 24 = .ok (.iload_n 3, 1) := dk_29 (dk_at dksX0_finds_1 0 rfl rfl)
theorem dX0_finds_25 : decode cX0_finds 25 = .ok (.aaload, 1) := dk_50 (dk_at dksX0_finds_1 1 rfl rfl)
theorem dX0_finds_26 : decode cX0_finds 26 = .ok (.getfield 278, 3) := dk_180 1 22 (dk_at dksX0_finds_1 2 rfl rfl)
theorem dX0_finds_29 : decode cX0_finds 29 = .ok (.iconst 1, 1) := dk_4 (dk_at dksX0_finds_1 5 rfl rfl)
theorem dX0_finds_30 : decode cX0_finds 30 = .ok (.if_icmp .ne 81, 3) := dk_160 0 81 (dk_at dksX0_finds_1 6 rfl rfl)
theorem dX0_finds_33 : decode cX0_finds 33 = .ok (.aload_n 0, 1) := dk_42 (dk_at dksX0_finds_1 9 rfl rfl)
theorem dX0_finds_34 : decode cX0_finds 34 = .ok (.getfield 126, 3) := dk_180 0 126 (dk_at dksX0_finds_1 10 rfl rfl)
theorem dX0_finds_37 : decode cX0_finds 37 = .ok (.iload_n 3, 1) := dk_29 (dk_at dksX0_finds_1 13 rfl rfl)
theorem dX0_finds_38 : decode cX0_finds 38 = .ok (.iaload, 1) := dk_46 (dk_at dksX0_finds_1 14 rfl rfl)
theorem dX0_finds_39 : decode cX0_finds 39 = .ok (.aload_n 0, 1) := dk_42 (dk_at dksX0_finds_1 15 rfl rfl)
theorem dX0_finds_40 : decode cX0_finds 40 = .ok (.getfield 301, 3) := dk_180 1 45 (dk_at dksX0_finds_1 16 rfl rfl)
theorem dX0_finds_43 : decode cX0_finds 43 = .ok (.if_icmp .eq 68, 3) := dk_159 0 68 (dk_at dksX0_finds_1 19 rfl rfl)
theorem dX0_finds_46 : decode cX0_finds 46 = .ok (.aload_n 0, 1) := dk_42 (dk_at dksX0_finds_1 22 rfl rfl)
theorem dX0_finds_47 : decode cX0_finds 47 = .ok (.iload_n 2, 1) := dk_28 (dk_at dksX0_finds_1 23 rfl rfl)
theorem dX0_finds_48 : decode cX0_finds 48 = .ok (.iload_n 3, 1) := dk_29 (dk_at dksX0_finds_2 0 rfl rfl)
theorem dX0_finds_49 : decode cX0_finds 49 = .ok (.invokevirtual 304, 3) := dk_182 1 48 (dk_at dksX0_finds_2 1 rfl rfl)
theorem dX0_finds_52 : decode cX0_finds 52 = .ok (.ifCond .ne 6, 3) := dk_154 0 6 (dk_at dksX0_finds_2 4 rfl rfl)
theorem dX0_finds_55 : decode cX0_finds 55 = .ok (.goto 56, 3) := dk_167 0 56 (dk_at dksX0_finds_2 7 rfl rfl)
theorem dX0_finds_58 : decode cX0_finds 58 = .ok (.aload_n 0, 1) := dk_42 (dk_at dksX0_finds_2 10 rfl rfl)
theorem dX0_finds_59 : decode cX0_finds 59 = .ok (.getfield 126, 3) := dk_180 0 126 (dk_at dksX0_finds_2 11 rfl rfl)
theorem dX0_finds_62 : decode cX0_finds 62 = .ok (.iload_n 3, 1) := dk_29 (dk_at dksX0_finds_2 14 rfl rfl)
theorem dX0_finds_63 : decode cX0_finds 63 = .ok (.aload_n 0, 1) := dk_42 (dk_at dksX0_finds_2 15 rfl rfl)
theorem dX0_finds_64 : decode cX0_finds 64 = .ok (.getfield 301, 3) := dk_180 1 45 (dk_at dksX0_finds_2 16 rfl rfl)
theorem dX0_finds_67 : decode cX0_finds 67 = .ok (.iastore, 1) := dk_79 (dk_at dksX0_finds_2 19 rfl rfl)
theorem dX0_finds_68 : decode cX0_finds 68 = .ok (.aload_n 0, 1) := dk_42 (dk_at dksX0_finds_2 20 rfl rfl)
theorem dX0_finds_69 : decode cX0_finds 69 = .ok (.getfield 120, 3) := dk_180 0 120 (dk_at dksX0_finds_2 21 rfl rfl)
theorem dX0_finds_72 : decode cX0_finds 72 = .ok (.iload_n 3, 1) := dk_29 (dk_at dksX0_finds_3 0 rfl rfl)
theorem dX0_finds_73 : decode cX0_finds 73 = .ok (.iaload, 1) := dk_46 (dk_at dksX0_finds_3 1 rfl rfl)
theorem dX0_finds_74 : decode cX0_finds 74 = .ok (.iconst (-1), 1) := dk_2 (dk_at dksX0_finds_3 2 rfl rfl)
theorem dX0_finds_75 : decode cX0_finds 75 = .ok (.if_icmp .eq 20, 3) := dk_159 0 20 (dk_at dksX0_finds_3 3 rfl rfl)
theorem dX0_finds_78 : decode cX0_finds 78 = .ok (.aload_n 0, 1) := dk_42 (dk_at dksX0_finds_3 6 rfl rfl)
theorem dX0_finds_79 : decode cX0_finds 79 = .ok (.iload_n 1, 1) := dk_27 (dk_at dksX0_finds_3 7 rfl rfl)
theorem dX0_finds_80 : decode cX0_finds 80 = .ok (.aload_n 0, 1) := dk_42 (dk_at dksX0_finds_3 8 rfl rfl)
theorem dX0_finds_81 : decode cX0_finds 81 = .ok (.getfield 120, 3) := dk_180 0 120 (dk_at dksX0_finds_3 9 rfl rfl)
theorem dX0_finds_84 : decode cX0_finds 84 = .ok (.iload_n 3, 1) := dk_29 (dk_at dksX0_finds_3 12 rfl rfl)
theorem dX0_finds_85 : decode cX0_finds 85 = .ok (.iaload, 1) := dk_46 (dk_at dksX0_finds_3 13 rfl rfl)
theorem dX0_finds_86 : decode cX0_finds 86 = .ok (.invokevirtual 307, 3) := dk_182 1 51 (dk_at dksX0_finds_3 14 rfl rfl)
theorem dX0_finds_89 : decode cX0_finds 89 = .ok (.ifCond .ne 6, 3) := dk_154 0 6 (dk_at dksX0_finds_3 17 rfl rfl)
theorem dX0_finds_92 : decode cX0_finds 92 = .ok (.goto 19, 3) := dk_167 0 19 (dk_at dksX0_finds_3 20 rfl rfl)
theorem dX0_finds_95 : decode cX0_finds 95 = .ok (.aload_n 0, 1) := dk_42 (dk_at dksX0_finds_3 23 rfl rfl)
theorem dX0_finds_96 : decode cX0_finds 96 = .ok (.getfield 120, 3) := dk_180 0 120 (dk_at dksX0_finds_4 0 rfl rfl)
theorem dX0_finds_99 : decode cX0_finds 99 = .ok (.iload_n 3, 1) := dk_29 (dk_at dksX0_finds_4 3 rfl rfl)
theorem dX0_finds_100 : decode cX0_finds 100 = .ok (.iload_n 2, 1) := dk_28 (dk_at dksX0_finds_4 4 rfl rfl)
theorem dX0_finds_101 : decode cX0_finds 101 = .ok (.iastore, 1) := dk_79 (dk_at dksX0_finds_4 5 rfl rfl)
theorem dX0_finds_102 : decode cX0_finds 102 = .ok (.aload_n 0, 1) := dk_42 (dk_at dksX0_finds_4 6 rfl rfl)
theorem dX0_finds_103 : decode cX0_finds 103 = .ok (.getfield 120, 3) := dk_180 0 120 (dk_at dksX0_finds_4 7 rfl rfl)
theorem dX0_finds_106 : decode cX0_finds 106 = .ok (.iload_n 2, 1) := dk_28 (dk_at dksX0_finds_4 10 rfl rfl)
theorem dX0_finds_107 : decode cX0_finds 107 = .ok (.iload_n 3, 1) := dk_29 (dk_at dksX0_finds_4 11 rfl rfl)
theorem dX0_finds_108 : decode cX0_finds 108 = .ok (.iastore, 1) := dk_79 (dk_at dksX0_finds_4 12 rfl rfl)
theorem dX0_finds_109 : decode cX0_finds 109 = .ok (.iconst 1, 1) := dk_4 (dk_at dksX0_finds_4 13 rfl rfl)
theorem dX0_finds_110 : decode cX0_finds 110 = .ok (.ireturn, 1) := dk_172 (dk_at dksX0_finds_4 14 rfl rfl)
theorem dX0_finds_111 : decode cX0_finds 111 = .ok (.iinc 3 1, 3) := dk_132 3 1 (dk_at dksX0_finds_4 15 rfl rfl)
theorem dX0_finds_114 : decode cX0_finds 114 = .ok (.goto (-112), 3) := dk_167 255 144 (dk_at dksX0_finds_4 18 rfl rfl)
theorem dX0_finds_117 : decode cX0_finds 117 = .ok (.iconst 0, 1) := dk_3 (dk_at dksX0_finds_4 21 rfl rfl)
theorem dX0_finds_118 : decode cX0_finds 118 = .ok (.ireturn, 1) := dk_172 (dk_at dksX0_finds_4 22 rfl rfl)
abbrev cX0_areMates : ByteArray := prog_1_method_41_code
def yX0_areMates : MethodName := ⟨RX0, "areMates", "(II)Z"⟩
def dkwX0_areMates_3 : List UInt8 := [167, 0, 4, 3, 172]
abbrev dktX0_areMates_3 : List UInt8 := dkwX0_areMates_3 ++ []
def dkwX0_areMates_2 : List UInt8 := [25, 4, 180, 1, 42, 5, 159, 0, 15, 45, 180, 1, 42, 25, 4, 180, 1, 42, 160, 0, 7, 4]
abbrev dktX0_areMates_2 : List UInt8 := dkwX0_areMates_2 ++ dktX0_areMates_3
def dkwX0_areMates_1 : List UInt8 := [180, 0, 195, 3, 46, 100, 184, 1, 38, 42, 180, 0, 71, 163, 0, 36, 45, 180, 1, 42, 5, 159, 0, 24]
abbrev dktX0_areMates_1 : List UInt8 := dkwX0_areMates_1 ++ dktX0_areMates_2
def dkwX0_areMates_0 : List UInt8 := [42, 180, 0, 57, 27, 50, 78, 42, 180, 0, 57, 28, 50, 58, 4, 45, 180, 0, 195, 3, 46, 25, 4]
abbrev dktX0_areMates_0 : List UInt8 := dkwX0_areMates_0 ++ dktX0_areMates_1
theorem dksX0_areMates_0 : cX0_areMates.data.toList.drop 0 = dktX0_areMates_0 := by decide +kernel
theorem dksX0_areMates_1 : cX0_areMates.data.toList.drop 23 = dktX0_areMates_1 := dk_seg dksX0_areMates_0 23 rfl rfl
theorem dksX0_areMates_2 : cX0_areMates.data.toList.drop 47 = dktX0_areMates_2 := dk_seg dksX0_areMates_1 24 rfl rfl
theorem dksX0_areMates_3 : cX0_areMates.data.toList.drop 69 = dktX0_areMates_3 := dk_seg dksX0_areMates_2 22 rfl rfl
theorem dX0_areMates_0 : decode cX0_areMates 0 = .ok (.aload_n 0, 1) := dk_42 (dk_at dksX0_areMates_0 0 rfl rfl)
theorem dX0_areMates_1 : decode cX0_areMates 1 = .ok (.getfield 57, 3) := dk_180 0 57 (dk_at dksX0_areMates_0 1 rfl rfl)
theorem dX0_areMates_4 : decode cX0_areMates 4 = .ok (.iload_n 1, 1) := dk_27 (dk_at dksX0_areMates_0 4 rfl rfl)
theorem dX0_areMates_5 : decode cX0_areMates 5 = .ok (.aaload, 1) := dk_50 (dk_at dksX0_areMates_0 5 rfl rfl)
theorem dX0_areMates_6 : decode cX0_areMates 6 = .ok (.astore_n 3, 1) := dk_78 (dk_at dksX0_areMates_0 6 rfl rfl)
theorem dX0_areMates_7 : decode cX0_areMates 7 = .ok (.aload_n 0, 1) := dk_42 (dk_at dksX0_areMates_0 7 rfl rfl)
theorem dX0_areMates_8 : decode cX0_areMates 8 = .ok (.getfield 57, 3) := dk_180 0 57 (dk_at dksX0_areMates_0 8 rfl rfl)
theorem dX0_areMates_11 : decode cX0_areMates 11 = .ok (.iload_n 2, 1) := dk_28 (dk_at dksX0_areMates_0 11 rfl rfl)
theorem dX0_areMates_12 : decode cX0_areMates 12 = .ok (.aaload, 1) := dk_50 (dk_at dksX0_areMates_0 12 rfl rfl)
theorem dX0_areMates_13 : decode cX0_areMates 13 = .ok (.astore 4, 2) := dk_58 4 (dk_at dksX0_areMates_0 13 rfl rfl)
theorem dX0_areMates_15 : decode cX0_areMates 15 = .ok (.aload_n 3, 1) := dk_45 (dk_at dksX0_areMates_0 15 rfl rfl)
theorem dX0_areMates_16 : decode cX0_areMates 16 = .ok (.getfield 195, 3) := dk_180 0 195 (dk_at dksX0_areMates_0 16 rfl rfl)
theorem dX0_areMates_19 : decode cX0_areMates 19 = .ok (.iconst 0, 1) := dk_3 (dk_at dksX0_areMates_0 19 rfl rfl)
theorem dX0_areMates_20 : decode cX0_areMates 20 = .ok (.iaload, 1) := dk_46 (dk_at dksX0_areMates_0 20 rfl rfl)
theorem dX0_areMates_21 : decode cX0_areMates 21 = .ok (.aload 4, 2) := dk_25 4 (dk_at dksX0_areMates_0 21 rfl rfl)
theorem dX0_areMates_23 : decode cX0_areMates 23 = .ok (.getfield 195, 3) := dk_180 0 195 (dk_at dksX0_areMates_1 0 rfl rfl)
theorem dX0_areMates_26 : decode cX0_areMates 26 = .ok (.iconst 0, 1) := dk_3 (dk_at dksX0_areMates_1 3 rfl rfl)
theorem dX0_areMates_27 : decode cX0_areMates 27 = .ok (.iaload, 1) := dk_46 (dk_at dksX0_areMates_1 4 rfl rfl)
theorem dX0_areMates_28 : decode cX0_areMates 28 = .ok (.isub, 1) := dk_100 (dk_at dksX0_areMates_1 5 rfl rfl)
theorem dX0_areMates_29 : decode cX0_areMates 29 = .ok (.invokestatic 294, 3) := dk_184 1 38 (dk_at dksX0_areMates_1 6 rfl rfl)
theorem dX0_areMates_32 : decode cX0_areMates 32 = .ok (.aload_n 0, 1) := dk_42 (dk_at dksX0_areMates_1 9 rfl rfl)
theorem dX0_areMates_33 : decode cX0_areMates 33 = .ok (.getfield 71, 3) := dk_180 0 71 (dk_at dksX0_areMates_1 10 rfl rfl)
theorem dX0_areMates_36 : decode cX0_areMates 36 = .ok (.if_icmp .gt 36, 3) := dk_163 0 36 (dk_at dksX0_areMates_1 13 rfl rfl)
theorem dX0_areMates_39 : decode cX0_areMates 39 = .ok (.aload_n 3, 1) := dk_45 (dk_at dksX0_areMates_1 16 rfl rfl)
theorem dX0_areMates_40 : decode cX0_areMates 40 = .ok (.getfield 298, 3) := dk_180 1 42 (dk_at dksX0_areMates_1 17 rfl rfl)
theorem dX0_areMates_43 : decode cX0_areMates 43 = .ok (.iconst 2, 1) := dk_5 (dk_at dksX0_areMates_1 20 rfl rfl)
theorem dX0_areMates_44 : decode cX0_areMates 44 = .ok (.if_icmp .eq 24, 3) := dk_159 0 24 (dk_at dksX0_areMates_1 21 rfl rfl)
theorem dX0_areMates_47 : decode cX0_areMates 47 = .ok (.aload 4, 2) := dk_25 4 (dk_at dksX0_areMates_2 0 rfl rfl)
theorem dX0_areMates_49 : decode cX0_areMates 49 = .ok (.getfield 298, 3) := dk_180 1 42 (dk_at dksX0_areMates_2 2 rfl rfl)
theorem dX0_areMates_52 : decode cX0_areMates 52 = .ok (.iconst 2, 1) := dk_5 (dk_at dksX0_areMates_2 5 rfl rfl)
theorem dX0_areMates_53 : decode cX0_areMates 53 = .ok (.if_icmp .eq 15, 3) := dk_159 0 15 (dk_at dksX0_areMates_2 6 rfl rfl)
theorem dX0_areMates_56 : decode cX0_areMates 56 = .ok (.aload_n 3, 1) := dk_45 (dk_at dksX0_areMates_2 9 rfl rfl)
theorem dX0_areMates_57 : decode cX0_areMates 57 = .ok (.getfield 298, 3) := dk_180 1 42 (dk_at dksX0_areMates_2 10 rfl rfl)
theorem dX0_areMates_60 : decode cX0_areMates 60 = .ok (.aload 4, 2) := dk_25 4 (dk_at dksX0_areMates_2 13 rfl rfl)
theorem dX0_areMates_62 : decode cX0_areMates 62 = .ok (.getfield 298, 3) := dk_180 1 42 (dk_at dksX0_areMates_2 15 rfl rfl)
theorem dX0_areMates_65 : decode cX0_areMates 65 = .ok (.if_icmp .ne 7, 3) := dk_160 0 7 (dk_at dksX0_areMates_2 18 rfl rfl)
theorem dX0_areMates_68 : decode cX0_areMates 68 = .ok (.iconst 1, 1) := dk_4 (dk_at dksX0_areMates_2 21 rfl rfl)
theorem dX0_areMates_69 : decode cX0_areMates 69 = .ok (.goto 4, 3) := dk_167 0 4 (dk_at dksX0_areMates_3 0 rfl rfl)
theorem dX0_areMates_72 : decode cX0_areMates 72 = .ok (.iconst 0, 1) := dk_3 (dk_at dksX0_areMates_3 3 rfl rfl)
theorem dX0_areMates_73 : decode cX0_areMates 73 = .ok (.ireturn, 1) := dk_172 (dk_at dksX0_areMates_3 4 rfl rfl)
abbrev cX0_tellsPairs : ByteArray := prog_1_method_47_code
def yX0_tellsPairs : MethodName := ⟨RX0, "tellsPairs", "()V"⟩
def dkwX0_tellsPairs_1 : List UInt8 := [177]
abbrev dktX0_tellsPairs_1 : List UInt8 := dkwX0_tellsPairs_1 ++ []
def dkwX0_tellsPairs_0 : List UInt8 := [42, 180, 0, 120, 3, 42, 180, 0, 123, 3, 17, 0, 200, 184, 1, 79, 42, 42, 180, 0, 156, 181, 1, 85]
abbrev dktX0_tellsPairs_0 : List UInt8 := dkwX0_tellsPairs_0 ++ dktX0_tellsPairs_1
theorem dksX0_tellsPairs_0 : cX0_tellsPairs.data.toList.drop 0 = dktX0_tellsPairs_0 := by decide +kernel
theorem dksX0_tellsPairs_1 : cX0_tellsPairs.data.toList.drop 24 = dktX0_tellsPairs_1 := dk_seg dksX0_tellsPairs_0 24 rfl rfl
theorem dX0_tellsPairs_0 : decode cX0_tellsPairs 0 = .ok (.aload_n 0, 1) := dk_42 (dk_at dksX0_tellsPairs_0 0 rfl rfl)
theorem dX0_tellsPairs_1 : decode cX0_tellsPairs 1 = .ok (.getfield 120, 3) := dk_180 0 120 (dk_at dksX0_tellsPairs_0 1 rfl rfl)
theorem dX0_tellsPairs_4 : decode cX0_tellsPairs 4 = .ok (.iconst 0, 1) := dk_3 (dk_at dksX0_tellsPairs_0 4 rfl rfl)
theorem dX0_tellsPairs_5 : decode cX0_tellsPairs 5 = .ok (.aload_n 0, 1) := dk_42 (dk_at dksX0_tellsPairs_0 5 rfl rfl)
theorem dX0_tellsPairs_6 : decode cX0_tellsPairs 6 = .ok (.getfield 123, 3) := dk_180 0 123 (dk_at dksX0_tellsPairs_0 6 rfl rfl)
theorem dX0_tellsPairs_9 : decode cX0_tellsPairs 9 = .ok (.iconst 0, 1) := dk_3 (dk_at dksX0_tellsPairs_0 9 rfl rfl)
theorem dX0_tellsPairs_10 : decode cX0_tellsPairs 10 = .ok (.sipush 200, 3) := dk_17 0 200 (dk_at dksX0_tellsPairs_0 10 rfl rfl)
theorem dX0_tellsPairs_13 : decode cX0_tellsPairs 13 = .ok (.invokestatic 335, 3) := dk_184 1 79 (dk_at dksX0_tellsPairs_0 13 rfl rfl)
theorem dX0_tellsPairs_16 : decode cX0_tellsPairs 16 = .ok (.aload_n 0, 1) := dk_42 (dk_at dksX0_tellsPairs_0 16 rfl rfl)
theorem dX0_tellsPairs_17 : decode cX0_tellsPairs 17 = .ok (.aload_n 0, 1) := dk_42 (dk_at dksX0_tellsPairs_0 17 rfl rfl)
theorem dX0_tellsPairs_18 : decode cX0_tellsPairs 18 = .ok (.getfield 156, 3) := dk_180 0 156 (dk_at dksX0_tellsPairs_0 18 rfl rfl)
theorem dX0_tellsPairs_21 : decode cX0_tellsPairs 21 = .ok (.putfield 341, 3) := dk_181 1 85 (dk_at dksX0_tellsPairs_0 21 rfl rfl)
theorem dX0_tellsPairs_24 : decode cX0_tellsPairs 24 = .ok (.return_, 1) := dk_177 (dk_at dksX0_tellsPairs_1 0 rfl rfl)
abbrev cX0_bones : ByteArray := prog_1_method_48_code
def yX0_bones : MethodName := ⟨RX0, "bones", "(IIIIII)I"⟩
def dkwX0_bones_3 : List UInt8 := [28, 182, 1, 60, 54, 7, 42, 182, 1, 76, 21, 7, 172]
abbrev dktX0_bones_3 : List UInt8 := dkwX0_bones_3 ++ []
def dkwX0_bones_2 : List UInt8 := [21, 6, 5, 162, 0, 20, 42, 28, 21, 6, 4, 160, 0, 7, 4, 167, 0, 4, 3, 182, 1, 28, 172, 42]
abbrev dktX0_bones_2 : List UInt8 := dkwX0_bones_2 ++ dktX0_bones_3
def dkwX0_bones_1 : List UInt8 := [9, 20, 0, 182, 184, 0, 5, 154, 0, 6, 16, 254, 172, 42, 27, 29, 21, 4, 21, 5, 182, 1, 69]
abbrev dktX0_bones_1 : List UInt8 := dkwX0_bones_1 ++ dktX0_bones_2
def dkwX0_bones_0 : List UInt8 := [42, 27, 29, 21, 4, 21, 5, 182, 1, 65, 153, 0, 24, 42, 28, 182, 1, 88, 153, 0, 16, 21, 6, 133]
abbrev dktX0_bones_0 : List UInt8 := dkwX0_bones_0 ++ dktX0_bones_1
theorem dksX0_bones_0 : cX0_bones.data.toList.drop 0 = dktX0_bones_0 := by decide +kernel
theorem dksX0_bones_1 : cX0_bones.data.toList.drop 24 = dktX0_bones_1 := dk_seg dksX0_bones_0 24 rfl rfl
theorem dksX0_bones_2 : cX0_bones.data.toList.drop 47 = dktX0_bones_2 := dk_seg dksX0_bones_1 23 rfl rfl
theorem dksX0_bones_3 : cX0_bones.data.toList.drop 71 = dktX0_bones_3 := dk_seg dksX0_bones_2 24 rfl rfl
theorem dX0_bones_0 : decode cX0_bones 0 = .ok (.aload_n 0, 1) := dk_42 (dk_at dksX0_bones_0 0 rfl rfl)
theorem dX0_bones_1 : decode cX0_bones 1 = .ok (.iload_n 1, 1) := dk_27 (dk_at dksX0_bones_0 1 rfl rfl)
theorem dX0_bones_2 : decode cX0_bones 2 = .ok (.iload_n 3, 1) := dk_29 (dk_at dksX0_bones_0 2 rfl rfl)
theorem dX0_bones_3 : decode cX0_bones 3 = .ok (.iload 4, 2) := dk_21 4 (dk_at dksX0_bones_0 3 rfl rfl)
theorem dX0_bones_5 : decode cX0_bones 5 = .ok (.iload 5, 2) := dk_21 5 (dk_at dksX0_bones_0 5 rfl rfl)
theorem dX0_bones_7 : decode cX0_bones 7 = .ok (.invokevirtual 321, 3) := dk_182 1 65 (dk_at dksX0_bones_0 7 rfl rfl)
theorem dX0_bones_10 : decode cX0_bones 10 = .ok (.ifCond .eq 24, 3) := dk_153 0 24 (dk_at dksX0_bones_0 10 rfl rfl)
theorem dX0_bones_13 : decode cX0_bones 13 = .ok (.aload_n 0, 1) := dk_42 (dk_at dksX0_bones_0 13 rfl rfl)
theorem dX0_bones_14 : decode cX0_bones 14 = .ok (.iload_n 2, 1) := dk_28 (dk_at dksX0_bones_0 14 rfl rfl)
theorem dX0_bones_15 : decode cX0_bones 15 = .ok (.invokevirtual 344, 3) := dk_182 1 88 (dk_at dksX0_bones_0 15 rfl rfl)
theorem dX0_bones_18 : decode cX0_bones 18 = .ok (.ifCond .eq 16, 3) := dk_153 0 16 (dk_at dksX0_bones_0 18 rfl rfl)
theorem dX0_bones_21 : decode cX0_bones 21 = .ok (.iload 6, 2) := dk_21 6 (dk_at dksX0_bones_0 21 rfl rfl)
theorem dX0_bones_23 : decode cX0_bones 23 = .ok (.i2l, 1) := dk_133 (dk_at dksX0_bones_0 23 rfl rfl)
theorem dX0_bones_24 : decode cX0_bones 24 = .ok (.lconst 0, 1) := dk_9 (dk_at dksX0_bones_1 0 rfl rfl)
theorem dX0_bones_25 : decode cX0_bones 25 = .ok (.ldc2_w 182, 3) := dk_20 0 182 (dk_at dksX0_bones_1 1 rfl rfl)
theorem dX0_bones_28 : decode cX0_bones 28 = .ok (.invokestatic 5, 3) := dk_184 0 5 (dk_at dksX0_bones_1 4 rfl rfl)
theorem dX0_bones_31 : decode cX0_bones 31 = .ok (.ifCond .ne 6, 3) := dk_154 0 6 (dk_at dksX0_bones_1 7 rfl rfl)
theorem dX0_bones_34 : decode cX0_bones 34 = .ok (.bipush (-2), 2) := dk_16 254 (dk_at dksX0_bones_1 10 rfl rfl)
theorem dX0_bones_36 : decode cX0_bones 36 = .ok (.ireturn, 1) := dk_172 (dk_at dksX0_bones_1 12 rfl rfl)
theorem dX0_bones_37 : decode cX0_bones 37 = .ok (.aload_n 0, 1) := dk_42 (dk_at dksX0_bones_1 13 rfl rfl)
theorem dX0_bones_38 : decode cX0_bones 38 = .ok (.iload_n 1, 1) := dk_27 (dk_at dksX0_bones_1 14 rfl rfl)
theorem dX0_bones_39 : decode cX0_bones 39 = .ok (.iload_n 3, 1) := dk_29 (dk_at dksX0_bones_1 15 rfl rfl)
theorem dX0_bones_40 : decode cX0_bones 40 = .ok (.iload 4, 2) := dk_21 4 (dk_at dksX0_bones_1 16 rfl rfl)
theorem dX0_bones_42 : decode cX0_bones 42 = .ok (.iload 5, 2) := dk_21 5 (dk_at dksX0_bones_1 18 rfl rfl)
theorem dX0_bones_44 : decode cX0_bones 44 = .ok (.invokevirtual 325, 3) := dk_182 1 69 (dk_at dksX0_bones_1 20 rfl rfl)
theorem dX0_bones_47 : decode cX0_bones 47 = .ok (.iload 6, 2) := dk_21 6 (dk_at dksX0_bones_2 0 rfl rfl)
theorem dX0_bones_49 : decode cX0_bones 49 = .ok (.iconst 2, 1) := dk_5 (dk_at dksX0_bones_2 2 rfl rfl)
theorem dX0_bones_50 : decode cX0_bones 50 = .ok (.if_icmp .ge 20, 3) := dk_162 0 20 (dk_at dksX0_bones_2 3 rfl rfl)
theorem dX0_bones_53 : decode cX0_bones 53 = .ok (.aload_n 0, 1) := dk_42 (dk_at dksX0_bones_2 6 rfl rfl)
theorem dX0_bones_54 : decode cX0_bones 54 = .ok (.iload_n 2, 1) := dk_28 (dk_at dksX0_bones_2 7 rfl rfl)
theorem dX0_bones_55 : decode cX0_bones 55 = .ok (.iload 6, 2) := dk_21 6 (dk_at dksX0_bones_2 8 rfl rfl)
theorem dX0_bones_57 : decode cX0_bones 57 = .ok (.iconst 1, 1) := dk_4 (dk_at dksX0_bones_2 10 rfl rfl)
theorem dX0_bones_58 : decode cX0_bones 58 = .ok (.if_icmp .ne 7, 3) := dk_160 0 7 (dk_at dksX0_bones_2 11 rfl rfl)
theorem dX0_bones_61 : decode cX0_bones 61 = .ok (.iconst 1, 1) := dk_4 (dk_at dksX0_bones_2 14 rfl rfl)
theorem dX0_bones_62 : decode cX0_bones 62 = .ok (.goto 4, 3) := dk_167 0 4 (dk_at dksX0_bones_2 15 rfl rfl)
theorem dX0_bones_65 : decode cX0_bones 65 = .ok (.iconst 0, 1) := dk_3 (dk_at dksX0_bones_2 18 rfl rfl)
theorem dX0_bones_66 : decode cX0_bones 66 = .ok (.invokevirtual 284, 3) := dk_182 1 28 (dk_at dksX0_bones_2 19 rfl rfl)
theorem dX0_bones_69 : decode cX0_bones 69 = .ok (.ireturn, 1) := dk_172 (dk_at dksX0_bones_2 22 rfl rfl)
theorem dX0_bones_70 : decode cX0_bones 70 = .ok (.aload_n 0, 1) := dk_42 (dk_at dksX0_bones_2 23 rfl rfl)
theorem dX0_bones_71 : decode cX0_bones 71 = .ok (.iload_n 2, 1) := dk_28 (dk_at dksX0_bones_3 0 rfl rfl)
theorem dX0_bones_72 : decode cX0_bones 72 = .ok (.invokevirtual 316, 3) := dk_182 1 60 (dk_at dksX0_bones_3 1 rfl rfl)
theorem dX0_bones_75 : decode cX0_bones 75 = .ok (.istore 7, 2) := dk_54 7 (dk_at dksX0_bones_3 4 rfl rfl)
theorem dX0_bones_77 : decode cX0_bones 77 = .ok (.aload_n 0, 1) := dk_42 (dk_at dksX0_bones_3 6 rfl rfl)
theorem dX0_bones_78 : decode cX0_bones 78 = .ok (.invokevirtual 332, 3) := dk_182 1 76 (dk_at dksX0_bones_3 7 rfl rfl)
theorem dX0_bones_81 : decode cX0_bones 81 = .ok (.iload 7, 2) := dk_21 7 (dk_at dksX0_bones_3 10 rfl rfl)
theorem dX0_bones_83 : decode cX0_bones 83 = .ok (.ireturn, 1) := dk_172 (dk_at dksX0_bones_3 12 rfl rfl)
abbrev cX0_isElement : ByteArray := prog_1_method_9_code
def yX0_isElement : MethodName := ⟨RX0, "isElement", "(I)Z"⟩
def dkwX0_isElement_0 : List UInt8 := [27, 133, 9, 42, 180, 0, 150, 4, 100, 133, 184, 0, 5, 172]
abbrev dktX0_isElement_0 : List UInt8 := dkwX0_isElement_0 ++ []
theorem dksX0_isElement_0 : cX0_isElement.data.toList.drop 0 = dktX0_isElement_0 := by decide +kernel
theorem dX0_isElement_0 : decode cX0_isElement 0 = .ok (.iload_n 1, 1) := dk_27 (dk_at dksX0_isElement_0 0 rfl rfl)
theorem dX0_isElement_1 : decode cX0_isElement 1 = .ok (.i2l, 1) := dk_133 (dk_at dksX0_isElement_0 1 rfl rfl)
theorem dX0_isElement_2 : decode cX0_isElement 2 = .ok (.lconst 0, 1) := dk_9 (dk_at dksX0_isElement_0 2 rfl rfl)
theorem dX0_isElement_3 : decode cX0_isElement 3 = .ok (.aload_n 0, 1) := dk_42 (dk_at dksX0_isElement_0 3 rfl rfl)
theorem dX0_isElement_4 : decode cX0_isElement 4 = .ok (.getfield 150, 3) := dk_180 0 150 (dk_at dksX0_isElement_0 4 rfl rfl)
theorem dX0_isElement_7 : decode cX0_isElement 7 = .ok (.iconst 1, 1) := dk_4 (dk_at dksX0_isElement_0 7 rfl rfl)
theorem dX0_isElement_8 : decode cX0_isElement 8 = .ok (.isub, 1) := dk_100 (dk_at dksX0_isElement_0 8 rfl rfl)
theorem dX0_isElement_9 : decode cX0_isElement 9 = .ok (.i2l, 1) := dk_133 (dk_at dksX0_isElement_0 9 rfl rfl)
theorem dX0_isElement_10 : decode cX0_isElement 10 = .ok (.invokestatic 5, 3) := dk_184 0 5 (dk_at dksX0_isElement_0 10 rfl rfl)
theorem dX0_isElement_13 : decode cX0_isElement 13 = .ok (.ireturn, 1) := dk_172 (dk_at dksX0_isElement_0 13 rfl rfl)
abbrev cX0_partner : ByteArray := prog_1_method_49_code
def yX0_partner : MethodName := ⟨RX0, "partner", "(I)I"⟩
def dkwX0_partner_1 : List UInt8 := [167, 0, 4, 2, 172]
abbrev dktX0_partner_1 : List UInt8 := dkwX0_partner_1 ++ []
def dkwX0_partner_0 : List UInt8 := [27, 133, 9, 42, 180, 1, 85, 4, 100, 133, 184, 0, 5, 153, 0, 12, 42, 180, 0, 123, 27, 46]
abbrev dktX0_partner_0 : List UInt8 := dkwX0_partner_0 ++ dktX0_partner_1
theorem dksX0_partner_0 : cX0_partner.data.toList.drop 0 = dktX0_partner_0 := by decide +kernel
theorem dksX0_partner_1 : cX0_partner.data.toList.drop 22 = dktX0_partner_1 := dk_seg dksX0_partner_0 22 rfl rfl
theorem dX0_partner_0 : decode cX0_partner 0 = .ok (.iload_n 1, 1) := dk_27 (dk_at dksX0_partner_0 0 rfl rfl)
theorem dX0_partner_1 : decode cX0_partner 1 = .ok (.i2l, 1) := dk_133 (dk_at dksX0_partner_0 1 rfl rfl)
theorem dX0_partner_2 : decode cX0_partner 2 = .ok (.lconst 0, 1) := dk_9 (dk_at dksX0_partner_0 2 rfl rfl)
theorem dX0_partner_3 : decode cX0_partner 3 = .ok (.aload_n 0, 1) := dk_42 (dk_at dksX0_partner_0 3 rfl rfl)
theorem dX0_partner_4 : decode cX0_partner 4 = .ok (.getfield 341, 3) := dk_180 1 85 (dk_at dksX0_partner_0 4 rfl rfl)
theorem dX0_partner_7 : decode cX0_partner 7 = .ok (.iconst 1, 1) := dk_4 (dk_at dksX0_partner_0 7 rfl rfl)
theorem dX0_partner_8 : decode cX0_partner 8 = .ok (.isub, 1) := dk_100 (dk_at dksX0_partner_0 8 rfl rfl)
theorem dX0_partner_9 : decode cX0_partner 9 = .ok (.i2l, 1) := dk_133 (dk_at dksX0_partner_0 9 rfl rfl)
theorem dX0_partner_10 : decode cX0_partner 10 = .ok (.invokestatic 5, 3) := dk_184 0 5 (dk_at dksX0_partner_0 10 rfl rfl)
theorem dX0_partner_13 : decode cX0_partner 13 = .ok (.ifCond .eq 12, 3) := dk_153 0 12 (dk_at dksX0_partner_0 13 rfl rfl)
theorem dX0_partner_16 : decode cX0_partner 16 = .ok (.aload_n 0, 1) := dk_42 (dk_at dksX0_partner_0 16 rfl rfl)
theorem dX0_partner_17 : decode cX0_partner 17 = .ok (.getfield 123, 3) := dk_180 0 123 (dk_at dksX0_partner_0 17 rfl rfl)
theorem dX0_partner_20 : decode cX0_partner 20 = .ok (.iload_n 1, 1) := dk_27 (dk_at dksX0_partner_0 20 rfl rfl)
theorem dX0_partner_21 : decode cX0_partner 21 = .ok (.iaload, 1) := dk_46 (dk_at dksX0_partner_0 21 rfl rfl)
theorem dX0_partner_22 : decode cX0_partner 22 = .ok (.goto 4, 3) := dk_167 0 4 (dk_at dksX0_partner_1 0 rfl rfl)
theorem dX0_partner_25 : decode cX0_partner 25 = .ok (.iconst (-1), 1) := dk_2 (dk_at dksX0_partner_1 3 rfl rfl)
theorem dX0_partner_26 : decode cX0_partner 26 = .ok (.ireturn, 1) := dk_172 (dk_at dksX0_partner_1 4 rfl rfl)
abbrev cX0_there : ByteArray := prog_1_method_50_code
def yX0_there : MethodName := ⟨RX0, "there", "(IIIII)I"⟩
def dkwX0_there_2 : List UInt8 := [167, 0, 10, 42, 28, 21, 6, 182, 1, 91, 172]
abbrev dktX0_there_2 : List UInt8 := dkwX0_there_2 ++ []
def dkwX0_there_1 : List UInt8 := [42, 27, 29, 21, 4, 21, 5, 182, 1, 69, 42, 182, 1, 73, 54, 6, 21, 6, 154, 0, 7, 2]
abbrev dktX0_there_1 : List UInt8 := dkwX0_there_1 ++ dktX0_there_2
def dkwX0_there_0 : List UInt8 := [42, 27, 29, 21, 4, 21, 5, 182, 1, 65, 153, 0, 11, 42, 28, 182, 1, 88, 154, 0, 6, 16, 254, 172]
abbrev dktX0_there_0 : List UInt8 := dkwX0_there_0 ++ dktX0_there_1
theorem dksX0_there_0 : cX0_there.data.toList.drop 0 = dktX0_there_0 := by decide +kernel
theorem dksX0_there_1 : cX0_there.data.toList.drop 24 = dktX0_there_1 := dk_seg dksX0_there_0 24 rfl rfl
theorem dksX0_there_2 : cX0_there.data.toList.drop 46 = dktX0_there_2 := dk_seg dksX0_there_1 22 rfl rfl
theorem dX0_there_0 : decode cX0_there 0 = .ok (.aload_n 0, 1) := dk_42 (dk_at dksX0_there_0 0 rfl rfl)
theorem dX0_there_1 : decode cX0_there 1 = .ok (.iload_n 1, 1) := dk_27 (dk_at dksX0_there_0 1 rfl rfl)
theorem dX0_there_2 : decode cX0_there 2 = .ok (.iload_n 3, 1) := dk_29 (dk_at dksX0_there_0 2 rfl rfl)
theorem dX0_there_3 : decode cX0_there 3 = .ok (.iload 4, 2) := dk_21 4 (dk_at dksX0_there_0 3 rfl rfl)
theorem dX0_there_5 : decode cX0_there 5 = .ok (.iload 5, 2) := dk_21 5 (dk_at dksX0_there_0 5 rfl rfl)
theorem dX0_there_7 : decode cX0_there 7 = .ok (.invokevirtual 321, 3) := dk_182 1 65 (dk_at dksX0_there_0 7 rfl rfl)
theorem dX0_there_10 : decode cX0_there 10 = .ok (.ifCond .eq 11, 3) := dk_153 0 11 (dk_at dksX0_there_0 10 rfl rfl)
theorem dX0_there_13 : decode cX0_there 13 = .ok (.aload_n 0, 1) := dk_42 (dk_at dksX0_there_0 13 rfl rfl)
theorem dX0_there_14 : decode cX0_there 14 = .ok (.iload_n 2, 1) := dk_28 (dk_at dksX0_there_0 14 rfl rfl)
theorem dX0_there_15 : decode cX0_there 15 = .ok (.invokevirtual 344, 3) := dk_182 1 88 (dk_at dksX0_there_0 15 rfl rfl)
theorem dX0_there_18 : decode cX0_there 18 = .ok (.ifCond .ne 6, 3) := dk_154 0 6 (dk_at dksX0_there_0 18 rfl rfl)
theorem dX0_there_21 : decode cX0_there 21 = .ok (.bipush (-2), 2) := dk_16 254 (dk_at dksX0_there_0 21 rfl rfl)
theorem dX0_there_23 : decode cX0_there 23 = .ok (.ireturn, 1) := dk_172 (dk_at dksX0_there_0 23 rfl rfl)
theorem dX0_there_24 : decode cX0_there 24 = .ok (.aload_n 0, 1) := dk_42 (dk_at dksX0_there_1 0 rfl rfl)
theorem dX0_there_25 : decode cX0_there 25 = .ok (.iload_n 1, 1) := dk_27 (dk_at dksX0_there_1 1 rfl rfl)
theorem dX0_there_26 : decode cX0_there 26 = .ok (.iload_n 3, 1) := dk_29 (dk_at dksX0_there_1 2 rfl rfl)
theorem dX0_there_27 : decode cX0_there 27 = .ok (.iload 4, 2) := dk_21 4 (dk_at dksX0_there_1 3 rfl rfl)
theorem dX0_there_29 : decode cX0_there 29 = .ok (.iload 5, 2) := dk_21 5 (dk_at dksX0_there_1 5 rfl rfl)
theorem dX0_there_31 : decode cX0_there 31 = .ok (.invokevirtual 325, 3) := dk_182 1 69 (dk_at dksX0_there_1 7 rfl rfl)
theorem dX0_there_34 : decode cX0_there 34 = .ok (.aload_n 0, 1) := dk_42 (dk_at dksX0_there_1 10 rfl rfl)
theorem dX0_there_35 : decode cX0_there 35 = .ok (.invokevirtual 329, 3) := dk_182 1 73 (dk_at dksX0_there_1 11 rfl rfl)
theorem dX0_there_38 : decode cX0_there 38 = .ok (.istore 6, 2) := dk_54 6 (dk_at dksX0_there_1 14 rfl rfl)
theorem dX0_there_40 : decode cX0_there 40 = .ok (.iload 6, 2) := dk_21 6 (dk_at dksX0_there_1 16 rfl rfl)
theorem dX0_there_42 : decode cX0_there 42 = .ok (.ifCond .ne 7, 3) := dk_154 0 7 (dk_at dksX0_there_1 18 rfl rfl)
theorem dX0_there_45 : decode cX0_there 45 = .ok (.iconst (-1), 1) := dk_2 (dk_at dksX0_there_1 21 rfl rfl)
theorem dX0_there_46 : decode cX0_there 46 = .ok (.goto 10, 3) := dk_167 0 10 (dk_at dksX0_there_2 0 rfl rfl)
theorem dX0_there_49 : decode cX0_there 49 = .ok (.aload_n 0, 1) := dk_42 (dk_at dksX0_there_2 3 rfl rfl)
theorem dX0_there_50 : decode cX0_there 50 = .ok (.iload_n 2, 1) := dk_28 (dk_at dksX0_there_2 4 rfl rfl)
theorem dX0_there_51 : decode cX0_there 51 = .ok (.iload 6, 2) := dk_21 6 (dk_at dksX0_there_2 5 rfl rfl)
theorem dX0_there_53 : decode cX0_there 53 = .ok (.invokevirtual 347, 3) := dk_182 1 91 (dk_at dksX0_there_2 7 rfl rfl)
theorem dX0_there_56 : decode cX0_there 56 = .ok (.ireturn, 1) := dk_172 (dk_at dksX0_there_2 10 rfl rfl)
abbrev cX0_thereOf : ByteArray := prog_1_method_51_code
def yX0_thereOf : MethodName := ⟨RX0, "thereOf", "(II)I"⟩
def dkwX0_thereOf_1 : List UInt8 := [50, 180, 1, 94, 104, 108, 184, 0, 209, 172]
abbrev dktX0_thereOf_1 : List UInt8 := dkwX0_thereOf_1 ++ []
def dkwX0_thereOf_0 : List UInt8 := [16, 100, 16, 100, 42, 27, 3, 182, 1, 28, 42, 27, 4, 182, 1, 28, 96, 104, 28, 42, 180, 0, 51, 27]
abbrev dktX0_thereOf_0 : List UInt8 := dkwX0_thereOf_0 ++ dktX0_thereOf_1
theorem dksX0_thereOf_0 : cX0_thereOf.data.toList.drop 0 = dktX0_thereOf_0 := by decide +kernel
theorem dksX0_thereOf_1 : cX0_thereOf.data.toList.drop 24 = dktX0_thereOf_1 := dk_seg dksX0_thereOf_0 24 rfl rfl
theorem dX0_thereOf_0 : decode cX0_thereOf 0 = .ok (.bipush 100, 2) := dk_16 100 (dk_at dksX0_thereOf_0 0 rfl rfl)
theorem dX0_thereOf_2 : decode cX0_thereOf 2 = .ok (.bipush 100, 2) := dk_16 100 (dk_at dksX0_thereOf_0 2 rfl rfl)
theorem dX0_thereOf_4 : decode cX0_thereOf 4 = .ok (.aload_n 0, 1) := dk_42 (dk_at dksX0_thereOf_0 4 rfl rfl)
theorem dX0_thereOf_5 : decode cX0_thereOf 5 = .ok (.iload_n 1, 1) := dk_27 (dk_at dksX0_thereOf_0 5 rfl rfl)
theorem dX0_thereOf_6 : decode cX0_thereOf 6 = .ok (.iconst 0, 1) := dk_3 (dk_at dksX0_thereOf_0 6 rfl rfl)
theorem dX0_thereOf_7 : decode cX0_thereOf 7 = .ok (.invokevirtual 284, 3) := dk_182 1 28 (dk_at dksX0_thereOf_0 7 rfl rfl)
theorem dX0_thereOf_10 : decode cX0_thereOf 10 = .ok (.aload_n 0, 1) := dk_42 (dk_at dksX0_thereOf_0 10 rfl rfl)
theorem dX0_thereOf_11 : decode cX0_thereOf 11 = .ok (.iload_n 1, 1) := dk_27 (dk_at dksX0_thereOf_0 11 rfl rfl)
theorem dX0_thereOf_12 : decode cX0_thereOf 12 = .ok (.iconst 1, 1) := dk_4 (dk_at dksX0_thereOf_0 12 rfl rfl)
theorem dX0_thereOf_13 : decode cX0_thereOf 13 = .ok (.invokevirtual 284, 3) := dk_182 1 28 (dk_at dksX0_thereOf_0 13 rfl rfl)
theorem dX0_thereOf_16 : decode cX0_thereOf 16 = .ok (.iadd, 1) := dk_96 (dk_at dksX0_thereOf_0 16 rfl rfl)
theorem dX0_thereOf_17 : decode cX0_thereOf 17 = .ok (.imul, 1) := dk_104 (dk_at dksX0_thereOf_0 17 rfl rfl)
theorem dX0_thereOf_18 : decode cX0_thereOf 18 = .ok (.iload_n 2, 1) := dk_28 (dk_at dksX0_thereOf_0 18 rfl rfl)
theorem dX0_thereOf_19 : decode cX0_thereOf 19 = .ok (.aload_n 0, 1) := dk_42 (dk_at dksX0_thereOf_0 19 rfl rfl)
theorem dX0_thereOf_20 : decode cX0_thereOf 20 = .ok (.getfield 51, 3) := dk_180 0 51 (dk_at dksX0_thereOf_0 20 rfl rfl)
theorem dX0_thereOf_23 : decode cX0_thereOf 23 = .ok (.iload_n 1, 1) := dk_27 (dk_at dksX0_thereOf_0 23 rfl rfl)
theorem dX0_thereOf_24 : decode cX0_thereOf 24 = .ok (.aaload, 1) := dk_50 (dk_at dksX0_thereOf_1 0 rfl rfl)
theorem dX0_thereOf_25 : decode cX0_thereOf 25 = .ok (.getfield 350, 3) := dk_180 1 94 (dk_at dksX0_thereOf_1 1 rfl rfl)
theorem dX0_thereOf_28 : decode cX0_thereOf 28 = .ok (.imul, 1) := dk_104 (dk_at dksX0_thereOf_1 4 rfl rfl)
theorem dX0_thereOf_29 : decode cX0_thereOf 29 = .ok (.idiv, 1) := dk_108 (dk_at dksX0_thereOf_1 5 rfl rfl)
theorem dX0_thereOf_30 : decode cX0_thereOf 30 = .ok (.invokestatic 209, 3) := dk_184 0 209 (dk_at dksX0_thereOf_1 6 rfl rfl)
theorem dX0_thereOf_33 : decode cX0_thereOf 33 = .ok (.ireturn, 1) := dk_172 (dk_at dksX0_thereOf_1 9 rfl rfl)
abbrev cX0_lacks : ByteArray := prog_1_method_52_code
def yX0_lacks : MethodName := ⟨RX0, "lacks", "(IIII)I"⟩
def dkwX0_lacks_6 : List UInt8 := [21, 6, 172]
abbrev dktX0_lacks_6 : List UInt8 := dkwX0_lacks_6 ++ []
def dkwX0_lacks_5 : List UInt8 := [164, 0, 12, 21, 6, 4, 21, 7, 120, 128, 54, 6, 132, 8, 1, 167, 255, 181, 132, 7, 1, 167, 255, 163]
abbrev dktX0_lacks_5 : List UInt8 := dkwX0_lacks_5 ++ dktX0_lacks_6
def dkwX0_lacks_4 : List UInt8 := [163, 0, 36, 42, 21, 8, 21, 5, 182, 1, 91, 42, 21, 7, 21, 5, 182, 1, 91, 42, 180, 0, 75, 96]
abbrev dktX0_lacks_4 : List UInt8 := dkwX0_lacks_4 ++ dktX0_lacks_5
def dkwX0_lacks_3 : List UInt8 := [159, 0, 59, 42, 180, 0, 51, 21, 8, 50, 180, 1, 97, 42, 180, 0, 51, 21, 7, 50, 180, 1, 97]
abbrev dktX0_lacks_3 : List UInt8 := dkwX0_lacks_3 ++ dktX0_lacks_4
def dkwX0_lacks_2 : List UInt8 := [180, 0, 150, 162, 0, 90, 3, 54, 8, 21, 8, 42, 180, 0, 150, 162, 0, 72, 21, 8, 21, 7]
abbrev dktX0_lacks_2 : List UInt8 := dkwX0_lacks_2 ++ dktX0_lacks_3
def dkwX0_lacks_1 : List UInt8 := [42, 182, 1, 73, 54, 5, 21, 5, 154, 0, 5, 2, 172, 3, 54, 6, 3, 54, 7, 21, 7, 42]
abbrev dktX0_lacks_1 : List UInt8 := dkwX0_lacks_1 ++ dktX0_lacks_2
def dkwX0_lacks_0 : List UInt8 := [42, 27, 28, 29, 21, 4, 182, 1, 65, 154, 0, 6, 16, 254, 172, 42, 27, 28, 29, 21, 4, 182, 1, 69]
abbrev dktX0_lacks_0 : List UInt8 := dkwX0_lacks_0 ++ dktX0_lacks_1
theorem dksX0_lacks_0 : cX0_lacks.data.toList.drop 0 = dktX0_lacks_0 := by decide +kernel
theorem dksX0_lacks_1 : cX0_lacks.data.toList.drop 24 = dktX0_lacks_1 := dk_seg dksX0_lacks_0 24 rfl rfl
theorem dksX0_lacks_2 : cX0_lacks.data.toList.drop 46 = dktX0_lacks_2 := dk_seg dksX0_lacks_1 22 rfl rfl
theorem dksX0_lacks_3 : cX0_lacks.data.toList.drop 68 = dktX0_lacks_3 := dk_seg dksX0_lacks_2 22 rfl rfl
theorem dksX0_lacks_4 : cX0_lacks.data.toList.drop 91 = dktX0_lacks_4 := dk_seg dksX0_lacks_3 23 rfl rfl
theorem dksX0_lacks_5 : cX0_lacks.data.toList.drop 115 = dktX0_lacks_5 := dk_seg dksX0_lacks_4 24 rfl rfl
theorem dksX0_lacks_6 : cX0_lacks.data.toList.drop 139 = dktX0_lacks_6 := dk_seg dksX0_lacks_5 24 rfl rfl
theorem dX0_lacks_0 : decode cX0_lacks 0 = .ok (.aload_n 0, 1) := dk_42 (dk_at dksX0_lacks_0 0 rfl rfl)
theorem dX0_lacks_1 : decode cX0_lacks 1 = .ok (.iload_n 1, 1) := dk_27 (dk_at dksX0_lacks_0 1 rfl rfl)
theorem dX0_lacks_2 : decode cX0_lacks 2 = .ok (.iload_n 2, 1) := dk_28 (dk_at dksX0_lacks_0 2 rfl rfl)
theorem dX0_lacks_3 : decode cX0_lacks 3 = .ok (.iload_n 3, 1) := dk_29 (dk_at dksX0_lacks_0 3 rfl rfl)
theorem dX0_lacks_4 : decode cX0_lacks 4 = .ok (.iload 4, 2) := dk_21 4 (dk_at dksX0_lacks_0 4 rfl rfl)
theorem dX0_lacks_6 : decode cX0_lacks 6 = .ok (.invokevirtual 321, 3) := dk_182 1 65 (dk_at dksX0_lacks_0 6 rfl rfl)
theorem dX0_lacks_9 : decode cX0_lacks 9 = .ok (.ifCond .ne 6, 3) := dk_154 0 6 (dk_at dksX0_lacks_0 9 rfl rfl)
theorem dX0_lacks_12 : decode cX0_lacks 12 = .ok (.bipush (-2), 2) := dk_16 254 (dk_at dksX0_lacks_0 12 rfl rfl)
theorem dX0_lacks_14 : decode cX0_lacks 14 = .ok (.ireturn, 1) := dk_172 (dk_at dksX0_lacks_0 14 rfl rfl)
theorem dX0_lacks_15 : decode cX0_lacks 15 = .ok (.aload_n 0, 1) := dk_42 (dk_at dksX0_lacks_0 15 rfl rfl)
theorem dX0_lacks_16 : decode cX0_lacks 16 = .ok (.iload_n 1, 1) := dk_27 (dk_at dksX0_lacks_0 16 rfl rfl)
theorem dX0_lacks_17 : decode cX0_lacks 17 = .ok (.iload_n 2, 1) := dk_28 (dk_at dksX0_lacks_0 17 rfl rfl)
theorem dX0_lacks_18 : decode cX0_lacks 18 = .ok (.iload_n 3, 1) := dk_29 (dk_at dksX0_lacks_0 18 rfl rfl)
theorem dX0_lacks_19 : decode cX0_lacks 19 = .ok (.iload 4, 2) := dk_21 4 (dk_at dksX0_lacks_0 19 rfl rfl)
theorem dX0_lacks_21 : decode cX0_lacks 21 = .ok (.invokevirtual 325, 3) := dk_182 1 69 (dk_at dksX0_lacks_0 21 rfl rfl)
theorem dX0_lacks_24 : decode cX0_lacks 24 = .ok (.aload_n 0, 1) := dk_42 (dk_at dksX0_lacks_1 0 rfl rfl)
theorem dX0_lacks_25 : decode cX0_lacks 25 = .ok (.invokevirtual 329, 3) := dk_182 1 73 (dk_at dksX0_lacks_1 1 rfl rfl)
theorem dX0_lacks_28 : decode cX0_lacks 28 = .ok (.istore 5, 2) := dk_54 5 (dk_at dksX0_lacks_1 4 rfl rfl)
theorem dX0_lacks_30 : decode cX0_lacks 30 = .ok (.iload 5, 2) := dk_21 5 (dk_at dksX0_lacks_1 6 rfl rfl)
theorem dX0_lacks_32 : decode cX0_lacks 32 = .ok (.ifCond .ne 5, 3) := dk_154 0 5 (dk_at dksX0_lacks_1 8 rfl rfl)
theorem dX0_lacks_35 : decode cX0_lacks 35 = .ok (.iconst (-1), 1) := dk_2 (dk_at dksX0_lacks_1 11 rfl rfl)
theorem dX0_lacks_36 : decode cX0_lacks 36 = .ok (.ireturn, 1) := dk_172 (dk_at dksX0_lacks_1 12 rfl rfl)
theorem dX0_lacks_37 : decode cX0_lacks 37 = .ok (.iconst 0, 1) := dk_3 (dk_at dksX0_lacks_1 13 rfl rfl)
theorem dX0_lacks_38 : decode cX0_lacks 38 = .ok (.istore 6, 2) := dk_54 6 (dk_at dksX0_lacks_1 14 rfl rfl)
theorem dX0_lacks_40 : decode cX0_lacks 40 = .ok (.iconst 0, 1) := dk_3 (dk_at dksX0_lacks_1 16 rfl rfl)
theorem dX0_lacks_41 : decode cX0_lacks 41 = .ok (.istore 7, 2) := dk_54 7 (dk_at dksX0_lacks_1 17 rfl rfl)
theorem dX0_lacks_43 : decode cX0_lacks 43 = .ok (.iload 7, 2) := dk_21 7 (dk_at dksX0_lacks_1 19 rfl rfl)
theorem dX0_lacks_45 : decode cX0_lacks 45 = .ok (.aload_n 0, 1) := dk_42 (dk_at dksX0_lacks_1 21 rfl rfl)
theorem dX0_lacks_46 : decode cX0_lacks 46 = .ok (.getfield 150, 3) := dk_180 0 150 (dk_at dksX0_lacks_2 0 rfl rfl)
theorem dX0_lacks_49 : decode cX0_lacks 49 = .ok (.if_icmp .ge 90, 3) := dk_162 0 90 (dk_at dksX0_lacks_2 3 rfl rfl)
theorem dX0_lacks_52 : decode cX0_lacks 52 = .ok (.iconst 0, 1) := dk_3 (dk_at dksX0_lacks_2 6 rfl rfl)
theorem dX0_lacks_53 : decode cX0_lacks 53 = .ok (.istore 8, 2) := dk_54 8 (dk_at dksX0_lacks_2 7 rfl rfl)
theorem dX0_lacks_55 : decode cX0_lacks 55 = .ok (.iload 8, 2) := dk_21 8 (dk_at dksX0_lacks_2 9 rfl rfl)
theorem dX0_lacks_57 : decode cX0_lacks 57 = .ok (.aload_n 0, 1) := dk_42 (dk_at dksX0_lacks_2 11 rfl rfl)
theorem dX0_lacks_58 : decode cX0_lacks 58 = .ok (.getfield 150, 3) := dk_180 0 150 (dk_at dksX0_lacks_2 12 rfl rfl)
theorem dX0_lacks_61 : decode cX0_lacks 61 = .ok (.if_icmp .ge 72, 3) := dk_162 0 72 (dk_at dksX0_lacks_2 15 rfl rfl)
theorem dX0_lacks_64 : decode cX0_lacks 64 = .ok (.iload 8, 2) := dk_21 8 (dk_at dksX0_lacks_2 18 rfl rfl)
theorem dX0_lacks_66 : decode cX0_lacks 66 = .ok (.iload 7, 2) := dk_21 7 (dk_at dksX0_lacks_2 20 rfl rfl)
theorem dX0_lacks_68 : decode cX0_lacks 68 = .ok (.if_icmp .eq 59, 3) := dk_159 0 59 (dk_at dksX0_lacks_3 0 rfl rfl)
theorem dX0_lacks_71 : decode cX0_lacks 71 = .ok (.aload_n 0, 1) := dk_42 (dk_at dksX0_lacks_3 3 rfl rfl)
theorem dX0_lacks_72 : decode cX0_lacks 72 = .ok (.getfield 51, 3) := dk_180 0 51 (dk_at dksX0_lacks_3 4 rfl rfl)
theorem dX0_lacks_75 : decode cX0_lacks 75 = .ok (.iload 8, 2) := dk_21 8 (dk_at dksX0_lacks_3 7 rfl rfl)
theorem dX0_lacks_77 : decode cX0_lacks 77 = .ok (.aaload, 1) := dk_50 (dk_at dksX0_lacks_3 9 rfl rfl)
theorem dX0_lacks_78 : decode cX0_lacks 78 = .ok (.getfield 353, 3) := dk_180 1 97 (dk_at dksX0_lacks_3 10 rfl rfl)
theorem dX0_lacks_81 : decode cX0_lacks 81 = .ok (.aload_n 0, 1) := dk_42 (dk_at dksX0_lacks_3 13 rfl rfl)
theorem dX0_lacks_82 : decode cX0_lacks 82 = .ok (.getfield 51, 3) := dk_180 0 51 (dk_at dksX0_lacks_3 14 rfl rfl)
theorem dX0_lacks_85 : decode cX0_lacks 85 = .ok (.iload 7, 2) := dk_21 7 (dk_at dksX0_lacks_3 17 rfl rfl)
theorem dX0_lacks_87 : decode cX0_lacks 87 = .ok (.aaload, 1) := dk_50 (dk_at dksX0_lacks_3 19 rfl rfl)
theorem dX0_lacks_88 : decode cX0_lacks 88 = .ok (.getfield 353, 3) := dk_180 1 97 (dk_at dksX0_lacks_3 20 rfl rfl)
theorem dX0_lacks_91 : decode cX0_lacks 91 = .ok (.if_icmp .gt 36, 3) := dk_163 0 36 (dk_at dksX0_lacks_4 0 rfl rfl)
theorem dX0_lacks_94 : decode cX0_lacks 94 = .ok (.aload_n 0, 1) := dk_42 (dk_at dksX0_lacks_4 3 rfl rfl)
theorem dX0_lacks_95 : decode cX0_lacks 95 = .ok (.iload 8, 2) := dk_21 8 (dk_at dksX0_lacks_4 4 rfl rfl)
theorem dX0_lacks_97 : decode cX0_lacks 97 = .ok (.iload 5, 2) := dk_21 5 (dk_at dksX0_lacks_4 6 rfl rfl)
theorem dX0_lacks_99 : decode cX0_lacks 99 = .ok (.invokevirtual 347, 3) := dk_182 1 91 (dk_at dksX0_lacks_4 8 rfl rfl)
theorem dX0_lacks_102 : decode cX0_lacks 102 = .ok (.aload_n 0, 1) := dk_42 (dk_at dksX0_lacks_4 11 rfl rfl)
theorem dX0_lacks_103 : decode cX0_lacks 103 = .ok (.iload 7, 2) := dk_21 7 (dk_at dksX0_lacks_4 12 rfl rfl)
theorem dX0_lacks_105 : decode cX0_lacks 105 = .ok (.iload 5, 2) := dk_21 5 (dk_at dksX0_lacks_4 14 rfl rfl)
theorem dX0_lacks_107 : decode cX0_lacks 107 = .ok (.invokevirtual 347, 3) := dk_182 1 91 (dk_at dksX0_lacks_4 16 rfl rfl)
theorem dX0_lacks_110 : decode cX0_lacks 110 = .ok (.aload_n 0, 1) := dk_42 (dk_at dksX0_lacks_4 19 rfl rfl)
theorem dX0_lacks_111 : decode cX0_lacks 111 = .ok (.getfield 75, 3) := dk_180 0 75 (dk_at dksX0_lacks_4 20 rfl rfl)
theorem dX0_lacks_114 : decode cX0_lacks 114 = .ok (.iadd, 1) := dk_96 (dk_at dksX0_lacks_4 23 rfl rfl)
theorem dX0_lacks_115 : decode cX0_lacks 115 = .ok (.if_icmp .le 12, 3) := dk_164 0 12 (dk_at dksX0_lacks_5 0 rfl rfl)
theorem dX0_lacks_118 : decode cX0_lacks 118 = .ok (.iload 6, 2) := dk_21 6 (dk_at dksX0_lacks_5 3 rfl rfl)
theorem dX0_lacks_120 : decode cX0_lacks 120 = .ok (.iconst 1, 1) := dk_4 (dk_at dksX0_lacks_5 5 rfl rfl)
theorem dX0_lacks_121 : decode cX0_lacks 121 = .ok (.iload 7, 2) := dk_21 7 (dk_at dksX0_lacks_5 6 rfl rfl)
theorem dX0_lacks_123 : decode cX0_lacks 123 = .ok (.ishl, 1) := dk_120 (dk_at dksX0_lacks_5 8 rfl rfl)
theorem dX0_lacks_124 : decode cX0_lacks 124 = .ok (.ior, 1) := dk_128 (dk_at dksX0_lacks_5 9 rfl rfl)
theorem dX0_lacks_125 : decode cX0_lacks 125 = .ok (.istore 6, 2) := dk_54 6 (dk_at dksX0_lacks_5 10 rfl rfl)
theorem dX0_lacks_127 : decode cX0_lacks 127 = .ok (.iinc 8 1, 3) := dk_132 8 1 (dk_at dksX0_lacks_5 12 rfl rfl)
theorem dX0_lacks_130 : decode cX0_lacks 130 = .ok (.goto (-75), 3) := dk_167 255 181 (dk_at dksX0_lacks_5 15 rfl rfl)
theorem dX0_lacks_133 : decode cX0_lacks 133 = .ok (.iinc 7 1, 3) := dk_132 7 1 (dk_at dksX0_lacks_5 18 rfl rfl)
theorem dX0_lacks_136 : decode cX0_lacks 136 = .ok (.goto (-93), 3) := dk_167 255 163 (dk_at dksX0_lacks_5 21 rfl rfl)
theorem dX0_lacks_139 : decode cX0_lacks 139 = .ok (.iload 6, 2) := dk_21 6 (dk_at dksX0_lacks_6 0 rfl rfl)
theorem dX0_lacks_141 : decode cX0_lacks 141 = .ok (.ireturn, 1) := dk_172 (dk_at dksX0_lacks_6 2 rfl rfl)
abbrev cX0_meatOf : ByteArray := prog_1_method_53_code
def yX0_meatOf : MethodName := ⟨RX0, "meatOf", "(IIII)I"⟩
def dkwX0_meatOf_1 : List UInt8 := [42, 182, 1, 73, 42, 180, 0, 61, 27, 46, 104, 172]
abbrev dktX0_meatOf_1 : List UInt8 := dkwX0_meatOf_1 ++ []
def dkwX0_meatOf_0 : List UInt8 := [42, 27, 28, 29, 21, 4, 182, 1, 65, 154, 0, 6, 16, 254, 172, 42, 27, 28, 29, 21, 4, 182, 1, 69]
abbrev dktX0_meatOf_0 : List UInt8 := dkwX0_meatOf_0 ++ dktX0_meatOf_1
theorem dksX0_meatOf_0 : cX0_meatOf.data.toList.drop 0 = dktX0_meatOf_0 := by decide +kernel
theorem dksX0_meatOf_1 : cX0_meatOf.data.toList.drop 24 = dktX0_meatOf_1 := dk_seg dksX0_meatOf_0 24 rfl rfl
theorem dX0_meatOf_0 : decode cX0_meatOf 0 = .ok (.aload_n 0, 1) := dk_42 (dk_at dksX0_meatOf_0 0 rfl rfl)
theorem dX0_meatOf_1 : decode cX0_meatOf 1 = .ok (.iload_n 1, 1) := dk_27 (dk_at dksX0_meatOf_0 1 rfl rfl)
theorem dX0_meatOf_2 : decode cX0_meatOf 2 = .ok (.iload_n 2, 1) := dk_28 (dk_at dksX0_meatOf_0 2 rfl rfl)
theorem dX0_meatOf_3 : decode cX0_meatOf 3 = .ok (.iload_n 3, 1) := dk_29 (dk_at dksX0_meatOf_0 3 rfl rfl)
theorem dX0_meatOf_4 : decode cX0_meatOf 4 = .ok (.iload 4, 2) := dk_21 4 (dk_at dksX0_meatOf_0 4 rfl rfl)
theorem dX0_meatOf_6 : decode cX0_meatOf 6 = .ok (.invokevirtual 321, 3) := dk_182 1 65 (dk_at dksX0_meatOf_0 6 rfl rfl)
theorem dX0_meatOf_9 : decode cX0_meatOf 9 = .ok (.ifCond .ne 6, 3) := dk_154 0 6 (dk_at dksX0_meatOf_0 9 rfl rfl)
theorem dX0_meatOf_12 : decode cX0_meatOf 12 = .ok (.bipush (-2), 2) := dk_16 254 (dk_at dksX0_meatOf_0 12 rfl rfl)
theorem dX0_meatOf_14 : decode cX0_meatOf 14 = .ok (.ireturn, 1) := dk_172 (dk_at dksX0_meatOf_0 14 rfl rfl)
theorem dX0_meatOf_15 : decode cX0_meatOf 15 = .ok (.aload_n 0, 1) := dk_42 (dk_at dksX0_meatOf_0 15 rfl rfl)
theorem dX0_meatOf_16 : decode cX0_meatOf 16 = .ok (.iload_n 1, 1) := dk_27 (dk_at dksX0_meatOf_0 16 rfl rfl)
theorem dX0_meatOf_17 : decode cX0_meatOf 17 = .ok (.iload_n 2, 1) := dk_28 (dk_at dksX0_meatOf_0 17 rfl rfl)
theorem dX0_meatOf_18 : decode cX0_meatOf 18 = .ok (.iload_n 3, 1) := dk_29 (dk_at dksX0_meatOf_0 18 rfl rfl)
theorem dX0_meatOf_19 : decode cX0_meatOf 19 = .ok (.iload 4, 2) := dk_21 4 (dk_at dksX0_meatOf_0 19 rfl rfl)
theorem dX0_meatOf_21 : decode cX0_meatOf 21 = .ok (.invokevirtual 325, 3) := dk_182 1 69 (dk_at dksX0_meatOf_0 21 rfl rfl)
theorem dX0_meatOf_24 : decode cX0_meatOf 24 = .ok (.aload_n 0, 1) := dk_42 (dk_at dksX0_meatOf_1 0 rfl rfl)
theorem dX0_meatOf_25 : decode cX0_meatOf 25 = .ok (.invokevirtual 329, 3) := dk_182 1 73 (dk_at dksX0_meatOf_1 1 rfl rfl)
theorem dX0_meatOf_28 : decode cX0_meatOf 28 = .ok (.aload_n 0, 1) := dk_42 (dk_at dksX0_meatOf_1 4 rfl rfl)
theorem dX0_meatOf_29 : decode cX0_meatOf 29 = .ok (.getfield 61, 3) := dk_180 0 61 (dk_at dksX0_meatOf_1 5 rfl rfl)
theorem dX0_meatOf_32 : decode cX0_meatOf 32 = .ok (.iload_n 1, 1) := dk_27 (dk_at dksX0_meatOf_1 8 rfl rfl)
theorem dX0_meatOf_33 : decode cX0_meatOf 33 = .ok (.iaload, 1) := dk_46 (dk_at dksX0_meatOf_1 9 rfl rfl)
theorem dX0_meatOf_34 : decode cX0_meatOf 34 = .ok (.imul, 1) := dk_104 (dk_at dksX0_meatOf_1 10 rfl rfl)
theorem dX0_meatOf_35 : decode cX0_meatOf 35 = .ok (.ireturn, 1) := dk_172 (dk_at dksX0_meatOf_1 11 rfl rfl)
abbrev cX0_age : ByteArray := prog_1_method_56_code
def yX0_age : MethodName := ⟨RX0, "age", "(III)I"⟩
def dkwX0_age_5 : List UInt8 := [167, 0, 5, 21, 6, 172]
abbrev dktX0_age_5 : List UInt8 := dkwX0_age_5 ++ []
def dkwX0_age_4 : List UInt8 := [182, 1, 113, 54, 6, 21, 5, 21, 6, 164, 0, 7, 2, 167, 0, 14, 29, 154, 0, 8, 21, 5]
abbrev dktX0_age_4 : List UInt8 := dkwX0_age_4 ++ dktX0_age_5
def dkwX0_age_3 : List UInt8 := [50, 182, 1, 109, 54, 5, 42, 42, 180, 0, 57, 27, 50, 42, 180, 0, 51, 21, 4, 16, 100, 112, 50]
abbrev dktX0_age_3 : List UInt8 := dkwX0_age_3 ++ dktX0_age_4
def dkwX0_age_2 : List UInt8 := [21, 4, 2, 160, 0, 5, 2, 172, 42, 42, 180, 0, 57, 27, 50, 42, 180, 0, 51, 21, 4, 16, 100, 112]
abbrev dktX0_age_2 : List UInt8 := dkwX0_age_2 ++ dktX0_age_3
def dkwX0_age_1 : List UInt8 := [154, 0, 6, 16, 254, 172, 42, 180, 0, 113, 28, 50, 42, 180, 0, 57, 27, 50, 4, 182, 1, 13, 54, 4]
abbrev dktX0_age_1 : List UInt8 := dkwX0_age_1 ++ dktX0_age_2
def dkwX0_age_0 : List UInt8 := [42, 27, 182, 0, 226, 153, 0, 21, 42, 28, 182, 1, 10, 153, 0, 13, 29, 133, 9, 10, 184, 0, 5]
abbrev dktX0_age_0 : List UInt8 := dkwX0_age_0 ++ dktX0_age_1
theorem dksX0_age_0 : cX0_age.data.toList.drop 0 = dktX0_age_0 := by decide +kernel
theorem dksX0_age_1 : cX0_age.data.toList.drop 23 = dktX0_age_1 := dk_seg dksX0_age_0 23 rfl rfl
theorem dksX0_age_2 : cX0_age.data.toList.drop 47 = dktX0_age_2 := dk_seg dksX0_age_1 24 rfl rfl
theorem dksX0_age_3 : cX0_age.data.toList.drop 71 = dktX0_age_3 := dk_seg dksX0_age_2 24 rfl rfl
theorem dksX0_age_4 : cX0_age.data.toList.drop 94 = dktX0_age_4 := dk_seg dksX0_age_3 23 rfl rfl
theorem dksX0_age_5 : cX0_age.data.toList.drop 116 = dktX0_age_5 := dk_seg dksX0_age_4 22 rfl rfl
theorem dX0_age_0 : decode cX0_age 0 = .ok (.aload_n 0, 1) := dk_42 (dk_at dksX0_age_0 0 rfl rfl)
theorem dX0_age_1 : decode cX0_age 1 = .ok (.iload_n 1, 1) := dk_27 (dk_at dksX0_age_0 1 rfl rfl)
theorem dX0_age_2 : decode cX0_age 2 = .ok (.invokevirtual 226, 3) := dk_182 0 226 (dk_at dksX0_age_0 2 rfl rfl)
theorem dX0_age_5 : decode cX0_age 5 = .ok (.ifCond .eq 21, 3) := dk_153 0 21 (dk_at dksX0_age_0 5 rfl rfl)
theorem dX0_age_8 : decode cX0_age 8 = .ok (.aload_n 0, 1) := dk_42 (dk_at dksX0_age_0 8 rfl rfl)
theorem dX0_age_9 : decode cX0_age 9 = .ok (.iload_n 2, 1) := dk_28 (dk_at dksX0_age_0 9 rfl rfl)
theorem dX0_age_10 : decode cX0_age 10 = .ok (.invokevirtual 266, 3) := dk_182 1 10 (dk_at dksX0_age_0 10 rfl rfl)
theorem dX0_age_13 : decode cX0_age 13 = .ok (.ifCond .eq 13, 3) := dk_153 0 13 (dk_at dksX0_age_0 13 rfl rfl)
theorem dX0_age_16 : decode cX0_age 16 = .ok (.iload_n 3, 1) := dk_29 (dk_at dksX0_age_0 16 rfl rfl)
theorem dX0_age_17 : decode cX0_age 17 = .ok (.i2l, 1) := dk_133 (dk_at dksX0_age_0 17 rfl rfl)
theorem dX0_age_18 : decode cX0_age 18 = .ok (.lconst 0, 1) := dk_9 (dk_at dksX0_age_0 18 rfl rfl)
theorem dX0_age_19 : decode cX0_age 19 = .ok (.lconst 1, 1) := dk_10 (dk_at dksX0_age_0 19 rfl rfl)
theorem dX0_age_20 : decode cX0_age 20 = .ok (.invokestatic 5, 3) := dk_184 0 5 (dk_at dksX0_age_0 20 rfl rfl)
theorem dX0_age_23 : decode cX0_age 23 = .ok (.ifCond .ne 6, 3) := dk_154 0 6 (dk_at dksX0_age_1 0 rfl rfl)
theorem dX0_age_26 : decode cX0_age 26 = .ok (.bipush (-2), 2) := dk_16 254 (dk_at dksX0_age_1 3 rfl rfl)
theorem dX0_age_28 : decode cX0_age 28 = .ok (.ireturn, 1) := dk_172 (dk_at dksX0_age_1 5 rfl rfl)
theorem dX0_age_29 : decode cX0_age 29 = .ok (.aload_n 0, 1) := dk_42 (dk_at dksX0_age_1 6 rfl rfl)
theorem dX0_age_30 : decode cX0_age 30 = .ok (.getfield 113, 3) := dk_180 0 113 (dk_at dksX0_age_1 7 rfl rfl)
theorem dX0_age_33 : decode cX0_age 33 = .ok (.iload_n 2, 1) := dk_28 (dk_at dksX0_age_1 10 rfl rfl)
theorem dX0_age_34 : decode cX0_age 34 = .ok (.aaload, 1) := dk_50 (dk_at dksX0_age_1 11 rfl rfl)
theorem dX0_age_35 : decode cX0_age 35 = .ok (.aload_n 0, 1) := dk_42 (dk_at dksX0_age_1 12 rfl rfl)
theorem dX0_age_36 : decode cX0_age 36 = .ok (.getfield 57, 3) := dk_180 0 57 (dk_at dksX0_age_1 13 rfl rfl)
theorem dX0_age_39 : decode cX0_age 39 = .ok (.iload_n 1, 1) := dk_27 (dk_at dksX0_age_1 16 rfl rfl)
theorem dX0_age_40 : decode cX0_age 40 = .ok (.aaload, 1) := dk_50 (dk_at dksX0_age_1 17 rfl rfl)
theorem dX0_age_41 : decode cX0_age 41 = .ok (.iconst 1, 1) := dk_4 (dk_at dksX0_age_1 18 rfl rfl)
theorem dX0_age_42 : decode cX0_age 42 = .ok (.invokevirtual 269, 3) := dk_182 1 13 (dk_at dksX0_age_1 19 rfl rfl)
theorem dX0_age_45 : decode cX0_age 45 = .ok (.istore 4, 2) := dk_54 4 (dk_at dksX0_age_1 22 rfl rfl)
theorem dX0_age_47 : decode cX0_age 47 = .ok (.iload 4, 2) := dk_21 4 (dk_at dksX0_age_2 0 rfl rfl)
theorem dX0_age_49 : decode cX0_age 49 = .ok (.iconst (-1), 1) := dk_2 (dk_at dksX0_age_2 2 rfl rfl)
theorem dX0_age_50 : decode cX0_age 50 = .ok (.if_icmp .ne 5, 3) := dk_160 0 5 (dk_at dksX0_age_2 3 rfl rfl)
theorem dX0_age_53 : decode cX0_age 53 = .ok (.iconst (-1), 1) := dk_2 (dk_at dksX0_age_2 6 rfl rfl)
theorem dX0_age_54 : decode cX0_age 54 = .ok (.ireturn, 1) := dk_172 (dk_at dksX0_age_2 7 rfl rfl)
theorem dX0_age_55 : decode cX0_age 55 = .ok (.aload_n 0, 1) := dk_42 (dk_at dksX0_age_2 8 rfl rfl)
theorem dX0_age_56 : decode cX0_age 56 = .ok (.aload_n 0, 1) := dk_42 (dk_at dksX0_age_2 9 rfl rfl)
theorem dX0_age_57 : decode cX0_age 57 = .ok (.getfield 57, 3) := dk_180 0 57 (dk_at dksX0_age_2 10 rfl rfl)
theorem dX0_age_60 : decode cX0_age 60 = .ok (.iload_n 1, 1) := dk_27 (dk_at dksX0_age_2 13 rfl rfl)
theorem dX0_age_61 : decode cX0_age 61 = .ok (.aaload, 1) := dk_50 (dk_at dksX0_age_2 14 rfl rfl)
theorem dX0_age_62 : decode cX0_age 62 = .ok (.aload_n 0, 1) := dk_42 (dk_at dksX0_age_2 15 rfl rfl)
theorem dX0_age_63 : decode cX0_age 63 = .ok (.getfield 51, 3) := dk_180 0 51 (dk_at dksX0_age_2 16 rfl rfl)
theorem dX0_age_66 : decode cX0_age 66 = .ok (.iload 4, 2) := dk_21 4 (dk_at dksX0_age_2 19 rfl rfl)
theorem dX0_age_68 : decode cX0_age 68 = .ok (.bipush 100, 2) := dk_16 100 (dk_at dksX0_age_2 21 rfl rfl)
theorem dX0_age_70 : decode cX0_age 70 = .ok (.irem, 1) := dk_112 (dk_at dksX0_age_2 23 rfl rfl)
theorem dX0_age_71 : decode cX0_age 71 = .ok (.aaload, 1) := dk_50 (dk_at dksX0_age_3 0 rfl rfl)
theorem dX0_age_72 : decode cX0_age 72 = .ok (.invokevirtual 365, 3) := dk_182 1 109 (dk_at dksX0_age_3 1 rfl rfl)
theorem dX0_age_75 : decode cX0_age 75 = .ok (.istore 5, 2) := dk_54 5 (dk_at dksX0_age_3 4 rfl rfl)
theorem dX0_age_77 : decode cX0_age 77 = .ok (.aload_n 0, 1) := dk_42 (dk_at dksX0_age_3 6 rfl rfl)
theorem dX0_age_78 : decode cX0_age 78 = .ok (.aload_n 0, 1) := dk_42 (dk_at dksX0_age_3 7 rfl rfl)
theorem dX0_age_79 : decode cX0_age 79 = .ok (.getfield 57, 3) := dk_180 0 57 (dk_at dksX0_age_3 8 rfl rfl)
theorem dX0_age_82 : decode cX0_age 82 = .ok (.iload_n 1, 1) := dk_27 (dk_at dksX0_age_3 11 rfl rfl)
theorem dX0_age_83 : decode cX0_age 83 = .ok (.aaload, 1) := dk_50 (dk_at dksX0_age_3 12 rfl rfl)
theorem dX0_age_84 : decode cX0_age 84 = .ok (.aload_n 0, 1) := dk_42 (dk_at dksX0_age_3 13 rfl rfl)
theorem dX0_age_85 : decode cX0_age 85 = .ok (.getfield 51, 3) := dk_180 0 51 (dk_at dksX0_age_3 14 rfl rfl)
theorem dX0_age_88 : decode cX0_age 88 = .ok (.iload 4, 2) := dk_21 4 (dk_at dksX0_age_3 17 rfl rfl)
theorem dX0_age_90 : decode cX0_age 90 = .ok (.bipush 100, 2) := dk_16 100 (dk_at dksX0_age_3 19 rfl rfl)
theorem dX0_age_92 : decode cX0_age 92 = .ok (.irem, 1) := dk_112 (dk_at dksX0_age_3 21 rfl rfl)
theorem dX0_age_93 : decode cX0_age 93 = .ok (.aaload, 1) := dk_50 (dk_at dksX0_age_3 22 rfl rfl)
theorem dX0_age_94 : decode cX0_age 94 = .ok (.invokevirtual 369, 3) := dk_182 1 113 (dk_at dksX0_age_4 0 rfl rfl)
theorem dX0_age_97 : decode cX0_age 97 = .ok (.istore 6, 2) := dk_54 6 (dk_at dksX0_age_4 3 rfl rfl)
theorem dX0_age_99 : decode cX0_age 99 = .ok (.iload 5, 2) := dk_21 5 (dk_at dksX0_age_4 5 rfl rfl)
theorem dX0_age_101 : decode cX0_age 101 = .ok (.iload 6, 2) := dk_21 6 (dk_at dksX0_age_4 7 rfl rfl)
theorem dX0_age_103 : decode cX0_age 103 = .ok (.if_icmp .le 7, 3) := dk_164 0 7 (dk_at dksX0_age_4 9 rfl rfl)
theorem dX0_age_106 : decode cX0_age 106 = .ok (.iconst (-1), 1) := dk_2 (dk_at dksX0_age_4 12 rfl rfl)
theorem dX0_age_107 : decode cX0_age 107 = .ok (.goto 14, 3) := dk_167 0 14 (dk_at dksX0_age_4 13 rfl rfl)
theorem dX0_age_110 : decode cX0_age 110 = .ok (.iload_n 3, 1) := dk_29 (dk_at dksX0_age_4 16 rfl rfl)
theorem dX0_age_111 : decode cX0_age 111 = .ok (.ifCond .ne 8, 3) := dk_154 0 8 (dk_at dksX0_age_4 17 rfl rfl)
theorem dX0_age_114 : decode cX0_age 114 = .ok (.iload 5, 2) := dk_21 5 (dk_at dksX0_age_4 20 rfl rfl)
theorem dX0_age_116 : decode cX0_age 116 = .ok (.goto 5, 3) := dk_167 0 5 (dk_at dksX0_age_5 0 rfl rfl)
theorem dX0_age_119 : decode cX0_age 119 = .ok (.iload 6, 2) := dk_21 6 (dk_at dksX0_age_5 3 rfl rfl)
theorem dX0_age_121 : decode cX0_age 121 = .ok (.ireturn, 1) := dk_172 (dk_at dksX0_age_5 5 rfl rfl)
abbrev cX0_youngest : ByteArray := prog_1_method_54_code
def yX0_youngest : MethodName := ⟨RX0, "youngest", "(LBoneYard$Bone;LBoneYard$Element;)I"⟩
def dkwX0_youngest_1 : List UInt8 := [3, 167, 0, 10, 16, 6, 43, 180, 1, 103, 104, 184, 0, 203, 172]
abbrev dktX0_youngest_1 : List UInt8 := dkwX0_youngest_1 ++ []
def dkwX0_youngest_0 : List UInt8 := [43, 180, 1, 42, 4, 160, 0, 10, 44, 180, 1, 100, 167, 0, 4, 3, 43, 180, 1, 103, 2, 160, 0, 7]
abbrev dktX0_youngest_0 : List UInt8 := dkwX0_youngest_0 ++ dktX0_youngest_1
theorem dksX0_youngest_0 : cX0_youngest.data.toList.drop 0 = dktX0_youngest_0 := by decide +kernel
theorem dksX0_youngest_1 : cX0_youngest.data.toList.drop 24 = dktX0_youngest_1 := dk_seg dksX0_youngest_0 24 rfl rfl
theorem dX0_youngest_0 : decode cX0_youngest 0 = .ok (.aload_n 1, 1) := dk_43 (dk_at dksX0_youngest_0 0 rfl rfl)
theorem dX0_youngest_1 : decode cX0_youngest 1 = .ok (.getfield 298, 3) := dk_180 1 42 (dk_at dksX0_youngest_0 1 rfl rfl)
theorem dX0_youngest_4 : decode cX0_youngest 4 = .ok (.iconst 1, 1) := dk_4 (dk_at dksX0_youngest_0 4 rfl rfl)
theorem dX0_youngest_5 : decode cX0_youngest 5 = .ok (.if_icmp .ne 10, 3) := dk_160 0 10 (dk_at dksX0_youngest_0 5 rfl rfl)
theorem dX0_youngest_8 : decode cX0_youngest 8 = .ok (.aload_n 2, 1) := dk_44 (dk_at dksX0_youngest_0 8 rfl rfl)
theorem dX0_youngest_9 : decode cX0_youngest 9 = .ok (.getfield 356, 3) := dk_180 1 100 (dk_at dksX0_youngest_0 9 rfl rfl)
theorem dX0_youngest_12 : decode cX0_youngest 12 = .ok (.goto 4, 3) := dk_167 0 4 (dk_at dksX0_youngest_0 12 rfl rfl)
theorem dX0_youngest_15 : decode cX0_youngest 15 = .ok (.iconst 0, 1) := dk_3 (dk_at dksX0_youngest_0 15 rfl rfl)
theorem dX0_youngest_16 : decode cX0_youngest 16 = .ok (.aload_n 1, 1) := dk_43 (dk_at dksX0_youngest_0 16 rfl rfl)
theorem dX0_youngest_17 : decode cX0_youngest 17 = .ok (.getfield 359, 3) := dk_180 1 103 (dk_at dksX0_youngest_0 17 rfl rfl)
theorem dX0_youngest_20 : decode cX0_youngest 20 = .ok (.iconst (-1), 1) := dk_2 (dk_at dksX0_youngest_0 20 rfl rfl)
theorem dX0_youngest_21 : decode cX0_youngest 21 = .ok (.if_icmp .ne 7, 3) := dk_160 0 7 (dk_at dksX0_youngest_0 21 rfl rfl)
theorem dX0_youngest_24 : decode cX0_youngest 24 = .ok (.iconst 0, 1) := dk_3 (dk_at dksX0_youngest_1 0 rfl rfl)
theorem dX0_youngest_25 : decode cX0_youngest 25 = .ok (.goto 10, 3) := dk_167 0 10 (dk_at dksX0_youngest_1 1 rfl rfl)
theorem dX0_youngest_28 : decode cX0_youngest 28 = .ok (.bipush 6, 2) := dk_16 6 (dk_at dksX0_youngest_1 4 rfl rfl)
theorem dX0_youngest_30 : decode cX0_youngest 30 = .ok (.aload_n 1, 1) := dk_43 (dk_at dksX0_youngest_1 6 rfl rfl)
theorem dX0_youngest_31 : decode cX0_youngest 31 = .ok (.getfield 359, 3) := dk_180 1 103 (dk_at dksX0_youngest_1 7 rfl rfl)
theorem dX0_youngest_34 : decode cX0_youngest 34 = .ok (.imul, 1) := dk_104 (dk_at dksX0_youngest_1 10 rfl rfl)
theorem dX0_youngest_35 : decode cX0_youngest 35 = .ok (.invokestatic 203, 3) := dk_184 0 203 (dk_at dksX0_youngest_1 11 rfl rfl)
theorem dX0_youngest_38 : decode cX0_youngest 38 = .ok (.ireturn, 1) := dk_172 (dk_at dksX0_youngest_1 14 rfl rfl)
abbrev cX0_oldest : ByteArray := prog_1_method_55_code
def yX0_oldest : MethodName := ⟨RX0, "oldest", "(LBoneYard$Bone;LBoneYard$Element;)I"⟩
def dkwX0_oldest_1 : List UInt8 := [160, 0, 9, 17, 0, 200, 167, 0, 13, 16, 12, 43, 180, 1, 103, 104, 16, 12, 96, 184, 0, 209, 172]
abbrev dktX0_oldest_1 : List UInt8 := dkwX0_oldest_1 ++ []
def dkwX0_oldest_0 : List UInt8 := [43, 180, 1, 42, 154, 0, 10, 44, 180, 1, 106, 167, 0, 6, 17, 0, 200, 43, 180, 1, 103, 2]
abbrev dktX0_oldest_0 : List UInt8 := dkwX0_oldest_0 ++ dktX0_oldest_1
theorem dksX0_oldest_0 : cX0_oldest.data.toList.drop 0 = dktX0_oldest_0 := by decide +kernel
theorem dksX0_oldest_1 : cX0_oldest.data.toList.drop 22 = dktX0_oldest_1 := dk_seg dksX0_oldest_0 22 rfl rfl
theorem dX0_oldest_0 : decode cX0_oldest 0 = .ok (.aload_n 1, 1) := dk_43 (dk_at dksX0_oldest_0 0 rfl rfl)
theorem dX0_oldest_1 : decode cX0_oldest 1 = .ok (.getfield 298, 3) := dk_180 1 42 (dk_at dksX0_oldest_0 1 rfl rfl)
theorem dX0_oldest_4 : decode cX0_oldest 4 = .ok (.ifCond .ne 10, 3) := dk_154 0 10 (dk_at dksX0_oldest_0 4 rfl rfl)
theorem dX0_oldest_7 : decode cX0_oldest 7 = .ok (.aload_n 2, 1) := dk_44 (dk_at dksX0_oldest_0 7 rfl rfl)
theorem dX0_oldest_8 : decode cX0_oldest 8 = .ok (.getfield 362, 3) := dk_180 1 106 (dk_at dksX0_oldest_0 8 rfl rfl)
theorem dX0_oldest_11 : decode cX0_oldest 11 = .ok (.goto 6, 3) := dk_167 0 6 (dk_at dksX0_oldest_0 11 rfl rfl)
theorem dX0_oldest_14 : decode cX0_oldest 14 = .ok (.sipush 200, 3) := dk_17 0 200 (dk_at dksX0_oldest_0 14 rfl rfl)
theorem dX0_oldest_17 : decode cX0_oldest 17 = .ok (.aload_n 1, 1) := dk_43 (dk_at dksX0_oldest_0 17 rfl rfl)
theorem dX0_oldest_18 : decode cX0_oldest 18 = .ok (.getfield 359, 3) := dk_180 1 103 (dk_at dksX0_oldest_0 18 rfl rfl)
theorem dX0_oldest_21 : decode cX0_oldest 21 = .ok (.iconst (-1), 1) := dk_2 (dk_at dksX0_oldest_0 21 rfl rfl)
theorem dX0_oldest_22 : decode cX0_oldest 22 = .ok (.if_icmp .ne 9, 3) := dk_160 0 9 (dk_at dksX0_oldest_1 0 rfl rfl)
theorem dX0_oldest_25 : decode cX0_oldest 25 = .ok (.sipush 200, 3) := dk_17 0 200 (dk_at dksX0_oldest_1 3 rfl rfl)
theorem dX0_oldest_28 : decode cX0_oldest 28 = .ok (.goto 13, 3) := dk_167 0 13 (dk_at dksX0_oldest_1 6 rfl rfl)
theorem dX0_oldest_31 : decode cX0_oldest 31 = .ok (.bipush 12, 2) := dk_16 12 (dk_at dksX0_oldest_1 9 rfl rfl)
theorem dX0_oldest_33 : decode cX0_oldest 33 = .ok (.aload_n 1, 1) := dk_43 (dk_at dksX0_oldest_1 11 rfl rfl)
theorem dX0_oldest_34 : decode cX0_oldest 34 = .ok (.getfield 359, 3) := dk_180 1 103 (dk_at dksX0_oldest_1 12 rfl rfl)
theorem dX0_oldest_37 : decode cX0_oldest 37 = .ok (.imul, 1) := dk_104 (dk_at dksX0_oldest_1 15 rfl rfl)
theorem dX0_oldest_38 : decode cX0_oldest 38 = .ok (.bipush 12, 2) := dk_16 12 (dk_at dksX0_oldest_1 16 rfl rfl)
theorem dX0_oldest_40 : decode cX0_oldest 40 = .ok (.iadd, 1) := dk_96 (dk_at dksX0_oldest_1 18 rfl rfl)
theorem dX0_oldest_41 : decode cX0_oldest 41 = .ok (.invokestatic 209, 3) := dk_184 0 209 (dk_at dksX0_oldest_1 19 rfl rfl)
theorem dX0_oldest_44 : decode cX0_oldest 44 = .ok (.ireturn, 1) := dk_172 (dk_at dksX0_oldest_1 22 rfl rfl)
abbrev cX0_ages : ByteArray := prog_1_method_57_code
def yX0_ages : MethodName := ⟨RX0, "ages", "(I)I"⟩
def dkwX0_ages_5 : List UInt8 := [167, 255, 232, 3, 172]
abbrev dktX0_ages_5 : List UInt8 := dkwX0_ages_5 ++ []
def dkwX0_ages_4 : List UInt8 := [21, 4, 16, 8, 162, 0, 23, 42, 180, 0, 129, 21, 4, 45, 21, 4, 182, 0, 39, 136, 79, 132, 4, 1]
abbrev dktX0_ages_4 : List UInt8 := dkwX0_ages_4 ++ dktX0_ages_5
def dkwX0_ages_3 : List UInt8 := [21, 4, 4, 100, 182, 0, 39, 148, 157, 0, 6, 16, 252, 172, 132, 4, 1, 167, 255, 207, 3, 54, 4]
abbrev dktX0_ages_3 : List UInt8 := dkwX0_ages_3 ++ dktX0_ages_4
def dkwX0_ages_2 : List UInt8 := [154, 0, 16, 45, 3, 182, 0, 39, 9, 148, 153, 0, 27, 167, 0, 21, 45, 21, 4, 182, 0, 39, 45]
abbrev dktX0_ages_2 : List UInt8 := dkwX0_ages_2 ++ dktX0_ages_3
def dkwX0_ages_1 : List UInt8 := [153, 0, 5, 28, 172, 42, 180, 0, 13, 27, 50, 78, 3, 54, 4, 21, 4, 16, 8, 162, 0, 48, 21, 4]
abbrev dktX0_ages_1 : List UInt8 := dkwX0_ages_1 ++ dktX0_ages_2
def dkwX0_ages_0 : List UInt8 := [27, 184, 0, 9, 154, 0, 6, 16, 254, 172, 42, 27, 16, 8, 20, 0, 167, 182, 0, 188, 61, 28]
abbrev dktX0_ages_0 : List UInt8 := dkwX0_ages_0 ++ dktX0_ages_1
theorem dksX0_ages_0 : cX0_ages.data.toList.drop 0 = dktX0_ages_0 := by decide +kernel
theorem dksX0_ages_1 : cX0_ages.data.toList.drop 22 = dktX0_ages_1 := dk_seg dksX0_ages_0 22 rfl rfl
theorem dksX0_ages_2 : cX0_ages.data.toList.drop 46 = dktX0_ages_2 := dk_seg dksX0_ages_1 24 rfl rfl
theorem dksX0_ages_3 : cX0_ages.data.toList.drop 69 = dktX0_ages_3 := dk_seg dksX0_ages_2 23 rfl rfl
theorem dksX0_ages_4 : cX0_ages.data.toList.drop 92 = dktX0_ages_4 := dk_seg dksX0_ages_3 23 rfl rfl
theorem dksX0_ages_5 : cX0_ages.data.toList.drop 116 = dktX0_ages_5 := dk_seg dksX0_ages_4 24 rfl rfl
theorem dX0_ages_0 : decode cX0_ages 0 = .ok (.iload_n 1, 1) := dk_27 (dk_at dksX0_ages_0 0 rfl rfl)
theorem dX0_ages_1 : decode cX0_ages 1 = .ok (.invokestatic 9, 3) := dk_184 0 9 (dk_at dksX0_ages_0 1 rfl rfl)
theorem dX0_ages_4 : decode cX0_ages 4 = .ok (.ifCond .ne 6, 3) := dk_154 0 6 (dk_at dksX0_ages_0 4 rfl rfl)
theorem dX0_ages_7 : decode cX0_ages 7 = .ok (.bipush (-2), 2) := dk_16 254 (dk_at dksX0_ages_0 7 rfl rfl)
theorem dX0_ages_9 : decode cX0_ages 9 = .ok (.ireturn, 1) := dk_172 (dk_at dksX0_ages_0 9 rfl rfl)
theorem dX0_ages_10 : decode cX0_ages 10 = .ok (.aload_n 0, 1) := dk_42 (dk_at dksX0_ages_0 10 rfl rfl)
theorem dX0_ages_11 : decode cX0_ages 11 = .ok (.iload_n 1, 1) := dk_27 (dk_at dksX0_ages_0 11 rfl rfl)
theorem dX0_ages_12 : decode cX0_ages 12 = .ok (.bipush 8, 2) := dk_16 8 (dk_at dksX0_ages_0 12 rfl rfl)
theorem dX0_ages_14 : decode cX0_ages 14 = .ok (.ldc2_w 167, 3) := dk_20 0 167 (dk_at dksX0_ages_0 14 rfl rfl)
theorem dX0_ages_17 : decode cX0_ages 17 = .ok (.invokevirtual 188, 3) := dk_182 0 188 (dk_at dksX0_ages_0 17 rfl rfl)
theorem dX0_ages_20 : decode cX0_ages 20 = .ok (.istore_n 2, 1) := dk_61 (dk_at dksX0_ages_0 20 rfl rfl)
theorem dX0_ages_21 : decode cX0_ages 21 = .ok (.iload_n 2, 1) := dk_28 (dk_at dksX0_ages_0 21 rfl rfl)
theorem dX0_ages_22 : decode cX0_ages 22 = .ok (.ifCond .eq 5, 3) := dk_153 0 5 (dk_at dksX0_ages_1 0 rfl rfl)
theorem dX0_ages_25 : decode cX0_ages 25 = .ok (.iload_n 2, 1) := dk_28 (dk_at dksX0_ages_1 3 rfl rfl)
theorem dX0_ages_26 : decode cX0_ages 26 = .ok (.ireturn, 1) := dk_172 (dk_at dksX0_ages_1 4 rfl rfl)
theorem dX0_ages_27 : decode cX0_ages 27 = .ok (.aload_n 0, 1) := dk_42 (dk_at dksX0_ages_1 5 rfl rfl)
theorem dX0_ages_28 : decode cX0_ages 28 = .ok (.getfield 13, 3) := dk_180 0 13 (dk_at dksX0_ages_1 6 rfl rfl)
theorem dX0_ages_31 : decode cX0_ages 31 = .ok (.iload_n 1, 1) := dk_27 (dk_at dksX0_ages_1 9 rfl rfl)
theorem dX0_ages_32 : decode cX0_ages 32 = .ok (.aaload, 1) := dk_50 (dk_at dksX0_ages_1 10 rfl rfl)
theorem dX0_ages_33 : decode cX0_ages 33 = .ok (.astore_n 3, 1) := dk_78 (dk_at dksX0_ages_1 11 rfl rfl)
theorem dX0_ages_34 : decode cX0_ages 34 = .ok (.iconst 0, 1) := dk_3 (dk_at dksX0_ages_1 12 rfl rfl)
theorem dX0_ages_35 : decode cX0_ages 35 = .ok (.istore 4, 2) := dk_54 4 (dk_at dksX0_ages_1 13 rfl rfl)
theorem dX0_ages_37 : decode cX0_ages 37 = .ok (.iload 4, 2) := dk_21 4 (dk_at dksX0_ages_1 15 rfl rfl)
theorem dX0_ages_39 : decode cX0_ages 39 = .ok (.bipush 8, 2) := dk_16 8 (dk_at dksX0_ages_1 17 rfl rfl)
theorem dX0_ages_41 : decode cX0_ages 41 = .ok (.if_icmp .ge 48, 3) := dk_162 0 48 (dk_at dksX0_ages_1 19 rfl rfl)
theorem dX0_ages_44 : decode cX0_ages 44 = .ok (.iload 4, 2) := dk_21 4 (dk_at dksX0_ages_1 22 rfl rfl)
theorem dX0_ages_46 : decode cX0_ages 46 = .ok (.ifCond .ne 16, 3) := dk_154 0 16 (dk_at dksX0_ages_2 0 rfl rfl)
theorem dX0_ages_49 : decode cX0_ages 49 = .ok (.aload_n 3, 1) := dk_45 (dk_at dksX0_ages_2 3 rfl rfl)
theorem dX0_ages_50 : decode cX0_ages 50 = .ok (.iconst 0, 1) := dk_3 (dk_at dksX0_ages_2 4 rfl rfl)
theorem dX0_ages_51 : decode cX0_ages 51 = .ok (.invokevirtual 39, 3) := dk_182 0 39 (dk_at dksX0_ages_2 5 rfl rfl)
theorem dX0_ages_54 : decode cX0_ages 54 = .ok (.lconst 0, 1) := dk_9 (dk_at dksX0_ages_2 8 rfl rfl)
theorem dX0_ages_55 : decode cX0_ages 55 = .ok (.lcmp, 1) := dk_148 (dk_at dksX0_ages_2 9 rfl rfl)
theorem dX0_ages_56 : decode cX0_ages 56 = .ok (.ifCond .eq 27, 3) := dk_153 0 27 (dk_at dksX0_ages_2 10 rfl rfl)
theorem dX0_ages_59 : decode cX0_ages 59 = .ok (.goto 21, 3) := dk_167 0 21 (dk_at dksX0_ages_2 13 rfl rfl)
theorem dX0_ages_62 : decode cX0_ages 62 = .ok (.aload_n 3, 1) := dk_45 (dk_at dksX0_ages_2 16 rfl rfl)
theorem dX0_ages_63 : decode cX0_ages 63 = .ok (.iload 4, 2) := dk_21 4 (dk_at dksX0_ages_2 17 rfl rfl)
theorem dX0_ages_65 : decode cX0_ages 65 = .ok (.invokevirtual 39, 3) := dk_182 0 39 (dk_at dksX0_ages_2 19 rfl rfl)
theorem dX0_ages_68 : decode cX0_ages 68 = .ok (.aload_n 3, 1) := dk_45 (dk_at dksX0_ages_2 22 rfl rfl)
theorem dX0_ages_69 : decode cX0_ages 69 = .ok (.iload 4, 2) := dk_21 4 (dk_at dksX0_ages_3 0 rfl rfl)
theorem dX0_ages_71 : decode cX0_ages 71 = .ok (.iconst 1, 1) := dk_4 (dk_at dksX0_ages_3 2 rfl rfl)
theorem dX0_ages_72 : decode cX0_ages 72 = .ok (.isub, 1) := dk_100 (dk_at dksX0_ages_3 3 rfl rfl)
theorem dX0_ages_73 : decode cX0_ages 73 = .ok (.invokevirtual 39, 3) := dk_182 0 39 (dk_at dksX0_ages_3 4 rfl rfl)
theorem dX0_ages_76 : decode cX0_ages 76 = .ok (.lcmp, 1) := dk_148 (dk_at dksX0_ages_3 7 rfl rfl)
theorem dX0_ages_77 : decode cX0_ages 77 = .ok (.ifCond .gt 6, 3) := dk_157 0 6 (dk_at dksX0_ages_3 8 rfl rfl)
theorem dX0_ages_80 : decode cX0_ages 80 = .ok (.bipush (-4), 2) := dk_16 252 (dk_at dksX0_ages_3 11 rfl rfl)
theorem dX0_ages_82 : decode cX0_ages 82 = .ok (.ireturn, 1) := dk_172 (dk_at dksX0_ages_3 13 rfl rfl)
theorem dX0_ages_83 : decode cX0_ages 83 = .ok (.iinc 4 1, 3) := dk_132 4 1 (dk_at dksX0_ages_3 14 rfl rfl)
theorem dX0_ages_86 : decode cX0_ages 86 = .ok (.goto (-49), 3) := dk_167 255 207 (dk_at dksX0_ages_3 17 rfl rfl)
theorem dX0_ages_89 : decode cX0_ages 89 = .ok (.iconst 0, 1) := dk_3 (dk_at dksX0_ages_3 20 rfl rfl)
theorem dX0_ages_90 : decode cX0_ages 90 = .ok (.istore 4, 2) := dk_54 4 (dk_at dksX0_ages_3 21 rfl rfl)
theorem dX0_ages_92 : decode cX0_ages 92 = .ok (.iload 4, 2) := dk_21 4 (dk_at dksX0_ages_4 0 rfl rfl)
theorem dX0_ages_94 : decode cX0_ages 94 = .ok (.bipush 8, 2) := dk_16 8 (dk_at dksX0_ages_4 2 rfl rfl)
theorem dX0_ages_96 : decode cX0_ages 96 = .ok (.if_icmp .ge 23, 3) := dk_162 0 23 (dk_at dksX0_ages_4 4 rfl rfl)
theorem dX0_ages_99 : decode cX0_ages 99 = .ok (.aload_n 0, 1) := dk_42 (dk_at dksX0_ages_4 7 rfl rfl)
theorem dX0_ages_100 : decode cX0_ages 100 = .ok (.getfield 129, 3) := dk_180 0 129 (dk_at dksX0_ages_4 8 rfl rfl)
theorem dX0_ages_103 : decode cX0_ages 103 = .ok (.iload 4, 2) := dk_21 4 (dk_at dksX0_ages_4 11 rfl rfl)
theorem dX0_ages_105 : decode cX0_ages 105 = .ok (.aload_n 3, 1) := dk_45 (dk_at dksX0_ages_4 13 rfl rfl)
theorem dX0_ages_106 : decode cX0_ages 106 = .ok (.iload 4, 2) := dk_21 4 (dk_at dksX0_ages_4 14 rfl rfl)
theorem dX0_ages_108 : decode cX0_ages 108 = .ok (.invokevirtual 39, 3) := dk_182 0 39 (dk_at dksX0_ages_4 16 rfl rfl)
theorem dX0_ages_111 : decode cX0_ages 111 = .ok (.l2i, 1) := dk_136 (dk_at dksX0_ages_4 19 rfl rfl)
theorem dX0_ages_112 : decode cX0_ages 112 = .ok (.iastore, 1) := dk_79 (dk_at dksX0_ages_4 20 rfl rfl)
theorem dX0_ages_113 : decode cX0_ages 113 = .ok (.iinc 4 1, 3) := dk_132 4 1 (dk_at dksX0_ages_4 21 rfl rfl)
theorem dX0_ages_116 : decode cX0_ages 116 = .ok (.goto (-24), 3) := dk_167 255 232 (dk_at dksX0_ages_5 0 rfl rfl)
theorem dX0_ages_119 : decode cX0_ages 119 = .ok (.iconst 0, 1) := dk_3 (dk_at dksX0_ages_5 3 rfl rfl)
theorem dX0_ages_120 : decode cX0_ages 120 = .ok (.ireturn, 1) := dk_172 (dk_at dksX0_ages_5 4 rfl rfl)
abbrev cX0_killed : ByteArray := prog_1_method_61_code
def yX0_killed : MethodName := ⟨RX0, "killed", "(IIIIIII)I"⟩
def dkwX0_killed_5 : List UInt8 := [172, 42, 3, 21, 6, 4, 182, 1, 125, 172, 42, 3, 21, 6, 3, 182, 1, 125, 172]
abbrev dktX0_killed_5 : List UInt8 := dkwX0_killed_5 ++ []
def dkwX0_killed_4 : List UInt8 := [42, 180, 1, 116, 172, 42, 21, 6, 21, 6, 4, 182, 1, 125, 172, 42, 21, 6, 21, 6, 3, 182, 1, 125]
abbrev dktX0_killed_4 : List UInt8 := dkwX0_killed_4 ++ dktX0_killed_5
def dkwX0_killed_3 : List UInt8 := [170, 0, 0, 0, 63, 0, 0, 0, 0, 0, 0, 0, 3, 0, 0, 0, 29, 0, 0, 0, 34, 0, 0, 0, 44, 0, 0, 0, 54]
abbrev dktX0_killed_3 : List UInt8 := dkwX0_killed_3 ++ dktX0_killed_4
def dkwX0_killed_2 : List UInt8 := [16, 254, 172, 42, 28, 27, 29, 21, 4, 21, 5, 182, 1, 122, 21, 7]
abbrev dktX0_killed_2 : List UInt8 := dkwX0_killed_2 ++ dktX0_killed_3
def dkwX0_killed_1 : List UInt8 := [9, 20, 0, 159, 184, 0, 5, 153, 0, 16, 21, 7, 133, 9, 20, 1, 17, 184, 0, 5, 154, 0, 6]
abbrev dktX0_killed_1 : List UInt8 := dkwX0_killed_1 ++ dktX0_killed_2
def dkwX0_killed_0 : List UInt8 := [42, 27, 29, 21, 4, 21, 5, 182, 1, 65, 153, 0, 37, 42, 28, 182, 1, 88, 153, 0, 29, 21, 6, 133]
abbrev dktX0_killed_0 : List UInt8 := dkwX0_killed_0 ++ dktX0_killed_1
theorem dksX0_killed_0 : cX0_killed.data.toList.drop 0 = dktX0_killed_0 := by decide +kernel
theorem dksX0_killed_1 : cX0_killed.data.toList.drop 24 = dktX0_killed_1 := dk_seg dksX0_killed_0 24 rfl rfl
theorem dksX0_killed_2 : cX0_killed.data.toList.drop 47 = dktX0_killed_2 := dk_seg dksX0_killed_1 23 rfl rfl
theorem dksX0_killed_3 : cX0_killed.data.toList.drop 63 = dktX0_killed_3 := dk_seg dksX0_killed_2 16 rfl rfl
theorem dksX0_killed_4 : cX0_killed.data.toList.drop 92 = dktX0_killed_4 := dk_seg dksX0_killed_3 29 rfl rfl
theorem dksX0_killed_5 : cX0_killed.data.toList.drop 116 = dktX0_killed_5 := dk_seg dksX0_killed_4 24 rfl rfl
theorem dX0_killed_0 : decode cX0_killed 0 = .ok (.aload_n 0, 1) := dk_42 (dk_at dksX0_killed_0 0 rfl rfl)
theorem dX0_killed_1 : decode cX0_killed 1 = .ok (.iload_n 1, 1) := dk_27 (dk_at dksX0_killed_0 1 rfl rfl)
theorem dX0_killed_2 : decode cX0_killed 2 = .ok (.iload_n 3, 1) := dk_29 (dk_at dksX0_killed_0 2 rfl rfl)
theorem dX0_killed_3 : decode cX0_killed 3 = .ok (.iload 4, 2) := dk_21 4 (dk_at dksX0_killed_0 3 rfl rfl)
theorem dX0_killed_5 : decode cX0_killed 5 = .ok (.iload 5, 2) := dk_21 5 (dk_at dksX0_killed_0 5 rfl rfl)
theorem dX0_killed_7 : decode cX0_killed 7 = .ok (.invokevirtual 321, 3) := dk_182 1 65 (dk_at dksX0_killed_0 7 rfl rfl)
theorem dX0_killed_10 : decode cX0_killed 10 = .ok (.ifCond .eq 37, 3) := dk_153 0 37 (dk_at dksX0_killed_0 10 rfl rfl)
theorem dX0_killed_13 : decode cX0_killed 13 = .ok (.aload_n 0, 1) := dk_42 (dk_at dksX0_killed_0 13 rfl rfl)
theorem dX0_killed_14 : decode cX0_killed 14 = .ok (.iload_n 2, 1) := dk_28 (dk_at dksX0_killed_0 14 rfl rfl)
theorem dX0_killed_15 : decode cX0_killed 15 = .ok (.invokevirtual 344, 3) := dk_182 1 88 (dk_at dksX0_killed_0 15 rfl rfl)
theorem dX0_killed_18 : decode cX0_killed 18 = .ok (.ifCond .eq 29, 3) := dk_153 0 29 (dk_at dksX0_killed_0 18 rfl rfl)
theorem dX0_killed_21 : decode cX0_killed 21 = .ok (.iload 6, 2) := dk_21 6 (dk_at dksX0_killed_0 21 rfl rfl)
theorem dX0_killed_23 : decode cX0_killed 23 = .ok (.i2l, 1) := dk_133 (dk_at dksX0_killed_0 23 rfl rfl)
theorem dX0_killed_24 : decode cX0_killed 24 = .ok (.lconst 0, 1) := dk_9 (dk_at dksX0_killed_1 0 rfl rfl)
theorem dX0_killed_25 : decode cX0_killed 25 = .ok (.ldc2_w 159, 3) := dk_20 0 159 (dk_at dksX0_killed_1 1 rfl rfl)
theorem dX0_killed_28 : decode cX0_killed 28 = .ok (.invokestatic 5, 3) := dk_184 0 5 (dk_at dksX0_killed_1 4 rfl rfl)
theorem dX0_killed_31 : decode cX0_killed 31 = .ok (.ifCond .eq 16, 3) := dk_153 0 16 (dk_at dksX0_killed_1 7 rfl rfl)
theorem dX0_killed_34 : decode cX0_killed 34 = .ok (.iload 7, 2) := dk_21 7 (dk_at dksX0_killed_1 10 rfl rfl)
theorem dX0_killed_36 : decode cX0_killed 36 = .ok (.i2l, 1) := dk_133 (dk_at dksX0_killed_1 12 rfl rfl)
theorem dX0_killed_37 : decode cX0_killed 37 = .ok (.lconst 0, 1) := dk_9 (dk_at dksX0_killed_1 13 rfl rfl)
theorem dX0_killed_38 : decode cX0_killed 38 = .ok (.ldc2_w 273, 3) := dk_20 1 17 (dk_at dksX0_killed_1 14 rfl rfl)
theorem dX0_killed_41 : decode cX0_killed 41 = .ok (.invokestatic 5, 3) := dk_184 0 5 (dk_at dksX0_killed_1 17 rfl rfl)
theorem dX0_killed_44 : decode cX0_killed 44 = .ok (.ifCond .ne 6, 3) := dk_154 0 6 (dk_at dksX0_killed_1 20 rfl rfl)
theorem dX0_killed_47 : decode cX0_killed 47 = .ok (.bipush (-2), 2) := dk_16 254 (dk_at dksX0_killed_2 0 rfl rfl)
theorem dX0_killed_49 : decode cX0_killed 49 = .ok (.ireturn, 1) := dk_172 (dk_at dksX0_killed_2 2 rfl rfl)
theorem dX0_killed_50 : decode cX0_killed 50 = .ok (.aload_n 0, 1) := dk_42 (dk_at dksX0_killed_2 3 rfl rfl)
theorem dX0_killed_51 : decode cX0_killed 51 = .ok (.iload_n 2, 1) := dk_28 (dk_at dksX0_killed_2 4 rfl rfl)
theorem dX0_killed_52 : decode cX0_killed 52 = .ok (.iload_n 1, 1) := dk_27 (dk_at dksX0_killed_2 5 rfl rfl)
theorem dX0_killed_53 : decode cX0_killed 53 = .ok (.iload_n 3, 1) := dk_29 (dk_at dksX0_killed_2 6 rfl rfl)
theorem dX0_killed_54 : decode cX0_killed 54 = .ok (.iload 4, 2) := dk_21 4 (dk_at dksX0_killed_2 7 rfl rfl)
theorem dX0_killed_56 : decode cX0_killed 56 = .ok (.iload 5, 2) := dk_21 5 (dk_at dksX0_killed_2 9 rfl rfl)
theorem dX0_killed_58 : decode cX0_killed 58 = .ok (.invokevirtual 378, 3) := dk_182 1 122 (dk_at dksX0_killed_2 11 rfl rfl)
theorem dX0_killed_61 : decode cX0_killed 61 = .ok (.iload 7, 2) := dk_21 7 (dk_at dksX0_killed_2 14 rfl rfl)
theorem dX0_killed_63 : decode cX0_killed 63 = .ok (.tableswitch 63 0 3 #[29, 34, 44, 54], 29) := by decide +kernel
theorem dX0_killed_92 : decode cX0_killed 92 = .ok (.aload_n 0, 1) := dk_42 (dk_at dksX0_killed_4 0 rfl rfl)
theorem dX0_killed_93 : decode cX0_killed 93 = .ok (.getfield 372, 3) := dk_180 1 116 (dk_at dksX0_killed_4 1 rfl rfl)
theorem dX0_killed_96 : decode cX0_killed 96 = .ok (.ireturn, 1) := dk_172 (dk_at dksX0_killed_4 4 rfl rfl)
theorem dX0_killed_97 : decode cX0_killed 97 = .ok (.aload_n 0, 1) := dk_42 (dk_at dksX0_killed_4 5 rfl rfl)
theorem dX0_killed_98 : decode cX0_killed 98 = .ok (.iload 6, 2) := dk_21 6 (dk_at dksX0_killed_4 6 rfl rfl)
theorem dX0_killed_100 : decode cX0_killed 100 = .ok (.iload 6, 2) := dk_21 6 (dk_at dksX0_killed_4 8 rfl rfl)
theorem dX0_killed_102 : decode cX0_killed 102 = .ok (.iconst 1, 1) := dk_4 (dk_at dksX0_killed_4 10 rfl rfl)
theorem dX0_killed_103 : decode cX0_killed 103 = .ok (.invokevirtual 381, 3) := dk_182 1 125 (dk_at dksX0_killed_4 11 rfl rfl)
theorem dX0_killed_106 : decode cX0_killed 106 = .ok (.ireturn, 1) := dk_172 (dk_at dksX0_killed_4 14 rfl rfl)
theorem dX0_killed_107 : decode cX0_killed 107 = .ok (.aload_n 0, 1) := dk_42 (dk_at dksX0_killed_4 15 rfl rfl)
theorem dX0_killed_108 : decode cX0_killed 108 = .ok (.iload 6, 2) := dk_21 6 (dk_at dksX0_killed_4 16 rfl rfl)
theorem dX0_killed_110 : decode cX0_killed 110 = .ok (.iload 6, 2) := dk_21 6 (dk_at dksX0_killed_4 18 rfl rfl)
theorem dX0_killed_112 : decode cX0_killed 112 = .ok (.iconst 0, 1) := dk_3 (dk_at dksX0_killed_4 20 rfl rfl)
theorem dX0_killed_113 : decode cX0_killed 113 = .ok (.invokevirtual 381, 3) := dk_182 1 125 (dk_at dksX0_killed_4 21 rfl rfl)
theorem dX0_killed_116 : decode cX0_killed 116 = .ok (.ireturn, 1) := dk_172 (dk_at dksX0_killed_5 0 rfl rfl)
theorem dX0_killed_117 : decode cX0_killed 117 = .ok (.aload_n 0, 1) := dk_42 (dk_at dksX0_killed_5 1 rfl rfl)
theorem dX0_killed_118 : decode cX0_killed 118 = .ok (.iconst 0, 1) := dk_3 (dk_at dksX0_killed_5 2 rfl rfl)
theorem dX0_killed_119 : decode cX0_killed 119 = .ok (.iload 6, 2) := dk_21 6 (dk_at dksX0_killed_5 3 rfl rfl)
theorem dX0_killed_121 : decode cX0_killed 121 = .ok (.iconst 1, 1) := dk_4 (dk_at dksX0_killed_5 5 rfl rfl)
theorem dX0_killed_122 : decode cX0_killed 122 = .ok (.invokevirtual 381, 3) := dk_182 1 125 (dk_at dksX0_killed_5 6 rfl rfl)
theorem dX0_killed_125 : decode cX0_killed 125 = .ok (.ireturn, 1) := dk_172 (dk_at dksX0_killed_5 9 rfl rfl)
theorem dX0_killed_126 : decode cX0_killed 126 = .ok (.aload_n 0, 1) := dk_42 (dk_at dksX0_killed_5 10 rfl rfl)
theorem dX0_killed_127 : decode cX0_killed 127 = .ok (.iconst 0, 1) := dk_3 (dk_at dksX0_killed_5 11 rfl rfl)
theorem dX0_killed_128 : decode cX0_killed 128 = .ok (.iload 6, 2) := dk_21 6 (dk_at dksX0_killed_5 12 rfl rfl)
theorem dX0_killed_130 : decode cX0_killed 130 = .ok (.iconst 0, 1) := dk_3 (dk_at dksX0_killed_5 14 rfl rfl)
theorem dX0_killed_131 : decode cX0_killed 131 = .ok (.invokevirtual 381, 3) := dk_182 1 125 (dk_at dksX0_killed_5 15 rfl rfl)
theorem dX0_killed_134 : decode cX0_killed 134 = .ok (.ireturn, 1) := dk_172 (dk_at dksX0_killed_5 18 rfl rfl)
abbrev cX0_tells_2 : ByteArray := prog_1_method_59_code
def yX0_tells_2 : MethodName := ⟨RX0, "tells", "(IIIII)V"⟩
def dkwX0_tells_2_6 : List UInt8 := [21, 9, 182, 1, 119, 79, 42, 89, 180, 1, 116, 4, 96, 181, 1, 116, 132, 7, 1, 167, 255, 122, 177]
abbrev dktX0_tells_2_6 : List UInt8 := dkwX0_tells_2_6 ++ []
def dkwX0_tells_2_5 : List UInt8 := [180, 0, 132, 42, 180, 1, 116, 42, 21, 8, 182, 1, 119, 79, 42, 180, 0, 135, 42, 180, 1, 116, 42]
abbrev dktX0_tells_2_5 : List UInt8 := dkwX0_tells_2_5 ++ dktX0_tells_2_6
def dkwX0_tells_2_4 : List UInt8 := [180, 0, 57, 21, 7, 50, 25, 6, 182, 1, 113, 54, 9, 21, 8, 21, 9, 164, 0, 6, 167, 0, 43, 42]
abbrev dktX0_tells_2_4 : List UInt8 := dkwX0_tells_2_4 ++ dktX0_tells_2_5
def dkwX0_tells_2_3 : List UInt8 := [160, 0, 6, 167, 0, 83, 42, 42, 180, 0, 57, 21, 7, 50, 25, 6, 182, 1, 109, 54, 8, 42, 42]
abbrev dktX0_tells_2_3 : List UInt8 := dkwX0_tells_2_3 ++ dktX0_tells_2_4
def dkwX0_tells_2_2 : List UInt8 := [180, 0, 57, 21, 7, 50, 180, 1, 42, 5, 160, 0, 20, 42, 180, 0, 57, 21, 7, 50, 180, 1, 103, 2]
abbrev dktX0_tells_2_2 : List UInt8 := dkwX0_tells_2_2 ++ dktX0_tells_2_3
def dkwX0_tells_2_1 : List UInt8 := [54, 7, 21, 7, 42, 180, 0, 156, 162, 0, 131, 42, 180, 0, 117, 21, 7, 46, 27, 160, 0, 114, 42]
abbrev dktX0_tells_2_1 : List UInt8 := dkwX0_tells_2_1 ++ dktX0_tells_2_2
def dkwX0_tells_2_0 : List UInt8 := [42, 28, 29, 21, 4, 21, 5, 182, 1, 69, 42, 3, 181, 1, 116, 42, 180, 0, 51, 27, 50, 58, 6, 3]
abbrev dktX0_tells_2_0 : List UInt8 := dkwX0_tells_2_0 ++ dktX0_tells_2_1
theorem dksX0_tells_2_0 : cX0_tells_2.data.toList.drop 0 = dktX0_tells_2_0 := by decide +kernel
theorem dksX0_tells_2_1 : cX0_tells_2.data.toList.drop 24 = dktX0_tells_2_1 := dk_seg dksX0_tells_2_0 24 rfl rfl
theorem dksX0_tells_2_2 : cX0_tells_2.data.toList.drop 47 = dktX0_tells_2_2 := dk_seg dksX0_tells_2_1 23 rfl rfl
theorem dksX0_tells_2_3 : cX0_tells_2.data.toList.drop 71 = dktX0_tells_2_3 := dk_seg dksX0_tells_2_2 24 rfl rfl
theorem dksX0_tells_2_4 : cX0_tells_2.data.toList.drop 94 = dktX0_tells_2_4 := dk_seg dksX0_tells_2_3 23 rfl rfl
theorem dksX0_tells_2_5 : cX0_tells_2.data.toList.drop 118 = dktX0_tells_2_5 := dk_seg dksX0_tells_2_4 24 rfl rfl
theorem dksX0_tells_2_6 : cX0_tells_2.data.toList.drop 141 = dktX0_tells_2_6 := dk_seg dksX0_tells_2_5 23 rfl rfl
theorem dX0_tells_2_0 : decode cX0_tells_2 0 = .ok (.aload_n 0, 1) := dk_42 (dk_at dksX0_tells_2_0 0 rfl rfl)
theorem dX0_tells_2_1 : decode cX0_tells_2 1 = .ok (.iload_n 2, 1) := dk_28 (dk_at dksX0_tells_2_0 1 rfl rfl)
theorem dX0_tells_2_2 : decode cX0_tells_2 2 = .ok (.iload_n 3, 1) := dk_29 (dk_at dksX0_tells_2_0 2 rfl rfl)
theorem dX0_tells_2_3 : decode cX0_tells_2 3 = .ok (.iload 4, 2) := dk_21 4 (dk_at dksX0_tells_2_0 3 rfl rfl)
theorem dX0_tells_2_5 : decode cX0_tells_2 5 = .ok (.iload 5, 2) := dk_21 5 (dk_at dksX0_tells_2_0 5 rfl rfl)
theorem dX0_tells_2_7 : decode cX0_tells_2 7 = .ok (.invokevirtual 325, 3) := dk_182 1 69 (dk_at dksX0_tells_2_0 7 rfl rfl)
theorem dX0_tells_2_10 : decode cX0_tells_2 10 = .ok (.aload_n 0, 1) := dk_42 (dk_at dksX0_tells_2_0 10 rfl rfl)
theorem dX0_tells_2_11 : decode cX0_tells_2 11 = .ok (.iconst 0, 1) := dk_3 (dk_at dksX0_tells_2_0 11 rfl rfl)
theorem dX0_tells_2_12 : decode cX0_tells_2 12 = .ok (.putfield 372, 3) := dk_181 1 116 (dk_at dksX0_tells_2_0 12 rfl rfl)
theorem dX0_tells_2_15 : decode cX0_tells_2 15 = .ok (.aload_n 0, 1) := dk_42 (dk_at dksX0_tells_2_0 15 rfl rfl)
theorem dX0_tells_2_16 : decode cX0_tells_2 16 = .ok (.getfield 51, 3) := dk_180 0 51 (dk_at dksX0_tells_2_0 16 rfl rfl)
theorem dX0_tells_2_19 : decode cX0_tells_2 19 = .ok (.iload_n 1, 1) := dk_27 (dk_at dksX0_tells_2_0 19 rfl rfl)
theorem dX0_tells_2_20 : decode cX0_tells_2 20 = .ok (.aaload, 1) := dk_50 (dk_at dksX0_tells_2_0 20 rfl rfl)
theorem dX0_tells_2_21 : decode cX0_tells_2 21 = .ok (.astore 6, 2) := dk_58 6 (dk_at dksX0_tells_2_0 21 rfl rfl)
theorem dX0_tells_2_23 : decode cX0_tells_2 23 = .ok (.iconst 0, 1) := dk_3 (dk_at dksX0_tells_2_0 23 rfl rfl)
theorem dX0_tells_2_24 : decode cX0_tells_2 24 = .ok (.istore 7, 2) := dk_54 7 (dk_at dksX0_tells_2_1 0 rfl rfl)
theorem dX0_tells_2_26 : decode cX0_tells_2 26 = .ok (.iload 7, 2) := dk_21 7 (dk_at dksX0_tells_2_1 2 rfl rfl)
theorem dX0_tells_2_28 : decode cX0_tells_2 28 = .ok (.aload_n 0, 1) := dk_42 (dk_at dksX0_tells_2_1 4 rfl rfl)
theorem dX0_tells_2_29 : decode cX0_tells_2 29 = .ok (.getfield 156, 3) := dk_180 0 156 (dk_at dksX0_tells_2_1 5 rfl rfl)
theorem dX0_tells_2_32 : decode cX0_tells_2 32 = .ok (.if_icmp .ge 131, 3) := dk_162 0 131 (dk_at dksX0_tells_2_1 8 rfl rfl)
theorem dX0_tells_2_35 : decode cX0_tells_2 35 = .ok (.aload_n 0, 1) := dk_42 (dk_at dksX0_tells_2_1 11 rfl rfl)
theorem dX0_tells_2_36 : decode cX0_tells_2 36 = .ok (.getfield 117, 3) := dk_180 0 117 (dk_at dksX0_tells_2_1 12 rfl rfl)
theorem dX0_tells_2_39 : decode cX0_tells_2 39 = .ok (.iload 7, 2) := dk_21 7 (dk_at dksX0_tells_2_1 15 rfl rfl)
theorem dX0_tells_2_41 : decode cX0_tells_2 41 = .ok (.iaload, 1) := dk_46 (dk_at dksX0_tells_2_1 17 rfl rfl)
theorem dX0_tells_2_42 : decode cX0_tells_2 42 = .ok (.iload_n 1, 1) := dk_27 (dk_at dksX0_tells_2_1 18 rfl rfl)
theorem dX0_tells_2_43 : decode cX0_tells_2 43 = .ok (.if_icmp .ne 114, 3) := dk_160 0 114 (dk_at dksX0_tells_2_1 19 rfl rfl)
theorem dX0_tells_2_46 : decode cX0_tells_2 46 = .ok (.aload_n 0, 1) := dk_42 (dk_at dksX0_tells_2_1 22 rfl rfl)
theorem dX0_tells_2_47 : decode cX0_tells_2 47 = .ok (.getfield 57, 3) := dk_180 0 57 (dk_at dksX0_tells_2_2 0 rfl rfl)
theorem dX0_tells_2_50 : decode cX0_tells_2 50 = .ok (.iload 7, 2) := dk_21 7 (dk_at dksX0_tells_2_2 3 rfl rfl)
theorem dX0_tells_2_52 : decode cX0_tells_2 52 = .ok (.aaload, 1) := dk_50 (dk_at dksX0_tells_2_2 5 rfl rfl)
theorem dX0_tells_2_53 : decode cX0_tells_2 53 = .ok (.getfield 298, 3) := dk_180 1 42 (dk_at dksX0_tells_2_2 6 rfl rfl)
theorem dX0_tells_2_56 : decode cX0_tells_2 56 = .ok (.iconst 2, 1) := dk_5 (dk_at dksX0_tells_2_2 9 rfl rfl)
theorem dX0_tells_2_57 : decode cX0_tells_2 57 = .ok (.if_icmp .ne 20, 3) := dk_160 0 20 (dk_at dksX0_tells_2_2 10 rfl rfl)
theorem dX0_tells_2_60 : decode cX0_tells_2 60 = .ok (.aload_n 0, 1) := dk_42 (dk_at dksX0_tells_2_2 13 rfl rfl)
theorem dX0_tells_2_61 : decode cX0_tells_2 61 = .ok (.getfield 57, 3) := dk_180 0 57 (dk_at dksX0_tells_2_2 14 rfl rfl)
theorem dX0_tells_2_64 : decode cX0_tells_2 64 = .ok (.iload 7, 2) := dk_21 7 (dk_at dksX0_tells_2_2 17 rfl rfl)
theorem dX0_tells_2_66 : decode cX0_tells_2 66 = .ok (.aaload, 1) := dk_50 (dk_at dksX0_tells_2_2 19 rfl rfl)
theorem dX0_tells_2_67 : decode cX0_tells_2 67 = .ok (.getfield 359, 3) := dk_180 1 103 (dk_at dksX0_tells_2_2 20 rfl rfl)
theorem dX0_tells_2_70 : decode cX0_tells_2 70 = .ok (.iconst (-1), 1) := dk_2 (dk_at dksX0_tells_2_2 23 rfl rfl)
theorem dX0_tells_2_71 : decode cX0_tells_2 71 = .ok (.if_icmp .ne 6, 3) := dk_160 0 6 (dk_at dksX0_tells_2_3 0 rfl rfl)
theorem dX0_tells_2_74 : decode cX0_tells_2 74 = .ok (.goto 83, 3) := dk_167 0 83 (dk_at dksX0_tells_2_3 3 rfl rfl)
theorem dX0_tells_2_77 : decode cX0_tells_2 77 = .ok (.aload_n 0, 1) := dk_42 (dk_at dksX0_tells_2_3 6 rfl rfl)
theorem dX0_tells_2_78 : decode cX0_tells_2 78 = .ok (.aload_n 0, 1) := dk_42 (dk_at dksX0_tells_2_3 7 rfl rfl)
theorem dX0_tells_2_79 : decode cX0_tells_2 79 = .ok (.getfield 57, 3) := dk_180 0 57 (dk_at dksX0_tells_2_3 8 rfl rfl)
theorem dX0_tells_2_82 : decode cX0_tells_2 82 = .ok (.iload 7, 2) := dk_21 7 (dk_at dksX0_tells_2_3 11 rfl rfl)
theorem dX0_tells_2_84 : decode cX0_tells_2 84 = .ok (.aaload, 1) := dk_50 (dk_at dksX0_tells_2_3 13 rfl rfl)
theorem dX0_tells_2_85 : decode cX0_tells_2 85 = .ok (.aload 6, 2) := dk_25 6 (dk_at dksX0_tells_2_3 14 rfl rfl)
theorem dX0_tells_2_87 : decode cX0_tells_2 87 = .ok (.invokevirtual 365, 3) := dk_182 1 109 (dk_at dksX0_tells_2_3 16 rfl rfl)
theorem dX0_tells_2_90 : decode cX0_tells_2 90 = .ok (.istore 8, 2) := dk_54 8 (dk_at dksX0_tells_2_3 19 rfl rfl)
theorem dX0_tells_2_92 : decode cX0_tells_2 92 = .ok (.aload_n 0, 1) := dk_42 (dk_at dksX0_tells_2_3 21 rfl rfl)
theorem dX0_tells_2_93 : decode cX0_tells_2 93 = .ok (.aload_n 0, 1) := dk_42 (dk_at dksX0_tells_2_3 22 rfl rfl)
theorem dX0_tells_2_94 : decode cX0_tells_2 94 = .ok (.getfield 57, 3) := dk_180 0 57 (dk_at dksX0_tells_2_4 0 rfl rfl)
theorem dX0_tells_2_97 : decode cX0_tells_2 97 = .ok (.iload 7, 2) := dk_21 7 (dk_at dksX0_tells_2_4 3 rfl rfl)
theorem dX0_tells_2_99 : decode cX0_tells_2 99 = .ok (.aaload, 1) := dk_50 (dk_at dksX0_tells_2_4 5 rfl rfl)
theorem dX0_tells_2_100 : decode cX0_tells_2 100 = .ok (.aload 6, 2) := dk_25 6 (dk_at dksX0_tells_2_4 6 rfl rfl)
theorem dX0_tells_2_102 : decode cX0_tells_2 102 = .ok (.invokevirtual 369, 3) := dk_182 1 113 (dk_at dksX0_tells_2_4 8 rfl rfl)
theorem dX0_tells_2_105 : decode cX0_tells_2 105 = .ok (.istore 9, 2) := dk_54 9 (dk_at dksX0_tells_2_4 11 rfl rfl)
theorem dX0_tells_2_107 : decode cX0_tells_2 107 = .ok (.iload 8, 2) := dk_21 8 (dk_at dksX0_tells_2_4 13 rfl rfl)
theorem dX0_tells_2_109 : decode cX0_tells_2 109 = .ok (.iload 9, 2) := dk_21 9 (dk_at dksX0_tells_2_4 15 rfl rfl)
theorem dX0_tells_2_111 : decode cX0_tells_2 111 = .ok (.if_icmp .le 6, 3) := dk_164 0 6 (dk_at dksX0_tells_2_4 17 rfl rfl)
theorem dX0_tells_2_114 : decode cX0_tells_2 114 = .ok (.goto 43, 3) := dk_167 0 43 (dk_at dksX0_tells_2_4 20 rfl rfl)
theorem dX0_tells_2_117 : decode cX0_tells_2 117 = .ok (.aload_n 0, 1) := dk_42 (dk_at dksX0_tells_2_4 23 rfl rfl)
theorem dX0_tells_2_118 : decode cX0_tells_2 118 = .ok (.getfield 132, 3) := dk_180 0 132 (dk_at dksX0_tells_2_5 0 rfl rfl)
theorem dX0_tells_2_121 : decode cX0_tells_2 121 = .ok (.aload_n 0, 1) := dk_42 (dk_at dksX0_tells_2_5 3 rfl rfl)
theorem dX0_tells_2_122 : decode cX0_tells_2 122 = .ok (.getfield 372, 3) := dk_180 1 116 (dk_at dksX0_tells_2_5 4 rfl rfl)
theorem dX0_tells_2_125 : decode cX0_tells_2 125 = .ok (.aload_n 0, 1) := dk_42 (dk_at dksX0_tells_2_5 7 rfl rfl)
theorem dX0_tells_2_126 : decode cX0_tells_2 126 = .ok (.iload 8, 2) := dk_21 8 (dk_at dksX0_tells_2_5 8 rfl rfl)
theorem dX0_tells_2_128 : decode cX0_tells_2 128 = .ok (.invokevirtual 375, 3) := dk_182 1 119 (dk_at dksX0_tells_2_5 10 rfl rfl)
theorem dX0_tells_2_131 : decode cX0_tells_2 131 = .ok (.iastore, 1) := dk_79 (dk_at dksX0_tells_2_5 13 rfl rfl)
theorem dX0_tells_2_132 : decode cX0_tells_2 132 = .ok (.aload_n 0, 1) := dk_42 (dk_at dksX0_tells_2_5 14 rfl rfl)
theorem dX0_tells_2_133 : decode cX0_tells_2 133 = .ok (.getfield 135, 3) := dk_180 0 135 (dk_at dksX0_tells_2_5 15 rfl rfl)
theorem dX0_tells_2_136 : decode cX0_tells_2 136 = .ok (.aload_n 0, 1) := dk_42 (dk_at dksX0_tells_2_5 18 rfl rfl)
theorem dX0_tells_2_137 : decode cX0_tells_2 137 = .ok (.getfield 372, 3) := dk_180 1 116 (dk_at dksX0_tells_2_5 19 rfl rfl)
theorem dX0_tells_2_140 : decode cX0_tells_2 140 = .ok (.aload_n 0, 1) := dk_42 (dk_at dksX0_tells_2_5 22 rfl rfl)
theorem dX0_tells_2_141 : decode cX0_tells_2 141 = .ok (.iload 9, 2) := dk_21 9 (dk_at dksX0_tells_2_6 0 rfl rfl)
theorem dX0_tells_2_143 : decode cX0_tells_2 143 = .ok (.invokevirtual 375, 3) := dk_182 1 119 (dk_at dksX0_tells_2_6 2 rfl rfl)
theorem dX0_tells_2_146 : decode cX0_tells_2 146 = .ok (.iastore, 1) := dk_79 (dk_at dksX0_tells_2_6 5 rfl rfl)
theorem dX0_tells_2_147 : decode cX0_tells_2 147 = .ok (.aload_n 0, 1) := dk_42 (dk_at dksX0_tells_2_6 6 rfl rfl)
theorem dX0_tells_2_148 : decode cX0_tells_2 148 = .ok (.dup, 1) := dk_89 (dk_at dksX0_tells_2_6 7 rfl rfl)
theorem dX0_tells_2_149 : decode cX0_tells_2 149 = .ok (.getfield 372, 3) := dk_180 1 116 (dk_at dksX0_tells_2_6 8 rfl rfl)
theorem dX0_tells_2_152 : decode cX0_tells_2 152 = .ok (.iconst 1, 1) := dk_4 (dk_at dksX0_tells_2_6 11 rfl rfl)
theorem dX0_tells_2_153 : decode cX0_tells_2 153 = .ok (.iadd, 1) := dk_96 (dk_at dksX0_tells_2_6 12 rfl rfl)
theorem dX0_tells_2_154 : decode cX0_tells_2 154 = .ok (.putfield 372, 3) := dk_181 1 116 (dk_at dksX0_tells_2_6 13 rfl rfl)
theorem dX0_tells_2_157 : decode cX0_tells_2 157 = .ok (.iinc 7 1, 3) := dk_132 7 1 (dk_at dksX0_tells_2_6 16 rfl rfl)
theorem dX0_tells_2_160 : decode cX0_tells_2 160 = .ok (.goto (-134), 3) := dk_167 255 122 (dk_at dksX0_tells_2_6 19 rfl rfl)
theorem dX0_tells_2_163 : decode cX0_tells_2 163 = .ok (.return_, 1) := dk_177 (dk_at dksX0_tells_2_6 22 rfl rfl)
abbrev cX0_ageOf : ByteArray := prog_1_method_58_code
def yX0_ageOf : MethodName := ⟨RX0, "ageOf", "(I)I"⟩
def dkwX0_ageOf_0 : List UInt8 := [16, 7, 61, 42, 180, 0, 129, 28, 46, 27, 164, 0, 9, 132, 2, 255, 167, 255, 243, 28, 172]
abbrev dktX0_ageOf_0 : List UInt8 := dkwX0_ageOf_0 ++ []
theorem dksX0_ageOf_0 : cX0_ageOf.data.toList.drop 0 = dktX0_ageOf_0 := by decide +kernel
theorem dX0_ageOf_0 : decode cX0_ageOf 0 = .ok (.bipush 7, 2) := dk_16 7 (dk_at dksX0_ageOf_0 0 rfl rfl)
theorem dX0_ageOf_2 : decode cX0_ageOf 2 = .ok (.istore_n 2, 1) := dk_61 (dk_at dksX0_ageOf_0 2 rfl rfl)
theorem dX0_ageOf_3 : decode cX0_ageOf 3 = .ok (.aload_n 0, 1) := dk_42 (dk_at dksX0_ageOf_0 3 rfl rfl)
theorem dX0_ageOf_4 : decode cX0_ageOf 4 = .ok (.getfield 129, 3) := dk_180 0 129 (dk_at dksX0_ageOf_0 4 rfl rfl)
theorem dX0_ageOf_7 : decode cX0_ageOf 7 = .ok (.iload_n 2, 1) := dk_28 (dk_at dksX0_ageOf_0 7 rfl rfl)
theorem dX0_ageOf_8 : decode cX0_ageOf 8 = .ok (.iaload, 1) := dk_46 (dk_at dksX0_ageOf_0 8 rfl rfl)
theorem dX0_ageOf_9 : decode cX0_ageOf 9 = .ok (.iload_n 1, 1) := dk_27 (dk_at dksX0_ageOf_0 9 rfl rfl)
theorem dX0_ageOf_10 : decode cX0_ageOf 10 = .ok (.if_icmp .le 9, 3) := dk_164 0 9 (dk_at dksX0_ageOf_0 10 rfl rfl)
theorem dX0_ageOf_13 : decode cX0_ageOf 13 = .ok (.iinc 2 (-1), 3) := dk_132 2 255 (dk_at dksX0_ageOf_0 13 rfl rfl)
theorem dX0_ageOf_16 : decode cX0_ageOf 16 = .ok (.goto (-13), 3) := dk_167 255 243 (dk_at dksX0_ageOf_0 16 rfl rfl)
theorem dX0_ageOf_19 : decode cX0_ageOf 19 = .ok (.iload_n 2, 1) := dk_28 (dk_at dksX0_ageOf_0 19 rfl rfl)
theorem dX0_ageOf_20 : decode cX0_ageOf 20 = .ok (.ireturn, 1) := dk_172 (dk_at dksX0_ageOf_0 20 rfl rfl)
abbrev cX0_within : ByteArray := prog_1_method_60_code
def yX0_within : MethodName := ⟨RX0, "within", "(IIZ)I"⟩
def dkwX0_within_3 : List UInt8 := [46, 27, 161, 0, 7, 4, 167, 0, 4, 3, 96, 54, 4, 132, 5, 1, 167, 255, 178, 21, 4, 172]
abbrev dktX0_within_3 : List UInt8 := dkwX0_within_3 ++ []
def dkwX0_within_2 : List UInt8 := [167, 0, 34, 3, 167, 0, 30, 42, 180, 0, 132, 21, 5, 46, 28, 163, 0, 18, 42, 180, 0, 135, 21, 5]
abbrev dktX0_within_2 : List UInt8 := dkwX0_within_2 ++ dktX0_within_3
def dkwX0_within_1 : List UInt8 := [180, 0, 132, 21, 5, 46, 27, 161, 0, 18, 42, 180, 0, 135, 21, 5, 46, 28, 163, 0, 7, 4]
abbrev dktX0_within_1 : List UInt8 := dkwX0_within_1 ++ dktX0_within_2
def dkwX0_within_0 : List UInt8 := [3, 54, 4, 3, 54, 5, 21, 5, 42, 180, 1, 116, 162, 0, 75, 21, 4, 29, 153, 0, 33, 42]
abbrev dktX0_within_0 : List UInt8 := dkwX0_within_0 ++ dktX0_within_1
theorem dksX0_within_0 : cX0_within.data.toList.drop 0 = dktX0_within_0 := by decide +kernel
theorem dksX0_within_1 : cX0_within.data.toList.drop 22 = dktX0_within_1 := dk_seg dksX0_within_0 22 rfl rfl
theorem dksX0_within_2 : cX0_within.data.toList.drop 44 = dktX0_within_2 := dk_seg dksX0_within_1 22 rfl rfl
theorem dksX0_within_3 : cX0_within.data.toList.drop 68 = dktX0_within_3 := dk_seg dksX0_within_2 24 rfl rfl
theorem dX0_within_0 : decode cX0_within 0 = .ok (.iconst 0, 1) := dk_3 (dk_at dksX0_within_0 0 rfl rfl)
theorem dX0_within_1 : decode cX0_within 1 = .ok (.istore 4, 2) := dk_54 4 (dk_at dksX0_within_0 1 rfl rfl)
theorem dX0_within_3 : decode cX0_within 3 = .ok (.iconst 0, 1) := dk_3 (dk_at dksX0_within_0 3 rfl rfl)
theorem dX0_within_4 : decode cX0_within 4 = .ok (.istore 5, 2) := dk_54 5 (dk_at dksX0_within_0 4 rfl rfl)
theorem dX0_within_6 : decode cX0_within 6 = .ok (.iload 5, 2) := dk_21 5 (dk_at dksX0_within_0 6 rfl rfl)
theorem dX0_within_8 : decode cX0_within 8 = .ok (.aload_n 0, 1) := dk_42 (dk_at dksX0_within_0 8 rfl rfl)
theorem dX0_within_9 : decode cX0_within 9 = .ok (.getfield 372, 3) := dk_180 1 116 (dk_at dksX0_within_0 9 rfl rfl)
theorem dX0_within_12 : decode cX0_within 12 = .ok (.if_icmp .ge 75, 3) := dk_162 0 75 (dk_at dksX0_within_0 12 rfl rfl)
theorem dX0_within_15 : decode cX0_within 15 = .ok (.iload 4, 2) := dk_21 4 (dk_at dksX0_within_0 15 rfl rfl)
theorem dX0_within_17 : decode cX0_within 17 = .ok (.iload_n 3, 1) := dk_29 (dk_at dksX0_within_0 17 rfl rfl)
theorem dX0_within_18 : decode cX0_within 18 = .ok (.ifCond .eq 33, 3) := dk_153 0 33 (dk_at dksX0_within_0 18 rfl rfl)
theorem dX0_within_21 : decode cX0_within 21 = .ok (.aload_n 0, 1) := dk_42 (dk_at dksX0_within_0 21 rfl rfl)
theorem dX0_within_22 : decode cX0_within 22 = .ok (.getfield 132, 3) := dk_180 0 132 (dk_at dksX0_within_1 0 rfl rfl)
theorem dX0_within_25 : decode cX0_within 25 = .ok (.iload 5, 2) := dk_21 5 (dk_at dksX0_within_1 3 rfl rfl)
theorem dX0_within_27 : decode cX0_within 27 = .ok (.iaload, 1) := dk_46 (dk_at dksX0_within_1 5 rfl rfl)
theorem dX0_within_28 : decode cX0_within 28 = .ok (.iload_n 1, 1) := dk_27 (dk_at dksX0_within_1 6 rfl rfl)
theorem dX0_within_29 : decode cX0_within 29 = .ok (.if_icmp .lt 18, 3) := dk_161 0 18 (dk_at dksX0_within_1 7 rfl rfl)
theorem dX0_within_32 : decode cX0_within 32 = .ok (.aload_n 0, 1) := dk_42 (dk_at dksX0_within_1 10 rfl rfl)
theorem dX0_within_33 : decode cX0_within 33 = .ok (.getfield 135, 3) := dk_180 0 135 (dk_at dksX0_within_1 11 rfl rfl)
theorem dX0_within_36 : decode cX0_within 36 = .ok (.iload 5, 2) := dk_21 5 (dk_at dksX0_within_1 14 rfl rfl)
theorem dX0_within_38 : decode cX0_within 38 = .ok (.iaload, 1) := dk_46 (dk_at dksX0_within_1 16 rfl rfl)
theorem dX0_within_39 : decode cX0_within 39 = .ok (.iload_n 2, 1) := dk_28 (dk_at dksX0_within_1 17 rfl rfl)
theorem dX0_within_40 : decode cX0_within 40 = .ok (.if_icmp .gt 7, 3) := dk_163 0 7 (dk_at dksX0_within_1 18 rfl rfl)
theorem dX0_within_43 : decode cX0_within 43 = .ok (.iconst 1, 1) := dk_4 (dk_at dksX0_within_1 21 rfl rfl)
theorem dX0_within_44 : decode cX0_within 44 = .ok (.goto 34, 3) := dk_167 0 34 (dk_at dksX0_within_2 0 rfl rfl)
theorem dX0_within_47 : decode cX0_within 47 = .ok (.iconst 0, 1) := dk_3 (dk_at dksX0_within_2 3 rfl rfl)
theorem dX0_within_48 : decode cX0_within 48 = .ok (.goto 30, 3) := dk_167 0 30 (dk_at dksX0_within_2 4 rfl rfl)
theorem dX0_within_51 : decode cX0_within 51 = .ok (.aload_n 0, 1) := dk_42 (dk_at dksX0_within_2 7 rfl rfl)
theorem dX0_within_52 : decode cX0_within 52 = .ok (.getfield 132, 3) := dk_180 0 132 (dk_at dksX0_within_2 8 rfl rfl)
theorem dX0_within_55 : decode cX0_within 55 = .ok (.iload 5, 2) := dk_21 5 (dk_at dksX0_within_2 11 rfl rfl)
theorem dX0_within_57 : decode cX0_within 57 = .ok (.iaload, 1) := dk_46 (dk_at dksX0_within_2 13 rfl rfl)
theorem dX0_within_58 : decode cX0_within 58 = .ok (.iload_n 2, 1) := dk_28 (dk_at dksX0_within_2 14 rfl rfl)
theorem dX0_within_59 : decode cX0_within 59 = .ok (.if_icmp .gt 18, 3) := dk_163 0 18 (dk_at dksX0_within_2 15 rfl rfl)
theorem dX0_within_62 : decode cX0_within 62 = .ok (.aload_n 0, 1) := dk_42 (dk_at dksX0_within_2 18 rfl rfl)
theorem dX0_within_63 : decode cX0_within 63 = .ok (.getfield 135, 3) := dk_180 0 135 (dk_at dksX0_within_2 19 rfl rfl)
theorem dX0_within_66 : decode cX0_within 66 = .ok (.iload 5, 2) := dk_21 5 (dk_at dksX0_within_2 22 rfl rfl)
theorem dX0_within_68 : decode cX0_within 68 = .ok (.iaload, 1) := dk_46 (dk_at dksX0_within_3 0 rfl rfl)
theorem dX0_within_69 : decode cX0_within 69 = .ok (.iload_n 1, 1) := dk_27 (dk_at dksX0_within_3 1 rfl rfl)
theorem dX0_within_70 : decode cX0_within 70 = .ok (.if_icmp .lt 7, 3) := dk_161 0 7 (dk_at dksX0_within_3 2 rfl rfl)
theorem dX0_within_73 : decode cX0_within 73 = .ok (.iconst 1, 1) := dk_4 (dk_at dksX0_within_3 5 rfl rfl)
theorem dX0_within_74 : decode cX0_within 74 = .ok (.goto 4, 3) := dk_167 0 4 (dk_at dksX0_within_3 6 rfl rfl)
theorem dX0_within_77 : decode cX0_within 77 = .ok (.iconst 0, 1) := dk_3 (dk_at dksX0_within_3 9 rfl rfl)
theorem dX0_within_78 : decode cX0_within 78 = .ok (.iadd, 1) := dk_96 (dk_at dksX0_within_3 10 rfl rfl)
theorem dX0_within_79 : decode cX0_within 79 = .ok (.istore 4, 2) := dk_54 4 (dk_at dksX0_within_3 11 rfl rfl)
theorem dX0_within_81 : decode cX0_within 81 = .ok (.iinc 5 1, 3) := dk_132 5 1 (dk_at dksX0_within_3 13 rfl rfl)
theorem dX0_within_84 : decode cX0_within 84 = .ok (.goto (-78), 3) := dk_167 255 178 (dk_at dksX0_within_3 16 rfl rfl)
theorem dX0_within_87 : decode cX0_within 87 = .ok (.iload 4, 2) := dk_21 4 (dk_at dksX0_within_3 19 rfl rfl)
theorem dX0_within_89 : decode cX0_within 89 = .ok (.ireturn, 1) := dk_172 (dk_at dksX0_within_3 21 rfl rfl)
abbrev cX0_herd : ByteArray := prog_1_method_62_code
def yX0_herd : MethodName := ⟨RX0, "herd", "(I)I"⟩
def dkwX0_herd_5 : List UInt8 := [132, 4, 1, 167, 255, 222, 42, 89, 180, 1, 129, 4, 96, 181, 1, 129, 42, 180, 1, 129, 4, 100, 172]
abbrev dktX0_herd_5 : List UInt8 := dkwX0_herd_5 ++ []
def dkwX0_herd_4 : List UInt8 := [180, 0, 140, 42, 180, 1, 129, 50, 21, 4, 42, 180, 0, 13, 27, 50, 21, 4, 182, 0, 39, 136, 79]
abbrev dktX0_herd_4 : List UInt8 := dkwX0_herd_4 ++ dktX0_herd_5
def dkwX0_herd_3 : List UInt8 := [180, 1, 129, 16, 8, 160, 0, 6, 16, 253, 172, 3, 54, 4, 21, 4, 16, 8, 162, 0, 33, 42]
abbrev dktX0_herd_3 : List UInt8 := dkwX0_herd_3 ++ dktX0_herd_4
def dkwX0_herd_2 : List UInt8 := [21, 4, 182, 0, 39, 136, 96, 62, 132, 4, 1, 167, 255, 231, 29, 16, 100, 159, 0, 6, 16, 252, 172, 42]
abbrev dktX0_herd_2 : List UInt8 := dkwX0_herd_2 ++ dktX0_herd_3
def dkwX0_herd_1 : List UInt8 := [153, 0, 5, 28, 172, 3, 62, 3, 54, 4, 21, 4, 16, 8, 162, 0, 24, 29, 42, 180, 0, 13, 27, 50]
abbrev dktX0_herd_1 : List UInt8 := dkwX0_herd_1 ++ dktX0_herd_2
def dkwX0_herd_0 : List UInt8 := [27, 184, 0, 9, 154, 0, 6, 16, 254, 172, 42, 27, 16, 8, 20, 0, 163, 182, 0, 188, 61, 28]
abbrev dktX0_herd_0 : List UInt8 := dkwX0_herd_0 ++ dktX0_herd_1
theorem dksX0_herd_0 : cX0_herd.data.toList.drop 0 = dktX0_herd_0 := by decide +kernel
theorem dksX0_herd_1 : cX0_herd.data.toList.drop 22 = dktX0_herd_1 := dk_seg dksX0_herd_0 22 rfl rfl
theorem dksX0_herd_2 : cX0_herd.data.toList.drop 46 = dktX0_herd_2 := dk_seg dksX0_herd_1 24 rfl rfl
theorem dksX0_herd_3 : cX0_herd.data.toList.drop 70 = dktX0_herd_3 := dk_seg dksX0_herd_2 24 rfl rfl
theorem dksX0_herd_4 : cX0_herd.data.toList.drop 92 = dktX0_herd_4 := dk_seg dksX0_herd_3 22 rfl rfl
theorem dksX0_herd_5 : cX0_herd.data.toList.drop 115 = dktX0_herd_5 := dk_seg dksX0_herd_4 23 rfl rfl
theorem dX0_herd_0 : decode cX0_herd 0 = .ok (.iload_n 1, 1) := dk_27 (dk_at dksX0_herd_0 0 rfl rfl)
theorem dX0_herd_1 : decode cX0_herd 1 = .ok (.invokestatic 9, 3) := dk_184 0 9 (dk_at dksX0_herd_0 1 rfl rfl)
theorem dX0_herd_4 : decode cX0_herd 4 = .ok (.ifCond .ne 6, 3) := dk_154 0 6 (dk_at dksX0_herd_0 4 rfl rfl)
theorem dX0_herd_7 : decode cX0_herd 7 = .ok (.bipush (-2), 2) := dk_16 254 (dk_at dksX0_herd_0 7 rfl rfl)
theorem dX0_herd_9 : decode cX0_herd 9 = .ok (.ireturn, 1) := dk_172 (dk_at dksX0_herd_0 9 rfl rfl)
theorem dX0_herd_10 : decode cX0_herd 10 = .ok (.aload_n 0, 1) := dk_42 (dk_at dksX0_herd_0 10 rfl rfl)
theorem dX0_herd_11 : decode cX0_herd 11 = .ok (.iload_n 1, 1) := dk_27 (dk_at dksX0_herd_0 11 rfl rfl)
theorem dX0_herd_12 : decode cX0_herd 12 = .ok (.bipush 8, 2) := dk_16 8 (dk_at dksX0_herd_0 12 rfl rfl)
theorem dX0_herd_14 : decode cX0_herd 14 = .ok (.ldc2_w 163, 3) := dk_20 0 163 (dk_at dksX0_herd_0 14 rfl rfl)
theorem dX0_herd_17 : decode cX0_herd 17 = .ok (.invokevirtual 188, 3) := dk_182 0 188 (dk_at dksX0_herd_0 17 rfl rfl)
theorem dX0_herd_20 : decode cX0_herd 20 = .ok (.istore_n 2, 1) := dk_61 (dk_at dksX0_herd_0 20 rfl rfl)
theorem dX0_herd_21 : decode cX0_herd 21 = .ok (.iload_n 2, 1) := dk_28 (dk_at dksX0_herd_0 21 rfl rfl)
theorem dX0_herd_22 : decode cX0_herd 22 = .ok (.ifCond .eq 5, 3) := dk_153 0 5 (dk_at dksX0_herd_1 0 rfl rfl)
theorem dX0_herd_25 : decode cX0_herd 25 = .ok (.iload_n 2, 1) := dk_28 (dk_at dksX0_herd_1 3 rfl rfl)
theorem dX0_herd_26 : decode cX0_herd 26 = .ok (.ireturn, 1) := dk_172 (dk_at dksX0_herd_1 4 rfl rfl)
theorem dX0_herd_27 : decode cX0_herd 27 = .ok (.iconst 0, 1) := dk_3 (dk_at dksX0_herd_1 5 rfl rfl)
theorem dX0_herd_28 : decode cX0_herd 28 = .ok (.istore_n 3, 1) := dk_62 (dk_at dksX0_herd_1 6 rfl rfl)
theorem dX0_herd_29 : decode cX0_herd 29 = .ok (.iconst 0, 1) := dk_3 (dk_at dksX0_herd_1 7 rfl rfl)
theorem dX0_herd_30 : decode cX0_herd 30 = .ok (.istore 4, 2) := dk_54 4 (dk_at dksX0_herd_1 8 rfl rfl)
theorem dX0_herd_32 : decode cX0_herd 32 = .ok (.iload 4, 2) := dk_21 4 (dk_at dksX0_herd_1 10 rfl rfl)
theorem dX0_herd_34 : decode cX0_herd 34 = .ok (.bipush 8, 2) := dk_16 8 (dk_at dksX0_herd_1 12 rfl rfl)
theorem dX0_herd_36 : decode cX0_herd 36 = .ok (.if_icmp .ge 24, 3) := dk_162 0 24 (dk_at dksX0_herd_1 14 rfl rfl)
theorem dX0_herd_39 : decode cX0_herd 39 = .ok (.iload_n 3, 1) := dk_29 (dk_at dksX0_herd_1 17 rfl rfl)
theorem dX0_herd_40 : decode cX0_herd 40 = .ok (.aload_n 0, 1) := dk_42 (dk_at dksX0_herd_1 18 rfl rfl)
theorem dX0_herd_41 : decode cX0_herd 41 = .ok (.getfield 13, 3) := dk_180 0 13 (dk_at dksX0_herd_1 19 rfl rfl)
theorem dX0_herd_44 : decode cX0_herd 44 = .ok (.iload_n 1, 1) := dk_27 (dk_at dksX0_herd_1 22 rfl rfl)
theorem dX0_herd_45 : decode cX0_herd 45 = .ok (.aaload, 1) := dk_50 (dk_at dksX0_herd_1 23 rfl rfl)
theorem dX0_herd_46 : decode cX0_herd 46 = .ok (.iload 4, 2) := dk_21 4 (dk_at dksX0_herd_2 0 rfl rfl)
theorem dX0_herd_48 : decode cX0_herd 48 = .ok (.invokevirtual 39, 3) := dk_182 0 39 (dk_at dksX0_herd_2 2 rfl rfl)
theorem dX0_herd_51 : decode cX0_herd 51 = .ok (.l2i, 1) := dk_136 (dk_at dksX0_herd_2 5 rfl rfl)
theorem dX0_herd_52 : decode cX0_herd 52 = .ok (.iadd, 1) := dk_96 (dk_at dksX0_herd_2 6 rfl rfl)
theorem dX0_herd_53 : decode cX0_herd 53 = .ok (.istore_n 3, 1) := dk_62 (dk_at dksX0_herd_2 7 rfl rfl)
theorem dX0_herd_54 : decode cX0_herd 54 = .ok (.iinc 4 1, 3) := dk_132 4 1 (dk_at dksX0_herd_2 8 rfl rfl)
theorem dX0_herd_57 : decode cX0_herd 57 = .ok (.goto (-25), 3) := dk_167 255 231 (dk_at dksX0_herd_2 11 rfl rfl)
theorem dX0_herd_60 : decode cX0_herd 60 = .ok (.iload_n 3, 1) := dk_29 (dk_at dksX0_herd_2 14 rfl rfl)
theorem dX0_herd_61 : decode cX0_herd 61 = .ok (.bipush 100, 2) := dk_16 100 (dk_at dksX0_herd_2 15 rfl rfl)
theorem dX0_herd_63 : decode cX0_herd 63 = .ok (.if_icmp .eq 6, 3) := dk_159 0 6 (dk_at dksX0_herd_2 17 rfl rfl)
theorem dX0_herd_66 : decode cX0_herd 66 = .ok (.bipush (-4), 2) := dk_16 252 (dk_at dksX0_herd_2 20 rfl rfl)
theorem dX0_herd_68 : decode cX0_herd 68 = .ok (.ireturn, 1) := dk_172 (dk_at dksX0_herd_2 22 rfl rfl)
theorem dX0_herd_69 : decode cX0_herd 69 = .ok (.aload_n 0, 1) := dk_42 (dk_at dksX0_herd_2 23 rfl rfl)
theorem dX0_herd_70 : decode cX0_herd 70 = .ok (.getfield 385, 3) := dk_180 1 129 (dk_at dksX0_herd_3 0 rfl rfl)
theorem dX0_herd_73 : decode cX0_herd 73 = .ok (.bipush 8, 2) := dk_16 8 (dk_at dksX0_herd_3 3 rfl rfl)
theorem dX0_herd_75 : decode cX0_herd 75 = .ok (.if_icmp .ne 6, 3) := dk_160 0 6 (dk_at dksX0_herd_3 5 rfl rfl)
theorem dX0_herd_78 : decode cX0_herd 78 = .ok (.bipush (-3), 2) := dk_16 253 (dk_at dksX0_herd_3 8 rfl rfl)
theorem dX0_herd_80 : decode cX0_herd 80 = .ok (.ireturn, 1) := dk_172 (dk_at dksX0_herd_3 10 rfl rfl)
theorem dX0_herd_81 : decode cX0_herd 81 = .ok (.iconst 0, 1) := dk_3 (dk_at dksX0_herd_3 11 rfl rfl)
theorem dX0_herd_82 : decode cX0_herd 82 = .ok (.istore 4, 2) := dk_54 4 (dk_at dksX0_herd_3 12 rfl rfl)
theorem dX0_herd_84 : decode cX0_herd 84 = .ok (.iload 4, 2) := dk_21 4 (dk_at dksX0_herd_3 14 rfl rfl)
theorem dX0_herd_86 : decode cX0_herd 86 = .ok (.bipush 8, 2) := dk_16 8 (dk_at dksX0_herd_3 16 rfl rfl)
theorem dX0_herd_88 : decode cX0_herd 88 = .ok (.if_icmp .ge 33, 3) := dk_162 0 33 (dk_at dksX0_herd_3 18 rfl rfl)
theorem dX0_herd_91 : decode cX0_herd 91 = .ok (.aload_n 0, 1) := dk_42 (dk_at dksX0_herd_3 21 rfl rfl)
theorem dX0_herd_92 : decode cX0_herd 92 = .ok (.getfield 140, 3) := dk_180 0 140 (dk_at dksX0_herd_4 0 rfl rfl)
theorem dX0_herd_95 : decode cX0_herd 95 = .ok (.aload_n 0, 1) := dk_42 (dk_at dksX0_herd_4 3 rfl rfl)
theorem dX0_herd_96 : decode cX0_herd 96 = .ok (.getfield 385, 3) := dk_180 1 129 (dk_at dksX0_herd_4 4 rfl rfl)
theorem dX0_herd_99 : decode cX0_herd 99 = .ok (.aaload, 1) := dk_50 (dk_at dksX0_herd_4 7 rfl rfl)
theorem dX0_herd_100 : decode cX0_herd 100 = .ok (.iload 4, 2) := dk_21 4 (dk_at dksX0_herd_4 8 rfl rfl)
theorem dX0_herd_102 : decode cX0_herd 102 = .ok (.aload_n 0, 1) := dk_42 (dk_at dksX0_herd_4 10 rfl rfl)
theorem dX0_herd_103 : decode cX0_herd 103 = .ok (.getfield 13, 3) := dk_180 0 13 (dk_at dksX0_herd_4 11 rfl rfl)
theorem dX0_herd_106 : decode cX0_herd 106 = .ok (.iload_n 1, 1) := dk_27 (dk_at dksX0_herd_4 14 rfl rfl)
theorem dX0_herd_107 : decode cX0_herd 107 = .ok (.aaload, 1) := dk_50 (dk_at dksX0_herd_4 15 rfl rfl)
theorem dX0_herd_108 : decode cX0_herd 108 = .ok (.iload 4, 2) := dk_21 4 (dk_at dksX0_herd_4 16 rfl rfl)
theorem dX0_herd_110 : decode cX0_herd 110 = .ok (.invokevirtual 39, 3) := dk_182 0 39 (dk_at dksX0_herd_4 18 rfl rfl)
theorem dX0_herd_113 : decode cX0_herd 113 = .ok (.l2i, 1) := dk_136 (dk_at dksX0_herd_4 21 rfl rfl)
theorem dX0_herd_114 : decode cX0_herd 114 = .ok (.iastore, 1) := dk_79 (dk_at dksX0_herd_4 22 rfl rfl)
theorem dX0_herd_115 : decode cX0_herd 115 = .ok (.iinc 4 1, 3) := dk_132 4 1 (dk_at dksX0_herd_5 0 rfl rfl)
theorem dX0_herd_118 : decode cX0_herd 118 = .ok (.goto (-34), 3) := dk_167 255 222 (dk_at dksX0_herd_5 3 rfl rfl)
theorem dX0_herd_121 : decode cX0_herd 121 = .ok (.aload_n 0, 1) := dk_42 (dk_at dksX0_herd_5 6 rfl rfl)
theorem dX0_herd_122 : decode cX0_herd 122 = .ok (.dup, 1) := dk_89 (dk_at dksX0_herd_5 7 rfl rfl)
theorem dX0_herd_123 : decode cX0_herd 123 = .ok (.getfield 385, 3) := dk_180 1 129 (dk_at dksX0_herd_5 8 rfl rfl)
theorem dX0_herd_126 : decode cX0_herd 126 = .ok (.iconst 1, 1) := dk_4 (dk_at dksX0_herd_5 11 rfl rfl)
theorem dX0_herd_127 : decode cX0_herd 127 = .ok (.iadd, 1) := dk_96 (dk_at dksX0_herd_5 12 rfl rfl)
theorem dX0_herd_128 : decode cX0_herd 128 = .ok (.putfield 385, 3) := dk_181 1 129 (dk_at dksX0_herd_5 13 rfl rfl)
theorem dX0_herd_131 : decode cX0_herd 131 = .ok (.aload_n 0, 1) := dk_42 (dk_at dksX0_herd_5 16 rfl rfl)
theorem dX0_herd_132 : decode cX0_herd 132 = .ok (.getfield 385, 3) := dk_180 1 129 (dk_at dksX0_herd_5 17 rfl rfl)
theorem dX0_herd_135 : decode cX0_herd 135 = .ok (.iconst 1, 1) := dk_4 (dk_at dksX0_herd_5 20 rfl rfl)
theorem dX0_herd_136 : decode cX0_herd 136 = .ok (.isub, 1) := dk_100 (dk_at dksX0_herd_5 21 rfl rfl)
theorem dX0_herd_137 : decode cX0_herd 137 = .ok (.ireturn, 1) := dk_172 (dk_at dksX0_herd_5 22 rfl rfl)
abbrev cX0_slack : ByteArray := prog_1_method_66_code
def yX0_slack : MethodName := ⟨RX0, "slack", "(IIIIII)I"⟩
def dkwX0_slack_1 : List UInt8 := [21, 5, 21, 6, 182, 1, 122, 42, 180, 1, 116, 154, 0, 7, 2, 167, 0, 8, 42, 27, 182, 1, 139, 172]
abbrev dktX0_slack_1 : List UInt8 := dkwX0_slack_1 ++ []
def dkwX0_slack_0 : List UInt8 := [42, 27, 28, 29, 21, 4, 21, 5, 21, 6, 182, 1, 135, 154, 0, 6, 16, 254, 172, 42, 29, 28, 21, 4]
abbrev dktX0_slack_0 : List UInt8 := dkwX0_slack_0 ++ dktX0_slack_1
theorem dksX0_slack_0 : cX0_slack.data.toList.drop 0 = dktX0_slack_0 := by decide +kernel
theorem dksX0_slack_1 : cX0_slack.data.toList.drop 24 = dktX0_slack_1 := dk_seg dksX0_slack_0 24 rfl rfl
theorem dX0_slack_0 : decode cX0_slack 0 = .ok (.aload_n 0, 1) := dk_42 (dk_at dksX0_slack_0 0 rfl rfl)
theorem dX0_slack_1 : decode cX0_slack 1 = .ok (.iload_n 1, 1) := dk_27 (dk_at dksX0_slack_0 1 rfl rfl)
theorem dX0_slack_2 : decode cX0_slack 2 = .ok (.iload_n 2, 1) := dk_28 (dk_at dksX0_slack_0 2 rfl rfl)
theorem dX0_slack_3 : decode cX0_slack 3 = .ok (.iload_n 3, 1) := dk_29 (dk_at dksX0_slack_0 3 rfl rfl)
theorem dX0_slack_4 : decode cX0_slack 4 = .ok (.iload 4, 2) := dk_21 4 (dk_at dksX0_slack_0 4 rfl rfl)
theorem dX0_slack_6 : decode cX0_slack 6 = .ok (.iload 5, 2) := dk_21 5 (dk_at dksX0_slack_0 6 rfl rfl)
theorem dX0_slack_8 : decode cX0_slack 8 = .ok (.iload 6, 2) := dk_21 6 (dk_at dksX0_slack_0 8 rfl rfl)
theorem dX0_slack_10 : decode cX0_slack 10 = .ok (.invokevirtual 391, 3) := dk_182 1 135 (dk_at dksX0_slack_0 10 rfl rfl)
theorem dX0_slack_13 : decode cX0_slack 13 = .ok (.ifCond .ne 6, 3) := dk_154 0 6 (dk_at dksX0_slack_0 13 rfl rfl)
theorem dX0_slack_16 : decode cX0_slack 16 = .ok (.bipush (-2), 2) := dk_16 254 (dk_at dksX0_slack_0 16 rfl rfl)
theorem dX0_slack_18 : decode cX0_slack 18 = .ok (.ireturn, 1) := dk_172 (dk_at dksX0_slack_0 18 rfl rfl)
theorem dX0_slack_19 : decode cX0_slack 19 = .ok (.aload_n 0, 1) := dk_42 (dk_at dksX0_slack_0 19 rfl rfl)
theorem dX0_slack_20 : decode cX0_slack 20 = .ok (.iload_n 3, 1) := dk_29 (dk_at dksX0_slack_0 20 rfl rfl)
theorem dX0_slack_21 : decode cX0_slack 21 = .ok (.iload_n 2, 1) := dk_28 (dk_at dksX0_slack_0 21 rfl rfl)
theorem dX0_slack_22 : decode cX0_slack 22 = .ok (.iload 4, 2) := dk_21 4 (dk_at dksX0_slack_0 22 rfl rfl)
theorem dX0_slack_24 : decode cX0_slack 24 = .ok (.iload 5, 2) := dk_21 5 (dk_at dksX0_slack_1 0 rfl rfl)
theorem dX0_slack_26 : decode cX0_slack 26 = .ok (.iload 6, 2) := dk_21 6 (dk_at dksX0_slack_1 2 rfl rfl)
theorem dX0_slack_28 : decode cX0_slack 28 = .ok (.invokevirtual 378, 3) := dk_182 1 122 (dk_at dksX0_slack_1 4 rfl rfl)
theorem dX0_slack_31 : decode cX0_slack 31 = .ok (.aload_n 0, 1) := dk_42 (dk_at dksX0_slack_1 7 rfl rfl)
theorem dX0_slack_32 : decode cX0_slack 32 = .ok (.getfield 372, 3) := dk_180 1 116 (dk_at dksX0_slack_1 8 rfl rfl)
theorem dX0_slack_35 : decode cX0_slack 35 = .ok (.ifCond .ne 7, 3) := dk_154 0 7 (dk_at dksX0_slack_1 11 rfl rfl)
theorem dX0_slack_38 : decode cX0_slack 38 = .ok (.iconst (-1), 1) := dk_2 (dk_at dksX0_slack_1 14 rfl rfl)
theorem dX0_slack_39 : decode cX0_slack 39 = .ok (.goto 8, 3) := dk_167 0 8 (dk_at dksX0_slack_1 15 rfl rfl)
theorem dX0_slack_42 : decode cX0_slack 42 = .ok (.aload_n 0, 1) := dk_42 (dk_at dksX0_slack_1 18 rfl rfl)
theorem dX0_slack_43 : decode cX0_slack 43 = .ok (.iload_n 1, 1) := dk_27 (dk_at dksX0_slack_1 19 rfl rfl)
theorem dX0_slack_44 : decode cX0_slack 44 = .ok (.invokevirtual 395, 3) := dk_182 1 139 (dk_at dksX0_slack_1 20 rfl rfl)
theorem dX0_slack_47 : decode cX0_slack 47 = .ok (.ireturn, 1) := dk_172 (dk_at dksX0_slack_1 23 rfl rfl)
abbrev cX0_isFit : ByteArray := prog_1_method_65_code
def yX0_isFit : MethodName := ⟨RX0, "isFit", "(IIIIII)Z"⟩
def dkwX0_isFit_1 : List UInt8 := [182, 1, 65, 153, 0, 15, 42, 29, 182, 1, 88, 153, 0, 7, 4, 167, 0, 4, 3, 172]
abbrev dktX0_isFit_1 : List UInt8 := dkwX0_isFit_1 ++ []
def dkwX0_isFit_0 : List UInt8 := [27, 133, 9, 42, 180, 1, 129, 4, 100, 133, 184, 0, 5, 153, 0, 29, 42, 28, 21, 4, 21, 5, 21, 6]
abbrev dktX0_isFit_0 : List UInt8 := dkwX0_isFit_0 ++ dktX0_isFit_1
theorem dksX0_isFit_0 : cX0_isFit.data.toList.drop 0 = dktX0_isFit_0 := by decide +kernel
theorem dksX0_isFit_1 : cX0_isFit.data.toList.drop 24 = dktX0_isFit_1 := dk_seg dksX0_isFit_0 24 rfl rfl
theorem dX0_isFit_0 : decode cX0_isFit 0 = .ok (.iload_n 1, 1) := dk_27 (dk_at dksX0_isFit_0 0 rfl rfl)
theorem dX0_isFit_1 : decode cX0_isFit 1 = .ok (.i2l, 1) := dk_133 (dk_at dksX0_isFit_0 1 rfl rfl)
theorem dX0_isFit_2 : decode cX0_isFit 2 = .ok (.lconst 0, 1) := dk_9 (dk_at dksX0_isFit_0 2 rfl rfl)
theorem dX0_isFit_3 : decode cX0_isFit 3 = .ok (.aload_n 0, 1) := dk_42 (dk_at dksX0_isFit_0 3 rfl rfl)
theorem dX0_isFit_4 : decode cX0_isFit 4 = .ok (.getfield 385, 3) := dk_180 1 129 (dk_at dksX0_isFit_0 4 rfl rfl)
theorem dX0_isFit_7 : decode cX0_isFit 7 = .ok (.iconst 1, 1) := dk_4 (dk_at dksX0_isFit_0 7 rfl rfl)
theorem dX0_isFit_8 : decode cX0_isFit 8 = .ok (.isub, 1) := dk_100 (dk_at dksX0_isFit_0 8 rfl rfl)
theorem dX0_isFit_9 : decode cX0_isFit 9 = .ok (.i2l, 1) := dk_133 (dk_at dksX0_isFit_0 9 rfl rfl)
theorem dX0_isFit_10 : decode cX0_isFit 10 = .ok (.invokestatic 5, 3) := dk_184 0 5 (dk_at dksX0_isFit_0 10 rfl rfl)
theorem dX0_isFit_13 : decode cX0_isFit 13 = .ok (.ifCond .eq 29, 3) := dk_153 0 29 (dk_at dksX0_isFit_0 13 rfl rfl)
theorem dX0_isFit_16 : decode cX0_isFit 16 = .ok (.aload_n 0, 1) := dk_42 (dk_at dksX0_isFit_0 16 rfl rfl)
theorem dX0_isFit_17 : decode cX0_isFit 17 = .ok (.iload_n 2, 1) := dk_28 (dk_at dksX0_isFit_0 17 rfl rfl)
theorem dX0_isFit_18 : decode cX0_isFit 18 = .ok (.iload 4, 2) := dk_21 4 (dk_at dksX0_isFit_0 18 rfl rfl)
theorem dX0_isFit_20 : decode cX0_isFit 20 = .ok (.iload 5, 2) := dk_21 5 (dk_at dksX0_isFit_0 20 rfl rfl)
theorem dX0_isFit_22 : decode cX0_isFit 22 = .ok (.iload 6, 2) := dk_21 6 (dk_at dksX0_isFit_0 22 rfl rfl)
theorem dX0_isFit_24 : decode cX0_isFit 24 = .ok (.invokevirtual 321, 3) := dk_182 1 65 (dk_at dksX0_isFit_1 0 rfl rfl)
theorem dX0_isFit_27 : decode cX0_isFit 27 = .ok (.ifCond .eq 15, 3) := dk_153 0 15 (dk_at dksX0_isFit_1 3 rfl rfl)
theorem dX0_isFit_30 : decode cX0_isFit 30 = .ok (.aload_n 0, 1) := dk_42 (dk_at dksX0_isFit_1 6 rfl rfl)
theorem dX0_isFit_31 : decode cX0_isFit 31 = .ok (.iload_n 3, 1) := dk_29 (dk_at dksX0_isFit_1 7 rfl rfl)
theorem dX0_isFit_32 : decode cX0_isFit 32 = .ok (.invokevirtual 344, 3) := dk_182 1 88 (dk_at dksX0_isFit_1 8 rfl rfl)
theorem dX0_isFit_35 : decode cX0_isFit 35 = .ok (.ifCond .eq 7, 3) := dk_153 0 7 (dk_at dksX0_isFit_1 11 rfl rfl)
theorem dX0_isFit_38 : decode cX0_isFit 38 = .ok (.iconst 1, 1) := dk_4 (dk_at dksX0_isFit_1 14 rfl rfl)
theorem dX0_isFit_39 : decode cX0_isFit 39 = .ok (.goto 4, 3) := dk_167 0 4 (dk_at dksX0_isFit_1 15 rfl rfl)
theorem dX0_isFit_42 : decode cX0_isFit 42 = .ok (.iconst 0, 1) := dk_3 (dk_at dksX0_isFit_1 18 rfl rfl)
theorem dX0_isFit_43 : decode cX0_isFit 43 = .ok (.ireturn, 1) := dk_172 (dk_at dksX0_isFit_1 19 rfl rfl)
abbrev cX0_leastSlack : ByteArray := prog_1_method_64_code
def yX0_leastSlack : MethodName := ⟨RX0, "leastSlack", "(I)I"⟩
def dkwX0_leastSlack_0 : List UInt8 := [3, 61, 42, 27, 28, 182, 1, 132, 154, 0, 9, 132, 2, 1, 167, 255, 244, 28, 172]
abbrev dktX0_leastSlack_0 : List UInt8 := dkwX0_leastSlack_0 ++ []
theorem dksX0_leastSlack_0 : cX0_leastSlack.data.toList.drop 0 = dktX0_leastSlack_0 := by decide +kernel
theorem dX0_leastSlack_0 : decode cX0_leastSlack 0 = .ok (.iconst 0, 1) := dk_3 (dk_at dksX0_leastSlack_0 0 rfl rfl)
theorem dX0_leastSlack_1 : decode cX0_leastSlack 1 = .ok (.istore_n 2, 1) := dk_61 (dk_at dksX0_leastSlack_0 1 rfl rfl)
theorem dX0_leastSlack_2 : decode cX0_leastSlack 2 = .ok (.aload_n 0, 1) := dk_42 (dk_at dksX0_leastSlack_0 2 rfl rfl)
theorem dX0_leastSlack_3 : decode cX0_leastSlack 3 = .ok (.iload_n 1, 1) := dk_27 (dk_at dksX0_leastSlack_0 3 rfl rfl)
theorem dX0_leastSlack_4 : decode cX0_leastSlack 4 = .ok (.iload_n 2, 1) := dk_28 (dk_at dksX0_leastSlack_0 4 rfl rfl)
theorem dX0_leastSlack_5 : decode cX0_leastSlack 5 = .ok (.invokevirtual 388, 3) := dk_182 1 132 (dk_at dksX0_leastSlack_0 5 rfl rfl)
theorem dX0_leastSlack_8 : decode cX0_leastSlack 8 = .ok (.ifCond .ne 9, 3) := dk_154 0 9 (dk_at dksX0_leastSlack_0 8 rfl rfl)
theorem dX0_leastSlack_11 : decode cX0_leastSlack 11 = .ok (.iinc 2 1, 3) := dk_132 2 1 (dk_at dksX0_leastSlack_0 11 rfl rfl)
theorem dX0_leastSlack_14 : decode cX0_leastSlack 14 = .ok (.goto (-12), 3) := dk_167 255 244 (dk_at dksX0_leastSlack_0 14 rfl rfl)
theorem dX0_leastSlack_17 : decode cX0_leastSlack 17 = .ok (.iload_n 2, 1) := dk_28 (dk_at dksX0_leastSlack_0 17 rfl rfl)
theorem dX0_leastSlack_18 : decode cX0_leastSlack 18 = .ok (.ireturn, 1) := dk_172 (dk_at dksX0_leastSlack_0 18 rfl rfl)
abbrev cX0_fits : ByteArray := prog_1_method_63_code
def yX0_fits : MethodName := ⟨RX0, "fits", "(II)Z"⟩
def dkwX0_fits_12 : List UInt8 := [155, 0, 7, 4, 167, 0, 4, 3, 62, 132, 4, 1, 167, 255, 223, 29, 172]
abbrev dktX0_fits_12 : List UInt8 := dkwX0_fits_12 ++ []
def dkwX0_fits_11 : List UInt8 := [3, 54, 4, 21, 4, 16, 8, 163, 0, 32, 29, 153, 0, 28, 42, 180, 0, 143, 21, 4, 50, 21, 4, 46]
abbrev dktX0_fits_11 : List UInt8 := dkwX0_fits_11 ++ dktX0_fits_12
def dkwX0_fits_10 : List UInt8 := [184, 0, 209, 79, 132, 5, 1, 167, 255, 204, 132, 4, 1, 167, 255, 188, 132, 3, 1, 167, 255, 173, 4, 62]
abbrev dktX0_fits_10 : List UInt8 := dkwX0_fits_10 ++ dktX0_fits_11
def dkwX0_fits_9 : List UInt8 := [21, 5, 46, 42, 180, 0, 143, 21, 4, 50, 29, 46, 42, 180, 0, 143, 29, 50, 21, 5, 46, 96]
abbrev dktX0_fits_9 : List UInt8 := dkwX0_fits_9 ++ dktX0_fits_10
def dkwX0_fits_8 : List UInt8 := [21, 5, 16, 8, 163, 0, 51, 42, 180, 0, 143, 21, 4, 50, 21, 5, 42, 180, 0, 143, 21, 4, 50]
abbrev dktX0_fits_8 : List UInt8 := dkwX0_fits_8 ++ dktX0_fits_9
def dkwX0_fits_7 : List UInt8 := [167, 255, 175, 3, 62, 29, 16, 8, 163, 0, 83, 3, 54, 4, 21, 4, 16, 8, 163, 0, 67, 3, 54, 5]
abbrev dktX0_fits_7 : List UInt8 := dkwX0_fits_7 ++ dktX0_fits_8
def dkwX0_fits_6 : List UInt8 := [4, 96, 42, 180, 0, 143, 29, 50, 29, 4, 96, 46, 28, 21, 4, 100, 184, 0, 209, 79, 132, 3, 1]
abbrev dktX0_fits_6 : List UInt8 := dkwX0_fits_6 ++ dktX0_fits_7
def dkwX0_fits_5 : List UInt8 := [180, 0, 143, 29, 4, 96, 50, 29, 46, 21, 4, 28, 96, 184, 0, 209, 79, 42, 180, 0, 143, 29, 50, 29]
abbrev dktX0_fits_5 : List UInt8 := dkwX0_fits_5 ++ dktX0_fits_6
def dkwX0_fits_4 : List UInt8 := [180, 0, 140, 27, 50, 29, 46, 104, 16, 100, 108, 54, 4, 42, 180, 0, 143, 29, 4, 96, 50, 29, 42]
abbrev dktX0_fits_4 : List UInt8 := dkwX0_fits_4 ++ dktX0_fits_5
def dkwX0_fits_3 : List UInt8 := [167, 255, 197, 132, 3, 1, 167, 255, 182, 3, 62, 29, 16, 8, 162, 0, 81, 42, 180, 1, 116, 42]
abbrev dktX0_fits_3 : List UInt8 := dkwX0_fits_3 ++ dktX0_fits_4
def dkwX0_fits_2 : List UInt8 := [3, 182, 1, 125, 167, 0, 14, 42, 29, 21, 4, 4, 100, 4, 182, 1, 125, 116, 79, 132, 4, 1]
abbrev dktX0_fits_2 : List UInt8 := dkwX0_fits_2 ++ dktX0_fits_3
def dkwX0_fits_1 : List UInt8 := [21, 4, 29, 21, 4, 160, 0, 7, 3, 167, 0, 33, 29, 21, 4, 164, 0, 16, 42, 21, 4, 29, 4, 100]
abbrev dktX0_fits_1 : List UInt8 := dkwX0_fits_1 ++ dktX0_fits_2
def dkwX0_fits_0 : List UInt8 := [3, 62, 29, 16, 8, 163, 0, 74, 3, 54, 4, 21, 4, 16, 8, 163, 0, 58, 42, 180, 0, 143, 29, 50]
abbrev dktX0_fits_0 : List UInt8 := dkwX0_fits_0 ++ dktX0_fits_1
theorem dksX0_fits_0 : cX0_fits.data.toList.drop 0 = dktX0_fits_0 := by decide +kernel
theorem dksX0_fits_1 : cX0_fits.data.toList.drop 24 = dktX0_fits_1 := dk_seg dksX0_fits_0 24 rfl rfl
theorem dksX0_fits_2 : cX0_fits.data.toList.drop 48 = dktX0_fits_2 := dk_seg dksX0_fits_1 24 rfl rfl
theorem dksX0_fits_3 : cX0_fits.data.toList.drop 70 = dktX0_fits_3 := dk_seg dksX0_fits_2 22 rfl rfl
theorem dksX0_fits_4 : cX0_fits.data.toList.drop 92 = dktX0_fits_4 := dk_seg dksX0_fits_3 22 rfl rfl
theorem dksX0_fits_5 : cX0_fits.data.toList.drop 115 = dktX0_fits_5 := dk_seg dksX0_fits_4 23 rfl rfl
theorem dksX0_fits_6 : cX0_fits.data.toList.drop 139 = dktX0_fits_6 := dk_seg dksX0_fits_5 24 rfl rfl
theorem dksX0_fits_7 : cX0_fits.data.toList.drop 162 = dktX0_fits_7 := dk_seg dksX0_fits_6 23 rfl rfl
theorem dksX0_fits_8 : cX0_fits.data.toList.drop 186 = dktX0_fits_8 := dk_seg dksX0_fits_7 24 rfl rfl
theorem dksX0_fits_9 : cX0_fits.data.toList.drop 209 = dktX0_fits_9 := dk_seg dksX0_fits_8 23 rfl rfl
theorem dksX0_fits_10 : cX0_fits.data.toList.drop 231 = dktX0_fits_10 := dk_seg dksX0_fits_9 22 rfl rfl
theorem dksX0_fits_11 : cX0_fits.data.toList.drop 255 = dktX0_fits_11 := dk_seg dksX0_fits_10 24 rfl rfl
theorem dksX0_fits_12 : cX0_fits.data.toList.drop 279 = dktX0_fits_12 := dk_seg dksX0_fits_11 24 rfl rfl
theorem dX0_fits_0 : decode cX0_fits 0 = .ok (.iconst 0, 1) := dk_3 (dk_at dksX0_fits_0 0 rfl rfl)
theorem dX0_fits_1 : decode cX0_fits 1 = .ok (.istore_n 3, 1) := dk_62 (dk_at dksX0_fits_0 1 rfl rfl)
theorem dX0_fits_2 : decode cX0_fits 2 = .ok (.iload_n 3, 1) := dk_29 (dk_at dksX0_fits_0 2 rfl rfl)
theorem dX0_fits_3 : decode cX0_fits 3 = .ok (.bipush 8, 2) := dk_16 8 (dk_at dksX0_fits_0 3 rfl rfl)
theorem dX0_fits_5 : decode cX0_fits 5 = .ok (.if_icmp .gt 74, 3) := dk_163 0 74 (dk_at dksX0_fits_0 5 rfl rfl)
theorem dX0_fits_8 : decode cX0_fits 8 = .ok (.iconst 0, 1) := dk_3 (dk_at dksX0_fits_0 8 rfl rfl)
theorem dX0_fits_9 : decode cX0_fits 9 = .ok (.istore 4, 2) := dk_54 4 (dk_at dksX0_fits_0 9 rfl rfl)
theorem dX0_fits_11 : decode cX0_fits 11 = .ok (.iload 4, 2) := dk_21 4 (dk_at dksX0_fits_0 11 rfl rfl)
theorem dX0_fits_13 : decode cX0_fits 13 = .ok (.bipush 8, 2) := dk_16 8 (dk_at dksX0_fits_0 13 rfl rfl)
theorem dX0_fits_15 : decode cX0_fits 15 = .ok (.if_icmp .gt 58, 3) := dk_163 0 58 (dk_at dksX0_fits_0 15 rfl rfl)
theorem dX0_fits_18 : decode cX0_fits 18 = .ok (.aload_n 0, 1) := dk_42 (dk_at dksX0_fits_0 18 rfl rfl)
theorem dX0_fits_19 : decode cX0_fits 19 = .ok (.getfield 143, 3) := dk_180 0 143 (dk_at dksX0_fits_0 19 rfl rfl)
theorem dX0_fits_22 : decode cX0_fits 22 = .ok (.iload_n 3, 1) := dk_29 (dk_at dksX0_fits_0 22 rfl rfl)
theorem dX0_fits_23 : decode cX0_fits 23 = .ok (.aaload, 1) := dk_50 (dk_at dksX0_fits_0 23 rfl rfl)
theorem dX0_fits_24 : decode cX0_fits 24 = .ok (.iload 4, 2) := dk_21 4 (dk_at dksX0_fits_1 0 rfl rfl)
theorem dX0_fits_26 : decode cX0_fits 26 = .ok (.iload_n 3, 1) := dk_29 (dk_at dksX0_fits_1 2 rfl rfl)
theorem dX0_fits_27 : decode cX0_fits 27 = .ok (.iload 4, 2) := dk_21 4 (dk_at dksX0_fits_1 3 rfl rfl)
theorem dX0_fits_29 : decode cX0_fits 29 = .ok (.if_icmp .ne 7, 3) := dk_160 0 7 (dk_at dksX0_fits_1 5 rfl rfl)
theorem dX0_fits_32 : decode cX0_fits 32 = .ok (.iconst 0, 1) := dk_3 (dk_at dksX0_fits_1 8 rfl rfl)
theorem dX0_fits_33 : decode cX0_fits 33 = .ok (.goto 33, 3) := dk_167 0 33 (dk_at dksX0_fits_1 9 rfl rfl)
theorem dX0_fits_36 : decode cX0_fits 36 = .ok (.iload_n 3, 1) := dk_29 (dk_at dksX0_fits_1 12 rfl rfl)
theorem dX0_fits_37 : decode cX0_fits 37 = .ok (.iload 4, 2) := dk_21 4 (dk_at dksX0_fits_1 13 rfl rfl)
theorem dX0_fits_39 : decode cX0_fits 39 = .ok (.if_icmp .le 16, 3) := dk_164 0 16 (dk_at dksX0_fits_1 15 rfl rfl)
theorem dX0_fits_42 : decode cX0_fits 42 = .ok (.aload_n 0, 1) := dk_42 (dk_at dksX0_fits_1 18 rfl rfl)
theorem dX0_fits_43 : decode cX0_fits 43 = .ok (.iload 4, 2) := dk_21 4 (dk_at dksX0_fits_1 19 rfl rfl)
theorem dX0_fits_45 : decode cX0_fits 45 = .ok (.iload_n 3, 1) := dk_29 (dk_at dksX0_fits_1 21 rfl rfl)
theorem dX0_fits_46 : decode cX0_fits 46 = .ok (.iconst 1, 1) := dk_4 (dk_at dksX0_fits_1 22 rfl rfl)
theorem dX0_fits_47 : decode cX0_fits 47 = .ok (.isub, 1) := dk_100 (dk_at dksX0_fits_1 23 rfl rfl)
theorem dX0_fits_48 : decode cX0_fits 48 = .ok (.iconst 0, 1) := dk_3 (dk_at dksX0_fits_2 0 rfl rfl)
theorem dX0_fits_49 : decode cX0_fits 49 = .ok (.invokevirtual 381, 3) := dk_182 1 125 (dk_at dksX0_fits_2 1 rfl rfl)
theorem dX0_fits_52 : decode cX0_fits 52 = .ok (.goto 14, 3) := dk_167 0 14 (dk_at dksX0_fits_2 4 rfl rfl)
theorem dX0_fits_55 : decode cX0_fits 55 = .ok (.aload_n 0, 1) := dk_42 (dk_at dksX0_fits_2 7 rfl rfl)
theorem dX0_fits_56 : decode cX0_fits 56 = .ok (.iload_n 3, 1) := dk_29 (dk_at dksX0_fits_2 8 rfl rfl)
theorem dX0_fits_57 : decode cX0_fits 57 = .ok (.iload 4, 2) := dk_21 4 (dk_at dksX0_fits_2 9 rfl rfl)
theorem dX0_fits_59 : decode cX0_fits 59 = .ok (.iconst 1, 1) := dk_4 (dk_at dksX0_fits_2 11 rfl rfl)
theorem dX0_fits_60 : decode cX0_fits 60 = .ok (.isub, 1) := dk_100 (dk_at dksX0_fits_2 12 rfl rfl)
theorem dX0_fits_61 : decode cX0_fits 61 = .ok (.iconst 1, 1) := dk_4 (dk_at dksX0_fits_2 13 rfl rfl)
theorem dX0_fits_62 : decode cX0_fits 62 = .ok (.invokevirtual 381, 3) := dk_182 1 125 (dk_at dksX0_fits_2 14 rfl rfl)
theorem dX0_fits_65 : decode cX0_fits 65 = .ok (.ineg, 1) := dk_116 (dk_at dksX0_fits_2 17 rfl rfl)
theorem dX0_fits_66 : decode cX0_fits 66 = .ok (.iastore, 1) := dk_79 (dk_at dksX0_fits_2 18 rfl rfl)
theorem dX0_fits_67 : decode cX0_fits 67 = .ok (.iinc 4 1, 3) := dk_132 4 1 (dk_at dksX0_fits_2 19 rfl rfl)
theorem dX0_fits_70 : decode cX0_fits 70 = .ok (.goto (-59), 3) := dk_167 255 197 (dk_at dksX0_fits_3 0 rfl rfl)
theorem dX0_fits_73 : decode cX0_fits 73 = .ok (.iinc 3 1, 3) := dk_132 3 1 (dk_at dksX0_fits_3 3 rfl rfl)
theorem dX0_fits_76 : decode cX0_fits 76 = .ok (.goto (-74), 3) := dk_167 255 182 (dk_at dksX0_fits_3 6 rfl rfl)
theorem dX0_fits_79 : decode cX0_fits 79 = .ok (.iconst 0, 1) := dk_3 (dk_at dksX0_fits_3 9 rfl rfl)
theorem dX0_fits_80 : decode cX0_fits 80 = .ok (.istore_n 3, 1) := dk_62 (dk_at dksX0_fits_3 10 rfl rfl)
theorem dX0_fits_81 : decode cX0_fits 81 = .ok (.iload_n 3, 1) := dk_29 (dk_at dksX0_fits_3 11 rfl rfl)
theorem dX0_fits_82 : decode cX0_fits 82 = .ok (.bipush 8, 2) := dk_16 8 (dk_at dksX0_fits_3 12 rfl rfl)
theorem dX0_fits_84 : decode cX0_fits 84 = .ok (.if_icmp .ge 81, 3) := dk_162 0 81 (dk_at dksX0_fits_3 14 rfl rfl)
theorem dX0_fits_87 : decode cX0_fits 87 = .ok (.aload_n 0, 1) := dk_42 (dk_at dksX0_fits_3 17 rfl rfl)
theorem dX0_fits_88 : decode cX0_fits 88 = .ok (.getfield 372, 3) := dk_180 1 116 (dk_at dksX0_fits_3 18 rfl rfl)
theorem dX0_fits_91 : decode cX0_fits 91 = .ok (.aload_n 0, 1) := dk_42 (dk_at dksX0_fits_3 21 rfl rfl)
theorem dX0_fits_92 : decode cX0_fits 92 = .ok (.getfield 140, 3) := dk_180 0 140 (dk_at dksX0_fits_4 0 rfl rfl)
theorem dX0_fits_95 : decode cX0_fits 95 = .ok (.iload_n 1, 1) := dk_27 (dk_at dksX0_fits_4 3 rfl rfl)
theorem dX0_fits_96 : decode cX0_fits 96 = .ok (.aaload, 1) := dk_50 (dk_at dksX0_fits_4 4 rfl rfl)
theorem dX0_fits_97 : decode cX0_fits 97 = .ok (.iload_n 3, 1) := dk_29 (dk_at dksX0_fits_4 5 rfl rfl)
theorem dX0_fits_98 : decode cX0_fits 98 = .ok (.iaload, 1) := dk_46 (dk_at dksX0_fits_4 6 rfl rfl)
theorem dX0_fits_99 : decode cX0_fits 99 = .ok (.imul, 1) := dk_104 (dk_at dksX0_fits_4 7 rfl rfl)
theorem dX0_fits_100 : decode cX0_fits 100 = .ok (.bipush 100, 2) := dk_16 100 (dk_at dksX0_fits_4 8 rfl rfl)
theorem dX0_fits_102 : decode cX0_fits 102 = .ok (.idiv, 1) := dk_108 (dk_at dksX0_fits_4 10 rfl rfl)
theorem dX0_fits_103 : decode cX0_fits 103 = .ok (.istore 4, 2) := dk_54 4 (dk_at dksX0_fits_4 11 rfl rfl)
theorem dX0_fits_105 : decode cX0_fits 105 = .ok (.aload_n 0, 1) := dk_42 (dk_at dksX0_fits_4 13 rfl rfl)
theorem dX0_fits_106 : decode cX0_fits 106 = .ok (.getfield 143, 3) := dk_180 0 143 (dk_at dksX0_fits_4 14 rfl rfl)
theorem dX0_fits_109 : decode cX0_fits 109 = .ok (.iload_n 3, 1) := dk_29 (dk_at dksX0_fits_4 17 rfl rfl)
theorem dX0_fits_110 : decode cX0_fits 110 = .ok (.iconst 1, 1) := dk_4 (dk_at dksX0_fits_4 18 rfl rfl)
theorem dX0_fits_111 : decode cX0_fits 111 = .ok (.iadd, 1) := dk_96 (dk_at dksX0_fits_4 19 rfl rfl)
theorem dX0_fits_112 : decode cX0_fits 112 = .ok (.aaload, 1) := dk_50 (dk_at dksX0_fits_4 20 rfl rfl)
theorem dX0_fits_113 : decode cX0_fits 113 = .ok (.iload_n 3, 1) := dk_29 (dk_at dksX0_fits_4 21 rfl rfl)
theorem dX0_fits_114 : decode cX0_fits 114 = .ok (.aload_n 0, 1) := dk_42 (dk_at dksX0_fits_4 22 rfl rfl)
theorem dX0_fits_115 : decode cX0_fits 115 = .ok (.getfield 143, 3) := dk_180 0 143 (dk_at dksX0_fits_5 0 rfl rfl)
theorem dX0_fits_118 : decode cX0_fits 118 = .ok (.iload_n 3, 1) := dk_29 (dk_at dksX0_fits_5 3 rfl rfl)
theorem dX0_fits_119 : decode cX0_fits 119 = .ok (.iconst 1, 1) := dk_4 (dk_at dksX0_fits_5 4 rfl rfl)
theorem dX0_fits_120 : decode cX0_fits 120 = .ok (.iadd, 1) := dk_96 (dk_at dksX0_fits_5 5 rfl rfl)
theorem dX0_fits_121 : decode cX0_fits 121 = .ok (.aaload, 1) := dk_50 (dk_at dksX0_fits_5 6 rfl rfl)
theorem dX0_fits_122 : decode cX0_fits 122 = .ok (.iload_n 3, 1) := dk_29 (dk_at dksX0_fits_5 7 rfl rfl)
theorem dX0_fits_123 : decode cX0_fits 123 = .ok (.iaload, 1) := dk_46 (dk_at dksX0_fits_5 8 rfl rfl)
theorem dX0_fits_124 : decode cX0_fits 124 = .ok (.iload 4, 2) := dk_21 4 (dk_at dksX0_fits_5 9 rfl rfl)
theorem dX0_fits_126 : decode cX0_fits 126 = .ok (.iload_n 2, 1) := dk_28 (dk_at dksX0_fits_5 11 rfl rfl)
theorem dX0_fits_127 : decode cX0_fits 127 = .ok (.iadd, 1) := dk_96 (dk_at dksX0_fits_5 12 rfl rfl)
theorem dX0_fits_128 : decode cX0_fits 128 = .ok (.invokestatic 209, 3) := dk_184 0 209 (dk_at dksX0_fits_5 13 rfl rfl)
theorem dX0_fits_131 : decode cX0_fits 131 = .ok (.iastore, 1) := dk_79 (dk_at dksX0_fits_5 16 rfl rfl)
theorem dX0_fits_132 : decode cX0_fits 132 = .ok (.aload_n 0, 1) := dk_42 (dk_at dksX0_fits_5 17 rfl rfl)
theorem dX0_fits_133 : decode cX0_fits 133 = .ok (.getfield 143, 3) := dk_180 0 143 (dk_at dksX0_fits_5 18 rfl rfl)
theorem dX0_fits_136 : decode cX0_fits 136 = .ok (.iload_n 3, 1) := dk_29 (dk_at dksX0_fits_5 21 rfl rfl)
theorem dX0_fits_137 : decode cX0_fits 137 = .ok (.aaload, 1) := dk_50 (dk_at dksX0_fits_5 22 rfl rfl)
theorem dX0_fits_138 : decode cX0_fits 138 = .ok (.iload_n 3, 1) := dk_29 (dk_at dksX0_fits_5 23 rfl rfl)
theorem dX0_fits_139 : decode cX0_fits 139 = .ok (.iconst 1, 1) := dk_4 (dk_at dksX0_fits_6 0 rfl rfl)
theorem dX0_fits_140 : decode cX0_fits 140 = .ok (.iadd, 1) := dk_96 (dk_at dksX0_fits_6 1 rfl rfl)
theorem dX0_fits_141 : decode cX0_fits 141 = .ok (.aload_n 0, 1) := dk_42 (dk_at dksX0_fits_6 2 rfl rfl)
theorem dX0_fits_142 : decode cX0_fits 142 = .ok (.getfield 143, 3) := dk_180 0 143 (dk_at dksX0_fits_6 3 rfl rfl)
theorem dX0_fits_145 : decode cX0_fits 145 = .ok (.iload_n 3, 1) := dk_29 (dk_at dksX0_fits_6 6 rfl rfl)
theorem dX0_fits_146 : decode cX0_fits 146 = .ok (.aaload, 1) := dk_50 (dk_at dksX0_fits_6 7 rfl rfl)
theorem dX0_fits_147 : decode cX0_fits 147 = .ok (.iload_n 3, 1) := dk_29 (dk_at dksX0_fits_6 8 rfl rfl)
theorem dX0_fits_148 : decode cX0_fits 148 = .ok (.iconst 1, 1) := dk_4 (dk_at dksX0_fits_6 9 rfl rfl)
theorem dX0_fits_149 : decode cX0_fits 149 = .ok (.iadd, 1) := dk_96 (dk_at dksX0_fits_6 10 rfl rfl)
theorem dX0_fits_150 : decode cX0_fits 150 = .ok (.iaload, 1) := dk_46 (dk_at dksX0_fits_6 11 rfl rfl)
theorem dX0_fits_151 : decode cX0_fits 151 = .ok (.iload_n 2, 1) := dk_28 (dk_at dksX0_fits_6 12 rfl rfl)
theorem dX0_fits_152 : decode cX0_fits 152 = .ok (.iload 4, 2) := dk_21 4 (dk_at dksX0_fits_6 13 rfl rfl)
theorem dX0_fits_154 : decode cX0_fits 154 = .ok (.isub, 1) := dk_100 (dk_at dksX0_fits_6 15 rfl rfl)
theorem dX0_fits_155 : decode cX0_fits 155 = .ok (.invokestatic 209, 3) := dk_184 0 209 (dk_at dksX0_fits_6 16 rfl rfl)
theorem dX0_fits_158 : decode cX0_fits 158 = .ok (.iastore, 1) := dk_79 (dk_at dksX0_fits_6 19 rfl rfl)
theorem dX0_fits_159 : decode cX0_fits 159 = .ok (.iinc 3 1, 3) := dk_132 3 1 (dk_at dksX0_fits_6 20 rfl rfl)
theorem dX0_fits_162 : decode cX0_fits 162 = .ok (.goto (-81), 3) := dk_167 255 175 (dk_at dksX0_fits_7 0 rfl rfl)
theorem dX0_fits_165 : decode cX0_fits 165 = .ok (.iconst 0, 1) := dk_3 (dk_at dksX0_fits_7 3 rfl rfl)
theorem dX0_fits_166 : decode cX0_fits 166 = .ok (.istore_n 3, 1) := dk_62 (dk_at dksX0_fits_7 4 rfl rfl)
theorem dX0_fits_167 : decode cX0_fits 167 = .ok (.iload_n 3, 1) := dk_29 (dk_at dksX0_fits_7 5 rfl rfl)
theorem dX0_fits_168 : decode cX0_fits 168 = .ok (.bipush 8, 2) := dk_16 8 (dk_at dksX0_fits_7 6 rfl rfl)
theorem dX0_fits_170 : decode cX0_fits 170 = .ok (.if_icmp .gt 83, 3) := dk_163 0 83 (dk_at dksX0_fits_7 8 rfl rfl)
theorem dX0_fits_173 : decode cX0_fits 173 = .ok (.iconst 0, 1) := dk_3 (dk_at dksX0_fits_7 11 rfl rfl)
theorem dX0_fits_174 : decode cX0_fits 174 = .ok (.istore 4, 2) := dk_54 4 (dk_at dksX0_fits_7 12 rfl rfl)
theorem dX0_fits_176 : decode cX0_fits 176 = .ok (.iload 4, 2) := dk_21 4 (dk_at dksX0_fits_7 14 rfl rfl)
theorem dX0_fits_178 : decode cX0_fits 178 = .ok (.bipush 8, 2) := dk_16 8 (dk_at dksX0_fits_7 16 rfl rfl)
theorem dX0_fits_180 : decode cX0_fits 180 = .ok (.if_icmp .gt 67, 3) := dk_163 0 67 (dk_at dksX0_fits_7 18 rfl rfl)
theorem dX0_fits_183 : decode cX0_fits 183 = .ok (.iconst 0, 1) := dk_3 (dk_at dksX0_fits_7 21 rfl rfl)
theorem dX0_fits_184 : decode cX0_fits 184 = .ok (.istore 5, 2) := dk_54 5 (dk_at dksX0_fits_7 22 rfl rfl)
theorem dX0_fits_186 : decode cX0_fits 186 = .ok (.iload 5, 2) := dk_21 5 (dk_at dksX0_fits_8 0 rfl rfl)
theorem dX0_fits_188 : decode cX0_fits 188 = .ok (.bipush 8, 2) := dk_16 8 (dk_at dksX0_fits_8 2 rfl rfl)
theorem dX0_fits_190 : decode cX0_fits 190 = .ok (.if_icmp .gt 51, 3) := dk_163 0 51 (dk_at dksX0_fits_8 4 rfl rfl)
theorem dX0_fits_193 : decode cX0_fits 193 = .ok (.aload_n 0, 1) := dk_42 (dk_at dksX0_fits_8 7 rfl rfl)
theorem dX0_fits_194 : decode cX0_fits 194 = .ok (.getfield 143, 3) := dk_180 0 143 (dk_at dksX0_fits_8 8 rfl rfl)
theorem dX0_fits_197 : decode cX0_fits 197 = .ok (.iload 4, 2) := dk_21 4 (dk_at dksX0_fits_8 11 rfl rfl)
theorem dX0_fits_199 : decode cX0_fits 199 = .ok (.aaload, 1) := dk_50 (dk_at dksX0_fits_8 13 rfl rfl)
theorem dX0_fits_200 : decode cX0_fits 200 = .ok (.iload 5, 2) := dk_21 5 (dk_at dksX0_fits_8 14 rfl rfl)
theorem dX0_fits_202 : decode cX0_fits 202 = .ok (.aload_n 0, 1) := dk_42 (dk_at dksX0_fits_8 16 rfl rfl)
theorem dX0_fits_203 : decode cX0_fits 203 = .ok (.getfield 143, 3) := dk_180 0 143 (dk_at dksX0_fits_8 17 rfl rfl)
theorem dX0_fits_206 : decode cX0_fits 206 = .ok (.iload 4, 2) := dk_21 4 (dk_at dksX0_fits_8 20 rfl rfl)
theorem dX0_fits_208 : decode cX0_fits 208 = .ok (.aaload, 1) := dk_50 (dk_at dksX0_fits_8 22 rfl rfl)
theorem dX0_fits_209 : decode cX0_fits 209 = .ok (.iload 5, 2) := dk_21 5 (dk_at dksX0_fits_9 0 rfl rfl)
theorem dX0_fits_211 : decode cX0_fits 211 = .ok (.iaload, 1) := dk_46 (dk_at dksX0_fits_9 2 rfl rfl)
theorem dX0_fits_212 : decode cX0_fits 212 = .ok (.aload_n 0, 1) := dk_42 (dk_at dksX0_fits_9 3 rfl rfl)
theorem dX0_fits_213 : decode cX0_fits 213 = .ok (.getfield 143, 3) := dk_180 0 143 (dk_at dksX0_fits_9 4 rfl rfl)
theorem dX0_fits_216 : decode cX0_fits 216 = .ok (.iload 4, 2) := dk_21 4 (dk_at dksX0_fits_9 7 rfl rfl)
theorem dX0_fits_218 : decode cX0_fits 218 = .ok (.aaload, 1) := dk_50 (dk_at dksX0_fits_9 9 rfl rfl)
theorem dX0_fits_219 : decode cX0_fits 219 = .ok (.iload_n 3, 1) := dk_29 (dk_at dksX0_fits_9 10 rfl rfl)
theorem dX0_fits_220 : decode cX0_fits 220 = .ok (.iaload, 1) := dk_46 (dk_at dksX0_fits_9 11 rfl rfl)
theorem dX0_fits_221 : decode cX0_fits 221 = .ok (.aload_n 0, 1) := dk_42 (dk_at dksX0_fits_9 12 rfl rfl)
theorem dX0_fits_222 : decode cX0_fits 222 = .ok (.getfield 143, 3) := dk_180 0 143 (dk_at dksX0_fits_9 13 rfl rfl)
theorem dX0_fits_225 : decode cX0_fits 225 = .ok (.iload_n 3, 1) := dk_29 (dk_at dksX0_fits_9 16 rfl rfl)
theorem dX0_fits_226 : decode cX0_fits 226 = .ok (.aaload, 1) := dk_50 (dk_at dksX0_fits_9 17 rfl rfl)
theorem dX0_fits_227 : decode cX0_fits 227 = .ok (.iload 5, 2) := dk_21 5 (dk_at dksX0_fits_9 18 rfl rfl)
theorem dX0_fits_229 : decode cX0_fits 229 = .ok (.iaload, 1) := dk_46 (dk_at dksX0_fits_9 20 rfl rfl)
theorem dX0_fits_230 : decode cX0_fits 230 = .ok (.iadd, 1) := dk_96 (dk_at dksX0_fits_9 21 rfl rfl)
theorem dX0_fits_231 : decode cX0_fits 231 = .ok (.invokestatic 209, 3) := dk_184 0 209 (dk_at dksX0_fits_10 0 rfl rfl)
theorem dX0_fits_234 : decode cX0_fits 234 = .ok (.iastore, 1) := dk_79 (dk_at dksX0_fits_10 3 rfl rfl)
theorem dX0_fits_235 : decode cX0_fits 235 = .ok (.iinc 5 1, 3) := dk_132 5 1 (dk_at dksX0_fits_10 4 rfl rfl)
theorem dX0_fits_238 : decode cX0_fits 238 = .ok (.goto (-52), 3) := dk_167 255 204 (dk_at dksX0_fits_10 7 rfl rfl)
theorem dX0_fits_241 : decode cX0_fits 241 = .ok (.iinc 4 1, 3) := dk_132 4 1 (dk_at dksX0_fits_10 10 rfl rfl)
theorem dX0_fits_244 : decode cX0_fits 244 = .ok (.goto (-68), 3) := dk_167 255 188 (dk_at dksX0_fits_10 13 rfl rfl)
theorem dX0_fits_247 : decode cX0_fits 247 = .ok (.iinc 3 1, 3) := dk_132 3 1 (dk_at dksX0_fits_10 16 rfl rfl)
theorem dX0_fits_250 : decode cX0_fits 250 = .ok (.goto (-83), 3) := dk_167 255 173 (dk_at dksX0_fits_10 19 rfl rfl)
theorem dX0_fits_253 : decode cX0_fits 253 = .ok (.iconst 1, 1) := dk_4 (dk_at dksX0_fits_10 22 rfl rfl)
theorem dX0_fits_254 : decode cX0_fits 254 = .ok (.istore_n 3, 1) := dk_62 (dk_at dksX0_fits_10 23 rfl rfl)
theorem dX0_fits_255 : decode cX0_fits 255 = .ok (.iconst 0, 1) := dk_3 (dk_at dksX0_fits_11 0 rfl rfl)
theorem dX0_fits_256 : decode cX0_fits 256 = .ok (.istore 4, 2) := dk_54 4 (dk_at dksX0_fits_11 1 rfl rfl)
theorem dX0_fits_258 : decode cX0_fits 258 = .ok (.iload 4, 2) := dk_21 4 (dk_at dksX0_fits_11 3 rfl rfl)
theorem dX0_fits_260 : decode cX0_fits 260 = .ok (.bipush 8, 2) := dk_16 8 (dk_at dksX0_fits_11 5 rfl rfl)
theorem dX0_fits_262 : decode cX0_fits 262 = .ok (.if_icmp .gt 32, 3) := dk_163 0 32 (dk_at dksX0_fits_11 7 rfl rfl)
theorem dX0_fits_265 : decode cX0_fits 265 = .ok (.iload_n 3, 1) := dk_29 (dk_at dksX0_fits_11 10 rfl rfl)
theorem dX0_fits_266 : decode cX0_fits 266 = .ok (.ifCond .eq 28, 3) := dk_153 0 28 (dk_at dksX0_fits_11 11 rfl rfl)
theorem dX0_fits_269 : decode cX0_fits 269 = .ok (.aload_n 0, 1) := dk_42 (dk_at dksX0_fits_11 14 rfl rfl)
theorem dX0_fits_270 : decode cX0_fits 270 = .ok (.getfield 143, 3) := dk_180 0 143 (dk_at dksX0_fits_11 15 rfl rfl)
theorem dX0_fits_273 : decode cX0_fits 273 = .ok (.iload 4, 2) := dk_21 4 (dk_at dksX0_fits_11 18 rfl rfl)
theorem dX0_fits_275 : decode cX0_fits 275 = .ok (.aaload, 1) := dk_50 (dk_at dksX0_fits_11 20 rfl rfl)
theorem dX0_fits_276 : decode cX0_fits 276 = .ok (.iload 4, 2) := dk_21 4 (dk_at dksX0_fits_11 21 rfl rfl)
theorem dX0_fits_278 : decode cX0_fits 278 = .ok (.iaload, 1) := dk_46 (dk_at dksX0_fits_11 23 rfl rfl)
theorem dX0_fits_279 : decode cX0_fits 279 = .ok (.ifCond .lt 7, 3) := dk_155 0 7 (dk_at dksX0_fits_12 0 rfl rfl)
theorem dX0_fits_282 : decode cX0_fits 282 = .ok (.iconst 1, 1) := dk_4 (dk_at dksX0_fits_12 3 rfl rfl)
theorem dX0_fits_283 : decode cX0_fits 283 = .ok (.goto 4, 3) := dk_167 0 4 (dk_at dksX0_fits_12 4 rfl rfl)
theorem dX0_fits_286 : decode cX0_fits 286 = .ok (.iconst 0, 1) := dk_3 (dk_at dksX0_fits_12 7 rfl rfl)
theorem dX0_fits_287 : decode cX0_fits 287 = .ok (.istore_n 3, 1) := dk_62 (dk_at dksX0_fits_12 8 rfl rfl)
theorem dX0_fits_288 : decode cX0_fits 288 = .ok (.iinc 4 1, 3) := dk_132 4 1 (dk_at dksX0_fits_12 9 rfl rfl)
theorem dX0_fits_291 : decode cX0_fits 291 = .ok (.goto (-33), 3) := dk_167 255 223 (dk_at dksX0_fits_12 12 rfl rfl)
theorem dX0_fits_294 : decode cX0_fits 294 = .ok (.iload_n 3, 1) := dk_29 (dk_at dksX0_fits_12 15 rfl rfl)
theorem dX0_fits_295 : decode cX0_fits 295 = .ok (.ireturn, 1) := dk_172 (dk_at dksX0_fits_12 16 rfl rfl)
abbrev cX0_fitted : ByteArray := prog_1_method_67_code
def yX0_fitted : MethodName := ⟨RX0, "fitted", "(IIIIIIII)I"⟩
def dkwX0_fitted_4 : List UInt8 := [180, 0, 143, 21, 7, 4, 96, 50, 21, 7, 46, 172]
abbrev dktX0_fitted_4 : List UInt8 := dkwX0_fitted_4 ++ []
def dkwX0_fitted_3 : List UInt8 := [21, 8, 154, 0, 19, 42, 180, 0, 143, 21, 7, 50, 21, 7, 4, 96, 46, 116, 167, 0, 15, 42]
abbrev dktX0_fitted_3 : List UInt8 := dkwX0_fitted_3 ++ dktX0_fitted_4
def dkwX0_fitted_2 : List UInt8 := [21, 4, 21, 5, 21, 6, 182, 1, 122, 42, 180, 1, 116, 154, 0, 5, 2, 172, 42, 27, 182, 1, 139, 87]
abbrev dktX0_fitted_2 : List UInt8 := dkwX0_fitted_2 ++ dktX0_fitted_3
def dkwX0_fitted_1 : List UInt8 := [184, 0, 5, 153, 0, 14, 21, 8, 133, 9, 10, 184, 0, 5, 154, 0, 6, 16, 254, 172, 42, 29, 28]
abbrev dktX0_fitted_1 : List UInt8 := dkwX0_fitted_1 ++ dktX0_fitted_2
def dkwX0_fitted_0 : List UInt8 := [42, 27, 28, 29, 21, 4, 21, 5, 21, 6, 182, 1, 135, 153, 0, 27, 21, 7, 133, 9, 20, 0, 159]
abbrev dktX0_fitted_0 : List UInt8 := dkwX0_fitted_0 ++ dktX0_fitted_1
theorem dksX0_fitted_0 : cX0_fitted.data.toList.drop 0 = dktX0_fitted_0 := by decide +kernel
theorem dksX0_fitted_1 : cX0_fitted.data.toList.drop 23 = dktX0_fitted_1 := dk_seg dksX0_fitted_0 23 rfl rfl
theorem dksX0_fitted_2 : cX0_fitted.data.toList.drop 46 = dktX0_fitted_2 := dk_seg dksX0_fitted_1 23 rfl rfl
theorem dksX0_fitted_3 : cX0_fitted.data.toList.drop 70 = dktX0_fitted_3 := dk_seg dksX0_fitted_2 24 rfl rfl
theorem dksX0_fitted_4 : cX0_fitted.data.toList.drop 92 = dktX0_fitted_4 := dk_seg dksX0_fitted_3 22 rfl rfl
theorem dX0_fitted_0 : decode cX0_fitted 0 = .ok (.aload_n 0, 1) := dk_42 (dk_at dksX0_fitted_0 0 rfl rfl)
theorem dX0_fitted_1 : decode cX0_fitted 1 = .ok (.iload_n 1, 1) := dk_27 (dk_at dksX0_fitted_0 1 rfl rfl)
theorem dX0_fitted_2 : decode cX0_fitted 2 = .ok (.iload_n 2, 1) := dk_28 (dk_at dksX0_fitted_0 2 rfl rfl)
theorem dX0_fitted_3 : decode cX0_fitted 3 = .ok (.iload_n 3, 1) := dk_29 (dk_at dksX0_fitted_0 3 rfl rfl)
theorem dX0_fitted_4 : decode cX0_fitted 4 = .ok (.iload 4, 2) := dk_21 4 (dk_at dksX0_fitted_0 4 rfl rfl)
theorem dX0_fitted_6 : decode cX0_fitted 6 = .ok (.iload 5, 2) := dk_21 5 (dk_at dksX0_fitted_0 6 rfl rfl)
theorem dX0_fitted_8 : decode cX0_fitted 8 = .ok (.iload 6, 2) := dk_21 6 (dk_at dksX0_fitted_0 8 rfl rfl)
theorem dX0_fitted_10 : decode cX0_fitted 10 = .ok (.invokevirtual 391, 3) := dk_182 1 135 (dk_at dksX0_fitted_0 10 rfl rfl)
theorem dX0_fitted_13 : decode cX0_fitted 13 = .ok (.ifCond .eq 27, 3) := dk_153 0 27 (dk_at dksX0_fitted_0 13 rfl rfl)
theorem dX0_fitted_16 : decode cX0_fitted 16 = .ok (.iload 7, 2) := dk_21 7 (dk_at dksX0_fitted_0 16 rfl rfl)
theorem dX0_fitted_18 : decode cX0_fitted 18 = .ok (.i2l, 1) := dk_133 (dk_at dksX0_fitted_0 18 rfl rfl)
theorem dX0_fitted_19 : decode cX0_fitted 19 = .ok (.lconst 0, 1) := dk_9 (dk_at dksX0_fitted_0 19 rfl rfl)
theorem dX0_fitted_20 : decode cX0_fitted 20 = .ok (.ldc2_w 159, 3) := dk_20 0 159 (dk_at dksX0_fitted_0 20 rfl rfl)
theorem dX0_fitted_23 : decode cX0_fitted 23 = .ok (.invokestatic 5, 3) := dk_184 0 5 (dk_at dksX0_fitted_1 0 rfl rfl)
theorem dX0_fitted_26 : decode cX0_fitted 26 = .ok (.ifCond .eq 14, 3) := dk_153 0 14 (dk_at dksX0_fitted_1 3 rfl rfl)
theorem dX0_fitted_29 : decode cX0_fitted 29 = .ok (.iload 8, 2) := dk_21 8 (dk_at dksX0_fitted_1 6 rfl rfl)
theorem dX0_fitted_31 : decode cX0_fitted 31 = .ok (.i2l, 1) := dk_133 (dk_at dksX0_fitted_1 8 rfl rfl)
theorem dX0_fitted_32 : decode cX0_fitted 32 = .ok (.lconst 0, 1) := dk_9 (dk_at dksX0_fitted_1 9 rfl rfl)
theorem dX0_fitted_33 : decode cX0_fitted 33 = .ok (.lconst 1, 1) := dk_10 (dk_at dksX0_fitted_1 10 rfl rfl)
theorem dX0_fitted_34 : decode cX0_fitted 34 = .ok (.invokestatic 5, 3) := dk_184 0 5 (dk_at dksX0_fitted_1 11 rfl rfl)
theorem dX0_fitted_37 : decode cX0_fitted 37 = .ok (.ifCond .ne 6, 3) := dk_154 0 6 (dk_at dksX0_fitted_1 14 rfl rfl)
theorem dX0_fitted_40 : decode cX0_fitted 40 = .ok (.bipush (-2), 2) := dk_16 254 (dk_at dksX0_fitted_1 17 rfl rfl)
theorem dX0_fitted_42 : decode cX0_fitted 42 = .ok (.ireturn, 1) := dk_172 (dk_at dksX0_fitted_1 19 rfl rfl)
theorem dX0_fitted_43 : decode cX0_fitted 43 = .ok (.aload_n 0, 1) := dk_42 (dk_at dksX0_fitted_1 20 rfl rfl)
theorem dX0_fitted_44 : decode cX0_fitted 44 = .ok (.iload_n 3, 1) := dk_29 (dk_at dksX0_fitted_1 21 rfl rfl)
theorem dX0_fitted_45 : decode cX0_fitted 45 = .ok (.iload_n 2, 1) := dk_28 (dk_at dksX0_fitted_1 22 rfl rfl)
theorem dX0_fitted_46 : decode cX0_fitted 46 = .ok (.iload 4, 2) := dk_21 4 (dk_at dksX0_fitted_2 0 rfl rfl)
theorem dX0_fitted_48 : decode cX0_fitted 48 = .ok (.iload 5, 2) := dk_21 5 (dk_at dksX0_fitted_2 2 rfl rfl)
theorem dX0_fitted_50 : decode cX0_fitted 50 = .ok (.iload 6, 2) := dk_21 6 (dk_at dksX0_fitted_2 4 rfl rfl)
theorem dX0_fitted_52 : decode cX0_fitted 52 = .ok (.invokevirtual 378, 3) := dk_182 1 122 (dk_at dksX0_fitted_2 6 rfl rfl)
theorem dX0_fitted_55 : decode cX0_fitted 55 = .ok (.aload_n 0, 1) := dk_42 (dk_at dksX0_fitted_2 9 rfl rfl)
theorem dX0_fitted_56 : decode cX0_fitted 56 = .ok (.getfield 372, 3) := dk_180 1 116 (dk_at dksX0_fitted_2 10 rfl rfl)
theorem dX0_fitted_59 : decode cX0_fitted 59 = .ok (.ifCond .ne 5, 3) := dk_154 0 5 (dk_at dksX0_fitted_2 13 rfl rfl)
theorem dX0_fitted_62 : decode cX0_fitted 62 = .ok (.iconst (-1), 1) := dk_2 (dk_at dksX0_fitted_2 16 rfl rfl)
theorem dX0_fitted_63 : decode cX0_fitted 63 = .ok (.ireturn, 1) := dk_172 (dk_at dksX0_fitted_2 17 rfl rfl)
theorem dX0_fitted_64 : decode cX0_fitted 64 = .ok (.aload_n 0, 1) := dk_42 (dk_at dksX0_fitted_2 18 rfl rfl)
theorem dX0_fitted_65 : decode cX0_fitted 65 = .ok (.iload_n 1, 1) := dk_27 (dk_at dksX0_fitted_2 19 rfl rfl)
theorem dX0_fitted_66 : decode cX0_fitted 66 = .ok (.invokevirtual 395, 3) := dk_182 1 139 (dk_at dksX0_fitted_2 20 rfl rfl)
theorem dX0_fitted_69 : decode cX0_fitted 69 = .ok (.pop, 1) := dk_87 (dk_at dksX0_fitted_2 23 rfl rfl)
theorem dX0_fitted_70 : decode cX0_fitted 70 = .ok (.iload 8, 2) := dk_21 8 (dk_at dksX0_fitted_3 0 rfl rfl)
theorem dX0_fitted_72 : decode cX0_fitted 72 = .ok (.ifCond .ne 19, 3) := dk_154 0 19 (dk_at dksX0_fitted_3 2 rfl rfl)
theorem dX0_fitted_75 : decode cX0_fitted 75 = .ok (.aload_n 0, 1) := dk_42 (dk_at dksX0_fitted_3 5 rfl rfl)
theorem dX0_fitted_76 : decode cX0_fitted 76 = .ok (.getfield 143, 3) := dk_180 0 143 (dk_at dksX0_fitted_3 6 rfl rfl)
theorem dX0_fitted_79 : decode cX0_fitted 79 = .ok (.iload 7, 2) := dk_21 7 (dk_at dksX0_fitted_3 9 rfl rfl)
theorem dX0_fitted_81 : decode cX0_fitted 81 = .ok (.aaload, 1) := dk_50 (dk_at dksX0_fitted_3 11 rfl rfl)
theorem dX0_fitted_82 : decode cX0_fitted 82 = .ok (.iload 7, 2) := dk_21 7 (dk_at dksX0_fitted_3 12 rfl rfl)
theorem dX0_fitted_84 : decode cX0_fitted 84 = .ok (.iconst 1, 1) := dk_4 (dk_at dksX0_fitted_3 14 rfl rfl)
theorem dX0_fitted_85 : decode cX0_fitted 85 = .ok (.iadd, 1) := dk_96 (dk_at dksX0_fitted_3 15 rfl rfl)
theorem dX0_fitted_86 : decode cX0_fitted 86 = .ok (.iaload, 1) := dk_46 (dk_at dksX0_fitted_3 16 rfl rfl)
theorem dX0_fitted_87 : decode cX0_fitted 87 = .ok (.ineg, 1) := dk_116 (dk_at dksX0_fitted_3 17 rfl rfl)
theorem dX0_fitted_88 : decode cX0_fitted 88 = .ok (.goto 15, 3) := dk_167 0 15 (dk_at dksX0_fitted_3 18 rfl rfl)
theorem dX0_fitted_91 : decode cX0_fitted 91 = .ok (.aload_n 0, 1) := dk_42 (dk_at dksX0_fitted_3 21 rfl rfl)
theorem dX0_fitted_92 : decode cX0_fitted 92 = .ok (.getfield 143, 3) := dk_180 0 143 (dk_at dksX0_fitted_4 0 rfl rfl)
theorem dX0_fitted_95 : decode cX0_fitted 95 = .ok (.iload 7, 2) := dk_21 7 (dk_at dksX0_fitted_4 3 rfl rfl)
theorem dX0_fitted_97 : decode cX0_fitted 97 = .ok (.iconst 1, 1) := dk_4 (dk_at dksX0_fitted_4 5 rfl rfl)
theorem dX0_fitted_98 : decode cX0_fitted 98 = .ok (.iadd, 1) := dk_96 (dk_at dksX0_fitted_4 6 rfl rfl)
theorem dX0_fitted_99 : decode cX0_fitted 99 = .ok (.aaload, 1) := dk_50 (dk_at dksX0_fitted_4 7 rfl rfl)
theorem dX0_fitted_100 : decode cX0_fitted 100 = .ok (.iload 7, 2) := dk_21 7 (dk_at dksX0_fitted_4 8 rfl rfl)
theorem dX0_fitted_102 : decode cX0_fitted 102 = .ok (.iaload, 1) := dk_46 (dk_at dksX0_fitted_4 10 rfl rfl)
theorem dX0_fitted_103 : decode cX0_fitted 103 = .ok (.ireturn, 1) := dk_172 (dk_at dksX0_fitted_4 11 rfl rfl)
abbrev cX0_ranked : ByteArray := prog_1_method_70_code
def yX0_ranked : MethodName := ⟨RX0, "ranked", "(IIIIIII)I"⟩
def dkwX0_ranked_11 : List UInt8 := [182, 1, 150, 172]
abbrev dktX0_ranked_11 : List UInt8 := dkwX0_ranked_11 ++ []
def dkwX0_ranked_10 : List UInt8 := [182, 1, 147, 54, 10, 21, 7, 5, 160, 0, 8, 21, 10, 167, 0, 13, 42, 21, 8, 21, 9, 21, 10]
abbrev dktX0_ranked_10 : List UInt8 := dkwX0_ranked_10 ++ dktX0_ranked_11
def dkwX0_ranked_9 : List UInt8 := [154, 0, 8, 21, 8, 167, 0, 8, 21, 9, 21, 8, 100, 172, 42, 4, 21, 8, 120, 4, 100, 21, 9]
abbrev dktX0_ranked_9 : List UInt8 := dkwX0_ranked_9 ++ dktX0_ranked_10
def dkwX0_ranked_8 : List UInt8 := [21, 8, 153, 0, 10, 21, 9, 21, 8, 160, 0, 6, 16, 248, 172, 21, 7, 5, 162, 0, 19, 21, 7]
abbrev dktX0_ranked_8 : List UInt8 := dkwX0_ranked_8 ++ dktX0_ranked_9
def dkwX0_ranked_7 : List UInt8 := [132, 9, 1, 132, 11, 1, 167, 255, 197, 21, 10, 154, 0, 7, 21, 9, 54, 8, 132, 10, 1, 167, 255, 151]
abbrev dktX0_ranked_7 : List UInt8 := dkwX0_ranked_7 ++ dktX0_ranked_8
def dkwX0_ranked_6 : List UInt8 := [16, 248, 172, 42, 180, 0, 146, 21, 9, 42, 180, 0, 57, 21, 11, 50, 180, 0, 195, 21, 6, 46, 79]
abbrev dktX0_ranked_6 : List UInt8 := dkwX0_ranked_6 ++ dktX0_ranked_7
def dkwX0_ranked_5 : List UInt8 := [162, 0, 56, 42, 180, 0, 117, 21, 11, 46, 28, 159, 0, 6, 167, 0, 36, 21, 9, 16, 20, 160, 0, 6]
abbrev dktX0_ranked_5 : List UInt8 := dkwX0_ranked_5 ++ dktX0_ranked_6
def dkwX0_ranked_4 : List UInt8 := [167, 0, 5, 21, 4, 21, 5, 42, 180, 0, 156, 182, 1, 69, 3, 54, 11, 21, 11, 42, 180, 0, 156]
abbrev dktX0_ranked_4 : List UInt8 := dkwX0_ranked_4 ++ dktX0_ranked_5
def dkwX0_ranked_3 : List UInt8 := [54, 8, 3, 54, 9, 3, 54, 10, 21, 10, 5, 162, 0, 105, 42, 27, 21, 10, 154, 0, 7, 29]
abbrev dktX0_ranked_3 : List UInt8 := dkwX0_ranked_3 ++ dktX0_ranked_4
def dkwX0_ranked_2 : List UInt8 := [184, 0, 5, 153, 0, 16, 21, 7, 133, 9, 20, 0, 3, 184, 0, 5, 154, 0, 6, 16, 254, 172, 3]
abbrev dktX0_ranked_2 : List UInt8 := dkwX0_ranked_2 ++ dktX0_ranked_3
def dkwX0_ranked_1 : List UInt8 := [29, 21, 4, 126, 154, 0, 37, 42, 28, 182, 1, 88, 153, 0, 29, 21, 6, 133, 9, 20, 1, 145]
abbrev dktX0_ranked_1 : List UInt8 := dkwX0_ranked_1 ++ dktX0_ranked_2
def dkwX0_ranked_0 : List UInt8 := [42, 27, 29, 21, 5, 42, 180, 0, 156, 182, 1, 65, 153, 0, 53, 42, 21, 4, 182, 1, 19, 153, 0, 44]
abbrev dktX0_ranked_0 : List UInt8 := dkwX0_ranked_0 ++ dktX0_ranked_1
theorem dksX0_ranked_0 : cX0_ranked.data.toList.drop 0 = dktX0_ranked_0 := by decide +kernel
theorem dksX0_ranked_1 : cX0_ranked.data.toList.drop 24 = dktX0_ranked_1 := dk_seg dksX0_ranked_0 24 rfl rfl
theorem dksX0_ranked_2 : cX0_ranked.data.toList.drop 46 = dktX0_ranked_2 := dk_seg dksX0_ranked_1 22 rfl rfl
theorem dksX0_ranked_3 : cX0_ranked.data.toList.drop 69 = dktX0_ranked_3 := dk_seg dksX0_ranked_2 23 rfl rfl
theorem dksX0_ranked_4 : cX0_ranked.data.toList.drop 91 = dktX0_ranked_4 := dk_seg dksX0_ranked_3 22 rfl rfl
theorem dksX0_ranked_5 : cX0_ranked.data.toList.drop 114 = dktX0_ranked_5 := dk_seg dksX0_ranked_4 23 rfl rfl
theorem dksX0_ranked_6 : cX0_ranked.data.toList.drop 138 = dktX0_ranked_6 := dk_seg dksX0_ranked_5 24 rfl rfl
theorem dksX0_ranked_7 : cX0_ranked.data.toList.drop 161 = dktX0_ranked_7 := dk_seg dksX0_ranked_6 23 rfl rfl
theorem dksX0_ranked_8 : cX0_ranked.data.toList.drop 185 = dktX0_ranked_8 := dk_seg dksX0_ranked_7 24 rfl rfl
theorem dksX0_ranked_9 : cX0_ranked.data.toList.drop 208 = dktX0_ranked_9 := dk_seg dksX0_ranked_8 23 rfl rfl
theorem dksX0_ranked_10 : cX0_ranked.data.toList.drop 231 = dktX0_ranked_10 := dk_seg dksX0_ranked_9 23 rfl rfl
theorem dksX0_ranked_11 : cX0_ranked.data.toList.drop 254 = dktX0_ranked_11 := dk_seg dksX0_ranked_10 23 rfl rfl
theorem dX0_ranked_0 : decode cX0_ranked 0 = .ok (.aload_n 0, 1) := dk_42 (dk_at dksX0_ranked_0 0 rfl rfl)
theorem dX0_ranked_1 : decode cX0_ranked 1 = .ok (.iload_n 1, 1) := dk_27 (dk_at dksX0_ranked_0 1 rfl rfl)
theorem dX0_ranked_2 : decode cX0_ranked 2 = .ok (.iload_n 3, 1) := dk_29 (dk_at dksX0_ranked_0 2 rfl rfl)
theorem dX0_ranked_3 : decode cX0_ranked 3 = .ok (.iload 5, 2) := dk_21 5 (dk_at dksX0_ranked_0 3 rfl rfl)
theorem dX0_ranked_5 : decode cX0_ranked 5 = .ok (.aload_n 0, 1) := dk_42 (dk_at dksX0_ranked_0 5 rfl rfl)
theorem dX0_ranked_6 : decode cX0_ranked 6 = .ok (.getfield 156, 3) := dk_180 0 156 (dk_at dksX0_ranked_0 6 rfl rfl)
theorem dX0_ranked_9 : decode cX0_ranked 9 = .ok (.invokevirtual 321, 3) := dk_182 1 65 (dk_at dksX0_ranked_0 9 rfl rfl)
theorem dX0_ranked_12 : decode cX0_ranked 12 = .ok (.ifCond .eq 53, 3) := dk_153 0 53 (dk_at dksX0_ranked_0 12 rfl rfl)
theorem dX0_ranked_15 : decode cX0_ranked 15 = .ok (.aload_n 0, 1) := dk_42 (dk_at dksX0_ranked_0 15 rfl rfl)
theorem dX0_ranked_16 : decode cX0_ranked 16 = .ok (.iload 4, 2) := dk_21 4 (dk_at dksX0_ranked_0 16 rfl rfl)
theorem dX0_ranked_18 : decode cX0_ranked 18 = .ok (.invokevirtual 275, 3) := dk_182 1 19 (dk_at dksX0_ranked_0 18 rfl rfl)
theorem dX0_ranked_21 : decode cX0_ranked 21 = .ok (.ifCond .eq 44, 3) := dk_153 0 44 (dk_at dksX0_ranked_0 21 rfl rfl)
theorem dX0_ranked_24 : decode cX0_ranked 24 = .ok (.iload_n 3, 1) := dk_29 (dk_at dksX0_ranked_1 0 rfl rfl)
theorem dX0_ranked_25 : decode cX0_ranked 25 = .ok (.iload 4, 2) := dk_21 4 (dk_at dksX0_ranked_1 1 rfl rfl)
theorem dX0_ranked_27 : decode cX0_ranked 27 = .ok (.iand, 1) := dk_126 (dk_at dksX0_ranked_1 3 rfl rfl)
theorem dX0_ranked_28 : decode cX0_ranked 28 = .ok (.ifCond .ne 37, 3) := dk_154 0 37 (dk_at dksX0_ranked_1 4 rfl rfl)
theorem dX0_ranked_31 : decode cX0_ranked 31 = .ok (.aload_n 0, 1) := dk_42 (dk_at dksX0_ranked_1 7 rfl rfl)
theorem dX0_ranked_32 : decode cX0_ranked 32 = .ok (.iload_n 2, 1) := dk_28 (dk_at dksX0_ranked_1 8 rfl rfl)
theorem dX0_ranked_33 : decode cX0_ranked 33 = .ok (.invokevirtual 344, 3) := dk_182 1 88 (dk_at dksX0_ranked_1 9 rfl rfl)
theorem dX0_ranked_36 : decode cX0_ranked 36 = .ok (.ifCond .eq 29, 3) := dk_153 0 29 (dk_at dksX0_ranked_1 12 rfl rfl)
theorem dX0_ranked_39 : decode cX0_ranked 39 = .ok (.iload 6, 2) := dk_21 6 (dk_at dksX0_ranked_1 15 rfl rfl)
theorem dX0_ranked_41 : decode cX0_ranked 41 = .ok (.i2l, 1) := dk_133 (dk_at dksX0_ranked_1 17 rfl rfl)
theorem dX0_ranked_42 : decode cX0_ranked 42 = .ok (.lconst 0, 1) := dk_9 (dk_at dksX0_ranked_1 18 rfl rfl)
theorem dX0_ranked_43 : decode cX0_ranked 43 = .ok (.ldc2_w 401, 3) := dk_20 1 145 (dk_at dksX0_ranked_1 19 rfl rfl)
theorem dX0_ranked_46 : decode cX0_ranked 46 = .ok (.invokestatic 5, 3) := dk_184 0 5 (dk_at dksX0_ranked_2 0 rfl rfl)
theorem dX0_ranked_49 : decode cX0_ranked 49 = .ok (.ifCond .eq 16, 3) := dk_153 0 16 (dk_at dksX0_ranked_2 3 rfl rfl)
theorem dX0_ranked_52 : decode cX0_ranked 52 = .ok (.iload 7, 2) := dk_21 7 (dk_at dksX0_ranked_2 6 rfl rfl)
theorem dX0_ranked_54 : decode cX0_ranked 54 = .ok (.i2l, 1) := dk_133 (dk_at dksX0_ranked_2 8 rfl rfl)
theorem dX0_ranked_55 : decode cX0_ranked 55 = .ok (.lconst 0, 1) := dk_9 (dk_at dksX0_ranked_2 9 rfl rfl)
theorem dX0_ranked_56 : decode cX0_ranked 56 = .ok (.ldc2_w 3, 3) := dk_20 0 3 (dk_at dksX0_ranked_2 10 rfl rfl)
theorem dX0_ranked_59 : decode cX0_ranked 59 = .ok (.invokestatic 5, 3) := dk_184 0 5 (dk_at dksX0_ranked_2 13 rfl rfl)
theorem dX0_ranked_62 : decode cX0_ranked 62 = .ok (.ifCond .ne 6, 3) := dk_154 0 6 (dk_at dksX0_ranked_2 16 rfl rfl)
theorem dX0_ranked_65 : decode cX0_ranked 65 = .ok (.bipush (-2), 2) := dk_16 254 (dk_at dksX0_ranked_2 19 rfl rfl)
theorem dX0_ranked_67 : decode cX0_ranked 67 = .ok (.ireturn, 1) := dk_172 (dk_at dksX0_ranked_2 21 rfl rfl)
theorem dX0_ranked_68 : decode cX0_ranked 68 = .ok (.iconst 0, 1) := dk_3 (dk_at dksX0_ranked_2 22 rfl rfl)
theorem dX0_ranked_69 : decode cX0_ranked 69 = .ok (.istore 8, 2) := dk_54 8 (dk_at dksX0_ranked_3 0 rfl rfl)
theorem dX0_ranked_71 : decode cX0_ranked 71 = .ok (.iconst 0, 1) := dk_3 (dk_at dksX0_ranked_3 2 rfl rfl)
theorem dX0_ranked_72 : decode cX0_ranked 72 = .ok (.istore 9, 2) := dk_54 9 (dk_at dksX0_ranked_3 3 rfl rfl)
theorem dX0_ranked_74 : decode cX0_ranked 74 = .ok (.iconst 0, 1) := dk_3 (dk_at dksX0_ranked_3 5 rfl rfl)
theorem dX0_ranked_75 : decode cX0_ranked 75 = .ok (.istore 10, 2) := dk_54 10 (dk_at dksX0_ranked_3 6 rfl rfl)
theorem dX0_ranked_77 : decode cX0_ranked 77 = .ok (.iload 10, 2) := dk_21 10 (dk_at dksX0_ranked_3 8 rfl rfl)
theorem dX0_ranked_79 : decode cX0_ranked 79 = .ok (.iconst 2, 1) := dk_5 (dk_at dksX0_ranked_3 10 rfl rfl)
theorem dX0_ranked_80 : decode cX0_ranked 80 = .ok (.if_icmp .ge 105, 3) := dk_162 0 105 (dk_at dksX0_ranked_3 11 rfl rfl)
theorem dX0_ranked_83 : decode cX0_ranked 83 = .ok (.aload_n 0, 1) := dk_42 (dk_at dksX0_ranked_3 14 rfl rfl)
theorem dX0_ranked_84 : decode cX0_ranked 84 = .ok (.iload_n 1, 1) := dk_27 (dk_at dksX0_ranked_3 15 rfl rfl)
theorem dX0_ranked_85 : decode cX0_ranked 85 = .ok (.iload 10, 2) := dk_21 10 (dk_at dksX0_ranked_3 16 rfl rfl)
theorem dX0_ranked_87 : decode cX0_ranked 87 = .ok (.ifCond .ne 7, 3) := dk_154 0 7 (dk_at dksX0_ranked_3 18 rfl rfl)
theorem dX0_ranked_90 : decode cX0_ranked 90 = .ok (.iload_n 3, 1) := dk_29 (dk_at dksX0_ranked_3 21 rfl rfl)
theorem dX0_ranked_91 : decode cX0_ranked 91 = .ok (.goto 5, 3) := dk_167 0 5 (dk_at dksX0_ranked_4 0 rfl rfl)
theorem dX0_ranked_94 : decode cX0_ranked 94 = .ok (.iload 4, 2) := dk_21 4 (dk_at dksX0_ranked_4 3 rfl rfl)
theorem dX0_ranked_96 : decode cX0_ranked 96 = .ok (.iload 5, 2) := dk_21 5 (dk_at dksX0_ranked_4 5 rfl rfl)
theorem dX0_ranked_98 : decode cX0_ranked 98 = .ok (.aload_n 0, 1) := dk_42 (dk_at dksX0_ranked_4 7 rfl rfl)
theorem dX0_ranked_99 : decode cX0_ranked 99 = .ok (.getfield 156, 3) := dk_180 0 156 (dk_at dksX0_ranked_4 8 rfl rfl)
theorem dX0_ranked_102 : decode cX0_ranked 102 = .ok (.invokevirtual 325, 3) := dk_182 1 69 (dk_at dksX0_ranked_4 11 rfl rfl)
theorem dX0_ranked_105 : decode cX0_ranked 105 = .ok (.iconst 0, 1) := dk_3 (dk_at dksX0_ranked_4 14 rfl rfl)
theorem dX0_ranked_106 : decode cX0_ranked 106 = .ok (.istore 11, 2) := dk_54 11 (dk_at dksX0_ranked_4 15 rfl rfl)
theorem dX0_ranked_108 : decode cX0_ranked 108 = .ok (.iload 11, 2) := dk_21 11 (dk_at dksX0_ranked_4 17 rfl rfl)
theorem dX0_ranked_110 : decode cX0_ranked 110 = .ok (.aload_n 0, 1) := dk_42 (dk_at dksX0_ranked_4 19 rfl rfl)
theorem dX0_ranked_111 : decode cX0_ranked 111 = .ok (.getfield 156, 3) := dk_180 0 156 (dk_at dksX0_ranked_4 20 rfl rfl)
theorem dX0_ranked_114 : decode cX0_ranked 114 = .ok (.if_icmp .ge 56, 3) := dk_162 0 56 (dk_at dksX0_ranked_5 0 rfl rfl)
theorem dX0_ranked_117 : decode cX0_ranked 117 = .ok (.aload_n 0, 1) := dk_42 (dk_at dksX0_ranked_5 3 rfl rfl)
theorem dX0_ranked_118 : decode cX0_ranked 118 = .ok (.getfield 117, 3) := dk_180 0 117 (dk_at dksX0_ranked_5 4 rfl rfl)
theorem dX0_ranked_121 : decode cX0_ranked 121 = .ok (.iload 11, 2) := dk_21 11 (dk_at dksX0_ranked_5 7 rfl rfl)
theorem dX0_ranked_123 : decode cX0_ranked 123 = .ok (.iaload, 1) := dk_46 (dk_at dksX0_ranked_5 9 rfl rfl)
theorem dX0_ranked_124 : decode cX0_ranked 124 = .ok (.iload_n 2, 1) := dk_28 (dk_at dksX0_ranked_5 10 rfl rfl)
theorem dX0_ranked_125 : decode cX0_ranked 125 = .ok (.if_icmp .eq 6, 3) := dk_159 0 6 (dk_at dksX0_ranked_5 11 rfl rfl)
theorem dX0_ranked_128 : decode cX0_ranked 128 = .ok (.goto 36, 3) := dk_167 0 36 (dk_at dksX0_ranked_5 14 rfl rfl)
theorem dX0_ranked_131 : decode cX0_ranked 131 = .ok (.iload 9, 2) := dk_21 9 (dk_at dksX0_ranked_5 17 rfl rfl)
theorem dX0_ranked_133 : decode cX0_ranked 133 = .ok (.bipush 20, 2) := dk_16 20 (dk_at dksX0_ranked_5 19 rfl rfl)
theorem dX0_ranked_135 : decode cX0_ranked 135 = .ok (.if_icmp .ne 6, 3) := dk_160 0 6 (dk_at dksX0_ranked_5 21 rfl rfl)
theorem dX0_ranked_138 : decode cX0_ranked 138 = .ok (.bipush (-8), 2) := dk_16 248 (dk_at dksX0_ranked_6 0 rfl rfl)
theorem dX0_ranked_140 : decode cX0_ranked 140 = .ok (.ireturn, 1) := dk_172 (dk_at dksX0_ranked_6 2 rfl rfl)
theorem dX0_ranked_141 : decode cX0_ranked 141 = .ok (.aload_n 0, 1) := dk_42 (dk_at dksX0_ranked_6 3 rfl rfl)
theorem dX0_ranked_142 : decode cX0_ranked 142 = .ok (.getfield 146, 3) := dk_180 0 146 (dk_at dksX0_ranked_6 4 rfl rfl)
theorem dX0_ranked_145 : decode cX0_ranked 145 = .ok (.iload 9, 2) := dk_21 9 (dk_at dksX0_ranked_6 7 rfl rfl)
theorem dX0_ranked_147 : decode cX0_ranked 147 = .ok (.aload_n 0, 1) := dk_42 (dk_at dksX0_ranked_6 9 rfl rfl)
theorem dX0_ranked_148 : decode cX0_ranked 148 = .ok (.getfield 57, 3) := dk_180 0 57 (dk_at dksX0_ranked_6 10 rfl rfl)
theorem dX0_ranked_151 : decode cX0_ranked 151 = .ok (.iload 11, 2) := dk_21 11 (dk_at dksX0_ranked_6 13 rfl rfl)
theorem dX0_ranked_153 : decode cX0_ranked 153 = .ok (.aaload, 1) := dk_50 (dk_at dksX0_ranked_6 15 rfl rfl)
theorem dX0_ranked_154 : decode cX0_ranked 154 = .ok (.getfield 195, 3) := dk_180 0 195 (dk_at dksX0_ranked_6 16 rfl rfl)
theorem dX0_ranked_157 : decode cX0_ranked 157 = .ok (.iload 6, 2) := dk_21 6 (dk_at dksX0_ranked_6 19 rfl rfl)
theorem dX0_ranked_159 : decode cX0_ranked 159 = .ok (.iaload, 1) := dk_46 (dk_at dksX0_ranked_6 21 rfl rfl)
theorem dX0_ranked_160 : decode cX0_ranked 160 = .ok (.iastore, 1) := dk_79 (dk_at dksX0_ranked_6 22 rfl rfl)
theorem dX0_ranked_161 : decode cX0_ranked 161 = .ok (.iinc 9 1, 3) := dk_132 9 1 (dk_at dksX0_ranked_7 0 rfl rfl)
theorem dX0_ranked_164 : decode cX0_ranked 164 = .ok (.iinc 11 1, 3) := dk_132 11 1 (dk_at dksX0_ranked_7 3 rfl rfl)
theorem dX0_ranked_167 : decode cX0_ranked 167 = .ok (.goto (-59), 3) := dk_167 255 197 (dk_at dksX0_ranked_7 6 rfl rfl)
theorem dX0_ranked_170 : decode cX0_ranked 170 = .ok (.iload 10, 2) := dk_21 10 (dk_at dksX0_ranked_7 9 rfl rfl)
theorem dX0_ranked_172 : decode cX0_ranked 172 = .ok (.ifCond .ne 7, 3) := dk_154 0 7 (dk_at dksX0_ranked_7 11 rfl rfl)
theorem dX0_ranked_175 : decode cX0_ranked 175 = .ok (.iload 9, 2) := dk_21 9 (dk_at dksX0_ranked_7 14 rfl rfl)
theorem dX0_ranked_177 : decode cX0_ranked 177 = .ok (.istore 8, 2) := dk_54 8 (dk_at dksX0_ranked_7 16 rfl rfl)
theorem dX0_ranked_179 : decode cX0_ranked 179 = .ok (.iinc 10 1, 3) := dk_132 10 1 (dk_at dksX0_ranked_7 18 rfl rfl)
theorem dX0_ranked_182 : decode cX0_ranked 182 = .ok (.goto (-105), 3) := dk_167 255 151 (dk_at dksX0_ranked_7 21 rfl rfl)
theorem dX0_ranked_185 : decode cX0_ranked 185 = .ok (.iload 8, 2) := dk_21 8 (dk_at dksX0_ranked_8 0 rfl rfl)
theorem dX0_ranked_187 : decode cX0_ranked 187 = .ok (.ifCond .eq 10, 3) := dk_153 0 10 (dk_at dksX0_ranked_8 2 rfl rfl)
theorem dX0_ranked_190 : decode cX0_ranked 190 = .ok (.iload 9, 2) := dk_21 9 (dk_at dksX0_ranked_8 5 rfl rfl)
theorem dX0_ranked_192 : decode cX0_ranked 192 = .ok (.iload 8, 2) := dk_21 8 (dk_at dksX0_ranked_8 7 rfl rfl)
theorem dX0_ranked_194 : decode cX0_ranked 194 = .ok (.if_icmp .ne 6, 3) := dk_160 0 6 (dk_at dksX0_ranked_8 9 rfl rfl)
theorem dX0_ranked_197 : decode cX0_ranked 197 = .ok (.bipush (-8), 2) := dk_16 248 (dk_at dksX0_ranked_8 12 rfl rfl)
theorem dX0_ranked_199 : decode cX0_ranked 199 = .ok (.ireturn, 1) := dk_172 (dk_at dksX0_ranked_8 14 rfl rfl)
theorem dX0_ranked_200 : decode cX0_ranked 200 = .ok (.iload 7, 2) := dk_21 7 (dk_at dksX0_ranked_8 15 rfl rfl)
theorem dX0_ranked_202 : decode cX0_ranked 202 = .ok (.iconst 2, 1) := dk_5 (dk_at dksX0_ranked_8 17 rfl rfl)
theorem dX0_ranked_203 : decode cX0_ranked 203 = .ok (.if_icmp .ge 19, 3) := dk_162 0 19 (dk_at dksX0_ranked_8 18 rfl rfl)
theorem dX0_ranked_206 : decode cX0_ranked 206 = .ok (.iload 7, 2) := dk_21 7 (dk_at dksX0_ranked_8 21 rfl rfl)
theorem dX0_ranked_208 : decode cX0_ranked 208 = .ok (.ifCond .ne 8, 3) := dk_154 0 8 (dk_at dksX0_ranked_9 0 rfl rfl)
theorem dX0_ranked_211 : decode cX0_ranked 211 = .ok (.iload 8, 2) := dk_21 8 (dk_at dksX0_ranked_9 3 rfl rfl)
theorem dX0_ranked_213 : decode cX0_ranked 213 = .ok (.goto 8, 3) := dk_167 0 8 (dk_at dksX0_ranked_9 5 rfl rfl)
theorem dX0_ranked_216 : decode cX0_ranked 216 = .ok (.iload 9, 2) := dk_21 9 (dk_at dksX0_ranked_9 8 rfl rfl)
theorem dX0_ranked_218 : decode cX0_ranked 218 = .ok (.iload 8, 2) := dk_21 8 (dk_at dksX0_ranked_9 10 rfl rfl)
theorem dX0_ranked_220 : decode cX0_ranked 220 = .ok (.isub, 1) := dk_100 (dk_at dksX0_ranked_9 12 rfl rfl)
theorem dX0_ranked_221 : decode cX0_ranked 221 = .ok (.ireturn, 1) := dk_172 (dk_at dksX0_ranked_9 13 rfl rfl)
theorem dX0_ranked_222 : decode cX0_ranked 222 = .ok (.aload_n 0, 1) := dk_42 (dk_at dksX0_ranked_9 14 rfl rfl)
theorem dX0_ranked_223 : decode cX0_ranked 223 = .ok (.iconst 1, 1) := dk_4 (dk_at dksX0_ranked_9 15 rfl rfl)
theorem dX0_ranked_224 : decode cX0_ranked 224 = .ok (.iload 8, 2) := dk_21 8 (dk_at dksX0_ranked_9 16 rfl rfl)
theorem dX0_ranked_226 : decode cX0_ranked 226 = .ok (.ishl, 1) := dk_120 (dk_at dksX0_ranked_9 18 rfl rfl)
theorem dX0_ranked_227 : decode cX0_ranked 227 = .ok (.iconst 1, 1) := dk_4 (dk_at dksX0_ranked_9 19 rfl rfl)
theorem dX0_ranked_228 : decode cX0_ranked 228 = .ok (.isub, 1) := dk_100 (dk_at dksX0_ranked_9 20 rfl rfl)
theorem dX0_ranked_229 : decode cX0_ranked 229 = .ok (.iload 9, 2) := dk_21 9 (dk_at dksX0_ranked_9 21 rfl rfl)
theorem dX0_ranked_231 : decode cX0_ranked 231 = .ok (.invokevirtual 403, 3) := dk_182 1 147 (dk_at dksX0_ranked_10 0 rfl rfl)
theorem dX0_ranked_234 : decode cX0_ranked 234 = .ok (.istore 10, 2) := dk_54 10 (dk_at dksX0_ranked_10 3 rfl rfl)
theorem dX0_ranked_236 : decode cX0_ranked 236 = .ok (.iload 7, 2) := dk_21 7 (dk_at dksX0_ranked_10 5 rfl rfl)
theorem dX0_ranked_238 : decode cX0_ranked 238 = .ok (.iconst 2, 1) := dk_5 (dk_at dksX0_ranked_10 7 rfl rfl)
theorem dX0_ranked_239 : decode cX0_ranked 239 = .ok (.if_icmp .ne 8, 3) := dk_160 0 8 (dk_at dksX0_ranked_10 8 rfl rfl)
theorem dX0_ranked_242 : decode cX0_ranked 242 = .ok (.iload 10, 2) := dk_21 10 (dk_at dksX0_ranked_10 11 rfl rfl)
theorem dX0_ranked_244 : decode cX0_ranked 244 = .ok (.goto 13, 3) := dk_167 0 13 (dk_at dksX0_ranked_10 13 rfl rfl)
theorem dX0_ranked_247 : decode cX0_ranked 247 = .ok (.aload_n 0, 1) := dk_42 (dk_at dksX0_ranked_10 16 rfl rfl)
theorem dX0_ranked_248 : decode cX0_ranked 248 = .ok (.iload 8, 2) := dk_21 8 (dk_at dksX0_ranked_10 17 rfl rfl)
theorem dX0_ranked_250 : decode cX0_ranked 250 = .ok (.iload 9, 2) := dk_21 9 (dk_at dksX0_ranked_10 19 rfl rfl)
theorem dX0_ranked_252 : decode cX0_ranked 252 = .ok (.iload 10, 2) := dk_21 10 (dk_at dksX0_ranked_10 21 rfl rfl)
theorem dX0_ranked_254 : decode cX0_ranked 254 = .ok (.invokevirtual 406, 3) := dk_182 1 150 (dk_at dksX0_ranked_11 0 rfl rfl)
theorem dX0_ranked_257 : decode cX0_ranked 257 = .ok (.ireturn, 1) := dk_172 (dk_at dksX0_ranked_11 3 rfl rfl)
abbrev cX0_u : ByteArray := prog_1_method_69_code
def yX0_u : MethodName := ⟨RX0, "u", "(II)I"⟩
def dkwX0_u_3 : List UInt8 := [167, 255, 189, 29, 172]
abbrev dktX0_u_3 : List UInt8 := dkwX0_u_3 ++ []
def dkwX0_u_2 : List UInt8 := [180, 0, 146, 21, 5, 46, 184, 1, 142, 167, 0, 4, 3, 96, 62, 132, 5, 1, 167, 255, 204, 132, 4, 1]
abbrev dktX0_u_2 : List UInt8 := dkwX0_u_2 ++ dktX0_u_3
def dkwX0_u_1 : List UInt8 := [4, 126, 4, 160, 0, 42, 29, 27, 21, 5, 122, 4, 126, 154, 0, 23, 42, 180, 0, 146, 21, 4, 46, 42]
abbrev dktX0_u_1 : List UInt8 := dkwX0_u_1 ++ dktX0_u_2
def dkwX0_u_0 : List UInt8 := [3, 62, 3, 54, 4, 21, 4, 28, 162, 0, 67, 3, 54, 5, 21, 5, 28, 162, 0, 52, 27, 21, 4, 122]
abbrev dktX0_u_0 : List UInt8 := dkwX0_u_0 ++ dktX0_u_1
theorem dksX0_u_0 : cX0_u.data.toList.drop 0 = dktX0_u_0 := by decide +kernel
theorem dksX0_u_1 : cX0_u.data.toList.drop 24 = dktX0_u_1 := dk_seg dksX0_u_0 24 rfl rfl
theorem dksX0_u_2 : cX0_u.data.toList.drop 48 = dktX0_u_2 := dk_seg dksX0_u_1 24 rfl rfl
theorem dksX0_u_3 : cX0_u.data.toList.drop 72 = dktX0_u_3 := dk_seg dksX0_u_2 24 rfl rfl
theorem dX0_u_0 : decode cX0_u 0 = .ok (.iconst 0, 1) := dk_3 (dk_at dksX0_u_0 0 rfl rfl)
theorem dX0_u_1 : decode cX0_u 1 = .ok (.istore_n 3, 1) := dk_62 (dk_at dksX0_u_0 1 rfl rfl)
theorem dX0_u_2 : decode cX0_u 2 = .ok (.iconst 0, 1) := dk_3 (dk_at dksX0_u_0 2 rfl rfl)
theorem dX0_u_3 : decode cX0_u 3 = .ok (.istore 4, 2) := dk_54 4 (dk_at dksX0_u_0 3 rfl rfl)
theorem dX0_u_5 : decode cX0_u 5 = .ok (.iload 4, 2) := dk_21 4 (dk_at dksX0_u_0 5 rfl rfl)
theorem dX0_u_7 : decode cX0_u 7 = .ok (.iload_n 2, 1) := dk_28 (dk_at dksX0_u_0 7 rfl rfl)
theorem dX0_u_8 : decode cX0_u 8 = .ok (.if_icmp .ge 67, 3) := dk_162 0 67 (dk_at dksX0_u_0 8 rfl rfl)
theorem dX0_u_11 : decode cX0_u 11 = .ok (.iconst 0, 1) := dk_3 (dk_at dksX0_u_0 11 rfl rfl)
theorem dX0_u_12 : decode cX0_u 12 = .ok (.istore 5, 2) := dk_54 5 (dk_at dksX0_u_0 12 rfl rfl)
theorem dX0_u_14 : decode cX0_u 14 = .ok (.iload 5, 2) := dk_21 5 (dk_at dksX0_u_0 14 rfl rfl)
theorem dX0_u_16 : decode cX0_u 16 = .ok (.iload_n 2, 1) := dk_28 (dk_at dksX0_u_0 16 rfl rfl)
theorem dX0_u_17 : decode cX0_u 17 = .ok (.if_icmp .ge 52, 3) := dk_162 0 52 (dk_at dksX0_u_0 17 rfl rfl)
theorem dX0_u_20 : decode cX0_u 20 = .ok (.iload_n 1, 1) := dk_27 (dk_at dksX0_u_0 20 rfl rfl)
theorem dX0_u_21 : decode cX0_u 21 = .ok (.iload 4, 2) := dk_21 4 (dk_at dksX0_u_0 21 rfl rfl)
theorem dX0_u_23 : decode cX0_u 23 = .ok (.ishr, 1) := dk_122 (dk_at dksX0_u_0 23 rfl rfl)
theorem dX0_u_24 : decode cX0_u 24 = .ok (.iconst 1, 1) := dk_4 (dk_at dksX0_u_1 0 rfl rfl)
theorem dX0_u_25 : decode cX0_u 25 = .ok (.iand, 1) := dk_126 (dk_at dksX0_u_1 1 rfl rfl)
theorem dX0_u_26 : decode cX0_u 26 = .ok (.iconst 1, 1) := dk_4 (dk_at dksX0_u_1 2 rfl rfl)
theorem dX0_u_27 : decode cX0_u 27 = .ok (.if_icmp .ne 42, 3) := dk_160 0 42 (dk_at dksX0_u_1 3 rfl rfl)
theorem dX0_u_30 : decode cX0_u 30 = .ok (.iload_n 3, 1) := dk_29 (dk_at dksX0_u_1 6 rfl rfl)
theorem dX0_u_31 : decode cX0_u 31 = .ok (.iload_n 1, 1) := dk_27 (dk_at dksX0_u_1 7 rfl rfl)
theorem dX0_u_32 : decode cX0_u 32 = .ok (.iload 5, 2) := dk_21 5 (dk_at dksX0_u_1 8 rfl rfl)
theorem dX0_u_34 : decode cX0_u 34 = .ok (.ishr, 1) := dk_122 (dk_at dksX0_u_1 10 rfl rfl)
theorem dX0_u_35 : decode cX0_u 35 = .ok (.iconst 1, 1) := dk_4 (dk_at dksX0_u_1 11 rfl rfl)
theorem dX0_u_36 : decode cX0_u 36 = .ok (.iand, 1) := dk_126 (dk_at dksX0_u_1 12 rfl rfl)
theorem dX0_u_37 : decode cX0_u 37 = .ok (.ifCond .ne 23, 3) := dk_154 0 23 (dk_at dksX0_u_1 13 rfl rfl)
theorem dX0_u_40 : decode cX0_u 40 = .ok (.aload_n 0, 1) := dk_42 (dk_at dksX0_u_1 16 rfl rfl)
theorem dX0_u_41 : decode cX0_u 41 = .ok (.getfield 146, 3) := dk_180 0 146 (dk_at dksX0_u_1 17 rfl rfl)
theorem dX0_u_44 : decode cX0_u 44 = .ok (.iload 4, 2) := dk_21 4 (dk_at dksX0_u_1 20 rfl rfl)
theorem dX0_u_46 : decode cX0_u 46 = .ok (.iaload, 1) := dk_46 (dk_at dksX0_u_1 22 rfl rfl)
theorem dX0_u_47 : decode cX0_u 47 = .ok (.aload_n 0, 1) := dk_42 (dk_at dksX0_u_1 23 rfl rfl)
theorem dX0_u_48 : decode cX0_u 48 = .ok (.getfield 146, 3) := dk_180 0 146 (dk_at dksX0_u_2 0 rfl rfl)
theorem dX0_u_51 : decode cX0_u 51 = .ok (.iload 5, 2) := dk_21 5 (dk_at dksX0_u_2 3 rfl rfl)
theorem dX0_u_53 : decode cX0_u 53 = .ok (.iaload, 1) := dk_46 (dk_at dksX0_u_2 5 rfl rfl)
theorem dX0_u_54 : decode cX0_u 54 = .ok (.invokestatic 398, 3) := dk_184 1 142 (dk_at dksX0_u_2 6 rfl rfl)
theorem dX0_u_57 : decode cX0_u 57 = .ok (.goto 4, 3) := dk_167 0 4 (dk_at dksX0_u_2 9 rfl rfl)
theorem dX0_u_60 : decode cX0_u 60 = .ok (.iconst 0, 1) := dk_3 (dk_at dksX0_u_2 12 rfl rfl)
theorem dX0_u_61 : decode cX0_u 61 = .ok (.iadd, 1) := dk_96 (dk_at dksX0_u_2 13 rfl rfl)
theorem dX0_u_62 : decode cX0_u 62 = .ok (.istore_n 3, 1) := dk_62 (dk_at dksX0_u_2 14 rfl rfl)
theorem dX0_u_63 : decode cX0_u 63 = .ok (.iinc 5 1, 3) := dk_132 5 1 (dk_at dksX0_u_2 15 rfl rfl)
theorem dX0_u_66 : decode cX0_u 66 = .ok (.goto (-52), 3) := dk_167 255 204 (dk_at dksX0_u_2 18 rfl rfl)
theorem dX0_u_69 : decode cX0_u 69 = .ok (.iinc 4 1, 3) := dk_132 4 1 (dk_at dksX0_u_2 21 rfl rfl)
theorem dX0_u_72 : decode cX0_u 72 = .ok (.goto (-67), 3) := dk_167 255 189 (dk_at dksX0_u_3 0 rfl rfl)
theorem dX0_u_75 : decode cX0_u 75 = .ok (.iload_n 3, 1) := dk_29 (dk_at dksX0_u_3 3 rfl rfl)
theorem dX0_u_76 : decode cX0_u 76 = .ok (.ireturn, 1) := dk_172 (dk_at dksX0_u_3 4 rfl rfl)
abbrev cX0_beats : ByteArray := prog_1_method_68_code
def yX0_beats : MethodName := ⟨RX0, "beats", "(II)I"⟩
def dkwX0_beats_0 : List UInt8 := [26, 27, 164, 0, 7, 5, 167, 0, 13, 26, 27, 160, 0, 7, 4, 167, 0, 4, 3, 172]
abbrev dktX0_beats_0 : List UInt8 := dkwX0_beats_0 ++ []
theorem dksX0_beats_0 : cX0_beats.data.toList.drop 0 = dktX0_beats_0 := by decide +kernel
theorem dX0_beats_0 : decode cX0_beats 0 = .ok (.iload_n 0, 1) := dk_26 (dk_at dksX0_beats_0 0 rfl rfl)
theorem dX0_beats_1 : decode cX0_beats 1 = .ok (.iload_n 1, 1) := dk_27 (dk_at dksX0_beats_0 1 rfl rfl)
theorem dX0_beats_2 : decode cX0_beats 2 = .ok (.if_icmp .le 7, 3) := dk_164 0 7 (dk_at dksX0_beats_0 2 rfl rfl)
theorem dX0_beats_5 : decode cX0_beats 5 = .ok (.iconst 2, 1) := dk_5 (dk_at dksX0_beats_0 5 rfl rfl)
theorem dX0_beats_6 : decode cX0_beats 6 = .ok (.goto 13, 3) := dk_167 0 13 (dk_at dksX0_beats_0 6 rfl rfl)
theorem dX0_beats_9 : decode cX0_beats 9 = .ok (.iload_n 0, 1) := dk_26 (dk_at dksX0_beats_0 9 rfl rfl)
theorem dX0_beats_10 : decode cX0_beats 10 = .ok (.iload_n 1, 1) := dk_27 (dk_at dksX0_beats_0 10 rfl rfl)
theorem dX0_beats_11 : decode cX0_beats 11 = .ok (.if_icmp .ne 7, 3) := dk_160 0 7 (dk_at dksX0_beats_0 11 rfl rfl)
theorem dX0_beats_14 : decode cX0_beats 14 = .ok (.iconst 1, 1) := dk_4 (dk_at dksX0_beats_0 14 rfl rfl)
theorem dX0_beats_15 : decode cX0_beats 15 = .ok (.goto 4, 3) := dk_167 0 4 (dk_at dksX0_beats_0 15 rfl rfl)
theorem dX0_beats_18 : decode cX0_beats 18 = .ok (.iconst 0, 1) := dk_3 (dk_at dksX0_beats_0 18 rfl rfl)
theorem dX0_beats_19 : decode cX0_beats 19 = .ok (.ireturn, 1) := dk_172 (dk_at dksX0_beats_0 19 rfl rfl)
abbrev cX0_chance : ByteArray := prog_1_method_71_code
def yX0_chance : MethodName := ⟨RX0, "chance", "(III)I"⟩
def dkwX0_chance_3 : List UInt8 := [136, 172]
abbrev dktX0_chance_3 : List UInt8 := dkwX0_chance_3 ++ []
def dkwX0_chance_2 : List UInt8 := [21, 8, 184, 1, 154, 54, 8, 167, 255, 214, 20, 1, 157, 22, 6, 105, 22, 4, 97, 10, 101, 22, 4, 109]
abbrev dktX0_chance_2 : List UInt8 := dkwX0_chance_2 ++ dktX0_chance_3
def dkwX0_chance_1 : List UInt8 := [97, 55, 4, 22, 6, 42, 21, 8, 28, 182, 1, 147, 29, 161, 0, 7, 10, 167, 0, 4, 9, 97, 55, 6]
abbrev dktX0_chance_1 : List UInt8 := dkwX0_chance_1 ++ dktX0_chance_2
def dkwX0_chance_0 : List UInt8 := [9, 55, 4, 9, 55, 6, 4, 27, 120, 4, 100, 54, 8, 21, 8, 4, 28, 120, 162, 0, 40, 22, 4, 10]
abbrev dktX0_chance_0 : List UInt8 := dkwX0_chance_0 ++ dktX0_chance_1
theorem dksX0_chance_0 : cX0_chance.data.toList.drop 0 = dktX0_chance_0 := by decide +kernel
theorem dksX0_chance_1 : cX0_chance.data.toList.drop 24 = dktX0_chance_1 := dk_seg dksX0_chance_0 24 rfl rfl
theorem dksX0_chance_2 : cX0_chance.data.toList.drop 48 = dktX0_chance_2 := dk_seg dksX0_chance_1 24 rfl rfl
theorem dksX0_chance_3 : cX0_chance.data.toList.drop 72 = dktX0_chance_3 := dk_seg dksX0_chance_2 24 rfl rfl
theorem dX0_chance_0 : decode cX0_chance 0 = .ok (.lconst 0, 1) := dk_9 (dk_at dksX0_chance_0 0 rfl rfl)
theorem dX0_chance_1 : decode cX0_chance 1 = .ok (.lstore 4, 2) := dk_55 4 (dk_at dksX0_chance_0 1 rfl rfl)
theorem dX0_chance_3 : decode cX0_chance 3 = .ok (.lconst 0, 1) := dk_9 (dk_at dksX0_chance_0 3 rfl rfl)
theorem dX0_chance_4 : decode cX0_chance 4 = .ok (.lstore 6, 2) := dk_55 6 (dk_at dksX0_chance_0 4 rfl rfl)
theorem dX0_chance_6 : decode cX0_chance 6 = .ok (.iconst 1, 1) := dk_4 (dk_at dksX0_chance_0 6 rfl rfl)
theorem dX0_chance_7 : decode cX0_chance 7 = .ok (.iload_n 1, 1) := dk_27 (dk_at dksX0_chance_0 7 rfl rfl)
theorem dX0_chance_8 : decode cX0_chance 8 = .ok (.ishl, 1) := dk_120 (dk_at dksX0_chance_0 8 rfl rfl)
theorem dX0_chance_9 : decode cX0_chance 9 = .ok (.iconst 1, 1) := dk_4 (dk_at dksX0_chance_0 9 rfl rfl)
theorem dX0_chance_10 : decode cX0_chance 10 = .ok (.isub, 1) := dk_100 (dk_at dksX0_chance_0 10 rfl rfl)
theorem dX0_chance_11 : decode cX0_chance 11 = .ok (.istore 8, 2) := dk_54 8 (dk_at dksX0_chance_0 11 rfl rfl)
theorem dX0_chance_13 : decode cX0_chance 13 = .ok (.iload 8, 2) := dk_21 8 (dk_at dksX0_chance_0 13 rfl rfl)
theorem dX0_chance_15 : decode cX0_chance 15 = .ok (.iconst 1, 1) := dk_4 (dk_at dksX0_chance_0 15 rfl rfl)
theorem dX0_chance_16 : decode cX0_chance 16 = .ok (.iload_n 2, 1) := dk_28 (dk_at dksX0_chance_0 16 rfl rfl)
theorem dX0_chance_17 : decode cX0_chance 17 = .ok (.ishl, 1) := dk_120 (dk_at dksX0_chance_0 17 rfl rfl)
theorem dX0_chance_18 : decode cX0_chance 18 = .ok (.if_icmp .ge 40, 3) := dk_162 0 40 (dk_at dksX0_chance_0 18 rfl rfl)
theorem dX0_chance_21 : decode cX0_chance 21 = .ok (.lload 4, 2) := dk_22 4 (dk_at dksX0_chance_0 21 rfl rfl)
theorem dX0_chance_23 : decode cX0_chance 23 = .ok (.lconst 1, 1) := dk_10 (dk_at dksX0_chance_0 23 rfl rfl)
theorem dX0_chance_24 : decode cX0_chance 24 = .ok (.ladd, 1) := dk_97 (dk_at dksX0_chance_1 0 rfl rfl)
theorem dX0_chance_25 : decode cX0_chance 25 = .ok (.lstore 4, 2) := dk_55 4 (dk_at dksX0_chance_1 1 rfl rfl)
theorem dX0_chance_27 : decode cX0_chance 27 = .ok (.lload 6, 2) := dk_22 6 (dk_at dksX0_chance_1 3 rfl rfl)
theorem dX0_chance_29 : decode cX0_chance 29 = .ok (.aload_n 0, 1) := dk_42 (dk_at dksX0_chance_1 5 rfl rfl)
theorem dX0_chance_30 : decode cX0_chance 30 = .ok (.iload 8, 2) := dk_21 8 (dk_at dksX0_chance_1 6 rfl rfl)
theorem dX0_chance_32 : decode cX0_chance 32 = .ok (.iload_n 2, 1) := dk_28 (dk_at dksX0_chance_1 8 rfl rfl)
theorem dX0_chance_33 : decode cX0_chance 33 = .ok (.invokevirtual 403, 3) := dk_182 1 147 (dk_at dksX0_chance_1 9 rfl rfl)
theorem dX0_chance_36 : decode cX0_chance 36 = .ok (.iload_n 3, 1) := dk_29 (dk_at dksX0_chance_1 12 rfl rfl)
theorem dX0_chance_37 : decode cX0_chance 37 = .ok (.if_icmp .lt 7, 3) := dk_161 0 7 (dk_at dksX0_chance_1 13 rfl rfl)
theorem dX0_chance_40 : decode cX0_chance 40 = .ok (.lconst 1, 1) := dk_10 (dk_at dksX0_chance_1 16 rfl rfl)
theorem dX0_chance_41 : decode cX0_chance 41 = .ok (.goto 4, 3) := dk_167 0 4 (dk_at dksX0_chance_1 17 rfl rfl)
theorem dX0_chance_44 : decode cX0_chance 44 = .ok (.lconst 0, 1) := dk_9 (dk_at dksX0_chance_1 20 rfl rfl)
theorem dX0_chance_45 : decode cX0_chance 45 = .ok (.ladd, 1) := dk_97 (dk_at dksX0_chance_1 21 rfl rfl)
theorem dX0_chance_46 : decode cX0_chance 46 = .ok (.lstore 6, 2) := dk_55 6 (dk_at dksX0_chance_1 22 rfl rfl)
theorem dX0_chance_48 : decode cX0_chance 48 = .ok (.iload 8, 2) := dk_21 8 (dk_at dksX0_chance_2 0 rfl rfl)
theorem dX0_chance_50 : decode cX0_chance 50 = .ok (.invokestatic 410, 3) := dk_184 1 154 (dk_at dksX0_chance_2 2 rfl rfl)
theorem dX0_chance_53 : decode cX0_chance 53 = .ok (.istore 8, 2) := dk_54 8 (dk_at dksX0_chance_2 5 rfl rfl)
theorem dX0_chance_55 : decode cX0_chance 55 = .ok (.goto (-42), 3) := dk_167 255 214 (dk_at dksX0_chance_2 7 rfl rfl)
theorem dX0_chance_58 : decode cX0_chance 58 = .ok (.ldc2_w 413, 3) := dk_20 1 157 (dk_at dksX0_chance_2 10 rfl rfl)
theorem dX0_chance_61 : decode cX0_chance 61 = .ok (.lload 6, 2) := dk_22 6 (dk_at dksX0_chance_2 13 rfl rfl)
theorem dX0_chance_63 : decode cX0_chance 63 = .ok (.lmul, 1) := dk_105 (dk_at dksX0_chance_2 15 rfl rfl)
theorem dX0_chance_64 : decode cX0_chance 64 = .ok (.lload 4, 2) := dk_22 4 (dk_at dksX0_chance_2 16 rfl rfl)
theorem dX0_chance_66 : decode cX0_chance 66 = .ok (.ladd, 1) := dk_97 (dk_at dksX0_chance_2 18 rfl rfl)
theorem dX0_chance_67 : decode cX0_chance 67 = .ok (.lconst 1, 1) := dk_10 (dk_at dksX0_chance_2 19 rfl rfl)
theorem dX0_chance_68 : decode cX0_chance 68 = .ok (.lsub, 1) := dk_101 (dk_at dksX0_chance_2 20 rfl rfl)
theorem dX0_chance_69 : decode cX0_chance 69 = .ok (.lload 4, 2) := dk_22 4 (dk_at dksX0_chance_2 21 rfl rfl)
theorem dX0_chance_71 : decode cX0_chance 71 = .ok (.ldiv, 1) := dk_109 (dk_at dksX0_chance_2 23 rfl rfl)
theorem dX0_chance_72 : decode cX0_chance 72 = .ok (.l2i, 1) := dk_136 (dk_at dksX0_chance_3 0 rfl rfl)
theorem dX0_chance_73 : decode cX0_chance 73 = .ok (.ireturn, 1) := dk_172 (dk_at dksX0_chance_3 1 rfl rfl)
abbrev cX0_following : ByteArray := prog_1_method_72_code
def yX0_following : MethodName := ⟨RX0, "following", "(I)I"⟩
def dkwX0_following_0 : List UInt8 := [26, 26, 116, 126, 60, 26, 27, 96, 61, 28, 26, 28, 130, 27, 108, 5, 122, 128, 172]
abbrev dktX0_following_0 : List UInt8 := dkwX0_following_0 ++ []
theorem dksX0_following_0 : cX0_following.data.toList.drop 0 = dktX0_following_0 := by decide +kernel
theorem dX0_following_0 : decode cX0_following 0 = .ok (.iload_n 0, 1) := dk_26 (dk_at dksX0_following_0 0 rfl rfl)
theorem dX0_following_1 : decode cX0_following 1 = .ok (.iload_n 0, 1) := dk_26 (dk_at dksX0_following_0 1 rfl rfl)
theorem dX0_following_2 : decode cX0_following 2 = .ok (.ineg, 1) := dk_116 (dk_at dksX0_following_0 2 rfl rfl)
theorem dX0_following_3 : decode cX0_following 3 = .ok (.iand, 1) := dk_126 (dk_at dksX0_following_0 3 rfl rfl)
theorem dX0_following_4 : decode cX0_following 4 = .ok (.istore_n 1, 1) := dk_60 (dk_at dksX0_following_0 4 rfl rfl)
theorem dX0_following_5 : decode cX0_following 5 = .ok (.iload_n 0, 1) := dk_26 (dk_at dksX0_following_0 5 rfl rfl)
theorem dX0_following_6 : decode cX0_following 6 = .ok (.iload_n 1, 1) := dk_27 (dk_at dksX0_following_0 6 rfl rfl)
theorem dX0_following_7 : decode cX0_following 7 = .ok (.iadd, 1) := dk_96 (dk_at dksX0_following_0 7 rfl rfl)
theorem dX0_following_8 : decode cX0_following 8 = .ok (.istore_n 2, 1) := dk_61 (dk_at dksX0_following_0 8 rfl rfl)
theorem dX0_following_9 : decode cX0_following 9 = .ok (.iload_n 2, 1) := dk_28 (dk_at dksX0_following_0 9 rfl rfl)
theorem dX0_following_10 : decode cX0_following 10 = .ok (.iload_n 0, 1) := dk_26 (dk_at dksX0_following_0 10 rfl rfl)
theorem dX0_following_11 : decode cX0_following 11 = .ok (.iload_n 2, 1) := dk_28 (dk_at dksX0_following_0 11 rfl rfl)
theorem dX0_following_12 : decode cX0_following 12 = .ok (.ixor, 1) := dk_130 (dk_at dksX0_following_0 12 rfl rfl)
theorem dX0_following_13 : decode cX0_following 13 = .ok (.iload_n 1, 1) := dk_27 (dk_at dksX0_following_0 13 rfl rfl)
theorem dX0_following_14 : decode cX0_following 14 = .ok (.idiv, 1) := dk_108 (dk_at dksX0_following_0 14 rfl rfl)
theorem dX0_following_15 : decode cX0_following 15 = .ok (.iconst 2, 1) := dk_5 (dk_at dksX0_following_0 15 rfl rfl)
theorem dX0_following_16 : decode cX0_following 16 = .ok (.ishr, 1) := dk_122 (dk_at dksX0_following_0 16 rfl rfl)
theorem dX0_following_17 : decode cX0_following 17 = .ok (.ior, 1) := dk_128 (dk_at dksX0_following_0 17 rfl rfl)
theorem dX0_following_18 : decode cX0_following 18 = .ok (.ireturn, 1) := dk_172 (dk_at dksX0_following_0 18 rfl rfl)
abbrev cX0_boneOf : ByteArray := prog_1_method_73_code
def yX0_boneOf : MethodName := ⟨RX0, "boneOf", "(II)I"⟩
def dkwX0_boneOf_4 : List UInt8 := [184, 0, 5, 153, 0, 15, 45, 180, 0, 195, 28, 16, 6, 100, 46, 167, 0, 5, 16, 254, 172]
abbrev dktX0_boneOf_4 : List UInt8 := dkwX0_boneOf_4 ++ []
def dkwX0_boneOf_3 : List UInt8 := [172, 45, 180, 1, 159, 153, 0, 7, 4, 167, 0, 4, 3, 172, 28, 133, 20, 1, 162, 20, 1, 164]
abbrev dktX0_boneOf_3 : List UInt8 := dkwX0_boneOf_3 ++ dktX0_boneOf_4
def dkwX0_boneOf_2 : List UInt8 := [45, 180, 0, 229, 172, 45, 180, 1, 25, 172, 45, 180, 1, 22, 172, 45, 180, 1, 42, 172, 45, 180, 1, 103]
abbrev dktX0_boneOf_2 : List UInt8 := dkwX0_boneOf_2 ++ dktX0_boneOf_3
def dkwX0_boneOf_1 : List UInt8 := [170, 0, 0, 0, 75, 0, 0, 0, 0, 0, 0, 0, 5, 0, 0, 0, 37, 0, 0, 0, 42, 0, 0, 0, 47, 0, 0, 0, 52, 0, 0, 0, 57, 0, 0, 0, 62]
abbrev dktX0_boneOf_1 : List UInt8 := dkwX0_boneOf_1 ++ dktX0_boneOf_2
def dkwX0_boneOf_0 : List UInt8 := [42, 27, 182, 0, 226, 154, 0, 6, 16, 254, 172, 42, 180, 0, 57, 27, 50, 78, 28]
abbrev dktX0_boneOf_0 : List UInt8 := dkwX0_boneOf_0 ++ dktX0_boneOf_1
theorem dksX0_boneOf_0 : cX0_boneOf.data.toList.drop 0 = dktX0_boneOf_0 := by decide +kernel
theorem dksX0_boneOf_1 : cX0_boneOf.data.toList.drop 19 = dktX0_boneOf_1 := dk_seg dksX0_boneOf_0 19 rfl rfl
theorem dksX0_boneOf_2 : cX0_boneOf.data.toList.drop 56 = dktX0_boneOf_2 := dk_seg dksX0_boneOf_1 37 rfl rfl
theorem dksX0_boneOf_3 : cX0_boneOf.data.toList.drop 80 = dktX0_boneOf_3 := dk_seg dksX0_boneOf_2 24 rfl rfl
theorem dksX0_boneOf_4 : cX0_boneOf.data.toList.drop 102 = dktX0_boneOf_4 := dk_seg dksX0_boneOf_3 22 rfl rfl
theorem dX0_boneOf_0 : decode cX0_boneOf 0 = .ok (.aload_n 0, 1) := dk_42 (dk_at dksX0_boneOf_0 0 rfl rfl)
theorem dX0_boneOf_1 : decode cX0_boneOf 1 = .ok (.iload_n 1, 1) := dk_27 (dk_at dksX0_boneOf_0 1 rfl rfl)
theorem dX0_boneOf_2 : decode cX0_boneOf 2 = .ok (.invokevirtual 226, 3) := dk_182 0 226 (dk_at dksX0_boneOf_0 2 rfl rfl)
theorem dX0_boneOf_5 : decode cX0_boneOf 5 = .ok (.ifCond .ne 6, 3) := dk_154 0 6 (dk_at dksX0_boneOf_0 5 rfl rfl)
theorem dX0_boneOf_8 : decode cX0_boneOf 8 = .ok (.bipush (-2), 2) := dk_16 254 (dk_at dksX0_boneOf_0 8 rfl rfl)
theorem dX0_boneOf_10 : decode cX0_boneOf 10 = .ok (.ireturn, 1) := dk_172 (dk_at dksX0_boneOf_0 10 rfl rfl)
theorem dX0_boneOf_11 : decode cX0_boneOf 11 = .ok (.aload_n 0, 1) := dk_42 (dk_at dksX0_boneOf_0 11 rfl rfl)
theorem dX0_boneOf_12 : decode cX0_boneOf 12 = .ok (.getfield 57, 3) := dk_180 0 57 (dk_at dksX0_boneOf_0 12 rfl rfl)
theorem dX0_boneOf_15 : decode cX0_boneOf 15 = .ok (.iload_n 1, 1) := dk_27 (dk_at dksX0_boneOf_0 15 rfl rfl)
theorem dX0_boneOf_16 : decode cX0_boneOf 16 = .ok (.aaload, 1) := dk_50 (dk_at dksX0_boneOf_0 16 rfl rfl)
theorem dX0_boneOf_17 : decode cX0_boneOf 17 = .ok (.astore_n 3, 1) := dk_78 (dk_at dksX0_boneOf_0 17 rfl rfl)
theorem dX0_boneOf_18 : decode cX0_boneOf 18 = .ok (.iload_n 2, 1) := dk_28 (dk_at dksX0_boneOf_0 18 rfl rfl)
theorem dX0_boneOf_19 : decode cX0_boneOf 19 = .ok (.tableswitch 75 0 5 #[37, 42, 47, 52, 57, 62], 37) := by decide +kernel
theorem dX0_boneOf_56 : decode cX0_boneOf 56 = .ok (.aload_n 3, 1) := dk_45 (dk_at dksX0_boneOf_2 0 rfl rfl)
theorem dX0_boneOf_57 : decode cX0_boneOf 57 = .ok (.getfield 229, 3) := dk_180 0 229 (dk_at dksX0_boneOf_2 1 rfl rfl)
theorem dX0_boneOf_60 : decode cX0_boneOf 60 = .ok (.ireturn, 1) := dk_172 (dk_at dksX0_boneOf_2 4 rfl rfl)
theorem dX0_boneOf_61 : decode cX0_boneOf 61 = .ok (.aload_n 3, 1) := dk_45 (dk_at dksX0_boneOf_2 5 rfl rfl)
theorem dX0_boneOf_62 : decode cX0_boneOf 62 = .ok (.getfield 281, 3) := dk_180 1 25 (dk_at dksX0_boneOf_2 6 rfl rfl)
theorem dX0_boneOf_65 : decode cX0_boneOf 65 = .ok (.ireturn, 1) := dk_172 (dk_at dksX0_boneOf_2 9 rfl rfl)
theorem dX0_boneOf_66 : decode cX0_boneOf 66 = .ok (.aload_n 3, 1) := dk_45 (dk_at dksX0_boneOf_2 10 rfl rfl)
theorem dX0_boneOf_67 : decode cX0_boneOf 67 = .ok (.getfield 278, 3) := dk_180 1 22 (dk_at dksX0_boneOf_2 11 rfl rfl)
theorem dX0_boneOf_70 : decode cX0_boneOf 70 = .ok (.ireturn, 1) := dk_172 (dk_at dksX0_boneOf_2 14 rfl rfl)
theorem dX0_boneOf_71 : decode cX0_boneOf 71 = .ok (.aload_n 3, 1) := dk_45 (dk_at dksX0_boneOf_2 15 rfl rfl)
theorem dX0_boneOf_72 : decode cX0_boneOf 72 = .ok (.getfield 298, 3) := dk_180 1 42 (dk_at dksX0_boneOf_2 16 rfl rfl)
theorem dX0_boneOf_75 : decode cX0_boneOf 75 = .ok (.ireturn, 1) := dk_172 (dk_at dksX0_boneOf_2 19 rfl rfl)
theorem dX0_boneOf_76 : decode cX0_boneOf 76 = .ok (.aload_n 3, 1) := dk_45 (dk_at dksX0_boneOf_2 20 rfl rfl)
theorem dX0_boneOf_77 : decode cX0_boneOf 77 = .ok (.getfield 359, 3) := dk_180 1 103 (dk_at dksX0_boneOf_2 21 rfl rfl)
theorem dX0_boneOf_80 : decode cX0_boneOf 80 = .ok (.ireturn, 1) := dk_172 (dk_at dksX0_boneOf_3 0 rfl rfl)
theorem dX0_boneOf_81 : decode cX0_boneOf 81 = .ok (.aload_n 3, 1) := dk_45 (dk_at dksX0_boneOf_3 1 rfl rfl)
theorem dX0_boneOf_82 : decode cX0_boneOf 82 = .ok (.getfield 415, 3) := dk_180 1 159 (dk_at dksX0_boneOf_3 2 rfl rfl)
theorem dX0_boneOf_85 : decode cX0_boneOf 85 = .ok (.ifCond .eq 7, 3) := dk_153 0 7 (dk_at dksX0_boneOf_3 5 rfl rfl)
theorem dX0_boneOf_88 : decode cX0_boneOf 88 = .ok (.iconst 1, 1) := dk_4 (dk_at dksX0_boneOf_3 8 rfl rfl)
theorem dX0_boneOf_89 : decode cX0_boneOf 89 = .ok (.goto 4, 3) := dk_167 0 4 (dk_at dksX0_boneOf_3 9 rfl rfl)
theorem dX0_boneOf_92 : decode cX0_boneOf 92 = .ok (.iconst 0, 1) := dk_3 (dk_at dksX0_boneOf_3 12 rfl rfl)
theorem dX0_boneOf_93 : decode cX0_boneOf 93 = .ok (.ireturn, 1) := dk_172 (dk_at dksX0_boneOf_3 13 rfl rfl)
theorem dX0_boneOf_94 : decode cX0_boneOf 94 = .ok (.iload_n 2, 1) := dk_28 (dk_at dksX0_boneOf_3 14 rfl rfl)
theorem dX0_boneOf_95 : decode cX0_boneOf 95 = .ok (.i2l, 1) := dk_133 (dk_at dksX0_boneOf_3 15 rfl rfl)
theorem dX0_boneOf_96 : decode cX0_boneOf 96 = .ok (.ldc2_w 418, 3) := dk_20 1 162 (dk_at dksX0_boneOf_3 16 rfl rfl)
theorem dX0_boneOf_99 : decode cX0_boneOf 99 = .ok (.ldc2_w 420, 3) := dk_20 1 164 (dk_at dksX0_boneOf_3 19 rfl rfl)
theorem dX0_boneOf_102 : decode cX0_boneOf 102 = .ok (.invokestatic 5, 3) := dk_184 0 5 (dk_at dksX0_boneOf_4 0 rfl rfl)
theorem dX0_boneOf_105 : decode cX0_boneOf 105 = .ok (.ifCond .eq 15, 3) := dk_153 0 15 (dk_at dksX0_boneOf_4 3 rfl rfl)
theorem dX0_boneOf_108 : decode cX0_boneOf 108 = .ok (.aload_n 3, 1) := dk_45 (dk_at dksX0_boneOf_4 6 rfl rfl)
theorem dX0_boneOf_109 : decode cX0_boneOf 109 = .ok (.getfield 195, 3) := dk_180 0 195 (dk_at dksX0_boneOf_4 7 rfl rfl)
theorem dX0_boneOf_112 : decode cX0_boneOf 112 = .ok (.iload_n 2, 1) := dk_28 (dk_at dksX0_boneOf_4 10 rfl rfl)
theorem dX0_boneOf_113 : decode cX0_boneOf 113 = .ok (.bipush 6, 2) := dk_16 6 (dk_at dksX0_boneOf_4 11 rfl rfl)
theorem dX0_boneOf_115 : decode cX0_boneOf 115 = .ok (.isub, 1) := dk_100 (dk_at dksX0_boneOf_4 13 rfl rfl)
theorem dX0_boneOf_116 : decode cX0_boneOf 116 = .ok (.iaload, 1) := dk_46 (dk_at dksX0_boneOf_4 14 rfl rfl)
theorem dX0_boneOf_117 : decode cX0_boneOf 117 = .ok (.goto 5, 3) := dk_167 0 5 (dk_at dksX0_boneOf_4 15 rfl rfl)
theorem dX0_boneOf_120 : decode cX0_boneOf 120 = .ok (.bipush (-2), 2) := dk_16 254 (dk_at dksX0_boneOf_4 18 rfl rfl)
theorem dX0_boneOf_122 : decode cX0_boneOf 122 = .ok (.ireturn, 1) := dk_172 (dk_at dksX0_boneOf_4 20 rfl rfl)
abbrev cX0_count : ByteArray := prog_1_method_74_code
def yX0_count : MethodName := ⟨RX0, "count", "(I)I"⟩
def dkwX0_count_5 : List UInt8 := [132, 3, 1, 167, 255, 228, 28, 172, 2, 172]
abbrev dktX0_count_5 : List UInt8 := dkwX0_count_5 ++ []
def dkwX0_count_4 : List UInt8 := [162, 0, 29, 28, 42, 180, 0, 13, 29, 50, 180, 0, 23, 199, 0, 7, 3, 167, 0, 4, 4, 96, 61]
abbrev dktX0_count_4 : List UInt8 := dkwX0_count_4 ++ dktX0_count_5
def dkwX0_count_3 : List UInt8 := [172, 42, 180, 0, 215, 172, 42, 180, 0, 232, 172, 42, 180, 0, 238, 172, 3, 61, 3, 62, 29, 7]
abbrev dktX0_count_3 : List UInt8 := dkwX0_count_3 ++ dktX0_count_4
def dkwX0_count_2 : List UInt8 := [42, 180, 0, 150, 172, 42, 180, 0, 153, 172, 42, 180, 0, 156, 172, 42, 180, 0, 244, 172, 42, 180, 1, 129]
abbrev dktX0_count_2 : List UInt8 := dkwX0_count_2 ++ dktX0_count_3
def dkwX0_count_1 : List UInt8 := [170, 0, 0, 0, 0, 0, 128, 0, 0, 0, 0, 0, 0, 0, 8, 0, 0, 0, 51, 0, 0, 0, 56, 0, 0, 0, 61, 0, 0, 0, 66, 0, 0, 0, 71, 0, 0, 0, 76, 0, 0, 0, 81, 0, 0, 0, 86, 0, 0, 0, 91]
abbrev dktX0_count_1 : List UInt8 := dkwX0_count_1 ++ dktX0_count_2
def dkwX0_count_0 : List UInt8 := [27]
abbrev dktX0_count_0 : List UInt8 := dkwX0_count_0 ++ dktX0_count_1
theorem dksX0_count_0 : cX0_count.data.toList.drop 0 = dktX0_count_0 := by decide +kernel
theorem dksX0_count_1 : cX0_count.data.toList.drop 1 = dktX0_count_1 := dk_seg dksX0_count_0 1 rfl rfl
theorem dksX0_count_2 : cX0_count.data.toList.drop 52 = dktX0_count_2 := dk_seg dksX0_count_1 51 rfl rfl
theorem dksX0_count_3 : cX0_count.data.toList.drop 76 = dktX0_count_3 := dk_seg dksX0_count_2 24 rfl rfl
theorem dksX0_count_4 : cX0_count.data.toList.drop 98 = dktX0_count_4 := dk_seg dksX0_count_3 22 rfl rfl
theorem dksX0_count_5 : cX0_count.data.toList.drop 121 = dktX0_count_5 := dk_seg dksX0_count_4 23 rfl rfl
theorem dX0_count_0 : decode cX0_count 0 = .ok (.iload_n 1, 1) := dk_27 (dk_at dksX0_count_0 0 rfl rfl)
theorem dX0_count_1 : decode cX0_count 1 = .ok (.tableswitch 128 0 8 #[51, 56, 61, 66, 71, 76, 81, 86, 91], 51) := by decide +kernel
theorem dX0_count_52 : decode cX0_count 52 = .ok (.aload_n 0, 1) := dk_42 (dk_at dksX0_count_2 0 rfl rfl)
theorem dX0_count_53 : decode cX0_count 53 = .ok (.getfield 150, 3) := dk_180 0 150 (dk_at dksX0_count_2 1 rfl rfl)
theorem dX0_count_56 : decode cX0_count 56 = .ok (.ireturn, 1) := dk_172 (dk_at dksX0_count_2 4 rfl rfl)
theorem dX0_count_57 : decode cX0_count 57 = .ok (.aload_n 0, 1) := dk_42 (dk_at dksX0_count_2 5 rfl rfl)
theorem dX0_count_58 : decode cX0_count 58 = .ok (.getfield 153, 3) := dk_180 0 153 (dk_at dksX0_count_2 6 rfl rfl)
theorem dX0_count_61 : decode cX0_count 61 = .ok (.ireturn, 1) := dk_172 (dk_at dksX0_count_2 9 rfl rfl)
theorem dX0_count_62 : decode cX0_count 62 = .ok (.aload_n 0, 1) := dk_42 (dk_at dksX0_count_2 10 rfl rfl)
theorem dX0_count_63 : decode cX0_count 63 = .ok (.getfield 156, 3) := dk_180 0 156 (dk_at dksX0_count_2 11 rfl rfl)
theorem dX0_count_66 : decode cX0_count 66 = .ok (.ireturn, 1) := dk_172 (dk_at dksX0_count_2 14 rfl rfl)
theorem dX0_count_67 : decode cX0_count 67 = .ok (.aload_n 0, 1) := dk_42 (dk_at dksX0_count_2 15 rfl rfl)
theorem dX0_count_68 : decode cX0_count 68 = .ok (.getfield 244, 3) := dk_180 0 244 (dk_at dksX0_count_2 16 rfl rfl)
theorem dX0_count_71 : decode cX0_count 71 = .ok (.ireturn, 1) := dk_172 (dk_at dksX0_count_2 19 rfl rfl)
theorem dX0_count_72 : decode cX0_count 72 = .ok (.aload_n 0, 1) := dk_42 (dk_at dksX0_count_2 20 rfl rfl)
theorem dX0_count_73 : decode cX0_count 73 = .ok (.getfield 385, 3) := dk_180 1 129 (dk_at dksX0_count_2 21 rfl rfl)
theorem dX0_count_76 : decode cX0_count 76 = .ok (.ireturn, 1) := dk_172 (dk_at dksX0_count_3 0 rfl rfl)
theorem dX0_count_77 : decode cX0_count 77 = .ok (.aload_n 0, 1) := dk_42 (dk_at dksX0_count_3 1 rfl rfl)
theorem dX0_count_78 : decode cX0_count 78 = .ok (.getfield 215, 3) := dk_180 0 215 (dk_at dksX0_count_3 2 rfl rfl)
theorem dX0_count_81 : decode cX0_count 81 = .ok (.ireturn, 1) := dk_172 (dk_at dksX0_count_3 5 rfl rfl)
theorem dX0_count_82 : decode cX0_count 82 = .ok (.aload_n 0, 1) := dk_42 (dk_at dksX0_count_3 6 rfl rfl)
theorem dX0_count_83 : decode cX0_count 83 = .ok (.getfield 232, 3) := dk_180 0 232 (dk_at dksX0_count_3 7 rfl rfl)
theorem dX0_count_86 : decode cX0_count 86 = .ok (.ireturn, 1) := dk_172 (dk_at dksX0_count_3 10 rfl rfl)
theorem dX0_count_87 : decode cX0_count 87 = .ok (.aload_n 0, 1) := dk_42 (dk_at dksX0_count_3 11 rfl rfl)
theorem dX0_count_88 : decode cX0_count 88 = .ok (.getfield 238, 3) := dk_180 0 238 (dk_at dksX0_count_3 12 rfl rfl)
theorem dX0_count_91 : decode cX0_count 91 = .ok (.ireturn, 1) := dk_172 (dk_at dksX0_count_3 15 rfl rfl)
theorem dX0_count_92 : decode cX0_count 92 = .ok (.iconst 0, 1) := dk_3 (dk_at dksX0_count_3 16 rfl rfl)
theorem dX0_count_93 : decode cX0_count 93 = .ok (.istore_n 2, 1) := dk_61 (dk_at dksX0_count_3 17 rfl rfl)
theorem dX0_count_94 : decode cX0_count 94 = .ok (.iconst 0, 1) := dk_3 (dk_at dksX0_count_3 18 rfl rfl)
theorem dX0_count_95 : decode cX0_count 95 = .ok (.istore_n 3, 1) := dk_62 (dk_at dksX0_count_3 19 rfl rfl)
theorem dX0_count_96 : decode cX0_count 96 = .ok (.iload_n 3, 1) := dk_29 (dk_at dksX0_count_3 20 rfl rfl)
theorem dX0_count_97 : decode cX0_count 97 = .ok (.iconst 4, 1) := dk_7 (dk_at dksX0_count_3 21 rfl rfl)
theorem dX0_count_98 : decode cX0_count 98 = .ok (.if_icmp .ge 29, 3) := dk_162 0 29 (dk_at dksX0_count_4 0 rfl rfl)
theorem dX0_count_101 : decode cX0_count 101 = .ok (.iload_n 2, 1) := dk_28 (dk_at dksX0_count_4 3 rfl rfl)
theorem dX0_count_102 : decode cX0_count 102 = .ok (.aload_n 0, 1) := dk_42 (dk_at dksX0_count_4 4 rfl rfl)
theorem dX0_count_103 : decode cX0_count 103 = .ok (.getfield 13, 3) := dk_180 0 13 (dk_at dksX0_count_4 5 rfl rfl)
theorem dX0_count_106 : decode cX0_count 106 = .ok (.iload_n 3, 1) := dk_29 (dk_at dksX0_count_4 8 rfl rfl)
theorem dX0_count_107 : decode cX0_count 107 = .ok (.aaload, 1) := dk_50 (dk_at dksX0_count_4 9 rfl rfl)
theorem dX0_count_108 : decode cX0_count 108 = .ok (.getfield 23, 3) := dk_180 0 23 (dk_at dksX0_count_4 10 rfl rfl)
theorem dX0_count_111 : decode cX0_count 111 = .ok (.ifnonnull 7, 3) := dk_199 0 7 (dk_at dksX0_count_4 13 rfl rfl)
theorem dX0_count_114 : decode cX0_count 114 = .ok (.iconst 0, 1) := dk_3 (dk_at dksX0_count_4 16 rfl rfl)
theorem dX0_count_115 : decode cX0_count 115 = .ok (.goto 4, 3) := dk_167 0 4 (dk_at dksX0_count_4 17 rfl rfl)
theorem dX0_count_118 : decode cX0_count 118 = .ok (.iconst 1, 1) := dk_4 (dk_at dksX0_count_4 20 rfl rfl)
theorem dX0_count_119 : decode cX0_count 119 = .ok (.iadd, 1) := dk_96 (dk_at dksX0_count_4 21 rfl rfl)
theorem dX0_count_120 : decode cX0_count 120 = .ok (.istore_n 2, 1) := dk_61 (dk_at dksX0_count_4 22 rfl rfl)
theorem dX0_count_121 : decode cX0_count 121 = .ok (.iinc 3 1, 3) := dk_132 3 1 (dk_at dksX0_count_5 0 rfl rfl)
theorem dX0_count_124 : decode cX0_count 124 = .ok (.goto (-28), 3) := dk_167 255 228 (dk_at dksX0_count_5 3 rfl rfl)
theorem dX0_count_127 : decode cX0_count 127 = .ok (.iload_n 2, 1) := dk_28 (dk_at dksX0_count_5 6 rfl rfl)
theorem dX0_count_128 : decode cX0_count 128 = .ok (.ireturn, 1) := dk_172 (dk_at dksX0_count_5 7 rfl rfl)
theorem dX0_count_129 : decode cX0_count 129 = .ok (.iconst (-1), 1) := dk_2 (dk_at dksX0_count_5 8 rfl rfl)
theorem dX0_count_130 : decode cX0_count 130 = .ok (.ireturn, 1) := dk_172 (dk_at dksX0_count_5 9 rfl rfl)
theorem q109 : (Jvm.Cond.initialized "BoneYard") ∈ lw_all := lw_g (lw_at lw_m1 1 rfl) rfl
theorem q152 : (Jvm.Cond.instanceMethod ({ cls := "BoneYard", name := "row", desc := "(III)I" } : Jvm.MethodName)) ∈ lw_all := lw_g (lw_at lw_m1 44 rfl) rfl
theorem q153 : (Jvm.Cond.selects "BoneYard" ({ cls := "BoneYard", name := "row", desc := "(III)I" } : Jvm.MethodName) ({ cls := "BoneYard", name := "row", desc := "(III)I" } : Jvm.MethodName)) ∈ lw_all := lw_g (lw_at lw_m1 45 rfl) rfl
theorem q154 : (Jvm.Cond.code ({ cls := "BoneYard", name := "row", desc := "(III)I" } : Jvm.MethodName) prog_1_method_3_code (4 : Nat) (Option.some Jvm.ClassFile.FieldType.int)) ∈ lw_all := lw_g (lw_at lw_m1 46 rfl) rfl
theorem q155 : (Jvm.Cond.methodLink "BoneYard" (9 : Nat) ({ cls := "BoneYard", name := "isPlace", desc := "(I)Z" } : Jvm.MethodName)) ∈ lw_all := lw_g (lw_at lw_m1 47 rfl) rfl
theorem q156 : (Jvm.Cond.static ({ cls := "BoneYard", name := "isPlace", desc := "(I)Z" } : Jvm.MethodName)) ∈ lw_all := lw_g (lw_at lw_m1 48 rfl) rfl
theorem q157 : (Jvm.Cond.code ({ cls := "BoneYard", name := "isPlace", desc := "(I)Z" } : Jvm.MethodName) prog_1_method_2_code (1 : Nat) (Option.some Jvm.ClassFile.FieldType.boolean)) ∈ lw_all := lw_g (lw_at lw_m1 49 rfl) rfl
theorem q158 : (Jvm.Cond.constantLong "BoneYard" (3 : Nat) (3 : Int64)) ∈ lw_all := lw_g (lw_at lw_m1 50 rfl) rfl
theorem q159 : (Jvm.Cond.methodLink "BoneYard" (5 : Nat) ({ cls := "BoneYard", name := "in", desc := "(JJJ)Z" } : Jvm.MethodName)) ∈ lw_all := lw_g (lw_at lw_m1 51 rfl) rfl
theorem q160 : (Jvm.Cond.static ({ cls := "BoneYard", name := "in", desc := "(JJJ)Z" } : Jvm.MethodName)) ∈ lw_all := lw_g (lw_at lw_m1 52 rfl) rfl
theorem q161 : (Jvm.Cond.code ({ cls := "BoneYard", name := "in", desc := "(JJJ)Z" } : Jvm.MethodName) prog_1_method_1_code (6 : Nat) (Option.some Jvm.ClassFile.FieldType.boolean)) ∈ lw_all := lw_g (lw_at lw_m1 53 rfl) rfl
theorem q162 : (Jvm.Cond.methodLink "BoneYard" (17 : Nat) ({ cls := "BoneYard$Row", name := "begins", desc := "(II)Z" } : Jvm.MethodName)) ∈ lw_all := lw_g (lw_at lw_m1 54 rfl) rfl
theorem q258 : (Jvm.Cond.instanceMethod ({ cls := "BoneYard", name := "tear", desc := "(I)Z" } : Jvm.MethodName)) ∈ lw_all := lw_g (lw_at lw_m1 150 rfl) rfl
theorem q259 : (Jvm.Cond.selects "BoneYard" ({ cls := "BoneYard", name := "tear", desc := "(I)Z" } : Jvm.MethodName) ({ cls := "BoneYard", name := "tear", desc := "(I)Z" } : Jvm.MethodName)) ∈ lw_all := lw_g (lw_at lw_m1 151 rfl) rfl
theorem q260 : (Jvm.Cond.code ({ cls := "BoneYard", name := "tear", desc := "(I)Z" } : Jvm.MethodName) prog_1_method_4_code (2 : Nat) (Option.some Jvm.ClassFile.FieldType.boolean)) ∈ lw_all := lw_g (lw_at lw_m1 152 rfl) rfl
theorem q262 : (Jvm.Cond.instanceMethod ({ cls := "BoneYard", name := "write", desc := "(IIJ)I" } : Jvm.MethodName)) ∈ lw_all := lw_g (lw_at lw_m1 154 rfl) rfl
theorem q263 : (Jvm.Cond.selects "BoneYard" ({ cls := "BoneYard", name := "write", desc := "(IIJ)I" } : Jvm.MethodName) ({ cls := "BoneYard", name := "write", desc := "(IIJ)I" } : Jvm.MethodName)) ∈ lw_all := lw_g (lw_at lw_m1 155 rfl) rfl
theorem q264 : (Jvm.Cond.code ({ cls := "BoneYard", name := "write", desc := "(IIJ)I" } : Jvm.MethodName) prog_1_method_5_code (5 : Nat) (Option.some Jvm.ClassFile.FieldType.int)) ∈ lw_all := lw_g (lw_at lw_m1 156 rfl) rfl
theorem q265 : (Jvm.Cond.methodLink "BoneYard" (27 : Nat) ({ cls := "BoneYard$Row", name := "puts", desc := "(IJ)I" } : Jvm.MethodName)) ∈ lw_all := lw_g (lw_at lw_m1 157 rfl) rfl
theorem q341 : (Jvm.Cond.instanceMethod ({ cls := "BoneYard", name := "paste", desc := "(IIIII)I" } : Jvm.MethodName)) ∈ lw_all := lw_g (lw_at lw_m1 233 rfl) rfl
theorem q342 : (Jvm.Cond.selects "BoneYard" ({ cls := "BoneYard", name := "paste", desc := "(IIIII)I" } : Jvm.MethodName) ({ cls := "BoneYard", name := "paste", desc := "(IIIII)I" } : Jvm.MethodName)) ∈ lw_all := lw_g (lw_at lw_m1 234 rfl) rfl
theorem q343 : (Jvm.Cond.code ({ cls := "BoneYard", name := "paste", desc := "(IIIII)I" } : Jvm.MethodName) prog_1_method_6_code (6 : Nat) (Option.some Jvm.ClassFile.FieldType.int)) ∈ lw_all := lw_g (lw_at lw_m1 235 rfl) rfl
theorem q344 : (Jvm.Cond.methodLink "BoneYard" (31 : Nat) ({ cls := "BoneYard$Row", name := "pastes", desc := "(ILBoneYard$Row;II)I" } : Jvm.MethodName)) ∈ lw_all := lw_g (lw_at lw_m1 236 rfl) rfl
theorem q357 : (Jvm.Cond.instantiable "BoneYard" (41 : Nat)) ∈ lw_all := lw_g (lw_at lw_m2 9 rfl) rfl
theorem q359 : (Jvm.Cond.instanceMethod ({ cls := "BoneYard", name := "<init>", desc := "()V" } : Jvm.MethodName)) ∈ lw_all := lw_g (lw_at lw_m2 11 rfl) rfl
theorem q360 : (Jvm.Cond.code ({ cls := "BoneYard", name := "<init>", desc := "()V" } : Jvm.MethodName) prog_1_method_8_code (2 : Nat) (Option.none : Option Jvm.ClassFile.FieldType)) ∈ lw_all := lw_g (lw_at lw_m2 12 rfl) rfl
theorem q361 : (Jvm.Cond.methodLink "BoneYard" (43 : Nat) ({ cls := "java/lang/Object", name := "<init>", desc := "()V" } : Jvm.MethodName)) ∈ lw_all := lw_g (lw_at lw_m2 13 rfl) rfl
theorem q362 : (Jvm.Cond.classLink "BoneYard" (18 : Nat) "BoneYard$Row") ∈ lw_all := lw_g (lw_at lw_m2 14 rfl) rfl
theorem q364 : (Jvm.Cond.classLink "BoneYard" (49 : Nat) "BoneYard$Element") ∈ lw_all := lw_g (lw_at lw_m2 16 rfl) rfl
theorem q366 : (Jvm.Cond.classLink "BoneYard" (55 : Nat) "BoneYard$Bone") ∈ lw_all := lw_g (lw_at lw_m2 18 rfl) rfl
theorem q368 : (Jvm.Cond.classLink "BoneYard" (90 : Nat) "[[Z") ∈ lw_all := lw_g (lw_at lw_m2 20 rfl) rfl
theorem q370 : (Jvm.Cond.classLink "BoneYard" (102 : Nat) "BoneYard$Reader") ∈ lw_all := lw_g (lw_at lw_m2 22 rfl) rfl
theorem q372 : (Jvm.Cond.methodLinkNest "BoneYard" (104 : Nat) ({ cls := "BoneYard$Reader", name := "<init>", desc := "(LBoneYard;)V" } : Jvm.MethodName) "BoneYard") ∈ lw_tbl := lw_at lw_m2 24 rfl
theorem q410 : (Jvm.Cond.fieldLinkNest "BoneYard" (260 : Nat) "BoneYard$Wrong" "kind" "I" "BoneYard") ∈ lw_tbl := lw_at lw_m2 62 rfl
theorem q412 : (Jvm.Cond.fieldLinkNest "BoneYard" (263 : Nat) "BoneYard$Wrong" "place" "I" "BoneYard") ∈ lw_tbl := lw_at lw_m2 64 rfl
theorem q451 : (Jvm.Cond.classLink "BoneYard" (111 : Nat) "BoneYard$Key") ∈ lw_all := lw_g (lw_at lw_m2 103 rfl) rfl
theorem q453 : (Jvm.Cond.classLink "BoneYard" (138 : Nat) "[[I") ∈ lw_all := lw_g (lw_at lw_m2 105 rfl) rfl
theorem q455 : (Jvm.Cond.methodLinkNest "BoneYard" (149 : Nat) ({ cls := "BoneYard$Row", name := "<init>", desc := "()V" } : Jvm.MethodName) "BoneYard") ∈ lw_tbl := lw_at lw_m2 107 rfl
theorem q460 : (Jvm.Cond.fieldLinkNest "BoneYard" (23 : Nat) "BoneYard$Row" "held" "Ljava/lang/Object;" "BoneYard") ∈ lw_tbl := lw_at lw_m2 112 rfl
theorem q464 : (Jvm.Cond.fieldLink "BoneYard" (13 : Nat) "BoneYard" "rows" "[LBoneYard$Row;") ∈ lw_all := lw_g (lw_at lw_m2 116 rfl) rfl
theorem q465 : (Jvm.Cond.fieldLink "BoneYard" (51 : Nat) "BoneYard" "elements" "[LBoneYard$Element;") ∈ lw_all := lw_g (lw_at lw_m2 117 rfl) rfl
theorem q466 : (Jvm.Cond.fieldLink "BoneYard" (57 : Nat) "BoneYard" "bones" "[LBoneYard$Bone;") ∈ lw_all := lw_g (lw_at lw_m2 118 rfl) rfl
theorem q467 : (Jvm.Cond.fieldLink "BoneYard" (61 : Nat) "BoneYard" "meats" "[I") ∈ lw_all := lw_g (lw_at lw_m2 119 rfl) rfl
theorem q468 : (Jvm.Cond.fieldLink "BoneYard" (65 : Nat) "BoneYard" "coin" "[I") ∈ lw_all := lw_g (lw_at lw_m2 120 rfl) rfl
theorem q469 : (Jvm.Cond.fieldLink "BoneYard" (68 : Nat) "BoneYard" "seal" "[I") ∈ lw_all := lw_g (lw_at lw_m2 121 rfl) rfl
theorem q470 : (Jvm.Cond.fieldLink "BoneYard" (150 : Nat) "BoneYard" "elementMany" "I") ∈ lw_all := lw_g (lw_at lw_m2 122 rfl) rfl
theorem q472 : (Jvm.Cond.fieldLink "BoneYard" (156 : Nat) "BoneYard" "boneMany" "I") ∈ lw_all := lw_g (lw_at lw_m2 124 rfl) rfl
theorem q473 : (Jvm.Cond.fieldLink "BoneYard" (153 : Nat) "BoneYard" "layerMany" "I") ∈ lw_all := lw_g (lw_at lw_m2 125 rfl) rfl
theorem q474 : (Jvm.Cond.fieldLink "BoneYard" (71 : Nat) "BoneYard" "near" "I") ∈ lw_all := lw_g (lw_at lw_m2 126 rfl) rfl
theorem q475 : (Jvm.Cond.fieldLink "BoneYard" (75 : Nat) "BoneYard" "beyond" "I") ∈ lw_all := lw_g (lw_at lw_m2 127 rfl) rfl
theorem q476 : (Jvm.Cond.fieldLink "BoneYard" (78 : Nat) "BoneYard" "overA" "[I") ∈ lw_all := lw_g (lw_at lw_m2 128 rfl) rfl
theorem q477 : (Jvm.Cond.fieldLink "BoneYard" (81 : Nat) "BoneYard" "overB" "[I") ∈ lw_all := lw_g (lw_at lw_m2 129 rfl) rfl
theorem q478 : (Jvm.Cond.fieldLink "BoneYard" (200 : Nat) "BoneYard" "ways" "I") ∈ lw_all := lw_g (lw_at lw_m2 130 rfl) rfl
theorem q479 : (Jvm.Cond.fieldLink "BoneYard" (215 : Nat) "BoneYard" "overs" "I") ∈ lw_all := lw_g (lw_at lw_m2 131 rfl) rfl
theorem q480 : (Jvm.Cond.fieldLink "BoneYard" (232 : Nat) "BoneYard" "joints" "I") ∈ lw_all := lw_g (lw_at lw_m2 132 rfl) rfl
theorem q481 : (Jvm.Cond.fieldLink "BoneYard" (84 : Nat) "BoneYard" "least" "[I") ∈ lw_all := lw_g (lw_at lw_m2 133 rfl) rfl
theorem q482 : (Jvm.Cond.fieldLink "BoneYard" (87 : Nat) "BoneYard" "greatest" "[I") ∈ lw_all := lw_g (lw_at lw_m2 134 rfl) rfl
theorem q483 : (Jvm.Cond.fieldLink "BoneYard" (92 : Nat) "BoneYard" "reaches" "[[Z") ∈ lw_all := lw_g (lw_at lw_m2 135 rfl) rfl
theorem q484 : (Jvm.Cond.fieldLink "BoneYard" (95 : Nat) "BoneYard" "tape" "[B") ∈ lw_all := lw_g (lw_at lw_m2 136 rfl) rfl
theorem q485 : (Jvm.Cond.fieldLink "BoneYard" (238 : Nat) "BoneYard" "taped" "I") ∈ lw_all := lw_g (lw_at lw_m2 137 rfl) rfl
theorem q486 : (Jvm.Cond.fieldLink "BoneYard" (251 : Nat) "BoneYard" "fault" "I") ∈ lw_all := lw_g (lw_at lw_m2 138 rfl) rfl
theorem q487 : (Jvm.Cond.fieldLink "BoneYard" (99 : Nat) "BoneYard" "faultAt" "I") ∈ lw_all := lw_g (lw_at lw_m2 139 rfl) rfl
theorem q488 : (Jvm.Cond.fieldLink "BoneYard" (244 : Nat) "BoneYard" "keyMany" "I") ∈ lw_all := lw_g (lw_at lw_m2 140 rfl) rfl
theorem q489 : (Jvm.Cond.fieldLink "BoneYard" (247 : Nat) "BoneYard" "wasRead" "Z") ∈ lw_all := lw_g (lw_at lw_m2 141 rfl) rfl
theorem q490 : (Jvm.Cond.fieldLink "BoneYard" (107 : Nat) "BoneYard" "reader" "LBoneYard$Reader;") ∈ lw_all := lw_g (lw_at lw_m2 142 rfl) rfl
theorem q491 : (Jvm.Cond.fieldLink "BoneYard" (113 : Nat) "BoneYard" "keys" "[LBoneYard$Key;") ∈ lw_all := lw_g (lw_at lw_m2 143 rfl) rfl
theorem q492 : (Jvm.Cond.fieldLink "BoneYard" (117 : Nat) "BoneYard" "name" "[I") ∈ lw_all := lw_g (lw_at lw_m2 144 rfl) rfl
theorem q493 : (Jvm.Cond.fieldLink "BoneYard" (120 : Nat) "BoneYard" "with" "[I") ∈ lw_all := lw_g (lw_at lw_m2 145 rfl) rfl
theorem q494 : (Jvm.Cond.fieldLink "BoneYard" (123 : Nat) "BoneYard" "partners" "[I") ∈ lw_all := lw_g (lw_at lw_m2 146 rfl) rfl
theorem q495 : (Jvm.Cond.fieldLink "BoneYard" (126 : Nat) "BoneYard" "asked" "[I") ∈ lw_all := lw_g (lw_at lw_m2 147 rfl) rfl
theorem q496 : (Jvm.Cond.fieldLink "BoneYard" (301 : Nat) "BoneYard" "round" "I") ∈ lw_all := lw_g (lw_at lw_m2 148 rfl) rfl
theorem q497 : (Jvm.Cond.fieldLink "BoneYard" (341 : Nat) "BoneYard" "paired" "I") ∈ lw_all := lw_g (lw_at lw_m2 149 rfl) rfl
theorem q498 : (Jvm.Cond.fieldLink "BoneYard" (129 : Nat) "BoneYard" "begin" "[I") ∈ lw_all := lw_g (lw_at lw_m2 150 rfl) rfl
theorem q499 : (Jvm.Cond.fieldLink "BoneYard" (132 : Nat) "BoneYard" "first" "[I") ∈ lw_all := lw_g (lw_at lw_m2 151 rfl) rfl
theorem q500 : (Jvm.Cond.fieldLink "BoneYard" (135 : Nat) "BoneYard" "last" "[I") ∈ lw_all := lw_g (lw_at lw_m2 152 rfl) rfl
theorem q501 : (Jvm.Cond.fieldLink "BoneYard" (372 : Nat) "BoneYard" "tellers" "I") ∈ lw_all := lw_g (lw_at lw_m2 153 rfl) rfl
theorem q502 : (Jvm.Cond.fieldLink "BoneYard" (140 : Nat) "BoneYard" "share" "[[I") ∈ lw_all := lw_g (lw_at lw_m2 154 rfl) rfl
theorem q503 : (Jvm.Cond.fieldLink "BoneYard" (385 : Nat) "BoneYard" "herdMany" "I") ∈ lw_all := lw_g (lw_at lw_m2 155 rfl) rfl
theorem q504 : (Jvm.Cond.fieldLink "BoneYard" (143 : Nat) "BoneYard" "most" "[[I") ∈ lw_all := lw_g (lw_at lw_m2 156 rfl) rfl
theorem q505 : (Jvm.Cond.fieldLink "BoneYard" (146 : Nat) "BoneYard" "size" "[I") ∈ lw_all := lw_g (lw_at lw_m2 157 rfl) rfl
theorem q506 : (Jvm.Cond.laysFinal "BoneYard" "BoneYard" "rows" "[LBoneYard$Row;") ∈ lw_all := lw_g (lw_at lw_m2 158 rfl) rfl
theorem q507 : (Jvm.Cond.soleField "BoneYard" "rows") ∈ lw_all := lw_g (lw_at lw_m2 159 rfl) rfl
theorem q508 : (Jvm.Cond.laysFinal "BoneYard" "BoneYard" "elements" "[LBoneYard$Element;") ∈ lw_all := lw_g (lw_at lw_m2 160 rfl) rfl
theorem q509 : (Jvm.Cond.soleField "BoneYard" "elements") ∈ lw_all := lw_g (lw_at lw_m2 161 rfl) rfl
theorem q510 : (Jvm.Cond.laysFinal "BoneYard" "BoneYard" "bones" "[LBoneYard$Bone;") ∈ lw_all := lw_g (lw_at lw_m2 162 rfl) rfl
theorem q511 : (Jvm.Cond.soleField "BoneYard" "bones") ∈ lw_all := lw_g (lw_at lw_m2 163 rfl) rfl
theorem q512 : (Jvm.Cond.laysFinal "BoneYard" "BoneYard" "meats" "[I") ∈ lw_all := lw_g (lw_at lw_m2 164 rfl) rfl
theorem q513 : (Jvm.Cond.soleField "BoneYard" "meats") ∈ lw_all := lw_g (lw_at lw_m2 165 rfl) rfl
theorem q514 : (Jvm.Cond.laysFinal "BoneYard" "BoneYard" "coin" "[I") ∈ lw_all := lw_g (lw_at lw_m2 166 rfl) rfl
theorem q515 : (Jvm.Cond.soleField "BoneYard" "coin") ∈ lw_all := lw_g (lw_at lw_m2 167 rfl) rfl
theorem q516 : (Jvm.Cond.laysFinal "BoneYard" "BoneYard" "seal" "[I") ∈ lw_all := lw_g (lw_at lw_m2 168 rfl) rfl
theorem q517 : (Jvm.Cond.soleField "BoneYard" "seal") ∈ lw_all := lw_g (lw_at lw_m2 169 rfl) rfl
theorem q518 : (Jvm.Cond.lays "BoneYard" "BoneYard" "elementMany" "I") ∈ lw_all := lw_g (lw_at lw_m2 170 rfl) rfl
theorem q519 : (Jvm.Cond.soleField "BoneYard" "elementMany") ∈ lw_all := lw_g (lw_at lw_m2 171 rfl) rfl
theorem q520 : (Jvm.Cond.lays "BoneYard" "BoneYard" "boneMany" "I") ∈ lw_all := lw_g (lw_at lw_m2 172 rfl) rfl
theorem q521 : (Jvm.Cond.soleField "BoneYard" "boneMany") ∈ lw_all := lw_g (lw_at lw_m2 173 rfl) rfl
theorem q522 : (Jvm.Cond.lays "BoneYard" "BoneYard" "layerMany" "I") ∈ lw_all := lw_g (lw_at lw_m2 174 rfl) rfl
theorem q523 : (Jvm.Cond.soleField "BoneYard" "layerMany") ∈ lw_all := lw_g (lw_at lw_m2 175 rfl) rfl
theorem q524 : (Jvm.Cond.lays "BoneYard" "BoneYard" "near" "I") ∈ lw_all := lw_g (lw_at lw_m2 176 rfl) rfl
theorem q525 : (Jvm.Cond.soleField "BoneYard" "near") ∈ lw_all := lw_g (lw_at lw_m2 177 rfl) rfl
theorem q526 : (Jvm.Cond.lays "BoneYard" "BoneYard" "beyond" "I") ∈ lw_all := lw_g (lw_at lw_m2 178 rfl) rfl
theorem q527 : (Jvm.Cond.soleField "BoneYard" "beyond") ∈ lw_all := lw_g (lw_at lw_m2 179 rfl) rfl
theorem q528 : (Jvm.Cond.laysFinal "BoneYard" "BoneYard" "overA" "[I") ∈ lw_all := lw_g (lw_at lw_m2 180 rfl) rfl
theorem q529 : (Jvm.Cond.soleField "BoneYard" "overA") ∈ lw_all := lw_g (lw_at lw_m2 181 rfl) rfl
theorem q530 : (Jvm.Cond.laysFinal "BoneYard" "BoneYard" "overB" "[I") ∈ lw_all := lw_g (lw_at lw_m2 182 rfl) rfl
theorem q531 : (Jvm.Cond.soleField "BoneYard" "overB") ∈ lw_all := lw_g (lw_at lw_m2 183 rfl) rfl
theorem q532 : (Jvm.Cond.lays "BoneYard" "BoneYard" "ways" "I") ∈ lw_all := lw_g (lw_at lw_m2 184 rfl) rfl
theorem q533 : (Jvm.Cond.soleField "BoneYard" "ways") ∈ lw_all := lw_g (lw_at lw_m2 185 rfl) rfl
theorem q534 : (Jvm.Cond.lays "BoneYard" "BoneYard" "overs" "I") ∈ lw_all := lw_g (lw_at lw_m2 186 rfl) rfl
theorem q535 : (Jvm.Cond.soleField "BoneYard" "overs") ∈ lw_all := lw_g (lw_at lw_m2 187 rfl) rfl
theorem q536 : (Jvm.Cond.lays "BoneYard" "BoneYard" "joints" "I") ∈ lw_all := lw_g (lw_at lw_m2 188 rfl) rfl
theorem q537 : (Jvm.Cond.soleField "BoneYard" "joints") ∈ lw_all := lw_g (lw_at lw_m2 189 rfl) rfl
theorem q538 : (Jvm.Cond.laysFinal "BoneYard" "BoneYard" "least" "[I") ∈ lw_all := lw_g (lw_at lw_m2 190 rfl) rfl
theorem q539 : (Jvm.Cond.soleField "BoneYard" "least") ∈ lw_all := lw_g (lw_at lw_m2 191 rfl) rfl
theorem q540 : (Jvm.Cond.laysFinal "BoneYard" "BoneYard" "greatest" "[I") ∈ lw_all := lw_g (lw_at lw_m2 192 rfl) rfl
theorem q541 : (Jvm.Cond.soleField "BoneYard" "greatest") ∈ lw_all := lw_g (lw_at lw_m2 193 rfl) rfl
theorem q542 : (Jvm.Cond.laysFinal "BoneYard" "BoneYard" "reaches" "[[Z") ∈ lw_all := lw_g (lw_at lw_m2 194 rfl) rfl
theorem q543 : (Jvm.Cond.soleField "BoneYard" "reaches") ∈ lw_all := lw_g (lw_at lw_m2 195 rfl) rfl
theorem q544 : (Jvm.Cond.laysFinal "BoneYard" "BoneYard" "tape" "[B") ∈ lw_all := lw_g (lw_at lw_m2 196 rfl) rfl
theorem q545 : (Jvm.Cond.soleField "BoneYard" "tape") ∈ lw_all := lw_g (lw_at lw_m2 197 rfl) rfl
theorem q546 : (Jvm.Cond.lays "BoneYard" "BoneYard" "taped" "I") ∈ lw_all := lw_g (lw_at lw_m2 198 rfl) rfl
theorem q547 : (Jvm.Cond.soleField "BoneYard" "taped") ∈ lw_all := lw_g (lw_at lw_m2 199 rfl) rfl
theorem q548 : (Jvm.Cond.lays "BoneYard" "BoneYard" "fault" "I") ∈ lw_all := lw_g (lw_at lw_m2 200 rfl) rfl
theorem q549 : (Jvm.Cond.soleField "BoneYard" "fault") ∈ lw_all := lw_g (lw_at lw_m2 201 rfl) rfl
theorem q550 : (Jvm.Cond.lays "BoneYard" "BoneYard" "faultAt" "I") ∈ lw_all := lw_g (lw_at lw_m2 202 rfl) rfl
theorem q551 : (Jvm.Cond.soleField "BoneYard" "faultAt") ∈ lw_all := lw_g (lw_at lw_m2 203 rfl) rfl
theorem q552 : (Jvm.Cond.lays "BoneYard" "BoneYard" "keyMany" "I") ∈ lw_all := lw_g (lw_at lw_m2 204 rfl) rfl
theorem q553 : (Jvm.Cond.soleField "BoneYard" "keyMany") ∈ lw_all := lw_g (lw_at lw_m2 205 rfl) rfl
theorem q554 : (Jvm.Cond.lays "BoneYard" "BoneYard" "wasRead" "Z") ∈ lw_all := lw_g (lw_at lw_m2 206 rfl) rfl
theorem q555 : (Jvm.Cond.soleField "BoneYard" "wasRead") ∈ lw_all := lw_g (lw_at lw_m2 207 rfl) rfl
theorem q556 : (Jvm.Cond.laysFinal "BoneYard" "BoneYard" "reader" "LBoneYard$Reader;") ∈ lw_all := lw_g (lw_at lw_m2 208 rfl) rfl
theorem q557 : (Jvm.Cond.soleField "BoneYard" "reader") ∈ lw_all := lw_g (lw_at lw_m2 209 rfl) rfl
theorem q558 : (Jvm.Cond.laysFinal "BoneYard" "BoneYard" "keys" "[LBoneYard$Key;") ∈ lw_all := lw_g (lw_at lw_m2 210 rfl) rfl
theorem q559 : (Jvm.Cond.soleField "BoneYard" "keys") ∈ lw_all := lw_g (lw_at lw_m2 211 rfl) rfl
theorem q560 : (Jvm.Cond.laysFinal "BoneYard" "BoneYard" "name" "[I") ∈ lw_all := lw_g (lw_at lw_m2 212 rfl) rfl
theorem q561 : (Jvm.Cond.soleField "BoneYard" "name") ∈ lw_all := lw_g (lw_at lw_m2 213 rfl) rfl
theorem q562 : (Jvm.Cond.laysFinal "BoneYard" "BoneYard" "with" "[I") ∈ lw_all := lw_g (lw_at lw_m2 214 rfl) rfl
theorem q563 : (Jvm.Cond.soleField "BoneYard" "with") ∈ lw_all := lw_g (lw_at lw_m2 215 rfl) rfl
theorem q564 : (Jvm.Cond.laysFinal "BoneYard" "BoneYard" "partners" "[I") ∈ lw_all := lw_g (lw_at lw_m2 216 rfl) rfl
theorem q565 : (Jvm.Cond.soleField "BoneYard" "partners") ∈ lw_all := lw_g (lw_at lw_m2 217 rfl) rfl
theorem q566 : (Jvm.Cond.laysFinal "BoneYard" "BoneYard" "asked" "[I") ∈ lw_all := lw_g (lw_at lw_m2 218 rfl) rfl
theorem q567 : (Jvm.Cond.soleField "BoneYard" "asked") ∈ lw_all := lw_g (lw_at lw_m2 219 rfl) rfl
theorem q568 : (Jvm.Cond.lays "BoneYard" "BoneYard" "round" "I") ∈ lw_all := lw_g (lw_at lw_m2 220 rfl) rfl
theorem q569 : (Jvm.Cond.soleField "BoneYard" "round") ∈ lw_all := lw_g (lw_at lw_m2 221 rfl) rfl
theorem q570 : (Jvm.Cond.lays "BoneYard" "BoneYard" "paired" "I") ∈ lw_all := lw_g (lw_at lw_m2 222 rfl) rfl
theorem q571 : (Jvm.Cond.soleField "BoneYard" "paired") ∈ lw_all := lw_g (lw_at lw_m2 223 rfl) rfl
theorem q572 : (Jvm.Cond.laysFinal "BoneYard" "BoneYard" "begin" "[I") ∈ lw_all := lw_g (lw_at lw_m2 224 rfl) rfl
theorem q573 : (Jvm.Cond.soleField "BoneYard" "begin") ∈ lw_all := lw_g (lw_at lw_m2 225 rfl) rfl
theorem q574 : (Jvm.Cond.laysFinal "BoneYard" "BoneYard" "first" "[I") ∈ lw_all := lw_g (lw_at lw_m2 226 rfl) rfl
theorem q575 : (Jvm.Cond.soleField "BoneYard" "first") ∈ lw_all := lw_g (lw_at lw_m2 227 rfl) rfl
theorem q576 : (Jvm.Cond.laysFinal "BoneYard" "BoneYard" "last" "[I") ∈ lw_all := lw_g (lw_at lw_m2 228 rfl) rfl
theorem q577 : (Jvm.Cond.soleField "BoneYard" "last") ∈ lw_all := lw_g (lw_at lw_m2 229 rfl) rfl
theorem q578 : (Jvm.Cond.lays "BoneYard" "BoneYard" "tellers" "I") ∈ lw_all := lw_g (lw_at lw_m2 230 rfl) rfl
theorem q579 : (Jvm.Cond.soleField "BoneYard" "tellers") ∈ lw_all := lw_g (lw_at lw_m2 231 rfl) rfl
theorem q580 : (Jvm.Cond.laysFinal "BoneYard" "BoneYard" "share" "[[I") ∈ lw_all := lw_g (lw_at lw_m2 232 rfl) rfl
theorem q581 : (Jvm.Cond.soleField "BoneYard" "share") ∈ lw_all := lw_g (lw_at lw_m2 233 rfl) rfl
theorem q582 : (Jvm.Cond.lays "BoneYard" "BoneYard" "herdMany" "I") ∈ lw_all := lw_g (lw_at lw_m2 234 rfl) rfl
theorem q583 : (Jvm.Cond.soleField "BoneYard" "herdMany") ∈ lw_all := lw_g (lw_at lw_m2 235 rfl) rfl
theorem q584 : (Jvm.Cond.laysFinal "BoneYard" "BoneYard" "most" "[[I") ∈ lw_all := lw_g (lw_at lw_m2 236 rfl) rfl
theorem q585 : (Jvm.Cond.soleField "BoneYard" "most") ∈ lw_all := lw_g (lw_at lw_m2 237 rfl) rfl
theorem q586 : (Jvm.Cond.laysFinal "BoneYard" "BoneYard" "size" "[I") ∈ lw_all := lw_g (lw_at lw_m2 238 rfl) rfl
theorem q587 : (Jvm.Cond.soleField "BoneYard" "size") ∈ lw_all := lw_g (lw_at lw_m2 239 rfl) rfl
theorem q588 : (Jvm.Cond.superclass "BoneYard" "java/lang/Object") ∈ lw_all := lw_g (lw_at lw_m3 0 rfl) rfl
theorem q590 : (Jvm.Cond.instanceMethod ({ cls := "BoneYard", name := "terms", desc := "(II)I" } : Jvm.MethodName)) ∈ lw_all := lw_g (lw_at lw_m3 2 rfl) rfl
theorem q591 : (Jvm.Cond.selects "BoneYard" ({ cls := "BoneYard", name := "terms", desc := "(II)I" } : Jvm.MethodName) ({ cls := "BoneYard", name := "terms", desc := "(II)I" } : Jvm.MethodName)) ∈ lw_all := lw_g (lw_at lw_m3 3 rfl) rfl
theorem q592 : (Jvm.Cond.code ({ cls := "BoneYard", name := "terms", desc := "(II)I" } : Jvm.MethodName) prog_1_method_14_code (3 : Nat) (Option.some Jvm.ClassFile.FieldType.int)) ∈ lw_all := lw_g (lw_at lw_m3 4 rfl) rfl
theorem q593 : (Jvm.Cond.constantLong "BoneYard" (161 : Nat) (50 : Int64)) ∈ lw_all := lw_g (lw_at lw_m3 5 rfl) rfl
theorem q594 : (Jvm.Cond.constantLong "BoneYard" (163 : Nat) (100 : Int64)) ∈ lw_all := lw_g (lw_at lw_m3 6 rfl) rfl
theorem q596 : (Jvm.Cond.instanceMethod ({ cls := "BoneYard", name := "element", desc := "(ZIIII)I" } : Jvm.MethodName)) ∈ lw_all := lw_g (lw_at lw_m3 8 rfl) rfl
theorem q597 : (Jvm.Cond.selects "BoneYard" ({ cls := "BoneYard", name := "element", desc := "(ZIIII)I" } : Jvm.MethodName) ({ cls := "BoneYard", name := "element", desc := "(ZIIII)I" } : Jvm.MethodName)) ∈ lw_all := lw_g (lw_at lw_m3 9 rfl) rfl
theorem q598 : (Jvm.Cond.code ({ cls := "BoneYard", name := "element", desc := "(ZIIII)I" } : Jvm.MethodName) prog_1_method_15_code (6 : Nat) (Option.some Jvm.ClassFile.FieldType.int)) ∈ lw_all := lw_g (lw_at lw_m3 10 rfl) rfl
theorem q599 : (Jvm.Cond.constantLong "BoneYard" (165 : Nat) (8 : Int64)) ∈ lw_all := lw_g (lw_at lw_m3 11 rfl) rfl
theorem q600 : (Jvm.Cond.constantLong "BoneYard" (167 : Nat) (200 : Int64)) ∈ lw_all := lw_g (lw_at lw_m3 12 rfl) rfl
theorem q602 : (Jvm.Cond.methodLink "BoneYard" (169 : Nat) ({ cls := "BoneYard$Element", name := "<init>", desc := "(ZIIII)V" } : Jvm.MethodName)) ∈ lw_all := lw_g (lw_at lw_m3 14 rfl) rfl
theorem q607 : (Jvm.Cond.fieldLinkNest "BoneYard" (288 : Nat) "BoneYard$Element" "sides" "Z" "BoneYard") ∈ lw_tbl := lw_at lw_m3 19 rfl
theorem q609 : (Jvm.Cond.fieldLinkNest "BoneYard" (350 : Nat) "BoneYard$Element" "inBody" "I" "BoneYard") ∈ lw_tbl := lw_at lw_m3 21 rfl
theorem q611 : (Jvm.Cond.fieldLinkNest "BoneYard" (353 : Nat) "BoneYard$Element" "density" "I" "BoneYard") ∈ lw_tbl := lw_at lw_m3 23 rfl
theorem q613 : (Jvm.Cond.fieldLinkNest "BoneYard" (356 : Nat) "BoneYard$Element" "from" "I" "BoneYard") ∈ lw_tbl := lw_at lw_m3 25 rfl
theorem q615 : (Jvm.Cond.fieldLinkNest "BoneYard" (362 : Nat) "BoneYard$Element" "to" "I" "BoneYard") ∈ lw_tbl := lw_at lw_m3 27 rfl
theorem q628 : (Jvm.Cond.instanceMethod ({ cls := "BoneYard", name := "meat", desc := "(II)I" } : Jvm.MethodName)) ∈ lw_all := lw_g (lw_at lw_m3 40 rfl) rfl
theorem q629 : (Jvm.Cond.selects "BoneYard" ({ cls := "BoneYard", name := "meat", desc := "(II)I" } : Jvm.MethodName) ({ cls := "BoneYard", name := "meat", desc := "(II)I" } : Jvm.MethodName)) ∈ lw_all := lw_g (lw_at lw_m3 41 rfl) rfl
theorem q630 : (Jvm.Cond.code ({ cls := "BoneYard", name := "meat", desc := "(II)I" } : Jvm.MethodName) prog_1_method_16_code (4 : Nat) (Option.some Jvm.ClassFile.FieldType.int)) ∈ lw_all := lw_g (lw_at lw_m3 42 rfl) rfl
theorem q631 : (Jvm.Cond.methodLink "BoneYard" (172 : Nat) ({ cls := "BoneYard", name := "isKind", desc := "(I)Z" } : Jvm.MethodName)) ∈ lw_all := lw_g (lw_at lw_m3 43 rfl) rfl
theorem q632 : (Jvm.Cond.static ({ cls := "BoneYard", name := "isKind", desc := "(I)Z" } : Jvm.MethodName)) ∈ lw_all := lw_g (lw_at lw_m3 44 rfl) rfl
theorem q633 : (Jvm.Cond.code ({ cls := "BoneYard", name := "isKind", desc := "(I)Z" } : Jvm.MethodName) prog_1_method_12_code (1 : Nat) (Option.some Jvm.ClassFile.FieldType.boolean)) ∈ lw_all := lw_g (lw_at lw_m3 45 rfl) rfl
theorem q634 : (Jvm.Cond.constantLong "BoneYard" (159 : Nat) (7 : Int64)) ∈ lw_all := lw_g (lw_at lw_m3 46 rfl) rfl
theorem q635 : (Jvm.Cond.constantLong "BoneYard" (175 : Nat) (1000 : Int64)) ∈ lw_all := lw_g (lw_at lw_m3 47 rfl) rfl
theorem q637 : (Jvm.Cond.instanceMethod ({ cls := "BoneYard", name := "bone", desc := "(IIIIIIZ)I" } : Jvm.MethodName)) ∈ lw_all := lw_g (lw_at lw_m3 49 rfl) rfl
theorem q638 : (Jvm.Cond.selects "BoneYard" ({ cls := "BoneYard", name := "bone", desc := "(IIIIIIZ)I" } : Jvm.MethodName) ({ cls := "BoneYard", name := "bone", desc := "(IIIIIIZ)I" } : Jvm.MethodName)) ∈ lw_all := lw_g (lw_at lw_m3 50 rfl) rfl
theorem q639 : (Jvm.Cond.code ({ cls := "BoneYard", name := "bone", desc := "(IIIIIIZ)I" } : Jvm.MethodName) prog_1_method_17_code (11 : Nat) (Option.some Jvm.ClassFile.FieldType.int)) ∈ lw_all := lw_g (lw_at lw_m3 51 rfl) rfl
theorem q640 : (Jvm.Cond.methodLink "BoneYard" (177 : Nat) ({ cls := "BoneYard", name := "isLayer", desc := "(I)Z" } : Jvm.MethodName)) ∈ lw_all := lw_g (lw_at lw_m3 52 rfl) rfl
theorem q641 : (Jvm.Cond.privateMethod ({ cls := "BoneYard", name := "isLayer", desc := "(I)Z" } : Jvm.MethodName)) ∈ lw_tbl := lw_at lw_m3 53 rfl
theorem q642 : (Jvm.Cond.instanceMethod ({ cls := "BoneYard", name := "isLayer", desc := "(I)Z" } : Jvm.MethodName)) ∈ lw_all := lw_g (lw_at lw_m3 54 rfl) rfl
theorem q643 : (Jvm.Cond.code ({ cls := "BoneYard", name := "isLayer", desc := "(I)Z" } : Jvm.MethodName) prog_1_method_10_code (2 : Nat) (Option.some Jvm.ClassFile.FieldType.boolean)) ∈ lw_all := lw_g (lw_at lw_m3 55 rfl) rfl
theorem q644 : (Jvm.Cond.constantLong "BoneYard" (180 : Nat) (15 : Int64)) ∈ lw_all := lw_g (lw_at lw_m3 56 rfl) rfl
theorem q645 : (Jvm.Cond.constantLong "BoneYard" (182 : Nat) (2 : Int64)) ∈ lw_all := lw_g (lw_at lw_m3 57 rfl) rfl
theorem q646 : (Jvm.Cond.constantLong "BoneYard" (184 : Nat) (-1 : Int64)) ∈ lw_all := lw_g (lw_at lw_m3 58 rfl) rfl
theorem q647 : (Jvm.Cond.constantLong "BoneYard" (186 : Nat) (9999 : Int64)) ∈ lw_all := lw_g (lw_at lw_m3 59 rfl) rfl
theorem q648 : (Jvm.Cond.methodLink "BoneYard" (188 : Nat) ({ cls := "BoneYard", name := "reads", desc := "(IIJ)I" } : Jvm.MethodName)) ∈ lw_all := lw_g (lw_at lw_m3 60 rfl) rfl
theorem q649 : (Jvm.Cond.privateMethod ({ cls := "BoneYard", name := "reads", desc := "(IIJ)I" } : Jvm.MethodName)) ∈ lw_tbl := lw_at lw_m3 61 rfl
theorem q650 : (Jvm.Cond.instanceMethod ({ cls := "BoneYard", name := "reads", desc := "(IIJ)I" } : Jvm.MethodName)) ∈ lw_all := lw_g (lw_at lw_m3 62 rfl) rfl
theorem q651 : (Jvm.Cond.code ({ cls := "BoneYard", name := "reads", desc := "(IIJ)I" } : Jvm.MethodName) prog_1_method_7_code (7 : Nat) (Option.some Jvm.ClassFile.FieldType.int)) ∈ lw_all := lw_g (lw_at lw_m3 63 rfl) rfl
theorem q652 : (Jvm.Cond.methodLink "BoneYard" (35 : Nat) ({ cls := "BoneYard$Row", name := "many", desc := "()I" } : Jvm.MethodName)) ∈ lw_all := lw_g (lw_at lw_m3 64 rfl) rfl
theorem q656 : (Jvm.Cond.methodLink "BoneYard" (39 : Nat) ({ cls := "BoneYard$Row", name := "number", desc := "(I)J" } : Jvm.MethodName)) ∈ lw_all := lw_g (lw_at lw_m3 68 rfl) rfl
theorem q661 : (Jvm.Cond.methodLink "BoneYard" (192 : Nat) ({ cls := "BoneYard$Bone", name := "<init>", desc := "(IIIIIZ)V" } : Jvm.MethodName)) ∈ lw_all := lw_g (lw_at lw_m3 73 rfl) rfl
theorem q666 : (Jvm.Cond.fieldLinkNest "BoneYard" (229 : Nat) "BoneYard$Bone" "layer" "I" "BoneYard") ∈ lw_tbl := lw_at lw_m3 78 rfl
theorem q668 : (Jvm.Cond.fieldLinkNest "BoneYard" (281 : Nat) "BoneYard$Bone" "zones" "I" "BoneYard") ∈ lw_tbl := lw_at lw_m3 80 rfl
theorem q670 : (Jvm.Cond.fieldLinkNest "BoneYard" (278 : Nat) "BoneYard$Bone" "side" "I" "BoneYard") ∈ lw_tbl := lw_at lw_m3 82 rfl
theorem q672 : (Jvm.Cond.fieldLinkNest "BoneYard" (298 : Nat) "BoneYard$Bone" "ends" "I" "BoneYard") ∈ lw_tbl := lw_at lw_m3 84 rfl
theorem q674 : (Jvm.Cond.fieldLinkNest "BoneYard" (359 : Nat) "BoneYard$Bone" "wear" "I" "BoneYard") ∈ lw_tbl := lw_at lw_m3 86 rfl
theorem q676 : (Jvm.Cond.fieldLinkNest "BoneYard" (415 : Nat) "BoneYard$Bone" "gnawed" "Z" "BoneYard") ∈ lw_tbl := lw_at lw_m3 88 rfl
theorem q678 : (Jvm.Cond.fieldLinkNest "BoneYard" (195 : Nat) "BoneYard$Bone" "measure" "[I" "BoneYard") ∈ lw_tbl := lw_at lw_m3 90 rfl
theorem q695 : (Jvm.Cond.instanceMethod ({ cls := "BoneYard", name := "layer", desc := "(I)I" } : Jvm.MethodName)) ∈ lw_all := lw_g (lw_at lw_m3 107 rfl) rfl
theorem q696 : (Jvm.Cond.selects "BoneYard" ({ cls := "BoneYard", name := "layer", desc := "(I)I" } : Jvm.MethodName) ({ cls := "BoneYard", name := "layer", desc := "(I)I" } : Jvm.MethodName)) ∈ lw_all := lw_g (lw_at lw_m3 108 rfl) rfl
theorem q697 : (Jvm.Cond.code ({ cls := "BoneYard", name := "layer", desc := "(I)I" } : Jvm.MethodName) prog_1_method_18_code (2 : Nat) (Option.some Jvm.ClassFile.FieldType.int)) ∈ lw_all := lw_g (lw_at lw_m3 109 rfl) rfl
theorem q698 : (Jvm.Cond.constantLong "BoneYard" (198 : Nat) (2000 : Int64)) ∈ lw_all := lw_g (lw_at lw_m3 110 rfl) rfl
theorem q700 : (Jvm.Cond.instanceMethod ({ cls := "BoneYard", name := "over", desc := "(II)I" } : Jvm.MethodName)) ∈ lw_all := lw_g (lw_at lw_m3 112 rfl) rfl
theorem q701 : (Jvm.Cond.selects "BoneYard" ({ cls := "BoneYard", name := "over", desc := "(II)I" } : Jvm.MethodName) ({ cls := "BoneYard", name := "over", desc := "(II)I" } : Jvm.MethodName)) ∈ lw_all := lw_g (lw_at lw_m3 113 rfl) rfl
theorem q702 : (Jvm.Cond.code ({ cls := "BoneYard", name := "over", desc := "(II)I" } : Jvm.MethodName) prog_1_method_22_code (4 : Nat) (Option.some Jvm.ClassFile.FieldType.int)) ∈ lw_all := lw_g (lw_at lw_m3 114 rfl) rfl
theorem q703 : (Jvm.Cond.methodLink "BoneYard" (212 : Nat) ({ cls := "BoneYard", name := "goesOver", desc := "()V" } : Jvm.MethodName)) ∈ lw_all := lw_g (lw_at lw_m3 115 rfl) rfl
theorem q704 : (Jvm.Cond.privateMethod ({ cls := "BoneYard", name := "goesOver", desc := "()V" } : Jvm.MethodName)) ∈ lw_tbl := lw_at lw_m3 116 rfl
theorem q705 : (Jvm.Cond.instanceMethod ({ cls := "BoneYard", name := "goesOver", desc := "()V" } : Jvm.MethodName)) ∈ lw_all := lw_g (lw_at lw_m3 117 rfl) rfl
theorem q706 : (Jvm.Cond.code ({ cls := "BoneYard", name := "goesOver", desc := "()V" } : Jvm.MethodName) prog_1_method_20_code (4 : Nat) (Option.none : Option Jvm.ClassFile.FieldType)) ∈ lw_all := lw_g (lw_at lw_m3 118 rfl) rfl
theorem q707 : (Jvm.Cond.methodLink "BoneYard" (218 : Nat) ({ cls := "BoneYard", name := "tells", desc := "(II)V" } : Jvm.MethodName)) ∈ lw_all := lw_g (lw_at lw_m3 119 rfl) rfl
theorem q708 : (Jvm.Cond.privateMethod ({ cls := "BoneYard", name := "tells", desc := "(II)V" } : Jvm.MethodName)) ∈ lw_tbl := lw_at lw_m3 120 rfl
theorem q709 : (Jvm.Cond.instanceMethod ({ cls := "BoneYard", name := "tells", desc := "(II)V" } : Jvm.MethodName)) ∈ lw_all := lw_g (lw_at lw_m3 121 rfl) rfl
theorem q710 : (Jvm.Cond.code ({ cls := "BoneYard", name := "tells", desc := "(II)V" } : Jvm.MethodName) prog_1_method_21_code (3 : Nat) (Option.none : Option Jvm.ClassFile.FieldType)) ∈ lw_all := lw_g (lw_at lw_m3 122 rfl) rfl
theorem q711 : (Jvm.Cond.methodLink "BoneYard" (222 : Nat) ({ cls := "BoneYard", name := "dates", desc := "()Z" } : Jvm.MethodName)) ∈ lw_all := lw_g (lw_at lw_m3 123 rfl) rfl
theorem q712 : (Jvm.Cond.privateMethod ({ cls := "BoneYard", name := "dates", desc := "()Z" } : Jvm.MethodName)) ∈ lw_tbl := lw_at lw_m3 124 rfl
theorem q713 : (Jvm.Cond.instanceMethod ({ cls := "BoneYard", name := "dates", desc := "()Z" } : Jvm.MethodName)) ∈ lw_all := lw_g (lw_at lw_m3 125 rfl) rfl
theorem q714 : (Jvm.Cond.code ({ cls := "BoneYard", name := "dates", desc := "()Z" } : Jvm.MethodName) prog_1_method_19_code (3 : Nat) (Option.some Jvm.ClassFile.FieldType.boolean)) ∈ lw_all := lw_g (lw_at lw_m3 126 rfl) rfl
theorem q715 : (Jvm.Cond.methodLink "BoneYard" (203 : Nat) ({ cls := "java/lang/Math", name := "max", desc := "(II)I" } : Jvm.MethodName)) ∈ lw_all := lw_g (lw_at lw_m3 127 rfl) rfl
theorem q718 : (Jvm.Cond.methodLink "BoneYard" (209 : Nat) ({ cls := "java/lang/Math", name := "min", desc := "(II)I" } : Jvm.MethodName)) ∈ lw_all := lw_g (lw_at lw_m3 130 rfl) rfl
theorem q722 : (Jvm.Cond.instanceMethod ({ cls := "BoneYard", name := "sealed", desc := "(II)I" } : Jvm.MethodName)) ∈ lw_all := lw_g (lw_at lw_m3 134 rfl) rfl
theorem q723 : (Jvm.Cond.selects "BoneYard" ({ cls := "BoneYard", name := "sealed", desc := "(II)I" } : Jvm.MethodName) ({ cls := "BoneYard", name := "sealed", desc := "(II)I" } : Jvm.MethodName)) ∈ lw_all := lw_g (lw_at lw_m3 135 rfl) rfl
theorem q724 : (Jvm.Cond.code ({ cls := "BoneYard", name := "sealed", desc := "(II)I" } : Jvm.MethodName) prog_1_method_23_code (4 : Nat) (Option.some Jvm.ClassFile.FieldType.int)) ∈ lw_all := lw_g (lw_at lw_m3 136 rfl) rfl
theorem q726 : (Jvm.Cond.instanceMethod ({ cls := "BoneYard", name := "joint", desc := "(II)I" } : Jvm.MethodName)) ∈ lw_all := lw_g (lw_at lw_m3 138 rfl) rfl
theorem q727 : (Jvm.Cond.selects "BoneYard" ({ cls := "BoneYard", name := "joint", desc := "(II)I" } : Jvm.MethodName) ({ cls := "BoneYard", name := "joint", desc := "(II)I" } : Jvm.MethodName)) ∈ lw_all := lw_g (lw_at lw_m3 139 rfl) rfl
theorem q728 : (Jvm.Cond.code ({ cls := "BoneYard", name := "joint", desc := "(II)I" } : Jvm.MethodName) prog_1_method_24_code (5 : Nat) (Option.some Jvm.ClassFile.FieldType.int)) ∈ lw_all := lw_g (lw_at lw_m3 140 rfl) rfl
theorem q729 : (Jvm.Cond.methodLink "BoneYard" (226 : Nat) ({ cls := "BoneYard", name := "isBone", desc := "(I)Z" } : Jvm.MethodName)) ∈ lw_all := lw_g (lw_at lw_m3 141 rfl) rfl
theorem q730 : (Jvm.Cond.privateMethod ({ cls := "BoneYard", name := "isBone", desc := "(I)Z" } : Jvm.MethodName)) ∈ lw_tbl := lw_at lw_m3 142 rfl
theorem q731 : (Jvm.Cond.instanceMethod ({ cls := "BoneYard", name := "isBone", desc := "(I)Z" } : Jvm.MethodName)) ∈ lw_all := lw_g (lw_at lw_m3 143 rfl) rfl
theorem q732 : (Jvm.Cond.code ({ cls := "BoneYard", name := "isBone", desc := "(I)Z" } : Jvm.MethodName) prog_1_method_11_code (2 : Nat) (Option.some Jvm.ClassFile.FieldType.boolean)) ∈ lw_all := lw_g (lw_at lw_m3 144 rfl) rfl
theorem q733 : (Jvm.Cond.methodLink "BoneYard" (235 : Nat) ({ cls := "BoneYard", name := "goTogether", desc := "(II)Z" } : Jvm.MethodName)) ∈ lw_all := lw_g (lw_at lw_m3 145 rfl) rfl
theorem q734 : (Jvm.Cond.privateMethod ({ cls := "BoneYard", name := "goTogether", desc := "(II)Z" } : Jvm.MethodName)) ∈ lw_tbl := lw_at lw_m3 146 rfl
theorem q735 : (Jvm.Cond.instanceMethod ({ cls := "BoneYard", name := "goTogether", desc := "(II)Z" } : Jvm.MethodName)) ∈ lw_all := lw_g (lw_at lw_m3 147 rfl) rfl
theorem q736 : (Jvm.Cond.code ({ cls := "BoneYard", name := "goTogether", desc := "(II)Z" } : Jvm.MethodName) prog_1_method_25_code (3 : Nat) (Option.some Jvm.ClassFile.FieldType.boolean)) ∈ lw_all := lw_g (lw_at lw_m3 148 rfl) rfl
theorem q738 : (Jvm.Cond.instanceMethod ({ cls := "BoneYard", name := "dated", desc := "(II)I" } : Jvm.MethodName)) ∈ lw_all := lw_g (lw_at lw_m3 150 rfl) rfl
theorem q739 : (Jvm.Cond.selects "BoneYard" ({ cls := "BoneYard", name := "dated", desc := "(II)I" } : Jvm.MethodName) ({ cls := "BoneYard", name := "dated", desc := "(II)I" } : Jvm.MethodName)) ∈ lw_all := lw_g (lw_at lw_m3 151 rfl) rfl
theorem q740 : (Jvm.Cond.code ({ cls := "BoneYard", name := "dated", desc := "(II)I" } : Jvm.MethodName) prog_1_method_26_code (3 : Nat) (Option.some Jvm.ClassFile.FieldType.int)) ∈ lw_all := lw_g (lw_at lw_m3 152 rfl) rfl
theorem q742 : (Jvm.Cond.instanceMethod ({ cls := "BoneYard", name := "older", desc := "(II)I" } : Jvm.MethodName)) ∈ lw_all := lw_g (lw_at lw_m3 154 rfl) rfl
theorem q743 : (Jvm.Cond.selects "BoneYard" ({ cls := "BoneYard", name := "older", desc := "(II)I" } : Jvm.MethodName) ({ cls := "BoneYard", name := "older", desc := "(II)I" } : Jvm.MethodName)) ∈ lw_all := lw_g (lw_at lw_m3 155 rfl) rfl
theorem q744 : (Jvm.Cond.code ({ cls := "BoneYard", name := "older", desc := "(II)I" } : Jvm.MethodName) prog_1_method_27_code (3 : Nat) (Option.some Jvm.ClassFile.FieldType.int)) ∈ lw_all := lw_g (lw_at lw_m3 156 rfl) rfl
theorem q746 : (Jvm.Cond.instanceMethod ({ cls := "BoneYard", name := "feed", desc := "(IIIII)I" } : Jvm.MethodName)) ∈ lw_all := lw_g (lw_at lw_m3 158 rfl) rfl
theorem q747 : (Jvm.Cond.selects "BoneYard" ({ cls := "BoneYard", name := "feed", desc := "(IIIII)I" } : Jvm.MethodName) ({ cls := "BoneYard", name := "feed", desc := "(IIIII)I" } : Jvm.MethodName)) ∈ lw_all := lw_g (lw_at lw_m3 159 rfl) rfl
theorem q748 : (Jvm.Cond.code ({ cls := "BoneYard", name := "feed", desc := "(IIIII)I" } : Jvm.MethodName) prog_1_method_28_code (6 : Nat) (Option.some Jvm.ClassFile.FieldType.int)) ∈ lw_all := lw_g (lw_at lw_m3 160 rfl) rfl
theorem q749 : (Jvm.Cond.methodLink "BoneYard" (241 : Nat) ({ cls := "BoneYard", name := "puts", desc := "(I)V" } : Jvm.MethodName)) ∈ lw_all := lw_g (lw_at lw_m3 161 rfl) rfl
theorem q750 : (Jvm.Cond.privateMethod ({ cls := "BoneYard", name := "puts", desc := "(I)V" } : Jvm.MethodName)) ∈ lw_tbl := lw_at lw_m3 162 rfl
theorem q751 : (Jvm.Cond.instanceMethod ({ cls := "BoneYard", name := "puts", desc := "(I)V" } : Jvm.MethodName)) ∈ lw_all := lw_g (lw_at lw_m3 163 rfl) rfl
theorem q752 : (Jvm.Cond.code ({ cls := "BoneYard", name := "puts", desc := "(I)V" } : Jvm.MethodName) prog_1_method_29_code (3 : Nat) (Option.none : Option Jvm.ClassFile.FieldType)) ∈ lw_all := lw_g (lw_at lw_m3 164 rfl) rfl
theorem q754 : (Jvm.Cond.instanceMethod ({ cls := "BoneYard", name := "end", desc := "(I)I" } : Jvm.MethodName)) ∈ lw_all := lw_g (lw_at lw_m3 166 rfl) rfl
theorem q755 : (Jvm.Cond.selects "BoneYard" ({ cls := "BoneYard", name := "end", desc := "(I)I" } : Jvm.MethodName) ({ cls := "BoneYard", name := "end", desc := "(I)I" } : Jvm.MethodName)) ∈ lw_all := lw_g (lw_at lw_m3 167 rfl) rfl
theorem q756 : (Jvm.Cond.code ({ cls := "BoneYard", name := "end", desc := "(I)I" } : Jvm.MethodName) prog_1_method_30_code (2 : Nat) (Option.some Jvm.ClassFile.FieldType.int)) ∈ lw_all := lw_g (lw_at lw_m3 168 rfl) rfl
theorem q758 : (Jvm.Cond.instanceMethod ({ cls := "BoneYard", name := "key", desc := "()I" } : Jvm.MethodName)) ∈ lw_all := lw_g (lw_at lw_m3 170 rfl) rfl
theorem q759 : (Jvm.Cond.selects "BoneYard" ({ cls := "BoneYard", name := "key", desc := "()I" } : Jvm.MethodName) ({ cls := "BoneYard", name := "key", desc := "()I" } : Jvm.MethodName)) ∈ lw_all := lw_g (lw_at lw_m3 171 rfl) rfl
theorem q760 : (Jvm.Cond.codeWith ({ cls := "BoneYard", name := "key", desc := "()I" } : Jvm.MethodName) prog_1_method_31_code (4 : Nat) (Option.some Jvm.ClassFile.FieldType.int) [((17 : Nat), (68 : Nat), (75 : Nat), (258 : Nat)), ((17 : Nat), (68 : Nat), (102 : Nat), (0 : Nat)), ((75 : Nat), (95 : Nat), (102 : Nat), (0 : Nat))]) ∈ lw_all := lw_g (lw_at lw_m3 172 rfl) rfl
theorem q761 : (Jvm.Cond.classLink "BoneYard" (258 : Nat) "BoneYard$Wrong") ∈ lw_all := lw_g (lw_at lw_m3 173 rfl) rfl
theorem q762 : (Jvm.Cond.methodLink "BoneYard" (254 : Nat) ({ cls := "BoneYard$Reader", name := "key", desc := "([BI)LBoneYard$Key;" } : Jvm.MethodName)) ∈ lw_all := lw_g (lw_at lw_m3 174 rfl) rfl
theorem q1057 : (Jvm.Cond.selects "BoneYard" ({ cls := "java/lang/Object", name := "getClass", desc := "()Ljava/lang/Class;" } : Jvm.MethodName) ({ cls := "java/lang/Object", name := "getClass", desc := "()Ljava/lang/Class;" } : Jvm.MethodName)) ∈ lw_all := lw_g (lw_at lw_m4 229 rfl) rfl
theorem q1224 : (Jvm.Cond.instanceMethod ({ cls := "BoneYard", name := "fault", desc := "(I)I" } : Jvm.MethodName)) ∈ lw_all := lw_g (lw_at lw_m5 156 rfl) rfl
theorem q1225 : (Jvm.Cond.selects "BoneYard" ({ cls := "BoneYard", name := "fault", desc := "(I)I" } : Jvm.MethodName) ({ cls := "BoneYard", name := "fault", desc := "(I)I" } : Jvm.MethodName)) ∈ lw_all := lw_g (lw_at lw_m5 157 rfl) rfl
theorem q1226 : (Jvm.Cond.code ({ cls := "BoneYard", name := "fault", desc := "(I)I" } : Jvm.MethodName) prog_1_method_32_code (2 : Nat) (Option.some Jvm.ClassFile.FieldType.int)) ∈ lw_all := lw_g (lw_at lw_m5 158 rfl) rfl
theorem q1228 : (Jvm.Cond.instanceMethod ({ cls := "BoneYard", name := "named", desc := "(II)I" } : Jvm.MethodName)) ∈ lw_all := lw_g (lw_at lw_m5 160 rfl) rfl
theorem q1229 : (Jvm.Cond.selects "BoneYard" ({ cls := "BoneYard", name := "named", desc := "(II)I" } : Jvm.MethodName) ({ cls := "BoneYard", name := "named", desc := "(II)I" } : Jvm.MethodName)) ∈ lw_all := lw_g (lw_at lw_m5 161 rfl) rfl
theorem q1230 : (Jvm.Cond.code ({ cls := "BoneYard", name := "named", desc := "(II)I" } : Jvm.MethodName) prog_1_method_34_code (3 : Nat) (Option.some Jvm.ClassFile.FieldType.int)) ∈ lw_all := lw_g (lw_at lw_m5 162 rfl) rfl
theorem q1231 : (Jvm.Cond.methodLink "BoneYard" (266 : Nat) ({ cls := "BoneYard", name := "isKey", desc := "(I)Z" } : Jvm.MethodName)) ∈ lw_all := lw_g (lw_at lw_m5 163 rfl) rfl
theorem q1232 : (Jvm.Cond.privateMethod ({ cls := "BoneYard", name := "isKey", desc := "(I)Z" } : Jvm.MethodName)) ∈ lw_tbl := lw_at lw_m5 164 rfl
theorem q1233 : (Jvm.Cond.instanceMethod ({ cls := "BoneYard", name := "isKey", desc := "(I)Z" } : Jvm.MethodName)) ∈ lw_all := lw_g (lw_at lw_m5 165 rfl) rfl
theorem q1234 : (Jvm.Cond.code ({ cls := "BoneYard", name := "isKey", desc := "(I)Z" } : Jvm.MethodName) prog_1_method_33_code (2 : Nat) (Option.some Jvm.ClassFile.FieldType.boolean)) ∈ lw_all := lw_g (lw_at lw_m5 166 rfl) rfl
theorem q1235 : (Jvm.Cond.methodLink "BoneYard" (269 : Nat) ({ cls := "BoneYard$Key", name := "goes", desc := "(LBoneYard$Bone;Z)I" } : Jvm.MethodName)) ∈ lw_all := lw_g (lw_at lw_m5 167 rfl) rfl
theorem q1296 : (Jvm.Cond.instanceMethod ({ cls := "BoneYard", name := "steps", desc := "(II)I" } : Jvm.MethodName)) ∈ lw_all := lw_g (lw_at lw_m5 228 rfl) rfl
theorem q1297 : (Jvm.Cond.selects "BoneYard" ({ cls := "BoneYard", name := "steps", desc := "(II)I" } : Jvm.MethodName) ({ cls := "BoneYard", name := "steps", desc := "(II)I" } : Jvm.MethodName)) ∈ lw_all := lw_g (lw_at lw_m5 229 rfl) rfl
theorem q1298 : (Jvm.Cond.code ({ cls := "BoneYard", name := "steps", desc := "(II)I" } : Jvm.MethodName) prog_1_method_35_code (3 : Nat) (Option.some Jvm.ClassFile.FieldType.int)) ∈ lw_all := lw_g (lw_at lw_m5 230 rfl) rfl
theorem q1300 : (Jvm.Cond.instanceMethod ({ cls := "BoneYard", name := "alike", desc := "(III)I" } : Jvm.MethodName)) ∈ lw_all := lw_g (lw_at lw_m5 232 rfl) rfl
theorem q1301 : (Jvm.Cond.selects "BoneYard" ({ cls := "BoneYard", name := "alike", desc := "(III)I" } : Jvm.MethodName) ({ cls := "BoneYard", name := "alike", desc := "(III)I" } : Jvm.MethodName)) ∈ lw_all := lw_g (lw_at lw_m5 233 rfl) rfl
theorem q1302 : (Jvm.Cond.code ({ cls := "BoneYard", name := "alike", desc := "(III)I" } : Jvm.MethodName) prog_1_method_36_code (9 : Nat) (Option.some Jvm.ClassFile.FieldType.int)) ∈ lw_all := lw_g (lw_at lw_m5 234 rfl) rfl
theorem q1303 : (Jvm.Cond.constantLong "BoneYard" (273 : Nat) (4 : Int64)) ∈ lw_all := lw_g (lw_at lw_m5 235 rfl) rfl
theorem q1305 : (Jvm.Cond.instanceMethod ({ cls := "BoneYard", name := "beasts", desc := "(IIIII)I" } : Jvm.MethodName)) ∈ lw_all := lw_g (lw_at lw_m5 237 rfl) rfl
theorem q1306 : (Jvm.Cond.selects "BoneYard" ({ cls := "BoneYard", name := "beasts", desc := "(IIIII)I" } : Jvm.MethodName) ({ cls := "BoneYard", name := "beasts", desc := "(IIIII)I" } : Jvm.MethodName)) ∈ lw_all := lw_g (lw_at lw_m5 238 rfl) rfl
theorem q1307 : (Jvm.Cond.code ({ cls := "BoneYard", name := "beasts", desc := "(IIIII)I" } : Jvm.MethodName) prog_1_method_46_code (8 : Nat) (Option.some Jvm.ClassFile.FieldType.int)) ∈ lw_all := lw_g (lw_at lw_m5 239 rfl) rfl
theorem q1308 : (Jvm.Cond.methodLink "BoneYard" (321 : Nat) ({ cls := "BoneYard", name := "isAsk", desc := "(IIII)Z" } : Jvm.MethodName)) ∈ lw_all := lw_g (lw_at lw_m6 0 rfl) rfl
theorem q1309 : (Jvm.Cond.privateMethod ({ cls := "BoneYard", name := "isAsk", desc := "(IIII)Z" } : Jvm.MethodName)) ∈ lw_tbl := lw_at lw_m6 1 rfl
theorem q1310 : (Jvm.Cond.instanceMethod ({ cls := "BoneYard", name := "isAsk", desc := "(IIII)Z" } : Jvm.MethodName)) ∈ lw_all := lw_g (lw_at lw_m6 2 rfl) rfl
theorem q1311 : (Jvm.Cond.code ({ cls := "BoneYard", name := "isAsk", desc := "(IIII)Z" } : Jvm.MethodName) prog_1_method_37_code (5 : Nat) (Option.some Jvm.ClassFile.FieldType.boolean)) ∈ lw_all := lw_g (lw_at lw_m6 3 rfl) rfl
theorem q1312 : (Jvm.Cond.methodLink "BoneYard" (275 : Nat) ({ cls := "BoneYard", name := "areLayers", desc := "(I)Z" } : Jvm.MethodName)) ∈ lw_all := lw_g (lw_at lw_m6 4 rfl) rfl
theorem q1313 : (Jvm.Cond.privateMethod ({ cls := "BoneYard", name := "areLayers", desc := "(I)Z" } : Jvm.MethodName)) ∈ lw_tbl := lw_at lw_m6 5 rfl
theorem q1314 : (Jvm.Cond.instanceMethod ({ cls := "BoneYard", name := "areLayers", desc := "(I)Z" } : Jvm.MethodName)) ∈ lw_all := lw_g (lw_at lw_m6 6 rfl) rfl
theorem q1315 : (Jvm.Cond.code ({ cls := "BoneYard", name := "areLayers", desc := "(I)Z" } : Jvm.MethodName) prog_1_method_13_code (2 : Nat) (Option.some Jvm.ClassFile.FieldType.boolean)) ∈ lw_all := lw_g (lw_at lw_m6 7 rfl) rfl
theorem q1316 : (Jvm.Cond.methodLink "BoneYard" (325 : Nat) ({ cls := "BoneYard", name := "names", desc := "(IIII)V" } : Jvm.MethodName)) ∈ lw_all := lw_g (lw_at lw_m6 8 rfl) rfl
theorem q1317 : (Jvm.Cond.privateMethod ({ cls := "BoneYard", name := "names", desc := "(IIII)V" } : Jvm.MethodName)) ∈ lw_tbl := lw_at lw_m6 9 rfl
theorem q1318 : (Jvm.Cond.instanceMethod ({ cls := "BoneYard", name := "names", desc := "(IIII)V" } : Jvm.MethodName)) ∈ lw_all := lw_g (lw_at lw_m6 10 rfl) rfl
theorem q1319 : (Jvm.Cond.code ({ cls := "BoneYard", name := "names", desc := "(IIII)V" } : Jvm.MethodName) prog_1_method_38_code (7 : Nat) (Option.none : Option Jvm.ClassFile.FieldType)) ∈ lw_all := lw_g (lw_at lw_m6 11 rfl) rfl
theorem q1320 : (Jvm.Cond.methodLink "BoneYard" (313 : Nat) ({ cls := "BoneYard", name := "beastsByZones", desc := "(I)I" } : Jvm.MethodName)) ∈ lw_all := lw_g (lw_at lw_m6 12 rfl) rfl
theorem q1321 : (Jvm.Cond.privateMethod ({ cls := "BoneYard", name := "beastsByZones", desc := "(I)I" } : Jvm.MethodName)) ∈ lw_tbl := lw_at lw_m6 13 rfl
theorem q1322 : (Jvm.Cond.instanceMethod ({ cls := "BoneYard", name := "beastsByZones", desc := "(I)I" } : Jvm.MethodName)) ∈ lw_all := lw_g (lw_at lw_m6 14 rfl) rfl
theorem q1323 : (Jvm.Cond.code ({ cls := "BoneYard", name := "beastsByZones", desc := "(I)I" } : Jvm.MethodName) prog_1_method_40_code (5 : Nat) (Option.some Jvm.ClassFile.FieldType.int)) ∈ lw_all := lw_g (lw_at lw_m6 15 rfl) rfl
theorem q1324 : (Jvm.Cond.methodLink "BoneYard" (284 : Nat) ({ cls := "BoneYard", name := "byZones", desc := "(IZ)I" } : Jvm.MethodName)) ∈ lw_all := lw_g (lw_at lw_m6 16 rfl) rfl
theorem q1325 : (Jvm.Cond.privateMethod ({ cls := "BoneYard", name := "byZones", desc := "(IZ)I" } : Jvm.MethodName)) ∈ lw_tbl := lw_at lw_m6 17 rfl
theorem q1326 : (Jvm.Cond.instanceMethod ({ cls := "BoneYard", name := "byZones", desc := "(IZ)I" } : Jvm.MethodName)) ∈ lw_all := lw_g (lw_at lw_m6 18 rfl) rfl
theorem q1327 : (Jvm.Cond.code ({ cls := "BoneYard", name := "byZones", desc := "(IZ)I" } : Jvm.MethodName) prog_1_method_39_code (7 : Nat) (Option.some Jvm.ClassFile.FieldType.int)) ∈ lw_all := lw_g (lw_at lw_m6 19 rfl) rfl
theorem q1328 : (Jvm.Cond.methodLink "BoneYard" (291 : Nat) ({ cls := "BoneYard$Element", name := "ofSide", desc := "()I" } : Jvm.MethodName)) ∈ lw_all := lw_g (lw_at lw_m6 20 rfl) rfl
theorem q1332 : (Jvm.Cond.methodLink "BoneYard" (329 : Nat) ({ cls := "BoneYard", name := "allByPairs", desc := "()I" } : Jvm.MethodName)) ∈ lw_all := lw_g (lw_at lw_m6 24 rfl) rfl
theorem q1333 : (Jvm.Cond.privateMethod ({ cls := "BoneYard", name := "allByPairs", desc := "()I" } : Jvm.MethodName)) ∈ lw_tbl := lw_at lw_m6 25 rfl
theorem q1334 : (Jvm.Cond.instanceMethod ({ cls := "BoneYard", name := "allByPairs", desc := "()I" } : Jvm.MethodName)) ∈ lw_all := lw_g (lw_at lw_m6 26 rfl) rfl
theorem q1335 : (Jvm.Cond.code ({ cls := "BoneYard", name := "allByPairs", desc := "()I" } : Jvm.MethodName) prog_1_method_45_code (3 : Nat) (Option.some Jvm.ClassFile.FieldType.int)) ∈ lw_all := lw_g (lw_at lw_m6 27 rfl) rfl
theorem q1336 : (Jvm.Cond.methodLink "BoneYard" (318 : Nat) ({ cls := "BoneYard", name := "beastsByPairs", desc := "(I)I" } : Jvm.MethodName)) ∈ lw_all := lw_g (lw_at lw_m6 28 rfl) rfl
theorem q1337 : (Jvm.Cond.privateMethod ({ cls := "BoneYard", name := "beastsByPairs", desc := "(I)I" } : Jvm.MethodName)) ∈ lw_tbl := lw_at lw_m6 29 rfl
theorem q1338 : (Jvm.Cond.instanceMethod ({ cls := "BoneYard", name := "beastsByPairs", desc := "(I)I" } : Jvm.MethodName)) ∈ lw_all := lw_g (lw_at lw_m6 30 rfl) rfl
theorem q1339 : (Jvm.Cond.code ({ cls := "BoneYard", name := "beastsByPairs", desc := "(I)I" } : Jvm.MethodName) prog_1_method_44_code (4 : Nat) (Option.some Jvm.ClassFile.FieldType.int)) ∈ lw_all := lw_g (lw_at lw_m6 31 rfl) rfl
theorem q1340 : (Jvm.Cond.methodLink "BoneYard" (310 : Nat) ({ cls := "BoneYard$Element", name := "pairs", desc := "()Z" } : Jvm.MethodName)) ∈ lw_all := lw_g (lw_at lw_m6 32 rfl) rfl
theorem q1344 : (Jvm.Cond.methodLink "BoneYard" (316 : Nat) ({ cls := "BoneYard", name := "pairs", desc := "(I)I" } : Jvm.MethodName)) ∈ lw_all := lw_g (lw_at lw_m6 36 rfl) rfl
theorem q1345 : (Jvm.Cond.privateMethod ({ cls := "BoneYard", name := "pairs", desc := "(I)I" } : Jvm.MethodName)) ∈ lw_tbl := lw_at lw_m6 37 rfl
theorem q1346 : (Jvm.Cond.instanceMethod ({ cls := "BoneYard", name := "pairs", desc := "(I)I" } : Jvm.MethodName)) ∈ lw_all := lw_g (lw_at lw_m6 38 rfl) rfl
theorem q1347 : (Jvm.Cond.code ({ cls := "BoneYard", name := "pairs", desc := "(I)I" } : Jvm.MethodName) prog_1_method_43_code (4 : Nat) (Option.some Jvm.ClassFile.FieldType.int)) ∈ lw_all := lw_g (lw_at lw_m6 39 rfl) rfl
theorem q1348 : (Jvm.Cond.methodLink "BoneYard" (307 : Nat) ({ cls := "BoneYard", name := "finds", desc := "(II)Z" } : Jvm.MethodName)) ∈ lw_all := lw_g (lw_at lw_m6 40 rfl) rfl
theorem q1349 : (Jvm.Cond.privateMethod ({ cls := "BoneYard", name := "finds", desc := "(II)Z" } : Jvm.MethodName)) ∈ lw_tbl := lw_at lw_m6 41 rfl
theorem q1350 : (Jvm.Cond.instanceMethod ({ cls := "BoneYard", name := "finds", desc := "(II)Z" } : Jvm.MethodName)) ∈ lw_all := lw_g (lw_at lw_m6 42 rfl) rfl
theorem q1351 : (Jvm.Cond.code ({ cls := "BoneYard", name := "finds", desc := "(II)Z" } : Jvm.MethodName) prog_1_method_42_code (4 : Nat) (Option.some Jvm.ClassFile.FieldType.boolean)) ∈ lw_all := lw_g (lw_at lw_m6 43 rfl) rfl
theorem q1352 : (Jvm.Cond.methodLink "BoneYard" (304 : Nat) ({ cls := "BoneYard", name := "areMates", desc := "(II)Z" } : Jvm.MethodName)) ∈ lw_all := lw_g (lw_at lw_m6 44 rfl) rfl
theorem q1353 : (Jvm.Cond.privateMethod ({ cls := "BoneYard", name := "areMates", desc := "(II)Z" } : Jvm.MethodName)) ∈ lw_tbl := lw_at lw_m6 45 rfl
theorem q1354 : (Jvm.Cond.instanceMethod ({ cls := "BoneYard", name := "areMates", desc := "(II)Z" } : Jvm.MethodName)) ∈ lw_all := lw_g (lw_at lw_m6 46 rfl) rfl
theorem q1355 : (Jvm.Cond.code ({ cls := "BoneYard", name := "areMates", desc := "(II)Z" } : Jvm.MethodName) prog_1_method_41_code (5 : Nat) (Option.some Jvm.ClassFile.FieldType.boolean)) ∈ lw_all := lw_g (lw_at lw_m6 47 rfl) rfl
theorem q1356 : (Jvm.Cond.methodLink "BoneYard" (294 : Nat) ({ cls := "java/lang/Math", name := "abs", desc := "(I)I" } : Jvm.MethodName)) ∈ lw_all := lw_g (lw_at lw_m6 48 rfl) rfl
theorem q1359 : (Jvm.Cond.methodLink "BoneYard" (332 : Nat) ({ cls := "BoneYard", name := "tellsPairs", desc := "()V" } : Jvm.MethodName)) ∈ lw_all := lw_g (lw_at lw_m6 51 rfl) rfl
theorem q1360 : (Jvm.Cond.privateMethod ({ cls := "BoneYard", name := "tellsPairs", desc := "()V" } : Jvm.MethodName)) ∈ lw_tbl := lw_at lw_m6 52 rfl
theorem q1361 : (Jvm.Cond.instanceMethod ({ cls := "BoneYard", name := "tellsPairs", desc := "()V" } : Jvm.MethodName)) ∈ lw_all := lw_g (lw_at lw_m6 53 rfl) rfl
theorem q1362 : (Jvm.Cond.code ({ cls := "BoneYard", name := "tellsPairs", desc := "()V" } : Jvm.MethodName) prog_1_method_47_code (1 : Nat) (Option.none : Option Jvm.ClassFile.FieldType)) ∈ lw_all := lw_g (lw_at lw_m6 54 rfl) rfl
theorem q1363 : (Jvm.Cond.methodLink "BoneYard" (335 : Nat) ({ cls := "java/lang/System", name := "arraycopy", desc := "(Ljava/lang/Object;ILjava/lang/Object;II)V" } : Jvm.MethodName)) ∈ lw_all := lw_g (lw_at lw_m6 55 rfl) rfl
theorem q1365 : (Jvm.Cond.instanceMethod ({ cls := "BoneYard", name := "bones", desc := "(IIIIII)I" } : Jvm.MethodName)) ∈ lw_all := lw_g (lw_at lw_m6 57 rfl) rfl
theorem q1366 : (Jvm.Cond.selects "BoneYard" ({ cls := "BoneYard", name := "bones", desc := "(IIIIII)I" } : Jvm.MethodName) ({ cls := "BoneYard", name := "bones", desc := "(IIIIII)I" } : Jvm.MethodName)) ∈ lw_all := lw_g (lw_at lw_m6 58 rfl) rfl
theorem q1367 : (Jvm.Cond.code ({ cls := "BoneYard", name := "bones", desc := "(IIIIII)I" } : Jvm.MethodName) prog_1_method_48_code (8 : Nat) (Option.some Jvm.ClassFile.FieldType.int)) ∈ lw_all := lw_g (lw_at lw_m6 59 rfl) rfl
theorem q1368 : (Jvm.Cond.methodLink "BoneYard" (344 : Nat) ({ cls := "BoneYard", name := "isElement", desc := "(I)Z" } : Jvm.MethodName)) ∈ lw_all := lw_g (lw_at lw_m6 60 rfl) rfl
theorem q1369 : (Jvm.Cond.privateMethod ({ cls := "BoneYard", name := "isElement", desc := "(I)Z" } : Jvm.MethodName)) ∈ lw_tbl := lw_at lw_m6 61 rfl
theorem q1370 : (Jvm.Cond.instanceMethod ({ cls := "BoneYard", name := "isElement", desc := "(I)Z" } : Jvm.MethodName)) ∈ lw_all := lw_g (lw_at lw_m6 62 rfl) rfl
theorem q1371 : (Jvm.Cond.code ({ cls := "BoneYard", name := "isElement", desc := "(I)Z" } : Jvm.MethodName) prog_1_method_9_code (2 : Nat) (Option.some Jvm.ClassFile.FieldType.boolean)) ∈ lw_all := lw_g (lw_at lw_m6 63 rfl) rfl
theorem q1373 : (Jvm.Cond.instanceMethod ({ cls := "BoneYard", name := "partner", desc := "(I)I" } : Jvm.MethodName)) ∈ lw_all := lw_g (lw_at lw_m6 65 rfl) rfl
theorem q1374 : (Jvm.Cond.selects "BoneYard" ({ cls := "BoneYard", name := "partner", desc := "(I)I" } : Jvm.MethodName) ({ cls := "BoneYard", name := "partner", desc := "(I)I" } : Jvm.MethodName)) ∈ lw_all := lw_g (lw_at lw_m6 66 rfl) rfl
theorem q1375 : (Jvm.Cond.code ({ cls := "BoneYard", name := "partner", desc := "(I)I" } : Jvm.MethodName) prog_1_method_49_code (2 : Nat) (Option.some Jvm.ClassFile.FieldType.int)) ∈ lw_all := lw_g (lw_at lw_m6 67 rfl) rfl
theorem q1377 : (Jvm.Cond.instanceMethod ({ cls := "BoneYard", name := "there", desc := "(IIIII)I" } : Jvm.MethodName)) ∈ lw_all := lw_g (lw_at lw_m6 69 rfl) rfl
theorem q1378 : (Jvm.Cond.selects "BoneYard" ({ cls := "BoneYard", name := "there", desc := "(IIIII)I" } : Jvm.MethodName) ({ cls := "BoneYard", name := "there", desc := "(IIIII)I" } : Jvm.MethodName)) ∈ lw_all := lw_g (lw_at lw_m6 70 rfl) rfl
theorem q1379 : (Jvm.Cond.code ({ cls := "BoneYard", name := "there", desc := "(IIIII)I" } : Jvm.MethodName) prog_1_method_50_code (7 : Nat) (Option.some Jvm.ClassFile.FieldType.int)) ∈ lw_all := lw_g (lw_at lw_m6 71 rfl) rfl
theorem q1380 : (Jvm.Cond.methodLink "BoneYard" (347 : Nat) ({ cls := "BoneYard", name := "thereOf", desc := "(II)I" } : Jvm.MethodName)) ∈ lw_all := lw_g (lw_at lw_m6 72 rfl) rfl
theorem q1381 : (Jvm.Cond.privateMethod ({ cls := "BoneYard", name := "thereOf", desc := "(II)I" } : Jvm.MethodName)) ∈ lw_tbl := lw_at lw_m6 73 rfl
theorem q1382 : (Jvm.Cond.instanceMethod ({ cls := "BoneYard", name := "thereOf", desc := "(II)I" } : Jvm.MethodName)) ∈ lw_all := lw_g (lw_at lw_m6 74 rfl) rfl
theorem q1383 : (Jvm.Cond.code ({ cls := "BoneYard", name := "thereOf", desc := "(II)I" } : Jvm.MethodName) prog_1_method_51_code (3 : Nat) (Option.some Jvm.ClassFile.FieldType.int)) ∈ lw_all := lw_g (lw_at lw_m6 75 rfl) rfl
theorem q1385 : (Jvm.Cond.instanceMethod ({ cls := "BoneYard", name := "lacks", desc := "(IIII)I" } : Jvm.MethodName)) ∈ lw_all := lw_g (lw_at lw_m6 77 rfl) rfl
theorem q1386 : (Jvm.Cond.selects "BoneYard" ({ cls := "BoneYard", name := "lacks", desc := "(IIII)I" } : Jvm.MethodName) ({ cls := "BoneYard", name := "lacks", desc := "(IIII)I" } : Jvm.MethodName)) ∈ lw_all := lw_g (lw_at lw_m6 78 rfl) rfl
theorem q1387 : (Jvm.Cond.code ({ cls := "BoneYard", name := "lacks", desc := "(IIII)I" } : Jvm.MethodName) prog_1_method_52_code (9 : Nat) (Option.some Jvm.ClassFile.FieldType.int)) ∈ lw_all := lw_g (lw_at lw_m6 79 rfl) rfl
theorem q1389 : (Jvm.Cond.instanceMethod ({ cls := "BoneYard", name := "meatOf", desc := "(IIII)I" } : Jvm.MethodName)) ∈ lw_all := lw_g (lw_at lw_m6 81 rfl) rfl
theorem q1390 : (Jvm.Cond.selects "BoneYard" ({ cls := "BoneYard", name := "meatOf", desc := "(IIII)I" } : Jvm.MethodName) ({ cls := "BoneYard", name := "meatOf", desc := "(IIII)I" } : Jvm.MethodName)) ∈ lw_all := lw_g (lw_at lw_m6 82 rfl) rfl
theorem q1391 : (Jvm.Cond.code ({ cls := "BoneYard", name := "meatOf", desc := "(IIII)I" } : Jvm.MethodName) prog_1_method_53_code (5 : Nat) (Option.some Jvm.ClassFile.FieldType.int)) ∈ lw_all := lw_g (lw_at lw_m6 83 rfl) rfl
theorem q1393 : (Jvm.Cond.instanceMethod ({ cls := "BoneYard", name := "age", desc := "(III)I" } : Jvm.MethodName)) ∈ lw_all := lw_g (lw_at lw_m6 85 rfl) rfl
theorem q1394 : (Jvm.Cond.selects "BoneYard" ({ cls := "BoneYard", name := "age", desc := "(III)I" } : Jvm.MethodName) ({ cls := "BoneYard", name := "age", desc := "(III)I" } : Jvm.MethodName)) ∈ lw_all := lw_g (lw_at lw_m6 86 rfl) rfl
theorem q1395 : (Jvm.Cond.code ({ cls := "BoneYard", name := "age", desc := "(III)I" } : Jvm.MethodName) prog_1_method_56_code (7 : Nat) (Option.some Jvm.ClassFile.FieldType.int)) ∈ lw_all := lw_g (lw_at lw_m6 87 rfl) rfl
theorem q1396 : (Jvm.Cond.methodLink "BoneYard" (365 : Nat) ({ cls := "BoneYard", name := "youngest", desc := "(LBoneYard$Bone;LBoneYard$Element;)I" } : Jvm.MethodName)) ∈ lw_all := lw_g (lw_at lw_m6 88 rfl) rfl
theorem q1397 : (Jvm.Cond.privateMethod ({ cls := "BoneYard", name := "youngest", desc := "(LBoneYard$Bone;LBoneYard$Element;)I" } : Jvm.MethodName)) ∈ lw_tbl := lw_at lw_m6 89 rfl
theorem q1398 : (Jvm.Cond.instanceMethod ({ cls := "BoneYard", name := "youngest", desc := "(LBoneYard$Bone;LBoneYard$Element;)I" } : Jvm.MethodName)) ∈ lw_all := lw_g (lw_at lw_m6 90 rfl) rfl
theorem q1399 : (Jvm.Cond.code ({ cls := "BoneYard", name := "youngest", desc := "(LBoneYard$Bone;LBoneYard$Element;)I" } : Jvm.MethodName) prog_1_method_54_code (3 : Nat) (Option.some Jvm.ClassFile.FieldType.int)) ∈ lw_all := lw_g (lw_at lw_m6 91 rfl) rfl
theorem q1400 : (Jvm.Cond.methodLink "BoneYard" (369 : Nat) ({ cls := "BoneYard", name := "oldest", desc := "(LBoneYard$Bone;LBoneYard$Element;)I" } : Jvm.MethodName)) ∈ lw_all := lw_g (lw_at lw_m6 92 rfl) rfl
theorem q1401 : (Jvm.Cond.privateMethod ({ cls := "BoneYard", name := "oldest", desc := "(LBoneYard$Bone;LBoneYard$Element;)I" } : Jvm.MethodName)) ∈ lw_tbl := lw_at lw_m6 93 rfl
theorem q1402 : (Jvm.Cond.instanceMethod ({ cls := "BoneYard", name := "oldest", desc := "(LBoneYard$Bone;LBoneYard$Element;)I" } : Jvm.MethodName)) ∈ lw_all := lw_g (lw_at lw_m6 94 rfl) rfl
theorem q1403 : (Jvm.Cond.code ({ cls := "BoneYard", name := "oldest", desc := "(LBoneYard$Bone;LBoneYard$Element;)I" } : Jvm.MethodName) prog_1_method_55_code (3 : Nat) (Option.some Jvm.ClassFile.FieldType.int)) ∈ lw_all := lw_g (lw_at lw_m6 95 rfl) rfl
theorem q1405 : (Jvm.Cond.instanceMethod ({ cls := "BoneYard", name := "ages", desc := "(I)I" } : Jvm.MethodName)) ∈ lw_all := lw_g (lw_at lw_m6 97 rfl) rfl
theorem q1406 : (Jvm.Cond.selects "BoneYard" ({ cls := "BoneYard", name := "ages", desc := "(I)I" } : Jvm.MethodName) ({ cls := "BoneYard", name := "ages", desc := "(I)I" } : Jvm.MethodName)) ∈ lw_all := lw_g (lw_at lw_m6 98 rfl) rfl
theorem q1407 : (Jvm.Cond.code ({ cls := "BoneYard", name := "ages", desc := "(I)I" } : Jvm.MethodName) prog_1_method_57_code (5 : Nat) (Option.some Jvm.ClassFile.FieldType.int)) ∈ lw_all := lw_g (lw_at lw_m6 99 rfl) rfl
theorem q1409 : (Jvm.Cond.instanceMethod ({ cls := "BoneYard", name := "killed", desc := "(IIIIIII)I" } : Jvm.MethodName)) ∈ lw_all := lw_g (lw_at lw_m6 101 rfl) rfl
theorem q1410 : (Jvm.Cond.selects "BoneYard" ({ cls := "BoneYard", name := "killed", desc := "(IIIIIII)I" } : Jvm.MethodName) ({ cls := "BoneYard", name := "killed", desc := "(IIIIIII)I" } : Jvm.MethodName)) ∈ lw_all := lw_g (lw_at lw_m6 102 rfl) rfl
theorem q1411 : (Jvm.Cond.code ({ cls := "BoneYard", name := "killed", desc := "(IIIIIII)I" } : Jvm.MethodName) prog_1_method_61_code (8 : Nat) (Option.some Jvm.ClassFile.FieldType.int)) ∈ lw_all := lw_g (lw_at lw_m6 103 rfl) rfl
theorem q1412 : (Jvm.Cond.methodLink "BoneYard" (378 : Nat) ({ cls := "BoneYard", name := "tells", desc := "(IIIII)V" } : Jvm.MethodName)) ∈ lw_all := lw_g (lw_at lw_m6 104 rfl) rfl
theorem q1413 : (Jvm.Cond.privateMethod ({ cls := "BoneYard", name := "tells", desc := "(IIIII)V" } : Jvm.MethodName)) ∈ lw_tbl := lw_at lw_m6 105 rfl
theorem q1414 : (Jvm.Cond.instanceMethod ({ cls := "BoneYard", name := "tells", desc := "(IIIII)V" } : Jvm.MethodName)) ∈ lw_all := lw_g (lw_at lw_m6 106 rfl) rfl
theorem q1415 : (Jvm.Cond.code ({ cls := "BoneYard", name := "tells", desc := "(IIIII)V" } : Jvm.MethodName) prog_1_method_59_code (10 : Nat) (Option.none : Option Jvm.ClassFile.FieldType)) ∈ lw_all := lw_g (lw_at lw_m6 107 rfl) rfl
theorem q1416 : (Jvm.Cond.methodLink "BoneYard" (375 : Nat) ({ cls := "BoneYard", name := "ageOf", desc := "(I)I" } : Jvm.MethodName)) ∈ lw_all := lw_g (lw_at lw_m6 108 rfl) rfl
theorem q1417 : (Jvm.Cond.privateMethod ({ cls := "BoneYard", name := "ageOf", desc := "(I)I" } : Jvm.MethodName)) ∈ lw_tbl := lw_at lw_m6 109 rfl
theorem q1418 : (Jvm.Cond.instanceMethod ({ cls := "BoneYard", name := "ageOf", desc := "(I)I" } : Jvm.MethodName)) ∈ lw_all := lw_g (lw_at lw_m6 110 rfl) rfl
theorem q1419 : (Jvm.Cond.code ({ cls := "BoneYard", name := "ageOf", desc := "(I)I" } : Jvm.MethodName) prog_1_method_58_code (3 : Nat) (Option.some Jvm.ClassFile.FieldType.int)) ∈ lw_all := lw_g (lw_at lw_m6 111 rfl) rfl
theorem q1420 : (Jvm.Cond.methodLink "BoneYard" (381 : Nat) ({ cls := "BoneYard", name := "within", desc := "(IIZ)I" } : Jvm.MethodName)) ∈ lw_all := lw_g (lw_at lw_m6 112 rfl) rfl
theorem q1421 : (Jvm.Cond.privateMethod ({ cls := "BoneYard", name := "within", desc := "(IIZ)I" } : Jvm.MethodName)) ∈ lw_tbl := lw_at lw_m6 113 rfl
theorem q1422 : (Jvm.Cond.instanceMethod ({ cls := "BoneYard", name := "within", desc := "(IIZ)I" } : Jvm.MethodName)) ∈ lw_all := lw_g (lw_at lw_m6 114 rfl) rfl
theorem q1423 : (Jvm.Cond.code ({ cls := "BoneYard", name := "within", desc := "(IIZ)I" } : Jvm.MethodName) prog_1_method_60_code (6 : Nat) (Option.some Jvm.ClassFile.FieldType.int)) ∈ lw_all := lw_g (lw_at lw_m6 115 rfl) rfl
theorem q1425 : (Jvm.Cond.instanceMethod ({ cls := "BoneYard", name := "herd", desc := "(I)I" } : Jvm.MethodName)) ∈ lw_all := lw_g (lw_at lw_m6 117 rfl) rfl
theorem q1426 : (Jvm.Cond.selects "BoneYard" ({ cls := "BoneYard", name := "herd", desc := "(I)I" } : Jvm.MethodName) ({ cls := "BoneYard", name := "herd", desc := "(I)I" } : Jvm.MethodName)) ∈ lw_all := lw_g (lw_at lw_m6 118 rfl) rfl
theorem q1427 : (Jvm.Cond.code ({ cls := "BoneYard", name := "herd", desc := "(I)I" } : Jvm.MethodName) prog_1_method_62_code (5 : Nat) (Option.some Jvm.ClassFile.FieldType.int)) ∈ lw_all := lw_g (lw_at lw_m6 119 rfl) rfl
theorem q1429 : (Jvm.Cond.instanceMethod ({ cls := "BoneYard", name := "slack", desc := "(IIIIII)I" } : Jvm.MethodName)) ∈ lw_all := lw_g (lw_at lw_m6 121 rfl) rfl
theorem q1430 : (Jvm.Cond.selects "BoneYard" ({ cls := "BoneYard", name := "slack", desc := "(IIIIII)I" } : Jvm.MethodName) ({ cls := "BoneYard", name := "slack", desc := "(IIIIII)I" } : Jvm.MethodName)) ∈ lw_all := lw_g (lw_at lw_m6 122 rfl) rfl
theorem q1431 : (Jvm.Cond.code ({ cls := "BoneYard", name := "slack", desc := "(IIIIII)I" } : Jvm.MethodName) prog_1_method_66_code (7 : Nat) (Option.some Jvm.ClassFile.FieldType.int)) ∈ lw_all := lw_g (lw_at lw_m6 123 rfl) rfl
theorem q1432 : (Jvm.Cond.methodLink "BoneYard" (391 : Nat) ({ cls := "BoneYard", name := "isFit", desc := "(IIIIII)Z" } : Jvm.MethodName)) ∈ lw_all := lw_g (lw_at lw_m6 124 rfl) rfl
theorem q1433 : (Jvm.Cond.privateMethod ({ cls := "BoneYard", name := "isFit", desc := "(IIIIII)Z" } : Jvm.MethodName)) ∈ lw_tbl := lw_at lw_m6 125 rfl
theorem q1434 : (Jvm.Cond.instanceMethod ({ cls := "BoneYard", name := "isFit", desc := "(IIIIII)Z" } : Jvm.MethodName)) ∈ lw_all := lw_g (lw_at lw_m6 126 rfl) rfl
theorem q1435 : (Jvm.Cond.code ({ cls := "BoneYard", name := "isFit", desc := "(IIIIII)Z" } : Jvm.MethodName) prog_1_method_65_code (7 : Nat) (Option.some Jvm.ClassFile.FieldType.boolean)) ∈ lw_all := lw_g (lw_at lw_m6 127 rfl) rfl
theorem q1436 : (Jvm.Cond.methodLink "BoneYard" (395 : Nat) ({ cls := "BoneYard", name := "leastSlack", desc := "(I)I" } : Jvm.MethodName)) ∈ lw_all := lw_g (lw_at lw_m6 128 rfl) rfl
theorem q1437 : (Jvm.Cond.privateMethod ({ cls := "BoneYard", name := "leastSlack", desc := "(I)I" } : Jvm.MethodName)) ∈ lw_tbl := lw_at lw_m6 129 rfl
theorem q1438 : (Jvm.Cond.instanceMethod ({ cls := "BoneYard", name := "leastSlack", desc := "(I)I" } : Jvm.MethodName)) ∈ lw_all := lw_g (lw_at lw_m6 130 rfl) rfl
theorem q1439 : (Jvm.Cond.code ({ cls := "BoneYard", name := "leastSlack", desc := "(I)I" } : Jvm.MethodName) prog_1_method_64_code (3 : Nat) (Option.some Jvm.ClassFile.FieldType.int)) ∈ lw_all := lw_g (lw_at lw_m6 131 rfl) rfl
theorem q1440 : (Jvm.Cond.methodLink "BoneYard" (388 : Nat) ({ cls := "BoneYard", name := "fits", desc := "(II)Z" } : Jvm.MethodName)) ∈ lw_all := lw_g (lw_at lw_m6 132 rfl) rfl
theorem q1441 : (Jvm.Cond.privateMethod ({ cls := "BoneYard", name := "fits", desc := "(II)Z" } : Jvm.MethodName)) ∈ lw_tbl := lw_at lw_m6 133 rfl
theorem q1442 : (Jvm.Cond.instanceMethod ({ cls := "BoneYard", name := "fits", desc := "(II)Z" } : Jvm.MethodName)) ∈ lw_all := lw_g (lw_at lw_m6 134 rfl) rfl
theorem q1443 : (Jvm.Cond.code ({ cls := "BoneYard", name := "fits", desc := "(II)Z" } : Jvm.MethodName) prog_1_method_63_code (6 : Nat) (Option.some Jvm.ClassFile.FieldType.boolean)) ∈ lw_all := lw_g (lw_at lw_m6 135 rfl) rfl
theorem q1445 : (Jvm.Cond.instanceMethod ({ cls := "BoneYard", name := "fitted", desc := "(IIIIIIII)I" } : Jvm.MethodName)) ∈ lw_all := lw_g (lw_at lw_m6 137 rfl) rfl
theorem q1446 : (Jvm.Cond.selects "BoneYard" ({ cls := "BoneYard", name := "fitted", desc := "(IIIIIIII)I" } : Jvm.MethodName) ({ cls := "BoneYard", name := "fitted", desc := "(IIIIIIII)I" } : Jvm.MethodName)) ∈ lw_all := lw_g (lw_at lw_m6 138 rfl) rfl
theorem q1447 : (Jvm.Cond.code ({ cls := "BoneYard", name := "fitted", desc := "(IIIIIIII)I" } : Jvm.MethodName) prog_1_method_67_code (9 : Nat) (Option.some Jvm.ClassFile.FieldType.int)) ∈ lw_all := lw_g (lw_at lw_m6 139 rfl) rfl
theorem q1449 : (Jvm.Cond.instanceMethod ({ cls := "BoneYard", name := "ranked", desc := "(IIIIIII)I" } : Jvm.MethodName)) ∈ lw_all := lw_g (lw_at lw_m6 141 rfl) rfl
theorem q1450 : (Jvm.Cond.selects "BoneYard" ({ cls := "BoneYard", name := "ranked", desc := "(IIIIIII)I" } : Jvm.MethodName) ({ cls := "BoneYard", name := "ranked", desc := "(IIIIIII)I" } : Jvm.MethodName)) ∈ lw_all := lw_g (lw_at lw_m6 142 rfl) rfl
theorem q1451 : (Jvm.Cond.code ({ cls := "BoneYard", name := "ranked", desc := "(IIIIIII)I" } : Jvm.MethodName) prog_1_method_70_code (12 : Nat) (Option.some Jvm.ClassFile.FieldType.int)) ∈ lw_all := lw_g (lw_at lw_m6 143 rfl) rfl
theorem q1452 : (Jvm.Cond.constantLong "BoneYard" (401 : Nat) (5 : Int64)) ∈ lw_all := lw_g (lw_at lw_m6 144 rfl) rfl
theorem q1453 : (Jvm.Cond.methodLink "BoneYard" (403 : Nat) ({ cls := "BoneYard", name := "u", desc := "(II)I" } : Jvm.MethodName)) ∈ lw_all := lw_g (lw_at lw_m6 145 rfl) rfl
theorem q1454 : (Jvm.Cond.privateMethod ({ cls := "BoneYard", name := "u", desc := "(II)I" } : Jvm.MethodName)) ∈ lw_tbl := lw_at lw_m6 146 rfl
theorem q1455 : (Jvm.Cond.instanceMethod ({ cls := "BoneYard", name := "u", desc := "(II)I" } : Jvm.MethodName)) ∈ lw_all := lw_g (lw_at lw_m6 147 rfl) rfl
theorem q1456 : (Jvm.Cond.code ({ cls := "BoneYard", name := "u", desc := "(II)I" } : Jvm.MethodName) prog_1_method_69_code (6 : Nat) (Option.some Jvm.ClassFile.FieldType.int)) ∈ lw_all := lw_g (lw_at lw_m6 148 rfl) rfl
theorem q1457 : (Jvm.Cond.methodLink "BoneYard" (398 : Nat) ({ cls := "BoneYard", name := "beats", desc := "(II)I" } : Jvm.MethodName)) ∈ lw_all := lw_g (lw_at lw_m6 149 rfl) rfl
theorem q1458 : (Jvm.Cond.static ({ cls := "BoneYard", name := "beats", desc := "(II)I" } : Jvm.MethodName)) ∈ lw_all := lw_g (lw_at lw_m6 150 rfl) rfl
theorem q1459 : (Jvm.Cond.code ({ cls := "BoneYard", name := "beats", desc := "(II)I" } : Jvm.MethodName) prog_1_method_68_code (2 : Nat) (Option.some Jvm.ClassFile.FieldType.int)) ∈ lw_all := lw_g (lw_at lw_m6 151 rfl) rfl
theorem q1460 : (Jvm.Cond.methodLink "BoneYard" (406 : Nat) ({ cls := "BoneYard", name := "chance", desc := "(III)I" } : Jvm.MethodName)) ∈ lw_all := lw_g (lw_at lw_m6 152 rfl) rfl
theorem q1461 : (Jvm.Cond.privateMethod ({ cls := "BoneYard", name := "chance", desc := "(III)I" } : Jvm.MethodName)) ∈ lw_tbl := lw_at lw_m6 153 rfl
theorem q1462 : (Jvm.Cond.instanceMethod ({ cls := "BoneYard", name := "chance", desc := "(III)I" } : Jvm.MethodName)) ∈ lw_all := lw_g (lw_at lw_m6 154 rfl) rfl
theorem q1463 : (Jvm.Cond.code ({ cls := "BoneYard", name := "chance", desc := "(III)I" } : Jvm.MethodName) prog_1_method_71_code (9 : Nat) (Option.some Jvm.ClassFile.FieldType.int)) ∈ lw_all := lw_g (lw_at lw_m6 155 rfl) rfl
theorem q1464 : (Jvm.Cond.methodLink "BoneYard" (410 : Nat) ({ cls := "BoneYard", name := "following", desc := "(I)I" } : Jvm.MethodName)) ∈ lw_all := lw_g (lw_at lw_m6 156 rfl) rfl
theorem q1465 : (Jvm.Cond.static ({ cls := "BoneYard", name := "following", desc := "(I)I" } : Jvm.MethodName)) ∈ lw_all := lw_g (lw_at lw_m6 157 rfl) rfl
theorem q1466 : (Jvm.Cond.code ({ cls := "BoneYard", name := "following", desc := "(I)I" } : Jvm.MethodName) prog_1_method_72_code (3 : Nat) (Option.some Jvm.ClassFile.FieldType.int)) ∈ lw_all := lw_g (lw_at lw_m6 158 rfl) rfl
theorem q1467 : (Jvm.Cond.constantLong "BoneYard" (413 : Nat) (10000 : Int64)) ∈ lw_all := lw_g (lw_at lw_m6 159 rfl) rfl
theorem q1469 : (Jvm.Cond.instanceMethod ({ cls := "BoneYard", name := "boneOf", desc := "(II)I" } : Jvm.MethodName)) ∈ lw_all := lw_g (lw_at lw_m6 161 rfl) rfl
theorem q1470 : (Jvm.Cond.selects "BoneYard" ({ cls := "BoneYard", name := "boneOf", desc := "(II)I" } : Jvm.MethodName) ({ cls := "BoneYard", name := "boneOf", desc := "(II)I" } : Jvm.MethodName)) ∈ lw_all := lw_g (lw_at lw_m6 162 rfl) rfl
theorem q1471 : (Jvm.Cond.code ({ cls := "BoneYard", name := "boneOf", desc := "(II)I" } : Jvm.MethodName) prog_1_method_73_code (4 : Nat) (Option.some Jvm.ClassFile.FieldType.int)) ∈ lw_all := lw_g (lw_at lw_m6 163 rfl) rfl
theorem q1472 : (Jvm.Cond.constantLong "BoneYard" (418 : Nat) (6 : Int64)) ∈ lw_all := lw_g (lw_at lw_m6 164 rfl) rfl
theorem q1473 : (Jvm.Cond.constantLong "BoneYard" (420 : Nat) (11 : Int64)) ∈ lw_all := lw_g (lw_at lw_m6 165 rfl) rfl
theorem q1475 : (Jvm.Cond.instanceMethod ({ cls := "BoneYard", name := "count", desc := "(I)I" } : Jvm.MethodName)) ∈ lw_all := lw_g (lw_at lw_m6 167 rfl) rfl
theorem q1476 : (Jvm.Cond.selects "BoneYard" ({ cls := "BoneYard", name := "count", desc := "(I)I" } : Jvm.MethodName) ({ cls := "BoneYard", name := "count", desc := "(I)I" } : Jvm.MethodName)) ∈ lw_all := lw_g (lw_at lw_m6 168 rfl) rfl
theorem q1477 : (Jvm.Cond.code ({ cls := "BoneYard", name := "count", desc := "(I)I" } : Jvm.MethodName) prog_1_method_74_code (4 : Nat) (Option.some Jvm.ClassFile.FieldType.int)) ∈ lw_all := lw_g (lw_at lw_m6 169 rfl) rfl
theorem q2135 : (Jvm.Cond.castable "BoneYard" "java/lang/Object") ∈ lw_tbl := lw_at lw_m9 107 rfl
theorem in_X0 : ∀ w ∈ wsX00, w ∈ lw_all := lw_in wsX00 [506, 508, 510, 512, 514, 516, 518, 520, 522, 524, 526, 528, 530, 532, 534, 536, 538, 540, 542, 544, 546, 548, 550, 552, 554, 556, 558, 560, 562, 564, 566, 568, 570, 572, 574, 576, 578, 580, 582, 584, 586] (by decide +kernel) (by decide +kernel)
