/-! BoneYardModel -/
set_option maxRecDepth 100000
def RX4 : String := "BoneYardModel"
def TX4 : u_T := fun k => match k with
  | 0 => ("BoneYardModel", "thrown", "I", false)
  | 1 => ("BoneYardModel", "width", "[I", true)
  | 2 => ("BoneYardModel", "size", "[I", true)
  | 3 => ("BoneYardModel", "numbers", "[J", true)
  | 4 => ("BoneYardModel", "moved", "[J", true)
  | 5 => ("BoneYardModel", "near", "I", false)
  | 6 => ("BoneYardModel", "beyond", "I", false)
  | 7 => ("BoneYardModel", "elements", "I", false)
  | 8 => ("BoneYardModel", "layers", "I", false)
  | 9 => ("BoneYardModel", "bones", "I", false)
  | 10 => ("BoneYardModel", "keys", "I", false)
  | 11 => ("BoneYardModel", "herds", "I", false)
  | 12 => ("BoneYardModel", "overs", "I", false)
  | 13 => ("BoneYardModel", "joints", "I", false)
  | 14 => ("BoneYardModel", "hasSides", "[Z", true)
  | 15 => ("BoneYardModel", "inBody", "[I", true)
  | 16 => ("BoneYardModel", "density", "[I", true)
  | 17 => ("BoneYardModel", "grownFrom", "[I", true)
  | 18 => ("BoneYardModel", "grownTo", "[I", true)
  | 19 => ("BoneYardModel", "meat", "[I", true)
  | 20 => ("BoneYardModel", "coin", "[I", true)
  | 21 => ("BoneYardModel", "seal", "[I", true)
  | 22 => ("BoneYardModel", "upper", "[I", true)
  | 23 => ("BoneYardModel", "under", "[I", true)
  | 24 => ("BoneYardModel", "jointA", "[I", true)
  | 25 => ("BoneYardModel", "jointB", "[I", true)
  | 26 => ("BoneYardModel", "layerOf", "[I", true)
  | 27 => ("BoneYardModel", "measure", "[I", true)
  | 28 => ("BoneYardModel", "zones", "[I", true)
  | 29 => ("BoneYardModel", "side", "[I", true)
  | 30 => ("BoneYardModel", "ends", "[I", true)
  | 31 => ("BoneYardModel", "wear", "[I", true)
  | 32 => ("BoneYardModel", "isGnawed", "[Z", true)
  | 33 => ("BoneYardModel", "ageFrom", "[I", true)
  | 34 => ("BoneYardModel", "shares", "[I", true)
  | 35 => ("BoneYardModel", "named", "[I", true)
  | 36 => ("BoneYardModel", "stepsOf", "[I", true)
  | 37 => ("BoneYardModel", "tape", "[B", true)
  | 38 => ("BoneYardModel", "taped", "I", false)
  | 39 => ("BoneYardModel", "fault", "I", false)
  | 40 => ("BoneYardModel", "faultPlace", "I", false)
  | 41 => ("BoneYardModel", "text", "[B", true)
  | 42 => ("BoneYardModel", "textMany", "[I", true)
  | 43 => ("BoneYardModel", "early", "[I", true)
  | 44 => ("BoneYardModel", "late", "[I", true)
  | 45 => ("BoneYardModel", "lies", "[Z", true)
  | 46 => ("BoneYardModel", "areOne", "[Z", true)
  | 47 => ("BoneYardModel", "textRow", "I", false)
  | 48 => ("BoneYardModel", "textSize", "I", false)
  | 49 => ("BoneYardModel", "next", "I", false)
  | 50 => ("BoneYardModel", "begin", "I", false)
  | 51 => ("BoneYardModel", "sort", "I", false)
  | 52 => ("BoneYardModel", "number", "I", false)
  | 53 => ("BoneYardModel", "open", "I", false)
  | 54 => ("BoneYardModel", "told", "I", false)
  | 55 => ("BoneYardModel", "wrong", "I", false)
  | 56 => ("BoneYardModel", "wrongPlace", "I", false)
  | 57 => ("BoneYardModel", "ofBone", "I", false)
  | 58 => ("BoneYardModel", "step", "I", false)
  | 59 => ("BoneYardModel", "wanted", "I", false)
  | 60 => ("BoneYardModel", "found", "I", false)
  | 61 => ("BoneYardModel", "gone", "I", false)
  | 62 => ("BoneYardModel", "goPlace", "[I", true)
  | 63 => ("BoneYardModel", "goTo", "[I", true)
  | 64 => ("BoneYardModel", "stepRow", "[I", true)
  | 65 => ("BoneYardModel", "goMany", "I", false)
  | 66 => ("BoneYardModel", "partner", "[I", true)
  | 67 => ("BoneYardModel", "holds", "[I", true)
  | 68 => ("BoneYardModel", "row", "[I", true)
  | 69 => ("BoneYardModel", "wasAsked", "[Z", true)
  | 70 => ("BoneYardModel", "rowMany", "I", false)
  | 71 => ("BoneYardModel", "kept", "[I", true)
  | 72 => ("BoneYardModel", "least", "I", false)
  | 73 => ("BoneYardModel", "greatest", "I", false)
  | 74 => ("BoneYardModel", "spans", "[I", true)
  | 75 => ("BoneYardModel", "spanMany", "I", false)
  | 76 => ("BoneYardModel", "bottom", "[I", true)
  | 77 => ("BoneYardModel", "top", "[I", true)
  | 78 => ("BoneYardModel", "parts", "[I", true)
  | 79 => ("BoneYardModel", "sizes", "[I", true)
  | 80 => ("BoneYardModel", "ranks", "[I", true)
  | _ => ("BoneYardModel", "ways", "[J", true)
def tyX4 : Nat → FieldType := fun k => match k with
  | 0 => .int
  | 1 => .array .int
  | 2 => .array .int
  | 3 => .array .long
  | 4 => .array .long
  | 5 => .int
  | 6 => .int
  | 7 => .int
  | 8 => .int
  | 9 => .int
  | 10 => .int
  | 11 => .int
  | 12 => .int
  | 13 => .int
  | 14 => .array .boolean
  | 15 => .array .int
  | 16 => .array .int
  | 17 => .array .int
  | 18 => .array .int
  | 19 => .array .int
  | 20 => .array .int
  | 21 => .array .int
  | 22 => .array .int
  | 23 => .array .int
  | 24 => .array .int
  | 25 => .array .int
  | 26 => .array .int
  | 27 => .array .int
  | 28 => .array .int
  | 29 => .array .int
  | 30 => .array .int
  | 31 => .array .int
  | 32 => .array .boolean
  | 33 => .array .int
  | 34 => .array .int
  | 35 => .array .int
  | 36 => .array .int
  | 37 => .array .byte
  | 38 => .int
  | 39 => .int
  | 40 => .int
  | 41 => .array .byte
  | 42 => .array .int
  | 43 => .array .int
  | 44 => .array .int
  | 45 => .array .boolean
  | 46 => .array .boolean
  | 47 => .int
  | 48 => .int
  | 49 => .int
  | 50 => .int
  | 51 => .int
  | 52 => .int
  | 53 => .int
  | 54 => .int
  | 55 => .int
  | 56 => .int
  | 57 => .int
  | 58 => .int
  | 59 => .int
  | 60 => .int
  | 61 => .int
  | 62 => .array .int
  | 63 => .array .int
  | 64 => .array .int
  | 65 => .int
  | 66 => .array .int
  | 67 => .array .int
  | 68 => .array .int
  | 69 => .array .boolean
  | 70 => .int
  | 71 => .array .int
  | 72 => .int
  | 73 => .int
  | 74 => .array .int
  | 75 => .int
  | 76 => .array .int
  | 77 => .array .int
  | 78 => .array .int
  | 79 => .array .int
  | 80 => .array .int
  | _ => .array .long
abbrev wsX40 : List Cond := u_ws RX4 TX4 82
set_option maxRecDepth 100000 in
theorem nmX4 : ∀ a, a < 82 → ∀ b, b < 82 → a ≠ b → (TX4 a).2.1 ≠ (TX4 b).2.1 := by decide +kernel
set_option maxRecDepth 100000 in
theorem tyX4_ok : ∀ k, k < 82 → parseFieldDescriptor (TX4 k).2.2.1 = some (tyX4 k) := by decide +kernel
abbrev cX4_init : ByteArray := prog_20_method_1_code
def yX4_init : MethodName := ⟨RX4, "<init>", "()V"⟩
def dkwX4_init_21 : List UInt8 := [27, 17, 0, 200, 162, 0, 16, 42, 180, 0, 137, 27, 2, 79, 132, 1, 1, 167, 255, 239, 177]
abbrev dktX4_init_21 : List UInt8 := dkwX4_init_21 ++ []
def dkwX4_init_20 : List UInt8 := [188, 10, 181, 0, 164, 42, 16, 20, 188, 10, 181, 0, 167, 42, 17, 82, 8, 188, 11, 181, 0, 170, 3, 60]
abbrev dktX4_init_20 : List UInt8 := dkwX4_init_20 ++ dktX4_init_21
def dkwX4_init_19 : List UInt8 := [188, 10, 181, 0, 155, 42, 16, 8, 188, 10, 181, 0, 158, 42, 16, 12, 188, 10, 181, 0, 161, 42, 16, 20]
abbrev dktX4_init_19 : List UInt8 := dkwX4_init_19 ++ dktX4_init_20
def dkwX4_init_18 : List UInt8 := [181, 0, 146, 42, 17, 0, 200, 188, 10, 181, 0, 149, 42, 16, 64, 188, 10, 181, 0, 152, 42, 16, 8]
abbrev dktX4_init_18 : List UInt8 := dkwX4_init_18 ++ dktX4_init_19
def dkwX4_init_17 : List UInt8 := [42, 17, 0, 200, 188, 10, 181, 0, 140, 42, 17, 0, 200, 188, 10, 181, 0, 143, 42, 17, 0, 200, 188, 4]
abbrev dktX4_init_17 : List UInt8 := dkwX4_init_17 ++ dktX4_init_18
def dkwX4_init_16 : List UInt8 := [16, 50, 188, 10, 181, 0, 131, 42, 16, 25, 188, 10, 181, 0, 134, 42, 17, 0, 200, 188, 10, 181, 0, 137]
abbrev dktX4_init_16 : List UInt8 := dkwX4_init_16 ++ dktX4_init_17
def dkwX4_init_15 : List UInt8 := [188, 4, 181, 0, 122, 42, 17, 1, 0, 188, 4, 181, 0, 125, 42, 16, 50, 188, 10, 181, 0, 128, 42]
abbrev dktX4_init_15 : List UInt8 := dkwX4_init_15 ++ dktX4_init_16
def dkwX4_init_14 : List UInt8 := [181, 0, 113, 42, 16, 16, 188, 10, 181, 0, 116, 42, 16, 16, 188, 10, 181, 0, 119, 42, 17, 1, 0]
abbrev dktX4_init_14 : List UInt8 := dkwX4_init_14 ++ dktX4_init_15
def dkwX4_init_13 : List UInt8 := [181, 0, 104, 42, 2, 181, 0, 107, 42, 17, 20, 80, 188, 8, 181, 0, 110, 42, 16, 13, 188, 10]
abbrev dktX4_init_13 : List UInt8 := dkwX4_init_13 ++ dktX4_init_14
def dkwX4_init_12 : List UInt8 := [181, 0, 94, 42, 17, 9, 96, 188, 10, 181, 0, 97, 42, 17, 1, 144, 188, 8, 181, 0, 100, 42, 2]
abbrev dktX4_init_12 : List UInt8 := dkwX4_init_12 ++ dktX4_init_13
def dkwX4_init_11 : List UInt8 := [89, 16, 7, 16, 72, 79, 181, 0, 88, 42, 16, 64, 188, 10, 181, 0, 91, 42, 17, 9, 96, 188, 10]
abbrev dktX4_init_11 : List UInt8 := dkwX4_init_11 ++ dktX4_init_12
def dkwX4_init_10 : List UInt8 := [16, 6, 79, 89, 6, 16, 12, 79, 89, 7, 16, 24, 79, 89, 8, 16, 36, 79, 89, 16, 6, 16, 48, 79]
abbrev dktX4_init_10 : List UInt8 := dkwX4_init_10 ++ dktX4_init_11
def dkwX4_init_9 : List UInt8 := [17, 0, 200, 188, 4, 181, 0, 85, 42, 16, 8, 188, 10, 89, 3, 3, 79, 89, 4, 5, 79, 89, 5]
abbrev dktX4_init_9 : List UInt8 := dkwX4_init_9 ++ dktX4_init_10
def dkwX4_init_8 : List UInt8 := [181, 0, 76, 42, 17, 0, 200, 188, 10, 181, 0, 79, 42, 17, 0, 200, 188, 10, 181, 0, 82, 42]
abbrev dktX4_init_8 : List UInt8 := dkwX4_init_8 ++ dktX4_init_9
def dkwX4_init_7 : List UInt8 := [42, 17, 4, 176, 188, 10, 181, 0, 70, 42, 17, 0, 200, 188, 10, 181, 0, 73, 42, 17, 0, 200, 188, 10]
abbrev dktX4_init_7 : List UInt8 := dkwX4_init_7 ++ dktX4_init_8
def dkwX4_init_6 : List UInt8 := [16, 41, 188, 10, 181, 0, 61, 42, 16, 41, 188, 10, 181, 0, 64, 42, 17, 0, 200, 188, 10, 181, 0, 67]
abbrev dktX4_init_6 : List UInt8 := dkwX4_init_6 ++ dktX4_init_7
def dkwX4_init_5 : List UInt8 := [16, 16, 188, 10, 181, 0, 52, 42, 16, 61, 188, 10, 181, 0, 55, 42, 16, 61, 188, 10, 181, 0, 58, 42]
abbrev dktX4_init_5 : List UInt8 := dkwX4_init_5 ++ dktX4_init_6
def dkwX4_init_4 : List UInt8 := [16, 12, 188, 10, 181, 0, 43, 42, 16, 8, 188, 10, 181, 0, 46, 42, 16, 16, 188, 10, 181, 0, 49, 42]
abbrev dktX4_init_4 : List UInt8 := dkwX4_init_4 ++ dktX4_init_5
def dkwX4_init_3 : List UInt8 := [16, 12, 188, 10, 181, 0, 34, 42, 16, 12, 188, 10, 181, 0, 37, 42, 16, 12, 188, 10, 181, 0, 40, 42]
abbrev dktX4_init_3 : List UInt8 := dkwX4_init_3 ++ dktX4_init_4
def dkwX4_init_2 : List UInt8 := [181, 0, 20, 42, 5, 181, 0, 23, 42, 16, 20, 181, 0, 27, 42, 16, 12, 188, 4, 181, 0, 30, 42]
abbrev dktX4_init_2 : List UInt8 := dkwX4_init_2 ++ dktX4_init_3
def dkwX4_init_1 : List UInt8 := [181, 0, 9, 42, 7, 188, 10, 181, 0, 13, 42, 17, 0, 240, 188, 11, 181, 0, 16, 42, 16, 60, 188, 11]
abbrev dktX4_init_1 : List UInt8 := dkwX4_init_1 ++ dktX4_init_2
def dkwX4_init_0 : List UInt8 := [42, 183, 0, 1, 42, 7, 188, 10, 89, 3, 2, 79, 89, 4, 2, 79, 89, 5, 2, 79, 89, 6, 2, 79]
abbrev dktX4_init_0 : List UInt8 := dkwX4_init_0 ++ dktX4_init_1
theorem dksX4_init_0 : cX4_init.data.toList.drop 0 = dktX4_init_0 := by decide +kernel
theorem dksX4_init_1 : cX4_init.data.toList.drop 24 = dktX4_init_1 := dk_seg dksX4_init_0 24 rfl rfl
theorem dksX4_init_2 : cX4_init.data.toList.drop 48 = dktX4_init_2 := dk_seg dksX4_init_1 24 rfl rfl
theorem dksX4_init_3 : cX4_init.data.toList.drop 71 = dktX4_init_3 := dk_seg dksX4_init_2 23 rfl rfl
theorem dksX4_init_4 : cX4_init.data.toList.drop 95 = dktX4_init_4 := dk_seg dksX4_init_3 24 rfl rfl
theorem dksX4_init_5 : cX4_init.data.toList.drop 119 = dktX4_init_5 := dk_seg dksX4_init_4 24 rfl rfl
theorem dksX4_init_6 : cX4_init.data.toList.drop 143 = dktX4_init_6 := dk_seg dksX4_init_5 24 rfl rfl
theorem dksX4_init_7 : cX4_init.data.toList.drop 167 = dktX4_init_7 := dk_seg dksX4_init_6 24 rfl rfl
theorem dksX4_init_8 : cX4_init.data.toList.drop 191 = dktX4_init_8 := dk_seg dksX4_init_7 24 rfl rfl
theorem dksX4_init_9 : cX4_init.data.toList.drop 213 = dktX4_init_9 := dk_seg dksX4_init_8 22 rfl rfl
theorem dksX4_init_10 : cX4_init.data.toList.drop 236 = dktX4_init_10 := dk_seg dksX4_init_9 23 rfl rfl
theorem dksX4_init_11 : cX4_init.data.toList.drop 260 = dktX4_init_11 := dk_seg dksX4_init_10 24 rfl rfl
theorem dksX4_init_12 : cX4_init.data.toList.drop 283 = dktX4_init_12 := dk_seg dksX4_init_11 23 rfl rfl
theorem dksX4_init_13 : cX4_init.data.toList.drop 306 = dktX4_init_13 := dk_seg dksX4_init_12 23 rfl rfl
theorem dksX4_init_14 : cX4_init.data.toList.drop 328 = dktX4_init_14 := dk_seg dksX4_init_13 22 rfl rfl
theorem dksX4_init_15 : cX4_init.data.toList.drop 351 = dktX4_init_15 := dk_seg dksX4_init_14 23 rfl rfl
theorem dksX4_init_16 : cX4_init.data.toList.drop 374 = dktX4_init_16 := dk_seg dksX4_init_15 23 rfl rfl
theorem dksX4_init_17 : cX4_init.data.toList.drop 398 = dktX4_init_17 := dk_seg dksX4_init_16 24 rfl rfl
theorem dksX4_init_18 : cX4_init.data.toList.drop 422 = dktX4_init_18 := dk_seg dksX4_init_17 24 rfl rfl
theorem dksX4_init_19 : cX4_init.data.toList.drop 445 = dktX4_init_19 := dk_seg dksX4_init_18 23 rfl rfl
theorem dksX4_init_20 : cX4_init.data.toList.drop 469 = dktX4_init_20 := dk_seg dksX4_init_19 24 rfl rfl
theorem dksX4_init_21 : cX4_init.data.toList.drop 493 = dktX4_init_21 := dk_seg dksX4_init_20 24 rfl rfl
theorem dX4_init_0 : decode cX4_init 0 = .ok (.aload_n 0, 1) := dk_42 (dk_at dksX4_init_0 0 rfl rfl)
theorem dX4_init_1 : decode cX4_init 1 = .ok (.invokespecial 1, 3) := dk_183 0 1 (dk_at dksX4_init_0 1 rfl rfl)
theorem dX4_init_4 : decode cX4_init 4 = .ok (.aload_n 0, 1) := dk_42 (dk_at dksX4_init_0 4 rfl rfl)
theorem dX4_init_5 : decode cX4_init 5 = .ok (.iconst 4, 1) := dk_7 (dk_at dksX4_init_0 5 rfl rfl)
theorem dX4_init_6 : decode cX4_init 6 = .ok (.newarray .int, 2) := dk_188_10 (dk_at dksX4_init_0 6 rfl rfl)
theorem dX4_init_8 : decode cX4_init 8 = .ok (.dup, 1) := dk_89 (dk_at dksX4_init_0 8 rfl rfl)
theorem dX4_init_9 : decode cX4_init 9 = .ok (.iconst 0, 1) := dk_3 (dk_at dksX4_init_0 9 rfl rfl)
theorem dX4_init_10 : decode cX4_init 10 = .ok (.iconst (-1), 1) := dk_2 (dk_at dksX4_init_0 10 rfl rfl)
theorem dX4_init_11 : decode cX4_init 11 = .ok (.iastore, 1) := dk_79 (dk_at dksX4_init_0 11 rfl rfl)
theorem dX4_init_12 : decode cX4_init 12 = .ok (.dup, 1) := dk_89 (dk_at dksX4_init_0 12 rfl rfl)
theorem dX4_init_13 : decode cX4_init 13 = .ok (.iconst 1, 1) := dk_4 (dk_at dksX4_init_0 13 rfl rfl)
theorem dX4_init_14 : decode cX4_init 14 = .ok (.iconst (-1), 1) := dk_2 (dk_at dksX4_init_0 14 rfl rfl)
theorem dX4_init_15 : decode cX4_init 15 = .ok (.iastore, 1) := dk_79 (dk_at dksX4_init_0 15 rfl rfl)
theorem dX4_init_16 : decode cX4_init 16 = .ok (.dup, 1) := dk_89 (dk_at dksX4_init_0 16 rfl rfl)
theorem dX4_init_17 : decode cX4_init 17 = .ok (.iconst 2, 1) := dk_5 (dk_at dksX4_init_0 17 rfl rfl)
theorem dX4_init_18 : decode cX4_init 18 = .ok (.iconst (-1), 1) := dk_2 (dk_at dksX4_init_0 18 rfl rfl)
theorem dX4_init_19 : decode cX4_init 19 = .ok (.iastore, 1) := dk_79 (dk_at dksX4_init_0 19 rfl rfl)
theorem dX4_init_20 : decode cX4_init 20 = .ok (.dup, 1) := dk_89 (dk_at dksX4_init_0 20 rfl rfl)
theorem dX4_init_21 : decode cX4_init 21 = .ok (.iconst 3, 1) := dk_6 (dk_at dksX4_init_0 21 rfl rfl)
theorem dX4_init_22 : decode cX4_init 22 = .ok (.iconst (-1), 1) := dk_2 (dk_at dksX4_init_0 22 rfl rfl)
theorem dX4_init_23 : decode cX4_init 23 = .ok (.iastore, 1) := dk_79 (dk_at dksX4_init_0 23 rfl rfl)
theorem dX4_init_24 : decode cX4_init 24 = .ok (.putfield 9, 3) := dk_181 0 9 (dk_at dksX4_init_1 0 rfl rfl)
theorem dX4_init_27 : decode cX4_init 27 = .ok (.aload_n 0, 1) := dk_42 (dk_at dksX4_init_1 3 rfl rfl)
theorem dX4_init_28 : decode cX4_init 28 = .ok (.iconst 4, 1) := dk_7 (dk_at dksX4_init_1 4 rfl rfl)
theorem dX4_init_29 : decode cX4_init 29 = .ok (.newarray .int, 2) := dk_188_10 (dk_at dksX4_init_1 5 rfl rfl)
theorem dX4_init_31 : decode cX4_init 31 = .ok (.putfield 13, 3) := dk_181 0 13 (dk_at dksX4_init_1 7 rfl rfl)
theorem dX4_init_34 : decode cX4_init 34 = .ok (.aload_n 0, 1) := dk_42 (dk_at dksX4_init_1 10 rfl rfl)
theorem dX4_init_35 : decode cX4_init 35 = .ok (.sipush 240, 3) := dk_17 0 240 (dk_at dksX4_init_1 11 rfl rfl)
theorem dX4_init_38 : decode cX4_init 38 = .ok (.newarray .long, 2) := dk_188_11 (dk_at dksX4_init_1 14 rfl rfl)
theorem dX4_init_40 : decode cX4_init 40 = .ok (.putfield 16, 3) := dk_181 0 16 (dk_at dksX4_init_1 16 rfl rfl)
theorem dX4_init_43 : decode cX4_init 43 = .ok (.aload_n 0, 1) := dk_42 (dk_at dksX4_init_1 19 rfl rfl)
theorem dX4_init_44 : decode cX4_init 44 = .ok (.bipush 60, 2) := dk_16 60 (dk_at dksX4_init_1 20 rfl rfl)
theorem dX4_init_46 : decode cX4_init 46 = .ok (.newarray .long, 2) := dk_188_11 (dk_at dksX4_init_1 22 rfl rfl)
theorem dX4_init_48 : decode cX4_init 48 = .ok (.putfield 20, 3) := dk_181 0 20 (dk_at dksX4_init_2 0 rfl rfl)
theorem dX4_init_51 : decode cX4_init 51 = .ok (.aload_n 0, 1) := dk_42 (dk_at dksX4_init_2 3 rfl rfl)
theorem dX4_init_52 : decode cX4_init 52 = .ok (.iconst 2, 1) := dk_5 (dk_at dksX4_init_2 4 rfl rfl)
theorem dX4_init_53 : decode cX4_init 53 = .ok (.putfield 23, 3) := dk_181 0 23 (dk_at dksX4_init_2 5 rfl rfl)
theorem dX4_init_56 : decode cX4_init 56 = .ok (.aload_n 0, 1) := dk_42 (dk_at dksX4_init_2 8 rfl rfl)
theorem dX4_init_57 : decode cX4_init 57 = .ok (.bipush 20, 2) := dk_16 20 (dk_at dksX4_init_2 9 rfl rfl)
theorem dX4_init_59 : decode cX4_init 59 = .ok (.putfield 27, 3) := dk_181 0 27 (dk_at dksX4_init_2 11 rfl rfl)
theorem dX4_init_62 : decode cX4_init 62 = .ok (.aload_n 0, 1) := dk_42 (dk_at dksX4_init_2 14 rfl rfl)
theorem dX4_init_63 : decode cX4_init 63 = .ok (.bipush 12, 2) := dk_16 12 (dk_at dksX4_init_2 15 rfl rfl)
theorem dX4_init_65 : decode cX4_init 65 = .ok (.newarray .boolean, 2) := dk_188_4 (dk_at dksX4_init_2 17 rfl rfl)
theorem dX4_init_67 : decode cX4_init 67 = .ok (.putfield 30, 3) := dk_181 0 30 (dk_at dksX4_init_2 19 rfl rfl)
theorem dX4_init_70 : decode cX4_init 70 = .ok (.aload_n 0, 1) := dk_42 (dk_at dksX4_init_2 22 rfl rfl)
theorem dX4_init_71 : decode cX4_init 71 = .ok (.bipush 12, 2) := dk_16 12 (dk_at dksX4_init_3 0 rfl rfl)
theorem dX4_init_73 : decode cX4_init 73 = .ok (.newarray .int, 2) := dk_188_10 (dk_at dksX4_init_3 2 rfl rfl)
theorem dX4_init_75 : decode cX4_init 75 = .ok (.putfield 34, 3) := dk_181 0 34 (dk_at dksX4_init_3 4 rfl rfl)
theorem dX4_init_78 : decode cX4_init 78 = .ok (.aload_n 0, 1) := dk_42 (dk_at dksX4_init_3 7 rfl rfl)
theorem dX4_init_79 : decode cX4_init 79 = .ok (.bipush 12, 2) := dk_16 12 (dk_at dksX4_init_3 8 rfl rfl)
theorem dX4_init_81 : decode cX4_init 81 = .ok (.newarray .int, 2) := dk_188_10 (dk_at dksX4_init_3 10 rfl rfl)
theorem dX4_init_83 : decode cX4_init 83 = .ok (.putfield 37, 3) := dk_181 0 37 (dk_at dksX4_init_3 12 rfl rfl)
theorem dX4_init_86 : decode cX4_init 86 = .ok (.aload_n 0, 1) := dk_42 (dk_at dksX4_init_3 15 rfl rfl)
theorem dX4_init_87 : decode cX4_init 87 = .ok (.bipush 12, 2) := dk_16 12 (dk_at dksX4_init_3 16 rfl rfl)
theorem dX4_init_89 : decode cX4_init 89 = .ok (.newarray .int, 2) := dk_188_10 (dk_at dksX4_init_3 18 rfl rfl)
theorem dX4_init_91 : decode cX4_init 91 = .ok (.putfield 40, 3) := dk_181 0 40 (dk_at dksX4_init_3 20 rfl rfl)
theorem dX4_init_94 : decode cX4_init 94 = .ok (.aload_n 0, 1) := dk_42 (dk_at dksX4_init_3 23 rfl rfl)
theorem dX4_init_95 : decode cX4_init 95 = .ok (.bipush 12, 2) := dk_16 12 (dk_at dksX4_init_4 0 rfl rfl)
theorem dX4_init_97 : decode cX4_init 97 = .ok (.newarray .int, 2) := dk_188_10 (dk_at dksX4_init_4 2 rfl rfl)
theorem dX4_init_99 : decode cX4_init 99 = .ok (.putfield 43, 3) := dk_181 0 43 (dk_at dksX4_init_4 4 rfl rfl)
theorem dX4_init_102 : decode cX4_init 102 = .ok (.aload_n 0, 1) := dk_42 (dk_at dksX4_init_4 7 rfl rfl)
theorem dX4_init_103 : decode cX4_init 103 = .ok (.bipush 8, 2) := dk_16 8 (dk_at dksX4_init_4 8 rfl rfl)
theorem dX4_init_105 : decode cX4_init 105 = .ok (.newarray .int, 2) := dk_188_10 (dk_at dksX4_init_4 10 rfl rfl)
theorem dX4_init_107 : decode cX4_init 107 = .ok (.putfield 46, 3) := dk_181 0 46 (dk_at dksX4_init_4 12 rfl rfl)
theorem dX4_init_110 : decode cX4_init 110 = .ok (.aload_n 0, 1) := dk_42 (dk_at dksX4_init_4 15 rfl rfl)
theorem dX4_init_111 : decode cX4_init 111 = .ok (.bipush 16, 2) := dk_16 16 (dk_at dksX4_init_4 16 rfl rfl)
theorem dX4_init_113 : decode cX4_init 113 = .ok (.newarray .int, 2) := dk_188_10 (dk_at dksX4_init_4 18 rfl rfl)
theorem dX4_init_115 : decode cX4_init 115 = .ok (.putfield 49, 3) := dk_181 0 49 (dk_at dksX4_init_4 20 rfl rfl)
theorem dX4_init_118 : decode cX4_init 118 = .ok (.aload_n 0, 1) := dk_42 (dk_at dksX4_init_4 23 rfl rfl)
theorem dX4_init_119 : decode cX4_init 119 = .ok (.bipush 16, 2) := dk_16 16 (dk_at dksX4_init_5 0 rfl rfl)
theorem dX4_init_121 : decode cX4_init 121 = .ok (.newarray .int, 2) := dk_188_10 (dk_at dksX4_init_5 2 rfl rfl)
theorem dX4_init_123 : decode cX4_init 123 = .ok (.putfield 52, 3) := dk_181 0 52 (dk_at dksX4_init_5 4 rfl rfl)
theorem dX4_init_126 : decode cX4_init 126 = .ok (.aload_n 0, 1) := dk_42 (dk_at dksX4_init_5 7 rfl rfl)
theorem dX4_init_127 : decode cX4_init 127 = .ok (.bipush 61, 2) := dk_16 61 (dk_at dksX4_init_5 8 rfl rfl)
theorem dX4_init_129 : decode cX4_init 129 = .ok (.newarray .int, 2) := dk_188_10 (dk_at dksX4_init_5 10 rfl rfl)
theorem dX4_init_131 : decode cX4_init 131 = .ok (.putfield 55, 3) := dk_181 0 55 (dk_at dksX4_init_5 12 rfl rfl)
theorem dX4_init_134 : decode cX4_init 134 = .ok (.aload_n 0, 1) := dk_42 (dk_at dksX4_init_5 15 rfl rfl)
theorem dX4_init_135 : decode cX4_init 135 = .ok (.bipush 61, 2) := dk_16 61 (dk_at dksX4_init_5 16 rfl rfl)
theorem dX4_init_137 : decode cX4_init 137 = .ok (.newarray .int, 2) := dk_188_10 (dk_at dksX4_init_5 18 rfl rfl)
theorem dX4_init_139 : decode cX4_init 139 = .ok (.putfield 58, 3) := dk_181 0 58 (dk_at dksX4_init_5 20 rfl rfl)
theorem dX4_init_142 : decode cX4_init 142 = .ok (.aload_n 0, 1) := dk_42 (dk_at dksX4_init_5 23 rfl rfl)
theorem dX4_init_143 : decode cX4_init 143 = .ok (.bipush 41, 2) := dk_16 41 (dk_at dksX4_init_6 0 rfl rfl)
theorem dX4_init_145 : decode cX4_init 145 = .ok (.newarray .int, 2) := dk_188_10 (dk_at dksX4_init_6 2 rfl rfl)
theorem dX4_init_147 : decode cX4_init 147 = .ok (.putfield 61, 3) := dk_181 0 61 (dk_at dksX4_init_6 4 rfl rfl)
theorem dX4_init_150 : decode cX4_init 150 = .ok (.aload_n 0, 1) := dk_42 (dk_at dksX4_init_6 7 rfl rfl)
theorem dX4_init_151 : decode cX4_init 151 = .ok (.bipush 41, 2) := dk_16 41 (dk_at dksX4_init_6 8 rfl rfl)
theorem dX4_init_153 : decode cX4_init 153 = .ok (.newarray .int, 2) := dk_188_10 (dk_at dksX4_init_6 10 rfl rfl)
theorem dX4_init_155 : decode cX4_init 155 = .ok (.putfield 64, 3) := dk_181 0 64 (dk_at dksX4_init_6 12 rfl rfl)
theorem dX4_init_158 : decode cX4_init 158 = .ok (.aload_n 0, 1) := dk_42 (dk_at dksX4_init_6 15 rfl rfl)
theorem dX4_init_159 : decode cX4_init 159 = .ok (.sipush 200, 3) := dk_17 0 200 (dk_at dksX4_init_6 16 rfl rfl)
theorem dX4_init_162 : decode cX4_init 162 = .ok (.newarray .int, 2) := dk_188_10 (dk_at dksX4_init_6 19 rfl rfl)
theorem dX4_init_164 : decode cX4_init 164 = .ok (.putfield 67, 3) := dk_181 0 67 (dk_at dksX4_init_6 21 rfl rfl)
theorem dX4_init_167 : decode cX4_init 167 = .ok (.aload_n 0, 1) := dk_42 (dk_at dksX4_init_7 0 rfl rfl)
theorem dX4_init_168 : decode cX4_init 168 = .ok (.sipush 1200, 3) := dk_17 4 176 (dk_at dksX4_init_7 1 rfl rfl)
theorem dX4_init_171 : decode cX4_init 171 = .ok (.newarray .int, 2) := dk_188_10 (dk_at dksX4_init_7 4 rfl rfl)
theorem dX4_init_173 : decode cX4_init 173 = .ok (.putfield 70, 3) := dk_181 0 70 (dk_at dksX4_init_7 6 rfl rfl)
theorem dX4_init_176 : decode cX4_init 176 = .ok (.aload_n 0, 1) := dk_42 (dk_at dksX4_init_7 9 rfl rfl)
theorem dX4_init_177 : decode cX4_init 177 = .ok (.sipush 200, 3) := dk_17 0 200 (dk_at dksX4_init_7 10 rfl rfl)
theorem dX4_init_180 : decode cX4_init 180 = .ok (.newarray .int, 2) := dk_188_10 (dk_at dksX4_init_7 13 rfl rfl)
theorem dX4_init_182 : decode cX4_init 182 = .ok (.putfield 73, 3) := dk_181 0 73 (dk_at dksX4_init_7 15 rfl rfl)
theorem dX4_init_185 : decode cX4_init 185 = .ok (.aload_n 0, 1) := dk_42 (dk_at dksX4_init_7 18 rfl rfl)
theorem dX4_init_186 : decode cX4_init 186 = .ok (.sipush 200, 3) := dk_17 0 200 (dk_at dksX4_init_7 19 rfl rfl)
theorem dX4_init_189 : decode cX4_init 189 = .ok (.newarray .int, 2) := dk_188_10 (dk_at dksX4_init_7 22 rfl rfl)
theorem dX4_init_191 : decode cX4_init 191 = .ok (.putfield 76, 3) := dk_181 0 76 (dk_at dksX4_init_8 0 rfl rfl)
theorem dX4_init_194 : decode cX4_init 194 = .ok (.aload_n 0, 1) := dk_42 (dk_at dksX4_init_8 3 rfl rfl)
theorem dX4_init_195 : decode cX4_init 195 = .ok (.sipush 200, 3) := dk_17 0 200 (dk_at dksX4_init_8 4 rfl rfl)
theorem dX4_init_198 : decode cX4_init 198 = .ok (.newarray .int, 2) := dk_188_10 (dk_at dksX4_init_8 7 rfl rfl)
theorem dX4_init_200 : decode cX4_init 200 = .ok (.putfield 79, 3) := dk_181 0 79 (dk_at dksX4_init_8 9 rfl rfl)
theorem dX4_init_203 : decode cX4_init 203 = .ok (.aload_n 0, 1) := dk_42 (dk_at dksX4_init_8 12 rfl rfl)
theorem dX4_init_204 : decode cX4_init 204 = .ok (.sipush 200, 3) := dk_17 0 200 (dk_at dksX4_init_8 13 rfl rfl)
theorem dX4_init_207 : decode cX4_init 207 = .ok (.newarray .int, 2) := dk_188_10 (dk_at dksX4_init_8 16 rfl rfl)
theorem dX4_init_209 : decode cX4_init 209 = .ok (.putfield 82, 3) := dk_181 0 82 (dk_at dksX4_init_8 18 rfl rfl)
theorem dX4_init_212 : decode cX4_init 212 = .ok (.aload_n 0, 1) := dk_42 (dk_at dksX4_init_8 21 rfl rfl)
theorem dX4_init_213 : decode cX4_init 213 = .ok (.sipush 200, 3) := dk_17 0 200 (dk_at dksX4_init_9 0 rfl rfl)
theorem dX4_init_216 : decode cX4_init 216 = .ok (.newarray .boolean, 2) := dk_188_4 (dk_at dksX4_init_9 3 rfl rfl)
theorem dX4_init_218 : decode cX4_init 218 = .ok (.putfield 85, 3) := dk_181 0 85 (dk_at dksX4_init_9 5 rfl rfl)
theorem dX4_init_221 : decode cX4_init 221 = .ok (.aload_n 0, 1) := dk_42 (dk_at dksX4_init_9 8 rfl rfl)
theorem dX4_init_222 : decode cX4_init 222 = .ok (.bipush 8, 2) := dk_16 8 (dk_at dksX4_init_9 9 rfl rfl)
theorem dX4_init_224 : decode cX4_init 224 = .ok (.newarray .int, 2) := dk_188_10 (dk_at dksX4_init_9 11 rfl rfl)
theorem dX4_init_226 : decode cX4_init 226 = .ok (.dup, 1) := dk_89 (dk_at dksX4_init_9 13 rfl rfl)
theorem dX4_init_227 : decode cX4_init 227 = .ok (.iconst 0, 1) := dk_3 (dk_at dksX4_init_9 14 rfl rfl)
theorem dX4_init_228 : decode cX4_init 228 = .ok (.iconst 0, 1) := dk_3 (dk_at dksX4_init_9 15 rfl rfl)
theorem dX4_init_229 : decode cX4_init 229 = .ok (.iastore, 1) := dk_79 (dk_at dksX4_init_9 16 rfl rfl)
theorem dX4_init_230 : decode cX4_init 230 = .ok (.dup, 1) := dk_89 (dk_at dksX4_init_9 17 rfl rfl)
theorem dX4_init_231 : decode cX4_init 231 = .ok (.iconst 1, 1) := dk_4 (dk_at dksX4_init_9 18 rfl rfl)
theorem dX4_init_232 : decode cX4_init 232 = .ok (.iconst 2, 1) := dk_5 (dk_at dksX4_init_9 19 rfl rfl)
theorem dX4_init_233 : decode cX4_init 233 = .ok (.iastore, 1) := dk_79 (dk_at dksX4_init_9 20 rfl rfl)
theorem dX4_init_234 : decode cX4_init 234 = .ok (.dup, 1) := dk_89 (dk_at dksX4_init_9 21 rfl rfl)
theorem dX4_init_235 : decode cX4_init 235 = .ok (.iconst 2, 1) := dk_5 (dk_at dksX4_init_9 22 rfl rfl)
theorem dX4_init_236 : decode cX4_init 236 = .ok (.bipush 6, 2) := dk_16 6 (dk_at dksX4_init_10 0 rfl rfl)
theorem dX4_init_238 : decode cX4_init 238 = .ok (.iastore, 1) := dk_79 (dk_at dksX4_init_10 2 rfl rfl)
theorem dX4_init_239 : decode cX4_init 239 = .ok (.dup, 1) := dk_89 (dk_at dksX4_init_10 3 rfl rfl)
theorem dX4_init_240 : decode cX4_init 240 = .ok (.iconst 3, 1) := dk_6 (dk_at dksX4_init_10 4 rfl rfl)
theorem dX4_init_241 : decode cX4_init 241 = .ok (.bipush 12, 2) := dk_16 12 (dk_at dksX4_init_10 5 rfl rfl)
theorem dX4_init_243 : decode cX4_init 243 = .ok (.iastore, 1) := dk_79 (dk_at dksX4_init_10 7 rfl rfl)
theorem dX4_init_244 : decode cX4_init 244 = .ok (.dup, 1) := dk_89 (dk_at dksX4_init_10 8 rfl rfl)
theorem dX4_init_245 : decode cX4_init 245 = .ok (.iconst 4, 1) := dk_7 (dk_at dksX4_init_10 9 rfl rfl)
theorem dX4_init_246 : decode cX4_init 246 = .ok (.bipush 24, 2) := dk_16 24 (dk_at dksX4_init_10 10 rfl rfl)
theorem dX4_init_248 : decode cX4_init 248 = .ok (.iastore, 1) := dk_79 (dk_at dksX4_init_10 12 rfl rfl)
theorem dX4_init_249 : decode cX4_init 249 = .ok (.dup, 1) := dk_89 (dk_at dksX4_init_10 13 rfl rfl)
theorem dX4_init_250 : decode cX4_init 250 = .ok (.iconst 5, 1) := dk_8 (dk_at dksX4_init_10 14 rfl rfl)
theorem dX4_init_251 : decode cX4_init 251 = .ok (.bipush 36, 2) := dk_16 36 (dk_at dksX4_init_10 15 rfl rfl)
theorem dX4_init_253 : decode cX4_init 253 = .ok (.iastore, 1) := dk_79 (dk_at dksX4_init_10 17 rfl rfl)
theorem dX4_init_254 : decode cX4_init 254 = .ok (.dup, 1) := dk_89 (dk_at dksX4_init_10 18 rfl rfl)
theorem dX4_init_255 : decode cX4_init 255 = .ok (.bipush 6, 2) := dk_16 6 (dk_at dksX4_init_10 19 rfl rfl)
theorem dX4_init_257 : decode cX4_init 257 = .ok (.bipush 48, 2) := dk_16 48 (dk_at dksX4_init_10 21 rfl rfl)
theorem dX4_init_259 : decode cX4_init 259 = .ok (.iastore, 1) := dk_79 (dk_at dksX4_init_10 23 rfl rfl)
theorem dX4_init_260 : decode cX4_init 260 = .ok (.dup, 1) := dk_89 (dk_at dksX4_init_11 0 rfl rfl)
theorem dX4_init_261 : decode cX4_init 261 = .ok (.bipush 7, 2) := dk_16 7 (dk_at dksX4_init_11 1 rfl rfl)
theorem dX4_init_263 : decode cX4_init 263 = .ok (.bipush 72, 2) := dk_16 72 (dk_at dksX4_init_11 3 rfl rfl)
theorem dX4_init_265 : decode cX4_init 265 = .ok (.iastore, 1) := dk_79 (dk_at dksX4_init_11 5 rfl rfl)
theorem dX4_init_266 : decode cX4_init 266 = .ok (.putfield 88, 3) := dk_181 0 88 (dk_at dksX4_init_11 6 rfl rfl)
theorem dX4_init_269 : decode cX4_init 269 = .ok (.aload_n 0, 1) := dk_42 (dk_at dksX4_init_11 9 rfl rfl)
theorem dX4_init_270 : decode cX4_init 270 = .ok (.bipush 64, 2) := dk_16 64 (dk_at dksX4_init_11 10 rfl rfl)
theorem dX4_init_272 : decode cX4_init 272 = .ok (.newarray .int, 2) := dk_188_10 (dk_at dksX4_init_11 12 rfl rfl)
theorem dX4_init_274 : decode cX4_init 274 = .ok (.putfield 91, 3) := dk_181 0 91 (dk_at dksX4_init_11 14 rfl rfl)
theorem dX4_init_277 : decode cX4_init 277 = .ok (.aload_n 0, 1) := dk_42 (dk_at dksX4_init_11 17 rfl rfl)
theorem dX4_init_278 : decode cX4_init 278 = .ok (.sipush 2400, 3) := dk_17 9 96 (dk_at dksX4_init_11 18 rfl rfl)
theorem dX4_init_281 : decode cX4_init 281 = .ok (.newarray .int, 2) := dk_188_10 (dk_at dksX4_init_11 21 rfl rfl)
theorem dX4_init_283 : decode cX4_init 283 = .ok (.putfield 94, 3) := dk_181 0 94 (dk_at dksX4_init_12 0 rfl rfl)
theorem dX4_init_286 : decode cX4_init 286 = .ok (.aload_n 0, 1) := dk_42 (dk_at dksX4_init_12 3 rfl rfl)
theorem dX4_init_287 : decode cX4_init 287 = .ok (.sipush 2400, 3) := dk_17 9 96 (dk_at dksX4_init_12 4 rfl rfl)
theorem dX4_init_290 : decode cX4_init 290 = .ok (.newarray .int, 2) := dk_188_10 (dk_at dksX4_init_12 7 rfl rfl)
theorem dX4_init_292 : decode cX4_init 292 = .ok (.putfield 97, 3) := dk_181 0 97 (dk_at dksX4_init_12 9 rfl rfl)
theorem dX4_init_295 : decode cX4_init 295 = .ok (.aload_n 0, 1) := dk_42 (dk_at dksX4_init_12 12 rfl rfl)
theorem dX4_init_296 : decode cX4_init 296 = .ok (.sipush 400, 3) := dk_17 1 144 (dk_at dksX4_init_12 13 rfl rfl)
theorem dX4_init_299 : decode cX4_init 299 = .ok (.newarray .byte, 2) := dk_188_8 (dk_at dksX4_init_12 16 rfl rfl)
theorem dX4_init_301 : decode cX4_init 301 = .ok (.putfield 100, 3) := dk_181 0 100 (dk_at dksX4_init_12 18 rfl rfl)
theorem dX4_init_304 : decode cX4_init 304 = .ok (.aload_n 0, 1) := dk_42 (dk_at dksX4_init_12 21 rfl rfl)
theorem dX4_init_305 : decode cX4_init 305 = .ok (.iconst (-1), 1) := dk_2 (dk_at dksX4_init_12 22 rfl rfl)
theorem dX4_init_306 : decode cX4_init 306 = .ok (.putfield 104, 3) := dk_181 0 104 (dk_at dksX4_init_13 0 rfl rfl)
theorem dX4_init_309 : decode cX4_init 309 = .ok (.aload_n 0, 1) := dk_42 (dk_at dksX4_init_13 3 rfl rfl)
theorem dX4_init_310 : decode cX4_init 310 = .ok (.iconst (-1), 1) := dk_2 (dk_at dksX4_init_13 4 rfl rfl)
theorem dX4_init_311 : decode cX4_init 311 = .ok (.putfield 107, 3) := dk_181 0 107 (dk_at dksX4_init_13 5 rfl rfl)
theorem dX4_init_314 : decode cX4_init 314 = .ok (.aload_n 0, 1) := dk_42 (dk_at dksX4_init_13 8 rfl rfl)
theorem dX4_init_315 : decode cX4_init 315 = .ok (.sipush 5200, 3) := dk_17 20 80 (dk_at dksX4_init_13 9 rfl rfl)
theorem dX4_init_318 : decode cX4_init 318 = .ok (.newarray .byte, 2) := dk_188_8 (dk_at dksX4_init_13 12 rfl rfl)
theorem dX4_init_320 : decode cX4_init 320 = .ok (.putfield 110, 3) := dk_181 0 110 (dk_at dksX4_init_13 14 rfl rfl)
theorem dX4_init_323 : decode cX4_init 323 = .ok (.aload_n 0, 1) := dk_42 (dk_at dksX4_init_13 17 rfl rfl)
theorem dX4_init_324 : decode cX4_init 324 = .ok (.bipush 13, 2) := dk_16 13 (dk_at dksX4_init_13 18 rfl rfl)
theorem dX4_init_326 : decode cX4_init 326 = .ok (.newarray .int, 2) := dk_188_10 (dk_at dksX4_init_13 20 rfl rfl)
theorem dX4_init_328 : decode cX4_init 328 = .ok (.putfield 113, 3) := dk_181 0 113 (dk_at dksX4_init_14 0 rfl rfl)
theorem dX4_init_331 : decode cX4_init 331 = .ok (.aload_n 0, 1) := dk_42 (dk_at dksX4_init_14 3 rfl rfl)
theorem dX4_init_332 : decode cX4_init 332 = .ok (.bipush 16, 2) := dk_16 16 (dk_at dksX4_init_14 4 rfl rfl)
theorem dX4_init_334 : decode cX4_init 334 = .ok (.newarray .int, 2) := dk_188_10 (dk_at dksX4_init_14 6 rfl rfl)
theorem dX4_init_336 : decode cX4_init 336 = .ok (.putfield 116, 3) := dk_181 0 116 (dk_at dksX4_init_14 8 rfl rfl)
theorem dX4_init_339 : decode cX4_init 339 = .ok (.aload_n 0, 1) := dk_42 (dk_at dksX4_init_14 11 rfl rfl)
theorem dX4_init_340 : decode cX4_init 340 = .ok (.bipush 16, 2) := dk_16 16 (dk_at dksX4_init_14 12 rfl rfl)
theorem dX4_init_342 : decode cX4_init 342 = .ok (.newarray .int, 2) := dk_188_10 (dk_at dksX4_init_14 14 rfl rfl)
theorem dX4_init_344 : decode cX4_init 344 = .ok (.putfield 119, 3) := dk_181 0 119 (dk_at dksX4_init_14 16 rfl rfl)
theorem dX4_init_347 : decode cX4_init 347 = .ok (.aload_n 0, 1) := dk_42 (dk_at dksX4_init_14 19 rfl rfl)
theorem dX4_init_348 : decode cX4_init 348 = .ok (.sipush 256, 3) := dk_17 1 0 (dk_at dksX4_init_14 20 rfl rfl)
theorem dX4_init_351 : decode cX4_init 351 = .ok (.newarray .boolean, 2) := dk_188_4 (dk_at dksX4_init_15 0 rfl rfl)
theorem dX4_init_353 : decode cX4_init 353 = .ok (.putfield 122, 3) := dk_181 0 122 (dk_at dksX4_init_15 2 rfl rfl)
theorem dX4_init_356 : decode cX4_init 356 = .ok (.aload_n 0, 1) := dk_42 (dk_at dksX4_init_15 5 rfl rfl)
theorem dX4_init_357 : decode cX4_init 357 = .ok (.sipush 256, 3) := dk_17 1 0 (dk_at dksX4_init_15 6 rfl rfl)
theorem dX4_init_360 : decode cX4_init 360 = .ok (.newarray .boolean, 2) := dk_188_4 (dk_at dksX4_init_15 9 rfl rfl)
theorem dX4_init_362 : decode cX4_init 362 = .ok (.putfield 125, 3) := dk_181 0 125 (dk_at dksX4_init_15 11 rfl rfl)
theorem dX4_init_365 : decode cX4_init 365 = .ok (.aload_n 0, 1) := dk_42 (dk_at dksX4_init_15 14 rfl rfl)
theorem dX4_init_366 : decode cX4_init 366 = .ok (.bipush 50, 2) := dk_16 50 (dk_at dksX4_init_15 15 rfl rfl)
theorem dX4_init_368 : decode cX4_init 368 = .ok (.newarray .int, 2) := dk_188_10 (dk_at dksX4_init_15 17 rfl rfl)
theorem dX4_init_370 : decode cX4_init 370 = .ok (.putfield 128, 3) := dk_181 0 128 (dk_at dksX4_init_15 19 rfl rfl)
theorem dX4_init_373 : decode cX4_init 373 = .ok (.aload_n 0, 1) := dk_42 (dk_at dksX4_init_15 22 rfl rfl)
theorem dX4_init_374 : decode cX4_init 374 = .ok (.bipush 50, 2) := dk_16 50 (dk_at dksX4_init_16 0 rfl rfl)
theorem dX4_init_376 : decode cX4_init 376 = .ok (.newarray .int, 2) := dk_188_10 (dk_at dksX4_init_16 2 rfl rfl)
theorem dX4_init_378 : decode cX4_init 378 = .ok (.putfield 131, 3) := dk_181 0 131 (dk_at dksX4_init_16 4 rfl rfl)
theorem dX4_init_381 : decode cX4_init 381 = .ok (.aload_n 0, 1) := dk_42 (dk_at dksX4_init_16 7 rfl rfl)
theorem dX4_init_382 : decode cX4_init 382 = .ok (.bipush 25, 2) := dk_16 25 (dk_at dksX4_init_16 8 rfl rfl)
theorem dX4_init_384 : decode cX4_init 384 = .ok (.newarray .int, 2) := dk_188_10 (dk_at dksX4_init_16 10 rfl rfl)
theorem dX4_init_386 : decode cX4_init 386 = .ok (.putfield 134, 3) := dk_181 0 134 (dk_at dksX4_init_16 12 rfl rfl)
theorem dX4_init_389 : decode cX4_init 389 = .ok (.aload_n 0, 1) := dk_42 (dk_at dksX4_init_16 15 rfl rfl)
theorem dX4_init_390 : decode cX4_init 390 = .ok (.sipush 200, 3) := dk_17 0 200 (dk_at dksX4_init_16 16 rfl rfl)
theorem dX4_init_393 : decode cX4_init 393 = .ok (.newarray .int, 2) := dk_188_10 (dk_at dksX4_init_16 19 rfl rfl)
theorem dX4_init_395 : decode cX4_init 395 = .ok (.putfield 137, 3) := dk_181 0 137 (dk_at dksX4_init_16 21 rfl rfl)
theorem dX4_init_398 : decode cX4_init 398 = .ok (.aload_n 0, 1) := dk_42 (dk_at dksX4_init_17 0 rfl rfl)
theorem dX4_init_399 : decode cX4_init 399 = .ok (.sipush 200, 3) := dk_17 0 200 (dk_at dksX4_init_17 1 rfl rfl)
theorem dX4_init_402 : decode cX4_init 402 = .ok (.newarray .int, 2) := dk_188_10 (dk_at dksX4_init_17 4 rfl rfl)
theorem dX4_init_404 : decode cX4_init 404 = .ok (.putfield 140, 3) := dk_181 0 140 (dk_at dksX4_init_17 6 rfl rfl)
theorem dX4_init_407 : decode cX4_init 407 = .ok (.aload_n 0, 1) := dk_42 (dk_at dksX4_init_17 9 rfl rfl)
theorem dX4_init_408 : decode cX4_init 408 = .ok (.sipush 200, 3) := dk_17 0 200 (dk_at dksX4_init_17 10 rfl rfl)
theorem dX4_init_411 : decode cX4_init 411 = .ok (.newarray .int, 2) := dk_188_10 (dk_at dksX4_init_17 13 rfl rfl)
theorem dX4_init_413 : decode cX4_init 413 = .ok (.putfield 143, 3) := dk_181 0 143 (dk_at dksX4_init_17 15 rfl rfl)
theorem dX4_init_416 : decode cX4_init 416 = .ok (.aload_n 0, 1) := dk_42 (dk_at dksX4_init_17 18 rfl rfl)
theorem dX4_init_417 : decode cX4_init 417 = .ok (.sipush 200, 3) := dk_17 0 200 (dk_at dksX4_init_17 19 rfl rfl)
theorem dX4_init_420 : decode cX4_init 420 = .ok (.newarray .boolean, 2) := dk_188_4 (dk_at dksX4_init_17 22 rfl rfl)
theorem dX4_init_422 : decode cX4_init 422 = .ok (.putfield 146, 3) := dk_181 0 146 (dk_at dksX4_init_18 0 rfl rfl)
theorem dX4_init_425 : decode cX4_init 425 = .ok (.aload_n 0, 1) := dk_42 (dk_at dksX4_init_18 3 rfl rfl)
theorem dX4_init_426 : decode cX4_init 426 = .ok (.sipush 200, 3) := dk_17 0 200 (dk_at dksX4_init_18 4 rfl rfl)
theorem dX4_init_429 : decode cX4_init 429 = .ok (.newarray .int, 2) := dk_188_10 (dk_at dksX4_init_18 7 rfl rfl)
theorem dX4_init_431 : decode cX4_init 431 = .ok (.putfield 149, 3) := dk_181 0 149 (dk_at dksX4_init_18 9 rfl rfl)
theorem dX4_init_434 : decode cX4_init 434 = .ok (.aload_n 0, 1) := dk_42 (dk_at dksX4_init_18 12 rfl rfl)
theorem dX4_init_435 : decode cX4_init 435 = .ok (.bipush 64, 2) := dk_16 64 (dk_at dksX4_init_18 13 rfl rfl)
theorem dX4_init_437 : decode cX4_init 437 = .ok (.newarray .int, 2) := dk_188_10 (dk_at dksX4_init_18 15 rfl rfl)
theorem dX4_init_439 : decode cX4_init 439 = .ok (.putfield 152, 3) := dk_181 0 152 (dk_at dksX4_init_18 17 rfl rfl)
theorem dX4_init_442 : decode cX4_init 442 = .ok (.aload_n 0, 1) := dk_42 (dk_at dksX4_init_18 20 rfl rfl)
theorem dX4_init_443 : decode cX4_init 443 = .ok (.bipush 8, 2) := dk_16 8 (dk_at dksX4_init_18 21 rfl rfl)
theorem dX4_init_445 : decode cX4_init 445 = .ok (.newarray .int, 2) := dk_188_10 (dk_at dksX4_init_19 0 rfl rfl)
theorem dX4_init_447 : decode cX4_init 447 = .ok (.putfield 155, 3) := dk_181 0 155 (dk_at dksX4_init_19 2 rfl rfl)
theorem dX4_init_450 : decode cX4_init 450 = .ok (.aload_n 0, 1) := dk_42 (dk_at dksX4_init_19 5 rfl rfl)
theorem dX4_init_451 : decode cX4_init 451 = .ok (.bipush 8, 2) := dk_16 8 (dk_at dksX4_init_19 6 rfl rfl)
theorem dX4_init_453 : decode cX4_init 453 = .ok (.newarray .int, 2) := dk_188_10 (dk_at dksX4_init_19 8 rfl rfl)
theorem dX4_init_455 : decode cX4_init 455 = .ok (.putfield 158, 3) := dk_181 0 158 (dk_at dksX4_init_19 10 rfl rfl)
theorem dX4_init_458 : decode cX4_init 458 = .ok (.aload_n 0, 1) := dk_42 (dk_at dksX4_init_19 13 rfl rfl)
theorem dX4_init_459 : decode cX4_init 459 = .ok (.bipush 12, 2) := dk_16 12 (dk_at dksX4_init_19 14 rfl rfl)
theorem dX4_init_461 : decode cX4_init 461 = .ok (.newarray .int, 2) := dk_188_10 (dk_at dksX4_init_19 16 rfl rfl)
theorem dX4_init_463 : decode cX4_init 463 = .ok (.putfield 161, 3) := dk_181 0 161 (dk_at dksX4_init_19 18 rfl rfl)
theorem dX4_init_466 : decode cX4_init 466 = .ok (.aload_n 0, 1) := dk_42 (dk_at dksX4_init_19 21 rfl rfl)
theorem dX4_init_467 : decode cX4_init 467 = .ok (.bipush 20, 2) := dk_16 20 (dk_at dksX4_init_19 22 rfl rfl)
theorem dX4_init_469 : decode cX4_init 469 = .ok (.newarray .int, 2) := dk_188_10 (dk_at dksX4_init_20 0 rfl rfl)
theorem dX4_init_471 : decode cX4_init 471 = .ok (.putfield 164, 3) := dk_181 0 164 (dk_at dksX4_init_20 2 rfl rfl)
theorem dX4_init_474 : decode cX4_init 474 = .ok (.aload_n 0, 1) := dk_42 (dk_at dksX4_init_20 5 rfl rfl)
theorem dX4_init_475 : decode cX4_init 475 = .ok (.bipush 20, 2) := dk_16 20 (dk_at dksX4_init_20 6 rfl rfl)
theorem dX4_init_477 : decode cX4_init 477 = .ok (.newarray .int, 2) := dk_188_10 (dk_at dksX4_init_20 8 rfl rfl)
theorem dX4_init_479 : decode cX4_init 479 = .ok (.putfield 167, 3) := dk_181 0 167 (dk_at dksX4_init_20 10 rfl rfl)
theorem dX4_init_482 : decode cX4_init 482 = .ok (.aload_n 0, 1) := dk_42 (dk_at dksX4_init_20 13 rfl rfl)
theorem dX4_init_483 : decode cX4_init 483 = .ok (.sipush 21000, 3) := dk_17 82 8 (dk_at dksX4_init_20 14 rfl rfl)
theorem dX4_init_486 : decode cX4_init 486 = .ok (.newarray .long, 2) := dk_188_11 (dk_at dksX4_init_20 17 rfl rfl)
theorem dX4_init_488 : decode cX4_init 488 = .ok (.putfield 170, 3) := dk_181 0 170 (dk_at dksX4_init_20 19 rfl rfl)
theorem dX4_init_491 : decode cX4_init 491 = .ok (.iconst 0, 1) := dk_3 (dk_at dksX4_init_20 22 rfl rfl)
theorem dX4_init_492 : decode cX4_init 492 = .ok (.istore_n 1, 1) := dk_60 (dk_at dksX4_init_20 23 rfl rfl)
theorem dX4_init_493 : decode cX4_init 493 = .ok (.iload_n 1, 1) := dk_27 (dk_at dksX4_init_21 0 rfl rfl)
theorem dX4_init_494 : decode cX4_init 494 = .ok (.sipush 200, 3) := dk_17 0 200 (dk_at dksX4_init_21 1 rfl rfl)
theorem dX4_init_497 : decode cX4_init 497 = .ok (.if_icmp .ge 16, 3) := dk_162 0 16 (dk_at dksX4_init_21 4 rfl rfl)
theorem dX4_init_500 : decode cX4_init 500 = .ok (.aload_n 0, 1) := dk_42 (dk_at dksX4_init_21 7 rfl rfl)
theorem dX4_init_501 : decode cX4_init 501 = .ok (.getfield 137, 3) := dk_180 0 137 (dk_at dksX4_init_21 8 rfl rfl)
theorem dX4_init_504 : decode cX4_init 504 = .ok (.iload_n 1, 1) := dk_27 (dk_at dksX4_init_21 11 rfl rfl)
theorem dX4_init_505 : decode cX4_init 505 = .ok (.iconst (-1), 1) := dk_2 (dk_at dksX4_init_21 12 rfl rfl)
theorem dX4_init_506 : decode cX4_init 506 = .ok (.iastore, 1) := dk_79 (dk_at dksX4_init_21 13 rfl rfl)
theorem dX4_init_507 : decode cX4_init 507 = .ok (.iinc 1 1, 3) := dk_132 1 1 (dk_at dksX4_init_21 14 rfl rfl)
theorem dX4_init_510 : decode cX4_init 510 = .ok (.goto (-17), 3) := dk_167 255 239 (dk_at dksX4_init_21 17 rfl rfl)
theorem dX4_init_513 : decode cX4_init 513 = .ok (.return_, 1) := dk_177 (dk_at dksX4_init_21 20 rfl rfl)
abbrev cX4_row : ByteArray := prog_20_method_6_code
def yX4_row : MethodName := ⟨RX4, "row", "(III)I"⟩
def dkwX4_row_3 : List UInt8 := [21, 4, 96, 9, 80, 132, 4, 1, 167, 255, 233, 3, 172]
abbrev dktX4_row_3 : List UInt8 := dkwX4_row_3 ++ []
def dkwX4_row_2 : List UInt8 := [180, 0, 13, 27, 29, 79, 3, 54, 4, 21, 4, 16, 60, 162, 0, 22, 42, 180, 0, 16, 16, 60, 27, 104]
abbrev dktX4_row_2 : List UInt8 := dkwX4_row_2 ++ dktX4_row_3
def dkwX4_row_1 : List UInt8 := [29, 16, 60, 164, 0, 6, 16, 254, 172, 29, 156, 0, 6, 16, 253, 172, 42, 180, 0, 9, 27, 28, 79, 42]
abbrev dktX4_row_1 : List UInt8 := dkwX4_row_1 ++ dktX4_row_2
def dkwX4_row_0 : List UInt8 := [42, 3, 181, 0, 173, 27, 184, 0, 182, 153, 0, 21, 28, 133, 9, 20, 0, 176, 184, 0, 178, 153, 0, 9]
abbrev dktX4_row_0 : List UInt8 := dkwX4_row_0 ++ dktX4_row_1
theorem dksX4_row_0 : cX4_row.data.toList.drop 0 = dktX4_row_0 := by decide +kernel
theorem dksX4_row_1 : cX4_row.data.toList.drop 24 = dktX4_row_1 := dk_seg dksX4_row_0 24 rfl rfl
theorem dksX4_row_2 : cX4_row.data.toList.drop 48 = dktX4_row_2 := dk_seg dksX4_row_1 24 rfl rfl
theorem dksX4_row_3 : cX4_row.data.toList.drop 72 = dktX4_row_3 := dk_seg dksX4_row_2 24 rfl rfl
theorem dX4_row_0 : decode cX4_row 0 = .ok (.aload_n 0, 1) := dk_42 (dk_at dksX4_row_0 0 rfl rfl)
theorem dX4_row_1 : decode cX4_row 1 = .ok (.iconst 0, 1) := dk_3 (dk_at dksX4_row_0 1 rfl rfl)
theorem dX4_row_2 : decode cX4_row 2 = .ok (.putfield 173, 3) := dk_181 0 173 (dk_at dksX4_row_0 2 rfl rfl)
theorem dX4_row_5 : decode cX4_row 5 = .ok (.iload_n 1, 1) := dk_27 (dk_at dksX4_row_0 5 rfl rfl)
theorem dX4_row_6 : decode cX4_row 6 = .ok (.invokestatic 182, 3) := dk_184 0 182 (dk_at dksX4_row_0 6 rfl rfl)
theorem dX4_row_9 : decode cX4_row 9 = .ok (.ifCond .eq 21, 3) := dk_153 0 21 (dk_at dksX4_row_0 9 rfl rfl)
theorem dX4_row_12 : decode cX4_row 12 = .ok (.iload_n 2, 1) := dk_28 (dk_at dksX4_row_0 12 rfl rfl)
theorem dX4_row_13 : decode cX4_row 13 = .ok (.i2l, 1) := dk_133 (dk_at dksX4_row_0 13 rfl rfl)
theorem dX4_row_14 : decode cX4_row 14 = .ok (.lconst 0, 1) := dk_9 (dk_at dksX4_row_0 14 rfl rfl)
theorem dX4_row_15 : decode cX4_row 15 = .ok (.ldc2_w 176, 3) := dk_20 0 176 (dk_at dksX4_row_0 15 rfl rfl)
theorem dX4_row_18 : decode cX4_row 18 = .ok (.invokestatic 178, 3) := dk_184 0 178 (dk_at dksX4_row_0 18 rfl rfl)
theorem dX4_row_21 : decode cX4_row 21 = .ok (.ifCond .eq 9, 3) := dk_153 0 9 (dk_at dksX4_row_0 21 rfl rfl)
theorem dX4_row_24 : decode cX4_row 24 = .ok (.iload_n 3, 1) := dk_29 (dk_at dksX4_row_1 0 rfl rfl)
theorem dX4_row_25 : decode cX4_row 25 = .ok (.bipush 60, 2) := dk_16 60 (dk_at dksX4_row_1 1 rfl rfl)
theorem dX4_row_27 : decode cX4_row 27 = .ok (.if_icmp .le 6, 3) := dk_164 0 6 (dk_at dksX4_row_1 3 rfl rfl)
theorem dX4_row_30 : decode cX4_row 30 = .ok (.bipush (-2), 2) := dk_16 254 (dk_at dksX4_row_1 6 rfl rfl)
theorem dX4_row_32 : decode cX4_row 32 = .ok (.ireturn, 1) := dk_172 (dk_at dksX4_row_1 8 rfl rfl)
theorem dX4_row_33 : decode cX4_row 33 = .ok (.iload_n 3, 1) := dk_29 (dk_at dksX4_row_1 9 rfl rfl)
theorem dX4_row_34 : decode cX4_row 34 = .ok (.ifCond .ge 6, 3) := dk_156 0 6 (dk_at dksX4_row_1 10 rfl rfl)
theorem dX4_row_37 : decode cX4_row 37 = .ok (.bipush (-3), 2) := dk_16 253 (dk_at dksX4_row_1 13 rfl rfl)
theorem dX4_row_39 : decode cX4_row 39 = .ok (.ireturn, 1) := dk_172 (dk_at dksX4_row_1 15 rfl rfl)
theorem dX4_row_40 : decode cX4_row 40 = .ok (.aload_n 0, 1) := dk_42 (dk_at dksX4_row_1 16 rfl rfl)
theorem dX4_row_41 : decode cX4_row 41 = .ok (.getfield 9, 3) := dk_180 0 9 (dk_at dksX4_row_1 17 rfl rfl)
theorem dX4_row_44 : decode cX4_row 44 = .ok (.iload_n 1, 1) := dk_27 (dk_at dksX4_row_1 20 rfl rfl)
theorem dX4_row_45 : decode cX4_row 45 = .ok (.iload_n 2, 1) := dk_28 (dk_at dksX4_row_1 21 rfl rfl)
theorem dX4_row_46 : decode cX4_row 46 = .ok (.iastore, 1) := dk_79 (dk_at dksX4_row_1 22 rfl rfl)
theorem dX4_row_47 : decode cX4_row 47 = .ok (.aload_n 0, 1) := dk_42 (dk_at dksX4_row_1 23 rfl rfl)
theorem dX4_row_48 : decode cX4_row 48 = .ok (.getfield 13, 3) := dk_180 0 13 (dk_at dksX4_row_2 0 rfl rfl)
theorem dX4_row_51 : decode cX4_row 51 = .ok (.iload_n 1, 1) := dk_27 (dk_at dksX4_row_2 3 rfl rfl)
theorem dX4_row_52 : decode cX4_row 52 = .ok (.iload_n 3, 1) := dk_29 (dk_at dksX4_row_2 4 rfl rfl)
theorem dX4_row_53 : decode cX4_row 53 = .ok (.iastore, 1) := dk_79 (dk_at dksX4_row_2 5 rfl rfl)
theorem dX4_row_54 : decode cX4_row 54 = .ok (.iconst 0, 1) := dk_3 (dk_at dksX4_row_2 6 rfl rfl)
theorem dX4_row_55 : decode cX4_row 55 = .ok (.istore 4, 2) := dk_54 4 (dk_at dksX4_row_2 7 rfl rfl)
theorem dX4_row_57 : decode cX4_row 57 = .ok (.iload 4, 2) := dk_21 4 (dk_at dksX4_row_2 9 rfl rfl)
theorem dX4_row_59 : decode cX4_row 59 = .ok (.bipush 60, 2) := dk_16 60 (dk_at dksX4_row_2 11 rfl rfl)
theorem dX4_row_61 : decode cX4_row 61 = .ok (.if_icmp .ge 22, 3) := dk_162 0 22 (dk_at dksX4_row_2 13 rfl rfl)
theorem dX4_row_64 : decode cX4_row 64 = .ok (.aload_n 0, 1) := dk_42 (dk_at dksX4_row_2 16 rfl rfl)
theorem dX4_row_65 : decode cX4_row 65 = .ok (.getfield 16, 3) := dk_180 0 16 (dk_at dksX4_row_2 17 rfl rfl)
theorem dX4_row_68 : decode cX4_row 68 = .ok (.bipush 60, 2) := dk_16 60 (dk_at dksX4_row_2 20 rfl rfl)
theorem dX4_row_70 : decode cX4_row 70 = .ok (.iload_n 1, 1) := dk_27 (dk_at dksX4_row_2 22 rfl rfl)
theorem dX4_row_71 : decode cX4_row 71 = .ok (.imul, 1) := dk_104 (dk_at dksX4_row_2 23 rfl rfl)
theorem dX4_row_72 : decode cX4_row 72 = .ok (.iload 4, 2) := dk_21 4 (dk_at dksX4_row_3 0 rfl rfl)
theorem dX4_row_74 : decode cX4_row 74 = .ok (.iadd, 1) := dk_96 (dk_at dksX4_row_3 2 rfl rfl)
theorem dX4_row_75 : decode cX4_row 75 = .ok (.lconst 0, 1) := dk_9 (dk_at dksX4_row_3 3 rfl rfl)
theorem dX4_row_76 : decode cX4_row 76 = .ok (.lastore, 1) := dk_80 (dk_at dksX4_row_3 4 rfl rfl)
theorem dX4_row_77 : decode cX4_row 77 = .ok (.iinc 4 1, 3) := dk_132 4 1 (dk_at dksX4_row_3 5 rfl rfl)
theorem dX4_row_80 : decode cX4_row 80 = .ok (.goto (-23), 3) := dk_167 255 233 (dk_at dksX4_row_3 8 rfl rfl)
theorem dX4_row_83 : decode cX4_row 83 = .ok (.iconst 0, 1) := dk_3 (dk_at dksX4_row_3 11 rfl rfl)
theorem dX4_row_84 : decode cX4_row 84 = .ok (.ireturn, 1) := dk_172 (dk_at dksX4_row_3 12 rfl rfl)
abbrev cX4_isPlace : ByteArray := prog_20_method_4_code
def yX4_isPlace : MethodName := ⟨RX4, "isPlace", "(I)Z"⟩
def dkwX4_isPlace_0 : List UInt8 := [26, 133, 9, 20, 0, 176, 184, 0, 178, 172]
abbrev dktX4_isPlace_0 : List UInt8 := dkwX4_isPlace_0 ++ []
theorem dksX4_isPlace_0 : cX4_isPlace.data.toList.drop 0 = dktX4_isPlace_0 := by decide +kernel
theorem dX4_isPlace_0 : decode cX4_isPlace 0 = .ok (.iload_n 0, 1) := dk_26 (dk_at dksX4_isPlace_0 0 rfl rfl)
theorem dX4_isPlace_1 : decode cX4_isPlace 1 = .ok (.i2l, 1) := dk_133 (dk_at dksX4_isPlace_0 1 rfl rfl)
theorem dX4_isPlace_2 : decode cX4_isPlace 2 = .ok (.lconst 0, 1) := dk_9 (dk_at dksX4_isPlace_0 2 rfl rfl)
theorem dX4_isPlace_3 : decode cX4_isPlace 3 = .ok (.ldc2_w 176, 3) := dk_20 0 176 (dk_at dksX4_isPlace_0 3 rfl rfl)
theorem dX4_isPlace_6 : decode cX4_isPlace 6 = .ok (.invokestatic 178, 3) := dk_184 0 178 (dk_at dksX4_isPlace_0 6 rfl rfl)
theorem dX4_isPlace_9 : decode cX4_isPlace 9 = .ok (.ireturn, 1) := dk_172 (dk_at dksX4_isPlace_0 9 rfl rfl)
abbrev cX4_in : ByteArray := prog_20_method_3_code
def yX4_in : MethodName := ⟨RX4, "in", "(JJJ)Z"⟩
def dkwX4_in_0 : List UInt8 := [30, 32, 148, 155, 0, 14, 30, 22, 4, 148, 157, 0, 7, 4, 167, 0, 4, 3, 172]
abbrev dktX4_in_0 : List UInt8 := dkwX4_in_0 ++ []
theorem dksX4_in_0 : cX4_in.data.toList.drop 0 = dktX4_in_0 := by decide +kernel
theorem dX4_in_0 : decode cX4_in 0 = .ok (.lload_n 0, 1) := dk_30 (dk_at dksX4_in_0 0 rfl rfl)
theorem dX4_in_1 : decode cX4_in 1 = .ok (.lload_n 2, 1) := dk_32 (dk_at dksX4_in_0 1 rfl rfl)
theorem dX4_in_2 : decode cX4_in 2 = .ok (.lcmp, 1) := dk_148 (dk_at dksX4_in_0 2 rfl rfl)
theorem dX4_in_3 : decode cX4_in 3 = .ok (.ifCond .lt 14, 3) := dk_155 0 14 (dk_at dksX4_in_0 3 rfl rfl)
theorem dX4_in_6 : decode cX4_in 6 = .ok (.lload_n 0, 1) := dk_30 (dk_at dksX4_in_0 6 rfl rfl)
theorem dX4_in_7 : decode cX4_in 7 = .ok (.lload 4, 2) := dk_22 4 (dk_at dksX4_in_0 7 rfl rfl)
theorem dX4_in_9 : decode cX4_in 9 = .ok (.lcmp, 1) := dk_148 (dk_at dksX4_in_0 9 rfl rfl)
theorem dX4_in_10 : decode cX4_in 10 = .ok (.ifCond .gt 7, 3) := dk_157 0 7 (dk_at dksX4_in_0 10 rfl rfl)
theorem dX4_in_13 : decode cX4_in 13 = .ok (.iconst 1, 1) := dk_4 (dk_at dksX4_in_0 13 rfl rfl)
theorem dX4_in_14 : decode cX4_in 14 = .ok (.goto 4, 3) := dk_167 0 4 (dk_at dksX4_in_0 14 rfl rfl)
theorem dX4_in_17 : decode cX4_in 17 = .ok (.iconst 0, 1) := dk_3 (dk_at dksX4_in_0 17 rfl rfl)
theorem dX4_in_18 : decode cX4_in 18 = .ok (.ireturn, 1) := dk_172 (dk_at dksX4_in_0 18 rfl rfl)
abbrev cX4_tear : ByteArray := prog_20_method_7_code
def yX4_tear : MethodName := ⟨RX4, "tear", "(I)Z"⟩
def dkwX4_tear_1 : List UInt8 := [180, 0, 9, 27, 2, 79, 4, 172]
abbrev dktX4_tear_1 : List UInt8 := dkwX4_tear_1 ++ []
def dkwX4_tear_0 : List UInt8 := [42, 3, 181, 0, 173, 27, 184, 0, 182, 153, 0, 12, 42, 180, 0, 9, 27, 46, 156, 0, 5, 3, 172, 42]
abbrev dktX4_tear_0 : List UInt8 := dkwX4_tear_0 ++ dktX4_tear_1
theorem dksX4_tear_0 : cX4_tear.data.toList.drop 0 = dktX4_tear_0 := by decide +kernel
theorem dksX4_tear_1 : cX4_tear.data.toList.drop 24 = dktX4_tear_1 := dk_seg dksX4_tear_0 24 rfl rfl
theorem dX4_tear_0 : decode cX4_tear 0 = .ok (.aload_n 0, 1) := dk_42 (dk_at dksX4_tear_0 0 rfl rfl)
theorem dX4_tear_1 : decode cX4_tear 1 = .ok (.iconst 0, 1) := dk_3 (dk_at dksX4_tear_0 1 rfl rfl)
theorem dX4_tear_2 : decode cX4_tear 2 = .ok (.putfield 173, 3) := dk_181 0 173 (dk_at dksX4_tear_0 2 rfl rfl)
theorem dX4_tear_5 : decode cX4_tear 5 = .ok (.iload_n 1, 1) := dk_27 (dk_at dksX4_tear_0 5 rfl rfl)
theorem dX4_tear_6 : decode cX4_tear 6 = .ok (.invokestatic 182, 3) := dk_184 0 182 (dk_at dksX4_tear_0 6 rfl rfl)
theorem dX4_tear_9 : decode cX4_tear 9 = .ok (.ifCond .eq 12, 3) := dk_153 0 12 (dk_at dksX4_tear_0 9 rfl rfl)
theorem dX4_tear_12 : decode cX4_tear 12 = .ok (.aload_n 0, 1) := dk_42 (dk_at dksX4_tear_0 12 rfl rfl)
theorem dX4_tear_13 : decode cX4_tear 13 = .ok (.getfield 9, 3) := dk_180 0 9 (dk_at dksX4_tear_0 13 rfl rfl)
theorem dX4_tear_16 : decode cX4_tear 16 = .ok (.iload_n 1, 1) := dk_27 (dk_at dksX4_tear_0 16 rfl rfl)
theorem dX4_tear_17 : decode cX4_tear 17 = .ok (.iaload, 1) := dk_46 (dk_at dksX4_tear_0 17 rfl rfl)
theorem dX4_tear_18 : decode cX4_tear 18 = .ok (.ifCond .ge 5, 3) := dk_156 0 5 (dk_at dksX4_tear_0 18 rfl rfl)
theorem dX4_tear_21 : decode cX4_tear 21 = .ok (.iconst 0, 1) := dk_3 (dk_at dksX4_tear_0 21 rfl rfl)
theorem dX4_tear_22 : decode cX4_tear 22 = .ok (.ireturn, 1) := dk_172 (dk_at dksX4_tear_0 22 rfl rfl)
theorem dX4_tear_23 : decode cX4_tear 23 = .ok (.aload_n 0, 1) := dk_42 (dk_at dksX4_tear_0 23 rfl rfl)
theorem dX4_tear_24 : decode cX4_tear 24 = .ok (.getfield 9, 3) := dk_180 0 9 (dk_at dksX4_tear_1 0 rfl rfl)
theorem dX4_tear_27 : decode cX4_tear 27 = .ok (.iload_n 1, 1) := dk_27 (dk_at dksX4_tear_1 3 rfl rfl)
theorem dX4_tear_28 : decode cX4_tear 28 = .ok (.iconst (-1), 1) := dk_2 (dk_at dksX4_tear_1 4 rfl rfl)
theorem dX4_tear_29 : decode cX4_tear 29 = .ok (.iastore, 1) := dk_79 (dk_at dksX4_tear_1 5 rfl rfl)
theorem dX4_tear_30 : decode cX4_tear 30 = .ok (.iconst 1, 1) := dk_4 (dk_at dksX4_tear_1 6 rfl rfl)
theorem dX4_tear_31 : decode cX4_tear 31 = .ok (.ireturn, 1) := dk_172 (dk_at dksX4_tear_1 7 rfl rfl)
abbrev cX4_write : ByteArray := prog_20_method_8_code
def yX4_write : MethodName := ⟨RX4, "write", "(IIJ)I"⟩
def dkwX4_write_2 : List UInt8 := [42, 180, 0, 16, 16, 60, 27, 104, 28, 96, 42, 180, 0, 9, 27, 46, 33, 184, 0, 186, 80, 3, 172]
abbrev dktX4_write_2 : List UInt8 := dkwX4_write_2 ++ []
def dkwX4_write_1 : List UInt8 := [16, 251, 172, 28, 133, 9, 42, 180, 0, 13, 27, 46, 4, 100, 133, 184, 0, 178, 154, 0, 6, 16, 250, 172]
abbrev dktX4_write_1 : List UInt8 := dkwX4_write_1 ++ dktX4_write_2
def dkwX4_write_0 : List UInt8 := [42, 3, 181, 0, 173, 27, 184, 0, 182, 154, 0, 6, 16, 254, 172, 42, 180, 0, 9, 27, 46, 156, 0, 6]
abbrev dktX4_write_0 : List UInt8 := dkwX4_write_0 ++ dktX4_write_1
theorem dksX4_write_0 : cX4_write.data.toList.drop 0 = dktX4_write_0 := by decide +kernel
theorem dksX4_write_1 : cX4_write.data.toList.drop 24 = dktX4_write_1 := dk_seg dksX4_write_0 24 rfl rfl
theorem dksX4_write_2 : cX4_write.data.toList.drop 48 = dktX4_write_2 := dk_seg dksX4_write_1 24 rfl rfl
theorem dX4_write_0 : decode cX4_write 0 = .ok (.aload_n 0, 1) := dk_42 (dk_at dksX4_write_0 0 rfl rfl)
theorem dX4_write_1 : decode cX4_write 1 = .ok (.iconst 0, 1) := dk_3 (dk_at dksX4_write_0 1 rfl rfl)
theorem dX4_write_2 : decode cX4_write 2 = .ok (.putfield 173, 3) := dk_181 0 173 (dk_at dksX4_write_0 2 rfl rfl)
theorem dX4_write_5 : decode cX4_write 5 = .ok (.iload_n 1, 1) := dk_27 (dk_at dksX4_write_0 5 rfl rfl)
theorem dX4_write_6 : decode cX4_write 6 = .ok (.invokestatic 182, 3) := dk_184 0 182 (dk_at dksX4_write_0 6 rfl rfl)
theorem dX4_write_9 : decode cX4_write 9 = .ok (.ifCond .ne 6, 3) := dk_154 0 6 (dk_at dksX4_write_0 9 rfl rfl)
theorem dX4_write_12 : decode cX4_write 12 = .ok (.bipush (-2), 2) := dk_16 254 (dk_at dksX4_write_0 12 rfl rfl)
theorem dX4_write_14 : decode cX4_write 14 = .ok (.ireturn, 1) := dk_172 (dk_at dksX4_write_0 14 rfl rfl)
theorem dX4_write_15 : decode cX4_write 15 = .ok (.aload_n 0, 1) := dk_42 (dk_at dksX4_write_0 15 rfl rfl)
theorem dX4_write_16 : decode cX4_write 16 = .ok (.getfield 9, 3) := dk_180 0 9 (dk_at dksX4_write_0 16 rfl rfl)
theorem dX4_write_19 : decode cX4_write 19 = .ok (.iload_n 1, 1) := dk_27 (dk_at dksX4_write_0 19 rfl rfl)
theorem dX4_write_20 : decode cX4_write 20 = .ok (.iaload, 1) := dk_46 (dk_at dksX4_write_0 20 rfl rfl)
theorem dX4_write_21 : decode cX4_write 21 = .ok (.ifCond .ge 6, 3) := dk_156 0 6 (dk_at dksX4_write_0 21 rfl rfl)
theorem dX4_write_24 : decode cX4_write 24 = .ok (.bipush (-5), 2) := dk_16 251 (dk_at dksX4_write_1 0 rfl rfl)
theorem dX4_write_26 : decode cX4_write 26 = .ok (.ireturn, 1) := dk_172 (dk_at dksX4_write_1 2 rfl rfl)
theorem dX4_write_27 : decode cX4_write 27 = .ok (.iload_n 2, 1) := dk_28 (dk_at dksX4_write_1 3 rfl rfl)
theorem dX4_write_28 : decode cX4_write 28 = .ok (.i2l, 1) := dk_133 (dk_at dksX4_write_1 4 rfl rfl)
theorem dX4_write_29 : decode cX4_write 29 = .ok (.lconst 0, 1) := dk_9 (dk_at dksX4_write_1 5 rfl rfl)
theorem dX4_write_30 : decode cX4_write 30 = .ok (.aload_n 0, 1) := dk_42 (dk_at dksX4_write_1 6 rfl rfl)
theorem dX4_write_31 : decode cX4_write 31 = .ok (.getfield 13, 3) := dk_180 0 13 (dk_at dksX4_write_1 7 rfl rfl)
theorem dX4_write_34 : decode cX4_write 34 = .ok (.iload_n 1, 1) := dk_27 (dk_at dksX4_write_1 10 rfl rfl)
theorem dX4_write_35 : decode cX4_write 35 = .ok (.iaload, 1) := dk_46 (dk_at dksX4_write_1 11 rfl rfl)
theorem dX4_write_36 : decode cX4_write 36 = .ok (.iconst 1, 1) := dk_4 (dk_at dksX4_write_1 12 rfl rfl)
theorem dX4_write_37 : decode cX4_write 37 = .ok (.isub, 1) := dk_100 (dk_at dksX4_write_1 13 rfl rfl)
theorem dX4_write_38 : decode cX4_write 38 = .ok (.i2l, 1) := dk_133 (dk_at dksX4_write_1 14 rfl rfl)
theorem dX4_write_39 : decode cX4_write 39 = .ok (.invokestatic 178, 3) := dk_184 0 178 (dk_at dksX4_write_1 15 rfl rfl)
theorem dX4_write_42 : decode cX4_write 42 = .ok (.ifCond .ne 6, 3) := dk_154 0 6 (dk_at dksX4_write_1 18 rfl rfl)
theorem dX4_write_45 : decode cX4_write 45 = .ok (.bipush (-6), 2) := dk_16 250 (dk_at dksX4_write_1 21 rfl rfl)
theorem dX4_write_47 : decode cX4_write 47 = .ok (.ireturn, 1) := dk_172 (dk_at dksX4_write_1 23 rfl rfl)
theorem dX4_write_48 : decode cX4_write 48 = .ok (.aload_n 0, 1) := dk_42 (dk_at dksX4_write_2 0 rfl rfl)
theorem dX4_write_49 : decode cX4_write 49 = .ok (.getfield 16, 3) := dk_180 0 16 (dk_at dksX4_write_2 1 rfl rfl)
theorem dX4_write_52 : decode cX4_write 52 = .ok (.bipush 60, 2) := dk_16 60 (dk_at dksX4_write_2 4 rfl rfl)
theorem dX4_write_54 : decode cX4_write 54 = .ok (.iload_n 1, 1) := dk_27 (dk_at dksX4_write_2 6 rfl rfl)
theorem dX4_write_55 : decode cX4_write 55 = .ok (.imul, 1) := dk_104 (dk_at dksX4_write_2 7 rfl rfl)
theorem dX4_write_56 : decode cX4_write 56 = .ok (.iload_n 2, 1) := dk_28 (dk_at dksX4_write_2 8 rfl rfl)
theorem dX4_write_57 : decode cX4_write 57 = .ok (.iadd, 1) := dk_96 (dk_at dksX4_write_2 9 rfl rfl)
theorem dX4_write_58 : decode cX4_write 58 = .ok (.aload_n 0, 1) := dk_42 (dk_at dksX4_write_2 10 rfl rfl)
theorem dX4_write_59 : decode cX4_write 59 = .ok (.getfield 9, 3) := dk_180 0 9 (dk_at dksX4_write_2 11 rfl rfl)
theorem dX4_write_62 : decode cX4_write 62 = .ok (.iload_n 1, 1) := dk_27 (dk_at dksX4_write_2 14 rfl rfl)
theorem dX4_write_63 : decode cX4_write 63 = .ok (.iaload, 1) := dk_46 (dk_at dksX4_write_2 15 rfl rfl)
theorem dX4_write_64 : decode cX4_write 64 = .ok (.lload_n 3, 1) := dk_33 (dk_at dksX4_write_2 16 rfl rfl)
theorem dX4_write_65 : decode cX4_write 65 = .ok (.invokestatic 186, 3) := dk_184 0 186 (dk_at dksX4_write_2 17 rfl rfl)
theorem dX4_write_68 : decode cX4_write 68 = .ok (.lastore, 1) := dk_80 (dk_at dksX4_write_2 20 rfl rfl)
theorem dX4_write_69 : decode cX4_write 69 = .ok (.iconst 0, 1) := dk_3 (dk_at dksX4_write_2 21 rfl rfl)
theorem dX4_write_70 : decode cX4_write 70 = .ok (.ireturn, 1) := dk_172 (dk_at dksX4_write_2 22 rfl rfl)
abbrev cX4_cut : ByteArray := prog_20_method_5_code
def yX4_cut : MethodName := ⟨RX4, "cut", "(IJ)J"⟩
def dkwX4_cut_1 : List UInt8 := [5, 160, 0, 9, 31, 136, 133, 167, 0, 4, 31, 173]
abbrev dktX4_cut_1 : List UInt8 := dkwX4_cut_1 ++ []
def dkwX4_cut_0 : List UInt8 := [26, 154, 0, 10, 31, 136, 145, 133, 167, 0, 27, 26, 4, 160, 0, 10, 31, 136, 147, 133, 167, 0, 15, 26]
abbrev dktX4_cut_0 : List UInt8 := dkwX4_cut_0 ++ dktX4_cut_1
theorem dksX4_cut_0 : cX4_cut.data.toList.drop 0 = dktX4_cut_0 := by decide +kernel
theorem dksX4_cut_1 : cX4_cut.data.toList.drop 24 = dktX4_cut_1 := dk_seg dksX4_cut_0 24 rfl rfl
theorem dX4_cut_0 : decode cX4_cut 0 = .ok (.iload_n 0, 1) := dk_26 (dk_at dksX4_cut_0 0 rfl rfl)
theorem dX4_cut_1 : decode cX4_cut 1 = .ok (.ifCond .ne 10, 3) := dk_154 0 10 (dk_at dksX4_cut_0 1 rfl rfl)
theorem dX4_cut_4 : decode cX4_cut 4 = .ok (.lload_n 1, 1) := dk_31 (dk_at dksX4_cut_0 4 rfl rfl)
theorem dX4_cut_5 : decode cX4_cut 5 = .ok (.l2i, 1) := dk_136 (dk_at dksX4_cut_0 5 rfl rfl)
theorem dX4_cut_6 : decode cX4_cut 6 = .ok (.i2b, 1) := dk_145 (dk_at dksX4_cut_0 6 rfl rfl)
theorem dX4_cut_7 : decode cX4_cut 7 = .ok (.i2l, 1) := dk_133 (dk_at dksX4_cut_0 7 rfl rfl)
theorem dX4_cut_8 : decode cX4_cut 8 = .ok (.goto 27, 3) := dk_167 0 27 (dk_at dksX4_cut_0 8 rfl rfl)
theorem dX4_cut_11 : decode cX4_cut 11 = .ok (.iload_n 0, 1) := dk_26 (dk_at dksX4_cut_0 11 rfl rfl)
theorem dX4_cut_12 : decode cX4_cut 12 = .ok (.iconst 1, 1) := dk_4 (dk_at dksX4_cut_0 12 rfl rfl)
theorem dX4_cut_13 : decode cX4_cut 13 = .ok (.if_icmp .ne 10, 3) := dk_160 0 10 (dk_at dksX4_cut_0 13 rfl rfl)
theorem dX4_cut_16 : decode cX4_cut 16 = .ok (.lload_n 1, 1) := dk_31 (dk_at dksX4_cut_0 16 rfl rfl)
theorem dX4_cut_17 : decode cX4_cut 17 = .ok (.l2i, 1) := dk_136 (dk_at dksX4_cut_0 17 rfl rfl)
theorem dX4_cut_18 : decode cX4_cut 18 = .ok (.i2s, 1) := dk_147 (dk_at dksX4_cut_0 18 rfl rfl)
theorem dX4_cut_19 : decode cX4_cut 19 = .ok (.i2l, 1) := dk_133 (dk_at dksX4_cut_0 19 rfl rfl)
theorem dX4_cut_20 : decode cX4_cut 20 = .ok (.goto 15, 3) := dk_167 0 15 (dk_at dksX4_cut_0 20 rfl rfl)
theorem dX4_cut_23 : decode cX4_cut 23 = .ok (.iload_n 0, 1) := dk_26 (dk_at dksX4_cut_0 23 rfl rfl)
theorem dX4_cut_24 : decode cX4_cut 24 = .ok (.iconst 2, 1) := dk_5 (dk_at dksX4_cut_1 0 rfl rfl)
theorem dX4_cut_25 : decode cX4_cut 25 = .ok (.if_icmp .ne 9, 3) := dk_160 0 9 (dk_at dksX4_cut_1 1 rfl rfl)
theorem dX4_cut_28 : decode cX4_cut 28 = .ok (.lload_n 1, 1) := dk_31 (dk_at dksX4_cut_1 4 rfl rfl)
theorem dX4_cut_29 : decode cX4_cut 29 = .ok (.l2i, 1) := dk_136 (dk_at dksX4_cut_1 5 rfl rfl)
theorem dX4_cut_30 : decode cX4_cut 30 = .ok (.i2l, 1) := dk_133 (dk_at dksX4_cut_1 6 rfl rfl)
theorem dX4_cut_31 : decode cX4_cut 31 = .ok (.goto 4, 3) := dk_167 0 4 (dk_at dksX4_cut_1 7 rfl rfl)
theorem dX4_cut_34 : decode cX4_cut 34 = .ok (.lload_n 1, 1) := dk_31 (dk_at dksX4_cut_1 10 rfl rfl)
theorem dX4_cut_35 : decode cX4_cut 35 = .ok (.lreturn, 1) := dk_173 (dk_at dksX4_cut_1 11 rfl rfl)
abbrev cX4_paste : ByteArray := prog_20_method_9_code
def yX4_paste : MethodName := ⟨RX4, "paste", "(IIIII)I"⟩
def dkwX4_paste_7 : List UInt8 := [29, 104, 21, 4, 96, 21, 6, 96, 42, 180, 0, 20, 21, 6, 47, 80, 132, 6, 1, 167, 255, 224, 3, 172]
abbrev dktX4_paste_7 : List UInt8 := dkwX4_paste_7 ++ []
def dkwX4_paste_6 : List UInt8 := [47, 80, 132, 6, 1, 167, 255, 225, 3, 54, 6, 21, 6, 21, 5, 162, 0, 31, 42, 180, 0, 16, 16, 60]
abbrev dktX4_paste_6 : List UInt8 := dkwX4_paste_6 ++ dktX4_paste_7
def dkwX4_paste_5 : List UInt8 := [21, 5, 162, 0, 30, 42, 180, 0, 20, 21, 6, 42, 180, 0, 16, 16, 60, 27, 104, 28, 96, 21, 6, 96]
abbrev dktX4_paste_5 : List UInt8 := dkwX4_paste_5 ++ dktX4_paste_6
def dkwX4_paste_4 : List UInt8 := [133, 21, 5, 133, 97, 42, 180, 0, 13, 29, 46, 133, 148, 158, 0, 6, 16, 250, 172, 3, 54, 6, 21, 6]
abbrev dktX4_paste_4 : List UInt8 := dkwX4_paste_4 ++ dktX4_paste_5
def dkwX4_paste_3 : List UInt8 := [21, 5, 155, 0, 38, 28, 133, 21, 5, 133, 97, 42, 180, 0, 13, 27, 46, 133, 148, 157, 0, 21, 21, 4]
abbrev dktX4_paste_3 : List UInt8 := dkwX4_paste_3 ++ dktX4_paste_4
def dkwX4_paste_2 : List UInt8 := [27, 46, 42, 180, 0, 9, 29, 46, 159, 0, 6, 16, 249, 172, 28, 155, 0, 48, 21, 4, 155, 0, 43]
abbrev dktX4_paste_2 : List UInt8 := dkwX4_paste_2 ++ dktX4_paste_3
def dkwX4_paste_1 : List UInt8 := [180, 0, 9, 27, 46, 155, 0, 12, 42, 180, 0, 9, 29, 46, 156, 0, 6, 16, 251, 172, 42, 180, 0, 9]
abbrev dktX4_paste_1 : List UInt8 := dkwX4_paste_1 ++ dktX4_paste_2
def dkwX4_paste_0 : List UInt8 := [42, 3, 181, 0, 173, 27, 184, 0, 182, 153, 0, 10, 29, 184, 0, 182, 154, 0, 6, 16, 254, 172, 42]
abbrev dktX4_paste_0 : List UInt8 := dkwX4_paste_0 ++ dktX4_paste_1
theorem dksX4_paste_0 : cX4_paste.data.toList.drop 0 = dktX4_paste_0 := by decide +kernel
theorem dksX4_paste_1 : cX4_paste.data.toList.drop 23 = dktX4_paste_1 := dk_seg dksX4_paste_0 23 rfl rfl
theorem dksX4_paste_2 : cX4_paste.data.toList.drop 47 = dktX4_paste_2 := dk_seg dksX4_paste_1 24 rfl rfl
theorem dksX4_paste_3 : cX4_paste.data.toList.drop 70 = dktX4_paste_3 := dk_seg dksX4_paste_2 23 rfl rfl
theorem dksX4_paste_4 : cX4_paste.data.toList.drop 94 = dktX4_paste_4 := dk_seg dksX4_paste_3 24 rfl rfl
theorem dksX4_paste_5 : cX4_paste.data.toList.drop 118 = dktX4_paste_5 := dk_seg dksX4_paste_4 24 rfl rfl
theorem dksX4_paste_6 : cX4_paste.data.toList.drop 142 = dktX4_paste_6 := dk_seg dksX4_paste_5 24 rfl rfl
theorem dksX4_paste_7 : cX4_paste.data.toList.drop 166 = dktX4_paste_7 := dk_seg dksX4_paste_6 24 rfl rfl
theorem dX4_paste_0 : decode cX4_paste 0 = .ok (.aload_n 0, 1) := dk_42 (dk_at dksX4_paste_0 0 rfl rfl)
theorem dX4_paste_1 : decode cX4_paste 1 = .ok (.iconst 0, 1) := dk_3 (dk_at dksX4_paste_0 1 rfl rfl)
theorem dX4_paste_2 : decode cX4_paste 2 = .ok (.putfield 173, 3) := dk_181 0 173 (dk_at dksX4_paste_0 2 rfl rfl)
theorem dX4_paste_5 : decode cX4_paste 5 = .ok (.iload_n 1, 1) := dk_27 (dk_at dksX4_paste_0 5 rfl rfl)
theorem dX4_paste_6 : decode cX4_paste 6 = .ok (.invokestatic 182, 3) := dk_184 0 182 (dk_at dksX4_paste_0 6 rfl rfl)
theorem dX4_paste_9 : decode cX4_paste 9 = .ok (.ifCond .eq 10, 3) := dk_153 0 10 (dk_at dksX4_paste_0 9 rfl rfl)
theorem dX4_paste_12 : decode cX4_paste 12 = .ok (.iload_n 3, 1) := dk_29 (dk_at dksX4_paste_0 12 rfl rfl)
theorem dX4_paste_13 : decode cX4_paste 13 = .ok (.invokestatic 182, 3) := dk_184 0 182 (dk_at dksX4_paste_0 13 rfl rfl)
theorem dX4_paste_16 : decode cX4_paste 16 = .ok (.ifCond .ne 6, 3) := dk_154 0 6 (dk_at dksX4_paste_0 16 rfl rfl)
theorem dX4_paste_19 : decode cX4_paste 19 = .ok (.bipush (-2), 2) := dk_16 254 (dk_at dksX4_paste_0 19 rfl rfl)
theorem dX4_paste_21 : decode cX4_paste 21 = .ok (.ireturn, 1) := dk_172 (dk_at dksX4_paste_0 21 rfl rfl)
theorem dX4_paste_22 : decode cX4_paste 22 = .ok (.aload_n 0, 1) := dk_42 (dk_at dksX4_paste_0 22 rfl rfl)
theorem dX4_paste_23 : decode cX4_paste 23 = .ok (.getfield 9, 3) := dk_180 0 9 (dk_at dksX4_paste_1 0 rfl rfl)
theorem dX4_paste_26 : decode cX4_paste 26 = .ok (.iload_n 1, 1) := dk_27 (dk_at dksX4_paste_1 3 rfl rfl)
theorem dX4_paste_27 : decode cX4_paste 27 = .ok (.iaload, 1) := dk_46 (dk_at dksX4_paste_1 4 rfl rfl)
theorem dX4_paste_28 : decode cX4_paste 28 = .ok (.ifCond .lt 12, 3) := dk_155 0 12 (dk_at dksX4_paste_1 5 rfl rfl)
theorem dX4_paste_31 : decode cX4_paste 31 = .ok (.aload_n 0, 1) := dk_42 (dk_at dksX4_paste_1 8 rfl rfl)
theorem dX4_paste_32 : decode cX4_paste 32 = .ok (.getfield 9, 3) := dk_180 0 9 (dk_at dksX4_paste_1 9 rfl rfl)
theorem dX4_paste_35 : decode cX4_paste 35 = .ok (.iload_n 3, 1) := dk_29 (dk_at dksX4_paste_1 12 rfl rfl)
theorem dX4_paste_36 : decode cX4_paste 36 = .ok (.iaload, 1) := dk_46 (dk_at dksX4_paste_1 13 rfl rfl)
theorem dX4_paste_37 : decode cX4_paste 37 = .ok (.ifCond .ge 6, 3) := dk_156 0 6 (dk_at dksX4_paste_1 14 rfl rfl)
theorem dX4_paste_40 : decode cX4_paste 40 = .ok (.bipush (-5), 2) := dk_16 251 (dk_at dksX4_paste_1 17 rfl rfl)
theorem dX4_paste_42 : decode cX4_paste 42 = .ok (.ireturn, 1) := dk_172 (dk_at dksX4_paste_1 19 rfl rfl)
theorem dX4_paste_43 : decode cX4_paste 43 = .ok (.aload_n 0, 1) := dk_42 (dk_at dksX4_paste_1 20 rfl rfl)
theorem dX4_paste_44 : decode cX4_paste 44 = .ok (.getfield 9, 3) := dk_180 0 9 (dk_at dksX4_paste_1 21 rfl rfl)
theorem dX4_paste_47 : decode cX4_paste 47 = .ok (.iload_n 1, 1) := dk_27 (dk_at dksX4_paste_2 0 rfl rfl)
theorem dX4_paste_48 : decode cX4_paste 48 = .ok (.iaload, 1) := dk_46 (dk_at dksX4_paste_2 1 rfl rfl)
theorem dX4_paste_49 : decode cX4_paste 49 = .ok (.aload_n 0, 1) := dk_42 (dk_at dksX4_paste_2 2 rfl rfl)
theorem dX4_paste_50 : decode cX4_paste 50 = .ok (.getfield 9, 3) := dk_180 0 9 (dk_at dksX4_paste_2 3 rfl rfl)
theorem dX4_paste_53 : decode cX4_paste 53 = .ok (.iload_n 3, 1) := dk_29 (dk_at dksX4_paste_2 6 rfl rfl)
theorem dX4_paste_54 : decode cX4_paste 54 = .ok (.iaload, 1) := dk_46 (dk_at dksX4_paste_2 7 rfl rfl)
theorem dX4_paste_55 : decode cX4_paste 55 = .ok (.if_icmp .eq 6, 3) := dk_159 0 6 (dk_at dksX4_paste_2 8 rfl rfl)
theorem dX4_paste_58 : decode cX4_paste 58 = .ok (.bipush (-7), 2) := dk_16 249 (dk_at dksX4_paste_2 11 rfl rfl)
theorem dX4_paste_60 : decode cX4_paste 60 = .ok (.ireturn, 1) := dk_172 (dk_at dksX4_paste_2 13 rfl rfl)
theorem dX4_paste_61 : decode cX4_paste 61 = .ok (.iload_n 2, 1) := dk_28 (dk_at dksX4_paste_2 14 rfl rfl)
theorem dX4_paste_62 : decode cX4_paste 62 = .ok (.ifCond .lt 48, 3) := dk_155 0 48 (dk_at dksX4_paste_2 15 rfl rfl)
theorem dX4_paste_65 : decode cX4_paste 65 = .ok (.iload 4, 2) := dk_21 4 (dk_at dksX4_paste_2 18 rfl rfl)
theorem dX4_paste_67 : decode cX4_paste 67 = .ok (.ifCond .lt 43, 3) := dk_155 0 43 (dk_at dksX4_paste_2 20 rfl rfl)
theorem dX4_paste_70 : decode cX4_paste 70 = .ok (.iload 5, 2) := dk_21 5 (dk_at dksX4_paste_3 0 rfl rfl)
theorem dX4_paste_72 : decode cX4_paste 72 = .ok (.ifCond .lt 38, 3) := dk_155 0 38 (dk_at dksX4_paste_3 2 rfl rfl)
theorem dX4_paste_75 : decode cX4_paste 75 = .ok (.iload_n 2, 1) := dk_28 (dk_at dksX4_paste_3 5 rfl rfl)
theorem dX4_paste_76 : decode cX4_paste 76 = .ok (.i2l, 1) := dk_133 (dk_at dksX4_paste_3 6 rfl rfl)
theorem dX4_paste_77 : decode cX4_paste 77 = .ok (.iload 5, 2) := dk_21 5 (dk_at dksX4_paste_3 7 rfl rfl)
theorem dX4_paste_79 : decode cX4_paste 79 = .ok (.i2l, 1) := dk_133 (dk_at dksX4_paste_3 9 rfl rfl)
theorem dX4_paste_80 : decode cX4_paste 80 = .ok (.ladd, 1) := dk_97 (dk_at dksX4_paste_3 10 rfl rfl)
theorem dX4_paste_81 : decode cX4_paste 81 = .ok (.aload_n 0, 1) := dk_42 (dk_at dksX4_paste_3 11 rfl rfl)
theorem dX4_paste_82 : decode cX4_paste 82 = .ok (.getfield 13, 3) := dk_180 0 13 (dk_at dksX4_paste_3 12 rfl rfl)
theorem dX4_paste_85 : decode cX4_paste 85 = .ok (.iload_n 1, 1) := dk_27 (dk_at dksX4_paste_3 15 rfl rfl)
theorem dX4_paste_86 : decode cX4_paste 86 = .ok (.iaload, 1) := dk_46 (dk_at dksX4_paste_3 16 rfl rfl)
theorem dX4_paste_87 : decode cX4_paste 87 = .ok (.i2l, 1) := dk_133 (dk_at dksX4_paste_3 17 rfl rfl)
theorem dX4_paste_88 : decode cX4_paste 88 = .ok (.lcmp, 1) := dk_148 (dk_at dksX4_paste_3 18 rfl rfl)
theorem dX4_paste_89 : decode cX4_paste 89 = .ok (.ifCond .gt 21, 3) := dk_157 0 21 (dk_at dksX4_paste_3 19 rfl rfl)
theorem dX4_paste_92 : decode cX4_paste 92 = .ok (.iload 4, 2) := dk_21 4 (dk_at dksX4_paste_3 22 rfl rfl)
theorem dX4_paste_94 : decode cX4_paste 94 = .ok (.i2l, 1) := dk_133 (dk_at dksX4_paste_4 0 rfl rfl)
theorem dX4_paste_95 : decode cX4_paste 95 = .ok (.iload 5, 2) := dk_21 5 (dk_at dksX4_paste_4 1 rfl rfl)
theorem dX4_paste_97 : decode cX4_paste 97 = .ok (.i2l, 1) := dk_133 (dk_at dksX4_paste_4 3 rfl rfl)
theorem dX4_paste_98 : decode cX4_paste 98 = .ok (.ladd, 1) := dk_97 (dk_at dksX4_paste_4 4 rfl rfl)
theorem dX4_paste_99 : decode cX4_paste 99 = .ok (.aload_n 0, 1) := dk_42 (dk_at dksX4_paste_4 5 rfl rfl)
theorem dX4_paste_100 : decode cX4_paste 100 = .ok (.getfield 13, 3) := dk_180 0 13 (dk_at dksX4_paste_4 6 rfl rfl)
theorem dX4_paste_103 : decode cX4_paste 103 = .ok (.iload_n 3, 1) := dk_29 (dk_at dksX4_paste_4 9 rfl rfl)
theorem dX4_paste_104 : decode cX4_paste 104 = .ok (.iaload, 1) := dk_46 (dk_at dksX4_paste_4 10 rfl rfl)
theorem dX4_paste_105 : decode cX4_paste 105 = .ok (.i2l, 1) := dk_133 (dk_at dksX4_paste_4 11 rfl rfl)
theorem dX4_paste_106 : decode cX4_paste 106 = .ok (.lcmp, 1) := dk_148 (dk_at dksX4_paste_4 12 rfl rfl)
theorem dX4_paste_107 : decode cX4_paste 107 = .ok (.ifCond .le 6, 3) := dk_158 0 6 (dk_at dksX4_paste_4 13 rfl rfl)
theorem dX4_paste_110 : decode cX4_paste 110 = .ok (.bipush (-6), 2) := dk_16 250 (dk_at dksX4_paste_4 16 rfl rfl)
theorem dX4_paste_112 : decode cX4_paste 112 = .ok (.ireturn, 1) := dk_172 (dk_at dksX4_paste_4 18 rfl rfl)
theorem dX4_paste_113 : decode cX4_paste 113 = .ok (.iconst 0, 1) := dk_3 (dk_at dksX4_paste_4 19 rfl rfl)
theorem dX4_paste_114 : decode cX4_paste 114 = .ok (.istore 6, 2) := dk_54 6 (dk_at dksX4_paste_4 20 rfl rfl)
theorem dX4_paste_116 : decode cX4_paste 116 = .ok (.iload 6, 2) := dk_21 6 (dk_at dksX4_paste_4 22 rfl rfl)
theorem dX4_paste_118 : decode cX4_paste 118 = .ok (.iload 5, 2) := dk_21 5 (dk_at dksX4_paste_5 0 rfl rfl)
theorem dX4_paste_120 : decode cX4_paste 120 = .ok (.if_icmp .ge 30, 3) := dk_162 0 30 (dk_at dksX4_paste_5 2 rfl rfl)
theorem dX4_paste_123 : decode cX4_paste 123 = .ok (.aload_n 0, 1) := dk_42 (dk_at dksX4_paste_5 5 rfl rfl)
theorem dX4_paste_124 : decode cX4_paste 124 = .ok (.getfield 20, 3) := dk_180 0 20 (dk_at dksX4_paste_5 6 rfl rfl)
theorem dX4_paste_127 : decode cX4_paste 127 = .ok (.iload 6, 2) := dk_21 6 (dk_at dksX4_paste_5 9 rfl rfl)
theorem dX4_paste_129 : decode cX4_paste 129 = .ok (.aload_n 0, 1) := dk_42 (dk_at dksX4_paste_5 11 rfl rfl)
theorem dX4_paste_130 : decode cX4_paste 130 = .ok (.getfield 16, 3) := dk_180 0 16 (dk_at dksX4_paste_5 12 rfl rfl)
theorem dX4_paste_133 : decode cX4_paste 133 = .ok (.bipush 60, 2) := dk_16 60 (dk_at dksX4_paste_5 15 rfl rfl)
theorem dX4_paste_135 : decode cX4_paste 135 = .ok (.iload_n 1, 1) := dk_27 (dk_at dksX4_paste_5 17 rfl rfl)
theorem dX4_paste_136 : decode cX4_paste 136 = .ok (.imul, 1) := dk_104 (dk_at dksX4_paste_5 18 rfl rfl)
theorem dX4_paste_137 : decode cX4_paste 137 = .ok (.iload_n 2, 1) := dk_28 (dk_at dksX4_paste_5 19 rfl rfl)
theorem dX4_paste_138 : decode cX4_paste 138 = .ok (.iadd, 1) := dk_96 (dk_at dksX4_paste_5 20 rfl rfl)
theorem dX4_paste_139 : decode cX4_paste 139 = .ok (.iload 6, 2) := dk_21 6 (dk_at dksX4_paste_5 21 rfl rfl)
theorem dX4_paste_141 : decode cX4_paste 141 = .ok (.iadd, 1) := dk_96 (dk_at dksX4_paste_5 23 rfl rfl)
theorem dX4_paste_142 : decode cX4_paste 142 = .ok (.laload, 1) := dk_47 (dk_at dksX4_paste_6 0 rfl rfl)
theorem dX4_paste_143 : decode cX4_paste 143 = .ok (.lastore, 1) := dk_80 (dk_at dksX4_paste_6 1 rfl rfl)
theorem dX4_paste_144 : decode cX4_paste 144 = .ok (.iinc 6 1, 3) := dk_132 6 1 (dk_at dksX4_paste_6 2 rfl rfl)
theorem dX4_paste_147 : decode cX4_paste 147 = .ok (.goto (-31), 3) := dk_167 255 225 (dk_at dksX4_paste_6 5 rfl rfl)
theorem dX4_paste_150 : decode cX4_paste 150 = .ok (.iconst 0, 1) := dk_3 (dk_at dksX4_paste_6 8 rfl rfl)
theorem dX4_paste_151 : decode cX4_paste 151 = .ok (.istore 6, 2) := dk_54 6 (dk_at dksX4_paste_6 9 rfl rfl)
theorem dX4_paste_153 : decode cX4_paste 153 = .ok (.iload 6, 2) := dk_21 6 (dk_at dksX4_paste_6 11 rfl rfl)
theorem dX4_paste_155 : decode cX4_paste 155 = .ok (.iload 5, 2) := dk_21 5 (dk_at dksX4_paste_6 13 rfl rfl)
theorem dX4_paste_157 : decode cX4_paste 157 = .ok (.if_icmp .ge 31, 3) := dk_162 0 31 (dk_at dksX4_paste_6 15 rfl rfl)
theorem dX4_paste_160 : decode cX4_paste 160 = .ok (.aload_n 0, 1) := dk_42 (dk_at dksX4_paste_6 18 rfl rfl)
theorem dX4_paste_161 : decode cX4_paste 161 = .ok (.getfield 16, 3) := dk_180 0 16 (dk_at dksX4_paste_6 19 rfl rfl)
theorem dX4_paste_164 : decode cX4_paste 164 = .ok (.bipush 60, 2) := dk_16 60 (dk_at dksX4_paste_6 22 rfl rfl)
theorem dX4_paste_166 : decode cX4_paste 166 = .ok (.iload_n 3, 1) := dk_29 (dk_at dksX4_paste_7 0 rfl rfl)
theorem dX4_paste_167 : decode cX4_paste 167 = .ok (.imul, 1) := dk_104 (dk_at dksX4_paste_7 1 rfl rfl)
theorem dX4_paste_168 : decode cX4_paste 168 = .ok (.iload 4, 2) := dk_21 4 (dk_at dksX4_paste_7 2 rfl rfl)
theorem dX4_paste_170 : decode cX4_paste 170 = .ok (.iadd, 1) := dk_96 (dk_at dksX4_paste_7 4 rfl rfl)
theorem dX4_paste_171 : decode cX4_paste 171 = .ok (.iload 6, 2) := dk_21 6 (dk_at dksX4_paste_7 5 rfl rfl)
theorem dX4_paste_173 : decode cX4_paste 173 = .ok (.iadd, 1) := dk_96 (dk_at dksX4_paste_7 7 rfl rfl)
theorem dX4_paste_174 : decode cX4_paste 174 = .ok (.aload_n 0, 1) := dk_42 (dk_at dksX4_paste_7 8 rfl rfl)
theorem dX4_paste_175 : decode cX4_paste 175 = .ok (.getfield 20, 3) := dk_180 0 20 (dk_at dksX4_paste_7 9 rfl rfl)
theorem dX4_paste_178 : decode cX4_paste 178 = .ok (.iload 6, 2) := dk_21 6 (dk_at dksX4_paste_7 12 rfl rfl)
theorem dX4_paste_180 : decode cX4_paste 180 = .ok (.laload, 1) := dk_47 (dk_at dksX4_paste_7 14 rfl rfl)
theorem dX4_paste_181 : decode cX4_paste 181 = .ok (.lastore, 1) := dk_80 (dk_at dksX4_paste_7 15 rfl rfl)
theorem dX4_paste_182 : decode cX4_paste 182 = .ok (.iinc 6 1, 3) := dk_132 6 1 (dk_at dksX4_paste_7 16 rfl rfl)
theorem dX4_paste_185 : decode cX4_paste 185 = .ok (.goto (-32), 3) := dk_167 255 224 (dk_at dksX4_paste_7 19 rfl rfl)
theorem dX4_paste_188 : decode cX4_paste 188 = .ok (.iconst 0, 1) := dk_3 (dk_at dksX4_paste_7 22 rfl rfl)
theorem dX4_paste_189 : decode cX4_paste 189 = .ok (.ireturn, 1) := dk_172 (dk_at dksX4_paste_7 23 rfl rfl)
abbrev cX4_terms : ByteArray := prog_20_method_10_code
def yX4_terms : MethodName := ⟨RX4, "terms", "(II)I"⟩
def dkwX4_terms_1 : List UInt8 := [184, 0, 178, 154, 0, 6, 16, 254, 172, 42, 27, 181, 0, 23, 42, 28, 181, 0, 27, 3, 172]
abbrev dktX4_terms_1 : List UInt8 := dkwX4_terms_1 ++ []
def dkwX4_terms_0 : List UInt8 := [42, 3, 181, 0, 173, 27, 133, 9, 20, 0, 190, 184, 0, 178, 153, 0, 15, 28, 133, 9, 20, 0, 192]
abbrev dktX4_terms_0 : List UInt8 := dkwX4_terms_0 ++ dktX4_terms_1
theorem dksX4_terms_0 : cX4_terms.data.toList.drop 0 = dktX4_terms_0 := by decide +kernel
theorem dksX4_terms_1 : cX4_terms.data.toList.drop 23 = dktX4_terms_1 := dk_seg dksX4_terms_0 23 rfl rfl
theorem dX4_terms_0 : decode cX4_terms 0 = .ok (.aload_n 0, 1) := dk_42 (dk_at dksX4_terms_0 0 rfl rfl)
theorem dX4_terms_1 : decode cX4_terms 1 = .ok (.iconst 0, 1) := dk_3 (dk_at dksX4_terms_0 1 rfl rfl)
theorem dX4_terms_2 : decode cX4_terms 2 = .ok (.putfield 173, 3) := dk_181 0 173 (dk_at dksX4_terms_0 2 rfl rfl)
theorem dX4_terms_5 : decode cX4_terms 5 = .ok (.iload_n 1, 1) := dk_27 (dk_at dksX4_terms_0 5 rfl rfl)
theorem dX4_terms_6 : decode cX4_terms 6 = .ok (.i2l, 1) := dk_133 (dk_at dksX4_terms_0 6 rfl rfl)
theorem dX4_terms_7 : decode cX4_terms 7 = .ok (.lconst 0, 1) := dk_9 (dk_at dksX4_terms_0 7 rfl rfl)
theorem dX4_terms_8 : decode cX4_terms 8 = .ok (.ldc2_w 190, 3) := dk_20 0 190 (dk_at dksX4_terms_0 8 rfl rfl)
theorem dX4_terms_11 : decode cX4_terms 11 = .ok (.invokestatic 178, 3) := dk_184 0 178 (dk_at dksX4_terms_0 11 rfl rfl)
theorem dX4_terms_14 : decode cX4_terms 14 = .ok (.ifCond .eq 15, 3) := dk_153 0 15 (dk_at dksX4_terms_0 14 rfl rfl)
theorem dX4_terms_17 : decode cX4_terms 17 = .ok (.iload_n 2, 1) := dk_28 (dk_at dksX4_terms_0 17 rfl rfl)
theorem dX4_terms_18 : decode cX4_terms 18 = .ok (.i2l, 1) := dk_133 (dk_at dksX4_terms_0 18 rfl rfl)
theorem dX4_terms_19 : decode cX4_terms 19 = .ok (.lconst 0, 1) := dk_9 (dk_at dksX4_terms_0 19 rfl rfl)
theorem dX4_terms_20 : decode cX4_terms 20 = .ok (.ldc2_w 192, 3) := dk_20 0 192 (dk_at dksX4_terms_0 20 rfl rfl)
theorem dX4_terms_23 : decode cX4_terms 23 = .ok (.invokestatic 178, 3) := dk_184 0 178 (dk_at dksX4_terms_1 0 rfl rfl)
theorem dX4_terms_26 : decode cX4_terms 26 = .ok (.ifCond .ne 6, 3) := dk_154 0 6 (dk_at dksX4_terms_1 3 rfl rfl)
theorem dX4_terms_29 : decode cX4_terms 29 = .ok (.bipush (-2), 2) := dk_16 254 (dk_at dksX4_terms_1 6 rfl rfl)
theorem dX4_terms_31 : decode cX4_terms 31 = .ok (.ireturn, 1) := dk_172 (dk_at dksX4_terms_1 8 rfl rfl)
theorem dX4_terms_32 : decode cX4_terms 32 = .ok (.aload_n 0, 1) := dk_42 (dk_at dksX4_terms_1 9 rfl rfl)
theorem dX4_terms_33 : decode cX4_terms 33 = .ok (.iload_n 1, 1) := dk_27 (dk_at dksX4_terms_1 10 rfl rfl)
theorem dX4_terms_34 : decode cX4_terms 34 = .ok (.putfield 23, 3) := dk_181 0 23 (dk_at dksX4_terms_1 11 rfl rfl)
theorem dX4_terms_37 : decode cX4_terms 37 = .ok (.aload_n 0, 1) := dk_42 (dk_at dksX4_terms_1 14 rfl rfl)
theorem dX4_terms_38 : decode cX4_terms 38 = .ok (.iload_n 2, 1) := dk_28 (dk_at dksX4_terms_1 15 rfl rfl)
theorem dX4_terms_39 : decode cX4_terms 39 = .ok (.putfield 27, 3) := dk_181 0 27 (dk_at dksX4_terms_1 16 rfl rfl)
theorem dX4_terms_42 : decode cX4_terms 42 = .ok (.iconst 0, 1) := dk_3 (dk_at dksX4_terms_1 19 rfl rfl)
theorem dX4_terms_43 : decode cX4_terms 43 = .ok (.ireturn, 1) := dk_172 (dk_at dksX4_terms_1 20 rfl rfl)
abbrev cX4_element : ByteArray := prog_20_method_11_code
def yX4_element : MethodName := ⟨RX4, "element", "(ZIIII)I"⟩
def dkwX4_element_6 : List UInt8 := [181, 0, 198, 42, 180, 0, 198, 4, 100, 172]
abbrev dktX4_element_6 : List UInt8 := dkwX4_element_6 ++ []
def dkwX4_element_5 : List UInt8 := [180, 0, 198, 21, 4, 79, 42, 180, 0, 43, 42, 180, 0, 198, 21, 5, 79, 42, 89, 180, 0, 198, 4, 96]
abbrev dktX4_element_5 : List UInt8 := dkwX4_element_5 ++ dktX4_element_6
def dkwX4_element_4 : List UInt8 := [180, 0, 34, 42, 180, 0, 198, 28, 79, 42, 180, 0, 37, 42, 180, 0, 198, 29, 79, 42, 180, 0, 40, 42]
abbrev dktX4_element_4 : List UInt8 := dkwX4_element_4 ++ dktX4_element_5
def dkwX4_element_3 : List UInt8 := [42, 180, 0, 198, 16, 12, 160, 0, 6, 16, 253, 172, 42, 180, 0, 30, 42, 180, 0, 198, 27, 84, 42]
abbrev dktX4_element_3 : List UInt8 := dkwX4_element_3 ++ dktX4_element_4
def dkwX4_element_2 : List UInt8 := [133, 20, 0, 196, 184, 0, 178, 153, 0, 14, 27, 153, 0, 13, 28, 5, 112, 4, 160, 0, 6, 16, 254, 172]
abbrev dktX4_element_2 : List UInt8 := dkwX4_element_2 ++ dktX4_element_3
def dkwX4_element_1 : List UInt8 := [184, 0, 178, 153, 0, 42, 21, 4, 133, 9, 20, 0, 196, 184, 0, 178, 153, 0, 29, 21, 5, 133, 21, 4]
abbrev dktX4_element_1 : List UInt8 := dkwX4_element_1 ++ dktX4_element_2
def dkwX4_element_0 : List UInt8 := [42, 3, 181, 0, 173, 28, 133, 10, 20, 0, 194, 184, 0, 178, 153, 0, 54, 29, 133, 10, 20, 0, 192]
abbrev dktX4_element_0 : List UInt8 := dkwX4_element_0 ++ dktX4_element_1
theorem dksX4_element_0 : cX4_element.data.toList.drop 0 = dktX4_element_0 := by decide +kernel
theorem dksX4_element_1 : cX4_element.data.toList.drop 23 = dktX4_element_1 := dk_seg dksX4_element_0 23 rfl rfl
theorem dksX4_element_2 : cX4_element.data.toList.drop 47 = dktX4_element_2 := dk_seg dksX4_element_1 24 rfl rfl
theorem dksX4_element_3 : cX4_element.data.toList.drop 71 = dktX4_element_3 := dk_seg dksX4_element_2 24 rfl rfl
theorem dksX4_element_4 : cX4_element.data.toList.drop 94 = dktX4_element_4 := dk_seg dksX4_element_3 23 rfl rfl
theorem dksX4_element_5 : cX4_element.data.toList.drop 118 = dktX4_element_5 := dk_seg dksX4_element_4 24 rfl rfl
theorem dksX4_element_6 : cX4_element.data.toList.drop 142 = dktX4_element_6 := dk_seg dksX4_element_5 24 rfl rfl
theorem dX4_element_0 : decode cX4_element 0 = .ok (.aload_n 0, 1) := dk_42 (dk_at dksX4_element_0 0 rfl rfl)
theorem dX4_element_1 : decode cX4_element 1 = .ok (.iconst 0, 1) := dk_3 (dk_at dksX4_element_0 1 rfl rfl)
theorem dX4_element_2 : decode cX4_element 2 = .ok (.putfield 173, 3) := dk_181 0 173 (dk_at dksX4_element_0 2 rfl rfl)
theorem dX4_element_5 : decode cX4_element 5 = .ok (.iload_n 2, 1) := dk_28 (dk_at dksX4_element_0 5 rfl rfl)
theorem dX4_element_6 : decode cX4_element 6 = .ok (.i2l, 1) := dk_133 (dk_at dksX4_element_0 6 rfl rfl)
theorem dX4_element_7 : decode cX4_element 7 = .ok (.lconst 1, 1) := dk_10 (dk_at dksX4_element_0 7 rfl rfl)
theorem dX4_element_8 : decode cX4_element 8 = .ok (.ldc2_w 194, 3) := dk_20 0 194 (dk_at dksX4_element_0 8 rfl rfl)
theorem dX4_element_11 : decode cX4_element 11 = .ok (.invokestatic 178, 3) := dk_184 0 178 (dk_at dksX4_element_0 11 rfl rfl)
theorem dX4_element_14 : decode cX4_element 14 = .ok (.ifCond .eq 54, 3) := dk_153 0 54 (dk_at dksX4_element_0 14 rfl rfl)
theorem dX4_element_17 : decode cX4_element 17 = .ok (.iload_n 3, 1) := dk_29 (dk_at dksX4_element_0 17 rfl rfl)
theorem dX4_element_18 : decode cX4_element 18 = .ok (.i2l, 1) := dk_133 (dk_at dksX4_element_0 18 rfl rfl)
theorem dX4_element_19 : decode cX4_element 19 = .ok (.lconst 1, 1) := dk_10 (dk_at dksX4_element_0 19 rfl rfl)
theorem dX4_element_20 : decode cX4_element 20 = .ok (.ldc2_w 192, 3) := dk_20 0 192 (dk_at dksX4_element_0 20 rfl rfl)
theorem dX4_element_23 : decode cX4_element 23 = .ok (.invokestatic 178, 3) := dk_184 0 178 (dk_at dksX4_element_1 0 rfl rfl)
theorem dX4_element_26 : decode cX4_element 26 = .ok (.ifCond .eq 42, 3) := dk_153 0 42 (dk_at dksX4_element_1 3 rfl rfl)
theorem dX4_element_29 : decode cX4_element 29 = .ok (.iload 4, 2) := dk_21 4 (dk_at dksX4_element_1 6 rfl rfl)
theorem dX4_element_31 : decode cX4_element 31 = .ok (.i2l, 1) := dk_133 (dk_at dksX4_element_1 8 rfl rfl)
theorem dX4_element_32 : decode cX4_element 32 = .ok (.lconst 0, 1) := dk_9 (dk_at dksX4_element_1 9 rfl rfl)
theorem dX4_element_33 : decode cX4_element 33 = .ok (.ldc2_w 196, 3) := dk_20 0 196 (dk_at dksX4_element_1 10 rfl rfl)
theorem dX4_element_36 : decode cX4_element 36 = .ok (.invokestatic 178, 3) := dk_184 0 178 (dk_at dksX4_element_1 13 rfl rfl)
theorem dX4_element_39 : decode cX4_element 39 = .ok (.ifCond .eq 29, 3) := dk_153 0 29 (dk_at dksX4_element_1 16 rfl rfl)
theorem dX4_element_42 : decode cX4_element 42 = .ok (.iload 5, 2) := dk_21 5 (dk_at dksX4_element_1 19 rfl rfl)
theorem dX4_element_44 : decode cX4_element 44 = .ok (.i2l, 1) := dk_133 (dk_at dksX4_element_1 21 rfl rfl)
theorem dX4_element_45 : decode cX4_element 45 = .ok (.iload 4, 2) := dk_21 4 (dk_at dksX4_element_1 22 rfl rfl)
theorem dX4_element_47 : decode cX4_element 47 = .ok (.i2l, 1) := dk_133 (dk_at dksX4_element_2 0 rfl rfl)
theorem dX4_element_48 : decode cX4_element 48 = .ok (.ldc2_w 196, 3) := dk_20 0 196 (dk_at dksX4_element_2 1 rfl rfl)
theorem dX4_element_51 : decode cX4_element 51 = .ok (.invokestatic 178, 3) := dk_184 0 178 (dk_at dksX4_element_2 4 rfl rfl)
theorem dX4_element_54 : decode cX4_element 54 = .ok (.ifCond .eq 14, 3) := dk_153 0 14 (dk_at dksX4_element_2 7 rfl rfl)
theorem dX4_element_57 : decode cX4_element 57 = .ok (.iload_n 1, 1) := dk_27 (dk_at dksX4_element_2 10 rfl rfl)
theorem dX4_element_58 : decode cX4_element 58 = .ok (.ifCond .eq 13, 3) := dk_153 0 13 (dk_at dksX4_element_2 11 rfl rfl)
theorem dX4_element_61 : decode cX4_element 61 = .ok (.iload_n 2, 1) := dk_28 (dk_at dksX4_element_2 14 rfl rfl)
theorem dX4_element_62 : decode cX4_element 62 = .ok (.iconst 2, 1) := dk_5 (dk_at dksX4_element_2 15 rfl rfl)
theorem dX4_element_63 : decode cX4_element 63 = .ok (.irem, 1) := dk_112 (dk_at dksX4_element_2 16 rfl rfl)
theorem dX4_element_64 : decode cX4_element 64 = .ok (.iconst 1, 1) := dk_4 (dk_at dksX4_element_2 17 rfl rfl)
theorem dX4_element_65 : decode cX4_element 65 = .ok (.if_icmp .ne 6, 3) := dk_160 0 6 (dk_at dksX4_element_2 18 rfl rfl)
theorem dX4_element_68 : decode cX4_element 68 = .ok (.bipush (-2), 2) := dk_16 254 (dk_at dksX4_element_2 21 rfl rfl)
theorem dX4_element_70 : decode cX4_element 70 = .ok (.ireturn, 1) := dk_172 (dk_at dksX4_element_2 23 rfl rfl)
theorem dX4_element_71 : decode cX4_element 71 = .ok (.aload_n 0, 1) := dk_42 (dk_at dksX4_element_3 0 rfl rfl)
theorem dX4_element_72 : decode cX4_element 72 = .ok (.getfield 198, 3) := dk_180 0 198 (dk_at dksX4_element_3 1 rfl rfl)
theorem dX4_element_75 : decode cX4_element 75 = .ok (.bipush 12, 2) := dk_16 12 (dk_at dksX4_element_3 4 rfl rfl)
theorem dX4_element_77 : decode cX4_element 77 = .ok (.if_icmp .ne 6, 3) := dk_160 0 6 (dk_at dksX4_element_3 6 rfl rfl)
theorem dX4_element_80 : decode cX4_element 80 = .ok (.bipush (-3), 2) := dk_16 253 (dk_at dksX4_element_3 9 rfl rfl)
theorem dX4_element_82 : decode cX4_element 82 = .ok (.ireturn, 1) := dk_172 (dk_at dksX4_element_3 11 rfl rfl)
theorem dX4_element_83 : decode cX4_element 83 = .ok (.aload_n 0, 1) := dk_42 (dk_at dksX4_element_3 12 rfl rfl)
theorem dX4_element_84 : decode cX4_element 84 = .ok (.getfield 30, 3) := dk_180 0 30 (dk_at dksX4_element_3 13 rfl rfl)
theorem dX4_element_87 : decode cX4_element 87 = .ok (.aload_n 0, 1) := dk_42 (dk_at dksX4_element_3 16 rfl rfl)
theorem dX4_element_88 : decode cX4_element 88 = .ok (.getfield 198, 3) := dk_180 0 198 (dk_at dksX4_element_3 17 rfl rfl)
theorem dX4_element_91 : decode cX4_element 91 = .ok (.iload_n 1, 1) := dk_27 (dk_at dksX4_element_3 20 rfl rfl)
theorem dX4_element_92 : decode cX4_element 92 = .ok (.bastore, 1) := dk_84 (dk_at dksX4_element_3 21 rfl rfl)
theorem dX4_element_93 : decode cX4_element 93 = .ok (.aload_n 0, 1) := dk_42 (dk_at dksX4_element_3 22 rfl rfl)
theorem dX4_element_94 : decode cX4_element 94 = .ok (.getfield 34, 3) := dk_180 0 34 (dk_at dksX4_element_4 0 rfl rfl)
theorem dX4_element_97 : decode cX4_element 97 = .ok (.aload_n 0, 1) := dk_42 (dk_at dksX4_element_4 3 rfl rfl)
theorem dX4_element_98 : decode cX4_element 98 = .ok (.getfield 198, 3) := dk_180 0 198 (dk_at dksX4_element_4 4 rfl rfl)
theorem dX4_element_101 : decode cX4_element 101 = .ok (.iload_n 2, 1) := dk_28 (dk_at dksX4_element_4 7 rfl rfl)
theorem dX4_element_102 : decode cX4_element 102 = .ok (.iastore, 1) := dk_79 (dk_at dksX4_element_4 8 rfl rfl)
theorem dX4_element_103 : decode cX4_element 103 = .ok (.aload_n 0, 1) := dk_42 (dk_at dksX4_element_4 9 rfl rfl)
theorem dX4_element_104 : decode cX4_element 104 = .ok (.getfield 37, 3) := dk_180 0 37 (dk_at dksX4_element_4 10 rfl rfl)
theorem dX4_element_107 : decode cX4_element 107 = .ok (.aload_n 0, 1) := dk_42 (dk_at dksX4_element_4 13 rfl rfl)
theorem dX4_element_108 : decode cX4_element 108 = .ok (.getfield 198, 3) := dk_180 0 198 (dk_at dksX4_element_4 14 rfl rfl)
theorem dX4_element_111 : decode cX4_element 111 = .ok (.iload_n 3, 1) := dk_29 (dk_at dksX4_element_4 17 rfl rfl)
theorem dX4_element_112 : decode cX4_element 112 = .ok (.iastore, 1) := dk_79 (dk_at dksX4_element_4 18 rfl rfl)
theorem dX4_element_113 : decode cX4_element 113 = .ok (.aload_n 0, 1) := dk_42 (dk_at dksX4_element_4 19 rfl rfl)
theorem dX4_element_114 : decode cX4_element 114 = .ok (.getfield 40, 3) := dk_180 0 40 (dk_at dksX4_element_4 20 rfl rfl)
theorem dX4_element_117 : decode cX4_element 117 = .ok (.aload_n 0, 1) := dk_42 (dk_at dksX4_element_4 23 rfl rfl)
theorem dX4_element_118 : decode cX4_element 118 = .ok (.getfield 198, 3) := dk_180 0 198 (dk_at dksX4_element_5 0 rfl rfl)
theorem dX4_element_121 : decode cX4_element 121 = .ok (.iload 4, 2) := dk_21 4 (dk_at dksX4_element_5 3 rfl rfl)
theorem dX4_element_123 : decode cX4_element 123 = .ok (.iastore, 1) := dk_79 (dk_at dksX4_element_5 5 rfl rfl)
theorem dX4_element_124 : decode cX4_element 124 = .ok (.aload_n 0, 1) := dk_42 (dk_at dksX4_element_5 6 rfl rfl)
theorem dX4_element_125 : decode cX4_element 125 = .ok (.getfield 43, 3) := dk_180 0 43 (dk_at dksX4_element_5 7 rfl rfl)
theorem dX4_element_128 : decode cX4_element 128 = .ok (.aload_n 0, 1) := dk_42 (dk_at dksX4_element_5 10 rfl rfl)
theorem dX4_element_129 : decode cX4_element 129 = .ok (.getfield 198, 3) := dk_180 0 198 (dk_at dksX4_element_5 11 rfl rfl)
theorem dX4_element_132 : decode cX4_element 132 = .ok (.iload 5, 2) := dk_21 5 (dk_at dksX4_element_5 14 rfl rfl)
theorem dX4_element_134 : decode cX4_element 134 = .ok (.iastore, 1) := dk_79 (dk_at dksX4_element_5 16 rfl rfl)
theorem dX4_element_135 : decode cX4_element 135 = .ok (.aload_n 0, 1) := dk_42 (dk_at dksX4_element_5 17 rfl rfl)
theorem dX4_element_136 : decode cX4_element 136 = .ok (.dup, 1) := dk_89 (dk_at dksX4_element_5 18 rfl rfl)
theorem dX4_element_137 : decode cX4_element 137 = .ok (.getfield 198, 3) := dk_180 0 198 (dk_at dksX4_element_5 19 rfl rfl)
theorem dX4_element_140 : decode cX4_element 140 = .ok (.iconst 1, 1) := dk_4 (dk_at dksX4_element_5 22 rfl rfl)
theorem dX4_element_141 : decode cX4_element 141 = .ok (.iadd, 1) := dk_96 (dk_at dksX4_element_5 23 rfl rfl)
theorem dX4_element_142 : decode cX4_element 142 = .ok (.putfield 198, 3) := dk_181 0 198 (dk_at dksX4_element_6 0 rfl rfl)
theorem dX4_element_145 : decode cX4_element 145 = .ok (.aload_n 0, 1) := dk_42 (dk_at dksX4_element_6 3 rfl rfl)
theorem dX4_element_146 : decode cX4_element 146 = .ok (.getfield 198, 3) := dk_180 0 198 (dk_at dksX4_element_6 4 rfl rfl)
theorem dX4_element_149 : decode cX4_element 149 = .ok (.iconst 1, 1) := dk_4 (dk_at dksX4_element_6 7 rfl rfl)
theorem dX4_element_150 : decode cX4_element 150 = .ok (.isub, 1) := dk_100 (dk_at dksX4_element_6 8 rfl rfl)
theorem dX4_element_151 : decode cX4_element 151 = .ok (.ireturn, 1) := dk_172 (dk_at dksX4_element_6 9 rfl rfl)
abbrev cX4_meat : ByteArray := prog_20_method_17_code
def yX4_meat : MethodName := ⟨RX4, "meat", "(II)I"⟩
def dkwX4_meat_1 : List UInt8 := [16, 254, 172, 42, 180, 0, 46, 27, 46, 62, 42, 180, 0, 46, 27, 28, 79, 29, 172]
abbrev dktX4_meat_1 : List UInt8 := dkwX4_meat_1 ++ []
def dkwX4_meat_0 : List UInt8 := [42, 3, 181, 0, 173, 27, 184, 0, 212, 153, 0, 15, 28, 133, 9, 20, 0, 215, 184, 0, 178, 154, 0, 6]
abbrev dktX4_meat_0 : List UInt8 := dkwX4_meat_0 ++ dktX4_meat_1
theorem dksX4_meat_0 : cX4_meat.data.toList.drop 0 = dktX4_meat_0 := by decide +kernel
theorem dksX4_meat_1 : cX4_meat.data.toList.drop 24 = dktX4_meat_1 := dk_seg dksX4_meat_0 24 rfl rfl
theorem dX4_meat_0 : decode cX4_meat 0 = .ok (.aload_n 0, 1) := dk_42 (dk_at dksX4_meat_0 0 rfl rfl)
theorem dX4_meat_1 : decode cX4_meat 1 = .ok (.iconst 0, 1) := dk_3 (dk_at dksX4_meat_0 1 rfl rfl)
theorem dX4_meat_2 : decode cX4_meat 2 = .ok (.putfield 173, 3) := dk_181 0 173 (dk_at dksX4_meat_0 2 rfl rfl)
theorem dX4_meat_5 : decode cX4_meat 5 = .ok (.iload_n 1, 1) := dk_27 (dk_at dksX4_meat_0 5 rfl rfl)
theorem dX4_meat_6 : decode cX4_meat 6 = .ok (.invokestatic 212, 3) := dk_184 0 212 (dk_at dksX4_meat_0 6 rfl rfl)
theorem dX4_meat_9 : decode cX4_meat 9 = .ok (.ifCond .eq 15, 3) := dk_153 0 15 (dk_at dksX4_meat_0 9 rfl rfl)
theorem dX4_meat_12 : decode cX4_meat 12 = .ok (.iload_n 2, 1) := dk_28 (dk_at dksX4_meat_0 12 rfl rfl)
theorem dX4_meat_13 : decode cX4_meat 13 = .ok (.i2l, 1) := dk_133 (dk_at dksX4_meat_0 13 rfl rfl)
theorem dX4_meat_14 : decode cX4_meat 14 = .ok (.lconst 0, 1) := dk_9 (dk_at dksX4_meat_0 14 rfl rfl)
theorem dX4_meat_15 : decode cX4_meat 15 = .ok (.ldc2_w 215, 3) := dk_20 0 215 (dk_at dksX4_meat_0 15 rfl rfl)
theorem dX4_meat_18 : decode cX4_meat 18 = .ok (.invokestatic 178, 3) := dk_184 0 178 (dk_at dksX4_meat_0 18 rfl rfl)
theorem dX4_meat_21 : decode cX4_meat 21 = .ok (.ifCond .ne 6, 3) := dk_154 0 6 (dk_at dksX4_meat_0 21 rfl rfl)
theorem dX4_meat_24 : decode cX4_meat 24 = .ok (.bipush (-2), 2) := dk_16 254 (dk_at dksX4_meat_1 0 rfl rfl)
theorem dX4_meat_26 : decode cX4_meat 26 = .ok (.ireturn, 1) := dk_172 (dk_at dksX4_meat_1 2 rfl rfl)
theorem dX4_meat_27 : decode cX4_meat 27 = .ok (.aload_n 0, 1) := dk_42 (dk_at dksX4_meat_1 3 rfl rfl)
theorem dX4_meat_28 : decode cX4_meat 28 = .ok (.getfield 46, 3) := dk_180 0 46 (dk_at dksX4_meat_1 4 rfl rfl)
theorem dX4_meat_31 : decode cX4_meat 31 = .ok (.iload_n 1, 1) := dk_27 (dk_at dksX4_meat_1 7 rfl rfl)
theorem dX4_meat_32 : decode cX4_meat 32 = .ok (.iaload, 1) := dk_46 (dk_at dksX4_meat_1 8 rfl rfl)
theorem dX4_meat_33 : decode cX4_meat 33 = .ok (.istore_n 3, 1) := dk_62 (dk_at dksX4_meat_1 9 rfl rfl)
theorem dX4_meat_34 : decode cX4_meat 34 = .ok (.aload_n 0, 1) := dk_42 (dk_at dksX4_meat_1 10 rfl rfl)
theorem dX4_meat_35 : decode cX4_meat 35 = .ok (.getfield 46, 3) := dk_180 0 46 (dk_at dksX4_meat_1 11 rfl rfl)
theorem dX4_meat_38 : decode cX4_meat 38 = .ok (.iload_n 1, 1) := dk_27 (dk_at dksX4_meat_1 14 rfl rfl)
theorem dX4_meat_39 : decode cX4_meat 39 = .ok (.iload_n 2, 1) := dk_28 (dk_at dksX4_meat_1 15 rfl rfl)
theorem dX4_meat_40 : decode cX4_meat 40 = .ok (.iastore, 1) := dk_79 (dk_at dksX4_meat_1 16 rfl rfl)
theorem dX4_meat_41 : decode cX4_meat 41 = .ok (.iload_n 3, 1) := dk_29 (dk_at dksX4_meat_1 17 rfl rfl)
theorem dX4_meat_42 : decode cX4_meat 42 = .ok (.ireturn, 1) := dk_172 (dk_at dksX4_meat_1 18 rfl rfl)
abbrev cX4_isKind : ByteArray := prog_20_method_12_code
def yX4_isKind : MethodName := ⟨RX4, "isKind", "(I)Z"⟩
def dkwX4_isKind_0 : List UInt8 := [26, 133, 9, 20, 0, 201, 184, 0, 178, 172]
abbrev dktX4_isKind_0 : List UInt8 := dkwX4_isKind_0 ++ []
theorem dksX4_isKind_0 : cX4_isKind.data.toList.drop 0 = dktX4_isKind_0 := by decide +kernel
theorem dX4_isKind_0 : decode cX4_isKind 0 = .ok (.iload_n 0, 1) := dk_26 (dk_at dksX4_isKind_0 0 rfl rfl)
theorem dX4_isKind_1 : decode cX4_isKind 1 = .ok (.i2l, 1) := dk_133 (dk_at dksX4_isKind_0 1 rfl rfl)
theorem dX4_isKind_2 : decode cX4_isKind 2 = .ok (.lconst 0, 1) := dk_9 (dk_at dksX4_isKind_0 2 rfl rfl)
theorem dX4_isKind_3 : decode cX4_isKind 3 = .ok (.ldc2_w 201, 3) := dk_20 0 201 (dk_at dksX4_isKind_0 3 rfl rfl)
theorem dX4_isKind_6 : decode cX4_isKind 6 = .ok (.invokestatic 178, 3) := dk_184 0 178 (dk_at dksX4_isKind_0 6 rfl rfl)
theorem dX4_isKind_9 : decode cX4_isKind 9 = .ok (.ireturn, 1) := dk_172 (dk_at dksX4_isKind_0 9 rfl rfl)
abbrev cX4_layer : ByteArray := prog_20_method_18_code
def yX4_layer : MethodName := ⟨RX4, "layer", "(I)I"⟩
def dkwX4_layer_2 : List UInt8 := [180, 0, 203, 17, 7, 208, 79, 42, 89, 180, 0, 203, 4, 96, 181, 0, 203, 42, 180, 0, 203, 4, 100, 172]
abbrev dktX4_layer_2 : List UInt8 := dkwX4_layer_2 ++ []
def dkwX4_layer_1 : List UInt8 := [16, 16, 160, 0, 6, 16, 253, 172, 42, 180, 0, 49, 42, 180, 0, 203, 27, 79, 42, 180, 0, 52, 42]
abbrev dktX4_layer_1 : List UInt8 := dkwX4_layer_1 ++ dktX4_layer_2
def dkwX4_layer_0 : List UInt8 := [42, 3, 181, 0, 173, 27, 133, 9, 20, 0, 217, 184, 0, 178, 154, 0, 6, 16, 254, 172, 42, 180, 0, 203]
abbrev dktX4_layer_0 : List UInt8 := dkwX4_layer_0 ++ dktX4_layer_1
theorem dksX4_layer_0 : cX4_layer.data.toList.drop 0 = dktX4_layer_0 := by decide +kernel
theorem dksX4_layer_1 : cX4_layer.data.toList.drop 24 = dktX4_layer_1 := dk_seg dksX4_layer_0 24 rfl rfl
theorem dksX4_layer_2 : cX4_layer.data.toList.drop 47 = dktX4_layer_2 := dk_seg dksX4_layer_1 23 rfl rfl
theorem dX4_layer_0 : decode cX4_layer 0 = .ok (.aload_n 0, 1) := dk_42 (dk_at dksX4_layer_0 0 rfl rfl)
theorem dX4_layer_1 : decode cX4_layer 1 = .ok (.iconst 0, 1) := dk_3 (dk_at dksX4_layer_0 1 rfl rfl)
theorem dX4_layer_2 : decode cX4_layer 2 = .ok (.putfield 173, 3) := dk_181 0 173 (dk_at dksX4_layer_0 2 rfl rfl)
theorem dX4_layer_5 : decode cX4_layer 5 = .ok (.iload_n 1, 1) := dk_27 (dk_at dksX4_layer_0 5 rfl rfl)
theorem dX4_layer_6 : decode cX4_layer 6 = .ok (.i2l, 1) := dk_133 (dk_at dksX4_layer_0 6 rfl rfl)
theorem dX4_layer_7 : decode cX4_layer 7 = .ok (.lconst 0, 1) := dk_9 (dk_at dksX4_layer_0 7 rfl rfl)
theorem dX4_layer_8 : decode cX4_layer 8 = .ok (.ldc2_w 217, 3) := dk_20 0 217 (dk_at dksX4_layer_0 8 rfl rfl)
theorem dX4_layer_11 : decode cX4_layer 11 = .ok (.invokestatic 178, 3) := dk_184 0 178 (dk_at dksX4_layer_0 11 rfl rfl)
theorem dX4_layer_14 : decode cX4_layer 14 = .ok (.ifCond .ne 6, 3) := dk_154 0 6 (dk_at dksX4_layer_0 14 rfl rfl)
theorem dX4_layer_17 : decode cX4_layer 17 = .ok (.bipush (-2), 2) := dk_16 254 (dk_at dksX4_layer_0 17 rfl rfl)
theorem dX4_layer_19 : decode cX4_layer 19 = .ok (.ireturn, 1) := dk_172 (dk_at dksX4_layer_0 19 rfl rfl)
theorem dX4_layer_20 : decode cX4_layer 20 = .ok (.aload_n 0, 1) := dk_42 (dk_at dksX4_layer_0 20 rfl rfl)
theorem dX4_layer_21 : decode cX4_layer 21 = .ok (.getfield 203, 3) := dk_180 0 203 (dk_at dksX4_layer_0 21 rfl rfl)
theorem dX4_layer_24 : decode cX4_layer 24 = .ok (.bipush 16, 2) := dk_16 16 (dk_at dksX4_layer_1 0 rfl rfl)
theorem dX4_layer_26 : decode cX4_layer 26 = .ok (.if_icmp .ne 6, 3) := dk_160 0 6 (dk_at dksX4_layer_1 2 rfl rfl)
theorem dX4_layer_29 : decode cX4_layer 29 = .ok (.bipush (-3), 2) := dk_16 253 (dk_at dksX4_layer_1 5 rfl rfl)
theorem dX4_layer_31 : decode cX4_layer 31 = .ok (.ireturn, 1) := dk_172 (dk_at dksX4_layer_1 7 rfl rfl)
theorem dX4_layer_32 : decode cX4_layer 32 = .ok (.aload_n 0, 1) := dk_42 (dk_at dksX4_layer_1 8 rfl rfl)
theorem dX4_layer_33 : decode cX4_layer 33 = .ok (.getfield 49, 3) := dk_180 0 49 (dk_at dksX4_layer_1 9 rfl rfl)
theorem dX4_layer_36 : decode cX4_layer 36 = .ok (.aload_n 0, 1) := dk_42 (dk_at dksX4_layer_1 12 rfl rfl)
theorem dX4_layer_37 : decode cX4_layer 37 = .ok (.getfield 203, 3) := dk_180 0 203 (dk_at dksX4_layer_1 13 rfl rfl)
theorem dX4_layer_40 : decode cX4_layer 40 = .ok (.iload_n 1, 1) := dk_27 (dk_at dksX4_layer_1 16 rfl rfl)
theorem dX4_layer_41 : decode cX4_layer 41 = .ok (.iastore, 1) := dk_79 (dk_at dksX4_layer_1 17 rfl rfl)
theorem dX4_layer_42 : decode cX4_layer 42 = .ok (.aload_n 0, 1) := dk_42 (dk_at dksX4_layer_1 18 rfl rfl)
theorem dX4_layer_43 : decode cX4_layer 43 = .ok (.getfield 52, 3) := dk_180 0 52 (dk_at dksX4_layer_1 19 rfl rfl)
theorem dX4_layer_46 : decode cX4_layer 46 = .ok (.aload_n 0, 1) := dk_42 (dk_at dksX4_layer_1 22 rfl rfl)
theorem dX4_layer_47 : decode cX4_layer 47 = .ok (.getfield 203, 3) := dk_180 0 203 (dk_at dksX4_layer_2 0 rfl rfl)
theorem dX4_layer_50 : decode cX4_layer 50 = .ok (.sipush 2000, 3) := dk_17 7 208 (dk_at dksX4_layer_2 3 rfl rfl)
theorem dX4_layer_53 : decode cX4_layer 53 = .ok (.iastore, 1) := dk_79 (dk_at dksX4_layer_2 6 rfl rfl)
theorem dX4_layer_54 : decode cX4_layer 54 = .ok (.aload_n 0, 1) := dk_42 (dk_at dksX4_layer_2 7 rfl rfl)
theorem dX4_layer_55 : decode cX4_layer 55 = .ok (.dup, 1) := dk_89 (dk_at dksX4_layer_2 8 rfl rfl)
theorem dX4_layer_56 : decode cX4_layer 56 = .ok (.getfield 203, 3) := dk_180 0 203 (dk_at dksX4_layer_2 9 rfl rfl)
theorem dX4_layer_59 : decode cX4_layer 59 = .ok (.iconst 1, 1) := dk_4 (dk_at dksX4_layer_2 12 rfl rfl)
theorem dX4_layer_60 : decode cX4_layer 60 = .ok (.iadd, 1) := dk_96 (dk_at dksX4_layer_2 13 rfl rfl)
theorem dX4_layer_61 : decode cX4_layer 61 = .ok (.putfield 203, 3) := dk_181 0 203 (dk_at dksX4_layer_2 14 rfl rfl)
theorem dX4_layer_64 : decode cX4_layer 64 = .ok (.aload_n 0, 1) := dk_42 (dk_at dksX4_layer_2 17 rfl rfl)
theorem dX4_layer_65 : decode cX4_layer 65 = .ok (.getfield 203, 3) := dk_180 0 203 (dk_at dksX4_layer_2 18 rfl rfl)
theorem dX4_layer_68 : decode cX4_layer 68 = .ok (.iconst 1, 1) := dk_4 (dk_at dksX4_layer_2 21 rfl rfl)
theorem dX4_layer_69 : decode cX4_layer 69 = .ok (.isub, 1) := dk_100 (dk_at dksX4_layer_2 22 rfl rfl)
theorem dX4_layer_70 : decode cX4_layer 70 = .ok (.ireturn, 1) := dk_172 (dk_at dksX4_layer_2 23 rfl rfl)
abbrev cX4_over : ByteArray := prog_20_method_23_code
def yX4_over : MethodName := ⟨RX4, "over", "(II)I"⟩
def dkwX4_over_6 : List UInt8 := [167, 0, 13, 29, 153, 0, 8, 16, 253, 167, 0, 4, 3, 172]
abbrev dktX4_over_6 : List UInt8 := dkwX4_over_6 ++ []
def dkwX4_over_5 : List UInt8 := [153, 0, 7, 29, 153, 0, 13, 42, 89, 180, 0, 219, 4, 100, 181, 0, 219, 21, 4, 154, 0, 8, 16, 249]
abbrev dktX4_over_5 : List UInt8 := dkwX4_over_5 ++ dktX4_over_6
def dkwX4_over_4 : List UInt8 := [180, 0, 219, 28, 79, 42, 89, 180, 0, 219, 4, 96, 181, 0, 219, 42, 182, 0, 248, 54, 4, 21, 4]
abbrev dktX4_over_4 : List UInt8 := dkwX4_over_4 ++ dktX4_over_5
def dkwX4_over_3 : List UInt8 := [160, 0, 7, 4, 167, 0, 4, 3, 62, 42, 180, 0, 55, 42, 180, 0, 219, 27, 79, 42, 180, 0, 58, 42]
abbrev dktX4_over_3 : List UInt8 := dkwX4_over_3 ++ dktX4_over_4
def dkwX4_over_2 : List UInt8 := [42, 180, 0, 125, 16, 16, 27, 104, 28, 96, 51, 153, 0, 6, 16, 249, 172, 42, 180, 0, 219, 16, 60]
abbrev dktX4_over_2 : List UInt8 := dkwX4_over_2 ++ dktX4_over_3
def dkwX4_over_1 : List UInt8 := [160, 0, 6, 16, 254, 172, 42, 182, 0, 245, 42, 180, 0, 122, 16, 16, 28, 104, 27, 96, 51, 154, 0, 17]
abbrev dktX4_over_1 : List UInt8 := dkwX4_over_1 ++ dktX4_over_2
def dkwX4_over_0 : List UInt8 := [42, 3, 181, 0, 173, 42, 27, 182, 0, 242, 153, 0, 16, 42, 28, 182, 0, 242, 153, 0, 8, 27, 28]
abbrev dktX4_over_0 : List UInt8 := dkwX4_over_0 ++ dktX4_over_1
theorem dksX4_over_0 : cX4_over.data.toList.drop 0 = dktX4_over_0 := by decide +kernel
theorem dksX4_over_1 : cX4_over.data.toList.drop 23 = dktX4_over_1 := dk_seg dksX4_over_0 23 rfl rfl
theorem dksX4_over_2 : cX4_over.data.toList.drop 47 = dktX4_over_2 := dk_seg dksX4_over_1 24 rfl rfl
theorem dksX4_over_3 : cX4_over.data.toList.drop 70 = dktX4_over_3 := dk_seg dksX4_over_2 23 rfl rfl
theorem dksX4_over_4 : cX4_over.data.toList.drop 94 = dktX4_over_4 := dk_seg dksX4_over_3 24 rfl rfl
theorem dksX4_over_5 : cX4_over.data.toList.drop 117 = dktX4_over_5 := dk_seg dksX4_over_4 23 rfl rfl
theorem dksX4_over_6 : cX4_over.data.toList.drop 141 = dktX4_over_6 := dk_seg dksX4_over_5 24 rfl rfl
theorem dX4_over_0 : decode cX4_over 0 = .ok (.aload_n 0, 1) := dk_42 (dk_at dksX4_over_0 0 rfl rfl)
theorem dX4_over_1 : decode cX4_over 1 = .ok (.iconst 0, 1) := dk_3 (dk_at dksX4_over_0 1 rfl rfl)
theorem dX4_over_2 : decode cX4_over 2 = .ok (.putfield 173, 3) := dk_181 0 173 (dk_at dksX4_over_0 2 rfl rfl)
theorem dX4_over_5 : decode cX4_over 5 = .ok (.aload_n 0, 1) := dk_42 (dk_at dksX4_over_0 5 rfl rfl)
theorem dX4_over_6 : decode cX4_over 6 = .ok (.iload_n 1, 1) := dk_27 (dk_at dksX4_over_0 6 rfl rfl)
theorem dX4_over_7 : decode cX4_over 7 = .ok (.invokevirtual 242, 3) := dk_182 0 242 (dk_at dksX4_over_0 7 rfl rfl)
theorem dX4_over_10 : decode cX4_over 10 = .ok (.ifCond .eq 16, 3) := dk_153 0 16 (dk_at dksX4_over_0 10 rfl rfl)
theorem dX4_over_13 : decode cX4_over 13 = .ok (.aload_n 0, 1) := dk_42 (dk_at dksX4_over_0 13 rfl rfl)
theorem dX4_over_14 : decode cX4_over 14 = .ok (.iload_n 2, 1) := dk_28 (dk_at dksX4_over_0 14 rfl rfl)
theorem dX4_over_15 : decode cX4_over 15 = .ok (.invokevirtual 242, 3) := dk_182 0 242 (dk_at dksX4_over_0 15 rfl rfl)
theorem dX4_over_18 : decode cX4_over 18 = .ok (.ifCond .eq 8, 3) := dk_153 0 8 (dk_at dksX4_over_0 18 rfl rfl)
theorem dX4_over_21 : decode cX4_over 21 = .ok (.iload_n 1, 1) := dk_27 (dk_at dksX4_over_0 21 rfl rfl)
theorem dX4_over_22 : decode cX4_over 22 = .ok (.iload_n 2, 1) := dk_28 (dk_at dksX4_over_0 22 rfl rfl)
theorem dX4_over_23 : decode cX4_over 23 = .ok (.if_icmp .ne 6, 3) := dk_160 0 6 (dk_at dksX4_over_1 0 rfl rfl)
theorem dX4_over_26 : decode cX4_over 26 = .ok (.bipush (-2), 2) := dk_16 254 (dk_at dksX4_over_1 3 rfl rfl)
theorem dX4_over_28 : decode cX4_over 28 = .ok (.ireturn, 1) := dk_172 (dk_at dksX4_over_1 5 rfl rfl)
theorem dX4_over_29 : decode cX4_over 29 = .ok (.aload_n 0, 1) := dk_42 (dk_at dksX4_over_1 6 rfl rfl)
theorem dX4_over_30 : decode cX4_over 30 = .ok (.invokevirtual 245, 3) := dk_182 0 245 (dk_at dksX4_over_1 7 rfl rfl)
theorem dX4_over_33 : decode cX4_over 33 = .ok (.aload_n 0, 1) := dk_42 (dk_at dksX4_over_1 10 rfl rfl)
theorem dX4_over_34 : decode cX4_over 34 = .ok (.getfield 122, 3) := dk_180 0 122 (dk_at dksX4_over_1 11 rfl rfl)
theorem dX4_over_37 : decode cX4_over 37 = .ok (.bipush 16, 2) := dk_16 16 (dk_at dksX4_over_1 14 rfl rfl)
theorem dX4_over_39 : decode cX4_over 39 = .ok (.iload_n 2, 1) := dk_28 (dk_at dksX4_over_1 16 rfl rfl)
theorem dX4_over_40 : decode cX4_over 40 = .ok (.imul, 1) := dk_104 (dk_at dksX4_over_1 17 rfl rfl)
theorem dX4_over_41 : decode cX4_over 41 = .ok (.iload_n 1, 1) := dk_27 (dk_at dksX4_over_1 18 rfl rfl)
theorem dX4_over_42 : decode cX4_over 42 = .ok (.iadd, 1) := dk_96 (dk_at dksX4_over_1 19 rfl rfl)
theorem dX4_over_43 : decode cX4_over 43 = .ok (.baload, 1) := dk_51 (dk_at dksX4_over_1 20 rfl rfl)
theorem dX4_over_44 : decode cX4_over 44 = .ok (.ifCond .ne 17, 3) := dk_154 0 17 (dk_at dksX4_over_1 21 rfl rfl)
theorem dX4_over_47 : decode cX4_over 47 = .ok (.aload_n 0, 1) := dk_42 (dk_at dksX4_over_2 0 rfl rfl)
theorem dX4_over_48 : decode cX4_over 48 = .ok (.getfield 125, 3) := dk_180 0 125 (dk_at dksX4_over_2 1 rfl rfl)
theorem dX4_over_51 : decode cX4_over 51 = .ok (.bipush 16, 2) := dk_16 16 (dk_at dksX4_over_2 4 rfl rfl)
theorem dX4_over_53 : decode cX4_over 53 = .ok (.iload_n 1, 1) := dk_27 (dk_at dksX4_over_2 6 rfl rfl)
theorem dX4_over_54 : decode cX4_over 54 = .ok (.imul, 1) := dk_104 (dk_at dksX4_over_2 7 rfl rfl)
theorem dX4_over_55 : decode cX4_over 55 = .ok (.iload_n 2, 1) := dk_28 (dk_at dksX4_over_2 8 rfl rfl)
theorem dX4_over_56 : decode cX4_over 56 = .ok (.iadd, 1) := dk_96 (dk_at dksX4_over_2 9 rfl rfl)
theorem dX4_over_57 : decode cX4_over 57 = .ok (.baload, 1) := dk_51 (dk_at dksX4_over_2 10 rfl rfl)
theorem dX4_over_58 : decode cX4_over 58 = .ok (.ifCond .eq 6, 3) := dk_153 0 6 (dk_at dksX4_over_2 11 rfl rfl)
theorem dX4_over_61 : decode cX4_over 61 = .ok (.bipush (-7), 2) := dk_16 249 (dk_at dksX4_over_2 14 rfl rfl)
theorem dX4_over_63 : decode cX4_over 63 = .ok (.ireturn, 1) := dk_172 (dk_at dksX4_over_2 16 rfl rfl)
theorem dX4_over_64 : decode cX4_over 64 = .ok (.aload_n 0, 1) := dk_42 (dk_at dksX4_over_2 17 rfl rfl)
theorem dX4_over_65 : decode cX4_over 65 = .ok (.getfield 219, 3) := dk_180 0 219 (dk_at dksX4_over_2 18 rfl rfl)
theorem dX4_over_68 : decode cX4_over 68 = .ok (.bipush 60, 2) := dk_16 60 (dk_at dksX4_over_2 21 rfl rfl)
theorem dX4_over_70 : decode cX4_over 70 = .ok (.if_icmp .ne 7, 3) := dk_160 0 7 (dk_at dksX4_over_3 0 rfl rfl)
theorem dX4_over_73 : decode cX4_over 73 = .ok (.iconst 1, 1) := dk_4 (dk_at dksX4_over_3 3 rfl rfl)
theorem dX4_over_74 : decode cX4_over 74 = .ok (.goto 4, 3) := dk_167 0 4 (dk_at dksX4_over_3 4 rfl rfl)
theorem dX4_over_77 : decode cX4_over 77 = .ok (.iconst 0, 1) := dk_3 (dk_at dksX4_over_3 7 rfl rfl)
theorem dX4_over_78 : decode cX4_over 78 = .ok (.istore_n 3, 1) := dk_62 (dk_at dksX4_over_3 8 rfl rfl)
theorem dX4_over_79 : decode cX4_over 79 = .ok (.aload_n 0, 1) := dk_42 (dk_at dksX4_over_3 9 rfl rfl)
theorem dX4_over_80 : decode cX4_over 80 = .ok (.getfield 55, 3) := dk_180 0 55 (dk_at dksX4_over_3 10 rfl rfl)
theorem dX4_over_83 : decode cX4_over 83 = .ok (.aload_n 0, 1) := dk_42 (dk_at dksX4_over_3 13 rfl rfl)
theorem dX4_over_84 : decode cX4_over 84 = .ok (.getfield 219, 3) := dk_180 0 219 (dk_at dksX4_over_3 14 rfl rfl)
theorem dX4_over_87 : decode cX4_over 87 = .ok (.iload_n 1, 1) := dk_27 (dk_at dksX4_over_3 17 rfl rfl)
theorem dX4_over_88 : decode cX4_over 88 = .ok (.iastore, 1) := dk_79 (dk_at dksX4_over_3 18 rfl rfl)
theorem dX4_over_89 : decode cX4_over 89 = .ok (.aload_n 0, 1) := dk_42 (dk_at dksX4_over_3 19 rfl rfl)
theorem dX4_over_90 : decode cX4_over 90 = .ok (.getfield 58, 3) := dk_180 0 58 (dk_at dksX4_over_3 20 rfl rfl)
theorem dX4_over_93 : decode cX4_over 93 = .ok (.aload_n 0, 1) := dk_42 (dk_at dksX4_over_3 23 rfl rfl)
theorem dX4_over_94 : decode cX4_over 94 = .ok (.getfield 219, 3) := dk_180 0 219 (dk_at dksX4_over_4 0 rfl rfl)
theorem dX4_over_97 : decode cX4_over 97 = .ok (.iload_n 2, 1) := dk_28 (dk_at dksX4_over_4 3 rfl rfl)
theorem dX4_over_98 : decode cX4_over 98 = .ok (.iastore, 1) := dk_79 (dk_at dksX4_over_4 4 rfl rfl)
theorem dX4_over_99 : decode cX4_over 99 = .ok (.aload_n 0, 1) := dk_42 (dk_at dksX4_over_4 5 rfl rfl)
theorem dX4_over_100 : decode cX4_over 100 = .ok (.dup, 1) := dk_89 (dk_at dksX4_over_4 6 rfl rfl)
theorem dX4_over_101 : decode cX4_over 101 = .ok (.getfield 219, 3) := dk_180 0 219 (dk_at dksX4_over_4 7 rfl rfl)
theorem dX4_over_104 : decode cX4_over 104 = .ok (.iconst 1, 1) := dk_4 (dk_at dksX4_over_4 10 rfl rfl)
theorem dX4_over_105 : decode cX4_over 105 = .ok (.iadd, 1) := dk_96 (dk_at dksX4_over_4 11 rfl rfl)
theorem dX4_over_106 : decode cX4_over 106 = .ok (.putfield 219, 3) := dk_181 0 219 (dk_at dksX4_over_4 12 rfl rfl)
theorem dX4_over_109 : decode cX4_over 109 = .ok (.aload_n 0, 1) := dk_42 (dk_at dksX4_over_4 15 rfl rfl)
theorem dX4_over_110 : decode cX4_over 110 = .ok (.invokevirtual 248, 3) := dk_182 0 248 (dk_at dksX4_over_4 16 rfl rfl)
theorem dX4_over_113 : decode cX4_over 113 = .ok (.istore 4, 2) := dk_54 4 (dk_at dksX4_over_4 19 rfl rfl)
theorem dX4_over_115 : decode cX4_over 115 = .ok (.iload 4, 2) := dk_21 4 (dk_at dksX4_over_4 21 rfl rfl)
theorem dX4_over_117 : decode cX4_over 117 = .ok (.ifCond .eq 7, 3) := dk_153 0 7 (dk_at dksX4_over_5 0 rfl rfl)
theorem dX4_over_120 : decode cX4_over 120 = .ok (.iload_n 3, 1) := dk_29 (dk_at dksX4_over_5 3 rfl rfl)
theorem dX4_over_121 : decode cX4_over 121 = .ok (.ifCond .eq 13, 3) := dk_153 0 13 (dk_at dksX4_over_5 4 rfl rfl)
theorem dX4_over_124 : decode cX4_over 124 = .ok (.aload_n 0, 1) := dk_42 (dk_at dksX4_over_5 7 rfl rfl)
theorem dX4_over_125 : decode cX4_over 125 = .ok (.dup, 1) := dk_89 (dk_at dksX4_over_5 8 rfl rfl)
theorem dX4_over_126 : decode cX4_over 126 = .ok (.getfield 219, 3) := dk_180 0 219 (dk_at dksX4_over_5 9 rfl rfl)
theorem dX4_over_129 : decode cX4_over 129 = .ok (.iconst 1, 1) := dk_4 (dk_at dksX4_over_5 12 rfl rfl)
theorem dX4_over_130 : decode cX4_over 130 = .ok (.isub, 1) := dk_100 (dk_at dksX4_over_5 13 rfl rfl)
theorem dX4_over_131 : decode cX4_over 131 = .ok (.putfield 219, 3) := dk_181 0 219 (dk_at dksX4_over_5 14 rfl rfl)
theorem dX4_over_134 : decode cX4_over 134 = .ok (.iload 4, 2) := dk_21 4 (dk_at dksX4_over_5 17 rfl rfl)
theorem dX4_over_136 : decode cX4_over 136 = .ok (.ifCond .ne 8, 3) := dk_154 0 8 (dk_at dksX4_over_5 19 rfl rfl)
theorem dX4_over_139 : decode cX4_over 139 = .ok (.bipush (-7), 2) := dk_16 249 (dk_at dksX4_over_5 22 rfl rfl)
theorem dX4_over_141 : decode cX4_over 141 = .ok (.goto 13, 3) := dk_167 0 13 (dk_at dksX4_over_6 0 rfl rfl)
theorem dX4_over_144 : decode cX4_over 144 = .ok (.iload_n 3, 1) := dk_29 (dk_at dksX4_over_6 3 rfl rfl)
theorem dX4_over_145 : decode cX4_over 145 = .ok (.ifCond .eq 8, 3) := dk_153 0 8 (dk_at dksX4_over_6 4 rfl rfl)
theorem dX4_over_148 : decode cX4_over 148 = .ok (.bipush (-3), 2) := dk_16 253 (dk_at dksX4_over_6 7 rfl rfl)
theorem dX4_over_150 : decode cX4_over 150 = .ok (.goto 4, 3) := dk_167 0 4 (dk_at dksX4_over_6 9 rfl rfl)
theorem dX4_over_153 : decode cX4_over 153 = .ok (.iconst 0, 1) := dk_3 (dk_at dksX4_over_6 12 rfl rfl)
theorem dX4_over_154 : decode cX4_over 154 = .ok (.ireturn, 1) := dk_172 (dk_at dksX4_over_6 13 rfl rfl)
abbrev cX4_isLayer : ByteArray := prog_20_method_14_code
def yX4_isLayer : MethodName := ⟨RX4, "isLayer", "(I)Z"⟩
def dkwX4_isLayer_0 : List UInt8 := [27, 133, 9, 42, 180, 0, 203, 4, 100, 133, 184, 0, 178, 172]
abbrev dktX4_isLayer_0 : List UInt8 := dkwX4_isLayer_0 ++ []
theorem dksX4_isLayer_0 : cX4_isLayer.data.toList.drop 0 = dktX4_isLayer_0 := by decide +kernel
theorem dX4_isLayer_0 : decode cX4_isLayer 0 = .ok (.iload_n 1, 1) := dk_27 (dk_at dksX4_isLayer_0 0 rfl rfl)
theorem dX4_isLayer_1 : decode cX4_isLayer 1 = .ok (.i2l, 1) := dk_133 (dk_at dksX4_isLayer_0 1 rfl rfl)
theorem dX4_isLayer_2 : decode cX4_isLayer 2 = .ok (.lconst 0, 1) := dk_9 (dk_at dksX4_isLayer_0 2 rfl rfl)
theorem dX4_isLayer_3 : decode cX4_isLayer 3 = .ok (.aload_n 0, 1) := dk_42 (dk_at dksX4_isLayer_0 3 rfl rfl)
theorem dX4_isLayer_4 : decode cX4_isLayer 4 = .ok (.getfield 203, 3) := dk_180 0 203 (dk_at dksX4_isLayer_0 4 rfl rfl)
theorem dX4_isLayer_7 : decode cX4_isLayer 7 = .ok (.iconst 1, 1) := dk_4 (dk_at dksX4_isLayer_0 7 rfl rfl)
theorem dX4_isLayer_8 : decode cX4_isLayer 8 = .ok (.isub, 1) := dk_100 (dk_at dksX4_isLayer_0 8 rfl rfl)
theorem dX4_isLayer_9 : decode cX4_isLayer 9 = .ok (.i2l, 1) := dk_133 (dk_at dksX4_isLayer_0 9 rfl rfl)
theorem dX4_isLayer_10 : decode cX4_isLayer 10 = .ok (.invokestatic 178, 3) := dk_184 0 178 (dk_at dksX4_isLayer_0 10 rfl rfl)
theorem dX4_isLayer_13 : decode cX4_isLayer 13 = .ok (.ireturn, 1) := dk_172 (dk_at dksX4_isLayer_0 13 rfl rfl)
abbrev cX4_lays : ByteArray := prog_20_method_21_code
def yX4_lays : MethodName := ⟨RX4, "lays", "()V"⟩
def dkwX4_lays_9 : List UInt8 := [132, 1, 1, 167, 255, 163, 42, 42, 180, 0, 122, 182, 0, 238, 177]
abbrev dktX4_lays_9 : List UInt8 := dkwX4_lays_9 ++ []
def dkwX4_lays_8 : List UInt8 := [180, 0, 122, 16, 16, 28, 104, 29, 96, 4, 84, 132, 3, 1, 167, 255, 195, 132, 2, 1, 167, 255, 179]
abbrev dktX4_lays_8 : List UInt8 := dkwX4_lays_8 ++ dktX4_lays_9
def dkwX4_lays_7 : List UInt8 := [153, 0, 34, 42, 180, 0, 125, 16, 16, 42, 180, 0, 58, 27, 46, 104, 29, 96, 51, 153, 0, 15, 42]
abbrev dktX4_lays_7 : List UInt8 := dkwX4_lays_7 ++ dktX4_lays_8
def dkwX4_lays_6 : List UInt8 := [180, 0, 203, 162, 0, 59, 42, 180, 0, 125, 16, 16, 28, 104, 42, 180, 0, 55, 27, 46, 96, 51]
abbrev dktX4_lays_6 : List UInt8 := dkwX4_lays_6 ++ dktX4_lays_7
def dkwX4_lays_5 : List UInt8 := [27, 42, 180, 0, 219, 162, 0, 91, 3, 61, 28, 42, 180, 0, 203, 162, 0, 75, 3, 62, 29, 42]
abbrev dktX4_lays_5 : List UInt8 := dkwX4_lays_5 ++ dktX4_lays_6
def dkwX4_lays_4 : List UInt8 := [16, 16, 29, 104, 28, 96, 4, 84, 132, 1, 1, 167, 255, 197, 42, 42, 180, 0, 125, 182, 0, 238, 3, 60]
abbrev dktX4_lays_4 : List UInt8 := dkwX4_lays_4 ++ dktX4_lays_5
def dkwX4_lays_3 : List UInt8 := [180, 0, 64, 27, 46, 46, 62, 42, 180, 0, 125, 16, 16, 28, 104, 29, 96, 4, 84, 42, 180, 0, 125]
abbrev dktX4_lays_3 : List UInt8 := dkwX4_lays_3 ++ dktX4_lays_4
def dkwX4_lays_2 : List UInt8 := [180, 0, 226, 162, 0, 57, 42, 180, 0, 67, 42, 180, 0, 61, 27, 46, 46, 61, 42, 180, 0, 67, 42]
abbrev dktX4_lays_2 : List UInt8 := dkwX4_lays_2 ++ dktX4_lays_3
def dkwX4_lays_1 : List UInt8 := [108, 27, 16, 16, 112, 160, 0, 7, 4, 167, 0, 4, 3, 84, 132, 1, 1, 167, 255, 217, 3, 60, 27, 42]
abbrev dktX4_lays_1 : List UInt8 := dkwX4_lays_1 ++ dktX4_lays_2
def dkwX4_lays_0 : List UInt8 := [3, 60, 27, 17, 1, 0, 162, 0, 38, 42, 180, 0, 122, 27, 3, 84, 42, 180, 0, 125, 27, 27, 16, 16]
abbrev dktX4_lays_0 : List UInt8 := dkwX4_lays_0 ++ dktX4_lays_1
theorem dksX4_lays_0 : cX4_lays.data.toList.drop 0 = dktX4_lays_0 := by decide +kernel
theorem dksX4_lays_1 : cX4_lays.data.toList.drop 24 = dktX4_lays_1 := dk_seg dksX4_lays_0 24 rfl rfl
theorem dksX4_lays_2 : cX4_lays.data.toList.drop 48 = dktX4_lays_2 := dk_seg dksX4_lays_1 24 rfl rfl
theorem dksX4_lays_3 : cX4_lays.data.toList.drop 71 = dktX4_lays_3 := dk_seg dksX4_lays_2 23 rfl rfl
theorem dksX4_lays_4 : cX4_lays.data.toList.drop 94 = dktX4_lays_4 := dk_seg dksX4_lays_3 23 rfl rfl
theorem dksX4_lays_5 : cX4_lays.data.toList.drop 118 = dktX4_lays_5 := dk_seg dksX4_lays_4 24 rfl rfl
theorem dksX4_lays_6 : cX4_lays.data.toList.drop 140 = dktX4_lays_6 := dk_seg dksX4_lays_5 22 rfl rfl
theorem dksX4_lays_7 : cX4_lays.data.toList.drop 162 = dktX4_lays_7 := dk_seg dksX4_lays_6 22 rfl rfl
theorem dksX4_lays_8 : cX4_lays.data.toList.drop 185 = dktX4_lays_8 := dk_seg dksX4_lays_7 23 rfl rfl
theorem dksX4_lays_9 : cX4_lays.data.toList.drop 208 = dktX4_lays_9 := dk_seg dksX4_lays_8 23 rfl rfl
theorem dX4_lays_0 : decode cX4_lays 0 = .ok (.iconst 0, 1) := dk_3 (dk_at dksX4_lays_0 0 rfl rfl)
theorem dX4_lays_1 : decode cX4_lays 1 = .ok (.istore_n 1, 1) := dk_60 (dk_at dksX4_lays_0 1 rfl rfl)
theorem dX4_lays_2 : decode cX4_lays 2 = .ok (.iload_n 1, 1) := dk_27 (dk_at dksX4_lays_0 2 rfl rfl)
theorem dX4_lays_3 : decode cX4_lays 3 = .ok (.sipush 256, 3) := dk_17 1 0 (dk_at dksX4_lays_0 3 rfl rfl)
theorem dX4_lays_6 : decode cX4_lays 6 = .ok (.if_icmp .ge 38, 3) := dk_162 0 38 (dk_at dksX4_lays_0 6 rfl rfl)
theorem dX4_lays_9 : decode cX4_lays 9 = .ok (.aload_n 0, 1) := dk_42 (dk_at dksX4_lays_0 9 rfl rfl)
theorem dX4_lays_10 : decode cX4_lays 10 = .ok (.getfield 122, 3) := dk_180 0 122 (dk_at dksX4_lays_0 10 rfl rfl)
theorem dX4_lays_13 : decode cX4_lays 13 = .ok (.iload_n 1, 1) := dk_27 (dk_at dksX4_lays_0 13 rfl rfl)
theorem dX4_lays_14 : decode cX4_lays 14 = .ok (.iconst 0, 1) := dk_3 (dk_at dksX4_lays_0 14 rfl rfl)
theorem dX4_lays_15 : decode cX4_lays 15 = .ok (.bastore, 1) := dk_84 (dk_at dksX4_lays_0 15 rfl rfl)
theorem dX4_lays_16 : decode cX4_lays 16 = .ok (.aload_n 0, 1) := dk_42 (dk_at dksX4_lays_0 16 rfl rfl)
theorem dX4_lays_17 : decode cX4_lays 17 = .ok (.getfield 125, 3) := dk_180 0 125 (dk_at dksX4_lays_0 17 rfl rfl)
theorem dX4_lays_20 : decode cX4_lays 20 = .ok (.iload_n 1, 1) := dk_27 (dk_at dksX4_lays_0 20 rfl rfl)
theorem dX4_lays_21 : decode cX4_lays 21 = .ok (.iload_n 1, 1) := dk_27 (dk_at dksX4_lays_0 21 rfl rfl)
theorem dX4_lays_22 : decode cX4_lays 22 = .ok (.bipush 16, 2) := dk_16 16 (dk_at dksX4_lays_0 22 rfl rfl)
theorem dX4_lays_24 : decode cX4_lays 24 = .ok (.idiv, 1) := dk_108 (dk_at dksX4_lays_1 0 rfl rfl)
theorem dX4_lays_25 : decode cX4_lays 25 = .ok (.iload_n 1, 1) := dk_27 (dk_at dksX4_lays_1 1 rfl rfl)
theorem dX4_lays_26 : decode cX4_lays 26 = .ok (.bipush 16, 2) := dk_16 16 (dk_at dksX4_lays_1 2 rfl rfl)
theorem dX4_lays_28 : decode cX4_lays 28 = .ok (.irem, 1) := dk_112 (dk_at dksX4_lays_1 4 rfl rfl)
theorem dX4_lays_29 : decode cX4_lays 29 = .ok (.if_icmp .ne 7, 3) := dk_160 0 7 (dk_at dksX4_lays_1 5 rfl rfl)
theorem dX4_lays_32 : decode cX4_lays 32 = .ok (.iconst 1, 1) := dk_4 (dk_at dksX4_lays_1 8 rfl rfl)
theorem dX4_lays_33 : decode cX4_lays 33 = .ok (.goto 4, 3) := dk_167 0 4 (dk_at dksX4_lays_1 9 rfl rfl)
theorem dX4_lays_36 : decode cX4_lays 36 = .ok (.iconst 0, 1) := dk_3 (dk_at dksX4_lays_1 12 rfl rfl)
theorem dX4_lays_37 : decode cX4_lays 37 = .ok (.bastore, 1) := dk_84 (dk_at dksX4_lays_1 13 rfl rfl)
theorem dX4_lays_38 : decode cX4_lays 38 = .ok (.iinc 1 1, 3) := dk_132 1 1 (dk_at dksX4_lays_1 14 rfl rfl)
theorem dX4_lays_41 : decode cX4_lays 41 = .ok (.goto (-39), 3) := dk_167 255 217 (dk_at dksX4_lays_1 17 rfl rfl)
theorem dX4_lays_44 : decode cX4_lays 44 = .ok (.iconst 0, 1) := dk_3 (dk_at dksX4_lays_1 20 rfl rfl)
theorem dX4_lays_45 : decode cX4_lays 45 = .ok (.istore_n 1, 1) := dk_60 (dk_at dksX4_lays_1 21 rfl rfl)
theorem dX4_lays_46 : decode cX4_lays 46 = .ok (.iload_n 1, 1) := dk_27 (dk_at dksX4_lays_1 22 rfl rfl)
theorem dX4_lays_47 : decode cX4_lays 47 = .ok (.aload_n 0, 1) := dk_42 (dk_at dksX4_lays_1 23 rfl rfl)
theorem dX4_lays_48 : decode cX4_lays 48 = .ok (.getfield 226, 3) := dk_180 0 226 (dk_at dksX4_lays_2 0 rfl rfl)
theorem dX4_lays_51 : decode cX4_lays 51 = .ok (.if_icmp .ge 57, 3) := dk_162 0 57 (dk_at dksX4_lays_2 3 rfl rfl)
theorem dX4_lays_54 : decode cX4_lays 54 = .ok (.aload_n 0, 1) := dk_42 (dk_at dksX4_lays_2 6 rfl rfl)
theorem dX4_lays_55 : decode cX4_lays 55 = .ok (.getfield 67, 3) := dk_180 0 67 (dk_at dksX4_lays_2 7 rfl rfl)
theorem dX4_lays_58 : decode cX4_lays 58 = .ok (.aload_n 0, 1) := dk_42 (dk_at dksX4_lays_2 10 rfl rfl)
theorem dX4_lays_59 : decode cX4_lays 59 = .ok (.getfield 61, 3) := dk_180 0 61 (dk_at dksX4_lays_2 11 rfl rfl)
theorem dX4_lays_62 : decode cX4_lays 62 = .ok (.iload_n 1, 1) := dk_27 (dk_at dksX4_lays_2 14 rfl rfl)
theorem dX4_lays_63 : decode cX4_lays 63 = .ok (.iaload, 1) := dk_46 (dk_at dksX4_lays_2 15 rfl rfl)
theorem dX4_lays_64 : decode cX4_lays 64 = .ok (.iaload, 1) := dk_46 (dk_at dksX4_lays_2 16 rfl rfl)
theorem dX4_lays_65 : decode cX4_lays 65 = .ok (.istore_n 2, 1) := dk_61 (dk_at dksX4_lays_2 17 rfl rfl)
theorem dX4_lays_66 : decode cX4_lays 66 = .ok (.aload_n 0, 1) := dk_42 (dk_at dksX4_lays_2 18 rfl rfl)
theorem dX4_lays_67 : decode cX4_lays 67 = .ok (.getfield 67, 3) := dk_180 0 67 (dk_at dksX4_lays_2 19 rfl rfl)
theorem dX4_lays_70 : decode cX4_lays 70 = .ok (.aload_n 0, 1) := dk_42 (dk_at dksX4_lays_2 22 rfl rfl)
theorem dX4_lays_71 : decode cX4_lays 71 = .ok (.getfield 64, 3) := dk_180 0 64 (dk_at dksX4_lays_3 0 rfl rfl)
theorem dX4_lays_74 : decode cX4_lays 74 = .ok (.iload_n 1, 1) := dk_27 (dk_at dksX4_lays_3 3 rfl rfl)
theorem dX4_lays_75 : decode cX4_lays 75 = .ok (.iaload, 1) := dk_46 (dk_at dksX4_lays_3 4 rfl rfl)
theorem dX4_lays_76 : decode cX4_lays 76 = .ok (.iaload, 1) := dk_46 (dk_at dksX4_lays_3 5 rfl rfl)
theorem dX4_lays_77 : decode cX4_lays 77 = .ok (.istore_n 3, 1) := dk_62 (dk_at dksX4_lays_3 6 rfl rfl)
theorem dX4_lays_78 : decode cX4_lays 78 = .ok (.aload_n 0, 1) := dk_42 (dk_at dksX4_lays_3 7 rfl rfl)
theorem dX4_lays_79 : decode cX4_lays 79 = .ok (.getfield 125, 3) := dk_180 0 125 (dk_at dksX4_lays_3 8 rfl rfl)
theorem dX4_lays_82 : decode cX4_lays 82 = .ok (.bipush 16, 2) := dk_16 16 (dk_at dksX4_lays_3 11 rfl rfl)
theorem dX4_lays_84 : decode cX4_lays 84 = .ok (.iload_n 2, 1) := dk_28 (dk_at dksX4_lays_3 13 rfl rfl)
theorem dX4_lays_85 : decode cX4_lays 85 = .ok (.imul, 1) := dk_104 (dk_at dksX4_lays_3 14 rfl rfl)
theorem dX4_lays_86 : decode cX4_lays 86 = .ok (.iload_n 3, 1) := dk_29 (dk_at dksX4_lays_3 15 rfl rfl)
theorem dX4_lays_87 : decode cX4_lays 87 = .ok (.iadd, 1) := dk_96 (dk_at dksX4_lays_3 16 rfl rfl)
theorem dX4_lays_88 : decode cX4_lays 88 = .ok (.iconst 1, 1) := dk_4 (dk_at dksX4_lays_3 17 rfl rfl)
theorem dX4_lays_89 : decode cX4_lays 89 = .ok (.bastore, 1) := dk_84 (dk_at dksX4_lays_3 18 rfl rfl)
theorem dX4_lays_90 : decode cX4_lays 90 = .ok (.aload_n 0, 1) := dk_42 (dk_at dksX4_lays_3 19 rfl rfl)
theorem dX4_lays_91 : decode cX4_lays 91 = .ok (.getfield 125, 3) := dk_180 0 125 (dk_at dksX4_lays_3 20 rfl rfl)
theorem dX4_lays_94 : decode cX4_lays 94 = .ok (.bipush 16, 2) := dk_16 16 (dk_at dksX4_lays_4 0 rfl rfl)
theorem dX4_lays_96 : decode cX4_lays 96 = .ok (.iload_n 3, 1) := dk_29 (dk_at dksX4_lays_4 2 rfl rfl)
theorem dX4_lays_97 : decode cX4_lays 97 = .ok (.imul, 1) := dk_104 (dk_at dksX4_lays_4 3 rfl rfl)
theorem dX4_lays_98 : decode cX4_lays 98 = .ok (.iload_n 2, 1) := dk_28 (dk_at dksX4_lays_4 4 rfl rfl)
theorem dX4_lays_99 : decode cX4_lays 99 = .ok (.iadd, 1) := dk_96 (dk_at dksX4_lays_4 5 rfl rfl)
theorem dX4_lays_100 : decode cX4_lays 100 = .ok (.iconst 1, 1) := dk_4 (dk_at dksX4_lays_4 6 rfl rfl)
theorem dX4_lays_101 : decode cX4_lays 101 = .ok (.bastore, 1) := dk_84 (dk_at dksX4_lays_4 7 rfl rfl)
theorem dX4_lays_102 : decode cX4_lays 102 = .ok (.iinc 1 1, 3) := dk_132 1 1 (dk_at dksX4_lays_4 8 rfl rfl)
theorem dX4_lays_105 : decode cX4_lays 105 = .ok (.goto (-59), 3) := dk_167 255 197 (dk_at dksX4_lays_4 11 rfl rfl)
theorem dX4_lays_108 : decode cX4_lays 108 = .ok (.aload_n 0, 1) := dk_42 (dk_at dksX4_lays_4 14 rfl rfl)
theorem dX4_lays_109 : decode cX4_lays 109 = .ok (.aload_n 0, 1) := dk_42 (dk_at dksX4_lays_4 15 rfl rfl)
theorem dX4_lays_110 : decode cX4_lays 110 = .ok (.getfield 125, 3) := dk_180 0 125 (dk_at dksX4_lays_4 16 rfl rfl)
theorem dX4_lays_113 : decode cX4_lays 113 = .ok (.invokevirtual 238, 3) := dk_182 0 238 (dk_at dksX4_lays_4 19 rfl rfl)
theorem dX4_lays_116 : decode cX4_lays 116 = .ok (.iconst 0, 1) := dk_3 (dk_at dksX4_lays_4 22 rfl rfl)
theorem dX4_lays_117 : decode cX4_lays 117 = .ok (.istore_n 1, 1) := dk_60 (dk_at dksX4_lays_4 23 rfl rfl)
theorem dX4_lays_118 : decode cX4_lays 118 = .ok (.iload_n 1, 1) := dk_27 (dk_at dksX4_lays_5 0 rfl rfl)
theorem dX4_lays_119 : decode cX4_lays 119 = .ok (.aload_n 0, 1) := dk_42 (dk_at dksX4_lays_5 1 rfl rfl)
theorem dX4_lays_120 : decode cX4_lays 120 = .ok (.getfield 219, 3) := dk_180 0 219 (dk_at dksX4_lays_5 2 rfl rfl)
theorem dX4_lays_123 : decode cX4_lays 123 = .ok (.if_icmp .ge 91, 3) := dk_162 0 91 (dk_at dksX4_lays_5 5 rfl rfl)
theorem dX4_lays_126 : decode cX4_lays 126 = .ok (.iconst 0, 1) := dk_3 (dk_at dksX4_lays_5 8 rfl rfl)
theorem dX4_lays_127 : decode cX4_lays 127 = .ok (.istore_n 2, 1) := dk_61 (dk_at dksX4_lays_5 9 rfl rfl)
theorem dX4_lays_128 : decode cX4_lays 128 = .ok (.iload_n 2, 1) := dk_28 (dk_at dksX4_lays_5 10 rfl rfl)
theorem dX4_lays_129 : decode cX4_lays 129 = .ok (.aload_n 0, 1) := dk_42 (dk_at dksX4_lays_5 11 rfl rfl)
theorem dX4_lays_130 : decode cX4_lays 130 = .ok (.getfield 203, 3) := dk_180 0 203 (dk_at dksX4_lays_5 12 rfl rfl)
theorem dX4_lays_133 : decode cX4_lays 133 = .ok (.if_icmp .ge 75, 3) := dk_162 0 75 (dk_at dksX4_lays_5 15 rfl rfl)
theorem dX4_lays_136 : decode cX4_lays 136 = .ok (.iconst 0, 1) := dk_3 (dk_at dksX4_lays_5 18 rfl rfl)
theorem dX4_lays_137 : decode cX4_lays 137 = .ok (.istore_n 3, 1) := dk_62 (dk_at dksX4_lays_5 19 rfl rfl)
theorem dX4_lays_138 : decode cX4_lays 138 = .ok (.iload_n 3, 1) := dk_29 (dk_at dksX4_lays_5 20 rfl rfl)
theorem dX4_lays_139 : decode cX4_lays 139 = .ok (.aload_n 0, 1) := dk_42 (dk_at dksX4_lays_5 21 rfl rfl)
theorem dX4_lays_140 : decode cX4_lays 140 = .ok (.getfield 203, 3) := dk_180 0 203 (dk_at dksX4_lays_6 0 rfl rfl)
theorem dX4_lays_143 : decode cX4_lays 143 = .ok (.if_icmp .ge 59, 3) := dk_162 0 59 (dk_at dksX4_lays_6 3 rfl rfl)
theorem dX4_lays_146 : decode cX4_lays 146 = .ok (.aload_n 0, 1) := dk_42 (dk_at dksX4_lays_6 6 rfl rfl)
theorem dX4_lays_147 : decode cX4_lays 147 = .ok (.getfield 125, 3) := dk_180 0 125 (dk_at dksX4_lays_6 7 rfl rfl)
theorem dX4_lays_150 : decode cX4_lays 150 = .ok (.bipush 16, 2) := dk_16 16 (dk_at dksX4_lays_6 10 rfl rfl)
theorem dX4_lays_152 : decode cX4_lays 152 = .ok (.iload_n 2, 1) := dk_28 (dk_at dksX4_lays_6 12 rfl rfl)
theorem dX4_lays_153 : decode cX4_lays 153 = .ok (.imul, 1) := dk_104 (dk_at dksX4_lays_6 13 rfl rfl)
theorem dX4_lays_154 : decode cX4_lays 154 = .ok (.aload_n 0, 1) := dk_42 (dk_at dksX4_lays_6 14 rfl rfl)
theorem dX4_lays_155 : decode cX4_lays 155 = .ok (.getfield 55, 3) := dk_180 0 55 (dk_at dksX4_lays_6 15 rfl rfl)
theorem dX4_lays_158 : decode cX4_lays 158 = .ok (.iload_n 1, 1) := dk_27 (dk_at dksX4_lays_6 18 rfl rfl)
theorem dX4_lays_159 : decode cX4_lays 159 = .ok (.iaload, 1) := dk_46 (dk_at dksX4_lays_6 19 rfl rfl)
theorem dX4_lays_160 : decode cX4_lays 160 = .ok (.iadd, 1) := dk_96 (dk_at dksX4_lays_6 20 rfl rfl)
theorem dX4_lays_161 : decode cX4_lays 161 = .ok (.baload, 1) := dk_51 (dk_at dksX4_lays_6 21 rfl rfl)
theorem dX4_lays_162 : decode cX4_lays 162 = .ok (.ifCond .eq 34, 3) := dk_153 0 34 (dk_at dksX4_lays_7 0 rfl rfl)
theorem dX4_lays_165 : decode cX4_lays 165 = .ok (.aload_n 0, 1) := dk_42 (dk_at dksX4_lays_7 3 rfl rfl)
theorem dX4_lays_166 : decode cX4_lays 166 = .ok (.getfield 125, 3) := dk_180 0 125 (dk_at dksX4_lays_7 4 rfl rfl)
theorem dX4_lays_169 : decode cX4_lays 169 = .ok (.bipush 16, 2) := dk_16 16 (dk_at dksX4_lays_7 7 rfl rfl)
theorem dX4_lays_171 : decode cX4_lays 171 = .ok (.aload_n 0, 1) := dk_42 (dk_at dksX4_lays_7 9 rfl rfl)
theorem dX4_lays_172 : decode cX4_lays 172 = .ok (.getfield 58, 3) := dk_180 0 58 (dk_at dksX4_lays_7 10 rfl rfl)
theorem dX4_lays_175 : decode cX4_lays 175 = .ok (.iload_n 1, 1) := dk_27 (dk_at dksX4_lays_7 13 rfl rfl)
theorem dX4_lays_176 : decode cX4_lays 176 = .ok (.iaload, 1) := dk_46 (dk_at dksX4_lays_7 14 rfl rfl)
theorem dX4_lays_177 : decode cX4_lays 177 = .ok (.imul, 1) := dk_104 (dk_at dksX4_lays_7 15 rfl rfl)
theorem dX4_lays_178 : decode cX4_lays 178 = .ok (.iload_n 3, 1) := dk_29 (dk_at dksX4_lays_7 16 rfl rfl)
theorem dX4_lays_179 : decode cX4_lays 179 = .ok (.iadd, 1) := dk_96 (dk_at dksX4_lays_7 17 rfl rfl)
theorem dX4_lays_180 : decode cX4_lays 180 = .ok (.baload, 1) := dk_51 (dk_at dksX4_lays_7 18 rfl rfl)
theorem dX4_lays_181 : decode cX4_lays 181 = .ok (.ifCond .eq 15, 3) := dk_153 0 15 (dk_at dksX4_lays_7 19 rfl rfl)
theorem dX4_lays_184 : decode cX4_lays 184 = .ok (.aload_n 0, 1) := dk_42 (dk_at dksX4_lays_7 22 rfl rfl)
theorem dX4_lays_185 : decode cX4_lays 185 = .ok (.getfield 122, 3) := dk_180 0 122 (dk_at dksX4_lays_8 0 rfl rfl)
theorem dX4_lays_188 : decode cX4_lays 188 = .ok (.bipush 16, 2) := dk_16 16 (dk_at dksX4_lays_8 3 rfl rfl)
theorem dX4_lays_190 : decode cX4_lays 190 = .ok (.iload_n 2, 1) := dk_28 (dk_at dksX4_lays_8 5 rfl rfl)
theorem dX4_lays_191 : decode cX4_lays 191 = .ok (.imul, 1) := dk_104 (dk_at dksX4_lays_8 6 rfl rfl)
theorem dX4_lays_192 : decode cX4_lays 192 = .ok (.iload_n 3, 1) := dk_29 (dk_at dksX4_lays_8 7 rfl rfl)
theorem dX4_lays_193 : decode cX4_lays 193 = .ok (.iadd, 1) := dk_96 (dk_at dksX4_lays_8 8 rfl rfl)
theorem dX4_lays_194 : decode cX4_lays 194 = .ok (.iconst 1, 1) := dk_4 (dk_at dksX4_lays_8 9 rfl rfl)
theorem dX4_lays_195 : decode cX4_lays 195 = .ok (.bastore, 1) := dk_84 (dk_at dksX4_lays_8 10 rfl rfl)
theorem dX4_lays_196 : decode cX4_lays 196 = .ok (.iinc 3 1, 3) := dk_132 3 1 (dk_at dksX4_lays_8 11 rfl rfl)
theorem dX4_lays_199 : decode cX4_lays 199 = .ok (.goto (-61), 3) := dk_167 255 195 (dk_at dksX4_lays_8 14 rfl rfl)
theorem dX4_lays_202 : decode cX4_lays 202 = .ok (.iinc 2 1, 3) := dk_132 2 1 (dk_at dksX4_lays_8 17 rfl rfl)
theorem dX4_lays_205 : decode cX4_lays 205 = .ok (.goto (-77), 3) := dk_167 255 179 (dk_at dksX4_lays_8 20 rfl rfl)
theorem dX4_lays_208 : decode cX4_lays 208 = .ok (.iinc 1 1, 3) := dk_132 1 1 (dk_at dksX4_lays_9 0 rfl rfl)
theorem dX4_lays_211 : decode cX4_lays 211 = .ok (.goto (-93), 3) := dk_167 255 163 (dk_at dksX4_lays_9 3 rfl rfl)
theorem dX4_lays_214 : decode cX4_lays 214 = .ok (.aload_n 0, 1) := dk_42 (dk_at dksX4_lays_9 6 rfl rfl)
theorem dX4_lays_215 : decode cX4_lays 215 = .ok (.aload_n 0, 1) := dk_42 (dk_at dksX4_lays_9 7 rfl rfl)
theorem dX4_lays_216 : decode cX4_lays 216 = .ok (.getfield 122, 3) := dk_180 0 122 (dk_at dksX4_lays_9 8 rfl rfl)
theorem dX4_lays_219 : decode cX4_lays 219 = .ok (.invokevirtual 238, 3) := dk_182 0 238 (dk_at dksX4_lays_9 11 rfl rfl)
theorem dX4_lays_222 : decode cX4_lays 222 = .ok (.return_, 1) := dk_177 (dk_at dksX4_lays_9 14 rfl rfl)
abbrev cX4_closes : ByteArray := prog_20_method_22_code
def yX4_closes : MethodName := ⟨RX4, "closes", "([Z)V"⟩
def dkwX4_closes_4 : List UInt8 := [132, 2, 1, 167, 255, 162, 177]
abbrev dktX4_closes_4 : List UInt8 := dkwX4_closes_4 ++ []
def dkwX4_closes_3 : List UInt8 := [51, 153, 0, 7, 4, 167, 0, 4, 3, 84, 132, 4, 1, 167, 255, 195, 132, 3, 1, 167, 255, 178]
abbrev dktX4_closes_3 : List UInt8 := dkwX4_closes_3 ++ dktX4_closes_4
def dkwX4_closes_2 : List UInt8 := [96, 51, 154, 0, 26, 43, 16, 16, 29, 104, 28, 96, 51, 153, 0, 19, 43, 16, 16, 28, 104, 21, 4, 96]
abbrev dktX4_closes_2 : List UInt8 := dkwX4_closes_2 ++ dktX4_closes_3
def dkwX4_closes_1 : List UInt8 := [21, 4, 42, 180, 0, 203, 162, 0, 58, 43, 16, 16, 29, 104, 21, 4, 96, 43, 16, 16, 29, 104, 21, 4]
abbrev dktX4_closes_1 : List UInt8 := dkwX4_closes_1 ++ dktX4_closes_2
def dkwX4_closes_0 : List UInt8 := [3, 61, 28, 42, 180, 0, 203, 162, 0, 92, 3, 62, 29, 42, 180, 0, 203, 162, 0, 76, 3, 54, 4]
abbrev dktX4_closes_0 : List UInt8 := dkwX4_closes_0 ++ dktX4_closes_1
theorem dksX4_closes_0 : cX4_closes.data.toList.drop 0 = dktX4_closes_0 := by decide +kernel
theorem dksX4_closes_1 : cX4_closes.data.toList.drop 23 = dktX4_closes_1 := dk_seg dksX4_closes_0 23 rfl rfl
theorem dksX4_closes_2 : cX4_closes.data.toList.drop 47 = dktX4_closes_2 := dk_seg dksX4_closes_1 24 rfl rfl
theorem dksX4_closes_3 : cX4_closes.data.toList.drop 71 = dktX4_closes_3 := dk_seg dksX4_closes_2 24 rfl rfl
theorem dksX4_closes_4 : cX4_closes.data.toList.drop 93 = dktX4_closes_4 := dk_seg dksX4_closes_3 22 rfl rfl
theorem dX4_closes_0 : decode cX4_closes 0 = .ok (.iconst 0, 1) := dk_3 (dk_at dksX4_closes_0 0 rfl rfl)
theorem dX4_closes_1 : decode cX4_closes 1 = .ok (.istore_n 2, 1) := dk_61 (dk_at dksX4_closes_0 1 rfl rfl)
theorem dX4_closes_2 : decode cX4_closes 2 = .ok (.iload_n 2, 1) := dk_28 (dk_at dksX4_closes_0 2 rfl rfl)
theorem dX4_closes_3 : decode cX4_closes 3 = .ok (.aload_n 0, 1) := dk_42 (dk_at dksX4_closes_0 3 rfl rfl)
theorem dX4_closes_4 : decode cX4_closes 4 = .ok (.getfield 203, 3) := dk_180 0 203 (dk_at dksX4_closes_0 4 rfl rfl)
theorem dX4_closes_7 : decode cX4_closes 7 = .ok (.if_icmp .ge 92, 3) := dk_162 0 92 (dk_at dksX4_closes_0 7 rfl rfl)
theorem dX4_closes_10 : decode cX4_closes 10 = .ok (.iconst 0, 1) := dk_3 (dk_at dksX4_closes_0 10 rfl rfl)
theorem dX4_closes_11 : decode cX4_closes 11 = .ok (.istore_n 3, 1) := dk_62 (dk_at dksX4_closes_0 11 rfl rfl)
theorem dX4_closes_12 : decode cX4_closes 12 = .ok (.iload_n 3, 1) := dk_29 (dk_at dksX4_closes_0 12 rfl rfl)
theorem dX4_closes_13 : decode cX4_closes 13 = .ok (.aload_n 0, 1) := dk_42 (dk_at dksX4_closes_0 13 rfl rfl)
theorem dX4_closes_14 : decode cX4_closes 14 = .ok (.getfield 203, 3) := dk_180 0 203 (dk_at dksX4_closes_0 14 rfl rfl)
theorem dX4_closes_17 : decode cX4_closes 17 = .ok (.if_icmp .ge 76, 3) := dk_162 0 76 (dk_at dksX4_closes_0 17 rfl rfl)
theorem dX4_closes_20 : decode cX4_closes 20 = .ok (.iconst 0, 1) := dk_3 (dk_at dksX4_closes_0 20 rfl rfl)
theorem dX4_closes_21 : decode cX4_closes 21 = .ok (.istore 4, 2) := dk_54 4 (dk_at dksX4_closes_0 21 rfl rfl)
theorem dX4_closes_23 : decode cX4_closes 23 = .ok (.iload 4, 2) := dk_21 4 (dk_at dksX4_closes_1 0 rfl rfl)
theorem dX4_closes_25 : decode cX4_closes 25 = .ok (.aload_n 0, 1) := dk_42 (dk_at dksX4_closes_1 2 rfl rfl)
theorem dX4_closes_26 : decode cX4_closes 26 = .ok (.getfield 203, 3) := dk_180 0 203 (dk_at dksX4_closes_1 3 rfl rfl)
theorem dX4_closes_29 : decode cX4_closes 29 = .ok (.if_icmp .ge 58, 3) := dk_162 0 58 (dk_at dksX4_closes_1 6 rfl rfl)
theorem dX4_closes_32 : decode cX4_closes 32 = .ok (.aload_n 1, 1) := dk_43 (dk_at dksX4_closes_1 9 rfl rfl)
theorem dX4_closes_33 : decode cX4_closes 33 = .ok (.bipush 16, 2) := dk_16 16 (dk_at dksX4_closes_1 10 rfl rfl)
theorem dX4_closes_35 : decode cX4_closes 35 = .ok (.iload_n 3, 1) := dk_29 (dk_at dksX4_closes_1 12 rfl rfl)
theorem dX4_closes_36 : decode cX4_closes 36 = .ok (.imul, 1) := dk_104 (dk_at dksX4_closes_1 13 rfl rfl)
theorem dX4_closes_37 : decode cX4_closes 37 = .ok (.iload 4, 2) := dk_21 4 (dk_at dksX4_closes_1 14 rfl rfl)
theorem dX4_closes_39 : decode cX4_closes 39 = .ok (.iadd, 1) := dk_96 (dk_at dksX4_closes_1 16 rfl rfl)
theorem dX4_closes_40 : decode cX4_closes 40 = .ok (.aload_n 1, 1) := dk_43 (dk_at dksX4_closes_1 17 rfl rfl)
theorem dX4_closes_41 : decode cX4_closes 41 = .ok (.bipush 16, 2) := dk_16 16 (dk_at dksX4_closes_1 18 rfl rfl)
theorem dX4_closes_43 : decode cX4_closes 43 = .ok (.iload_n 3, 1) := dk_29 (dk_at dksX4_closes_1 20 rfl rfl)
theorem dX4_closes_44 : decode cX4_closes 44 = .ok (.imul, 1) := dk_104 (dk_at dksX4_closes_1 21 rfl rfl)
theorem dX4_closes_45 : decode cX4_closes 45 = .ok (.iload 4, 2) := dk_21 4 (dk_at dksX4_closes_1 22 rfl rfl)
theorem dX4_closes_47 : decode cX4_closes 47 = .ok (.iadd, 1) := dk_96 (dk_at dksX4_closes_2 0 rfl rfl)
theorem dX4_closes_48 : decode cX4_closes 48 = .ok (.baload, 1) := dk_51 (dk_at dksX4_closes_2 1 rfl rfl)
theorem dX4_closes_49 : decode cX4_closes 49 = .ok (.ifCond .ne 26, 3) := dk_154 0 26 (dk_at dksX4_closes_2 2 rfl rfl)
theorem dX4_closes_52 : decode cX4_closes 52 = .ok (.aload_n 1, 1) := dk_43 (dk_at dksX4_closes_2 5 rfl rfl)
theorem dX4_closes_53 : decode cX4_closes 53 = .ok (.bipush 16, 2) := dk_16 16 (dk_at dksX4_closes_2 6 rfl rfl)
theorem dX4_closes_55 : decode cX4_closes 55 = .ok (.iload_n 3, 1) := dk_29 (dk_at dksX4_closes_2 8 rfl rfl)
theorem dX4_closes_56 : decode cX4_closes 56 = .ok (.imul, 1) := dk_104 (dk_at dksX4_closes_2 9 rfl rfl)
theorem dX4_closes_57 : decode cX4_closes 57 = .ok (.iload_n 2, 1) := dk_28 (dk_at dksX4_closes_2 10 rfl rfl)
theorem dX4_closes_58 : decode cX4_closes 58 = .ok (.iadd, 1) := dk_96 (dk_at dksX4_closes_2 11 rfl rfl)
theorem dX4_closes_59 : decode cX4_closes 59 = .ok (.baload, 1) := dk_51 (dk_at dksX4_closes_2 12 rfl rfl)
theorem dX4_closes_60 : decode cX4_closes 60 = .ok (.ifCond .eq 19, 3) := dk_153 0 19 (dk_at dksX4_closes_2 13 rfl rfl)
theorem dX4_closes_63 : decode cX4_closes 63 = .ok (.aload_n 1, 1) := dk_43 (dk_at dksX4_closes_2 16 rfl rfl)
theorem dX4_closes_64 : decode cX4_closes 64 = .ok (.bipush 16, 2) := dk_16 16 (dk_at dksX4_closes_2 17 rfl rfl)
theorem dX4_closes_66 : decode cX4_closes 66 = .ok (.iload_n 2, 1) := dk_28 (dk_at dksX4_closes_2 19 rfl rfl)
theorem dX4_closes_67 : decode cX4_closes 67 = .ok (.imul, 1) := dk_104 (dk_at dksX4_closes_2 20 rfl rfl)
theorem dX4_closes_68 : decode cX4_closes 68 = .ok (.iload 4, 2) := dk_21 4 (dk_at dksX4_closes_2 21 rfl rfl)
theorem dX4_closes_70 : decode cX4_closes 70 = .ok (.iadd, 1) := dk_96 (dk_at dksX4_closes_2 23 rfl rfl)
theorem dX4_closes_71 : decode cX4_closes 71 = .ok (.baload, 1) := dk_51 (dk_at dksX4_closes_3 0 rfl rfl)
theorem dX4_closes_72 : decode cX4_closes 72 = .ok (.ifCond .eq 7, 3) := dk_153 0 7 (dk_at dksX4_closes_3 1 rfl rfl)
theorem dX4_closes_75 : decode cX4_closes 75 = .ok (.iconst 1, 1) := dk_4 (dk_at dksX4_closes_3 4 rfl rfl)
theorem dX4_closes_76 : decode cX4_closes 76 = .ok (.goto 4, 3) := dk_167 0 4 (dk_at dksX4_closes_3 5 rfl rfl)
theorem dX4_closes_79 : decode cX4_closes 79 = .ok (.iconst 0, 1) := dk_3 (dk_at dksX4_closes_3 8 rfl rfl)
theorem dX4_closes_80 : decode cX4_closes 80 = .ok (.bastore, 1) := dk_84 (dk_at dksX4_closes_3 9 rfl rfl)
theorem dX4_closes_81 : decode cX4_closes 81 = .ok (.iinc 4 1, 3) := dk_132 4 1 (dk_at dksX4_closes_3 10 rfl rfl)
theorem dX4_closes_84 : decode cX4_closes 84 = .ok (.goto (-61), 3) := dk_167 255 195 (dk_at dksX4_closes_3 13 rfl rfl)
theorem dX4_closes_87 : decode cX4_closes 87 = .ok (.iinc 3 1, 3) := dk_132 3 1 (dk_at dksX4_closes_3 16 rfl rfl)
theorem dX4_closes_90 : decode cX4_closes 90 = .ok (.goto (-78), 3) := dk_167 255 178 (dk_at dksX4_closes_3 19 rfl rfl)
theorem dX4_closes_93 : decode cX4_closes 93 = .ok (.iinc 2 1, 3) := dk_132 2 1 (dk_at dksX4_closes_4 0 rfl rfl)
theorem dX4_closes_96 : decode cX4_closes 96 = .ok (.goto (-94), 3) := dk_167 255 162 (dk_at dksX4_closes_4 3 rfl rfl)
theorem dX4_closes_99 : decode cX4_closes 99 = .ok (.return_, 1) := dk_177 (dk_at dksX4_closes_4 6 rfl rfl)
abbrev cX4_dates : ByteArray := prog_20_method_19_code
def yX4_dates : MethodName := ⟨RX4, "dates", "()Z"⟩
def dkwX4_dates_8 : List UInt8 := [180, 0, 119, 28, 46, 164, 0, 5, 3, 172, 132, 2, 1, 167, 255, 228, 167, 255, 91, 4, 172]
abbrev dktX4_dates_8 : List UInt8 := dkwX4_dates_8 ++ []
def dkwX4_dates_7 : List UInt8 := [60, 132, 2, 1, 167, 255, 180, 3, 61, 28, 42, 180, 0, 203, 162, 0, 26, 42, 180, 0, 116, 28, 46, 42]
abbrev dktX4_dates_7 : List UInt8 := dkwX4_dates_7 ++ dktX4_dates_8
def dkwX4_dates_6 : List UInt8 := [167, 0, 4, 3, 60, 42, 21, 4, 29, 182, 0, 222, 154, 0, 7, 27, 153, 0, 7, 4, 167, 0, 4, 3]
abbrev dktX4_dates_6 : List UInt8 := dkwX4_dates_6 ++ dktX4_dates_7
def dkwX4_dates_5 : List UInt8 := [42, 180, 0, 64, 28, 46, 46, 54, 4, 42, 29, 21, 4, 182, 0, 222, 154, 0, 7, 27, 153, 0, 7, 4]
abbrev dktX4_dates_5 : List UInt8 := dkwX4_dates_5 ++ dktX4_dates_6
def dkwX4_dates_4 : List UInt8 := [28, 42, 180, 0, 226, 162, 0, 74, 42, 180, 0, 67, 42, 180, 0, 61, 28, 46, 46, 62, 42, 180, 0, 67]
abbrev dktX4_dates_4 : List UInt8 := dkwX4_dates_4 ++ dktX4_dates_5
def dkwX4_dates_3 : List UInt8 := [182, 0, 222, 154, 0, 7, 27, 153, 0, 7, 4, 167, 0, 4, 3, 60, 132, 2, 1, 167, 255, 216, 3, 61]
abbrev dktX4_dates_3 : List UInt8 := dkwX4_dates_3 ++ dktX4_dates_4
def dkwX4_dates_2 : List UInt8 := [60, 3, 61, 28, 42, 180, 0, 219, 162, 0, 38, 42, 42, 180, 0, 55, 28, 46, 42, 180, 0, 58, 28, 46]
abbrev dktX4_dates_2 : List UInt8 := dkwX4_dates_2 ++ dktX4_dates_3
def dkwX4_dates_1 : List UInt8 := [180, 0, 119, 27, 42, 180, 0, 52, 27, 46, 79, 132, 1, 1, 167, 255, 221, 4, 60, 27, 153, 0, 167, 3]
abbrev dktX4_dates_1 : List UInt8 := dkwX4_dates_1 ++ dktX4_dates_2
def dkwX4_dates_0 : List UInt8 := [3, 60, 27, 42, 180, 0, 203, 162, 0, 33, 42, 180, 0, 116, 27, 42, 180, 0, 49, 27, 46, 79, 42]
abbrev dktX4_dates_0 : List UInt8 := dkwX4_dates_0 ++ dktX4_dates_1
theorem dksX4_dates_0 : cX4_dates.data.toList.drop 0 = dktX4_dates_0 := by decide +kernel
theorem dksX4_dates_1 : cX4_dates.data.toList.drop 23 = dktX4_dates_1 := dk_seg dksX4_dates_0 23 rfl rfl
theorem dksX4_dates_2 : cX4_dates.data.toList.drop 47 = dktX4_dates_2 := dk_seg dksX4_dates_1 24 rfl rfl
theorem dksX4_dates_3 : cX4_dates.data.toList.drop 71 = dktX4_dates_3 := dk_seg dksX4_dates_2 24 rfl rfl
theorem dksX4_dates_4 : cX4_dates.data.toList.drop 95 = dktX4_dates_4 := dk_seg dksX4_dates_3 24 rfl rfl
theorem dksX4_dates_5 : cX4_dates.data.toList.drop 119 = dktX4_dates_5 := dk_seg dksX4_dates_4 24 rfl rfl
theorem dksX4_dates_6 : cX4_dates.data.toList.drop 143 = dktX4_dates_6 := dk_seg dksX4_dates_5 24 rfl rfl
theorem dksX4_dates_7 : cX4_dates.data.toList.drop 167 = dktX4_dates_7 := dk_seg dksX4_dates_6 24 rfl rfl
theorem dksX4_dates_8 : cX4_dates.data.toList.drop 191 = dktX4_dates_8 := dk_seg dksX4_dates_7 24 rfl rfl
theorem dX4_dates_0 : decode cX4_dates 0 = .ok (.iconst 0, 1) := dk_3 (dk_at dksX4_dates_0 0 rfl rfl)
theorem dX4_dates_1 : decode cX4_dates 1 = .ok (.istore_n 1, 1) := dk_60 (dk_at dksX4_dates_0 1 rfl rfl)
theorem dX4_dates_2 : decode cX4_dates 2 = .ok (.iload_n 1, 1) := dk_27 (dk_at dksX4_dates_0 2 rfl rfl)
theorem dX4_dates_3 : decode cX4_dates 3 = .ok (.aload_n 0, 1) := dk_42 (dk_at dksX4_dates_0 3 rfl rfl)
theorem dX4_dates_4 : decode cX4_dates 4 = .ok (.getfield 203, 3) := dk_180 0 203 (dk_at dksX4_dates_0 4 rfl rfl)
theorem dX4_dates_7 : decode cX4_dates 7 = .ok (.if_icmp .ge 33, 3) := dk_162 0 33 (dk_at dksX4_dates_0 7 rfl rfl)
theorem dX4_dates_10 : decode cX4_dates 10 = .ok (.aload_n 0, 1) := dk_42 (dk_at dksX4_dates_0 10 rfl rfl)
theorem dX4_dates_11 : decode cX4_dates 11 = .ok (.getfield 116, 3) := dk_180 0 116 (dk_at dksX4_dates_0 11 rfl rfl)
theorem dX4_dates_14 : decode cX4_dates 14 = .ok (.iload_n 1, 1) := dk_27 (dk_at dksX4_dates_0 14 rfl rfl)
theorem dX4_dates_15 : decode cX4_dates 15 = .ok (.aload_n 0, 1) := dk_42 (dk_at dksX4_dates_0 15 rfl rfl)
theorem dX4_dates_16 : decode cX4_dates 16 = .ok (.getfield 49, 3) := dk_180 0 49 (dk_at dksX4_dates_0 16 rfl rfl)
theorem dX4_dates_19 : decode cX4_dates 19 = .ok (.iload_n 1, 1) := dk_27 (dk_at dksX4_dates_0 19 rfl rfl)
theorem dX4_dates_20 : decode cX4_dates 20 = .ok (.iaload, 1) := dk_46 (dk_at dksX4_dates_0 20 rfl rfl)
theorem dX4_dates_21 : decode cX4_dates 21 = .ok (.iastore, 1) := dk_79 (dk_at dksX4_dates_0 21 rfl rfl)
theorem dX4_dates_22 : decode cX4_dates 22 = .ok (.aload_n 0, 1) := dk_42 (dk_at dksX4_dates_0 22 rfl rfl)
theorem dX4_dates_23 : decode cX4_dates 23 = .ok (.getfield 119, 3) := dk_180 0 119 (dk_at dksX4_dates_1 0 rfl rfl)
theorem dX4_dates_26 : decode cX4_dates 26 = .ok (.iload_n 1, 1) := dk_27 (dk_at dksX4_dates_1 3 rfl rfl)
theorem dX4_dates_27 : decode cX4_dates 27 = .ok (.aload_n 0, 1) := dk_42 (dk_at dksX4_dates_1 4 rfl rfl)
theorem dX4_dates_28 : decode cX4_dates 28 = .ok (.getfield 52, 3) := dk_180 0 52 (dk_at dksX4_dates_1 5 rfl rfl)
theorem dX4_dates_31 : decode cX4_dates 31 = .ok (.iload_n 1, 1) := dk_27 (dk_at dksX4_dates_1 8 rfl rfl)
theorem dX4_dates_32 : decode cX4_dates 32 = .ok (.iaload, 1) := dk_46 (dk_at dksX4_dates_1 9 rfl rfl)
theorem dX4_dates_33 : decode cX4_dates 33 = .ok (.iastore, 1) := dk_79 (dk_at dksX4_dates_1 10 rfl rfl)
theorem dX4_dates_34 : decode cX4_dates 34 = .ok (.iinc 1 1, 3) := dk_132 1 1 (dk_at dksX4_dates_1 11 rfl rfl)
theorem dX4_dates_37 : decode cX4_dates 37 = .ok (.goto (-35), 3) := dk_167 255 221 (dk_at dksX4_dates_1 14 rfl rfl)
theorem dX4_dates_40 : decode cX4_dates 40 = .ok (.iconst 1, 1) := dk_4 (dk_at dksX4_dates_1 17 rfl rfl)
theorem dX4_dates_41 : decode cX4_dates 41 = .ok (.istore_n 1, 1) := dk_60 (dk_at dksX4_dates_1 18 rfl rfl)
theorem dX4_dates_42 : decode cX4_dates 42 = .ok (.iload_n 1, 1) := dk_27 (dk_at dksX4_dates_1 19 rfl rfl)
theorem dX4_dates_43 : decode cX4_dates 43 = .ok (.ifCond .eq 167, 3) := dk_153 0 167 (dk_at dksX4_dates_1 20 rfl rfl)
theorem dX4_dates_46 : decode cX4_dates 46 = .ok (.iconst 0, 1) := dk_3 (dk_at dksX4_dates_1 23 rfl rfl)
theorem dX4_dates_47 : decode cX4_dates 47 = .ok (.istore_n 1, 1) := dk_60 (dk_at dksX4_dates_2 0 rfl rfl)
theorem dX4_dates_48 : decode cX4_dates 48 = .ok (.iconst 0, 1) := dk_3 (dk_at dksX4_dates_2 1 rfl rfl)
theorem dX4_dates_49 : decode cX4_dates 49 = .ok (.istore_n 2, 1) := dk_61 (dk_at dksX4_dates_2 2 rfl rfl)
theorem dX4_dates_50 : decode cX4_dates 50 = .ok (.iload_n 2, 1) := dk_28 (dk_at dksX4_dates_2 3 rfl rfl)
theorem dX4_dates_51 : decode cX4_dates 51 = .ok (.aload_n 0, 1) := dk_42 (dk_at dksX4_dates_2 4 rfl rfl)
theorem dX4_dates_52 : decode cX4_dates 52 = .ok (.getfield 219, 3) := dk_180 0 219 (dk_at dksX4_dates_2 5 rfl rfl)
theorem dX4_dates_55 : decode cX4_dates 55 = .ok (.if_icmp .ge 38, 3) := dk_162 0 38 (dk_at dksX4_dates_2 8 rfl rfl)
theorem dX4_dates_58 : decode cX4_dates 58 = .ok (.aload_n 0, 1) := dk_42 (dk_at dksX4_dates_2 11 rfl rfl)
theorem dX4_dates_59 : decode cX4_dates 59 = .ok (.aload_n 0, 1) := dk_42 (dk_at dksX4_dates_2 12 rfl rfl)
theorem dX4_dates_60 : decode cX4_dates 60 = .ok (.getfield 55, 3) := dk_180 0 55 (dk_at dksX4_dates_2 13 rfl rfl)
theorem dX4_dates_63 : decode cX4_dates 63 = .ok (.iload_n 2, 1) := dk_28 (dk_at dksX4_dates_2 16 rfl rfl)
theorem dX4_dates_64 : decode cX4_dates 64 = .ok (.iaload, 1) := dk_46 (dk_at dksX4_dates_2 17 rfl rfl)
theorem dX4_dates_65 : decode cX4_dates 65 = .ok (.aload_n 0, 1) := dk_42 (dk_at dksX4_dates_2 18 rfl rfl)
theorem dX4_dates_66 : decode cX4_dates 66 = .ok (.getfield 58, 3) := dk_180 0 58 (dk_at dksX4_dates_2 19 rfl rfl)
theorem dX4_dates_69 : decode cX4_dates 69 = .ok (.iload_n 2, 1) := dk_28 (dk_at dksX4_dates_2 22 rfl rfl)
theorem dX4_dates_70 : decode cX4_dates 70 = .ok (.iaload, 1) := dk_46 (dk_at dksX4_dates_2 23 rfl rfl)
theorem dX4_dates_71 : decode cX4_dates 71 = .ok (.invokevirtual 222, 3) := dk_182 0 222 (dk_at dksX4_dates_3 0 rfl rfl)
theorem dX4_dates_74 : decode cX4_dates 74 = .ok (.ifCond .ne 7, 3) := dk_154 0 7 (dk_at dksX4_dates_3 3 rfl rfl)
theorem dX4_dates_77 : decode cX4_dates 77 = .ok (.iload_n 1, 1) := dk_27 (dk_at dksX4_dates_3 6 rfl rfl)
theorem dX4_dates_78 : decode cX4_dates 78 = .ok (.ifCond .eq 7, 3) := dk_153 0 7 (dk_at dksX4_dates_3 7 rfl rfl)
theorem dX4_dates_81 : decode cX4_dates 81 = .ok (.iconst 1, 1) := dk_4 (dk_at dksX4_dates_3 10 rfl rfl)
theorem dX4_dates_82 : decode cX4_dates 82 = .ok (.goto 4, 3) := dk_167 0 4 (dk_at dksX4_dates_3 11 rfl rfl)
theorem dX4_dates_85 : decode cX4_dates 85 = .ok (.iconst 0, 1) := dk_3 (dk_at dksX4_dates_3 14 rfl rfl)
theorem dX4_dates_86 : decode cX4_dates 86 = .ok (.istore_n 1, 1) := dk_60 (dk_at dksX4_dates_3 15 rfl rfl)
theorem dX4_dates_87 : decode cX4_dates 87 = .ok (.iinc 2 1, 3) := dk_132 2 1 (dk_at dksX4_dates_3 16 rfl rfl)
theorem dX4_dates_90 : decode cX4_dates 90 = .ok (.goto (-40), 3) := dk_167 255 216 (dk_at dksX4_dates_3 19 rfl rfl)
theorem dX4_dates_93 : decode cX4_dates 93 = .ok (.iconst 0, 1) := dk_3 (dk_at dksX4_dates_3 22 rfl rfl)
theorem dX4_dates_94 : decode cX4_dates 94 = .ok (.istore_n 2, 1) := dk_61 (dk_at dksX4_dates_3 23 rfl rfl)
theorem dX4_dates_95 : decode cX4_dates 95 = .ok (.iload_n 2, 1) := dk_28 (dk_at dksX4_dates_4 0 rfl rfl)
theorem dX4_dates_96 : decode cX4_dates 96 = .ok (.aload_n 0, 1) := dk_42 (dk_at dksX4_dates_4 1 rfl rfl)
theorem dX4_dates_97 : decode cX4_dates 97 = .ok (.getfield 226, 3) := dk_180 0 226 (dk_at dksX4_dates_4 2 rfl rfl)
theorem dX4_dates_100 : decode cX4_dates 100 = .ok (.if_icmp .ge 74, 3) := dk_162 0 74 (dk_at dksX4_dates_4 5 rfl rfl)
theorem dX4_dates_103 : decode cX4_dates 103 = .ok (.aload_n 0, 1) := dk_42 (dk_at dksX4_dates_4 8 rfl rfl)
theorem dX4_dates_104 : decode cX4_dates 104 = .ok (.getfield 67, 3) := dk_180 0 67 (dk_at dksX4_dates_4 9 rfl rfl)
theorem dX4_dates_107 : decode cX4_dates 107 = .ok (.aload_n 0, 1) := dk_42 (dk_at dksX4_dates_4 12 rfl rfl)
theorem dX4_dates_108 : decode cX4_dates 108 = .ok (.getfield 61, 3) := dk_180 0 61 (dk_at dksX4_dates_4 13 rfl rfl)
theorem dX4_dates_111 : decode cX4_dates 111 = .ok (.iload_n 2, 1) := dk_28 (dk_at dksX4_dates_4 16 rfl rfl)
theorem dX4_dates_112 : decode cX4_dates 112 = .ok (.iaload, 1) := dk_46 (dk_at dksX4_dates_4 17 rfl rfl)
theorem dX4_dates_113 : decode cX4_dates 113 = .ok (.iaload, 1) := dk_46 (dk_at dksX4_dates_4 18 rfl rfl)
theorem dX4_dates_114 : decode cX4_dates 114 = .ok (.istore_n 3, 1) := dk_62 (dk_at dksX4_dates_4 19 rfl rfl)
theorem dX4_dates_115 : decode cX4_dates 115 = .ok (.aload_n 0, 1) := dk_42 (dk_at dksX4_dates_4 20 rfl rfl)
theorem dX4_dates_116 : decode cX4_dates 116 = .ok (.getfield 67, 3) := dk_180 0 67 (dk_at dksX4_dates_4 21 rfl rfl)
theorem dX4_dates_119 : decode cX4_dates 119 = .ok (.aload_n 0, 1) := dk_42 (dk_at dksX4_dates_5 0 rfl rfl)
theorem dX4_dates_120 : decode cX4_dates 120 = .ok (.getfield 64, 3) := dk_180 0 64 (dk_at dksX4_dates_5 1 rfl rfl)
theorem dX4_dates_123 : decode cX4_dates 123 = .ok (.iload_n 2, 1) := dk_28 (dk_at dksX4_dates_5 4 rfl rfl)
theorem dX4_dates_124 : decode cX4_dates 124 = .ok (.iaload, 1) := dk_46 (dk_at dksX4_dates_5 5 rfl rfl)
theorem dX4_dates_125 : decode cX4_dates 125 = .ok (.iaload, 1) := dk_46 (dk_at dksX4_dates_5 6 rfl rfl)
theorem dX4_dates_126 : decode cX4_dates 126 = .ok (.istore 4, 2) := dk_54 4 (dk_at dksX4_dates_5 7 rfl rfl)
theorem dX4_dates_128 : decode cX4_dates 128 = .ok (.aload_n 0, 1) := dk_42 (dk_at dksX4_dates_5 9 rfl rfl)
theorem dX4_dates_129 : decode cX4_dates 129 = .ok (.iload_n 3, 1) := dk_29 (dk_at dksX4_dates_5 10 rfl rfl)
theorem dX4_dates_130 : decode cX4_dates 130 = .ok (.iload 4, 2) := dk_21 4 (dk_at dksX4_dates_5 11 rfl rfl)
theorem dX4_dates_132 : decode cX4_dates 132 = .ok (.invokevirtual 222, 3) := dk_182 0 222 (dk_at dksX4_dates_5 13 rfl rfl)
theorem dX4_dates_135 : decode cX4_dates 135 = .ok (.ifCond .ne 7, 3) := dk_154 0 7 (dk_at dksX4_dates_5 16 rfl rfl)
theorem dX4_dates_138 : decode cX4_dates 138 = .ok (.iload_n 1, 1) := dk_27 (dk_at dksX4_dates_5 19 rfl rfl)
theorem dX4_dates_139 : decode cX4_dates 139 = .ok (.ifCond .eq 7, 3) := dk_153 0 7 (dk_at dksX4_dates_5 20 rfl rfl)
theorem dX4_dates_142 : decode cX4_dates 142 = .ok (.iconst 1, 1) := dk_4 (dk_at dksX4_dates_5 23 rfl rfl)
theorem dX4_dates_143 : decode cX4_dates 143 = .ok (.goto 4, 3) := dk_167 0 4 (dk_at dksX4_dates_6 0 rfl rfl)
theorem dX4_dates_146 : decode cX4_dates 146 = .ok (.iconst 0, 1) := dk_3 (dk_at dksX4_dates_6 3 rfl rfl)
theorem dX4_dates_147 : decode cX4_dates 147 = .ok (.istore_n 1, 1) := dk_60 (dk_at dksX4_dates_6 4 rfl rfl)
theorem dX4_dates_148 : decode cX4_dates 148 = .ok (.aload_n 0, 1) := dk_42 (dk_at dksX4_dates_6 5 rfl rfl)
theorem dX4_dates_149 : decode cX4_dates 149 = .ok (.iload 4, 2) := dk_21 4 (dk_at dksX4_dates_6 6 rfl rfl)
theorem dX4_dates_151 : decode cX4_dates 151 = .ok (.iload_n 3, 1) := dk_29 (dk_at dksX4_dates_6 8 rfl rfl)
theorem dX4_dates_152 : decode cX4_dates 152 = .ok (.invokevirtual 222, 3) := dk_182 0 222 (dk_at dksX4_dates_6 9 rfl rfl)
theorem dX4_dates_155 : decode cX4_dates 155 = .ok (.ifCond .ne 7, 3) := dk_154 0 7 (dk_at dksX4_dates_6 12 rfl rfl)
theorem dX4_dates_158 : decode cX4_dates 158 = .ok (.iload_n 1, 1) := dk_27 (dk_at dksX4_dates_6 15 rfl rfl)
theorem dX4_dates_159 : decode cX4_dates 159 = .ok (.ifCond .eq 7, 3) := dk_153 0 7 (dk_at dksX4_dates_6 16 rfl rfl)
theorem dX4_dates_162 : decode cX4_dates 162 = .ok (.iconst 1, 1) := dk_4 (dk_at dksX4_dates_6 19 rfl rfl)
theorem dX4_dates_163 : decode cX4_dates 163 = .ok (.goto 4, 3) := dk_167 0 4 (dk_at dksX4_dates_6 20 rfl rfl)
theorem dX4_dates_166 : decode cX4_dates 166 = .ok (.iconst 0, 1) := dk_3 (dk_at dksX4_dates_6 23 rfl rfl)
theorem dX4_dates_167 : decode cX4_dates 167 = .ok (.istore_n 1, 1) := dk_60 (dk_at dksX4_dates_7 0 rfl rfl)
theorem dX4_dates_168 : decode cX4_dates 168 = .ok (.iinc 2 1, 3) := dk_132 2 1 (dk_at dksX4_dates_7 1 rfl rfl)
theorem dX4_dates_171 : decode cX4_dates 171 = .ok (.goto (-76), 3) := dk_167 255 180 (dk_at dksX4_dates_7 4 rfl rfl)
theorem dX4_dates_174 : decode cX4_dates 174 = .ok (.iconst 0, 1) := dk_3 (dk_at dksX4_dates_7 7 rfl rfl)
theorem dX4_dates_175 : decode cX4_dates 175 = .ok (.istore_n 2, 1) := dk_61 (dk_at dksX4_dates_7 8 rfl rfl)
theorem dX4_dates_176 : decode cX4_dates 176 = .ok (.iload_n 2, 1) := dk_28 (dk_at dksX4_dates_7 9 rfl rfl)
theorem dX4_dates_177 : decode cX4_dates 177 = .ok (.aload_n 0, 1) := dk_42 (dk_at dksX4_dates_7 10 rfl rfl)
theorem dX4_dates_178 : decode cX4_dates 178 = .ok (.getfield 203, 3) := dk_180 0 203 (dk_at dksX4_dates_7 11 rfl rfl)
theorem dX4_dates_181 : decode cX4_dates 181 = .ok (.if_icmp .ge 26, 3) := dk_162 0 26 (dk_at dksX4_dates_7 14 rfl rfl)
theorem dX4_dates_184 : decode cX4_dates 184 = .ok (.aload_n 0, 1) := dk_42 (dk_at dksX4_dates_7 17 rfl rfl)
theorem dX4_dates_185 : decode cX4_dates 185 = .ok (.getfield 116, 3) := dk_180 0 116 (dk_at dksX4_dates_7 18 rfl rfl)
theorem dX4_dates_188 : decode cX4_dates 188 = .ok (.iload_n 2, 1) := dk_28 (dk_at dksX4_dates_7 21 rfl rfl)
theorem dX4_dates_189 : decode cX4_dates 189 = .ok (.iaload, 1) := dk_46 (dk_at dksX4_dates_7 22 rfl rfl)
theorem dX4_dates_190 : decode cX4_dates 190 = .ok (.aload_n 0, 1) := dk_42 (dk_at dksX4_dates_7 23 rfl rfl)
theorem dX4_dates_191 : decode cX4_dates 191 = .ok (.getfield 119, 3) := dk_180 0 119 (dk_at dksX4_dates_8 0 rfl rfl)
theorem dX4_dates_194 : decode cX4_dates 194 = .ok (.iload_n 2, 1) := dk_28 (dk_at dksX4_dates_8 3 rfl rfl)
theorem dX4_dates_195 : decode cX4_dates 195 = .ok (.iaload, 1) := dk_46 (dk_at dksX4_dates_8 4 rfl rfl)
theorem dX4_dates_196 : decode cX4_dates 196 = .ok (.if_icmp .le 5, 3) := dk_164 0 5 (dk_at dksX4_dates_8 5 rfl rfl)
theorem dX4_dates_199 : decode cX4_dates 199 = .ok (.iconst 0, 1) := dk_3 (dk_at dksX4_dates_8 8 rfl rfl)
theorem dX4_dates_200 : decode cX4_dates 200 = .ok (.ireturn, 1) := dk_172 (dk_at dksX4_dates_8 9 rfl rfl)
theorem dX4_dates_201 : decode cX4_dates 201 = .ok (.iinc 2 1, 3) := dk_132 2 1 (dk_at dksX4_dates_8 10 rfl rfl)
theorem dX4_dates_204 : decode cX4_dates 204 = .ok (.goto (-28), 3) := dk_167 255 228 (dk_at dksX4_dates_8 13 rfl rfl)
theorem dX4_dates_207 : decode cX4_dates 207 = .ok (.goto (-165), 3) := dk_167 255 91 (dk_at dksX4_dates_8 16 rfl rfl)
theorem dX4_dates_210 : decode cX4_dates 210 = .ok (.iconst 1, 1) := dk_4 (dk_at dksX4_dates_8 19 rfl rfl)
theorem dX4_dates_211 : decode cX4_dates 211 = .ok (.ireturn, 1) := dk_172 (dk_at dksX4_dates_8 20 rfl rfl)
abbrev cX4_bounds : ByteArray := prog_20_method_20_code
def yX4_bounds : MethodName := ⟨RX4, "bounds", "(II)Z"⟩
def dkwX4_bounds_3 : List UInt8 := [180, 0, 119, 27, 46, 184, 0, 235, 79, 29, 172]
abbrev dktX4_bounds_3 : List UInt8 := dkwX4_bounds_3 ++ []
def dkwX4_bounds_2 : List UInt8 := [46, 42, 180, 0, 116, 28, 46, 184, 0, 229, 79, 42, 180, 0, 119, 28, 42, 180, 0, 119, 28, 46, 42]
abbrev dktX4_bounds_2 : List UInt8 := dkwX4_bounds_2 ++ dktX4_bounds_3
def dkwX4_bounds_1 : List UInt8 := [180, 0, 119, 28, 46, 162, 0, 7, 4, 167, 0, 4, 3, 62, 42, 180, 0, 116, 27, 42, 180, 0, 116, 27]
abbrev dktX4_bounds_1 : List UInt8 := dkwX4_bounds_1 ++ dktX4_bounds_2
def dkwX4_bounds_0 : List UInt8 := [42, 180, 0, 116, 28, 46, 42, 180, 0, 116, 27, 46, 163, 0, 18, 42, 180, 0, 119, 27, 46, 42]
abbrev dktX4_bounds_0 : List UInt8 := dkwX4_bounds_0 ++ dktX4_bounds_1
theorem dksX4_bounds_0 : cX4_bounds.data.toList.drop 0 = dktX4_bounds_0 := by decide +kernel
theorem dksX4_bounds_1 : cX4_bounds.data.toList.drop 22 = dktX4_bounds_1 := dk_seg dksX4_bounds_0 22 rfl rfl
theorem dksX4_bounds_2 : cX4_bounds.data.toList.drop 46 = dktX4_bounds_2 := dk_seg dksX4_bounds_1 24 rfl rfl
theorem dksX4_bounds_3 : cX4_bounds.data.toList.drop 69 = dktX4_bounds_3 := dk_seg dksX4_bounds_2 23 rfl rfl
theorem dX4_bounds_0 : decode cX4_bounds 0 = .ok (.aload_n 0, 1) := dk_42 (dk_at dksX4_bounds_0 0 rfl rfl)
theorem dX4_bounds_1 : decode cX4_bounds 1 = .ok (.getfield 116, 3) := dk_180 0 116 (dk_at dksX4_bounds_0 1 rfl rfl)
theorem dX4_bounds_4 : decode cX4_bounds 4 = .ok (.iload_n 2, 1) := dk_28 (dk_at dksX4_bounds_0 4 rfl rfl)
theorem dX4_bounds_5 : decode cX4_bounds 5 = .ok (.iaload, 1) := dk_46 (dk_at dksX4_bounds_0 5 rfl rfl)
theorem dX4_bounds_6 : decode cX4_bounds 6 = .ok (.aload_n 0, 1) := dk_42 (dk_at dksX4_bounds_0 6 rfl rfl)
theorem dX4_bounds_7 : decode cX4_bounds 7 = .ok (.getfield 116, 3) := dk_180 0 116 (dk_at dksX4_bounds_0 7 rfl rfl)
theorem dX4_bounds_10 : decode cX4_bounds 10 = .ok (.iload_n 1, 1) := dk_27 (dk_at dksX4_bounds_0 10 rfl rfl)
theorem dX4_bounds_11 : decode cX4_bounds 11 = .ok (.iaload, 1) := dk_46 (dk_at dksX4_bounds_0 11 rfl rfl)
theorem dX4_bounds_12 : decode cX4_bounds 12 = .ok (.if_icmp .gt 18, 3) := dk_163 0 18 (dk_at dksX4_bounds_0 12 rfl rfl)
theorem dX4_bounds_15 : decode cX4_bounds 15 = .ok (.aload_n 0, 1) := dk_42 (dk_at dksX4_bounds_0 15 rfl rfl)
theorem dX4_bounds_16 : decode cX4_bounds 16 = .ok (.getfield 119, 3) := dk_180 0 119 (dk_at dksX4_bounds_0 16 rfl rfl)
theorem dX4_bounds_19 : decode cX4_bounds 19 = .ok (.iload_n 1, 1) := dk_27 (dk_at dksX4_bounds_0 19 rfl rfl)
theorem dX4_bounds_20 : decode cX4_bounds 20 = .ok (.iaload, 1) := dk_46 (dk_at dksX4_bounds_0 20 rfl rfl)
theorem dX4_bounds_21 : decode cX4_bounds 21 = .ok (.aload_n 0, 1) := dk_42 (dk_at dksX4_bounds_0 21 rfl rfl)
theorem dX4_bounds_22 : decode cX4_bounds 22 = .ok (.getfield 119, 3) := dk_180 0 119 (dk_at dksX4_bounds_1 0 rfl rfl)
theorem dX4_bounds_25 : decode cX4_bounds 25 = .ok (.iload_n 2, 1) := dk_28 (dk_at dksX4_bounds_1 3 rfl rfl)
theorem dX4_bounds_26 : decode cX4_bounds 26 = .ok (.iaload, 1) := dk_46 (dk_at dksX4_bounds_1 4 rfl rfl)
theorem dX4_bounds_27 : decode cX4_bounds 27 = .ok (.if_icmp .ge 7, 3) := dk_162 0 7 (dk_at dksX4_bounds_1 5 rfl rfl)
theorem dX4_bounds_30 : decode cX4_bounds 30 = .ok (.iconst 1, 1) := dk_4 (dk_at dksX4_bounds_1 8 rfl rfl)
theorem dX4_bounds_31 : decode cX4_bounds 31 = .ok (.goto 4, 3) := dk_167 0 4 (dk_at dksX4_bounds_1 9 rfl rfl)
theorem dX4_bounds_34 : decode cX4_bounds 34 = .ok (.iconst 0, 1) := dk_3 (dk_at dksX4_bounds_1 12 rfl rfl)
theorem dX4_bounds_35 : decode cX4_bounds 35 = .ok (.istore_n 3, 1) := dk_62 (dk_at dksX4_bounds_1 13 rfl rfl)
theorem dX4_bounds_36 : decode cX4_bounds 36 = .ok (.aload_n 0, 1) := dk_42 (dk_at dksX4_bounds_1 14 rfl rfl)
theorem dX4_bounds_37 : decode cX4_bounds 37 = .ok (.getfield 116, 3) := dk_180 0 116 (dk_at dksX4_bounds_1 15 rfl rfl)
theorem dX4_bounds_40 : decode cX4_bounds 40 = .ok (.iload_n 1, 1) := dk_27 (dk_at dksX4_bounds_1 18 rfl rfl)
theorem dX4_bounds_41 : decode cX4_bounds 41 = .ok (.aload_n 0, 1) := dk_42 (dk_at dksX4_bounds_1 19 rfl rfl)
theorem dX4_bounds_42 : decode cX4_bounds 42 = .ok (.getfield 116, 3) := dk_180 0 116 (dk_at dksX4_bounds_1 20 rfl rfl)
theorem dX4_bounds_45 : decode cX4_bounds 45 = .ok (.iload_n 1, 1) := dk_27 (dk_at dksX4_bounds_1 23 rfl rfl)
theorem dX4_bounds_46 : decode cX4_bounds 46 = .ok (.iaload, 1) := dk_46 (dk_at dksX4_bounds_2 0 rfl rfl)
theorem dX4_bounds_47 : decode cX4_bounds 47 = .ok (.aload_n 0, 1) := dk_42 (dk_at dksX4_bounds_2 1 rfl rfl)
theorem dX4_bounds_48 : decode cX4_bounds 48 = .ok (.getfield 116, 3) := dk_180 0 116 (dk_at dksX4_bounds_2 2 rfl rfl)
theorem dX4_bounds_51 : decode cX4_bounds 51 = .ok (.iload_n 2, 1) := dk_28 (dk_at dksX4_bounds_2 5 rfl rfl)
theorem dX4_bounds_52 : decode cX4_bounds 52 = .ok (.iaload, 1) := dk_46 (dk_at dksX4_bounds_2 6 rfl rfl)
theorem dX4_bounds_53 : decode cX4_bounds 53 = .ok (.invokestatic 229, 3) := dk_184 0 229 (dk_at dksX4_bounds_2 7 rfl rfl)
theorem dX4_bounds_56 : decode cX4_bounds 56 = .ok (.iastore, 1) := dk_79 (dk_at dksX4_bounds_2 10 rfl rfl)
theorem dX4_bounds_57 : decode cX4_bounds 57 = .ok (.aload_n 0, 1) := dk_42 (dk_at dksX4_bounds_2 11 rfl rfl)
theorem dX4_bounds_58 : decode cX4_bounds 58 = .ok (.getfield 119, 3) := dk_180 0 119 (dk_at dksX4_bounds_2 12 rfl rfl)
theorem dX4_bounds_61 : decode cX4_bounds 61 = .ok (.iload_n 2, 1) := dk_28 (dk_at dksX4_bounds_2 15 rfl rfl)
theorem dX4_bounds_62 : decode cX4_bounds 62 = .ok (.aload_n 0, 1) := dk_42 (dk_at dksX4_bounds_2 16 rfl rfl)
theorem dX4_bounds_63 : decode cX4_bounds 63 = .ok (.getfield 119, 3) := dk_180 0 119 (dk_at dksX4_bounds_2 17 rfl rfl)
theorem dX4_bounds_66 : decode cX4_bounds 66 = .ok (.iload_n 2, 1) := dk_28 (dk_at dksX4_bounds_2 20 rfl rfl)
theorem dX4_bounds_67 : decode cX4_bounds 67 = .ok (.iaload, 1) := dk_46 (dk_at dksX4_bounds_2 21 rfl rfl)
theorem dX4_bounds_68 : decode cX4_bounds 68 = .ok (.aload_n 0, 1) := dk_42 (dk_at dksX4_bounds_2 22 rfl rfl)
theorem dX4_bounds_69 : decode cX4_bounds 69 = .ok (.getfield 119, 3) := dk_180 0 119 (dk_at dksX4_bounds_3 0 rfl rfl)
theorem dX4_bounds_72 : decode cX4_bounds 72 = .ok (.iload_n 1, 1) := dk_27 (dk_at dksX4_bounds_3 3 rfl rfl)
theorem dX4_bounds_73 : decode cX4_bounds 73 = .ok (.iaload, 1) := dk_46 (dk_at dksX4_bounds_3 4 rfl rfl)
theorem dX4_bounds_74 : decode cX4_bounds 74 = .ok (.invokestatic 235, 3) := dk_184 0 235 (dk_at dksX4_bounds_3 5 rfl rfl)
theorem dX4_bounds_77 : decode cX4_bounds 77 = .ok (.iastore, 1) := dk_79 (dk_at dksX4_bounds_3 8 rfl rfl)
theorem dX4_bounds_78 : decode cX4_bounds 78 = .ok (.iload_n 3, 1) := dk_29 (dk_at dksX4_bounds_3 9 rfl rfl)
theorem dX4_bounds_79 : decode cX4_bounds 79 = .ok (.ireturn, 1) := dk_172 (dk_at dksX4_bounds_3 10 rfl rfl)
abbrev cX4_sealed : ByteArray := prog_20_method_24_code
def yX4_sealed : MethodName := ⟨RX4, "sealed", "(II)I"⟩
def dkwX4_sealed_2 : List UInt8 := [153, 0, 5, 3, 172, 42, 180, 0, 52, 27, 29, 79, 16, 249, 172]
abbrev dktX4_sealed_2 : List UInt8 := dkwX4_sealed_2 ++ []
def dkwX4_sealed_1 : List UInt8 := [154, 0, 6, 16, 254, 172, 42, 180, 0, 52, 27, 46, 62, 42, 180, 0, 52, 27, 28, 79, 42, 182, 0, 248]
abbrev dktX4_sealed_1 : List UInt8 := dkwX4_sealed_1 ++ dktX4_sealed_2
def dkwX4_sealed_0 : List UInt8 := [42, 3, 181, 0, 173, 42, 27, 182, 0, 242, 153, 0, 15, 28, 133, 9, 20, 0, 217, 184, 0, 178]
abbrev dktX4_sealed_0 : List UInt8 := dkwX4_sealed_0 ++ dktX4_sealed_1
theorem dksX4_sealed_0 : cX4_sealed.data.toList.drop 0 = dktX4_sealed_0 := by decide +kernel
theorem dksX4_sealed_1 : cX4_sealed.data.toList.drop 22 = dktX4_sealed_1 := dk_seg dksX4_sealed_0 22 rfl rfl
theorem dksX4_sealed_2 : cX4_sealed.data.toList.drop 46 = dktX4_sealed_2 := dk_seg dksX4_sealed_1 24 rfl rfl
theorem dX4_sealed_0 : decode cX4_sealed 0 = .ok (.aload_n 0, 1) := dk_42 (dk_at dksX4_sealed_0 0 rfl rfl)
theorem dX4_sealed_1 : decode cX4_sealed 1 = .ok (.iconst 0, 1) := dk_3 (dk_at dksX4_sealed_0 1 rfl rfl)
theorem dX4_sealed_2 : decode cX4_sealed 2 = .ok (.putfield 173, 3) := dk_181 0 173 (dk_at dksX4_sealed_0 2 rfl rfl)
theorem dX4_sealed_5 : decode cX4_sealed 5 = .ok (.aload_n 0, 1) := dk_42 (dk_at dksX4_sealed_0 5 rfl rfl)
theorem dX4_sealed_6 : decode cX4_sealed 6 = .ok (.iload_n 1, 1) := dk_27 (dk_at dksX4_sealed_0 6 rfl rfl)
theorem dX4_sealed_7 : decode cX4_sealed 7 = .ok (.invokevirtual 242, 3) := dk_182 0 242 (dk_at dksX4_sealed_0 7 rfl rfl)
theorem dX4_sealed_10 : decode cX4_sealed 10 = .ok (.ifCond .eq 15, 3) := dk_153 0 15 (dk_at dksX4_sealed_0 10 rfl rfl)
theorem dX4_sealed_13 : decode cX4_sealed 13 = .ok (.iload_n 2, 1) := dk_28 (dk_at dksX4_sealed_0 13 rfl rfl)
theorem dX4_sealed_14 : decode cX4_sealed 14 = .ok (.i2l, 1) := dk_133 (dk_at dksX4_sealed_0 14 rfl rfl)
theorem dX4_sealed_15 : decode cX4_sealed 15 = .ok (.lconst 0, 1) := dk_9 (dk_at dksX4_sealed_0 15 rfl rfl)
theorem dX4_sealed_16 : decode cX4_sealed 16 = .ok (.ldc2_w 217, 3) := dk_20 0 217 (dk_at dksX4_sealed_0 16 rfl rfl)
theorem dX4_sealed_19 : decode cX4_sealed 19 = .ok (.invokestatic 178, 3) := dk_184 0 178 (dk_at dksX4_sealed_0 19 rfl rfl)
theorem dX4_sealed_22 : decode cX4_sealed 22 = .ok (.ifCond .ne 6, 3) := dk_154 0 6 (dk_at dksX4_sealed_1 0 rfl rfl)
theorem dX4_sealed_25 : decode cX4_sealed 25 = .ok (.bipush (-2), 2) := dk_16 254 (dk_at dksX4_sealed_1 3 rfl rfl)
theorem dX4_sealed_27 : decode cX4_sealed 27 = .ok (.ireturn, 1) := dk_172 (dk_at dksX4_sealed_1 5 rfl rfl)
theorem dX4_sealed_28 : decode cX4_sealed 28 = .ok (.aload_n 0, 1) := dk_42 (dk_at dksX4_sealed_1 6 rfl rfl)
theorem dX4_sealed_29 : decode cX4_sealed 29 = .ok (.getfield 52, 3) := dk_180 0 52 (dk_at dksX4_sealed_1 7 rfl rfl)
theorem dX4_sealed_32 : decode cX4_sealed 32 = .ok (.iload_n 1, 1) := dk_27 (dk_at dksX4_sealed_1 10 rfl rfl)
theorem dX4_sealed_33 : decode cX4_sealed 33 = .ok (.iaload, 1) := dk_46 (dk_at dksX4_sealed_1 11 rfl rfl)
theorem dX4_sealed_34 : decode cX4_sealed 34 = .ok (.istore_n 3, 1) := dk_62 (dk_at dksX4_sealed_1 12 rfl rfl)
theorem dX4_sealed_35 : decode cX4_sealed 35 = .ok (.aload_n 0, 1) := dk_42 (dk_at dksX4_sealed_1 13 rfl rfl)
theorem dX4_sealed_36 : decode cX4_sealed 36 = .ok (.getfield 52, 3) := dk_180 0 52 (dk_at dksX4_sealed_1 14 rfl rfl)
theorem dX4_sealed_39 : decode cX4_sealed 39 = .ok (.iload_n 1, 1) := dk_27 (dk_at dksX4_sealed_1 17 rfl rfl)
theorem dX4_sealed_40 : decode cX4_sealed 40 = .ok (.iload_n 2, 1) := dk_28 (dk_at dksX4_sealed_1 18 rfl rfl)
theorem dX4_sealed_41 : decode cX4_sealed 41 = .ok (.iastore, 1) := dk_79 (dk_at dksX4_sealed_1 19 rfl rfl)
theorem dX4_sealed_42 : decode cX4_sealed 42 = .ok (.aload_n 0, 1) := dk_42 (dk_at dksX4_sealed_1 20 rfl rfl)
theorem dX4_sealed_43 : decode cX4_sealed 43 = .ok (.invokevirtual 248, 3) := dk_182 0 248 (dk_at dksX4_sealed_1 21 rfl rfl)
theorem dX4_sealed_46 : decode cX4_sealed 46 = .ok (.ifCond .eq 5, 3) := dk_153 0 5 (dk_at dksX4_sealed_2 0 rfl rfl)
theorem dX4_sealed_49 : decode cX4_sealed 49 = .ok (.iconst 0, 1) := dk_3 (dk_at dksX4_sealed_2 3 rfl rfl)
theorem dX4_sealed_50 : decode cX4_sealed 50 = .ok (.ireturn, 1) := dk_172 (dk_at dksX4_sealed_2 4 rfl rfl)
theorem dX4_sealed_51 : decode cX4_sealed 51 = .ok (.aload_n 0, 1) := dk_42 (dk_at dksX4_sealed_2 5 rfl rfl)
theorem dX4_sealed_52 : decode cX4_sealed 52 = .ok (.getfield 52, 3) := dk_180 0 52 (dk_at dksX4_sealed_2 6 rfl rfl)
theorem dX4_sealed_55 : decode cX4_sealed 55 = .ok (.iload_n 1, 1) := dk_27 (dk_at dksX4_sealed_2 9 rfl rfl)
theorem dX4_sealed_56 : decode cX4_sealed 56 = .ok (.iload_n 3, 1) := dk_29 (dk_at dksX4_sealed_2 10 rfl rfl)
theorem dX4_sealed_57 : decode cX4_sealed 57 = .ok (.iastore, 1) := dk_79 (dk_at dksX4_sealed_2 11 rfl rfl)
theorem dX4_sealed_58 : decode cX4_sealed 58 = .ok (.bipush (-7), 2) := dk_16 249 (dk_at dksX4_sealed_2 12 rfl rfl)
theorem dX4_sealed_60 : decode cX4_sealed 60 = .ok (.ireturn, 1) := dk_172 (dk_at dksX4_sealed_2 14 rfl rfl)
abbrev cX4_joint : ByteArray := prog_20_method_25_code
def yX4_joint : MethodName := ⟨RX4, "joint", "(II)I"⟩
def dkwX4_joint_7 : List UInt8 := [167, 0, 14, 21, 5, 153, 0, 8, 16, 253, 167, 0, 4, 3, 172]
abbrev dktX4_joint_7 : List UInt8 := dkwX4_joint_7 ++ []
def dkwX4_joint_6 : List UInt8 := [21, 5, 153, 0, 13, 42, 89, 180, 0, 226, 4, 100, 181, 0, 226, 21, 6, 154, 0, 8, 16, 249]
abbrev dktX4_joint_6 : List UInt8 := dkwX4_joint_6 ++ dktX4_joint_7
def dkwX4_joint_5 : List UInt8 := [28, 79, 42, 89, 180, 0, 226, 4, 96, 181, 0, 226, 42, 182, 0, 248, 54, 6, 21, 6, 153, 0, 8]
abbrev dktX4_joint_5 : List UInt8 := dkwX4_joint_5 ++ dktX4_joint_6
def dkwX4_joint_4 : List UInt8 := [167, 0, 4, 3, 54, 5, 42, 180, 0, 61, 42, 180, 0, 226, 27, 79, 42, 180, 0, 64, 42, 180, 0, 226]
abbrev dktX4_joint_4 : List UInt8 := dkwX4_joint_4 ++ dktX4_joint_5
def dkwX4_joint_3 : List UInt8 := [21, 4, 104, 29, 96, 51, 153, 0, 6, 16, 249, 172, 42, 180, 0, 226, 16, 40, 160, 0, 7, 4]
abbrev dktX4_joint_3 : List UInt8 := dkwX4_joint_3 ++ dktX4_joint_4
def dkwX4_joint_2 : List UInt8 := [54, 4, 42, 180, 0, 122, 16, 16, 29, 104, 21, 4, 96, 51, 154, 0, 18, 42, 180, 0, 122, 16, 16]
abbrev dktX4_joint_2 : List UInt8 := dkwX4_joint_2 ++ dktX4_joint_3
def dkwX4_joint_1 : List UInt8 := [160, 0, 6, 16, 254, 172, 42, 182, 0, 245, 42, 180, 0, 67, 27, 46, 62, 42, 180, 0, 67, 28, 46]
abbrev dktX4_joint_1 : List UInt8 := dkwX4_joint_1 ++ dktX4_joint_2
def dkwX4_joint_0 : List UInt8 := [42, 3, 181, 0, 173, 42, 27, 182, 0, 252, 153, 0, 16, 42, 28, 182, 0, 252, 153, 0, 8, 27, 28]
abbrev dktX4_joint_0 : List UInt8 := dkwX4_joint_0 ++ dktX4_joint_1
theorem dksX4_joint_0 : cX4_joint.data.toList.drop 0 = dktX4_joint_0 := by decide +kernel
theorem dksX4_joint_1 : cX4_joint.data.toList.drop 23 = dktX4_joint_1 := dk_seg dksX4_joint_0 23 rfl rfl
theorem dksX4_joint_2 : cX4_joint.data.toList.drop 46 = dktX4_joint_2 := dk_seg dksX4_joint_1 23 rfl rfl
theorem dksX4_joint_3 : cX4_joint.data.toList.drop 69 = dktX4_joint_3 := dk_seg dksX4_joint_2 23 rfl rfl
theorem dksX4_joint_4 : cX4_joint.data.toList.drop 91 = dktX4_joint_4 := dk_seg dksX4_joint_3 22 rfl rfl
theorem dksX4_joint_5 : cX4_joint.data.toList.drop 115 = dktX4_joint_5 := dk_seg dksX4_joint_4 24 rfl rfl
theorem dksX4_joint_6 : cX4_joint.data.toList.drop 138 = dktX4_joint_6 := dk_seg dksX4_joint_5 23 rfl rfl
theorem dksX4_joint_7 : cX4_joint.data.toList.drop 160 = dktX4_joint_7 := dk_seg dksX4_joint_6 22 rfl rfl
theorem dX4_joint_0 : decode cX4_joint 0 = .ok (.aload_n 0, 1) := dk_42 (dk_at dksX4_joint_0 0 rfl rfl)
theorem dX4_joint_1 : decode cX4_joint 1 = .ok (.iconst 0, 1) := dk_3 (dk_at dksX4_joint_0 1 rfl rfl)
theorem dX4_joint_2 : decode cX4_joint 2 = .ok (.putfield 173, 3) := dk_181 0 173 (dk_at dksX4_joint_0 2 rfl rfl)
theorem dX4_joint_5 : decode cX4_joint 5 = .ok (.aload_n 0, 1) := dk_42 (dk_at dksX4_joint_0 5 rfl rfl)
theorem dX4_joint_6 : decode cX4_joint 6 = .ok (.iload_n 1, 1) := dk_27 (dk_at dksX4_joint_0 6 rfl rfl)
theorem dX4_joint_7 : decode cX4_joint 7 = .ok (.invokevirtual 252, 3) := dk_182 0 252 (dk_at dksX4_joint_0 7 rfl rfl)
theorem dX4_joint_10 : decode cX4_joint 10 = .ok (.ifCond .eq 16, 3) := dk_153 0 16 (dk_at dksX4_joint_0 10 rfl rfl)
theorem dX4_joint_13 : decode cX4_joint 13 = .ok (.aload_n 0, 1) := dk_42 (dk_at dksX4_joint_0 13 rfl rfl)
theorem dX4_joint_14 : decode cX4_joint 14 = .ok (.iload_n 2, 1) := dk_28 (dk_at dksX4_joint_0 14 rfl rfl)
theorem dX4_joint_15 : decode cX4_joint 15 = .ok (.invokevirtual 252, 3) := dk_182 0 252 (dk_at dksX4_joint_0 15 rfl rfl)
theorem dX4_joint_18 : decode cX4_joint 18 = .ok (.ifCond .eq 8, 3) := dk_153 0 8 (dk_at dksX4_joint_0 18 rfl rfl)
theorem dX4_joint_21 : decode cX4_joint 21 = .ok (.iload_n 1, 1) := dk_27 (dk_at dksX4_joint_0 21 rfl rfl)
theorem dX4_joint_22 : decode cX4_joint 22 = .ok (.iload_n 2, 1) := dk_28 (dk_at dksX4_joint_0 22 rfl rfl)
theorem dX4_joint_23 : decode cX4_joint 23 = .ok (.if_icmp .ne 6, 3) := dk_160 0 6 (dk_at dksX4_joint_1 0 rfl rfl)
theorem dX4_joint_26 : decode cX4_joint 26 = .ok (.bipush (-2), 2) := dk_16 254 (dk_at dksX4_joint_1 3 rfl rfl)
theorem dX4_joint_28 : decode cX4_joint 28 = .ok (.ireturn, 1) := dk_172 (dk_at dksX4_joint_1 5 rfl rfl)
theorem dX4_joint_29 : decode cX4_joint 29 = .ok (.aload_n 0, 1) := dk_42 (dk_at dksX4_joint_1 6 rfl rfl)
theorem dX4_joint_30 : decode cX4_joint 30 = .ok (.invokevirtual 245, 3) := dk_182 0 245 (dk_at dksX4_joint_1 7 rfl rfl)
theorem dX4_joint_33 : decode cX4_joint 33 = .ok (.aload_n 0, 1) := dk_42 (dk_at dksX4_joint_1 10 rfl rfl)
theorem dX4_joint_34 : decode cX4_joint 34 = .ok (.getfield 67, 3) := dk_180 0 67 (dk_at dksX4_joint_1 11 rfl rfl)
theorem dX4_joint_37 : decode cX4_joint 37 = .ok (.iload_n 1, 1) := dk_27 (dk_at dksX4_joint_1 14 rfl rfl)
theorem dX4_joint_38 : decode cX4_joint 38 = .ok (.iaload, 1) := dk_46 (dk_at dksX4_joint_1 15 rfl rfl)
theorem dX4_joint_39 : decode cX4_joint 39 = .ok (.istore_n 3, 1) := dk_62 (dk_at dksX4_joint_1 16 rfl rfl)
theorem dX4_joint_40 : decode cX4_joint 40 = .ok (.aload_n 0, 1) := dk_42 (dk_at dksX4_joint_1 17 rfl rfl)
theorem dX4_joint_41 : decode cX4_joint 41 = .ok (.getfield 67, 3) := dk_180 0 67 (dk_at dksX4_joint_1 18 rfl rfl)
theorem dX4_joint_44 : decode cX4_joint 44 = .ok (.iload_n 2, 1) := dk_28 (dk_at dksX4_joint_1 21 rfl rfl)
theorem dX4_joint_45 : decode cX4_joint 45 = .ok (.iaload, 1) := dk_46 (dk_at dksX4_joint_1 22 rfl rfl)
theorem dX4_joint_46 : decode cX4_joint 46 = .ok (.istore 4, 2) := dk_54 4 (dk_at dksX4_joint_2 0 rfl rfl)
theorem dX4_joint_48 : decode cX4_joint 48 = .ok (.aload_n 0, 1) := dk_42 (dk_at dksX4_joint_2 2 rfl rfl)
theorem dX4_joint_49 : decode cX4_joint 49 = .ok (.getfield 122, 3) := dk_180 0 122 (dk_at dksX4_joint_2 3 rfl rfl)
theorem dX4_joint_52 : decode cX4_joint 52 = .ok (.bipush 16, 2) := dk_16 16 (dk_at dksX4_joint_2 6 rfl rfl)
theorem dX4_joint_54 : decode cX4_joint 54 = .ok (.iload_n 3, 1) := dk_29 (dk_at dksX4_joint_2 8 rfl rfl)
theorem dX4_joint_55 : decode cX4_joint 55 = .ok (.imul, 1) := dk_104 (dk_at dksX4_joint_2 9 rfl rfl)
theorem dX4_joint_56 : decode cX4_joint 56 = .ok (.iload 4, 2) := dk_21 4 (dk_at dksX4_joint_2 10 rfl rfl)
theorem dX4_joint_58 : decode cX4_joint 58 = .ok (.iadd, 1) := dk_96 (dk_at dksX4_joint_2 12 rfl rfl)
theorem dX4_joint_59 : decode cX4_joint 59 = .ok (.baload, 1) := dk_51 (dk_at dksX4_joint_2 13 rfl rfl)
theorem dX4_joint_60 : decode cX4_joint 60 = .ok (.ifCond .ne 18, 3) := dk_154 0 18 (dk_at dksX4_joint_2 14 rfl rfl)
theorem dX4_joint_63 : decode cX4_joint 63 = .ok (.aload_n 0, 1) := dk_42 (dk_at dksX4_joint_2 17 rfl rfl)
theorem dX4_joint_64 : decode cX4_joint 64 = .ok (.getfield 122, 3) := dk_180 0 122 (dk_at dksX4_joint_2 18 rfl rfl)
theorem dX4_joint_67 : decode cX4_joint 67 = .ok (.bipush 16, 2) := dk_16 16 (dk_at dksX4_joint_2 21 rfl rfl)
theorem dX4_joint_69 : decode cX4_joint 69 = .ok (.iload 4, 2) := dk_21 4 (dk_at dksX4_joint_3 0 rfl rfl)
theorem dX4_joint_71 : decode cX4_joint 71 = .ok (.imul, 1) := dk_104 (dk_at dksX4_joint_3 2 rfl rfl)
theorem dX4_joint_72 : decode cX4_joint 72 = .ok (.iload_n 3, 1) := dk_29 (dk_at dksX4_joint_3 3 rfl rfl)
theorem dX4_joint_73 : decode cX4_joint 73 = .ok (.iadd, 1) := dk_96 (dk_at dksX4_joint_3 4 rfl rfl)
theorem dX4_joint_74 : decode cX4_joint 74 = .ok (.baload, 1) := dk_51 (dk_at dksX4_joint_3 5 rfl rfl)
theorem dX4_joint_75 : decode cX4_joint 75 = .ok (.ifCond .eq 6, 3) := dk_153 0 6 (dk_at dksX4_joint_3 6 rfl rfl)
theorem dX4_joint_78 : decode cX4_joint 78 = .ok (.bipush (-7), 2) := dk_16 249 (dk_at dksX4_joint_3 9 rfl rfl)
theorem dX4_joint_80 : decode cX4_joint 80 = .ok (.ireturn, 1) := dk_172 (dk_at dksX4_joint_3 11 rfl rfl)
theorem dX4_joint_81 : decode cX4_joint 81 = .ok (.aload_n 0, 1) := dk_42 (dk_at dksX4_joint_3 12 rfl rfl)
theorem dX4_joint_82 : decode cX4_joint 82 = .ok (.getfield 226, 3) := dk_180 0 226 (dk_at dksX4_joint_3 13 rfl rfl)
theorem dX4_joint_85 : decode cX4_joint 85 = .ok (.bipush 40, 2) := dk_16 40 (dk_at dksX4_joint_3 16 rfl rfl)
theorem dX4_joint_87 : decode cX4_joint 87 = .ok (.if_icmp .ne 7, 3) := dk_160 0 7 (dk_at dksX4_joint_3 18 rfl rfl)
theorem dX4_joint_90 : decode cX4_joint 90 = .ok (.iconst 1, 1) := dk_4 (dk_at dksX4_joint_3 21 rfl rfl)
theorem dX4_joint_91 : decode cX4_joint 91 = .ok (.goto 4, 3) := dk_167 0 4 (dk_at dksX4_joint_4 0 rfl rfl)
theorem dX4_joint_94 : decode cX4_joint 94 = .ok (.iconst 0, 1) := dk_3 (dk_at dksX4_joint_4 3 rfl rfl)
theorem dX4_joint_95 : decode cX4_joint 95 = .ok (.istore 5, 2) := dk_54 5 (dk_at dksX4_joint_4 4 rfl rfl)
theorem dX4_joint_97 : decode cX4_joint 97 = .ok (.aload_n 0, 1) := dk_42 (dk_at dksX4_joint_4 6 rfl rfl)
theorem dX4_joint_98 : decode cX4_joint 98 = .ok (.getfield 61, 3) := dk_180 0 61 (dk_at dksX4_joint_4 7 rfl rfl)
theorem dX4_joint_101 : decode cX4_joint 101 = .ok (.aload_n 0, 1) := dk_42 (dk_at dksX4_joint_4 10 rfl rfl)
theorem dX4_joint_102 : decode cX4_joint 102 = .ok (.getfield 226, 3) := dk_180 0 226 (dk_at dksX4_joint_4 11 rfl rfl)
theorem dX4_joint_105 : decode cX4_joint 105 = .ok (.iload_n 1, 1) := dk_27 (dk_at dksX4_joint_4 14 rfl rfl)
theorem dX4_joint_106 : decode cX4_joint 106 = .ok (.iastore, 1) := dk_79 (dk_at dksX4_joint_4 15 rfl rfl)
theorem dX4_joint_107 : decode cX4_joint 107 = .ok (.aload_n 0, 1) := dk_42 (dk_at dksX4_joint_4 16 rfl rfl)
theorem dX4_joint_108 : decode cX4_joint 108 = .ok (.getfield 64, 3) := dk_180 0 64 (dk_at dksX4_joint_4 17 rfl rfl)
theorem dX4_joint_111 : decode cX4_joint 111 = .ok (.aload_n 0, 1) := dk_42 (dk_at dksX4_joint_4 20 rfl rfl)
theorem dX4_joint_112 : decode cX4_joint 112 = .ok (.getfield 226, 3) := dk_180 0 226 (dk_at dksX4_joint_4 21 rfl rfl)
theorem dX4_joint_115 : decode cX4_joint 115 = .ok (.iload_n 2, 1) := dk_28 (dk_at dksX4_joint_5 0 rfl rfl)
theorem dX4_joint_116 : decode cX4_joint 116 = .ok (.iastore, 1) := dk_79 (dk_at dksX4_joint_5 1 rfl rfl)
theorem dX4_joint_117 : decode cX4_joint 117 = .ok (.aload_n 0, 1) := dk_42 (dk_at dksX4_joint_5 2 rfl rfl)
theorem dX4_joint_118 : decode cX4_joint 118 = .ok (.dup, 1) := dk_89 (dk_at dksX4_joint_5 3 rfl rfl)
theorem dX4_joint_119 : decode cX4_joint 119 = .ok (.getfield 226, 3) := dk_180 0 226 (dk_at dksX4_joint_5 4 rfl rfl)
theorem dX4_joint_122 : decode cX4_joint 122 = .ok (.iconst 1, 1) := dk_4 (dk_at dksX4_joint_5 7 rfl rfl)
theorem dX4_joint_123 : decode cX4_joint 123 = .ok (.iadd, 1) := dk_96 (dk_at dksX4_joint_5 8 rfl rfl)
theorem dX4_joint_124 : decode cX4_joint 124 = .ok (.putfield 226, 3) := dk_181 0 226 (dk_at dksX4_joint_5 9 rfl rfl)
theorem dX4_joint_127 : decode cX4_joint 127 = .ok (.aload_n 0, 1) := dk_42 (dk_at dksX4_joint_5 12 rfl rfl)
theorem dX4_joint_128 : decode cX4_joint 128 = .ok (.invokevirtual 248, 3) := dk_182 0 248 (dk_at dksX4_joint_5 13 rfl rfl)
theorem dX4_joint_131 : decode cX4_joint 131 = .ok (.istore 6, 2) := dk_54 6 (dk_at dksX4_joint_5 16 rfl rfl)
theorem dX4_joint_133 : decode cX4_joint 133 = .ok (.iload 6, 2) := dk_21 6 (dk_at dksX4_joint_5 18 rfl rfl)
theorem dX4_joint_135 : decode cX4_joint 135 = .ok (.ifCond .eq 8, 3) := dk_153 0 8 (dk_at dksX4_joint_5 20 rfl rfl)
theorem dX4_joint_138 : decode cX4_joint 138 = .ok (.iload 5, 2) := dk_21 5 (dk_at dksX4_joint_6 0 rfl rfl)
theorem dX4_joint_140 : decode cX4_joint 140 = .ok (.ifCond .eq 13, 3) := dk_153 0 13 (dk_at dksX4_joint_6 2 rfl rfl)
theorem dX4_joint_143 : decode cX4_joint 143 = .ok (.aload_n 0, 1) := dk_42 (dk_at dksX4_joint_6 5 rfl rfl)
theorem dX4_joint_144 : decode cX4_joint 144 = .ok (.dup, 1) := dk_89 (dk_at dksX4_joint_6 6 rfl rfl)
theorem dX4_joint_145 : decode cX4_joint 145 = .ok (.getfield 226, 3) := dk_180 0 226 (dk_at dksX4_joint_6 7 rfl rfl)
theorem dX4_joint_148 : decode cX4_joint 148 = .ok (.iconst 1, 1) := dk_4 (dk_at dksX4_joint_6 10 rfl rfl)
theorem dX4_joint_149 : decode cX4_joint 149 = .ok (.isub, 1) := dk_100 (dk_at dksX4_joint_6 11 rfl rfl)
theorem dX4_joint_150 : decode cX4_joint 150 = .ok (.putfield 226, 3) := dk_181 0 226 (dk_at dksX4_joint_6 12 rfl rfl)
theorem dX4_joint_153 : decode cX4_joint 153 = .ok (.iload 6, 2) := dk_21 6 (dk_at dksX4_joint_6 15 rfl rfl)
theorem dX4_joint_155 : decode cX4_joint 155 = .ok (.ifCond .ne 8, 3) := dk_154 0 8 (dk_at dksX4_joint_6 17 rfl rfl)
theorem dX4_joint_158 : decode cX4_joint 158 = .ok (.bipush (-7), 2) := dk_16 249 (dk_at dksX4_joint_6 20 rfl rfl)
theorem dX4_joint_160 : decode cX4_joint 160 = .ok (.goto 14, 3) := dk_167 0 14 (dk_at dksX4_joint_7 0 rfl rfl)
theorem dX4_joint_163 : decode cX4_joint 163 = .ok (.iload 5, 2) := dk_21 5 (dk_at dksX4_joint_7 3 rfl rfl)
theorem dX4_joint_165 : decode cX4_joint 165 = .ok (.ifCond .eq 8, 3) := dk_153 0 8 (dk_at dksX4_joint_7 5 rfl rfl)
theorem dX4_joint_168 : decode cX4_joint 168 = .ok (.bipush (-3), 2) := dk_16 253 (dk_at dksX4_joint_7 8 rfl rfl)
theorem dX4_joint_170 : decode cX4_joint 170 = .ok (.goto 4, 3) := dk_167 0 4 (dk_at dksX4_joint_7 10 rfl rfl)
theorem dX4_joint_173 : decode cX4_joint 173 = .ok (.iconst 0, 1) := dk_3 (dk_at dksX4_joint_7 13 rfl rfl)
theorem dX4_joint_174 : decode cX4_joint 174 = .ok (.ireturn, 1) := dk_172 (dk_at dksX4_joint_7 14 rfl rfl)
abbrev cX4_isBone : ByteArray := prog_20_method_15_code
def yX4_isBone : MethodName := ⟨RX4, "isBone", "(I)Z"⟩
def dkwX4_isBone_0 : List UInt8 := [27, 133, 9, 42, 180, 0, 206, 4, 100, 133, 184, 0, 178, 172]
abbrev dktX4_isBone_0 : List UInt8 := dkwX4_isBone_0 ++ []
theorem dksX4_isBone_0 : cX4_isBone.data.toList.drop 0 = dktX4_isBone_0 := by decide +kernel
theorem dX4_isBone_0 : decode cX4_isBone 0 = .ok (.iload_n 1, 1) := dk_27 (dk_at dksX4_isBone_0 0 rfl rfl)
theorem dX4_isBone_1 : decode cX4_isBone 1 = .ok (.i2l, 1) := dk_133 (dk_at dksX4_isBone_0 1 rfl rfl)
theorem dX4_isBone_2 : decode cX4_isBone 2 = .ok (.lconst 0, 1) := dk_9 (dk_at dksX4_isBone_0 2 rfl rfl)
theorem dX4_isBone_3 : decode cX4_isBone 3 = .ok (.aload_n 0, 1) := dk_42 (dk_at dksX4_isBone_0 3 rfl rfl)
theorem dX4_isBone_4 : decode cX4_isBone 4 = .ok (.getfield 206, 3) := dk_180 0 206 (dk_at dksX4_isBone_0 4 rfl rfl)
theorem dX4_isBone_7 : decode cX4_isBone 7 = .ok (.iconst 1, 1) := dk_4 (dk_at dksX4_isBone_0 7 rfl rfl)
theorem dX4_isBone_8 : decode cX4_isBone 8 = .ok (.isub, 1) := dk_100 (dk_at dksX4_isBone_0 8 rfl rfl)
theorem dX4_isBone_9 : decode cX4_isBone 9 = .ok (.i2l, 1) := dk_133 (dk_at dksX4_isBone_0 9 rfl rfl)
theorem dX4_isBone_10 : decode cX4_isBone 10 = .ok (.invokestatic 178, 3) := dk_184 0 178 (dk_at dksX4_isBone_0 10 rfl rfl)
theorem dX4_isBone_13 : decode cX4_isBone 13 = .ok (.ireturn, 1) := dk_172 (dk_at dksX4_isBone_0 13 rfl rfl)
abbrev cX4_dated : ByteArray := prog_20_method_26_code
def yX4_dated : MethodName := ⟨RX4, "dated", "(II)I"⟩
def dkwX4_dated_2 : List UInt8 := [180, 0, 119, 27, 46, 172]
abbrev dktX4_dated_2 : List UInt8 := dkwX4_dated_2 ++ []
def dkwX4_dated_1 : List UInt8 := [16, 254, 172, 42, 182, 0, 248, 62, 28, 154, 0, 12, 42, 180, 0, 116, 27, 46, 167, 0, 9, 42]
abbrev dktX4_dated_1 : List UInt8 := dkwX4_dated_1 ++ dktX4_dated_2
def dkwX4_dated_0 : List UInt8 := [42, 3, 181, 0, 173, 42, 27, 182, 0, 242, 153, 0, 13, 28, 133, 9, 10, 184, 0, 178, 154, 0, 6]
abbrev dktX4_dated_0 : List UInt8 := dkwX4_dated_0 ++ dktX4_dated_1
theorem dksX4_dated_0 : cX4_dated.data.toList.drop 0 = dktX4_dated_0 := by decide +kernel
theorem dksX4_dated_1 : cX4_dated.data.toList.drop 23 = dktX4_dated_1 := dk_seg dksX4_dated_0 23 rfl rfl
theorem dksX4_dated_2 : cX4_dated.data.toList.drop 45 = dktX4_dated_2 := dk_seg dksX4_dated_1 22 rfl rfl
theorem dX4_dated_0 : decode cX4_dated 0 = .ok (.aload_n 0, 1) := dk_42 (dk_at dksX4_dated_0 0 rfl rfl)
theorem dX4_dated_1 : decode cX4_dated 1 = .ok (.iconst 0, 1) := dk_3 (dk_at dksX4_dated_0 1 rfl rfl)
theorem dX4_dated_2 : decode cX4_dated 2 = .ok (.putfield 173, 3) := dk_181 0 173 (dk_at dksX4_dated_0 2 rfl rfl)
theorem dX4_dated_5 : decode cX4_dated 5 = .ok (.aload_n 0, 1) := dk_42 (dk_at dksX4_dated_0 5 rfl rfl)
theorem dX4_dated_6 : decode cX4_dated 6 = .ok (.iload_n 1, 1) := dk_27 (dk_at dksX4_dated_0 6 rfl rfl)
theorem dX4_dated_7 : decode cX4_dated 7 = .ok (.invokevirtual 242, 3) := dk_182 0 242 (dk_at dksX4_dated_0 7 rfl rfl)
theorem dX4_dated_10 : decode cX4_dated 10 = .ok (.ifCond .eq 13, 3) := dk_153 0 13 (dk_at dksX4_dated_0 10 rfl rfl)
theorem dX4_dated_13 : decode cX4_dated 13 = .ok (.iload_n 2, 1) := dk_28 (dk_at dksX4_dated_0 13 rfl rfl)
theorem dX4_dated_14 : decode cX4_dated 14 = .ok (.i2l, 1) := dk_133 (dk_at dksX4_dated_0 14 rfl rfl)
theorem dX4_dated_15 : decode cX4_dated 15 = .ok (.lconst 0, 1) := dk_9 (dk_at dksX4_dated_0 15 rfl rfl)
theorem dX4_dated_16 : decode cX4_dated 16 = .ok (.lconst 1, 1) := dk_10 (dk_at dksX4_dated_0 16 rfl rfl)
theorem dX4_dated_17 : decode cX4_dated 17 = .ok (.invokestatic 178, 3) := dk_184 0 178 (dk_at dksX4_dated_0 17 rfl rfl)
theorem dX4_dated_20 : decode cX4_dated 20 = .ok (.ifCond .ne 6, 3) := dk_154 0 6 (dk_at dksX4_dated_0 20 rfl rfl)
theorem dX4_dated_23 : decode cX4_dated 23 = .ok (.bipush (-2), 2) := dk_16 254 (dk_at dksX4_dated_1 0 rfl rfl)
theorem dX4_dated_25 : decode cX4_dated 25 = .ok (.ireturn, 1) := dk_172 (dk_at dksX4_dated_1 2 rfl rfl)
theorem dX4_dated_26 : decode cX4_dated 26 = .ok (.aload_n 0, 1) := dk_42 (dk_at dksX4_dated_1 3 rfl rfl)
theorem dX4_dated_27 : decode cX4_dated 27 = .ok (.invokevirtual 248, 3) := dk_182 0 248 (dk_at dksX4_dated_1 4 rfl rfl)
theorem dX4_dated_30 : decode cX4_dated 30 = .ok (.istore_n 3, 1) := dk_62 (dk_at dksX4_dated_1 7 rfl rfl)
theorem dX4_dated_31 : decode cX4_dated 31 = .ok (.iload_n 2, 1) := dk_28 (dk_at dksX4_dated_1 8 rfl rfl)
theorem dX4_dated_32 : decode cX4_dated 32 = .ok (.ifCond .ne 12, 3) := dk_154 0 12 (dk_at dksX4_dated_1 9 rfl rfl)
theorem dX4_dated_35 : decode cX4_dated 35 = .ok (.aload_n 0, 1) := dk_42 (dk_at dksX4_dated_1 12 rfl rfl)
theorem dX4_dated_36 : decode cX4_dated 36 = .ok (.getfield 116, 3) := dk_180 0 116 (dk_at dksX4_dated_1 13 rfl rfl)
theorem dX4_dated_39 : decode cX4_dated 39 = .ok (.iload_n 1, 1) := dk_27 (dk_at dksX4_dated_1 16 rfl rfl)
theorem dX4_dated_40 : decode cX4_dated 40 = .ok (.iaload, 1) := dk_46 (dk_at dksX4_dated_1 17 rfl rfl)
theorem dX4_dated_41 : decode cX4_dated 41 = .ok (.goto 9, 3) := dk_167 0 9 (dk_at dksX4_dated_1 18 rfl rfl)
theorem dX4_dated_44 : decode cX4_dated 44 = .ok (.aload_n 0, 1) := dk_42 (dk_at dksX4_dated_1 21 rfl rfl)
theorem dX4_dated_45 : decode cX4_dated 45 = .ok (.getfield 119, 3) := dk_180 0 119 (dk_at dksX4_dated_2 0 rfl rfl)
theorem dX4_dated_48 : decode cX4_dated 48 = .ok (.iload_n 1, 1) := dk_27 (dk_at dksX4_dated_2 3 rfl rfl)
theorem dX4_dated_49 : decode cX4_dated 49 = .ok (.iaload, 1) := dk_46 (dk_at dksX4_dated_2 4 rfl rfl)
theorem dX4_dated_50 : decode cX4_dated 50 = .ok (.ireturn, 1) := dk_172 (dk_at dksX4_dated_2 5 rfl rfl)
abbrev cX4_older : ByteArray := prog_20_method_27_code
def yX4_older : MethodName := ⟨RX4, "older", "(II)I"⟩
def dkwX4_older_2 : List UInt8 := [162, 0, 7, 4, 167, 0, 4, 3, 172]
abbrev dktX4_older_2 : List UInt8 := dkwX4_older_2 ++ []
def dkwX4_older_1 : List UInt8 := [160, 0, 6, 16, 254, 172, 42, 182, 0, 248, 62, 42, 180, 0, 119, 27, 46, 42, 180, 0, 116, 28, 46]
abbrev dktX4_older_1 : List UInt8 := dkwX4_older_1 ++ dktX4_older_2
def dkwX4_older_0 : List UInt8 := [42, 3, 181, 0, 173, 42, 27, 182, 0, 242, 153, 0, 16, 42, 28, 182, 0, 242, 153, 0, 8, 27, 28]
abbrev dktX4_older_0 : List UInt8 := dkwX4_older_0 ++ dktX4_older_1
theorem dksX4_older_0 : cX4_older.data.toList.drop 0 = dktX4_older_0 := by decide +kernel
theorem dksX4_older_1 : cX4_older.data.toList.drop 23 = dktX4_older_1 := dk_seg dksX4_older_0 23 rfl rfl
theorem dksX4_older_2 : cX4_older.data.toList.drop 46 = dktX4_older_2 := dk_seg dksX4_older_1 23 rfl rfl
theorem dX4_older_0 : decode cX4_older 0 = .ok (.aload_n 0, 1) := dk_42 (dk_at dksX4_older_0 0 rfl rfl)
theorem dX4_older_1 : decode cX4_older 1 = .ok (.iconst 0, 1) := dk_3 (dk_at dksX4_older_0 1 rfl rfl)
theorem dX4_older_2 : decode cX4_older 2 = .ok (.putfield 173, 3) := dk_181 0 173 (dk_at dksX4_older_0 2 rfl rfl)
theorem dX4_older_5 : decode cX4_older 5 = .ok (.aload_n 0, 1) := dk_42 (dk_at dksX4_older_0 5 rfl rfl)
theorem dX4_older_6 : decode cX4_older 6 = .ok (.iload_n 1, 1) := dk_27 (dk_at dksX4_older_0 6 rfl rfl)
theorem dX4_older_7 : decode cX4_older 7 = .ok (.invokevirtual 242, 3) := dk_182 0 242 (dk_at dksX4_older_0 7 rfl rfl)
theorem dX4_older_10 : decode cX4_older 10 = .ok (.ifCond .eq 16, 3) := dk_153 0 16 (dk_at dksX4_older_0 10 rfl rfl)
theorem dX4_older_13 : decode cX4_older 13 = .ok (.aload_n 0, 1) := dk_42 (dk_at dksX4_older_0 13 rfl rfl)
theorem dX4_older_14 : decode cX4_older 14 = .ok (.iload_n 2, 1) := dk_28 (dk_at dksX4_older_0 14 rfl rfl)
theorem dX4_older_15 : decode cX4_older 15 = .ok (.invokevirtual 242, 3) := dk_182 0 242 (dk_at dksX4_older_0 15 rfl rfl)
theorem dX4_older_18 : decode cX4_older 18 = .ok (.ifCond .eq 8, 3) := dk_153 0 8 (dk_at dksX4_older_0 18 rfl rfl)
theorem dX4_older_21 : decode cX4_older 21 = .ok (.iload_n 1, 1) := dk_27 (dk_at dksX4_older_0 21 rfl rfl)
theorem dX4_older_22 : decode cX4_older 22 = .ok (.iload_n 2, 1) := dk_28 (dk_at dksX4_older_0 22 rfl rfl)
theorem dX4_older_23 : decode cX4_older 23 = .ok (.if_icmp .ne 6, 3) := dk_160 0 6 (dk_at dksX4_older_1 0 rfl rfl)
theorem dX4_older_26 : decode cX4_older 26 = .ok (.bipush (-2), 2) := dk_16 254 (dk_at dksX4_older_1 3 rfl rfl)
theorem dX4_older_28 : decode cX4_older 28 = .ok (.ireturn, 1) := dk_172 (dk_at dksX4_older_1 5 rfl rfl)
theorem dX4_older_29 : decode cX4_older 29 = .ok (.aload_n 0, 1) := dk_42 (dk_at dksX4_older_1 6 rfl rfl)
theorem dX4_older_30 : decode cX4_older 30 = .ok (.invokevirtual 248, 3) := dk_182 0 248 (dk_at dksX4_older_1 7 rfl rfl)
theorem dX4_older_33 : decode cX4_older 33 = .ok (.istore_n 3, 1) := dk_62 (dk_at dksX4_older_1 10 rfl rfl)
theorem dX4_older_34 : decode cX4_older 34 = .ok (.aload_n 0, 1) := dk_42 (dk_at dksX4_older_1 11 rfl rfl)
theorem dX4_older_35 : decode cX4_older 35 = .ok (.getfield 119, 3) := dk_180 0 119 (dk_at dksX4_older_1 12 rfl rfl)
theorem dX4_older_38 : decode cX4_older 38 = .ok (.iload_n 1, 1) := dk_27 (dk_at dksX4_older_1 15 rfl rfl)
theorem dX4_older_39 : decode cX4_older 39 = .ok (.iaload, 1) := dk_46 (dk_at dksX4_older_1 16 rfl rfl)
theorem dX4_older_40 : decode cX4_older 40 = .ok (.aload_n 0, 1) := dk_42 (dk_at dksX4_older_1 17 rfl rfl)
theorem dX4_older_41 : decode cX4_older 41 = .ok (.getfield 116, 3) := dk_180 0 116 (dk_at dksX4_older_1 18 rfl rfl)
theorem dX4_older_44 : decode cX4_older 44 = .ok (.iload_n 2, 1) := dk_28 (dk_at dksX4_older_1 21 rfl rfl)
theorem dX4_older_45 : decode cX4_older 45 = .ok (.iaload, 1) := dk_46 (dk_at dksX4_older_1 22 rfl rfl)
theorem dX4_older_46 : decode cX4_older 46 = .ok (.if_icmp .ge 7, 3) := dk_162 0 7 (dk_at dksX4_older_2 0 rfl rfl)
theorem dX4_older_49 : decode cX4_older 49 = .ok (.iconst 1, 1) := dk_4 (dk_at dksX4_older_2 3 rfl rfl)
theorem dX4_older_50 : decode cX4_older 50 = .ok (.goto 4, 3) := dk_167 0 4 (dk_at dksX4_older_2 4 rfl rfl)
theorem dX4_older_53 : decode cX4_older 53 = .ok (.iconst 0, 1) := dk_3 (dk_at dksX4_older_2 7 rfl rfl)
theorem dX4_older_54 : decode cX4_older 54 = .ok (.ireturn, 1) := dk_172 (dk_at dksX4_older_2 8 rfl rfl)
abbrev cX4_bone : ByteArray := prog_20_method_28_code
def yX4_bone : MethodName := ⟨RX4, "bone", "(IIIIIIZ)I"⟩
def dkwX4_bone_13 : List UInt8 := [42, 180, 0, 206, 4, 100, 172]
abbrev dktX4_bone_13 : List UInt8 := dkwX4_bone_13 ++ []
def dkwX4_bone_12 : List UInt8 := [180, 0, 209, 162, 0, 21, 42, 21, 8, 42, 180, 0, 206, 4, 100, 182, 1, 7, 132, 8, 1, 167, 255, 232]
abbrev dktX4_bone_12 : List UInt8 := dkwX4_bone_12 ++ dktX4_bone_13
def dkwX4_bone_11 : List UInt8 := [180, 0, 206, 21, 7, 84, 42, 89, 180, 0, 206, 4, 96, 181, 0, 206, 3, 54, 8, 21, 8, 42]
abbrev dktX4_bone_11 : List UInt8 := dkwX4_bone_11 ++ dktX4_bone_12
def dkwX4_bone_10 : List UInt8 := [42, 180, 0, 206, 21, 5, 79, 42, 180, 0, 82, 42, 180, 0, 206, 21, 6, 79, 42, 180, 0, 85, 42]
abbrev dktX4_bone_10 : List UInt8 := dkwX4_bone_10 ++ dktX4_bone_11
def dkwX4_bone_9 : List UInt8 := [180, 0, 73, 42, 180, 0, 206, 29, 79, 42, 180, 0, 76, 42, 180, 0, 206, 21, 4, 79, 42, 180, 0, 79]
abbrev dktX4_bone_9 : List UInt8 := dkwX4_bone_9 ++ dktX4_bone_10
def dkwX4_bone_8 : List UInt8 := [21, 8, 96, 42, 180, 0, 16, 16, 60, 28, 104, 21, 8, 96, 47, 136, 79, 132, 8, 1, 167, 255, 218, 42]
abbrev dktX4_bone_8 : List UInt8 := dkwX4_bone_8 ++ dktX4_bone_9
def dkwX4_bone_7 : List UInt8 := [27, 79, 3, 54, 8, 21, 8, 16, 6, 162, 0, 37, 42, 180, 0, 70, 16, 6, 42, 180, 0, 206, 104]
abbrev dktX4_bone_7 : List UInt8 := dkwX4_bone_7 ++ dktX4_bone_8
def dkwX4_bone_6 : List UInt8 := [167, 255, 221, 42, 180, 0, 206, 17, 0, 200, 160, 0, 6, 16, 253, 172, 42, 180, 0, 67, 42, 180, 0, 206]
abbrev dktX4_bone_6 : List UInt8 := dkwX4_bone_6 ++ dktX4_bone_7
def dkwX4_bone_5 : List UInt8 := [28, 104, 21, 8, 96, 47, 9, 20, 1, 5, 184, 0, 178, 154, 0, 6, 16, 252, 172, 132, 8, 1]
abbrev dktX4_bone_5 : List UInt8 := dkwX4_bone_5 ++ dktX4_bone_6
def dkwX4_bone_4 : List UInt8 := [16, 6, 162, 0, 6, 16, 250, 172, 3, 54, 8, 21, 8, 16, 6, 162, 0, 34, 42, 180, 0, 16, 16, 60]
abbrev dktX4_bone_4 : List UInt8 := dkwX4_bone_4 ++ dktX4_bone_5
def dkwX4_bone_3 : List UInt8 := [154, 0, 6, 16, 254, 172, 42, 180, 0, 9, 28, 46, 156, 0, 6, 16, 251, 172, 42, 180, 0, 13, 28, 46]
abbrev dktX4_bone_3 : List UInt8 := dkwX4_bone_3 ++ dktX4_bone_4
def dkwX4_bone_2 : List UInt8 := [133, 9, 20, 1, 1, 184, 0, 178, 153, 0, 18, 21, 6, 133, 20, 1, 3, 20, 0, 194, 184, 0, 178]
abbrev dktX4_bone_2 : List UInt8 := dkwX4_bone_2 ++ dktX4_bone_3
def dkwX4_bone_1 : List UInt8 := [20, 0, 255, 184, 0, 178, 153, 0, 44, 21, 4, 133, 9, 20, 1, 1, 184, 0, 178, 153, 0, 31, 21, 5]
abbrev dktX4_bone_1 : List UInt8 := dkwX4_bone_1 ++ dktX4_bone_2
def dkwX4_bone_0 : List UInt8 := [42, 3, 181, 0, 173, 42, 27, 182, 0, 242, 153, 0, 63, 28, 184, 0, 182, 153, 0, 56, 29, 133, 10]
abbrev dktX4_bone_0 : List UInt8 := dkwX4_bone_0 ++ dktX4_bone_1
theorem dksX4_bone_0 : cX4_bone.data.toList.drop 0 = dktX4_bone_0 := by decide +kernel
theorem dksX4_bone_1 : cX4_bone.data.toList.drop 23 = dktX4_bone_1 := dk_seg dksX4_bone_0 23 rfl rfl
theorem dksX4_bone_2 : cX4_bone.data.toList.drop 47 = dktX4_bone_2 := dk_seg dksX4_bone_1 24 rfl rfl
theorem dksX4_bone_3 : cX4_bone.data.toList.drop 70 = dktX4_bone_3 := dk_seg dksX4_bone_2 23 rfl rfl
theorem dksX4_bone_4 : cX4_bone.data.toList.drop 94 = dktX4_bone_4 := dk_seg dksX4_bone_3 24 rfl rfl
theorem dksX4_bone_5 : cX4_bone.data.toList.drop 118 = dktX4_bone_5 := dk_seg dksX4_bone_4 24 rfl rfl
theorem dksX4_bone_6 : cX4_bone.data.toList.drop 140 = dktX4_bone_6 := dk_seg dksX4_bone_5 22 rfl rfl
theorem dksX4_bone_7 : cX4_bone.data.toList.drop 164 = dktX4_bone_7 := dk_seg dksX4_bone_6 24 rfl rfl
theorem dksX4_bone_8 : cX4_bone.data.toList.drop 187 = dktX4_bone_8 := dk_seg dksX4_bone_7 23 rfl rfl
theorem dksX4_bone_9 : cX4_bone.data.toList.drop 211 = dktX4_bone_9 := dk_seg dksX4_bone_8 24 rfl rfl
theorem dksX4_bone_10 : cX4_bone.data.toList.drop 235 = dktX4_bone_10 := dk_seg dksX4_bone_9 24 rfl rfl
theorem dksX4_bone_11 : cX4_bone.data.toList.drop 258 = dktX4_bone_11 := dk_seg dksX4_bone_10 23 rfl rfl
theorem dksX4_bone_12 : cX4_bone.data.toList.drop 280 = dktX4_bone_12 := dk_seg dksX4_bone_11 22 rfl rfl
theorem dksX4_bone_13 : cX4_bone.data.toList.drop 304 = dktX4_bone_13 := dk_seg dksX4_bone_12 24 rfl rfl
theorem dX4_bone_0 : decode cX4_bone 0 = .ok (.aload_n 0, 1) := dk_42 (dk_at dksX4_bone_0 0 rfl rfl)
theorem dX4_bone_1 : decode cX4_bone 1 = .ok (.iconst 0, 1) := dk_3 (dk_at dksX4_bone_0 1 rfl rfl)
theorem dX4_bone_2 : decode cX4_bone 2 = .ok (.putfield 173, 3) := dk_181 0 173 (dk_at dksX4_bone_0 2 rfl rfl)
theorem dX4_bone_5 : decode cX4_bone 5 = .ok (.aload_n 0, 1) := dk_42 (dk_at dksX4_bone_0 5 rfl rfl)
theorem dX4_bone_6 : decode cX4_bone 6 = .ok (.iload_n 1, 1) := dk_27 (dk_at dksX4_bone_0 6 rfl rfl)
theorem dX4_bone_7 : decode cX4_bone 7 = .ok (.invokevirtual 242, 3) := dk_182 0 242 (dk_at dksX4_bone_0 7 rfl rfl)
theorem dX4_bone_10 : decode cX4_bone 10 = .ok (.ifCond .eq 63, 3) := dk_153 0 63 (dk_at dksX4_bone_0 10 rfl rfl)
theorem dX4_bone_13 : decode cX4_bone 13 = .ok (.iload_n 2, 1) := dk_28 (dk_at dksX4_bone_0 13 rfl rfl)
theorem dX4_bone_14 : decode cX4_bone 14 = .ok (.invokestatic 182, 3) := dk_184 0 182 (dk_at dksX4_bone_0 14 rfl rfl)
theorem dX4_bone_17 : decode cX4_bone 17 = .ok (.ifCond .eq 56, 3) := dk_153 0 56 (dk_at dksX4_bone_0 17 rfl rfl)
theorem dX4_bone_20 : decode cX4_bone 20 = .ok (.iload_n 3, 1) := dk_29 (dk_at dksX4_bone_0 20 rfl rfl)
theorem dX4_bone_21 : decode cX4_bone 21 = .ok (.i2l, 1) := dk_133 (dk_at dksX4_bone_0 21 rfl rfl)
theorem dX4_bone_22 : decode cX4_bone 22 = .ok (.lconst 1, 1) := dk_10 (dk_at dksX4_bone_0 22 rfl rfl)
theorem dX4_bone_23 : decode cX4_bone 23 = .ok (.ldc2_w 255, 3) := dk_20 0 255 (dk_at dksX4_bone_1 0 rfl rfl)
theorem dX4_bone_26 : decode cX4_bone 26 = .ok (.invokestatic 178, 3) := dk_184 0 178 (dk_at dksX4_bone_1 3 rfl rfl)
theorem dX4_bone_29 : decode cX4_bone 29 = .ok (.ifCond .eq 44, 3) := dk_153 0 44 (dk_at dksX4_bone_1 6 rfl rfl)
theorem dX4_bone_32 : decode cX4_bone 32 = .ok (.iload 4, 2) := dk_21 4 (dk_at dksX4_bone_1 9 rfl rfl)
theorem dX4_bone_34 : decode cX4_bone 34 = .ok (.i2l, 1) := dk_133 (dk_at dksX4_bone_1 11 rfl rfl)
theorem dX4_bone_35 : decode cX4_bone 35 = .ok (.lconst 0, 1) := dk_9 (dk_at dksX4_bone_1 12 rfl rfl)
theorem dX4_bone_36 : decode cX4_bone 36 = .ok (.ldc2_w 257, 3) := dk_20 1 1 (dk_at dksX4_bone_1 13 rfl rfl)
theorem dX4_bone_39 : decode cX4_bone 39 = .ok (.invokestatic 178, 3) := dk_184 0 178 (dk_at dksX4_bone_1 16 rfl rfl)
theorem dX4_bone_42 : decode cX4_bone 42 = .ok (.ifCond .eq 31, 3) := dk_153 0 31 (dk_at dksX4_bone_1 19 rfl rfl)
theorem dX4_bone_45 : decode cX4_bone 45 = .ok (.iload 5, 2) := dk_21 5 (dk_at dksX4_bone_1 22 rfl rfl)
theorem dX4_bone_47 : decode cX4_bone 47 = .ok (.i2l, 1) := dk_133 (dk_at dksX4_bone_2 0 rfl rfl)
theorem dX4_bone_48 : decode cX4_bone 48 = .ok (.lconst 0, 1) := dk_9 (dk_at dksX4_bone_2 1 rfl rfl)
theorem dX4_bone_49 : decode cX4_bone 49 = .ok (.ldc2_w 257, 3) := dk_20 1 1 (dk_at dksX4_bone_2 2 rfl rfl)
theorem dX4_bone_52 : decode cX4_bone 52 = .ok (.invokestatic 178, 3) := dk_184 0 178 (dk_at dksX4_bone_2 5 rfl rfl)
theorem dX4_bone_55 : decode cX4_bone 55 = .ok (.ifCond .eq 18, 3) := dk_153 0 18 (dk_at dksX4_bone_2 8 rfl rfl)
theorem dX4_bone_58 : decode cX4_bone 58 = .ok (.iload 6, 2) := dk_21 6 (dk_at dksX4_bone_2 11 rfl rfl)
theorem dX4_bone_60 : decode cX4_bone 60 = .ok (.i2l, 1) := dk_133 (dk_at dksX4_bone_2 13 rfl rfl)
theorem dX4_bone_61 : decode cX4_bone 61 = .ok (.ldc2_w 259, 3) := dk_20 1 3 (dk_at dksX4_bone_2 14 rfl rfl)
theorem dX4_bone_64 : decode cX4_bone 64 = .ok (.ldc2_w 194, 3) := dk_20 0 194 (dk_at dksX4_bone_2 17 rfl rfl)
theorem dX4_bone_67 : decode cX4_bone 67 = .ok (.invokestatic 178, 3) := dk_184 0 178 (dk_at dksX4_bone_2 20 rfl rfl)
theorem dX4_bone_70 : decode cX4_bone 70 = .ok (.ifCond .ne 6, 3) := dk_154 0 6 (dk_at dksX4_bone_3 0 rfl rfl)
theorem dX4_bone_73 : decode cX4_bone 73 = .ok (.bipush (-2), 2) := dk_16 254 (dk_at dksX4_bone_3 3 rfl rfl)
theorem dX4_bone_75 : decode cX4_bone 75 = .ok (.ireturn, 1) := dk_172 (dk_at dksX4_bone_3 5 rfl rfl)
theorem dX4_bone_76 : decode cX4_bone 76 = .ok (.aload_n 0, 1) := dk_42 (dk_at dksX4_bone_3 6 rfl rfl)
theorem dX4_bone_77 : decode cX4_bone 77 = .ok (.getfield 9, 3) := dk_180 0 9 (dk_at dksX4_bone_3 7 rfl rfl)
theorem dX4_bone_80 : decode cX4_bone 80 = .ok (.iload_n 2, 1) := dk_28 (dk_at dksX4_bone_3 10 rfl rfl)
theorem dX4_bone_81 : decode cX4_bone 81 = .ok (.iaload, 1) := dk_46 (dk_at dksX4_bone_3 11 rfl rfl)
theorem dX4_bone_82 : decode cX4_bone 82 = .ok (.ifCond .ge 6, 3) := dk_156 0 6 (dk_at dksX4_bone_3 12 rfl rfl)
theorem dX4_bone_85 : decode cX4_bone 85 = .ok (.bipush (-5), 2) := dk_16 251 (dk_at dksX4_bone_3 15 rfl rfl)
theorem dX4_bone_87 : decode cX4_bone 87 = .ok (.ireturn, 1) := dk_172 (dk_at dksX4_bone_3 17 rfl rfl)
theorem dX4_bone_88 : decode cX4_bone 88 = .ok (.aload_n 0, 1) := dk_42 (dk_at dksX4_bone_3 18 rfl rfl)
theorem dX4_bone_89 : decode cX4_bone 89 = .ok (.getfield 13, 3) := dk_180 0 13 (dk_at dksX4_bone_3 19 rfl rfl)
theorem dX4_bone_92 : decode cX4_bone 92 = .ok (.iload_n 2, 1) := dk_28 (dk_at dksX4_bone_3 22 rfl rfl)
theorem dX4_bone_93 : decode cX4_bone 93 = .ok (.iaload, 1) := dk_46 (dk_at dksX4_bone_3 23 rfl rfl)
theorem dX4_bone_94 : decode cX4_bone 94 = .ok (.bipush 6, 2) := dk_16 6 (dk_at dksX4_bone_4 0 rfl rfl)
theorem dX4_bone_96 : decode cX4_bone 96 = .ok (.if_icmp .ge 6, 3) := dk_162 0 6 (dk_at dksX4_bone_4 2 rfl rfl)
theorem dX4_bone_99 : decode cX4_bone 99 = .ok (.bipush (-6), 2) := dk_16 250 (dk_at dksX4_bone_4 5 rfl rfl)
theorem dX4_bone_101 : decode cX4_bone 101 = .ok (.ireturn, 1) := dk_172 (dk_at dksX4_bone_4 7 rfl rfl)
theorem dX4_bone_102 : decode cX4_bone 102 = .ok (.iconst 0, 1) := dk_3 (dk_at dksX4_bone_4 8 rfl rfl)
theorem dX4_bone_103 : decode cX4_bone 103 = .ok (.istore 8, 2) := dk_54 8 (dk_at dksX4_bone_4 9 rfl rfl)
theorem dX4_bone_105 : decode cX4_bone 105 = .ok (.iload 8, 2) := dk_21 8 (dk_at dksX4_bone_4 11 rfl rfl)
theorem dX4_bone_107 : decode cX4_bone 107 = .ok (.bipush 6, 2) := dk_16 6 (dk_at dksX4_bone_4 13 rfl rfl)
theorem dX4_bone_109 : decode cX4_bone 109 = .ok (.if_icmp .ge 34, 3) := dk_162 0 34 (dk_at dksX4_bone_4 15 rfl rfl)
theorem dX4_bone_112 : decode cX4_bone 112 = .ok (.aload_n 0, 1) := dk_42 (dk_at dksX4_bone_4 18 rfl rfl)
theorem dX4_bone_113 : decode cX4_bone 113 = .ok (.getfield 16, 3) := dk_180 0 16 (dk_at dksX4_bone_4 19 rfl rfl)
theorem dX4_bone_116 : decode cX4_bone 116 = .ok (.bipush 60, 2) := dk_16 60 (dk_at dksX4_bone_4 22 rfl rfl)
theorem dX4_bone_118 : decode cX4_bone 118 = .ok (.iload_n 2, 1) := dk_28 (dk_at dksX4_bone_5 0 rfl rfl)
theorem dX4_bone_119 : decode cX4_bone 119 = .ok (.imul, 1) := dk_104 (dk_at dksX4_bone_5 1 rfl rfl)
theorem dX4_bone_120 : decode cX4_bone 120 = .ok (.iload 8, 2) := dk_21 8 (dk_at dksX4_bone_5 2 rfl rfl)
theorem dX4_bone_122 : decode cX4_bone 122 = .ok (.iadd, 1) := dk_96 (dk_at dksX4_bone_5 4 rfl rfl)
theorem dX4_bone_123 : decode cX4_bone 123 = .ok (.laload, 1) := dk_47 (dk_at dksX4_bone_5 5 rfl rfl)
theorem dX4_bone_124 : decode cX4_bone 124 = .ok (.lconst 0, 1) := dk_9 (dk_at dksX4_bone_5 6 rfl rfl)
theorem dX4_bone_125 : decode cX4_bone 125 = .ok (.ldc2_w 261, 3) := dk_20 1 5 (dk_at dksX4_bone_5 7 rfl rfl)
theorem dX4_bone_128 : decode cX4_bone 128 = .ok (.invokestatic 178, 3) := dk_184 0 178 (dk_at dksX4_bone_5 10 rfl rfl)
theorem dX4_bone_131 : decode cX4_bone 131 = .ok (.ifCond .ne 6, 3) := dk_154 0 6 (dk_at dksX4_bone_5 13 rfl rfl)
theorem dX4_bone_134 : decode cX4_bone 134 = .ok (.bipush (-4), 2) := dk_16 252 (dk_at dksX4_bone_5 16 rfl rfl)
theorem dX4_bone_136 : decode cX4_bone 136 = .ok (.ireturn, 1) := dk_172 (dk_at dksX4_bone_5 18 rfl rfl)
theorem dX4_bone_137 : decode cX4_bone 137 = .ok (.iinc 8 1, 3) := dk_132 8 1 (dk_at dksX4_bone_5 19 rfl rfl)
theorem dX4_bone_140 : decode cX4_bone 140 = .ok (.goto (-35), 3) := dk_167 255 221 (dk_at dksX4_bone_6 0 rfl rfl)
theorem dX4_bone_143 : decode cX4_bone 143 = .ok (.aload_n 0, 1) := dk_42 (dk_at dksX4_bone_6 3 rfl rfl)
theorem dX4_bone_144 : decode cX4_bone 144 = .ok (.getfield 206, 3) := dk_180 0 206 (dk_at dksX4_bone_6 4 rfl rfl)
theorem dX4_bone_147 : decode cX4_bone 147 = .ok (.sipush 200, 3) := dk_17 0 200 (dk_at dksX4_bone_6 7 rfl rfl)
theorem dX4_bone_150 : decode cX4_bone 150 = .ok (.if_icmp .ne 6, 3) := dk_160 0 6 (dk_at dksX4_bone_6 10 rfl rfl)
theorem dX4_bone_153 : decode cX4_bone 153 = .ok (.bipush (-3), 2) := dk_16 253 (dk_at dksX4_bone_6 13 rfl rfl)
theorem dX4_bone_155 : decode cX4_bone 155 = .ok (.ireturn, 1) := dk_172 (dk_at dksX4_bone_6 15 rfl rfl)
theorem dX4_bone_156 : decode cX4_bone 156 = .ok (.aload_n 0, 1) := dk_42 (dk_at dksX4_bone_6 16 rfl rfl)
theorem dX4_bone_157 : decode cX4_bone 157 = .ok (.getfield 67, 3) := dk_180 0 67 (dk_at dksX4_bone_6 17 rfl rfl)
theorem dX4_bone_160 : decode cX4_bone 160 = .ok (.aload_n 0, 1) := dk_42 (dk_at dksX4_bone_6 20 rfl rfl)
theorem dX4_bone_161 : decode cX4_bone 161 = .ok (.getfield 206, 3) := dk_180 0 206 (dk_at dksX4_bone_6 21 rfl rfl)
theorem dX4_bone_164 : decode cX4_bone 164 = .ok (.iload_n 1, 1) := dk_27 (dk_at dksX4_bone_7 0 rfl rfl)
theorem dX4_bone_165 : decode cX4_bone 165 = .ok (.iastore, 1) := dk_79 (dk_at dksX4_bone_7 1 rfl rfl)
theorem dX4_bone_166 : decode cX4_bone 166 = .ok (.iconst 0, 1) := dk_3 (dk_at dksX4_bone_7 2 rfl rfl)
theorem dX4_bone_167 : decode cX4_bone 167 = .ok (.istore 8, 2) := dk_54 8 (dk_at dksX4_bone_7 3 rfl rfl)
theorem dX4_bone_169 : decode cX4_bone 169 = .ok (.iload 8, 2) := dk_21 8 (dk_at dksX4_bone_7 5 rfl rfl)
theorem dX4_bone_171 : decode cX4_bone 171 = .ok (.bipush 6, 2) := dk_16 6 (dk_at dksX4_bone_7 7 rfl rfl)
theorem dX4_bone_173 : decode cX4_bone 173 = .ok (.if_icmp .ge 37, 3) := dk_162 0 37 (dk_at dksX4_bone_7 9 rfl rfl)
theorem dX4_bone_176 : decode cX4_bone 176 = .ok (.aload_n 0, 1) := dk_42 (dk_at dksX4_bone_7 12 rfl rfl)
theorem dX4_bone_177 : decode cX4_bone 177 = .ok (.getfield 70, 3) := dk_180 0 70 (dk_at dksX4_bone_7 13 rfl rfl)
theorem dX4_bone_180 : decode cX4_bone 180 = .ok (.bipush 6, 2) := dk_16 6 (dk_at dksX4_bone_7 16 rfl rfl)
theorem dX4_bone_182 : decode cX4_bone 182 = .ok (.aload_n 0, 1) := dk_42 (dk_at dksX4_bone_7 18 rfl rfl)
theorem dX4_bone_183 : decode cX4_bone 183 = .ok (.getfield 206, 3) := dk_180 0 206 (dk_at dksX4_bone_7 19 rfl rfl)
theorem dX4_bone_186 : decode cX4_bone 186 = .ok (.imul, 1) := dk_104 (dk_at dksX4_bone_7 22 rfl rfl)
theorem dX4_bone_187 : decode cX4_bone 187 = .ok (.iload 8, 2) := dk_21 8 (dk_at dksX4_bone_8 0 rfl rfl)
theorem dX4_bone_189 : decode cX4_bone 189 = .ok (.iadd, 1) := dk_96 (dk_at dksX4_bone_8 2 rfl rfl)
theorem dX4_bone_190 : decode cX4_bone 190 = .ok (.aload_n 0, 1) := dk_42 (dk_at dksX4_bone_8 3 rfl rfl)
theorem dX4_bone_191 : decode cX4_bone 191 = .ok (.getfield 16, 3) := dk_180 0 16 (dk_at dksX4_bone_8 4 rfl rfl)
theorem dX4_bone_194 : decode cX4_bone 194 = .ok (.bipush 60, 2) := dk_16 60 (dk_at dksX4_bone_8 7 rfl rfl)
theorem dX4_bone_196 : decode cX4_bone 196 = .ok (.iload_n 2, 1) := dk_28 (dk_at dksX4_bone_8 9 rfl rfl)
theorem dX4_bone_197 : decode cX4_bone 197 = .ok (.imul, 1) := dk_104 (dk_at dksX4_bone_8 10 rfl rfl)
theorem dX4_bone_198 : decode cX4_bone 198 = .ok (.iload 8, 2) := dk_21 8 (dk_at dksX4_bone_8 11 rfl rfl)
theorem dX4_bone_200 : decode cX4_bone 200 = .ok (.iadd, 1) := dk_96 (dk_at dksX4_bone_8 13 rfl rfl)
theorem dX4_bone_201 : decode cX4_bone 201 = .ok (.laload, 1) := dk_47 (dk_at dksX4_bone_8 14 rfl rfl)
theorem dX4_bone_202 : decode cX4_bone 202 = .ok (.l2i, 1) := dk_136 (dk_at dksX4_bone_8 15 rfl rfl)
theorem dX4_bone_203 : decode cX4_bone 203 = .ok (.iastore, 1) := dk_79 (dk_at dksX4_bone_8 16 rfl rfl)
theorem dX4_bone_204 : decode cX4_bone 204 = .ok (.iinc 8 1, 3) := dk_132 8 1 (dk_at dksX4_bone_8 17 rfl rfl)
theorem dX4_bone_207 : decode cX4_bone 207 = .ok (.goto (-38), 3) := dk_167 255 218 (dk_at dksX4_bone_8 20 rfl rfl)
theorem dX4_bone_210 : decode cX4_bone 210 = .ok (.aload_n 0, 1) := dk_42 (dk_at dksX4_bone_8 23 rfl rfl)
theorem dX4_bone_211 : decode cX4_bone 211 = .ok (.getfield 73, 3) := dk_180 0 73 (dk_at dksX4_bone_9 0 rfl rfl)
theorem dX4_bone_214 : decode cX4_bone 214 = .ok (.aload_n 0, 1) := dk_42 (dk_at dksX4_bone_9 3 rfl rfl)
theorem dX4_bone_215 : decode cX4_bone 215 = .ok (.getfield 206, 3) := dk_180 0 206 (dk_at dksX4_bone_9 4 rfl rfl)
theorem dX4_bone_218 : decode cX4_bone 218 = .ok (.iload_n 3, 1) := dk_29 (dk_at dksX4_bone_9 7 rfl rfl)
theorem dX4_bone_219 : decode cX4_bone 219 = .ok (.iastore, 1) := dk_79 (dk_at dksX4_bone_9 8 rfl rfl)
theorem dX4_bone_220 : decode cX4_bone 220 = .ok (.aload_n 0, 1) := dk_42 (dk_at dksX4_bone_9 9 rfl rfl)
theorem dX4_bone_221 : decode cX4_bone 221 = .ok (.getfield 76, 3) := dk_180 0 76 (dk_at dksX4_bone_9 10 rfl rfl)
theorem dX4_bone_224 : decode cX4_bone 224 = .ok (.aload_n 0, 1) := dk_42 (dk_at dksX4_bone_9 13 rfl rfl)
theorem dX4_bone_225 : decode cX4_bone 225 = .ok (.getfield 206, 3) := dk_180 0 206 (dk_at dksX4_bone_9 14 rfl rfl)
theorem dX4_bone_228 : decode cX4_bone 228 = .ok (.iload 4, 2) := dk_21 4 (dk_at dksX4_bone_9 17 rfl rfl)
theorem dX4_bone_230 : decode cX4_bone 230 = .ok (.iastore, 1) := dk_79 (dk_at dksX4_bone_9 19 rfl rfl)
theorem dX4_bone_231 : decode cX4_bone 231 = .ok (.aload_n 0, 1) := dk_42 (dk_at dksX4_bone_9 20 rfl rfl)
theorem dX4_bone_232 : decode cX4_bone 232 = .ok (.getfield 79, 3) := dk_180 0 79 (dk_at dksX4_bone_9 21 rfl rfl)
theorem dX4_bone_235 : decode cX4_bone 235 = .ok (.aload_n 0, 1) := dk_42 (dk_at dksX4_bone_10 0 rfl rfl)
theorem dX4_bone_236 : decode cX4_bone 236 = .ok (.getfield 206, 3) := dk_180 0 206 (dk_at dksX4_bone_10 1 rfl rfl)
theorem dX4_bone_239 : decode cX4_bone 239 = .ok (.iload 5, 2) := dk_21 5 (dk_at dksX4_bone_10 4 rfl rfl)
theorem dX4_bone_241 : decode cX4_bone 241 = .ok (.iastore, 1) := dk_79 (dk_at dksX4_bone_10 6 rfl rfl)
theorem dX4_bone_242 : decode cX4_bone 242 = .ok (.aload_n 0, 1) := dk_42 (dk_at dksX4_bone_10 7 rfl rfl)
theorem dX4_bone_243 : decode cX4_bone 243 = .ok (.getfield 82, 3) := dk_180 0 82 (dk_at dksX4_bone_10 8 rfl rfl)
theorem dX4_bone_246 : decode cX4_bone 246 = .ok (.aload_n 0, 1) := dk_42 (dk_at dksX4_bone_10 11 rfl rfl)
theorem dX4_bone_247 : decode cX4_bone 247 = .ok (.getfield 206, 3) := dk_180 0 206 (dk_at dksX4_bone_10 12 rfl rfl)
theorem dX4_bone_250 : decode cX4_bone 250 = .ok (.iload 6, 2) := dk_21 6 (dk_at dksX4_bone_10 15 rfl rfl)
theorem dX4_bone_252 : decode cX4_bone 252 = .ok (.iastore, 1) := dk_79 (dk_at dksX4_bone_10 17 rfl rfl)
theorem dX4_bone_253 : decode cX4_bone 253 = .ok (.aload_n 0, 1) := dk_42 (dk_at dksX4_bone_10 18 rfl rfl)
theorem dX4_bone_254 : decode cX4_bone 254 = .ok (.getfield 85, 3) := dk_180 0 85 (dk_at dksX4_bone_10 19 rfl rfl)
theorem dX4_bone_257 : decode cX4_bone 257 = .ok (.aload_n 0, 1) := dk_42 (dk_at dksX4_bone_10 22 rfl rfl)
theorem dX4_bone_258 : decode cX4_bone 258 = .ok (.getfield 206, 3) := dk_180 0 206 (dk_at dksX4_bone_11 0 rfl rfl)
theorem dX4_bone_261 : decode cX4_bone 261 = .ok (.iload 7, 2) := dk_21 7 (dk_at dksX4_bone_11 3 rfl rfl)
theorem dX4_bone_263 : decode cX4_bone 263 = .ok (.bastore, 1) := dk_84 (dk_at dksX4_bone_11 5 rfl rfl)
theorem dX4_bone_264 : decode cX4_bone 264 = .ok (.aload_n 0, 1) := dk_42 (dk_at dksX4_bone_11 6 rfl rfl)
theorem dX4_bone_265 : decode cX4_bone 265 = .ok (.dup, 1) := dk_89 (dk_at dksX4_bone_11 7 rfl rfl)
theorem dX4_bone_266 : decode cX4_bone 266 = .ok (.getfield 206, 3) := dk_180 0 206 (dk_at dksX4_bone_11 8 rfl rfl)
theorem dX4_bone_269 : decode cX4_bone 269 = .ok (.iconst 1, 1) := dk_4 (dk_at dksX4_bone_11 11 rfl rfl)
theorem dX4_bone_270 : decode cX4_bone 270 = .ok (.iadd, 1) := dk_96 (dk_at dksX4_bone_11 12 rfl rfl)
theorem dX4_bone_271 : decode cX4_bone 271 = .ok (.putfield 206, 3) := dk_181 0 206 (dk_at dksX4_bone_11 13 rfl rfl)
theorem dX4_bone_274 : decode cX4_bone 274 = .ok (.iconst 0, 1) := dk_3 (dk_at dksX4_bone_11 16 rfl rfl)
theorem dX4_bone_275 : decode cX4_bone 275 = .ok (.istore 8, 2) := dk_54 8 (dk_at dksX4_bone_11 17 rfl rfl)
theorem dX4_bone_277 : decode cX4_bone 277 = .ok (.iload 8, 2) := dk_21 8 (dk_at dksX4_bone_11 19 rfl rfl)
theorem dX4_bone_279 : decode cX4_bone 279 = .ok (.aload_n 0, 1) := dk_42 (dk_at dksX4_bone_11 21 rfl rfl)
theorem dX4_bone_280 : decode cX4_bone 280 = .ok (.getfield 209, 3) := dk_180 0 209 (dk_at dksX4_bone_12 0 rfl rfl)
theorem dX4_bone_283 : decode cX4_bone 283 = .ok (.if_icmp .ge 21, 3) := dk_162 0 21 (dk_at dksX4_bone_12 3 rfl rfl)
theorem dX4_bone_286 : decode cX4_bone 286 = .ok (.aload_n 0, 1) := dk_42 (dk_at dksX4_bone_12 6 rfl rfl)
theorem dX4_bone_287 : decode cX4_bone 287 = .ok (.iload 8, 2) := dk_21 8 (dk_at dksX4_bone_12 7 rfl rfl)
theorem dX4_bone_289 : decode cX4_bone 289 = .ok (.aload_n 0, 1) := dk_42 (dk_at dksX4_bone_12 9 rfl rfl)
theorem dX4_bone_290 : decode cX4_bone 290 = .ok (.getfield 206, 3) := dk_180 0 206 (dk_at dksX4_bone_12 10 rfl rfl)
theorem dX4_bone_293 : decode cX4_bone 293 = .ok (.iconst 1, 1) := dk_4 (dk_at dksX4_bone_12 13 rfl rfl)
theorem dX4_bone_294 : decode cX4_bone 294 = .ok (.isub, 1) := dk_100 (dk_at dksX4_bone_12 14 rfl rfl)
theorem dX4_bone_295 : decode cX4_bone 295 = .ok (.invokevirtual 263, 3) := dk_182 1 7 (dk_at dksX4_bone_12 15 rfl rfl)
theorem dX4_bone_298 : decode cX4_bone 298 = .ok (.iinc 8 1, 3) := dk_132 8 1 (dk_at dksX4_bone_12 18 rfl rfl)
theorem dX4_bone_301 : decode cX4_bone 301 = .ok (.goto (-24), 3) := dk_167 255 232 (dk_at dksX4_bone_12 21 rfl rfl)
theorem dX4_bone_304 : decode cX4_bone 304 = .ok (.aload_n 0, 1) := dk_42 (dk_at dksX4_bone_13 0 rfl rfl)
theorem dX4_bone_305 : decode cX4_bone 305 = .ok (.getfield 206, 3) := dk_180 0 206 (dk_at dksX4_bone_13 1 rfl rfl)
theorem dX4_bone_308 : decode cX4_bone 308 = .ok (.iconst 1, 1) := dk_4 (dk_at dksX4_bone_13 4 rfl rfl)
theorem dX4_bone_309 : decode cX4_bone 309 = .ok (.isub, 1) := dk_100 (dk_at dksX4_bone_13 5 rfl rfl)
theorem dX4_bone_310 : decode cX4_bone 310 = .ok (.ireturn, 1) := dk_172 (dk_at dksX4_bone_13 6 rfl rfl)
abbrev cX4_names : ByteArray := prog_20_method_52_code
def yX4_names : MethodName := ⟨RX4, "names", "(II)V"⟩
def dkwX4_names_1 : List UInt8 := [180, 0, 97, 17, 0, 200, 27, 104, 28, 96, 42, 180, 1, 138, 79, 177]
abbrev dktX4_names_1 : List UInt8 := dkwX4_names_1 ++ []
def dkwX4_names_0 : List UInt8 := [42, 27, 28, 182, 1, 155, 42, 180, 0, 94, 17, 0, 200, 27, 104, 28, 96, 42, 180, 1, 129, 79, 42]
abbrev dktX4_names_0 : List UInt8 := dkwX4_names_0 ++ dktX4_names_1
theorem dksX4_names_0 : cX4_names.data.toList.drop 0 = dktX4_names_0 := by decide +kernel
theorem dksX4_names_1 : cX4_names.data.toList.drop 23 = dktX4_names_1 := dk_seg dksX4_names_0 23 rfl rfl
theorem dX4_names_0 : decode cX4_names 0 = .ok (.aload_n 0, 1) := dk_42 (dk_at dksX4_names_0 0 rfl rfl)
theorem dX4_names_1 : decode cX4_names 1 = .ok (.iload_n 1, 1) := dk_27 (dk_at dksX4_names_0 1 rfl rfl)
theorem dX4_names_2 : decode cX4_names 2 = .ok (.iload_n 2, 1) := dk_28 (dk_at dksX4_names_0 2 rfl rfl)
theorem dX4_names_3 : decode cX4_names 3 = .ok (.invokevirtual 411, 3) := dk_182 1 155 (dk_at dksX4_names_0 3 rfl rfl)
theorem dX4_names_6 : decode cX4_names 6 = .ok (.aload_n 0, 1) := dk_42 (dk_at dksX4_names_0 6 rfl rfl)
theorem dX4_names_7 : decode cX4_names 7 = .ok (.getfield 94, 3) := dk_180 0 94 (dk_at dksX4_names_0 7 rfl rfl)
theorem dX4_names_10 : decode cX4_names 10 = .ok (.sipush 200, 3) := dk_17 0 200 (dk_at dksX4_names_0 10 rfl rfl)
theorem dX4_names_13 : decode cX4_names 13 = .ok (.iload_n 1, 1) := dk_27 (dk_at dksX4_names_0 13 rfl rfl)
theorem dX4_names_14 : decode cX4_names 14 = .ok (.imul, 1) := dk_104 (dk_at dksX4_names_0 14 rfl rfl)
theorem dX4_names_15 : decode cX4_names 15 = .ok (.iload_n 2, 1) := dk_28 (dk_at dksX4_names_0 15 rfl rfl)
theorem dX4_names_16 : decode cX4_names 16 = .ok (.iadd, 1) := dk_96 (dk_at dksX4_names_0 16 rfl rfl)
theorem dX4_names_17 : decode cX4_names 17 = .ok (.aload_n 0, 1) := dk_42 (dk_at dksX4_names_0 17 rfl rfl)
theorem dX4_names_18 : decode cX4_names 18 = .ok (.getfield 385, 3) := dk_180 1 129 (dk_at dksX4_names_0 18 rfl rfl)
theorem dX4_names_21 : decode cX4_names 21 = .ok (.iastore, 1) := dk_79 (dk_at dksX4_names_0 21 rfl rfl)
theorem dX4_names_22 : decode cX4_names 22 = .ok (.aload_n 0, 1) := dk_42 (dk_at dksX4_names_0 22 rfl rfl)
theorem dX4_names_23 : decode cX4_names 23 = .ok (.getfield 97, 3) := dk_180 0 97 (dk_at dksX4_names_1 0 rfl rfl)
theorem dX4_names_26 : decode cX4_names 26 = .ok (.sipush 200, 3) := dk_17 0 200 (dk_at dksX4_names_1 3 rfl rfl)
theorem dX4_names_29 : decode cX4_names 29 = .ok (.iload_n 1, 1) := dk_27 (dk_at dksX4_names_1 6 rfl rfl)
theorem dX4_names_30 : decode cX4_names 30 = .ok (.imul, 1) := dk_104 (dk_at dksX4_names_1 7 rfl rfl)
theorem dX4_names_31 : decode cX4_names 31 = .ok (.iload_n 2, 1) := dk_28 (dk_at dksX4_names_1 8 rfl rfl)
theorem dX4_names_32 : decode cX4_names 32 = .ok (.iadd, 1) := dk_96 (dk_at dksX4_names_1 9 rfl rfl)
theorem dX4_names_33 : decode cX4_names 33 = .ok (.aload_n 0, 1) := dk_42 (dk_at dksX4_names_1 10 rfl rfl)
theorem dX4_names_34 : decode cX4_names 34 = .ok (.getfield 394, 3) := dk_180 1 138 (dk_at dksX4_names_1 11 rfl rfl)
theorem dX4_names_37 : decode cX4_names 37 = .ok (.iastore, 1) := dk_79 (dk_at dksX4_names_1 14 rfl rfl)
theorem dX4_names_38 : decode cX4_names 38 = .ok (.return_, 1) := dk_177 (dk_at dksX4_names_1 15 rfl rfl)
abbrev cX4_reads : ByteArray := prog_20_method_51_code
def yX4_reads : MethodName := ⟨RX4, "reads", "(II)V"⟩
def dkwX4_reads_11 : List UInt8 := [167, 255, 163, 177]
abbrev dktX4_reads_11 : List UInt8 := dkwX4_reads_11 ++ []
def dkwX4_reads_10 : List UInt8 := [167, 0, 19, 42, 7, 181, 1, 45, 42, 42, 180, 0, 128, 21, 4, 46, 181, 1, 48, 132, 4, 1]
abbrev dktX4_reads_10 : List UInt8 := dkwX4_reads_10 ++ dktX4_reads_11
def dkwX4_reads_9 : List UInt8 := [46, 160, 0, 7, 4, 167, 0, 4, 3, 54, 5, 132, 6, 1, 167, 255, 215, 21, 5, 153, 0, 6]
abbrev dktX4_reads_9 : List UInt8 := dkwX4_reads_9 ++ dktX4_reads_10
def dkwX4_reads_8 : List UInt8 := [180, 1, 132, 162, 0, 38, 21, 5, 154, 0, 20, 42, 180, 0, 134, 21, 6, 46, 42, 180, 0, 131, 21, 4]
abbrev dktX4_reads_8 : List UInt8 := dkwX4_reads_8 ++ dktX4_reads_9
def dkwX4_reads_7 : List UInt8 := [180, 1, 125, 162, 0, 90, 42, 180, 1, 45, 154, 0, 83, 3, 54, 5, 3, 54, 6, 21, 6, 42]
abbrev dktX4_reads_7 : List UInt8 := dkwX4_reads_7 ++ dktX4_reads_8
def dkwX4_reads_6 : List UInt8 := [180, 1, 45, 154, 0, 15, 42, 180, 1, 30, 153, 0, 8, 42, 4, 182, 1, 67, 3, 54, 4, 21, 4, 42]
abbrev dktX4_reads_6 : List UInt8 := dkwX4_reads_6 ++ dktX4_reads_7
def dkwX4_reads_5 : List UInt8 := [29, 153, 0, 16, 42, 16, 59, 182, 1, 61, 153, 0, 7, 4, 167, 0, 4, 3, 62, 167, 255, 208, 42]
abbrev dktX4_reads_5 : List UInt8 := dkwX4_reads_5 ++ dktX4_reads_6
def dkwX4_reads_4 : List UInt8 := [182, 1, 64, 42, 180, 1, 30, 153, 0, 7, 4, 167, 0, 4, 3, 62, 29, 153, 0, 7, 42, 182, 1, 153]
abbrev dktX4_reads_4 : List UInt8 := dkwX4_reads_4 ++ dktX4_reads_5
def dkwX4_reads_3 : List UInt8 := [3, 181, 1, 138, 42, 182, 1, 64, 42, 182, 1, 153, 42, 16, 59, 182, 1, 61, 62, 29, 153, 0, 50, 42]
abbrev dktX4_reads_3 : List UInt8 := dkwX4_reads_3 ++ dktX4_reads_4
def dkwX4_reads_2 : List UInt8 := [181, 1, 125, 42, 28, 181, 1, 85, 42, 2, 181, 1, 122, 42, 2, 181, 1, 117, 42, 2, 181, 1, 129, 42]
abbrev dktX4_reads_2 : List UInt8 := dkwX4_reads_2 ++ dktX4_reads_3
def dkwX4_reads_1 : List UInt8 := [42, 3, 181, 1, 75, 42, 3, 181, 1, 132, 42, 3, 181, 1, 45, 42, 2, 181, 1, 48, 42, 3]
abbrev dktX4_reads_1 : List UInt8 := dkwX4_reads_1 ++ dktX4_reads_2
def dkwX4_reads_0 : List UInt8 := [42, 17, 1, 144, 27, 104, 181, 1, 17, 42, 42, 180, 0, 113, 27, 46, 181, 1, 14, 42, 3, 181, 1, 20]
abbrev dktX4_reads_0 : List UInt8 := dkwX4_reads_0 ++ dktX4_reads_1
theorem dksX4_reads_0 : cX4_reads.data.toList.drop 0 = dktX4_reads_0 := by decide +kernel
theorem dksX4_reads_1 : cX4_reads.data.toList.drop 24 = dktX4_reads_1 := dk_seg dksX4_reads_0 24 rfl rfl
theorem dksX4_reads_2 : cX4_reads.data.toList.drop 46 = dktX4_reads_2 := dk_seg dksX4_reads_1 22 rfl rfl
theorem dksX4_reads_3 : cX4_reads.data.toList.drop 70 = dktX4_reads_3 := dk_seg dksX4_reads_2 24 rfl rfl
theorem dksX4_reads_4 : cX4_reads.data.toList.drop 94 = dktX4_reads_4 := dk_seg dksX4_reads_3 24 rfl rfl
theorem dksX4_reads_5 : cX4_reads.data.toList.drop 118 = dktX4_reads_5 := dk_seg dksX4_reads_4 24 rfl rfl
theorem dksX4_reads_6 : cX4_reads.data.toList.drop 141 = dktX4_reads_6 := dk_seg dksX4_reads_5 23 rfl rfl
theorem dksX4_reads_7 : cX4_reads.data.toList.drop 165 = dktX4_reads_7 := dk_seg dksX4_reads_6 24 rfl rfl
theorem dksX4_reads_8 : cX4_reads.data.toList.drop 187 = dktX4_reads_8 := dk_seg dksX4_reads_7 22 rfl rfl
theorem dksX4_reads_9 : cX4_reads.data.toList.drop 211 = dktX4_reads_9 := dk_seg dksX4_reads_8 24 rfl rfl
theorem dksX4_reads_10 : cX4_reads.data.toList.drop 233 = dktX4_reads_10 := dk_seg dksX4_reads_9 22 rfl rfl
theorem dksX4_reads_11 : cX4_reads.data.toList.drop 255 = dktX4_reads_11 := dk_seg dksX4_reads_10 22 rfl rfl
theorem dX4_reads_0 : decode cX4_reads 0 = .ok (.aload_n 0, 1) := dk_42 (dk_at dksX4_reads_0 0 rfl rfl)
theorem dX4_reads_1 : decode cX4_reads 1 = .ok (.sipush 400, 3) := dk_17 1 144 (dk_at dksX4_reads_0 1 rfl rfl)
theorem dX4_reads_4 : decode cX4_reads 4 = .ok (.iload_n 1, 1) := dk_27 (dk_at dksX4_reads_0 4 rfl rfl)
theorem dX4_reads_5 : decode cX4_reads 5 = .ok (.imul, 1) := dk_104 (dk_at dksX4_reads_0 5 rfl rfl)
theorem dX4_reads_6 : decode cX4_reads 6 = .ok (.putfield 273, 3) := dk_181 1 17 (dk_at dksX4_reads_0 6 rfl rfl)
theorem dX4_reads_9 : decode cX4_reads 9 = .ok (.aload_n 0, 1) := dk_42 (dk_at dksX4_reads_0 9 rfl rfl)
theorem dX4_reads_10 : decode cX4_reads 10 = .ok (.aload_n 0, 1) := dk_42 (dk_at dksX4_reads_0 10 rfl rfl)
theorem dX4_reads_11 : decode cX4_reads 11 = .ok (.getfield 113, 3) := dk_180 0 113 (dk_at dksX4_reads_0 11 rfl rfl)
theorem dX4_reads_14 : decode cX4_reads 14 = .ok (.iload_n 1, 1) := dk_27 (dk_at dksX4_reads_0 14 rfl rfl)
theorem dX4_reads_15 : decode cX4_reads 15 = .ok (.iaload, 1) := dk_46 (dk_at dksX4_reads_0 15 rfl rfl)
theorem dX4_reads_16 : decode cX4_reads 16 = .ok (.putfield 270, 3) := dk_181 1 14 (dk_at dksX4_reads_0 16 rfl rfl)
theorem dX4_reads_19 : decode cX4_reads 19 = .ok (.aload_n 0, 1) := dk_42 (dk_at dksX4_reads_0 19 rfl rfl)
theorem dX4_reads_20 : decode cX4_reads 20 = .ok (.iconst 0, 1) := dk_3 (dk_at dksX4_reads_0 20 rfl rfl)
theorem dX4_reads_21 : decode cX4_reads 21 = .ok (.putfield 276, 3) := dk_181 1 20 (dk_at dksX4_reads_0 21 rfl rfl)
theorem dX4_reads_24 : decode cX4_reads 24 = .ok (.aload_n 0, 1) := dk_42 (dk_at dksX4_reads_1 0 rfl rfl)
theorem dX4_reads_25 : decode cX4_reads 25 = .ok (.iconst 0, 1) := dk_3 (dk_at dksX4_reads_1 1 rfl rfl)
theorem dX4_reads_26 : decode cX4_reads 26 = .ok (.putfield 331, 3) := dk_181 1 75 (dk_at dksX4_reads_1 2 rfl rfl)
theorem dX4_reads_29 : decode cX4_reads 29 = .ok (.aload_n 0, 1) := dk_42 (dk_at dksX4_reads_1 5 rfl rfl)
theorem dX4_reads_30 : decode cX4_reads 30 = .ok (.iconst 0, 1) := dk_3 (dk_at dksX4_reads_1 6 rfl rfl)
theorem dX4_reads_31 : decode cX4_reads 31 = .ok (.putfield 388, 3) := dk_181 1 132 (dk_at dksX4_reads_1 7 rfl rfl)
theorem dX4_reads_34 : decode cX4_reads 34 = .ok (.aload_n 0, 1) := dk_42 (dk_at dksX4_reads_1 10 rfl rfl)
theorem dX4_reads_35 : decode cX4_reads 35 = .ok (.iconst 0, 1) := dk_3 (dk_at dksX4_reads_1 11 rfl rfl)
theorem dX4_reads_36 : decode cX4_reads 36 = .ok (.putfield 301, 3) := dk_181 1 45 (dk_at dksX4_reads_1 12 rfl rfl)
theorem dX4_reads_39 : decode cX4_reads 39 = .ok (.aload_n 0, 1) := dk_42 (dk_at dksX4_reads_1 15 rfl rfl)
theorem dX4_reads_40 : decode cX4_reads 40 = .ok (.iconst (-1), 1) := dk_2 (dk_at dksX4_reads_1 16 rfl rfl)
theorem dX4_reads_41 : decode cX4_reads 41 = .ok (.putfield 304, 3) := dk_181 1 48 (dk_at dksX4_reads_1 17 rfl rfl)
theorem dX4_reads_44 : decode cX4_reads 44 = .ok (.aload_n 0, 1) := dk_42 (dk_at dksX4_reads_1 20 rfl rfl)
theorem dX4_reads_45 : decode cX4_reads 45 = .ok (.iconst 0, 1) := dk_3 (dk_at dksX4_reads_1 21 rfl rfl)
theorem dX4_reads_46 : decode cX4_reads 46 = .ok (.putfield 381, 3) := dk_181 1 125 (dk_at dksX4_reads_2 0 rfl rfl)
theorem dX4_reads_49 : decode cX4_reads 49 = .ok (.aload_n 0, 1) := dk_42 (dk_at dksX4_reads_2 3 rfl rfl)
theorem dX4_reads_50 : decode cX4_reads 50 = .ok (.iload_n 2, 1) := dk_28 (dk_at dksX4_reads_2 4 rfl rfl)
theorem dX4_reads_51 : decode cX4_reads 51 = .ok (.putfield 341, 3) := dk_181 1 85 (dk_at dksX4_reads_2 5 rfl rfl)
theorem dX4_reads_54 : decode cX4_reads 54 = .ok (.aload_n 0, 1) := dk_42 (dk_at dksX4_reads_2 8 rfl rfl)
theorem dX4_reads_55 : decode cX4_reads 55 = .ok (.iconst (-1), 1) := dk_2 (dk_at dksX4_reads_2 9 rfl rfl)
theorem dX4_reads_56 : decode cX4_reads 56 = .ok (.putfield 378, 3) := dk_181 1 122 (dk_at dksX4_reads_2 10 rfl rfl)
theorem dX4_reads_59 : decode cX4_reads 59 = .ok (.aload_n 0, 1) := dk_42 (dk_at dksX4_reads_2 13 rfl rfl)
theorem dX4_reads_60 : decode cX4_reads 60 = .ok (.iconst (-1), 1) := dk_2 (dk_at dksX4_reads_2 14 rfl rfl)
theorem dX4_reads_61 : decode cX4_reads 61 = .ok (.putfield 373, 3) := dk_181 1 117 (dk_at dksX4_reads_2 15 rfl rfl)
theorem dX4_reads_64 : decode cX4_reads 64 = .ok (.aload_n 0, 1) := dk_42 (dk_at dksX4_reads_2 18 rfl rfl)
theorem dX4_reads_65 : decode cX4_reads 65 = .ok (.iconst (-1), 1) := dk_2 (dk_at dksX4_reads_2 19 rfl rfl)
theorem dX4_reads_66 : decode cX4_reads 66 = .ok (.putfield 385, 3) := dk_181 1 129 (dk_at dksX4_reads_2 20 rfl rfl)
theorem dX4_reads_69 : decode cX4_reads 69 = .ok (.aload_n 0, 1) := dk_42 (dk_at dksX4_reads_2 23 rfl rfl)
theorem dX4_reads_70 : decode cX4_reads 70 = .ok (.iconst 0, 1) := dk_3 (dk_at dksX4_reads_3 0 rfl rfl)
theorem dX4_reads_71 : decode cX4_reads 71 = .ok (.putfield 394, 3) := dk_181 1 138 (dk_at dksX4_reads_3 1 rfl rfl)
theorem dX4_reads_74 : decode cX4_reads 74 = .ok (.aload_n 0, 1) := dk_42 (dk_at dksX4_reads_3 4 rfl rfl)
theorem dX4_reads_75 : decode cX4_reads 75 = .ok (.invokevirtual 320, 3) := dk_182 1 64 (dk_at dksX4_reads_3 5 rfl rfl)
theorem dX4_reads_78 : decode cX4_reads 78 = .ok (.aload_n 0, 1) := dk_42 (dk_at dksX4_reads_3 8 rfl rfl)
theorem dX4_reads_79 : decode cX4_reads 79 = .ok (.invokevirtual 409, 3) := dk_182 1 153 (dk_at dksX4_reads_3 9 rfl rfl)
theorem dX4_reads_82 : decode cX4_reads 82 = .ok (.aload_n 0, 1) := dk_42 (dk_at dksX4_reads_3 12 rfl rfl)
theorem dX4_reads_83 : decode cX4_reads 83 = .ok (.bipush 59, 2) := dk_16 59 (dk_at dksX4_reads_3 13 rfl rfl)
theorem dX4_reads_85 : decode cX4_reads 85 = .ok (.invokevirtual 317, 3) := dk_182 1 61 (dk_at dksX4_reads_3 15 rfl rfl)
theorem dX4_reads_88 : decode cX4_reads 88 = .ok (.istore_n 3, 1) := dk_62 (dk_at dksX4_reads_3 18 rfl rfl)
theorem dX4_reads_89 : decode cX4_reads 89 = .ok (.iload_n 3, 1) := dk_29 (dk_at dksX4_reads_3 19 rfl rfl)
theorem dX4_reads_90 : decode cX4_reads 90 = .ok (.ifCond .eq 50, 3) := dk_153 0 50 (dk_at dksX4_reads_3 20 rfl rfl)
theorem dX4_reads_93 : decode cX4_reads 93 = .ok (.aload_n 0, 1) := dk_42 (dk_at dksX4_reads_3 23 rfl rfl)
theorem dX4_reads_94 : decode cX4_reads 94 = .ok (.invokevirtual 320, 3) := dk_182 1 64 (dk_at dksX4_reads_4 0 rfl rfl)
theorem dX4_reads_97 : decode cX4_reads 97 = .ok (.aload_n 0, 1) := dk_42 (dk_at dksX4_reads_4 3 rfl rfl)
theorem dX4_reads_98 : decode cX4_reads 98 = .ok (.getfield 286, 3) := dk_180 1 30 (dk_at dksX4_reads_4 4 rfl rfl)
theorem dX4_reads_101 : decode cX4_reads 101 = .ok (.ifCond .eq 7, 3) := dk_153 0 7 (dk_at dksX4_reads_4 7 rfl rfl)
theorem dX4_reads_104 : decode cX4_reads 104 = .ok (.iconst 1, 1) := dk_4 (dk_at dksX4_reads_4 10 rfl rfl)
theorem dX4_reads_105 : decode cX4_reads 105 = .ok (.goto 4, 3) := dk_167 0 4 (dk_at dksX4_reads_4 11 rfl rfl)
theorem dX4_reads_108 : decode cX4_reads 108 = .ok (.iconst 0, 1) := dk_3 (dk_at dksX4_reads_4 14 rfl rfl)
theorem dX4_reads_109 : decode cX4_reads 109 = .ok (.istore_n 3, 1) := dk_62 (dk_at dksX4_reads_4 15 rfl rfl)
theorem dX4_reads_110 : decode cX4_reads 110 = .ok (.iload_n 3, 1) := dk_29 (dk_at dksX4_reads_4 16 rfl rfl)
theorem dX4_reads_111 : decode cX4_reads 111 = .ok (.ifCond .eq 7, 3) := dk_153 0 7 (dk_at dksX4_reads_4 17 rfl rfl)
theorem dX4_reads_114 : decode cX4_reads 114 = .ok (.aload_n 0, 1) := dk_42 (dk_at dksX4_reads_4 20 rfl rfl)
theorem dX4_reads_115 : decode cX4_reads 115 = .ok (.invokevirtual 409, 3) := dk_182 1 153 (dk_at dksX4_reads_4 21 rfl rfl)
theorem dX4_reads_118 : decode cX4_reads 118 = .ok (.iload_n 3, 1) := dk_29 (dk_at dksX4_reads_5 0 rfl rfl)
theorem dX4_reads_119 : decode cX4_reads 119 = .ok (.ifCond .eq 16, 3) := dk_153 0 16 (dk_at dksX4_reads_5 1 rfl rfl)
theorem dX4_reads_122 : decode cX4_reads 122 = .ok (.aload_n 0, 1) := dk_42 (dk_at dksX4_reads_5 4 rfl rfl)
theorem dX4_reads_123 : decode cX4_reads 123 = .ok (.bipush 59, 2) := dk_16 59 (dk_at dksX4_reads_5 5 rfl rfl)
theorem dX4_reads_125 : decode cX4_reads 125 = .ok (.invokevirtual 317, 3) := dk_182 1 61 (dk_at dksX4_reads_5 7 rfl rfl)
theorem dX4_reads_128 : decode cX4_reads 128 = .ok (.ifCond .eq 7, 3) := dk_153 0 7 (dk_at dksX4_reads_5 10 rfl rfl)
theorem dX4_reads_131 : decode cX4_reads 131 = .ok (.iconst 1, 1) := dk_4 (dk_at dksX4_reads_5 13 rfl rfl)
theorem dX4_reads_132 : decode cX4_reads 132 = .ok (.goto 4, 3) := dk_167 0 4 (dk_at dksX4_reads_5 14 rfl rfl)
theorem dX4_reads_135 : decode cX4_reads 135 = .ok (.iconst 0, 1) := dk_3 (dk_at dksX4_reads_5 17 rfl rfl)
theorem dX4_reads_136 : decode cX4_reads 136 = .ok (.istore_n 3, 1) := dk_62 (dk_at dksX4_reads_5 18 rfl rfl)
theorem dX4_reads_137 : decode cX4_reads 137 = .ok (.goto (-48), 3) := dk_167 255 208 (dk_at dksX4_reads_5 19 rfl rfl)
theorem dX4_reads_140 : decode cX4_reads 140 = .ok (.aload_n 0, 1) := dk_42 (dk_at dksX4_reads_5 22 rfl rfl)
theorem dX4_reads_141 : decode cX4_reads 141 = .ok (.getfield 301, 3) := dk_180 1 45 (dk_at dksX4_reads_6 0 rfl rfl)
theorem dX4_reads_144 : decode cX4_reads 144 = .ok (.ifCond .ne 15, 3) := dk_154 0 15 (dk_at dksX4_reads_6 3 rfl rfl)
theorem dX4_reads_147 : decode cX4_reads 147 = .ok (.aload_n 0, 1) := dk_42 (dk_at dksX4_reads_6 6 rfl rfl)
theorem dX4_reads_148 : decode cX4_reads 148 = .ok (.getfield 286, 3) := dk_180 1 30 (dk_at dksX4_reads_6 7 rfl rfl)
theorem dX4_reads_151 : decode cX4_reads 151 = .ok (.ifCond .eq 8, 3) := dk_153 0 8 (dk_at dksX4_reads_6 10 rfl rfl)
theorem dX4_reads_154 : decode cX4_reads 154 = .ok (.aload_n 0, 1) := dk_42 (dk_at dksX4_reads_6 13 rfl rfl)
theorem dX4_reads_155 : decode cX4_reads 155 = .ok (.iconst 1, 1) := dk_4 (dk_at dksX4_reads_6 14 rfl rfl)
theorem dX4_reads_156 : decode cX4_reads 156 = .ok (.invokevirtual 323, 3) := dk_182 1 67 (dk_at dksX4_reads_6 15 rfl rfl)
theorem dX4_reads_159 : decode cX4_reads 159 = .ok (.iconst 0, 1) := dk_3 (dk_at dksX4_reads_6 18 rfl rfl)
theorem dX4_reads_160 : decode cX4_reads 160 = .ok (.istore 4, 2) := dk_54 4 (dk_at dksX4_reads_6 19 rfl rfl)
theorem dX4_reads_162 : decode cX4_reads 162 = .ok (.iload 4, 2) := dk_21 4 (dk_at dksX4_reads_6 21 rfl rfl)
theorem dX4_reads_164 : decode cX4_reads 164 = .ok (.aload_n 0, 1) := dk_42 (dk_at dksX4_reads_6 23 rfl rfl)
theorem dX4_reads_165 : decode cX4_reads 165 = .ok (.getfield 381, 3) := dk_180 1 125 (dk_at dksX4_reads_7 0 rfl rfl)
theorem dX4_reads_168 : decode cX4_reads 168 = .ok (.if_icmp .ge 90, 3) := dk_162 0 90 (dk_at dksX4_reads_7 3 rfl rfl)
theorem dX4_reads_171 : decode cX4_reads 171 = .ok (.aload_n 0, 1) := dk_42 (dk_at dksX4_reads_7 6 rfl rfl)
theorem dX4_reads_172 : decode cX4_reads 172 = .ok (.getfield 301, 3) := dk_180 1 45 (dk_at dksX4_reads_7 7 rfl rfl)
theorem dX4_reads_175 : decode cX4_reads 175 = .ok (.ifCond .ne 83, 3) := dk_154 0 83 (dk_at dksX4_reads_7 10 rfl rfl)
theorem dX4_reads_178 : decode cX4_reads 178 = .ok (.iconst 0, 1) := dk_3 (dk_at dksX4_reads_7 13 rfl rfl)
theorem dX4_reads_179 : decode cX4_reads 179 = .ok (.istore 5, 2) := dk_54 5 (dk_at dksX4_reads_7 14 rfl rfl)
theorem dX4_reads_181 : decode cX4_reads 181 = .ok (.iconst 0, 1) := dk_3 (dk_at dksX4_reads_7 16 rfl rfl)
theorem dX4_reads_182 : decode cX4_reads 182 = .ok (.istore 6, 2) := dk_54 6 (dk_at dksX4_reads_7 17 rfl rfl)
theorem dX4_reads_184 : decode cX4_reads 184 = .ok (.iload 6, 2) := dk_21 6 (dk_at dksX4_reads_7 19 rfl rfl)
theorem dX4_reads_186 : decode cX4_reads 186 = .ok (.aload_n 0, 1) := dk_42 (dk_at dksX4_reads_7 21 rfl rfl)
theorem dX4_reads_187 : decode cX4_reads 187 = .ok (.getfield 388, 3) := dk_180 1 132 (dk_at dksX4_reads_8 0 rfl rfl)
theorem dX4_reads_190 : decode cX4_reads 190 = .ok (.if_icmp .ge 38, 3) := dk_162 0 38 (dk_at dksX4_reads_8 3 rfl rfl)
theorem dX4_reads_193 : decode cX4_reads 193 = .ok (.iload 5, 2) := dk_21 5 (dk_at dksX4_reads_8 6 rfl rfl)
theorem dX4_reads_195 : decode cX4_reads 195 = .ok (.ifCond .ne 20, 3) := dk_154 0 20 (dk_at dksX4_reads_8 8 rfl rfl)
theorem dX4_reads_198 : decode cX4_reads 198 = .ok (.aload_n 0, 1) := dk_42 (dk_at dksX4_reads_8 11 rfl rfl)
theorem dX4_reads_199 : decode cX4_reads 199 = .ok (.getfield 134, 3) := dk_180 0 134 (dk_at dksX4_reads_8 12 rfl rfl)
theorem dX4_reads_202 : decode cX4_reads 202 = .ok (.iload 6, 2) := dk_21 6 (dk_at dksX4_reads_8 15 rfl rfl)
theorem dX4_reads_204 : decode cX4_reads 204 = .ok (.iaload, 1) := dk_46 (dk_at dksX4_reads_8 17 rfl rfl)
theorem dX4_reads_205 : decode cX4_reads 205 = .ok (.aload_n 0, 1) := dk_42 (dk_at dksX4_reads_8 18 rfl rfl)
theorem dX4_reads_206 : decode cX4_reads 206 = .ok (.getfield 131, 3) := dk_180 0 131 (dk_at dksX4_reads_8 19 rfl rfl)
theorem dX4_reads_209 : decode cX4_reads 209 = .ok (.iload 4, 2) := dk_21 4 (dk_at dksX4_reads_8 22 rfl rfl)
theorem dX4_reads_211 : decode cX4_reads 211 = .ok (.iaload, 1) := dk_46 (dk_at dksX4_reads_9 0 rfl rfl)
theorem dX4_reads_212 : decode cX4_reads 212 = .ok (.if_icmp .ne 7, 3) := dk_160 0 7 (dk_at dksX4_reads_9 1 rfl rfl)
theorem dX4_reads_215 : decode cX4_reads 215 = .ok (.iconst 1, 1) := dk_4 (dk_at dksX4_reads_9 4 rfl rfl)
theorem dX4_reads_216 : decode cX4_reads 216 = .ok (.goto 4, 3) := dk_167 0 4 (dk_at dksX4_reads_9 5 rfl rfl)
theorem dX4_reads_219 : decode cX4_reads 219 = .ok (.iconst 0, 1) := dk_3 (dk_at dksX4_reads_9 8 rfl rfl)
theorem dX4_reads_220 : decode cX4_reads 220 = .ok (.istore 5, 2) := dk_54 5 (dk_at dksX4_reads_9 9 rfl rfl)
theorem dX4_reads_222 : decode cX4_reads 222 = .ok (.iinc 6 1, 3) := dk_132 6 1 (dk_at dksX4_reads_9 11 rfl rfl)
theorem dX4_reads_225 : decode cX4_reads 225 = .ok (.goto (-41), 3) := dk_167 255 215 (dk_at dksX4_reads_9 14 rfl rfl)
theorem dX4_reads_228 : decode cX4_reads 228 = .ok (.iload 5, 2) := dk_21 5 (dk_at dksX4_reads_9 17 rfl rfl)
theorem dX4_reads_230 : decode cX4_reads 230 = .ok (.ifCond .eq 6, 3) := dk_153 0 6 (dk_at dksX4_reads_9 19 rfl rfl)
theorem dX4_reads_233 : decode cX4_reads 233 = .ok (.goto 19, 3) := dk_167 0 19 (dk_at dksX4_reads_10 0 rfl rfl)
theorem dX4_reads_236 : decode cX4_reads 236 = .ok (.aload_n 0, 1) := dk_42 (dk_at dksX4_reads_10 3 rfl rfl)
theorem dX4_reads_237 : decode cX4_reads 237 = .ok (.iconst 4, 1) := dk_7 (dk_at dksX4_reads_10 4 rfl rfl)
theorem dX4_reads_238 : decode cX4_reads 238 = .ok (.putfield 301, 3) := dk_181 1 45 (dk_at dksX4_reads_10 5 rfl rfl)
theorem dX4_reads_241 : decode cX4_reads 241 = .ok (.aload_n 0, 1) := dk_42 (dk_at dksX4_reads_10 8 rfl rfl)
theorem dX4_reads_242 : decode cX4_reads 242 = .ok (.aload_n 0, 1) := dk_42 (dk_at dksX4_reads_10 9 rfl rfl)
theorem dX4_reads_243 : decode cX4_reads 243 = .ok (.getfield 128, 3) := dk_180 0 128 (dk_at dksX4_reads_10 10 rfl rfl)
theorem dX4_reads_246 : decode cX4_reads 246 = .ok (.iload 4, 2) := dk_21 4 (dk_at dksX4_reads_10 13 rfl rfl)
theorem dX4_reads_248 : decode cX4_reads 248 = .ok (.iaload, 1) := dk_46 (dk_at dksX4_reads_10 15 rfl rfl)
theorem dX4_reads_249 : decode cX4_reads 249 = .ok (.putfield 304, 3) := dk_181 1 48 (dk_at dksX4_reads_10 16 rfl rfl)
theorem dX4_reads_252 : decode cX4_reads 252 = .ok (.iinc 4 1, 3) := dk_132 4 1 (dk_at dksX4_reads_10 19 rfl rfl)
theorem dX4_reads_255 : decode cX4_reads 255 = .ok (.goto (-93), 3) := dk_167 255 163 (dk_at dksX4_reads_11 0 rfl rfl)
theorem dX4_reads_258 : decode cX4_reads 258 = .ok (.return_, 1) := dk_177 (dk_at dksX4_reads_11 3 rfl rfl)
abbrev cX4_goesOn : ByteArray := prog_20_method_35_code
def yX4_goesOn : MethodName := ⟨RX4, "goesOn", "()V"⟩
def dkwX4_goesOn_10 : List UInt8 := [167, 0, 4, 7, 181, 1, 30, 42, 89, 180, 1, 20, 4, 96, 181, 1, 20, 177]
abbrev dktX4_goesOn_10 : List UInt8 := dkwX4_goesOn_10 ++ []
def dkwX4_goesOn_9 : List UInt8 := [17, 39, 16, 161, 0, 37, 42, 7, 181, 1, 30, 167, 0, 29, 42, 27, 184, 1, 42, 153, 0, 7, 6]
abbrev dktX4_goesOn_9 : List UInt8 := dkwX4_goesOn_9 ++ dktX4_goesOn_10
def dkwX4_goesOn_8 : List UInt8 := [17, 39, 16, 181, 1, 39, 42, 89, 180, 1, 20, 4, 96, 181, 1, 20, 167, 255, 193, 42, 180, 1, 39]
abbrev dktX4_goesOn_8 : List UInt8 := dkwX4_goesOn_8 ++ dktX4_goesOn_9
def dkwX4_goesOn_7 : List UInt8 := [16, 10, 42, 180, 1, 39, 104, 42, 42, 180, 1, 20, 182, 1, 23, 96, 16, 48, 100, 167, 0, 6]
abbrev dktX4_goesOn_7 : List UInt8 := dkwX4_goesOn_7 ++ dktX4_goesOn_8
def dkwX4_goesOn_6 : List UInt8 := [42, 180, 1, 20, 182, 1, 23, 184, 1, 36, 153, 0, 55, 42, 42, 180, 1, 39, 17, 39, 16, 162, 0, 25]
abbrev dktX4_goesOn_6 : List UInt8 := dkwX4_goesOn_6 ++ dktX4_goesOn_7
def dkwX4_goesOn_5 : List UInt8 := [181, 1, 20, 167, 255, 232, 27, 184, 1, 36, 153, 0, 97, 42, 5, 181, 1, 30, 42, 3, 181, 1, 39, 42]
abbrev dktX4_goesOn_5 : List UInt8 := dkwX4_goesOn_5 ++ dktX4_goesOn_6
def dkwX4_goesOn_4 : List UInt8 := [181, 1, 30, 42, 42, 180, 1, 20, 182, 1, 23, 184, 1, 33, 153, 0, 143, 42, 89, 180, 1, 20, 4, 96]
abbrev dktX4_goesOn_4 : List UInt8 := dkwX4_goesOn_4 ++ dktX4_goesOn_5
def dkwX4_goesOn_3 : List UInt8 := [42, 180, 1, 14, 160, 0, 11, 42, 3, 181, 1, 30, 167, 0, 169, 27, 184, 1, 33, 153, 0, 35, 42, 4]
abbrev dktX4_goesOn_3 : List UInt8 := dkwX4_goesOn_3 ++ dktX4_goesOn_4
def dkwX4_goesOn_2 : List UInt8 := [167, 255, 209, 42, 42, 180, 1, 20, 181, 1, 27, 42, 42, 180, 1, 20, 182, 1, 23, 60, 42, 180, 1, 20]
abbrev dktX4_goesOn_2 : List UInt8 := dkwX4_goesOn_2 ++ dktX4_goesOn_3
def dkwX4_goesOn_1 : List UInt8 := [42, 42, 180, 1, 20, 182, 1, 23, 16, 10, 160, 0, 16, 42, 89, 180, 1, 20, 4, 96, 181, 1, 20]
abbrev dktX4_goesOn_1 : List UInt8 := dkwX4_goesOn_1 ++ dktX4_goesOn_2
def dkwX4_goesOn_0 : List UInt8 := [42, 180, 1, 20, 42, 180, 1, 14, 162, 0, 42, 42, 42, 180, 1, 20, 182, 1, 23, 16, 32, 159, 0, 16]
abbrev dktX4_goesOn_0 : List UInt8 := dkwX4_goesOn_0 ++ dktX4_goesOn_1
theorem dksX4_goesOn_0 : cX4_goesOn.data.toList.drop 0 = dktX4_goesOn_0 := by decide +kernel
theorem dksX4_goesOn_1 : cX4_goesOn.data.toList.drop 24 = dktX4_goesOn_1 := dk_seg dksX4_goesOn_0 24 rfl rfl
theorem dksX4_goesOn_2 : cX4_goesOn.data.toList.drop 47 = dktX4_goesOn_2 := dk_seg dksX4_goesOn_1 23 rfl rfl
theorem dksX4_goesOn_3 : cX4_goesOn.data.toList.drop 71 = dktX4_goesOn_3 := dk_seg dksX4_goesOn_2 24 rfl rfl
theorem dksX4_goesOn_4 : cX4_goesOn.data.toList.drop 95 = dktX4_goesOn_4 := dk_seg dksX4_goesOn_3 24 rfl rfl
theorem dksX4_goesOn_5 : cX4_goesOn.data.toList.drop 119 = dktX4_goesOn_5 := dk_seg dksX4_goesOn_4 24 rfl rfl
theorem dksX4_goesOn_6 : cX4_goesOn.data.toList.drop 143 = dktX4_goesOn_6 := dk_seg dksX4_goesOn_5 24 rfl rfl
theorem dksX4_goesOn_7 : cX4_goesOn.data.toList.drop 167 = dktX4_goesOn_7 := dk_seg dksX4_goesOn_6 24 rfl rfl
theorem dksX4_goesOn_8 : cX4_goesOn.data.toList.drop 189 = dktX4_goesOn_8 := dk_seg dksX4_goesOn_7 22 rfl rfl
theorem dksX4_goesOn_9 : cX4_goesOn.data.toList.drop 212 = dktX4_goesOn_9 := dk_seg dksX4_goesOn_8 23 rfl rfl
theorem dksX4_goesOn_10 : cX4_goesOn.data.toList.drop 235 = dktX4_goesOn_10 := dk_seg dksX4_goesOn_9 23 rfl rfl
theorem dX4_goesOn_0 : decode cX4_goesOn 0 = .ok (.aload_n 0, 1) := dk_42 (dk_at dksX4_goesOn_0 0 rfl rfl)
theorem dX4_goesOn_1 : decode cX4_goesOn 1 = .ok (.getfield 276, 3) := dk_180 1 20 (dk_at dksX4_goesOn_0 1 rfl rfl)
theorem dX4_goesOn_4 : decode cX4_goesOn 4 = .ok (.aload_n 0, 1) := dk_42 (dk_at dksX4_goesOn_0 4 rfl rfl)
theorem dX4_goesOn_5 : decode cX4_goesOn 5 = .ok (.getfield 270, 3) := dk_180 1 14 (dk_at dksX4_goesOn_0 5 rfl rfl)
theorem dX4_goesOn_8 : decode cX4_goesOn 8 = .ok (.if_icmp .ge 42, 3) := dk_162 0 42 (dk_at dksX4_goesOn_0 8 rfl rfl)
theorem dX4_goesOn_11 : decode cX4_goesOn 11 = .ok (.aload_n 0, 1) := dk_42 (dk_at dksX4_goesOn_0 11 rfl rfl)
theorem dX4_goesOn_12 : decode cX4_goesOn 12 = .ok (.aload_n 0, 1) := dk_42 (dk_at dksX4_goesOn_0 12 rfl rfl)
theorem dX4_goesOn_13 : decode cX4_goesOn 13 = .ok (.getfield 276, 3) := dk_180 1 20 (dk_at dksX4_goesOn_0 13 rfl rfl)
theorem dX4_goesOn_16 : decode cX4_goesOn 16 = .ok (.invokevirtual 279, 3) := dk_182 1 23 (dk_at dksX4_goesOn_0 16 rfl rfl)
theorem dX4_goesOn_19 : decode cX4_goesOn 19 = .ok (.bipush 32, 2) := dk_16 32 (dk_at dksX4_goesOn_0 19 rfl rfl)
theorem dX4_goesOn_21 : decode cX4_goesOn 21 = .ok (.if_icmp .eq 16, 3) := dk_159 0 16 (dk_at dksX4_goesOn_0 21 rfl rfl)
theorem dX4_goesOn_24 : decode cX4_goesOn 24 = .ok (.aload_n 0, 1) := dk_42 (dk_at dksX4_goesOn_1 0 rfl rfl)
theorem dX4_goesOn_25 : decode cX4_goesOn 25 = .ok (.aload_n 0, 1) := dk_42 (dk_at dksX4_goesOn_1 1 rfl rfl)
theorem dX4_goesOn_26 : decode cX4_goesOn 26 = .ok (.getfield 276, 3) := dk_180 1 20 (dk_at dksX4_goesOn_1 2 rfl rfl)
theorem dX4_goesOn_29 : decode cX4_goesOn 29 = .ok (.invokevirtual 279, 3) := dk_182 1 23 (dk_at dksX4_goesOn_1 5 rfl rfl)
theorem dX4_goesOn_32 : decode cX4_goesOn 32 = .ok (.bipush 10, 2) := dk_16 10 (dk_at dksX4_goesOn_1 8 rfl rfl)
theorem dX4_goesOn_34 : decode cX4_goesOn 34 = .ok (.if_icmp .ne 16, 3) := dk_160 0 16 (dk_at dksX4_goesOn_1 10 rfl rfl)
theorem dX4_goesOn_37 : decode cX4_goesOn 37 = .ok (.aload_n 0, 1) := dk_42 (dk_at dksX4_goesOn_1 13 rfl rfl)
theorem dX4_goesOn_38 : decode cX4_goesOn 38 = .ok (.dup, 1) := dk_89 (dk_at dksX4_goesOn_1 14 rfl rfl)
theorem dX4_goesOn_39 : decode cX4_goesOn 39 = .ok (.getfield 276, 3) := dk_180 1 20 (dk_at dksX4_goesOn_1 15 rfl rfl)
theorem dX4_goesOn_42 : decode cX4_goesOn 42 = .ok (.iconst 1, 1) := dk_4 (dk_at dksX4_goesOn_1 18 rfl rfl)
theorem dX4_goesOn_43 : decode cX4_goesOn 43 = .ok (.iadd, 1) := dk_96 (dk_at dksX4_goesOn_1 19 rfl rfl)
theorem dX4_goesOn_44 : decode cX4_goesOn 44 = .ok (.putfield 276, 3) := dk_181 1 20 (dk_at dksX4_goesOn_1 20 rfl rfl)
theorem dX4_goesOn_47 : decode cX4_goesOn 47 = .ok (.goto (-47), 3) := dk_167 255 209 (dk_at dksX4_goesOn_2 0 rfl rfl)
theorem dX4_goesOn_50 : decode cX4_goesOn 50 = .ok (.aload_n 0, 1) := dk_42 (dk_at dksX4_goesOn_2 3 rfl rfl)
theorem dX4_goesOn_51 : decode cX4_goesOn 51 = .ok (.aload_n 0, 1) := dk_42 (dk_at dksX4_goesOn_2 4 rfl rfl)
theorem dX4_goesOn_52 : decode cX4_goesOn 52 = .ok (.getfield 276, 3) := dk_180 1 20 (dk_at dksX4_goesOn_2 5 rfl rfl)
theorem dX4_goesOn_55 : decode cX4_goesOn 55 = .ok (.putfield 283, 3) := dk_181 1 27 (dk_at dksX4_goesOn_2 8 rfl rfl)
theorem dX4_goesOn_58 : decode cX4_goesOn 58 = .ok (.aload_n 0, 1) := dk_42 (dk_at dksX4_goesOn_2 11 rfl rfl)
theorem dX4_goesOn_59 : decode cX4_goesOn 59 = .ok (.aload_n 0, 1) := dk_42 (dk_at dksX4_goesOn_2 12 rfl rfl)
theorem dX4_goesOn_60 : decode cX4_goesOn 60 = .ok (.getfield 276, 3) := dk_180 1 20 (dk_at dksX4_goesOn_2 13 rfl rfl)
theorem dX4_goesOn_63 : decode cX4_goesOn 63 = .ok (.invokevirtual 279, 3) := dk_182 1 23 (dk_at dksX4_goesOn_2 16 rfl rfl)
theorem dX4_goesOn_66 : decode cX4_goesOn 66 = .ok (.istore_n 1, 1) := dk_60 (dk_at dksX4_goesOn_2 19 rfl rfl)
theorem dX4_goesOn_67 : decode cX4_goesOn 67 = .ok (.aload_n 0, 1) := dk_42 (dk_at dksX4_goesOn_2 20 rfl rfl)
theorem dX4_goesOn_68 : decode cX4_goesOn 68 = .ok (.getfield 276, 3) := dk_180 1 20 (dk_at dksX4_goesOn_2 21 rfl rfl)
theorem dX4_goesOn_71 : decode cX4_goesOn 71 = .ok (.aload_n 0, 1) := dk_42 (dk_at dksX4_goesOn_3 0 rfl rfl)
theorem dX4_goesOn_72 : decode cX4_goesOn 72 = .ok (.getfield 270, 3) := dk_180 1 14 (dk_at dksX4_goesOn_3 1 rfl rfl)
theorem dX4_goesOn_75 : decode cX4_goesOn 75 = .ok (.if_icmp .ne 11, 3) := dk_160 0 11 (dk_at dksX4_goesOn_3 4 rfl rfl)
theorem dX4_goesOn_78 : decode cX4_goesOn 78 = .ok (.aload_n 0, 1) := dk_42 (dk_at dksX4_goesOn_3 7 rfl rfl)
theorem dX4_goesOn_79 : decode cX4_goesOn 79 = .ok (.iconst 0, 1) := dk_3 (dk_at dksX4_goesOn_3 8 rfl rfl)
theorem dX4_goesOn_80 : decode cX4_goesOn 80 = .ok (.putfield 286, 3) := dk_181 1 30 (dk_at dksX4_goesOn_3 9 rfl rfl)
theorem dX4_goesOn_83 : decode cX4_goesOn 83 = .ok (.goto 169, 3) := dk_167 0 169 (dk_at dksX4_goesOn_3 12 rfl rfl)
theorem dX4_goesOn_86 : decode cX4_goesOn 86 = .ok (.iload_n 1, 1) := dk_27 (dk_at dksX4_goesOn_3 15 rfl rfl)
theorem dX4_goesOn_87 : decode cX4_goesOn 87 = .ok (.invokestatic 289, 3) := dk_184 1 33 (dk_at dksX4_goesOn_3 16 rfl rfl)
theorem dX4_goesOn_90 : decode cX4_goesOn 90 = .ok (.ifCond .eq 35, 3) := dk_153 0 35 (dk_at dksX4_goesOn_3 19 rfl rfl)
theorem dX4_goesOn_93 : decode cX4_goesOn 93 = .ok (.aload_n 0, 1) := dk_42 (dk_at dksX4_goesOn_3 22 rfl rfl)
theorem dX4_goesOn_94 : decode cX4_goesOn 94 = .ok (.iconst 1, 1) := dk_4 (dk_at dksX4_goesOn_3 23 rfl rfl)
theorem dX4_goesOn_95 : decode cX4_goesOn 95 = .ok (.putfield 286, 3) := dk_181 1 30 (dk_at dksX4_goesOn_4 0 rfl rfl)
theorem dX4_goesOn_98 : decode cX4_goesOn 98 = .ok (.aload_n 0, 1) := dk_42 (dk_at dksX4_goesOn_4 3 rfl rfl)
theorem dX4_goesOn_99 : decode cX4_goesOn 99 = .ok (.aload_n 0, 1) := dk_42 (dk_at dksX4_goesOn_4 4 rfl rfl)
theorem dX4_goesOn_100 : decode cX4_goesOn 100 = .ok (.getfield 276, 3) := dk_180 1 20 (dk_at dksX4_goesOn_4 5 rfl rfl)
theorem dX4_goesOn_103 : decode cX4_goesOn 103 = .ok (.invokevirtual 279, 3) := dk_182 1 23 (dk_at dksX4_goesOn_4 8 rfl rfl)
theorem dX4_goesOn_106 : decode cX4_goesOn 106 = .ok (.invokestatic 289, 3) := dk_184 1 33 (dk_at dksX4_goesOn_4 11 rfl rfl)
theorem dX4_goesOn_109 : decode cX4_goesOn 109 = .ok (.ifCond .eq 143, 3) := dk_153 0 143 (dk_at dksX4_goesOn_4 14 rfl rfl)
theorem dX4_goesOn_112 : decode cX4_goesOn 112 = .ok (.aload_n 0, 1) := dk_42 (dk_at dksX4_goesOn_4 17 rfl rfl)
theorem dX4_goesOn_113 : decode cX4_goesOn 113 = .ok (.dup, 1) := dk_89 (dk_at dksX4_goesOn_4 18 rfl rfl)
theorem dX4_goesOn_114 : decode cX4_goesOn 114 = .ok (.getfield 276, 3) := dk_180 1 20 (dk_at dksX4_goesOn_4 19 rfl rfl)
theorem dX4_goesOn_117 : decode cX4_goesOn 117 = .ok (.iconst 1, 1) := dk_4 (dk_at dksX4_goesOn_4 22 rfl rfl)
theorem dX4_goesOn_118 : decode cX4_goesOn 118 = .ok (.iadd, 1) := dk_96 (dk_at dksX4_goesOn_4 23 rfl rfl)
theorem dX4_goesOn_119 : decode cX4_goesOn 119 = .ok (.putfield 276, 3) := dk_181 1 20 (dk_at dksX4_goesOn_5 0 rfl rfl)
theorem dX4_goesOn_122 : decode cX4_goesOn 122 = .ok (.goto (-24), 3) := dk_167 255 232 (dk_at dksX4_goesOn_5 3 rfl rfl)
theorem dX4_goesOn_125 : decode cX4_goesOn 125 = .ok (.iload_n 1, 1) := dk_27 (dk_at dksX4_goesOn_5 6 rfl rfl)
theorem dX4_goesOn_126 : decode cX4_goesOn 126 = .ok (.invokestatic 292, 3) := dk_184 1 36 (dk_at dksX4_goesOn_5 7 rfl rfl)
theorem dX4_goesOn_129 : decode cX4_goesOn 129 = .ok (.ifCond .eq 97, 3) := dk_153 0 97 (dk_at dksX4_goesOn_5 10 rfl rfl)
theorem dX4_goesOn_132 : decode cX4_goesOn 132 = .ok (.aload_n 0, 1) := dk_42 (dk_at dksX4_goesOn_5 13 rfl rfl)
theorem dX4_goesOn_133 : decode cX4_goesOn 133 = .ok (.iconst 2, 1) := dk_5 (dk_at dksX4_goesOn_5 14 rfl rfl)
theorem dX4_goesOn_134 : decode cX4_goesOn 134 = .ok (.putfield 286, 3) := dk_181 1 30 (dk_at dksX4_goesOn_5 15 rfl rfl)
theorem dX4_goesOn_137 : decode cX4_goesOn 137 = .ok (.aload_n 0, 1) := dk_42 (dk_at dksX4_goesOn_5 18 rfl rfl)
theorem dX4_goesOn_138 : decode cX4_goesOn 138 = .ok (.iconst 0, 1) := dk_3 (dk_at dksX4_goesOn_5 19 rfl rfl)
theorem dX4_goesOn_139 : decode cX4_goesOn 139 = .ok (.putfield 295, 3) := dk_181 1 39 (dk_at dksX4_goesOn_5 20 rfl rfl)
theorem dX4_goesOn_142 : decode cX4_goesOn 142 = .ok (.aload_n 0, 1) := dk_42 (dk_at dksX4_goesOn_5 23 rfl rfl)
theorem dX4_goesOn_143 : decode cX4_goesOn 143 = .ok (.aload_n 0, 1) := dk_42 (dk_at dksX4_goesOn_6 0 rfl rfl)
theorem dX4_goesOn_144 : decode cX4_goesOn 144 = .ok (.getfield 276, 3) := dk_180 1 20 (dk_at dksX4_goesOn_6 1 rfl rfl)
theorem dX4_goesOn_147 : decode cX4_goesOn 147 = .ok (.invokevirtual 279, 3) := dk_182 1 23 (dk_at dksX4_goesOn_6 4 rfl rfl)
theorem dX4_goesOn_150 : decode cX4_goesOn 150 = .ok (.invokestatic 292, 3) := dk_184 1 36 (dk_at dksX4_goesOn_6 7 rfl rfl)
theorem dX4_goesOn_153 : decode cX4_goesOn 153 = .ok (.ifCond .eq 55, 3) := dk_153 0 55 (dk_at dksX4_goesOn_6 10 rfl rfl)
theorem dX4_goesOn_156 : decode cX4_goesOn 156 = .ok (.aload_n 0, 1) := dk_42 (dk_at dksX4_goesOn_6 13 rfl rfl)
theorem dX4_goesOn_157 : decode cX4_goesOn 157 = .ok (.aload_n 0, 1) := dk_42 (dk_at dksX4_goesOn_6 14 rfl rfl)
theorem dX4_goesOn_158 : decode cX4_goesOn 158 = .ok (.getfield 295, 3) := dk_180 1 39 (dk_at dksX4_goesOn_6 15 rfl rfl)
theorem dX4_goesOn_161 : decode cX4_goesOn 161 = .ok (.sipush 10000, 3) := dk_17 39 16 (dk_at dksX4_goesOn_6 18 rfl rfl)
theorem dX4_goesOn_164 : decode cX4_goesOn 164 = .ok (.if_icmp .ge 25, 3) := dk_162 0 25 (dk_at dksX4_goesOn_6 21 rfl rfl)
theorem dX4_goesOn_167 : decode cX4_goesOn 167 = .ok (.bipush 10, 2) := dk_16 10 (dk_at dksX4_goesOn_7 0 rfl rfl)
theorem dX4_goesOn_169 : decode cX4_goesOn 169 = .ok (.aload_n 0, 1) := dk_42 (dk_at dksX4_goesOn_7 2 rfl rfl)
theorem dX4_goesOn_170 : decode cX4_goesOn 170 = .ok (.getfield 295, 3) := dk_180 1 39 (dk_at dksX4_goesOn_7 3 rfl rfl)
theorem dX4_goesOn_173 : decode cX4_goesOn 173 = .ok (.imul, 1) := dk_104 (dk_at dksX4_goesOn_7 6 rfl rfl)
theorem dX4_goesOn_174 : decode cX4_goesOn 174 = .ok (.aload_n 0, 1) := dk_42 (dk_at dksX4_goesOn_7 7 rfl rfl)
theorem dX4_goesOn_175 : decode cX4_goesOn 175 = .ok (.aload_n 0, 1) := dk_42 (dk_at dksX4_goesOn_7 8 rfl rfl)
theorem dX4_goesOn_176 : decode cX4_goesOn 176 = .ok (.getfield 276, 3) := dk_180 1 20 (dk_at dksX4_goesOn_7 9 rfl rfl)
theorem dX4_goesOn_179 : decode cX4_goesOn 179 = .ok (.invokevirtual 279, 3) := dk_182 1 23 (dk_at dksX4_goesOn_7 12 rfl rfl)
theorem dX4_goesOn_182 : decode cX4_goesOn 182 = .ok (.iadd, 1) := dk_96 (dk_at dksX4_goesOn_7 15 rfl rfl)
theorem dX4_goesOn_183 : decode cX4_goesOn 183 = .ok (.bipush 48, 2) := dk_16 48 (dk_at dksX4_goesOn_7 16 rfl rfl)
theorem dX4_goesOn_185 : decode cX4_goesOn 185 = .ok (.isub, 1) := dk_100 (dk_at dksX4_goesOn_7 18 rfl rfl)
theorem dX4_goesOn_186 : decode cX4_goesOn 186 = .ok (.goto 6, 3) := dk_167 0 6 (dk_at dksX4_goesOn_7 19 rfl rfl)
theorem dX4_goesOn_189 : decode cX4_goesOn 189 = .ok (.sipush 10000, 3) := dk_17 39 16 (dk_at dksX4_goesOn_8 0 rfl rfl)
theorem dX4_goesOn_192 : decode cX4_goesOn 192 = .ok (.putfield 295, 3) := dk_181 1 39 (dk_at dksX4_goesOn_8 3 rfl rfl)
theorem dX4_goesOn_195 : decode cX4_goesOn 195 = .ok (.aload_n 0, 1) := dk_42 (dk_at dksX4_goesOn_8 6 rfl rfl)
theorem dX4_goesOn_196 : decode cX4_goesOn 196 = .ok (.dup, 1) := dk_89 (dk_at dksX4_goesOn_8 7 rfl rfl)
theorem dX4_goesOn_197 : decode cX4_goesOn 197 = .ok (.getfield 276, 3) := dk_180 1 20 (dk_at dksX4_goesOn_8 8 rfl rfl)
theorem dX4_goesOn_200 : decode cX4_goesOn 200 = .ok (.iconst 1, 1) := dk_4 (dk_at dksX4_goesOn_8 11 rfl rfl)
theorem dX4_goesOn_201 : decode cX4_goesOn 201 = .ok (.iadd, 1) := dk_96 (dk_at dksX4_goesOn_8 12 rfl rfl)
theorem dX4_goesOn_202 : decode cX4_goesOn 202 = .ok (.putfield 276, 3) := dk_181 1 20 (dk_at dksX4_goesOn_8 13 rfl rfl)
theorem dX4_goesOn_205 : decode cX4_goesOn 205 = .ok (.goto (-63), 3) := dk_167 255 193 (dk_at dksX4_goesOn_8 16 rfl rfl)
theorem dX4_goesOn_208 : decode cX4_goesOn 208 = .ok (.aload_n 0, 1) := dk_42 (dk_at dksX4_goesOn_8 19 rfl rfl)
theorem dX4_goesOn_209 : decode cX4_goesOn 209 = .ok (.getfield 295, 3) := dk_180 1 39 (dk_at dksX4_goesOn_8 20 rfl rfl)
theorem dX4_goesOn_212 : decode cX4_goesOn 212 = .ok (.sipush 10000, 3) := dk_17 39 16 (dk_at dksX4_goesOn_9 0 rfl rfl)
theorem dX4_goesOn_215 : decode cX4_goesOn 215 = .ok (.if_icmp .lt 37, 3) := dk_161 0 37 (dk_at dksX4_goesOn_9 3 rfl rfl)
theorem dX4_goesOn_218 : decode cX4_goesOn 218 = .ok (.aload_n 0, 1) := dk_42 (dk_at dksX4_goesOn_9 6 rfl rfl)
theorem dX4_goesOn_219 : decode cX4_goesOn 219 = .ok (.iconst 4, 1) := dk_7 (dk_at dksX4_goesOn_9 7 rfl rfl)
theorem dX4_goesOn_220 : decode cX4_goesOn 220 = .ok (.putfield 286, 3) := dk_181 1 30 (dk_at dksX4_goesOn_9 8 rfl rfl)
theorem dX4_goesOn_223 : decode cX4_goesOn 223 = .ok (.goto 29, 3) := dk_167 0 29 (dk_at dksX4_goesOn_9 11 rfl rfl)
theorem dX4_goesOn_226 : decode cX4_goesOn 226 = .ok (.aload_n 0, 1) := dk_42 (dk_at dksX4_goesOn_9 14 rfl rfl)
theorem dX4_goesOn_227 : decode cX4_goesOn 227 = .ok (.iload_n 1, 1) := dk_27 (dk_at dksX4_goesOn_9 15 rfl rfl)
theorem dX4_goesOn_228 : decode cX4_goesOn 228 = .ok (.invokestatic 298, 3) := dk_184 1 42 (dk_at dksX4_goesOn_9 16 rfl rfl)
theorem dX4_goesOn_231 : decode cX4_goesOn 231 = .ok (.ifCond .eq 7, 3) := dk_153 0 7 (dk_at dksX4_goesOn_9 19 rfl rfl)
theorem dX4_goesOn_234 : decode cX4_goesOn 234 = .ok (.iconst 3, 1) := dk_6 (dk_at dksX4_goesOn_9 22 rfl rfl)
theorem dX4_goesOn_235 : decode cX4_goesOn 235 = .ok (.goto 4, 3) := dk_167 0 4 (dk_at dksX4_goesOn_10 0 rfl rfl)
theorem dX4_goesOn_238 : decode cX4_goesOn 238 = .ok (.iconst 4, 1) := dk_7 (dk_at dksX4_goesOn_10 3 rfl rfl)
theorem dX4_goesOn_239 : decode cX4_goesOn 239 = .ok (.putfield 286, 3) := dk_181 1 30 (dk_at dksX4_goesOn_10 4 rfl rfl)
theorem dX4_goesOn_242 : decode cX4_goesOn 242 = .ok (.aload_n 0, 1) := dk_42 (dk_at dksX4_goesOn_10 7 rfl rfl)
theorem dX4_goesOn_243 : decode cX4_goesOn 243 = .ok (.dup, 1) := dk_89 (dk_at dksX4_goesOn_10 8 rfl rfl)
theorem dX4_goesOn_244 : decode cX4_goesOn 244 = .ok (.getfield 276, 3) := dk_180 1 20 (dk_at dksX4_goesOn_10 9 rfl rfl)
theorem dX4_goesOn_247 : decode cX4_goesOn 247 = .ok (.iconst 1, 1) := dk_4 (dk_at dksX4_goesOn_10 12 rfl rfl)
theorem dX4_goesOn_248 : decode cX4_goesOn 248 = .ok (.iadd, 1) := dk_96 (dk_at dksX4_goesOn_10 13 rfl rfl)
theorem dX4_goesOn_249 : decode cX4_goesOn 249 = .ok (.putfield 276, 3) := dk_181 1 20 (dk_at dksX4_goesOn_10 14 rfl rfl)
theorem dX4_goesOn_252 : decode cX4_goesOn 252 = .ok (.return_, 1) := dk_177 (dk_at dksX4_goesOn_10 17 rfl rfl)
abbrev cX4_see : ByteArray := prog_20_method_31_code
def yX4_see : MethodName := ⟨RX4, "see", "(I)I"⟩
def dkwX4_see_0 : List UInt8 := [27, 42, 180, 1, 14, 162, 0, 17, 42, 180, 0, 110, 42, 180, 1, 17, 27, 96, 51, 167, 0, 4, 3, 172]
abbrev dktX4_see_0 : List UInt8 := dkwX4_see_0 ++ []
theorem dksX4_see_0 : cX4_see.data.toList.drop 0 = dktX4_see_0 := by decide +kernel
theorem dX4_see_0 : decode cX4_see 0 = .ok (.iload_n 1, 1) := dk_27 (dk_at dksX4_see_0 0 rfl rfl)
theorem dX4_see_1 : decode cX4_see 1 = .ok (.aload_n 0, 1) := dk_42 (dk_at dksX4_see_0 1 rfl rfl)
theorem dX4_see_2 : decode cX4_see 2 = .ok (.getfield 270, 3) := dk_180 1 14 (dk_at dksX4_see_0 2 rfl rfl)
theorem dX4_see_5 : decode cX4_see 5 = .ok (.if_icmp .ge 17, 3) := dk_162 0 17 (dk_at dksX4_see_0 5 rfl rfl)
theorem dX4_see_8 : decode cX4_see 8 = .ok (.aload_n 0, 1) := dk_42 (dk_at dksX4_see_0 8 rfl rfl)
theorem dX4_see_9 : decode cX4_see 9 = .ok (.getfield 110, 3) := dk_180 0 110 (dk_at dksX4_see_0 9 rfl rfl)
theorem dX4_see_12 : decode cX4_see 12 = .ok (.aload_n 0, 1) := dk_42 (dk_at dksX4_see_0 12 rfl rfl)
theorem dX4_see_13 : decode cX4_see 13 = .ok (.getfield 273, 3) := dk_180 1 17 (dk_at dksX4_see_0 13 rfl rfl)
theorem dX4_see_16 : decode cX4_see 16 = .ok (.iload_n 1, 1) := dk_27 (dk_at dksX4_see_0 16 rfl rfl)
theorem dX4_see_17 : decode cX4_see 17 = .ok (.iadd, 1) := dk_96 (dk_at dksX4_see_0 17 rfl rfl)
theorem dX4_see_18 : decode cX4_see 18 = .ok (.baload, 1) := dk_51 (dk_at dksX4_see_0 18 rfl rfl)
theorem dX4_see_19 : decode cX4_see 19 = .ok (.goto 4, 3) := dk_167 0 4 (dk_at dksX4_see_0 19 rfl rfl)
theorem dX4_see_22 : decode cX4_see 22 = .ok (.iconst 0, 1) := dk_3 (dk_at dksX4_see_0 22 rfl rfl)
theorem dX4_see_23 : decode cX4_see 23 = .ok (.ireturn, 1) := dk_172 (dk_at dksX4_see_0 23 rfl rfl)
abbrev cX4_isLetter : ByteArray := prog_20_method_32_code
def yX4_isLetter : MethodName := ⟨RX4, "isLetter", "(I)Z"⟩
def dkwX4_isLetter_0 : List UInt8 := [26, 16, 97, 161, 0, 13, 26, 16, 122, 163, 0, 7, 4, 167, 0, 4, 3, 172]
abbrev dktX4_isLetter_0 : List UInt8 := dkwX4_isLetter_0 ++ []
theorem dksX4_isLetter_0 : cX4_isLetter.data.toList.drop 0 = dktX4_isLetter_0 := by decide +kernel
theorem dX4_isLetter_0 : decode cX4_isLetter 0 = .ok (.iload_n 0, 1) := dk_26 (dk_at dksX4_isLetter_0 0 rfl rfl)
theorem dX4_isLetter_1 : decode cX4_isLetter 1 = .ok (.bipush 97, 2) := dk_16 97 (dk_at dksX4_isLetter_0 1 rfl rfl)
theorem dX4_isLetter_3 : decode cX4_isLetter 3 = .ok (.if_icmp .lt 13, 3) := dk_161 0 13 (dk_at dksX4_isLetter_0 3 rfl rfl)
theorem dX4_isLetter_6 : decode cX4_isLetter 6 = .ok (.iload_n 0, 1) := dk_26 (dk_at dksX4_isLetter_0 6 rfl rfl)
theorem dX4_isLetter_7 : decode cX4_isLetter 7 = .ok (.bipush 122, 2) := dk_16 122 (dk_at dksX4_isLetter_0 7 rfl rfl)
theorem dX4_isLetter_9 : decode cX4_isLetter 9 = .ok (.if_icmp .gt 7, 3) := dk_163 0 7 (dk_at dksX4_isLetter_0 9 rfl rfl)
theorem dX4_isLetter_12 : decode cX4_isLetter 12 = .ok (.iconst 1, 1) := dk_4 (dk_at dksX4_isLetter_0 12 rfl rfl)
theorem dX4_isLetter_13 : decode cX4_isLetter 13 = .ok (.goto 4, 3) := dk_167 0 4 (dk_at dksX4_isLetter_0 13 rfl rfl)
theorem dX4_isLetter_16 : decode cX4_isLetter 16 = .ok (.iconst 0, 1) := dk_3 (dk_at dksX4_isLetter_0 16 rfl rfl)
theorem dX4_isLetter_17 : decode cX4_isLetter 17 = .ok (.ireturn, 1) := dk_172 (dk_at dksX4_isLetter_0 17 rfl rfl)
abbrev cX4_isDigit : ByteArray := prog_20_method_33_code
def yX4_isDigit : MethodName := ⟨RX4, "isDigit", "(I)Z"⟩
def dkwX4_isDigit_0 : List UInt8 := [26, 16, 48, 161, 0, 13, 26, 16, 57, 163, 0, 7, 4, 167, 0, 4, 3, 172]
abbrev dktX4_isDigit_0 : List UInt8 := dkwX4_isDigit_0 ++ []
theorem dksX4_isDigit_0 : cX4_isDigit.data.toList.drop 0 = dktX4_isDigit_0 := by decide +kernel
theorem dX4_isDigit_0 : decode cX4_isDigit 0 = .ok (.iload_n 0, 1) := dk_26 (dk_at dksX4_isDigit_0 0 rfl rfl)
theorem dX4_isDigit_1 : decode cX4_isDigit 1 = .ok (.bipush 48, 2) := dk_16 48 (dk_at dksX4_isDigit_0 1 rfl rfl)
theorem dX4_isDigit_3 : decode cX4_isDigit 3 = .ok (.if_icmp .lt 13, 3) := dk_161 0 13 (dk_at dksX4_isDigit_0 3 rfl rfl)
theorem dX4_isDigit_6 : decode cX4_isDigit 6 = .ok (.iload_n 0, 1) := dk_26 (dk_at dksX4_isDigit_0 6 rfl rfl)
theorem dX4_isDigit_7 : decode cX4_isDigit 7 = .ok (.bipush 57, 2) := dk_16 57 (dk_at dksX4_isDigit_0 7 rfl rfl)
theorem dX4_isDigit_9 : decode cX4_isDigit 9 = .ok (.if_icmp .gt 7, 3) := dk_163 0 7 (dk_at dksX4_isDigit_0 9 rfl rfl)
theorem dX4_isDigit_12 : decode cX4_isDigit 12 = .ok (.iconst 1, 1) := dk_4 (dk_at dksX4_isDigit_0 12 rfl rfl)
theorem dX4_isDigit_13 : decode cX4_isDigit 13 = .ok (.goto 4, 3) := dk_167 0 4 (dk_at dksX4_isDigit_0 13 rfl rfl)
theorem dX4_isDigit_16 : decode cX4_isDigit 16 = .ok (.iconst 0, 1) := dk_3 (dk_at dksX4_isDigit_0 16 rfl rfl)
theorem dX4_isDigit_17 : decode cX4_isDigit 17 = .ok (.ireturn, 1) := dk_172 (dk_at dksX4_isDigit_0 17 rfl rfl)
abbrev cX4_isSignByte : ByteArray := prog_20_method_34_code
def yX4_isSignByte : MethodName := ⟨RX4, "isSignByte", "(I)Z"⟩
def dkwX4_isSignByte_2 : List UInt8 := [26, 16, 58, 159, 0, 15, 26, 16, 46, 159, 0, 9, 26, 16, 59, 160, 0, 7, 4, 167, 0, 4, 3, 172]
abbrev dktX4_isSignByte_2 : List UInt8 := dkwX4_isSignByte_2 ++ []
def dkwX4_isSignByte_1 : List UInt8 := [26, 16, 41, 159, 0, 39, 26, 16, 60, 159, 0, 33, 26, 16, 62, 159, 0, 27, 26, 16, 61, 159, 0, 21]
abbrev dktX4_isSignByte_1 : List UInt8 := dkwX4_isSignByte_1 ++ dktX4_isSignByte_2
def dkwX4_isSignByte_0 : List UInt8 := [26, 16, 43, 159, 0, 63, 26, 16, 45, 159, 0, 57, 26, 16, 42, 159, 0, 51, 26, 16, 40, 159, 0, 45]
abbrev dktX4_isSignByte_0 : List UInt8 := dkwX4_isSignByte_0 ++ dktX4_isSignByte_1
theorem dksX4_isSignByte_0 : cX4_isSignByte.data.toList.drop 0 = dktX4_isSignByte_0 := by decide +kernel
theorem dksX4_isSignByte_1 : cX4_isSignByte.data.toList.drop 24 = dktX4_isSignByte_1 := dk_seg dksX4_isSignByte_0 24 rfl rfl
theorem dksX4_isSignByte_2 : cX4_isSignByte.data.toList.drop 48 = dktX4_isSignByte_2 := dk_seg dksX4_isSignByte_1 24 rfl rfl
theorem dX4_isSignByte_0 : decode cX4_isSignByte 0 = .ok (.iload_n 0, 1) := dk_26 (dk_at dksX4_isSignByte_0 0 rfl rfl)
theorem dX4_isSignByte_1 : decode cX4_isSignByte 1 = .ok (.bipush 43, 2) := dk_16 43 (dk_at dksX4_isSignByte_0 1 rfl rfl)
theorem dX4_isSignByte_3 : decode cX4_isSignByte 3 = .ok (.if_icmp .eq 63, 3) := dk_159 0 63 (dk_at dksX4_isSignByte_0 3 rfl rfl)
theorem dX4_isSignByte_6 : decode cX4_isSignByte 6 = .ok (.iload_n 0, 1) := dk_26 (dk_at dksX4_isSignByte_0 6 rfl rfl)
theorem dX4_isSignByte_7 : decode cX4_isSignByte 7 = .ok (.bipush 45, 2) := dk_16 45 (dk_at dksX4_isSignByte_0 7 rfl rfl)
theorem dX4_isSignByte_9 : decode cX4_isSignByte 9 = .ok (.if_icmp .eq 57, 3) := dk_159 0 57 (dk_at dksX4_isSignByte_0 9 rfl rfl)
theorem dX4_isSignByte_12 : decode cX4_isSignByte 12 = .ok (.iload_n 0, 1) := dk_26 (dk_at dksX4_isSignByte_0 12 rfl rfl)
theorem dX4_isSignByte_13 : decode cX4_isSignByte 13 = .ok (.bipush 42, 2) := dk_16 42 (dk_at dksX4_isSignByte_0 13 rfl rfl)
theorem dX4_isSignByte_15 : decode cX4_isSignByte 15 = .ok (.if_icmp .eq 51, 3) := dk_159 0 51 (dk_at dksX4_isSignByte_0 15 rfl rfl)
theorem dX4_isSignByte_18 : decode cX4_isSignByte 18 = .ok (.iload_n 0, 1) := dk_26 (dk_at dksX4_isSignByte_0 18 rfl rfl)
theorem dX4_isSignByte_19 : decode cX4_isSignByte 19 = .ok (.bipush 40, 2) := dk_16 40 (dk_at dksX4_isSignByte_0 19 rfl rfl)
theorem dX4_isSignByte_21 : decode cX4_isSignByte 21 = .ok (.if_icmp .eq 45, 3) := dk_159 0 45 (dk_at dksX4_isSignByte_0 21 rfl rfl)
theorem dX4_isSignByte_24 : decode cX4_isSignByte 24 = .ok (.iload_n 0, 1) := dk_26 (dk_at dksX4_isSignByte_1 0 rfl rfl)
theorem dX4_isSignByte_25 : decode cX4_isSignByte 25 = .ok (.bipush 41, 2) := dk_16 41 (dk_at dksX4_isSignByte_1 1 rfl rfl)
theorem dX4_isSignByte_27 : decode cX4_isSignByte 27 = .ok (.if_icmp .eq 39, 3) := dk_159 0 39 (dk_at dksX4_isSignByte_1 3 rfl rfl)
theorem dX4_isSignByte_30 : decode cX4_isSignByte 30 = .ok (.iload_n 0, 1) := dk_26 (dk_at dksX4_isSignByte_1 6 rfl rfl)
theorem dX4_isSignByte_31 : decode cX4_isSignByte 31 = .ok (.bipush 60, 2) := dk_16 60 (dk_at dksX4_isSignByte_1 7 rfl rfl)
theorem dX4_isSignByte_33 : decode cX4_isSignByte 33 = .ok (.if_icmp .eq 33, 3) := dk_159 0 33 (dk_at dksX4_isSignByte_1 9 rfl rfl)
theorem dX4_isSignByte_36 : decode cX4_isSignByte 36 = .ok (.iload_n 0, 1) := dk_26 (dk_at dksX4_isSignByte_1 12 rfl rfl)
theorem dX4_isSignByte_37 : decode cX4_isSignByte 37 = .ok (.bipush 62, 2) := dk_16 62 (dk_at dksX4_isSignByte_1 13 rfl rfl)
theorem dX4_isSignByte_39 : decode cX4_isSignByte 39 = .ok (.if_icmp .eq 27, 3) := dk_159 0 27 (dk_at dksX4_isSignByte_1 15 rfl rfl)
theorem dX4_isSignByte_42 : decode cX4_isSignByte 42 = .ok (.iload_n 0, 1) := dk_26 (dk_at dksX4_isSignByte_1 18 rfl rfl)
theorem dX4_isSignByte_43 : decode cX4_isSignByte 43 = .ok (.bipush 61, 2) := dk_16 61 (dk_at dksX4_isSignByte_1 19 rfl rfl)
theorem dX4_isSignByte_45 : decode cX4_isSignByte 45 = .ok (.if_icmp .eq 21, 3) := dk_159 0 21 (dk_at dksX4_isSignByte_1 21 rfl rfl)
theorem dX4_isSignByte_48 : decode cX4_isSignByte 48 = .ok (.iload_n 0, 1) := dk_26 (dk_at dksX4_isSignByte_2 0 rfl rfl)
theorem dX4_isSignByte_49 : decode cX4_isSignByte 49 = .ok (.bipush 58, 2) := dk_16 58 (dk_at dksX4_isSignByte_2 1 rfl rfl)
theorem dX4_isSignByte_51 : decode cX4_isSignByte 51 = .ok (.if_icmp .eq 15, 3) := dk_159 0 15 (dk_at dksX4_isSignByte_2 3 rfl rfl)
theorem dX4_isSignByte_54 : decode cX4_isSignByte 54 = .ok (.iload_n 0, 1) := dk_26 (dk_at dksX4_isSignByte_2 6 rfl rfl)
theorem dX4_isSignByte_55 : decode cX4_isSignByte 55 = .ok (.bipush 46, 2) := dk_16 46 (dk_at dksX4_isSignByte_2 7 rfl rfl)
theorem dX4_isSignByte_57 : decode cX4_isSignByte 57 = .ok (.if_icmp .eq 9, 3) := dk_159 0 9 (dk_at dksX4_isSignByte_2 9 rfl rfl)
theorem dX4_isSignByte_60 : decode cX4_isSignByte 60 = .ok (.iload_n 0, 1) := dk_26 (dk_at dksX4_isSignByte_2 12 rfl rfl)
theorem dX4_isSignByte_61 : decode cX4_isSignByte 61 = .ok (.bipush 59, 2) := dk_16 59 (dk_at dksX4_isSignByte_2 13 rfl rfl)
theorem dX4_isSignByte_63 : decode cX4_isSignByte 63 = .ok (.if_icmp .ne 7, 3) := dk_160 0 7 (dk_at dksX4_isSignByte_2 15 rfl rfl)
theorem dX4_isSignByte_66 : decode cX4_isSignByte 66 = .ok (.iconst 1, 1) := dk_4 (dk_at dksX4_isSignByte_2 18 rfl rfl)
theorem dX4_isSignByte_67 : decode cX4_isSignByte 67 = .ok (.goto 4, 3) := dk_167 0 4 (dk_at dksX4_isSignByte_2 19 rfl rfl)
theorem dX4_isSignByte_70 : decode cX4_isSignByte 70 = .ok (.iconst 0, 1) := dk_3 (dk_at dksX4_isSignByte_2 22 rfl rfl)
theorem dX4_isSignByte_71 : decode cX4_isSignByte 71 = .ok (.ireturn, 1) := dk_172 (dk_at dksX4_isSignByte_2 23 rfl rfl)
abbrev cX4_step : ByteArray := prog_20_method_50_code
def yX4_step : MethodName := ⟨RX4, "step", "()V"⟩
def dkwX4_step_8 : List UInt8 := [153, 0, 11, 29, 154, 0, 7, 4, 167, 0, 4, 3, 182, 1, 147, 177]
abbrev dktX4_step_8 : List UInt8 := dkwX4_step_8 ++ []
def dkwX4_step_7 : List UInt8 := [153, 0, 11, 29, 153, 0, 7, 4, 167, 0, 4, 3, 182, 1, 147, 42, 19, 1, 151, 182, 1, 143, 42, 28]
abbrev dktX4_step_7 : List UInt8 := dkwX4_step_7 ++ dktX4_step_8
def dkwX4_step_6 : List UInt8 := [153, 0, 13, 42, 89, 180, 1, 138, 4, 96, 181, 1, 138, 42, 19, 1, 141, 182, 1, 143, 42, 28]
abbrev dktX4_step_6 : List UInt8 := dkwX4_step_6 ++ dktX4_step_7
def dkwX4_step_5 : List UInt8 := [3, 61, 42, 89, 180, 1, 132, 4, 96, 181, 1, 132, 42, 16, 58, 182, 1, 94, 42, 182, 1, 135, 62, 28]
abbrev dktX4_step_5 : List UInt8 := dkwX4_step_5 ++ dktX4_step_6
def dkwX4_step_4 : List UInt8 := [180, 1, 132, 27, 79, 42, 180, 1, 132, 153, 0, 11, 42, 180, 1, 117, 27, 160, 0, 7, 4, 167, 0, 4]
abbrev dktX4_step_4 : List UInt8 := dkwX4_step_4 ++ dktX4_step_5
def dkwX4_step_3 : List UInt8 := [182, 1, 78, 60, 42, 180, 1, 45, 153, 0, 4, 177, 42, 27, 181, 1, 122, 42, 180, 0, 134, 42]
abbrev dktX4_step_3 : List UInt8 := dkwX4_step_3 ++ dktX4_step_4
def dkwX4_step_2 : List UInt8 := [158, 0, 19, 42, 180, 1, 39, 42, 180, 1, 122, 163, 0, 8, 42, 6, 182, 1, 67, 42, 17, 39, 16, 4]
abbrev dktX4_step_2 : List UInt8 := dkwX4_step_2 ++ dktX4_step_3
def dkwX4_step_1 : List UInt8 := [42, 5, 182, 1, 67, 42, 180, 1, 45, 154, 0, 34, 42, 180, 1, 30, 5, 160, 0, 26, 42, 180, 1, 132]
abbrev dktX4_step_1 : List UInt8 := dkwX4_step_1 ++ dktX4_step_2
def dkwX4_step_0 : List UInt8 := [42, 180, 1, 45, 154, 0, 25, 42, 180, 1, 30, 5, 160, 0, 17, 42, 180, 1, 132, 16, 24, 160, 0, 8]
abbrev dktX4_step_0 : List UInt8 := dkwX4_step_0 ++ dktX4_step_1
theorem dksX4_step_0 : cX4_step.data.toList.drop 0 = dktX4_step_0 := by decide +kernel
theorem dksX4_step_1 : cX4_step.data.toList.drop 24 = dktX4_step_1 := dk_seg dksX4_step_0 24 rfl rfl
theorem dksX4_step_2 : cX4_step.data.toList.drop 48 = dktX4_step_2 := dk_seg dksX4_step_1 24 rfl rfl
theorem dksX4_step_3 : cX4_step.data.toList.drop 72 = dktX4_step_3 := dk_seg dksX4_step_2 24 rfl rfl
theorem dksX4_step_4 : cX4_step.data.toList.drop 94 = dktX4_step_4 := dk_seg dksX4_step_3 22 rfl rfl
theorem dksX4_step_5 : cX4_step.data.toList.drop 118 = dktX4_step_5 := dk_seg dksX4_step_4 24 rfl rfl
theorem dksX4_step_6 : cX4_step.data.toList.drop 142 = dktX4_step_6 := dk_seg dksX4_step_5 24 rfl rfl
theorem dksX4_step_7 : cX4_step.data.toList.drop 164 = dktX4_step_7 := dk_seg dksX4_step_6 22 rfl rfl
theorem dksX4_step_8 : cX4_step.data.toList.drop 188 = dktX4_step_8 := dk_seg dksX4_step_7 24 rfl rfl
theorem dX4_step_0 : decode cX4_step 0 = .ok (.aload_n 0, 1) := dk_42 (dk_at dksX4_step_0 0 rfl rfl)
theorem dX4_step_1 : decode cX4_step 1 = .ok (.getfield 301, 3) := dk_180 1 45 (dk_at dksX4_step_0 1 rfl rfl)
theorem dX4_step_4 : decode cX4_step 4 = .ok (.ifCond .ne 25, 3) := dk_154 0 25 (dk_at dksX4_step_0 4 rfl rfl)
theorem dX4_step_7 : decode cX4_step 7 = .ok (.aload_n 0, 1) := dk_42 (dk_at dksX4_step_0 7 rfl rfl)
theorem dX4_step_8 : decode cX4_step 8 = .ok (.getfield 286, 3) := dk_180 1 30 (dk_at dksX4_step_0 8 rfl rfl)
theorem dX4_step_11 : decode cX4_step 11 = .ok (.iconst 2, 1) := dk_5 (dk_at dksX4_step_0 11 rfl rfl)
theorem dX4_step_12 : decode cX4_step 12 = .ok (.if_icmp .ne 17, 3) := dk_160 0 17 (dk_at dksX4_step_0 12 rfl rfl)
theorem dX4_step_15 : decode cX4_step 15 = .ok (.aload_n 0, 1) := dk_42 (dk_at dksX4_step_0 15 rfl rfl)
theorem dX4_step_16 : decode cX4_step 16 = .ok (.getfield 388, 3) := dk_180 1 132 (dk_at dksX4_step_0 16 rfl rfl)
theorem dX4_step_19 : decode cX4_step 19 = .ok (.bipush 24, 2) := dk_16 24 (dk_at dksX4_step_0 19 rfl rfl)
theorem dX4_step_21 : decode cX4_step 21 = .ok (.if_icmp .ne 8, 3) := dk_160 0 8 (dk_at dksX4_step_0 21 rfl rfl)
theorem dX4_step_24 : decode cX4_step 24 = .ok (.aload_n 0, 1) := dk_42 (dk_at dksX4_step_1 0 rfl rfl)
theorem dX4_step_25 : decode cX4_step 25 = .ok (.iconst 2, 1) := dk_5 (dk_at dksX4_step_1 1 rfl rfl)
theorem dX4_step_26 : decode cX4_step 26 = .ok (.invokevirtual 323, 3) := dk_182 1 67 (dk_at dksX4_step_1 2 rfl rfl)
theorem dX4_step_29 : decode cX4_step 29 = .ok (.aload_n 0, 1) := dk_42 (dk_at dksX4_step_1 5 rfl rfl)
theorem dX4_step_30 : decode cX4_step 30 = .ok (.getfield 301, 3) := dk_180 1 45 (dk_at dksX4_step_1 6 rfl rfl)
theorem dX4_step_33 : decode cX4_step 33 = .ok (.ifCond .ne 34, 3) := dk_154 0 34 (dk_at dksX4_step_1 9 rfl rfl)
theorem dX4_step_36 : decode cX4_step 36 = .ok (.aload_n 0, 1) := dk_42 (dk_at dksX4_step_1 12 rfl rfl)
theorem dX4_step_37 : decode cX4_step 37 = .ok (.getfield 286, 3) := dk_180 1 30 (dk_at dksX4_step_1 13 rfl rfl)
theorem dX4_step_40 : decode cX4_step 40 = .ok (.iconst 2, 1) := dk_5 (dk_at dksX4_step_1 16 rfl rfl)
theorem dX4_step_41 : decode cX4_step 41 = .ok (.if_icmp .ne 26, 3) := dk_160 0 26 (dk_at dksX4_step_1 17 rfl rfl)
theorem dX4_step_44 : decode cX4_step 44 = .ok (.aload_n 0, 1) := dk_42 (dk_at dksX4_step_1 20 rfl rfl)
theorem dX4_step_45 : decode cX4_step 45 = .ok (.getfield 388, 3) := dk_180 1 132 (dk_at dksX4_step_1 21 rfl rfl)
theorem dX4_step_48 : decode cX4_step 48 = .ok (.ifCond .le 19, 3) := dk_158 0 19 (dk_at dksX4_step_2 0 rfl rfl)
theorem dX4_step_51 : decode cX4_step 51 = .ok (.aload_n 0, 1) := dk_42 (dk_at dksX4_step_2 3 rfl rfl)
theorem dX4_step_52 : decode cX4_step 52 = .ok (.getfield 295, 3) := dk_180 1 39 (dk_at dksX4_step_2 4 rfl rfl)
theorem dX4_step_55 : decode cX4_step 55 = .ok (.aload_n 0, 1) := dk_42 (dk_at dksX4_step_2 7 rfl rfl)
theorem dX4_step_56 : decode cX4_step 56 = .ok (.getfield 378, 3) := dk_180 1 122 (dk_at dksX4_step_2 8 rfl rfl)
theorem dX4_step_59 : decode cX4_step 59 = .ok (.if_icmp .gt 8, 3) := dk_163 0 8 (dk_at dksX4_step_2 11 rfl rfl)
theorem dX4_step_62 : decode cX4_step 62 = .ok (.aload_n 0, 1) := dk_42 (dk_at dksX4_step_2 14 rfl rfl)
theorem dX4_step_63 : decode cX4_step 63 = .ok (.iconst 3, 1) := dk_6 (dk_at dksX4_step_2 15 rfl rfl)
theorem dX4_step_64 : decode cX4_step 64 = .ok (.invokevirtual 323, 3) := dk_182 1 67 (dk_at dksX4_step_2 16 rfl rfl)
theorem dX4_step_67 : decode cX4_step 67 = .ok (.aload_n 0, 1) := dk_42 (dk_at dksX4_step_2 19 rfl rfl)
theorem dX4_step_68 : decode cX4_step 68 = .ok (.sipush 10000, 3) := dk_17 39 16 (dk_at dksX4_step_2 20 rfl rfl)
theorem dX4_step_71 : decode cX4_step 71 = .ok (.iconst 1, 1) := dk_4 (dk_at dksX4_step_2 23 rfl rfl)
theorem dX4_step_72 : decode cX4_step 72 = .ok (.invokevirtual 334, 3) := dk_182 1 78 (dk_at dksX4_step_3 0 rfl rfl)
theorem dX4_step_75 : decode cX4_step 75 = .ok (.istore_n 1, 1) := dk_60 (dk_at dksX4_step_3 3 rfl rfl)
theorem dX4_step_76 : decode cX4_step 76 = .ok (.aload_n 0, 1) := dk_42 (dk_at dksX4_step_3 4 rfl rfl)
theorem dX4_step_77 : decode cX4_step 77 = .ok (.getfield 301, 3) := dk_180 1 45 (dk_at dksX4_step_3 5 rfl rfl)
theorem dX4_step_80 : decode cX4_step 80 = .ok (.ifCond .eq 4, 3) := dk_153 0 4 (dk_at dksX4_step_3 8 rfl rfl)
theorem dX4_step_83 : decode cX4_step 83 = .ok (.return_, 1) := dk_177 (dk_at dksX4_step_3 11 rfl rfl)
theorem dX4_step_84 : decode cX4_step 84 = .ok (.aload_n 0, 1) := dk_42 (dk_at dksX4_step_3 12 rfl rfl)
theorem dX4_step_85 : decode cX4_step 85 = .ok (.iload_n 1, 1) := dk_27 (dk_at dksX4_step_3 13 rfl rfl)
theorem dX4_step_86 : decode cX4_step 86 = .ok (.putfield 378, 3) := dk_181 1 122 (dk_at dksX4_step_3 14 rfl rfl)
theorem dX4_step_89 : decode cX4_step 89 = .ok (.aload_n 0, 1) := dk_42 (dk_at dksX4_step_3 17 rfl rfl)
theorem dX4_step_90 : decode cX4_step 90 = .ok (.getfield 134, 3) := dk_180 0 134 (dk_at dksX4_step_3 18 rfl rfl)
theorem dX4_step_93 : decode cX4_step 93 = .ok (.aload_n 0, 1) := dk_42 (dk_at dksX4_step_3 21 rfl rfl)
theorem dX4_step_94 : decode cX4_step 94 = .ok (.getfield 388, 3) := dk_180 1 132 (dk_at dksX4_step_4 0 rfl rfl)
theorem dX4_step_97 : decode cX4_step 97 = .ok (.iload_n 1, 1) := dk_27 (dk_at dksX4_step_4 3 rfl rfl)
theorem dX4_step_98 : decode cX4_step 98 = .ok (.iastore, 1) := dk_79 (dk_at dksX4_step_4 4 rfl rfl)
theorem dX4_step_99 : decode cX4_step 99 = .ok (.aload_n 0, 1) := dk_42 (dk_at dksX4_step_4 5 rfl rfl)
theorem dX4_step_100 : decode cX4_step 100 = .ok (.getfield 388, 3) := dk_180 1 132 (dk_at dksX4_step_4 6 rfl rfl)
theorem dX4_step_103 : decode cX4_step 103 = .ok (.ifCond .eq 11, 3) := dk_153 0 11 (dk_at dksX4_step_4 9 rfl rfl)
theorem dX4_step_106 : decode cX4_step 106 = .ok (.aload_n 0, 1) := dk_42 (dk_at dksX4_step_4 12 rfl rfl)
theorem dX4_step_107 : decode cX4_step 107 = .ok (.getfield 373, 3) := dk_180 1 117 (dk_at dksX4_step_4 13 rfl rfl)
theorem dX4_step_110 : decode cX4_step 110 = .ok (.iload_n 1, 1) := dk_27 (dk_at dksX4_step_4 16 rfl rfl)
theorem dX4_step_111 : decode cX4_step 111 = .ok (.if_icmp .ne 7, 3) := dk_160 0 7 (dk_at dksX4_step_4 17 rfl rfl)
theorem dX4_step_114 : decode cX4_step 114 = .ok (.iconst 1, 1) := dk_4 (dk_at dksX4_step_4 20 rfl rfl)
theorem dX4_step_115 : decode cX4_step 115 = .ok (.goto 4, 3) := dk_167 0 4 (dk_at dksX4_step_4 21 rfl rfl)
theorem dX4_step_118 : decode cX4_step 118 = .ok (.iconst 0, 1) := dk_3 (dk_at dksX4_step_5 0 rfl rfl)
theorem dX4_step_119 : decode cX4_step 119 = .ok (.istore_n 2, 1) := dk_61 (dk_at dksX4_step_5 1 rfl rfl)
theorem dX4_step_120 : decode cX4_step 120 = .ok (.aload_n 0, 1) := dk_42 (dk_at dksX4_step_5 2 rfl rfl)
theorem dX4_step_121 : decode cX4_step 121 = .ok (.dup, 1) := dk_89 (dk_at dksX4_step_5 3 rfl rfl)
theorem dX4_step_122 : decode cX4_step 122 = .ok (.getfield 388, 3) := dk_180 1 132 (dk_at dksX4_step_5 4 rfl rfl)
theorem dX4_step_125 : decode cX4_step 125 = .ok (.iconst 1, 1) := dk_4 (dk_at dksX4_step_5 7 rfl rfl)
theorem dX4_step_126 : decode cX4_step 126 = .ok (.iadd, 1) := dk_96 (dk_at dksX4_step_5 8 rfl rfl)
theorem dX4_step_127 : decode cX4_step 127 = .ok (.putfield 388, 3) := dk_181 1 132 (dk_at dksX4_step_5 9 rfl rfl)
theorem dX4_step_130 : decode cX4_step 130 = .ok (.aload_n 0, 1) := dk_42 (dk_at dksX4_step_5 12 rfl rfl)
theorem dX4_step_131 : decode cX4_step 131 = .ok (.bipush 58, 2) := dk_16 58 (dk_at dksX4_step_5 13 rfl rfl)
theorem dX4_step_133 : decode cX4_step 133 = .ok (.invokevirtual 350, 3) := dk_182 1 94 (dk_at dksX4_step_5 15 rfl rfl)
theorem dX4_step_136 : decode cX4_step 136 = .ok (.aload_n 0, 1) := dk_42 (dk_at dksX4_step_5 18 rfl rfl)
theorem dX4_step_137 : decode cX4_step 137 = .ok (.invokevirtual 391, 3) := dk_182 1 135 (dk_at dksX4_step_5 19 rfl rfl)
theorem dX4_step_140 : decode cX4_step 140 = .ok (.istore_n 3, 1) := dk_62 (dk_at dksX4_step_5 22 rfl rfl)
theorem dX4_step_141 : decode cX4_step 141 = .ok (.iload_n 2, 1) := dk_28 (dk_at dksX4_step_5 23 rfl rfl)
theorem dX4_step_142 : decode cX4_step 142 = .ok (.ifCond .eq 13, 3) := dk_153 0 13 (dk_at dksX4_step_6 0 rfl rfl)
theorem dX4_step_145 : decode cX4_step 145 = .ok (.aload_n 0, 1) := dk_42 (dk_at dksX4_step_6 3 rfl rfl)
theorem dX4_step_146 : decode cX4_step 146 = .ok (.dup, 1) := dk_89 (dk_at dksX4_step_6 4 rfl rfl)
theorem dX4_step_147 : decode cX4_step 147 = .ok (.getfield 394, 3) := dk_180 1 138 (dk_at dksX4_step_6 5 rfl rfl)
theorem dX4_step_150 : decode cX4_step 150 = .ok (.iconst 1, 1) := dk_4 (dk_at dksX4_step_6 8 rfl rfl)
theorem dX4_step_151 : decode cX4_step 151 = .ok (.iadd, 1) := dk_96 (dk_at dksX4_step_6 9 rfl rfl)
theorem dX4_step_152 : decode cX4_step 152 = .ok (.putfield 394, 3) := dk_181 1 138 (dk_at dksX4_step_6 10 rfl rfl)
theorem dX4_step_155 : decode cX4_step 155 = .ok (.aload_n 0, 1) := dk_42 (dk_at dksX4_step_6 13 rfl rfl)
theorem dX4_step_156 : decode cX4_step 156 = .ok (.ldc_w 397, 3) := dk_19 1 141 (dk_at dksX4_step_6 14 rfl rfl)
theorem dX4_step_159 : decode cX4_step 159 = .ok (.invokevirtual 399, 3) := dk_182 1 143 (dk_at dksX4_step_6 17 rfl rfl)
theorem dX4_step_162 : decode cX4_step 162 = .ok (.aload_n 0, 1) := dk_42 (dk_at dksX4_step_6 20 rfl rfl)
theorem dX4_step_163 : decode cX4_step 163 = .ok (.iload_n 2, 1) := dk_28 (dk_at dksX4_step_6 21 rfl rfl)
theorem dX4_step_164 : decode cX4_step 164 = .ok (.ifCond .eq 11, 3) := dk_153 0 11 (dk_at dksX4_step_7 0 rfl rfl)
theorem dX4_step_167 : decode cX4_step 167 = .ok (.iload_n 3, 1) := dk_29 (dk_at dksX4_step_7 3 rfl rfl)
theorem dX4_step_168 : decode cX4_step 168 = .ok (.ifCond .eq 7, 3) := dk_153 0 7 (dk_at dksX4_step_7 4 rfl rfl)
theorem dX4_step_171 : decode cX4_step 171 = .ok (.iconst 1, 1) := dk_4 (dk_at dksX4_step_7 7 rfl rfl)
theorem dX4_step_172 : decode cX4_step 172 = .ok (.goto 4, 3) := dk_167 0 4 (dk_at dksX4_step_7 8 rfl rfl)
theorem dX4_step_175 : decode cX4_step 175 = .ok (.iconst 0, 1) := dk_3 (dk_at dksX4_step_7 11 rfl rfl)
theorem dX4_step_176 : decode cX4_step 176 = .ok (.invokevirtual 403, 3) := dk_182 1 147 (dk_at dksX4_step_7 12 rfl rfl)
theorem dX4_step_179 : decode cX4_step 179 = .ok (.aload_n 0, 1) := dk_42 (dk_at dksX4_step_7 15 rfl rfl)
theorem dX4_step_180 : decode cX4_step 180 = .ok (.ldc_w 407, 3) := dk_19 1 151 (dk_at dksX4_step_7 16 rfl rfl)
theorem dX4_step_183 : decode cX4_step 183 = .ok (.invokevirtual 399, 3) := dk_182 1 143 (dk_at dksX4_step_7 19 rfl rfl)
theorem dX4_step_186 : decode cX4_step 186 = .ok (.aload_n 0, 1) := dk_42 (dk_at dksX4_step_7 22 rfl rfl)
theorem dX4_step_187 : decode cX4_step 187 = .ok (.iload_n 2, 1) := dk_28 (dk_at dksX4_step_7 23 rfl rfl)
theorem dX4_step_188 : decode cX4_step 188 = .ok (.ifCond .eq 11, 3) := dk_153 0 11 (dk_at dksX4_step_8 0 rfl rfl)
theorem dX4_step_191 : decode cX4_step 191 = .ok (.iload_n 3, 1) := dk_29 (dk_at dksX4_step_8 3 rfl rfl)
theorem dX4_step_192 : decode cX4_step 192 = .ok (.ifCond .ne 7, 3) := dk_154 0 7 (dk_at dksX4_step_8 4 rfl rfl)
theorem dX4_step_195 : decode cX4_step 195 = .ok (.iconst 1, 1) := dk_4 (dk_at dksX4_step_8 7 rfl rfl)
theorem dX4_step_196 : decode cX4_step 196 = .ok (.goto 4, 3) := dk_167 0 4 (dk_at dksX4_step_8 8 rfl rfl)
theorem dX4_step_199 : decode cX4_step 199 = .ok (.iconst 0, 1) := dk_3 (dk_at dksX4_step_8 11 rfl rfl)
theorem dX4_step_200 : decode cX4_step 200 = .ok (.invokevirtual 403, 3) := dk_182 1 147 (dk_at dksX4_step_8 12 rfl rfl)
theorem dX4_step_203 : decode cX4_step 203 = .ok (.return_, 1) := dk_177 (dk_at dksX4_step_8 15 rfl rfl)
abbrev cX4_bad : ByteArray := prog_20_method_36_code
def yX4_bad : MethodName := ⟨RX4, "bad", "(I)V"⟩
def dkwX4_bad_0 : List UInt8 := [42, 180, 1, 45, 153, 0, 4, 177, 42, 27, 181, 1, 45, 42, 42, 180, 1, 27, 181, 1, 48, 177]
abbrev dktX4_bad_0 : List UInt8 := dkwX4_bad_0 ++ []
theorem dksX4_bad_0 : cX4_bad.data.toList.drop 0 = dktX4_bad_0 := by decide +kernel
theorem dX4_bad_0 : decode cX4_bad 0 = .ok (.aload_n 0, 1) := dk_42 (dk_at dksX4_bad_0 0 rfl rfl)
theorem dX4_bad_1 : decode cX4_bad 1 = .ok (.getfield 301, 3) := dk_180 1 45 (dk_at dksX4_bad_0 1 rfl rfl)
theorem dX4_bad_4 : decode cX4_bad 4 = .ok (.ifCond .eq 4, 3) := dk_153 0 4 (dk_at dksX4_bad_0 4 rfl rfl)
theorem dX4_bad_7 : decode cX4_bad 7 = .ok (.return_, 1) := dk_177 (dk_at dksX4_bad_0 7 rfl rfl)
theorem dX4_bad_8 : decode cX4_bad 8 = .ok (.aload_n 0, 1) := dk_42 (dk_at dksX4_bad_0 8 rfl rfl)
theorem dX4_bad_9 : decode cX4_bad 9 = .ok (.iload_n 1, 1) := dk_27 (dk_at dksX4_bad_0 9 rfl rfl)
theorem dX4_bad_10 : decode cX4_bad 10 = .ok (.putfield 301, 3) := dk_181 1 45 (dk_at dksX4_bad_0 10 rfl rfl)
theorem dX4_bad_13 : decode cX4_bad 13 = .ok (.aload_n 0, 1) := dk_42 (dk_at dksX4_bad_0 13 rfl rfl)
theorem dX4_bad_14 : decode cX4_bad 14 = .ok (.aload_n 0, 1) := dk_42 (dk_at dksX4_bad_0 14 rfl rfl)
theorem dX4_bad_15 : decode cX4_bad 15 = .ok (.getfield 283, 3) := dk_180 1 27 (dk_at dksX4_bad_0 15 rfl rfl)
theorem dX4_bad_18 : decode cX4_bad 18 = .ok (.putfield 304, 3) := dk_181 1 48 (dk_at dksX4_bad_0 18 rfl rfl)
theorem dX4_bad_21 : decode cX4_bad 21 = .ok (.return_, 1) := dk_177 (dk_at dksX4_bad_0 21 rfl rfl)
abbrev cX4_whole : ByteArray := prog_20_method_41_code
def yX4_whole : MethodName := ⟨RX4, "whole", "(II)I"⟩
def dkwX4_whole_2 : List UInt8 := [180, 1, 39, 62, 42, 182, 1, 64, 29, 172]
abbrev dktX4_whole_2 : List UInt8 := dkwX4_whole_2 ++ []
def dkwX4_whole_1 : List UInt8 := [180, 1, 39, 27, 164, 0, 8, 42, 28, 182, 1, 67, 42, 180, 1, 45, 153, 0, 5, 3, 172, 42]
abbrev dktX4_whole_1 : List UInt8 := dkwX4_whole_1 ++ dktX4_whole_2
def dkwX4_whole_0 : List UInt8 := [42, 180, 1, 45, 154, 0, 11, 42, 180, 1, 30, 5, 159, 0, 10, 42, 4, 182, 1, 67, 3, 172, 42]
abbrev dktX4_whole_0 : List UInt8 := dkwX4_whole_0 ++ dktX4_whole_1
theorem dksX4_whole_0 : cX4_whole.data.toList.drop 0 = dktX4_whole_0 := by decide +kernel
theorem dksX4_whole_1 : cX4_whole.data.toList.drop 23 = dktX4_whole_1 := dk_seg dksX4_whole_0 23 rfl rfl
theorem dksX4_whole_2 : cX4_whole.data.toList.drop 45 = dktX4_whole_2 := dk_seg dksX4_whole_1 22 rfl rfl
theorem dX4_whole_0 : decode cX4_whole 0 = .ok (.aload_n 0, 1) := dk_42 (dk_at dksX4_whole_0 0 rfl rfl)
theorem dX4_whole_1 : decode cX4_whole 1 = .ok (.getfield 301, 3) := dk_180 1 45 (dk_at dksX4_whole_0 1 rfl rfl)
theorem dX4_whole_4 : decode cX4_whole 4 = .ok (.ifCond .ne 11, 3) := dk_154 0 11 (dk_at dksX4_whole_0 4 rfl rfl)
theorem dX4_whole_7 : decode cX4_whole 7 = .ok (.aload_n 0, 1) := dk_42 (dk_at dksX4_whole_0 7 rfl rfl)
theorem dX4_whole_8 : decode cX4_whole 8 = .ok (.getfield 286, 3) := dk_180 1 30 (dk_at dksX4_whole_0 8 rfl rfl)
theorem dX4_whole_11 : decode cX4_whole 11 = .ok (.iconst 2, 1) := dk_5 (dk_at dksX4_whole_0 11 rfl rfl)
theorem dX4_whole_12 : decode cX4_whole 12 = .ok (.if_icmp .eq 10, 3) := dk_159 0 10 (dk_at dksX4_whole_0 12 rfl rfl)
theorem dX4_whole_15 : decode cX4_whole 15 = .ok (.aload_n 0, 1) := dk_42 (dk_at dksX4_whole_0 15 rfl rfl)
theorem dX4_whole_16 : decode cX4_whole 16 = .ok (.iconst 1, 1) := dk_4 (dk_at dksX4_whole_0 16 rfl rfl)
theorem dX4_whole_17 : decode cX4_whole 17 = .ok (.invokevirtual 323, 3) := dk_182 1 67 (dk_at dksX4_whole_0 17 rfl rfl)
theorem dX4_whole_20 : decode cX4_whole 20 = .ok (.iconst 0, 1) := dk_3 (dk_at dksX4_whole_0 20 rfl rfl)
theorem dX4_whole_21 : decode cX4_whole 21 = .ok (.ireturn, 1) := dk_172 (dk_at dksX4_whole_0 21 rfl rfl)
theorem dX4_whole_22 : decode cX4_whole 22 = .ok (.aload_n 0, 1) := dk_42 (dk_at dksX4_whole_0 22 rfl rfl)
theorem dX4_whole_23 : decode cX4_whole 23 = .ok (.getfield 295, 3) := dk_180 1 39 (dk_at dksX4_whole_1 0 rfl rfl)
theorem dX4_whole_26 : decode cX4_whole 26 = .ok (.iload_n 1, 1) := dk_27 (dk_at dksX4_whole_1 3 rfl rfl)
theorem dX4_whole_27 : decode cX4_whole 27 = .ok (.if_icmp .le 8, 3) := dk_164 0 8 (dk_at dksX4_whole_1 4 rfl rfl)
theorem dX4_whole_30 : decode cX4_whole 30 = .ok (.aload_n 0, 1) := dk_42 (dk_at dksX4_whole_1 7 rfl rfl)
theorem dX4_whole_31 : decode cX4_whole 31 = .ok (.iload_n 2, 1) := dk_28 (dk_at dksX4_whole_1 8 rfl rfl)
theorem dX4_whole_32 : decode cX4_whole 32 = .ok (.invokevirtual 323, 3) := dk_182 1 67 (dk_at dksX4_whole_1 9 rfl rfl)
theorem dX4_whole_35 : decode cX4_whole 35 = .ok (.aload_n 0, 1) := dk_42 (dk_at dksX4_whole_1 12 rfl rfl)
theorem dX4_whole_36 : decode cX4_whole 36 = .ok (.getfield 301, 3) := dk_180 1 45 (dk_at dksX4_whole_1 13 rfl rfl)
theorem dX4_whole_39 : decode cX4_whole 39 = .ok (.ifCond .eq 5, 3) := dk_153 0 5 (dk_at dksX4_whole_1 16 rfl rfl)
theorem dX4_whole_42 : decode cX4_whole 42 = .ok (.iconst 0, 1) := dk_3 (dk_at dksX4_whole_1 19 rfl rfl)
theorem dX4_whole_43 : decode cX4_whole 43 = .ok (.ireturn, 1) := dk_172 (dk_at dksX4_whole_1 20 rfl rfl)
theorem dX4_whole_44 : decode cX4_whole 44 = .ok (.aload_n 0, 1) := dk_42 (dk_at dksX4_whole_1 21 rfl rfl)
theorem dX4_whole_45 : decode cX4_whole 45 = .ok (.getfield 295, 3) := dk_180 1 39 (dk_at dksX4_whole_2 0 rfl rfl)
theorem dX4_whole_48 : decode cX4_whole 48 = .ok (.istore_n 3, 1) := dk_62 (dk_at dksX4_whole_2 3 rfl rfl)
theorem dX4_whole_49 : decode cX4_whole 49 = .ok (.aload_n 0, 1) := dk_42 (dk_at dksX4_whole_2 4 rfl rfl)
theorem dX4_whole_50 : decode cX4_whole 50 = .ok (.invokevirtual 320, 3) := dk_182 1 64 (dk_at dksX4_whole_2 5 rfl rfl)
theorem dX4_whole_53 : decode cX4_whole 53 = .ok (.iload_n 3, 1) := dk_29 (dk_at dksX4_whole_2 8 rfl rfl)
theorem dX4_whole_54 : decode cX4_whole 54 = .ok (.ireturn, 1) := dk_172 (dk_at dksX4_whole_2 9 rfl rfl)
abbrev cX4_need : ByteArray := prog_20_method_39_code
def yX4_need : MethodName := ⟨RX4, "need", "(I)V"⟩
def dkwX4_need_0 : List UInt8 := [42, 27, 182, 1, 61, 153, 0, 10, 42, 182, 1, 64, 167, 0, 8, 42, 4, 182, 1, 67, 177]
abbrev dktX4_need_0 : List UInt8 := dkwX4_need_0 ++ []
theorem dksX4_need_0 : cX4_need.data.toList.drop 0 = dktX4_need_0 := by decide +kernel
theorem dX4_need_0 : decode cX4_need 0 = .ok (.aload_n 0, 1) := dk_42 (dk_at dksX4_need_0 0 rfl rfl)
theorem dX4_need_1 : decode cX4_need 1 = .ok (.iload_n 1, 1) := dk_27 (dk_at dksX4_need_0 1 rfl rfl)
theorem dX4_need_2 : decode cX4_need 2 = .ok (.invokevirtual 317, 3) := dk_182 1 61 (dk_at dksX4_need_0 2 rfl rfl)
theorem dX4_need_5 : decode cX4_need 5 = .ok (.ifCond .eq 10, 3) := dk_153 0 10 (dk_at dksX4_need_0 5 rfl rfl)
theorem dX4_need_8 : decode cX4_need 8 = .ok (.aload_n 0, 1) := dk_42 (dk_at dksX4_need_0 8 rfl rfl)
theorem dX4_need_9 : decode cX4_need 9 = .ok (.invokevirtual 320, 3) := dk_182 1 64 (dk_at dksX4_need_0 9 rfl rfl)
theorem dX4_need_12 : decode cX4_need 12 = .ok (.goto 8, 3) := dk_167 0 8 (dk_at dksX4_need_0 12 rfl rfl)
theorem dX4_need_15 : decode cX4_need 15 = .ok (.aload_n 0, 1) := dk_42 (dk_at dksX4_need_0 15 rfl rfl)
theorem dX4_need_16 : decode cX4_need 16 = .ok (.iconst 1, 1) := dk_4 (dk_at dksX4_need_0 16 rfl rfl)
theorem dX4_need_17 : decode cX4_need 17 = .ok (.invokevirtual 323, 3) := dk_182 1 67 (dk_at dksX4_need_0 17 rfl rfl)
theorem dX4_need_20 : decode cX4_need 20 = .ok (.return_, 1) := dk_177 (dk_at dksX4_need_0 20 rfl rfl)
abbrev cX4_isSign : ByteArray := prog_20_method_37_code
def yX4_isSign : MethodName := ⟨RX4, "isSign", "(I)Z"⟩
def dkwX4_isSign_1 : List UInt8 := [160, 0, 7, 4, 167, 0, 4, 3, 172]
abbrev dktX4_isSign_1 : List UInt8 := dkwX4_isSign_1 ++ []
def dkwX4_isSign_0 : List UInt8 := [42, 180, 1, 45, 154, 0, 27, 42, 180, 1, 30, 6, 160, 0, 19, 42, 42, 180, 1, 27, 182, 1, 23, 27]
abbrev dktX4_isSign_0 : List UInt8 := dkwX4_isSign_0 ++ dktX4_isSign_1
theorem dksX4_isSign_0 : cX4_isSign.data.toList.drop 0 = dktX4_isSign_0 := by decide +kernel
theorem dksX4_isSign_1 : cX4_isSign.data.toList.drop 24 = dktX4_isSign_1 := dk_seg dksX4_isSign_0 24 rfl rfl
theorem dX4_isSign_0 : decode cX4_isSign 0 = .ok (.aload_n 0, 1) := dk_42 (dk_at dksX4_isSign_0 0 rfl rfl)
theorem dX4_isSign_1 : decode cX4_isSign 1 = .ok (.getfield 301, 3) := dk_180 1 45 (dk_at dksX4_isSign_0 1 rfl rfl)
theorem dX4_isSign_4 : decode cX4_isSign 4 = .ok (.ifCond .ne 27, 3) := dk_154 0 27 (dk_at dksX4_isSign_0 4 rfl rfl)
theorem dX4_isSign_7 : decode cX4_isSign 7 = .ok (.aload_n 0, 1) := dk_42 (dk_at dksX4_isSign_0 7 rfl rfl)
theorem dX4_isSign_8 : decode cX4_isSign 8 = .ok (.getfield 286, 3) := dk_180 1 30 (dk_at dksX4_isSign_0 8 rfl rfl)
theorem dX4_isSign_11 : decode cX4_isSign 11 = .ok (.iconst 3, 1) := dk_6 (dk_at dksX4_isSign_0 11 rfl rfl)
theorem dX4_isSign_12 : decode cX4_isSign 12 = .ok (.if_icmp .ne 19, 3) := dk_160 0 19 (dk_at dksX4_isSign_0 12 rfl rfl)
theorem dX4_isSign_15 : decode cX4_isSign 15 = .ok (.aload_n 0, 1) := dk_42 (dk_at dksX4_isSign_0 15 rfl rfl)
theorem dX4_isSign_16 : decode cX4_isSign 16 = .ok (.aload_n 0, 1) := dk_42 (dk_at dksX4_isSign_0 16 rfl rfl)
theorem dX4_isSign_17 : decode cX4_isSign 17 = .ok (.getfield 283, 3) := dk_180 1 27 (dk_at dksX4_isSign_0 17 rfl rfl)
theorem dX4_isSign_20 : decode cX4_isSign 20 = .ok (.invokevirtual 279, 3) := dk_182 1 23 (dk_at dksX4_isSign_0 20 rfl rfl)
theorem dX4_isSign_23 : decode cX4_isSign 23 = .ok (.iload_n 1, 1) := dk_27 (dk_at dksX4_isSign_0 23 rfl rfl)
theorem dX4_isSign_24 : decode cX4_isSign 24 = .ok (.if_icmp .ne 7, 3) := dk_160 0 7 (dk_at dksX4_isSign_1 0 rfl rfl)
theorem dX4_isSign_27 : decode cX4_isSign 27 = .ok (.iconst 1, 1) := dk_4 (dk_at dksX4_isSign_1 3 rfl rfl)
theorem dX4_isSign_28 : decode cX4_isSign 28 = .ok (.goto 4, 3) := dk_167 0 4 (dk_at dksX4_isSign_1 4 rfl rfl)
theorem dX4_isSign_31 : decode cX4_isSign 31 = .ok (.iconst 0, 1) := dk_3 (dk_at dksX4_isSign_1 7 rfl rfl)
theorem dX4_isSign_32 : decode cX4_isSign 32 = .ok (.ireturn, 1) := dk_172 (dk_at dksX4_isSign_1 8 rfl rfl)
abbrev cX4_any : ByteArray := prog_20_method_48_code
def yX4_any : MethodName := ⟨RX4, "any", "()Z"⟩
def dkwX4_any_1 : List UInt8 := [27, 154, 0, 7, 28, 153, 0, 7, 4, 167, 0, 4, 3, 60, 167, 255, 223, 27, 172]
abbrev dktX4_any_1 : List UInt8 := dkwX4_any_1 ++ []
def dkwX4_any_0 : List UInt8 := [42, 182, 1, 110, 60, 42, 19, 1, 113, 182, 1, 71, 153, 0, 29, 42, 182, 1, 64, 42, 182, 1, 110, 61]
abbrev dktX4_any_0 : List UInt8 := dkwX4_any_0 ++ dktX4_any_1
theorem dksX4_any_0 : cX4_any.data.toList.drop 0 = dktX4_any_0 := by decide +kernel
theorem dksX4_any_1 : cX4_any.data.toList.drop 24 = dktX4_any_1 := dk_seg dksX4_any_0 24 rfl rfl
theorem dX4_any_0 : decode cX4_any 0 = .ok (.aload_n 0, 1) := dk_42 (dk_at dksX4_any_0 0 rfl rfl)
theorem dX4_any_1 : decode cX4_any 1 = .ok (.invokevirtual 366, 3) := dk_182 1 110 (dk_at dksX4_any_0 1 rfl rfl)
theorem dX4_any_4 : decode cX4_any 4 = .ok (.istore_n 1, 1) := dk_60 (dk_at dksX4_any_0 4 rfl rfl)
theorem dX4_any_5 : decode cX4_any 5 = .ok (.aload_n 0, 1) := dk_42 (dk_at dksX4_any_0 5 rfl rfl)
theorem dX4_any_6 : decode cX4_any 6 = .ok (.ldc_w 369, 3) := dk_19 1 113 (dk_at dksX4_any_0 6 rfl rfl)
theorem dX4_any_9 : decode cX4_any 9 = .ok (.invokevirtual 327, 3) := dk_182 1 71 (dk_at dksX4_any_0 9 rfl rfl)
theorem dX4_any_12 : decode cX4_any 12 = .ok (.ifCond .eq 29, 3) := dk_153 0 29 (dk_at dksX4_any_0 12 rfl rfl)
theorem dX4_any_15 : decode cX4_any 15 = .ok (.aload_n 0, 1) := dk_42 (dk_at dksX4_any_0 15 rfl rfl)
theorem dX4_any_16 : decode cX4_any 16 = .ok (.invokevirtual 320, 3) := dk_182 1 64 (dk_at dksX4_any_0 16 rfl rfl)
theorem dX4_any_19 : decode cX4_any 19 = .ok (.aload_n 0, 1) := dk_42 (dk_at dksX4_any_0 19 rfl rfl)
theorem dX4_any_20 : decode cX4_any 20 = .ok (.invokevirtual 366, 3) := dk_182 1 110 (dk_at dksX4_any_0 20 rfl rfl)
theorem dX4_any_23 : decode cX4_any 23 = .ok (.istore_n 2, 1) := dk_61 (dk_at dksX4_any_0 23 rfl rfl)
theorem dX4_any_24 : decode cX4_any 24 = .ok (.iload_n 1, 1) := dk_27 (dk_at dksX4_any_1 0 rfl rfl)
theorem dX4_any_25 : decode cX4_any 25 = .ok (.ifCond .ne 7, 3) := dk_154 0 7 (dk_at dksX4_any_1 1 rfl rfl)
theorem dX4_any_28 : decode cX4_any 28 = .ok (.iload_n 2, 1) := dk_28 (dk_at dksX4_any_1 4 rfl rfl)
theorem dX4_any_29 : decode cX4_any 29 = .ok (.ifCond .eq 7, 3) := dk_153 0 7 (dk_at dksX4_any_1 5 rfl rfl)
theorem dX4_any_32 : decode cX4_any 32 = .ok (.iconst 1, 1) := dk_4 (dk_at dksX4_any_1 8 rfl rfl)
theorem dX4_any_33 : decode cX4_any 33 = .ok (.goto 4, 3) := dk_167 0 4 (dk_at dksX4_any_1 9 rfl rfl)
theorem dX4_any_36 : decode cX4_any 36 = .ok (.iconst 0, 1) := dk_3 (dk_at dksX4_any_1 12 rfl rfl)
theorem dX4_any_37 : decode cX4_any 37 = .ok (.istore_n 1, 1) := dk_60 (dk_at dksX4_any_1 13 rfl rfl)
theorem dX4_any_38 : decode cX4_any 38 = .ok (.goto (-33), 3) := dk_167 255 223 (dk_at dksX4_any_1 14 rfl rfl)
theorem dX4_any_41 : decode cX4_any 41 = .ok (.iload_n 1, 1) := dk_27 (dk_at dksX4_any_1 17 rfl rfl)
theorem dX4_any_42 : decode cX4_any 42 = .ok (.ireturn, 1) := dk_172 (dk_at dksX4_any_1 18 rfl rfl)
abbrev cX4_all : ByteArray := prog_20_method_47_code
def yX4_all : MethodName := ⟨RX4, "all", "()Z"⟩
def dkwX4_all_1 : List UInt8 := [27, 153, 0, 11, 28, 153, 0, 7, 4, 167, 0, 4, 3, 60, 167, 255, 223, 27, 172]
abbrev dktX4_all_1 : List UInt8 := dkwX4_all_1 ++ []
def dkwX4_all_0 : List UInt8 := [42, 182, 1, 105, 60, 42, 19, 1, 108, 182, 1, 71, 153, 0, 29, 42, 182, 1, 64, 42, 182, 1, 105, 61]
abbrev dktX4_all_0 : List UInt8 := dkwX4_all_0 ++ dktX4_all_1
theorem dksX4_all_0 : cX4_all.data.toList.drop 0 = dktX4_all_0 := by decide +kernel
theorem dksX4_all_1 : cX4_all.data.toList.drop 24 = dktX4_all_1 := dk_seg dksX4_all_0 24 rfl rfl
theorem dX4_all_0 : decode cX4_all 0 = .ok (.aload_n 0, 1) := dk_42 (dk_at dksX4_all_0 0 rfl rfl)
theorem dX4_all_1 : decode cX4_all 1 = .ok (.invokevirtual 361, 3) := dk_182 1 105 (dk_at dksX4_all_0 1 rfl rfl)
theorem dX4_all_4 : decode cX4_all 4 = .ok (.istore_n 1, 1) := dk_60 (dk_at dksX4_all_0 4 rfl rfl)
theorem dX4_all_5 : decode cX4_all 5 = .ok (.aload_n 0, 1) := dk_42 (dk_at dksX4_all_0 5 rfl rfl)
theorem dX4_all_6 : decode cX4_all 6 = .ok (.ldc_w 364, 3) := dk_19 1 108 (dk_at dksX4_all_0 6 rfl rfl)
theorem dX4_all_9 : decode cX4_all 9 = .ok (.invokevirtual 327, 3) := dk_182 1 71 (dk_at dksX4_all_0 9 rfl rfl)
theorem dX4_all_12 : decode cX4_all 12 = .ok (.ifCond .eq 29, 3) := dk_153 0 29 (dk_at dksX4_all_0 12 rfl rfl)
theorem dX4_all_15 : decode cX4_all 15 = .ok (.aload_n 0, 1) := dk_42 (dk_at dksX4_all_0 15 rfl rfl)
theorem dX4_all_16 : decode cX4_all 16 = .ok (.invokevirtual 320, 3) := dk_182 1 64 (dk_at dksX4_all_0 16 rfl rfl)
theorem dX4_all_19 : decode cX4_all 19 = .ok (.aload_n 0, 1) := dk_42 (dk_at dksX4_all_0 19 rfl rfl)
theorem dX4_all_20 : decode cX4_all 20 = .ok (.invokevirtual 361, 3) := dk_182 1 105 (dk_at dksX4_all_0 20 rfl rfl)
theorem dX4_all_23 : decode cX4_all 23 = .ok (.istore_n 2, 1) := dk_61 (dk_at dksX4_all_0 23 rfl rfl)
theorem dX4_all_24 : decode cX4_all 24 = .ok (.iload_n 1, 1) := dk_27 (dk_at dksX4_all_1 0 rfl rfl)
theorem dX4_all_25 : decode cX4_all 25 = .ok (.ifCond .eq 11, 3) := dk_153 0 11 (dk_at dksX4_all_1 1 rfl rfl)
theorem dX4_all_28 : decode cX4_all 28 = .ok (.iload_n 2, 1) := dk_28 (dk_at dksX4_all_1 4 rfl rfl)
theorem dX4_all_29 : decode cX4_all 29 = .ok (.ifCond .eq 7, 3) := dk_153 0 7 (dk_at dksX4_all_1 5 rfl rfl)
theorem dX4_all_32 : decode cX4_all 32 = .ok (.iconst 1, 1) := dk_4 (dk_at dksX4_all_1 8 rfl rfl)
theorem dX4_all_33 : decode cX4_all 33 = .ok (.goto 4, 3) := dk_167 0 4 (dk_at dksX4_all_1 9 rfl rfl)
theorem dX4_all_36 : decode cX4_all 36 = .ok (.iconst 0, 1) := dk_3 (dk_at dksX4_all_1 12 rfl rfl)
theorem dX4_all_37 : decode cX4_all 37 = .ok (.istore_n 1, 1) := dk_60 (dk_at dksX4_all_1 13 rfl rfl)
theorem dX4_all_38 : decode cX4_all 38 = .ok (.goto (-33), 3) := dk_167 255 223 (dk_at dksX4_all_1 14 rfl rfl)
theorem dX4_all_41 : decode cX4_all 41 = .ok (.iload_n 1, 1) := dk_27 (dk_at dksX4_all_1 17 rfl rfl)
theorem dX4_all_42 : decode cX4_all 42 = .ok (.ireturn, 1) := dk_172 (dk_at dksX4_all_1 18 rfl rfl)
abbrev cX4_one : ByteArray := prog_20_method_46_code
def yX4_one : MethodName := ⟨RX4, "one", "()Z"⟩
def dkwX4_one_6 : List UInt8 := [167, 0, 17, 3, 167, 0, 13, 27, 29, 160, 0, 7, 4, 167, 0, 4, 3, 172]
abbrev dktX4_one_6 : List UInt8 := dkwX4_one_6 ++ []
def dkwX4_one_5 : List UInt8 := [29, 162, 0, 7, 4, 167, 0, 35, 3, 167, 0, 31, 28, 4, 160, 0, 16, 27, 29, 164, 0, 7, 4]
abbrev dktX4_one_5 : List UInt8 := dkwX4_one_5 ++ dktX4_one_6
def dkwX4_one_4 : List UInt8 := [160, 0, 10, 42, 4, 182, 1, 67, 3, 172, 42, 182, 1, 64, 42, 182, 1, 91, 62, 28, 154, 0, 16, 27]
abbrev dktX4_one_4 : List UInt8 := dkwX4_one_4 ++ dktX4_one_5
def dkwX4_one_3 : List UInt8 := [153, 0, 7, 4, 167, 0, 17, 42, 16, 61, 182, 1, 61, 153, 0, 7, 5, 167, 0, 4, 2, 61, 28, 2]
abbrev dktX4_one_3 : List UInt8 := dkwX4_one_3 ++ dktX4_one_4
def dkwX4_one_2 : List UInt8 := [42, 182, 1, 91, 60, 42, 16, 60, 182, 1, 61, 153, 0, 7, 3, 167, 0, 30, 42, 16, 62, 182, 1, 61]
abbrev dktX4_one_2 : List UInt8 := dkwX4_one_2 ++ dktX4_one_3
def dkwX4_one_1 : List UInt8 := [182, 1, 105, 60, 42, 89, 180, 1, 75, 4, 100, 181, 1, 75, 27, 154, 0, 7, 4, 167, 0, 4, 3, 172]
abbrev dktX4_one_1 : List UInt8 := dkwX4_one_1 ++ dktX4_one_2
def dkwX4_one_0 : List UInt8 := [42, 180, 1, 45, 153, 0, 5, 3, 172, 42, 19, 1, 103, 182, 1, 71, 153, 0, 32, 42, 182, 1, 88, 42]
abbrev dktX4_one_0 : List UInt8 := dkwX4_one_0 ++ dktX4_one_1
theorem dksX4_one_0 : cX4_one.data.toList.drop 0 = dktX4_one_0 := by decide +kernel
theorem dksX4_one_1 : cX4_one.data.toList.drop 24 = dktX4_one_1 := dk_seg dksX4_one_0 24 rfl rfl
theorem dksX4_one_2 : cX4_one.data.toList.drop 48 = dktX4_one_2 := dk_seg dksX4_one_1 24 rfl rfl
theorem dksX4_one_3 : cX4_one.data.toList.drop 72 = dktX4_one_3 := dk_seg dksX4_one_2 24 rfl rfl
theorem dksX4_one_4 : cX4_one.data.toList.drop 96 = dktX4_one_4 := dk_seg dksX4_one_3 24 rfl rfl
theorem dksX4_one_5 : cX4_one.data.toList.drop 120 = dktX4_one_5 := dk_seg dksX4_one_4 24 rfl rfl
theorem dksX4_one_6 : cX4_one.data.toList.drop 143 = dktX4_one_6 := dk_seg dksX4_one_5 23 rfl rfl
theorem dX4_one_0 : decode cX4_one 0 = .ok (.aload_n 0, 1) := dk_42 (dk_at dksX4_one_0 0 rfl rfl)
theorem dX4_one_1 : decode cX4_one 1 = .ok (.getfield 301, 3) := dk_180 1 45 (dk_at dksX4_one_0 1 rfl rfl)
theorem dX4_one_4 : decode cX4_one 4 = .ok (.ifCond .eq 5, 3) := dk_153 0 5 (dk_at dksX4_one_0 4 rfl rfl)
theorem dX4_one_7 : decode cX4_one 7 = .ok (.iconst 0, 1) := dk_3 (dk_at dksX4_one_0 7 rfl rfl)
theorem dX4_one_8 : decode cX4_one 8 = .ok (.ireturn, 1) := dk_172 (dk_at dksX4_one_0 8 rfl rfl)
theorem dX4_one_9 : decode cX4_one 9 = .ok (.aload_n 0, 1) := dk_42 (dk_at dksX4_one_0 9 rfl rfl)
theorem dX4_one_10 : decode cX4_one 10 = .ok (.ldc_w 359, 3) := dk_19 1 103 (dk_at dksX4_one_0 10 rfl rfl)
theorem dX4_one_13 : decode cX4_one 13 = .ok (.invokevirtual 327, 3) := dk_182 1 71 (dk_at dksX4_one_0 13 rfl rfl)
theorem dX4_one_16 : decode cX4_one 16 = .ok (.ifCond .eq 32, 3) := dk_153 0 32 (dk_at dksX4_one_0 16 rfl rfl)
theorem dX4_one_19 : decode cX4_one 19 = .ok (.aload_n 0, 1) := dk_42 (dk_at dksX4_one_0 19 rfl rfl)
theorem dX4_one_20 : decode cX4_one 20 = .ok (.invokevirtual 344, 3) := dk_182 1 88 (dk_at dksX4_one_0 20 rfl rfl)
theorem dX4_one_23 : decode cX4_one 23 = .ok (.aload_n 0, 1) := dk_42 (dk_at dksX4_one_0 23 rfl rfl)
theorem dX4_one_24 : decode cX4_one 24 = .ok (.invokevirtual 361, 3) := dk_182 1 105 (dk_at dksX4_one_1 0 rfl rfl)
theorem dX4_one_27 : decode cX4_one 27 = .ok (.istore_n 1, 1) := dk_60 (dk_at dksX4_one_1 3 rfl rfl)
theorem dX4_one_28 : decode cX4_one 28 = .ok (.aload_n 0, 1) := dk_42 (dk_at dksX4_one_1 4 rfl rfl)
theorem dX4_one_29 : decode cX4_one 29 = .ok (.dup, 1) := dk_89 (dk_at dksX4_one_1 5 rfl rfl)
theorem dX4_one_30 : decode cX4_one 30 = .ok (.getfield 331, 3) := dk_180 1 75 (dk_at dksX4_one_1 6 rfl rfl)
theorem dX4_one_33 : decode cX4_one 33 = .ok (.iconst 1, 1) := dk_4 (dk_at dksX4_one_1 9 rfl rfl)
theorem dX4_one_34 : decode cX4_one 34 = .ok (.isub, 1) := dk_100 (dk_at dksX4_one_1 10 rfl rfl)
theorem dX4_one_35 : decode cX4_one 35 = .ok (.putfield 331, 3) := dk_181 1 75 (dk_at dksX4_one_1 11 rfl rfl)
theorem dX4_one_38 : decode cX4_one 38 = .ok (.iload_n 1, 1) := dk_27 (dk_at dksX4_one_1 14 rfl rfl)
theorem dX4_one_39 : decode cX4_one 39 = .ok (.ifCond .ne 7, 3) := dk_154 0 7 (dk_at dksX4_one_1 15 rfl rfl)
theorem dX4_one_42 : decode cX4_one 42 = .ok (.iconst 1, 1) := dk_4 (dk_at dksX4_one_1 18 rfl rfl)
theorem dX4_one_43 : decode cX4_one 43 = .ok (.goto 4, 3) := dk_167 0 4 (dk_at dksX4_one_1 19 rfl rfl)
theorem dX4_one_46 : decode cX4_one 46 = .ok (.iconst 0, 1) := dk_3 (dk_at dksX4_one_1 22 rfl rfl)
theorem dX4_one_47 : decode cX4_one 47 = .ok (.ireturn, 1) := dk_172 (dk_at dksX4_one_1 23 rfl rfl)
theorem dX4_one_48 : decode cX4_one 48 = .ok (.aload_n 0, 1) := dk_42 (dk_at dksX4_one_2 0 rfl rfl)
theorem dX4_one_49 : decode cX4_one 49 = .ok (.invokevirtual 347, 3) := dk_182 1 91 (dk_at dksX4_one_2 1 rfl rfl)
theorem dX4_one_52 : decode cX4_one 52 = .ok (.istore_n 1, 1) := dk_60 (dk_at dksX4_one_2 4 rfl rfl)
theorem dX4_one_53 : decode cX4_one 53 = .ok (.aload_n 0, 1) := dk_42 (dk_at dksX4_one_2 5 rfl rfl)
theorem dX4_one_54 : decode cX4_one 54 = .ok (.bipush 60, 2) := dk_16 60 (dk_at dksX4_one_2 6 rfl rfl)
theorem dX4_one_56 : decode cX4_one 56 = .ok (.invokevirtual 317, 3) := dk_182 1 61 (dk_at dksX4_one_2 8 rfl rfl)
theorem dX4_one_59 : decode cX4_one 59 = .ok (.ifCond .eq 7, 3) := dk_153 0 7 (dk_at dksX4_one_2 11 rfl rfl)
theorem dX4_one_62 : decode cX4_one 62 = .ok (.iconst 0, 1) := dk_3 (dk_at dksX4_one_2 14 rfl rfl)
theorem dX4_one_63 : decode cX4_one 63 = .ok (.goto 30, 3) := dk_167 0 30 (dk_at dksX4_one_2 15 rfl rfl)
theorem dX4_one_66 : decode cX4_one 66 = .ok (.aload_n 0, 1) := dk_42 (dk_at dksX4_one_2 18 rfl rfl)
theorem dX4_one_67 : decode cX4_one 67 = .ok (.bipush 62, 2) := dk_16 62 (dk_at dksX4_one_2 19 rfl rfl)
theorem dX4_one_69 : decode cX4_one 69 = .ok (.invokevirtual 317, 3) := dk_182 1 61 (dk_at dksX4_one_2 21 rfl rfl)
theorem dX4_one_72 : decode cX4_one 72 = .ok (.ifCond .eq 7, 3) := dk_153 0 7 (dk_at dksX4_one_3 0 rfl rfl)
theorem dX4_one_75 : decode cX4_one 75 = .ok (.iconst 1, 1) := dk_4 (dk_at dksX4_one_3 3 rfl rfl)
theorem dX4_one_76 : decode cX4_one 76 = .ok (.goto 17, 3) := dk_167 0 17 (dk_at dksX4_one_3 4 rfl rfl)
theorem dX4_one_79 : decode cX4_one 79 = .ok (.aload_n 0, 1) := dk_42 (dk_at dksX4_one_3 7 rfl rfl)
theorem dX4_one_80 : decode cX4_one 80 = .ok (.bipush 61, 2) := dk_16 61 (dk_at dksX4_one_3 8 rfl rfl)
theorem dX4_one_82 : decode cX4_one 82 = .ok (.invokevirtual 317, 3) := dk_182 1 61 (dk_at dksX4_one_3 10 rfl rfl)
theorem dX4_one_85 : decode cX4_one 85 = .ok (.ifCond .eq 7, 3) := dk_153 0 7 (dk_at dksX4_one_3 13 rfl rfl)
theorem dX4_one_88 : decode cX4_one 88 = .ok (.iconst 2, 1) := dk_5 (dk_at dksX4_one_3 16 rfl rfl)
theorem dX4_one_89 : decode cX4_one 89 = .ok (.goto 4, 3) := dk_167 0 4 (dk_at dksX4_one_3 17 rfl rfl)
theorem dX4_one_92 : decode cX4_one 92 = .ok (.iconst (-1), 1) := dk_2 (dk_at dksX4_one_3 20 rfl rfl)
theorem dX4_one_93 : decode cX4_one 93 = .ok (.istore_n 2, 1) := dk_61 (dk_at dksX4_one_3 21 rfl rfl)
theorem dX4_one_94 : decode cX4_one 94 = .ok (.iload_n 2, 1) := dk_28 (dk_at dksX4_one_3 22 rfl rfl)
theorem dX4_one_95 : decode cX4_one 95 = .ok (.iconst (-1), 1) := dk_2 (dk_at dksX4_one_3 23 rfl rfl)
theorem dX4_one_96 : decode cX4_one 96 = .ok (.if_icmp .ne 10, 3) := dk_160 0 10 (dk_at dksX4_one_4 0 rfl rfl)
theorem dX4_one_99 : decode cX4_one 99 = .ok (.aload_n 0, 1) := dk_42 (dk_at dksX4_one_4 3 rfl rfl)
theorem dX4_one_100 : decode cX4_one 100 = .ok (.iconst 1, 1) := dk_4 (dk_at dksX4_one_4 4 rfl rfl)
theorem dX4_one_101 : decode cX4_one 101 = .ok (.invokevirtual 323, 3) := dk_182 1 67 (dk_at dksX4_one_4 5 rfl rfl)
theorem dX4_one_104 : decode cX4_one 104 = .ok (.iconst 0, 1) := dk_3 (dk_at dksX4_one_4 8 rfl rfl)
theorem dX4_one_105 : decode cX4_one 105 = .ok (.ireturn, 1) := dk_172 (dk_at dksX4_one_4 9 rfl rfl)
theorem dX4_one_106 : decode cX4_one 106 = .ok (.aload_n 0, 1) := dk_42 (dk_at dksX4_one_4 10 rfl rfl)
theorem dX4_one_107 : decode cX4_one 107 = .ok (.invokevirtual 320, 3) := dk_182 1 64 (dk_at dksX4_one_4 11 rfl rfl)
theorem dX4_one_110 : decode cX4_one 110 = .ok (.aload_n 0, 1) := dk_42 (dk_at dksX4_one_4 14 rfl rfl)
theorem dX4_one_111 : decode cX4_one 111 = .ok (.invokevirtual 347, 3) := dk_182 1 91 (dk_at dksX4_one_4 15 rfl rfl)
theorem dX4_one_114 : decode cX4_one 114 = .ok (.istore_n 3, 1) := dk_62 (dk_at dksX4_one_4 18 rfl rfl)
theorem dX4_one_115 : decode cX4_one 115 = .ok (.iload_n 2, 1) := dk_28 (dk_at dksX4_one_4 19 rfl rfl)
theorem dX4_one_116 : decode cX4_one 116 = .ok (.ifCond .ne 16, 3) := dk_154 0 16 (dk_at dksX4_one_4 20 rfl rfl)
theorem dX4_one_119 : decode cX4_one 119 = .ok (.iload_n 1, 1) := dk_27 (dk_at dksX4_one_4 23 rfl rfl)
theorem dX4_one_120 : decode cX4_one 120 = .ok (.iload_n 3, 1) := dk_29 (dk_at dksX4_one_5 0 rfl rfl)
theorem dX4_one_121 : decode cX4_one 121 = .ok (.if_icmp .ge 7, 3) := dk_162 0 7 (dk_at dksX4_one_5 1 rfl rfl)
theorem dX4_one_124 : decode cX4_one 124 = .ok (.iconst 1, 1) := dk_4 (dk_at dksX4_one_5 4 rfl rfl)
theorem dX4_one_125 : decode cX4_one 125 = .ok (.goto 35, 3) := dk_167 0 35 (dk_at dksX4_one_5 5 rfl rfl)
theorem dX4_one_128 : decode cX4_one 128 = .ok (.iconst 0, 1) := dk_3 (dk_at dksX4_one_5 8 rfl rfl)
theorem dX4_one_129 : decode cX4_one 129 = .ok (.goto 31, 3) := dk_167 0 31 (dk_at dksX4_one_5 9 rfl rfl)
theorem dX4_one_132 : decode cX4_one 132 = .ok (.iload_n 2, 1) := dk_28 (dk_at dksX4_one_5 12 rfl rfl)
theorem dX4_one_133 : decode cX4_one 133 = .ok (.iconst 1, 1) := dk_4 (dk_at dksX4_one_5 13 rfl rfl)
theorem dX4_one_134 : decode cX4_one 134 = .ok (.if_icmp .ne 16, 3) := dk_160 0 16 (dk_at dksX4_one_5 14 rfl rfl)
theorem dX4_one_137 : decode cX4_one 137 = .ok (.iload_n 1, 1) := dk_27 (dk_at dksX4_one_5 17 rfl rfl)
theorem dX4_one_138 : decode cX4_one 138 = .ok (.iload_n 3, 1) := dk_29 (dk_at dksX4_one_5 18 rfl rfl)
theorem dX4_one_139 : decode cX4_one 139 = .ok (.if_icmp .le 7, 3) := dk_164 0 7 (dk_at dksX4_one_5 19 rfl rfl)
theorem dX4_one_142 : decode cX4_one 142 = .ok (.iconst 1, 1) := dk_4 (dk_at dksX4_one_5 22 rfl rfl)
theorem dX4_one_143 : decode cX4_one 143 = .ok (.goto 17, 3) := dk_167 0 17 (dk_at dksX4_one_6 0 rfl rfl)
theorem dX4_one_146 : decode cX4_one 146 = .ok (.iconst 0, 1) := dk_3 (dk_at dksX4_one_6 3 rfl rfl)
theorem dX4_one_147 : decode cX4_one 147 = .ok (.goto 13, 3) := dk_167 0 13 (dk_at dksX4_one_6 4 rfl rfl)
theorem dX4_one_150 : decode cX4_one 150 = .ok (.iload_n 1, 1) := dk_27 (dk_at dksX4_one_6 7 rfl rfl)
theorem dX4_one_151 : decode cX4_one 151 = .ok (.iload_n 3, 1) := dk_29 (dk_at dksX4_one_6 8 rfl rfl)
theorem dX4_one_152 : decode cX4_one 152 = .ok (.if_icmp .ne 7, 3) := dk_160 0 7 (dk_at dksX4_one_6 9 rfl rfl)
theorem dX4_one_155 : decode cX4_one 155 = .ok (.iconst 1, 1) := dk_4 (dk_at dksX4_one_6 12 rfl rfl)
theorem dX4_one_156 : decode cX4_one 156 = .ok (.goto 4, 3) := dk_167 0 4 (dk_at dksX4_one_6 13 rfl rfl)
theorem dX4_one_159 : decode cX4_one 159 = .ok (.iconst 0, 1) := dk_3 (dk_at dksX4_one_6 16 rfl rfl)
theorem dX4_one_160 : decode cX4_one 160 = .ok (.ireturn, 1) := dk_172 (dk_at dksX4_one_6 17 rfl rfl)
abbrev cX4_is : ByteArray := prog_20_method_38_code
def yX4_is : MethodName := ⟨RX4, "is", "(Ljava/lang/String;)Z"⟩
def dkwX4_is_3 : List UInt8 := [167, 0, 4, 3, 61, 132, 3, 1, 167, 255, 217, 28, 172]
abbrev dktX4_is_3 : List UInt8 := dkwX4_is_3 ++ []
def dkwX4_is_2 : List UInt8 := [162, 0, 33, 42, 42, 180, 1, 27, 29, 96, 182, 1, 23, 43, 29, 182, 1, 57, 160, 0, 7, 4]
abbrev dktX4_is_2 : List UInt8 := dkwX4_is_2 ++ dktX4_is_3
def dkwX4_is_1 : List UInt8 := [43, 182, 1, 51, 160, 0, 7, 4, 167, 0, 4, 3, 61, 3, 62, 28, 153, 0, 41, 29, 43, 182, 1, 51]
abbrev dktX4_is_1 : List UInt8 := dkwX4_is_1 ++ dktX4_is_2
def dkwX4_is_0 : List UInt8 := [42, 180, 1, 45, 154, 0, 31, 42, 180, 1, 30, 4, 160, 0, 23, 42, 180, 1, 20, 42, 180, 1, 27, 100]
abbrev dktX4_is_0 : List UInt8 := dkwX4_is_0 ++ dktX4_is_1
theorem dksX4_is_0 : cX4_is.data.toList.drop 0 = dktX4_is_0 := by decide +kernel
theorem dksX4_is_1 : cX4_is.data.toList.drop 24 = dktX4_is_1 := dk_seg dksX4_is_0 24 rfl rfl
theorem dksX4_is_2 : cX4_is.data.toList.drop 48 = dktX4_is_2 := dk_seg dksX4_is_1 24 rfl rfl
theorem dksX4_is_3 : cX4_is.data.toList.drop 70 = dktX4_is_3 := dk_seg dksX4_is_2 22 rfl rfl
theorem dX4_is_0 : decode cX4_is 0 = .ok (.aload_n 0, 1) := dk_42 (dk_at dksX4_is_0 0 rfl rfl)
theorem dX4_is_1 : decode cX4_is 1 = .ok (.getfield 301, 3) := dk_180 1 45 (dk_at dksX4_is_0 1 rfl rfl)
theorem dX4_is_4 : decode cX4_is 4 = .ok (.ifCond .ne 31, 3) := dk_154 0 31 (dk_at dksX4_is_0 4 rfl rfl)
theorem dX4_is_7 : decode cX4_is 7 = .ok (.aload_n 0, 1) := dk_42 (dk_at dksX4_is_0 7 rfl rfl)
theorem dX4_is_8 : decode cX4_is 8 = .ok (.getfield 286, 3) := dk_180 1 30 (dk_at dksX4_is_0 8 rfl rfl)
theorem dX4_is_11 : decode cX4_is 11 = .ok (.iconst 1, 1) := dk_4 (dk_at dksX4_is_0 11 rfl rfl)
theorem dX4_is_12 : decode cX4_is 12 = .ok (.if_icmp .ne 23, 3) := dk_160 0 23 (dk_at dksX4_is_0 12 rfl rfl)
theorem dX4_is_15 : decode cX4_is 15 = .ok (.aload_n 0, 1) := dk_42 (dk_at dksX4_is_0 15 rfl rfl)
theorem dX4_is_16 : decode cX4_is 16 = .ok (.getfield 276, 3) := dk_180 1 20 (dk_at dksX4_is_0 16 rfl rfl)
theorem dX4_is_19 : decode cX4_is 19 = .ok (.aload_n 0, 1) := dk_42 (dk_at dksX4_is_0 19 rfl rfl)
theorem dX4_is_20 : decode cX4_is 20 = .ok (.getfield 283, 3) := dk_180 1 27 (dk_at dksX4_is_0 20 rfl rfl)
theorem dX4_is_23 : decode cX4_is 23 = .ok (.isub, 1) := dk_100 (dk_at dksX4_is_0 23 rfl rfl)
theorem dX4_is_24 : decode cX4_is 24 = .ok (.aload_n 1, 1) := dk_43 (dk_at dksX4_is_1 0 rfl rfl)
theorem dX4_is_25 : decode cX4_is 25 = .ok (.invokevirtual 307, 3) := dk_182 1 51 (dk_at dksX4_is_1 1 rfl rfl)
theorem dX4_is_28 : decode cX4_is 28 = .ok (.if_icmp .ne 7, 3) := dk_160 0 7 (dk_at dksX4_is_1 4 rfl rfl)
theorem dX4_is_31 : decode cX4_is 31 = .ok (.iconst 1, 1) := dk_4 (dk_at dksX4_is_1 7 rfl rfl)
theorem dX4_is_32 : decode cX4_is 32 = .ok (.goto 4, 3) := dk_167 0 4 (dk_at dksX4_is_1 8 rfl rfl)
theorem dX4_is_35 : decode cX4_is 35 = .ok (.iconst 0, 1) := dk_3 (dk_at dksX4_is_1 11 rfl rfl)
theorem dX4_is_36 : decode cX4_is 36 = .ok (.istore_n 2, 1) := dk_61 (dk_at dksX4_is_1 12 rfl rfl)
theorem dX4_is_37 : decode cX4_is 37 = .ok (.iconst 0, 1) := dk_3 (dk_at dksX4_is_1 13 rfl rfl)
theorem dX4_is_38 : decode cX4_is 38 = .ok (.istore_n 3, 1) := dk_62 (dk_at dksX4_is_1 14 rfl rfl)
theorem dX4_is_39 : decode cX4_is 39 = .ok (.iload_n 2, 1) := dk_28 (dk_at dksX4_is_1 15 rfl rfl)
theorem dX4_is_40 : decode cX4_is 40 = .ok (.ifCond .eq 41, 3) := dk_153 0 41 (dk_at dksX4_is_1 16 rfl rfl)
theorem dX4_is_43 : decode cX4_is 43 = .ok (.iload_n 3, 1) := dk_29 (dk_at dksX4_is_1 19 rfl rfl)
theorem dX4_is_44 : decode cX4_is 44 = .ok (.aload_n 1, 1) := dk_43 (dk_at dksX4_is_1 20 rfl rfl)
theorem dX4_is_45 : decode cX4_is 45 = .ok (.invokevirtual 307, 3) := dk_182 1 51 (dk_at dksX4_is_1 21 rfl rfl)
theorem dX4_is_48 : decode cX4_is 48 = .ok (.if_icmp .ge 33, 3) := dk_162 0 33 (dk_at dksX4_is_2 0 rfl rfl)
theorem dX4_is_51 : decode cX4_is 51 = .ok (.aload_n 0, 1) := dk_42 (dk_at dksX4_is_2 3 rfl rfl)
theorem dX4_is_52 : decode cX4_is 52 = .ok (.aload_n 0, 1) := dk_42 (dk_at dksX4_is_2 4 rfl rfl)
theorem dX4_is_53 : decode cX4_is 53 = .ok (.getfield 283, 3) := dk_180 1 27 (dk_at dksX4_is_2 5 rfl rfl)
theorem dX4_is_56 : decode cX4_is 56 = .ok (.iload_n 3, 1) := dk_29 (dk_at dksX4_is_2 8 rfl rfl)
theorem dX4_is_57 : decode cX4_is 57 = .ok (.iadd, 1) := dk_96 (dk_at dksX4_is_2 9 rfl rfl)
theorem dX4_is_58 : decode cX4_is 58 = .ok (.invokevirtual 279, 3) := dk_182 1 23 (dk_at dksX4_is_2 10 rfl rfl)
theorem dX4_is_61 : decode cX4_is 61 = .ok (.aload_n 1, 1) := dk_43 (dk_at dksX4_is_2 13 rfl rfl)
theorem dX4_is_62 : decode cX4_is 62 = .ok (.iload_n 3, 1) := dk_29 (dk_at dksX4_is_2 14 rfl rfl)
theorem dX4_is_63 : decode cX4_is 63 = .ok (.invokevirtual 313, 3) := dk_182 1 57 (dk_at dksX4_is_2 15 rfl rfl)
theorem dX4_is_66 : decode cX4_is 66 = .ok (.if_icmp .ne 7, 3) := dk_160 0 7 (dk_at dksX4_is_2 18 rfl rfl)
theorem dX4_is_69 : decode cX4_is 69 = .ok (.iconst 1, 1) := dk_4 (dk_at dksX4_is_2 21 rfl rfl)
theorem dX4_is_70 : decode cX4_is 70 = .ok (.goto 4, 3) := dk_167 0 4 (dk_at dksX4_is_3 0 rfl rfl)
theorem dX4_is_73 : decode cX4_is 73 = .ok (.iconst 0, 1) := dk_3 (dk_at dksX4_is_3 3 rfl rfl)
theorem dX4_is_74 : decode cX4_is 74 = .ok (.istore_n 2, 1) := dk_61 (dk_at dksX4_is_3 4 rfl rfl)
theorem dX4_is_75 : decode cX4_is 75 = .ok (.iinc 3 1, 3) := dk_132 3 1 (dk_at dksX4_is_3 5 rfl rfl)
theorem dX4_is_78 : decode cX4_is 78 = .ok (.goto (-39), 3) := dk_167 255 217 (dk_at dksX4_is_3 8 rfl rfl)
theorem dX4_is_81 : decode cX4_is 81 = .ok (.iload_n 2, 1) := dk_28 (dk_at dksX4_is_3 11 rfl rfl)
theorem dX4_is_82 : decode cX4_is 82 = .ok (.ireturn, 1) := dk_172 (dk_at dksX4_is_3 12 rfl rfl)
abbrev cX4_goesIn : ByteArray := prog_20_method_42_code
def yX4_goesIn : MethodName := ⟨RX4, "goesIn", "()V"⟩
def dkwX4_goesIn_1 : List UInt8 := [180, 1, 75, 4, 96, 181, 1, 75, 42, 182, 1, 64, 177]
abbrev dktX4_goesIn_1 : List UInt8 := dkwX4_goesIn_1 ++ []
def dkwX4_goesIn_0 : List UInt8 := [42, 180, 1, 75, 16, 8, 160, 0, 8, 42, 5, 182, 1, 67, 42, 180, 1, 45, 153, 0, 4, 177, 42, 89]
abbrev dktX4_goesIn_0 : List UInt8 := dkwX4_goesIn_0 ++ dktX4_goesIn_1
theorem dksX4_goesIn_0 : cX4_goesIn.data.toList.drop 0 = dktX4_goesIn_0 := by decide +kernel
theorem dksX4_goesIn_1 : cX4_goesIn.data.toList.drop 24 = dktX4_goesIn_1 := dk_seg dksX4_goesIn_0 24 rfl rfl
theorem dX4_goesIn_0 : decode cX4_goesIn 0 = .ok (.aload_n 0, 1) := dk_42 (dk_at dksX4_goesIn_0 0 rfl rfl)
theorem dX4_goesIn_1 : decode cX4_goesIn 1 = .ok (.getfield 331, 3) := dk_180 1 75 (dk_at dksX4_goesIn_0 1 rfl rfl)
theorem dX4_goesIn_4 : decode cX4_goesIn 4 = .ok (.bipush 8, 2) := dk_16 8 (dk_at dksX4_goesIn_0 4 rfl rfl)
theorem dX4_goesIn_6 : decode cX4_goesIn 6 = .ok (.if_icmp .ne 8, 3) := dk_160 0 8 (dk_at dksX4_goesIn_0 6 rfl rfl)
theorem dX4_goesIn_9 : decode cX4_goesIn 9 = .ok (.aload_n 0, 1) := dk_42 (dk_at dksX4_goesIn_0 9 rfl rfl)
theorem dX4_goesIn_10 : decode cX4_goesIn 10 = .ok (.iconst 2, 1) := dk_5 (dk_at dksX4_goesIn_0 10 rfl rfl)
theorem dX4_goesIn_11 : decode cX4_goesIn 11 = .ok (.invokevirtual 323, 3) := dk_182 1 67 (dk_at dksX4_goesIn_0 11 rfl rfl)
theorem dX4_goesIn_14 : decode cX4_goesIn 14 = .ok (.aload_n 0, 1) := dk_42 (dk_at dksX4_goesIn_0 14 rfl rfl)
theorem dX4_goesIn_15 : decode cX4_goesIn 15 = .ok (.getfield 301, 3) := dk_180 1 45 (dk_at dksX4_goesIn_0 15 rfl rfl)
theorem dX4_goesIn_18 : decode cX4_goesIn 18 = .ok (.ifCond .eq 4, 3) := dk_153 0 4 (dk_at dksX4_goesIn_0 18 rfl rfl)
theorem dX4_goesIn_21 : decode cX4_goesIn 21 = .ok (.return_, 1) := dk_177 (dk_at dksX4_goesIn_0 21 rfl rfl)
theorem dX4_goesIn_22 : decode cX4_goesIn 22 = .ok (.aload_n 0, 1) := dk_42 (dk_at dksX4_goesIn_0 22 rfl rfl)
theorem dX4_goesIn_23 : decode cX4_goesIn 23 = .ok (.dup, 1) := dk_89 (dk_at dksX4_goesIn_0 23 rfl rfl)
theorem dX4_goesIn_24 : decode cX4_goesIn 24 = .ok (.getfield 331, 3) := dk_180 1 75 (dk_at dksX4_goesIn_1 0 rfl rfl)
theorem dX4_goesIn_27 : decode cX4_goesIn 27 = .ok (.iconst 1, 1) := dk_4 (dk_at dksX4_goesIn_1 3 rfl rfl)
theorem dX4_goesIn_28 : decode cX4_goesIn 28 = .ok (.iadd, 1) := dk_96 (dk_at dksX4_goesIn_1 4 rfl rfl)
theorem dX4_goesIn_29 : decode cX4_goesIn 29 = .ok (.putfield 331, 3) := dk_181 1 75 (dk_at dksX4_goesIn_1 5 rfl rfl)
theorem dX4_goesIn_32 : decode cX4_goesIn 32 = .ok (.aload_n 0, 1) := dk_42 (dk_at dksX4_goesIn_1 8 rfl rfl)
theorem dX4_goesIn_33 : decode cX4_goesIn 33 = .ok (.invokevirtual 320, 3) := dk_182 1 64 (dk_at dksX4_goesIn_1 9 rfl rfl)
theorem dX4_goesIn_36 : decode cX4_goesIn 36 = .ok (.return_, 1) := dk_177 (dk_at dksX4_goesIn_1 12 rfl rfl)
abbrev cX4_sum : ByteArray := prog_20_method_45_code
def yX4_sum : MethodName := ⟨RX4, "sum", "()I"⟩
def dkwX4_sum_2 : List UInt8 := [28, 153, 0, 9, 27, 29, 96, 167, 0, 6, 27, 29, 100, 60, 167, 255, 208, 27, 172]
abbrev dktX4_sum_2 : List UInt8 := dkwX4_sum_2 ++ []
def dkwX4_sum_1 : List UInt8 := [16, 45, 182, 1, 61, 153, 0, 36, 42, 16, 43, 182, 1, 61, 61, 42, 182, 1, 64, 42, 182, 1, 100, 62]
abbrev dktX4_sum_1 : List UInt8 := dkwX4_sum_1 ++ dktX4_sum_2
def dkwX4_sum_0 : List UInt8 := [42, 180, 1, 45, 153, 0, 5, 3, 172, 42, 182, 1, 100, 60, 42, 16, 43, 182, 1, 61, 154, 0, 12, 42]
abbrev dktX4_sum_0 : List UInt8 := dkwX4_sum_0 ++ dktX4_sum_1
theorem dksX4_sum_0 : cX4_sum.data.toList.drop 0 = dktX4_sum_0 := by decide +kernel
theorem dksX4_sum_1 : cX4_sum.data.toList.drop 24 = dktX4_sum_1 := dk_seg dksX4_sum_0 24 rfl rfl
theorem dksX4_sum_2 : cX4_sum.data.toList.drop 48 = dktX4_sum_2 := dk_seg dksX4_sum_1 24 rfl rfl
theorem dX4_sum_0 : decode cX4_sum 0 = .ok (.aload_n 0, 1) := dk_42 (dk_at dksX4_sum_0 0 rfl rfl)
theorem dX4_sum_1 : decode cX4_sum 1 = .ok (.getfield 301, 3) := dk_180 1 45 (dk_at dksX4_sum_0 1 rfl rfl)
theorem dX4_sum_4 : decode cX4_sum 4 = .ok (.ifCond .eq 5, 3) := dk_153 0 5 (dk_at dksX4_sum_0 4 rfl rfl)
theorem dX4_sum_7 : decode cX4_sum 7 = .ok (.iconst 0, 1) := dk_3 (dk_at dksX4_sum_0 7 rfl rfl)
theorem dX4_sum_8 : decode cX4_sum 8 = .ok (.ireturn, 1) := dk_172 (dk_at dksX4_sum_0 8 rfl rfl)
theorem dX4_sum_9 : decode cX4_sum 9 = .ok (.aload_n 0, 1) := dk_42 (dk_at dksX4_sum_0 9 rfl rfl)
theorem dX4_sum_10 : decode cX4_sum 10 = .ok (.invokevirtual 356, 3) := dk_182 1 100 (dk_at dksX4_sum_0 10 rfl rfl)
theorem dX4_sum_13 : decode cX4_sum 13 = .ok (.istore_n 1, 1) := dk_60 (dk_at dksX4_sum_0 13 rfl rfl)
theorem dX4_sum_14 : decode cX4_sum 14 = .ok (.aload_n 0, 1) := dk_42 (dk_at dksX4_sum_0 14 rfl rfl)
theorem dX4_sum_15 : decode cX4_sum 15 = .ok (.bipush 43, 2) := dk_16 43 (dk_at dksX4_sum_0 15 rfl rfl)
theorem dX4_sum_17 : decode cX4_sum 17 = .ok (.invokevirtual 317, 3) := dk_182 1 61 (dk_at dksX4_sum_0 17 rfl rfl)
theorem dX4_sum_20 : decode cX4_sum 20 = .ok (.ifCond .ne 12, 3) := dk_154 0 12 (dk_at dksX4_sum_0 20 rfl rfl)
theorem dX4_sum_23 : decode cX4_sum 23 = .ok (.aload_n 0, 1) := dk_42 (dk_at dksX4_sum_0 23 rfl rfl)
theorem dX4_sum_24 : decode cX4_sum 24 = .ok (.bipush 45, 2) := dk_16 45 (dk_at dksX4_sum_1 0 rfl rfl)
theorem dX4_sum_26 : decode cX4_sum 26 = .ok (.invokevirtual 317, 3) := dk_182 1 61 (dk_at dksX4_sum_1 2 rfl rfl)
theorem dX4_sum_29 : decode cX4_sum 29 = .ok (.ifCond .eq 36, 3) := dk_153 0 36 (dk_at dksX4_sum_1 5 rfl rfl)
theorem dX4_sum_32 : decode cX4_sum 32 = .ok (.aload_n 0, 1) := dk_42 (dk_at dksX4_sum_1 8 rfl rfl)
theorem dX4_sum_33 : decode cX4_sum 33 = .ok (.bipush 43, 2) := dk_16 43 (dk_at dksX4_sum_1 9 rfl rfl)
theorem dX4_sum_35 : decode cX4_sum 35 = .ok (.invokevirtual 317, 3) := dk_182 1 61 (dk_at dksX4_sum_1 11 rfl rfl)
theorem dX4_sum_38 : decode cX4_sum 38 = .ok (.istore_n 2, 1) := dk_61 (dk_at dksX4_sum_1 14 rfl rfl)
theorem dX4_sum_39 : decode cX4_sum 39 = .ok (.aload_n 0, 1) := dk_42 (dk_at dksX4_sum_1 15 rfl rfl)
theorem dX4_sum_40 : decode cX4_sum 40 = .ok (.invokevirtual 320, 3) := dk_182 1 64 (dk_at dksX4_sum_1 16 rfl rfl)
theorem dX4_sum_43 : decode cX4_sum 43 = .ok (.aload_n 0, 1) := dk_42 (dk_at dksX4_sum_1 19 rfl rfl)
theorem dX4_sum_44 : decode cX4_sum 44 = .ok (.invokevirtual 356, 3) := dk_182 1 100 (dk_at dksX4_sum_1 20 rfl rfl)
theorem dX4_sum_47 : decode cX4_sum 47 = .ok (.istore_n 3, 1) := dk_62 (dk_at dksX4_sum_1 23 rfl rfl)
theorem dX4_sum_48 : decode cX4_sum 48 = .ok (.iload_n 2, 1) := dk_28 (dk_at dksX4_sum_2 0 rfl rfl)
theorem dX4_sum_49 : decode cX4_sum 49 = .ok (.ifCond .eq 9, 3) := dk_153 0 9 (dk_at dksX4_sum_2 1 rfl rfl)
theorem dX4_sum_52 : decode cX4_sum 52 = .ok (.iload_n 1, 1) := dk_27 (dk_at dksX4_sum_2 4 rfl rfl)
theorem dX4_sum_53 : decode cX4_sum 53 = .ok (.iload_n 3, 1) := dk_29 (dk_at dksX4_sum_2 5 rfl rfl)
theorem dX4_sum_54 : decode cX4_sum 54 = .ok (.iadd, 1) := dk_96 (dk_at dksX4_sum_2 6 rfl rfl)
theorem dX4_sum_55 : decode cX4_sum 55 = .ok (.goto 6, 3) := dk_167 0 6 (dk_at dksX4_sum_2 7 rfl rfl)
theorem dX4_sum_58 : decode cX4_sum 58 = .ok (.iload_n 1, 1) := dk_27 (dk_at dksX4_sum_2 10 rfl rfl)
theorem dX4_sum_59 : decode cX4_sum 59 = .ok (.iload_n 3, 1) := dk_29 (dk_at dksX4_sum_2 11 rfl rfl)
theorem dX4_sum_60 : decode cX4_sum 60 = .ok (.isub, 1) := dk_100 (dk_at dksX4_sum_2 12 rfl rfl)
theorem dX4_sum_61 : decode cX4_sum 61 = .ok (.istore_n 1, 1) := dk_60 (dk_at dksX4_sum_2 13 rfl rfl)
theorem dX4_sum_62 : decode cX4_sum 62 = .ok (.goto (-48), 3) := dk_167 255 208 (dk_at dksX4_sum_2 14 rfl rfl)
theorem dX4_sum_65 : decode cX4_sum 65 = .ok (.iload_n 1, 1) := dk_27 (dk_at dksX4_sum_2 17 rfl rfl)
theorem dX4_sum_66 : decode cX4_sum 66 = .ok (.ireturn, 1) := dk_172 (dk_at dksX4_sum_2 18 rfl rfl)
abbrev cX4_term : ByteArray := prog_20_method_44_code
def yX4_term : MethodName := ⟨RX4, "term", "()I"⟩
def dkwX4_term_1 : List UInt8 := [60, 167, 255, 236, 27, 172]
abbrev dktX4_term_1 : List UInt8 := dkwX4_term_1 ++ []
def dkwX4_term_0 : List UInt8 := [42, 182, 1, 97, 60, 42, 16, 42, 182, 1, 61, 153, 0, 17, 42, 182, 1, 64, 27, 42, 182, 1, 97, 104]
abbrev dktX4_term_0 : List UInt8 := dkwX4_term_0 ++ dktX4_term_1
theorem dksX4_term_0 : cX4_term.data.toList.drop 0 = dktX4_term_0 := by decide +kernel
theorem dksX4_term_1 : cX4_term.data.toList.drop 24 = dktX4_term_1 := dk_seg dksX4_term_0 24 rfl rfl
theorem dX4_term_0 : decode cX4_term 0 = .ok (.aload_n 0, 1) := dk_42 (dk_at dksX4_term_0 0 rfl rfl)
theorem dX4_term_1 : decode cX4_term 1 = .ok (.invokevirtual 353, 3) := dk_182 1 97 (dk_at dksX4_term_0 1 rfl rfl)
theorem dX4_term_4 : decode cX4_term 4 = .ok (.istore_n 1, 1) := dk_60 (dk_at dksX4_term_0 4 rfl rfl)
theorem dX4_term_5 : decode cX4_term 5 = .ok (.aload_n 0, 1) := dk_42 (dk_at dksX4_term_0 5 rfl rfl)
theorem dX4_term_6 : decode cX4_term 6 = .ok (.bipush 42, 2) := dk_16 42 (dk_at dksX4_term_0 6 rfl rfl)
theorem dX4_term_8 : decode cX4_term 8 = .ok (.invokevirtual 317, 3) := dk_182 1 61 (dk_at dksX4_term_0 8 rfl rfl)
theorem dX4_term_11 : decode cX4_term 11 = .ok (.ifCond .eq 17, 3) := dk_153 0 17 (dk_at dksX4_term_0 11 rfl rfl)
theorem dX4_term_14 : decode cX4_term 14 = .ok (.aload_n 0, 1) := dk_42 (dk_at dksX4_term_0 14 rfl rfl)
theorem dX4_term_15 : decode cX4_term 15 = .ok (.invokevirtual 320, 3) := dk_182 1 64 (dk_at dksX4_term_0 15 rfl rfl)
theorem dX4_term_18 : decode cX4_term 18 = .ok (.iload_n 1, 1) := dk_27 (dk_at dksX4_term_0 18 rfl rfl)
theorem dX4_term_19 : decode cX4_term 19 = .ok (.aload_n 0, 1) := dk_42 (dk_at dksX4_term_0 19 rfl rfl)
theorem dX4_term_20 : decode cX4_term 20 = .ok (.invokevirtual 353, 3) := dk_182 1 97 (dk_at dksX4_term_0 20 rfl rfl)
theorem dX4_term_23 : decode cX4_term 23 = .ok (.imul, 1) := dk_104 (dk_at dksX4_term_0 23 rfl rfl)
theorem dX4_term_24 : decode cX4_term 24 = .ok (.istore_n 1, 1) := dk_60 (dk_at dksX4_term_1 0 rfl rfl)
theorem dX4_term_25 : decode cX4_term 25 = .ok (.goto (-20), 3) := dk_167 255 236 (dk_at dksX4_term_1 1 rfl rfl)
theorem dX4_term_28 : decode cX4_term 28 = .ok (.iload_n 1, 1) := dk_27 (dk_at dksX4_term_1 4 rfl rfl)
theorem dX4_term_29 : decode cX4_term 29 = .ok (.ireturn, 1) := dk_172 (dk_at dksX4_term_1 5 rfl rfl)
abbrev cX4_factor : ByteArray := prog_20_method_43_code
def yX4_factor : MethodName := ⟨RX4, "factor", "()I"⟩
def dkwX4_factor_12 : List UInt8 := [182, 1, 94, 42, 89, 180, 1, 75, 4, 100, 181, 1, 75, 27, 172]
abbrev dktX4_factor_12 : List UInt8 := dkwX4_factor_12 ++ []
def dkwX4_factor_11 : List UInt8 := [154, 0, 10, 42, 4, 182, 1, 67, 3, 172, 42, 182, 1, 88, 42, 182, 1, 91, 60, 42, 16, 41]
abbrev dktX4_factor_11 : List UInt8 := dkwX4_factor_11 ++ dktX4_factor_12
def dkwX4_factor_10 : List UInt8 := [42, 180, 0, 79, 29, 46, 167, 0, 9, 42, 180, 0, 82, 29, 46, 172, 42, 16, 40, 182, 1, 61]
abbrev dktX4_factor_10 : List UInt8 := dkwX4_factor_10 ++ dktX4_factor_11
def dkwX4_factor_9 : List UInt8 := [167, 0, 39, 28, 16, 7, 160, 0, 12, 42, 180, 0, 73, 29, 46, 167, 0, 24, 28, 16, 8, 160, 0, 12]
abbrev dktX4_factor_9 : List UInt8 := dkwX4_factor_9 ++ dktX4_factor_10
def dkwX4_factor_8 : List UInt8 := [16, 6, 29, 104, 28, 96, 46, 167, 0, 54, 28, 16, 6, 160, 0, 12, 42, 180, 0, 76, 29, 46]
abbrev dktX4_factor_8 : List UInt8 := dkwX4_factor_8 ++ dktX4_factor_9
def dkwX4_factor_7 : List UInt8 := [180, 1, 85, 62, 29, 2, 160, 0, 7, 3, 167, 0, 74, 28, 16, 6, 162, 0, 17, 42, 180, 0, 70]
abbrev dktX4_factor_7 : List UInt8 := dkwX4_factor_7 ++ dktX4_factor_8
def dkwX4_factor_6 : List UInt8 := [167, 0, 4, 2, 61, 28, 2, 160, 0, 10, 42, 4, 182, 1, 67, 3, 172, 42, 182, 1, 64, 42]
abbrev dktX4_factor_6 : List UInt8 := dkwX4_factor_6 ++ dktX4_factor_7
def dkwX4_factor_5 : List UInt8 := [182, 1, 71, 153, 0, 8, 16, 8, 167, 0, 19, 42, 19, 1, 84, 182, 1, 71, 153, 0, 8, 16, 9]
abbrev dktX4_factor_5 : List UInt8 := dkwX4_factor_5 ++ dktX4_factor_6
def dkwX4_factor_4 : List UInt8 := [167, 0, 49, 42, 19, 1, 82, 182, 1, 71, 153, 0, 8, 16, 7, 167, 0, 34, 42, 19, 1, 83]
abbrev dktX4_factor_4 : List UInt8 := dkwX4_factor_4 ++ dktX4_factor_5
def dkwX4_factor_3 : List UInt8 := [16, 102, 163, 0, 10, 27, 16, 97, 100, 167, 0, 64, 42, 19, 1, 81, 182, 1, 71, 153, 0, 8, 16, 6]
abbrev dktX4_factor_3 : List UInt8 := dkwX4_factor_3 ++ dktX4_factor_4
def dkwX4_factor_2 : List UInt8 := [160, 0, 14, 42, 42, 180, 1, 27, 182, 1, 23, 167, 0, 4, 3, 60, 27, 16, 97, 161, 0, 16, 27]
abbrev dktX4_factor_2 : List UInt8 := dkwX4_factor_2 ++ dktX4_factor_3
def dkwX4_factor_1 : List UInt8 := [182, 1, 78, 172, 42, 180, 1, 30, 4, 160, 0, 212, 42, 180, 1, 20, 42, 180, 1, 27, 100, 4]
abbrev dktX4_factor_1 : List UInt8 := dkwX4_factor_1 ++ dktX4_factor_2
def dkwX4_factor_0 : List UInt8 := [42, 180, 1, 45, 153, 0, 5, 3, 172, 42, 180, 1, 30, 5, 160, 0, 12, 42, 17, 39, 16, 4]
abbrev dktX4_factor_0 : List UInt8 := dkwX4_factor_0 ++ dktX4_factor_1
theorem dksX4_factor_0 : cX4_factor.data.toList.drop 0 = dktX4_factor_0 := by decide +kernel
theorem dksX4_factor_1 : cX4_factor.data.toList.drop 22 = dktX4_factor_1 := dk_seg dksX4_factor_0 22 rfl rfl
theorem dksX4_factor_2 : cX4_factor.data.toList.drop 44 = dktX4_factor_2 := dk_seg dksX4_factor_1 22 rfl rfl
theorem dksX4_factor_3 : cX4_factor.data.toList.drop 67 = dktX4_factor_3 := dk_seg dksX4_factor_2 23 rfl rfl
theorem dksX4_factor_4 : cX4_factor.data.toList.drop 91 = dktX4_factor_4 := dk_seg dksX4_factor_3 24 rfl rfl
theorem dksX4_factor_5 : cX4_factor.data.toList.drop 113 = dktX4_factor_5 := dk_seg dksX4_factor_4 22 rfl rfl
theorem dksX4_factor_6 : cX4_factor.data.toList.drop 136 = dktX4_factor_6 := dk_seg dksX4_factor_5 23 rfl rfl
theorem dksX4_factor_7 : cX4_factor.data.toList.drop 158 = dktX4_factor_7 := dk_seg dksX4_factor_6 22 rfl rfl
theorem dksX4_factor_8 : cX4_factor.data.toList.drop 181 = dktX4_factor_8 := dk_seg dksX4_factor_7 23 rfl rfl
theorem dksX4_factor_9 : cX4_factor.data.toList.drop 203 = dktX4_factor_9 := dk_seg dksX4_factor_8 22 rfl rfl
theorem dksX4_factor_10 : cX4_factor.data.toList.drop 227 = dktX4_factor_10 := dk_seg dksX4_factor_9 24 rfl rfl
theorem dksX4_factor_11 : cX4_factor.data.toList.drop 249 = dktX4_factor_11 := dk_seg dksX4_factor_10 22 rfl rfl
theorem dksX4_factor_12 : cX4_factor.data.toList.drop 271 = dktX4_factor_12 := dk_seg dksX4_factor_11 22 rfl rfl
theorem dX4_factor_0 : decode cX4_factor 0 = .ok (.aload_n 0, 1) := dk_42 (dk_at dksX4_factor_0 0 rfl rfl)
theorem dX4_factor_1 : decode cX4_factor 1 = .ok (.getfield 301, 3) := dk_180 1 45 (dk_at dksX4_factor_0 1 rfl rfl)
theorem dX4_factor_4 : decode cX4_factor 4 = .ok (.ifCond .eq 5, 3) := dk_153 0 5 (dk_at dksX4_factor_0 4 rfl rfl)
theorem dX4_factor_7 : decode cX4_factor 7 = .ok (.iconst 0, 1) := dk_3 (dk_at dksX4_factor_0 7 rfl rfl)
theorem dX4_factor_8 : decode cX4_factor 8 = .ok (.ireturn, 1) := dk_172 (dk_at dksX4_factor_0 8 rfl rfl)
theorem dX4_factor_9 : decode cX4_factor 9 = .ok (.aload_n 0, 1) := dk_42 (dk_at dksX4_factor_0 9 rfl rfl)
theorem dX4_factor_10 : decode cX4_factor 10 = .ok (.getfield 286, 3) := dk_180 1 30 (dk_at dksX4_factor_0 10 rfl rfl)
theorem dX4_factor_13 : decode cX4_factor 13 = .ok (.iconst 2, 1) := dk_5 (dk_at dksX4_factor_0 13 rfl rfl)
theorem dX4_factor_14 : decode cX4_factor 14 = .ok (.if_icmp .ne 12, 3) := dk_160 0 12 (dk_at dksX4_factor_0 14 rfl rfl)
theorem dX4_factor_17 : decode cX4_factor 17 = .ok (.aload_n 0, 1) := dk_42 (dk_at dksX4_factor_0 17 rfl rfl)
theorem dX4_factor_18 : decode cX4_factor 18 = .ok (.sipush 10000, 3) := dk_17 39 16 (dk_at dksX4_factor_0 18 rfl rfl)
theorem dX4_factor_21 : decode cX4_factor 21 = .ok (.iconst 1, 1) := dk_4 (dk_at dksX4_factor_0 21 rfl rfl)
theorem dX4_factor_22 : decode cX4_factor 22 = .ok (.invokevirtual 334, 3) := dk_182 1 78 (dk_at dksX4_factor_1 0 rfl rfl)
theorem dX4_factor_25 : decode cX4_factor 25 = .ok (.ireturn, 1) := dk_172 (dk_at dksX4_factor_1 3 rfl rfl)
theorem dX4_factor_26 : decode cX4_factor 26 = .ok (.aload_n 0, 1) := dk_42 (dk_at dksX4_factor_1 4 rfl rfl)
theorem dX4_factor_27 : decode cX4_factor 27 = .ok (.getfield 286, 3) := dk_180 1 30 (dk_at dksX4_factor_1 5 rfl rfl)
theorem dX4_factor_30 : decode cX4_factor 30 = .ok (.iconst 1, 1) := dk_4 (dk_at dksX4_factor_1 8 rfl rfl)
theorem dX4_factor_31 : decode cX4_factor 31 = .ok (.if_icmp .ne 212, 3) := dk_160 0 212 (dk_at dksX4_factor_1 9 rfl rfl)
theorem dX4_factor_34 : decode cX4_factor 34 = .ok (.aload_n 0, 1) := dk_42 (dk_at dksX4_factor_1 12 rfl rfl)
theorem dX4_factor_35 : decode cX4_factor 35 = .ok (.getfield 276, 3) := dk_180 1 20 (dk_at dksX4_factor_1 13 rfl rfl)
theorem dX4_factor_38 : decode cX4_factor 38 = .ok (.aload_n 0, 1) := dk_42 (dk_at dksX4_factor_1 16 rfl rfl)
theorem dX4_factor_39 : decode cX4_factor 39 = .ok (.getfield 283, 3) := dk_180 1 27 (dk_at dksX4_factor_1 17 rfl rfl)
theorem dX4_factor_42 : decode cX4_factor 42 = .ok (.isub, 1) := dk_100 (dk_at dksX4_factor_1 20 rfl rfl)
theorem dX4_factor_43 : decode cX4_factor 43 = .ok (.iconst 1, 1) := dk_4 (dk_at dksX4_factor_1 21 rfl rfl)
theorem dX4_factor_44 : decode cX4_factor 44 = .ok (.if_icmp .ne 14, 3) := dk_160 0 14 (dk_at dksX4_factor_2 0 rfl rfl)
theorem dX4_factor_47 : decode cX4_factor 47 = .ok (.aload_n 0, 1) := dk_42 (dk_at dksX4_factor_2 3 rfl rfl)
theorem dX4_factor_48 : decode cX4_factor 48 = .ok (.aload_n 0, 1) := dk_42 (dk_at dksX4_factor_2 4 rfl rfl)
theorem dX4_factor_49 : decode cX4_factor 49 = .ok (.getfield 283, 3) := dk_180 1 27 (dk_at dksX4_factor_2 5 rfl rfl)
theorem dX4_factor_52 : decode cX4_factor 52 = .ok (.invokevirtual 279, 3) := dk_182 1 23 (dk_at dksX4_factor_2 8 rfl rfl)
theorem dX4_factor_55 : decode cX4_factor 55 = .ok (.goto 4, 3) := dk_167 0 4 (dk_at dksX4_factor_2 11 rfl rfl)
theorem dX4_factor_58 : decode cX4_factor 58 = .ok (.iconst 0, 1) := dk_3 (dk_at dksX4_factor_2 14 rfl rfl)
theorem dX4_factor_59 : decode cX4_factor 59 = .ok (.istore_n 1, 1) := dk_60 (dk_at dksX4_factor_2 15 rfl rfl)
theorem dX4_factor_60 : decode cX4_factor 60 = .ok (.iload_n 1, 1) := dk_27 (dk_at dksX4_factor_2 16 rfl rfl)
theorem dX4_factor_61 : decode cX4_factor 61 = .ok (.bipush 97, 2) := dk_16 97 (dk_at dksX4_factor_2 17 rfl rfl)
theorem dX4_factor_63 : decode cX4_factor 63 = .ok (.if_icmp .lt 16, 3) := dk_161 0 16 (dk_at dksX4_factor_2 19 rfl rfl)
theorem dX4_factor_66 : decode cX4_factor 66 = .ok (.iload_n 1, 1) := dk_27 (dk_at dksX4_factor_2 22 rfl rfl)
theorem dX4_factor_67 : decode cX4_factor 67 = .ok (.bipush 102, 2) := dk_16 102 (dk_at dksX4_factor_3 0 rfl rfl)
theorem dX4_factor_69 : decode cX4_factor 69 = .ok (.if_icmp .gt 10, 3) := dk_163 0 10 (dk_at dksX4_factor_3 2 rfl rfl)
theorem dX4_factor_72 : decode cX4_factor 72 = .ok (.iload_n 1, 1) := dk_27 (dk_at dksX4_factor_3 5 rfl rfl)
theorem dX4_factor_73 : decode cX4_factor 73 = .ok (.bipush 97, 2) := dk_16 97 (dk_at dksX4_factor_3 6 rfl rfl)
theorem dX4_factor_75 : decode cX4_factor 75 = .ok (.isub, 1) := dk_100 (dk_at dksX4_factor_3 8 rfl rfl)
theorem dX4_factor_76 : decode cX4_factor 76 = .ok (.goto 64, 3) := dk_167 0 64 (dk_at dksX4_factor_3 9 rfl rfl)
theorem dX4_factor_79 : decode cX4_factor 79 = .ok (.aload_n 0, 1) := dk_42 (dk_at dksX4_factor_3 12 rfl rfl)
theorem dX4_factor_80 : decode cX4_factor 80 = .ok (.ldc_w 337, 3) := dk_19 1 81 (dk_at dksX4_factor_3 13 rfl rfl)
theorem dX4_factor_83 : decode cX4_factor 83 = .ok (.invokevirtual 327, 3) := dk_182 1 71 (dk_at dksX4_factor_3 16 rfl rfl)
theorem dX4_factor_86 : decode cX4_factor 86 = .ok (.ifCond .eq 8, 3) := dk_153 0 8 (dk_at dksX4_factor_3 19 rfl rfl)
theorem dX4_factor_89 : decode cX4_factor 89 = .ok (.bipush 6, 2) := dk_16 6 (dk_at dksX4_factor_3 22 rfl rfl)
theorem dX4_factor_91 : decode cX4_factor 91 = .ok (.goto 49, 3) := dk_167 0 49 (dk_at dksX4_factor_4 0 rfl rfl)
theorem dX4_factor_94 : decode cX4_factor 94 = .ok (.aload_n 0, 1) := dk_42 (dk_at dksX4_factor_4 3 rfl rfl)
theorem dX4_factor_95 : decode cX4_factor 95 = .ok (.ldc_w 338, 3) := dk_19 1 82 (dk_at dksX4_factor_4 4 rfl rfl)
theorem dX4_factor_98 : decode cX4_factor 98 = .ok (.invokevirtual 327, 3) := dk_182 1 71 (dk_at dksX4_factor_4 7 rfl rfl)
theorem dX4_factor_101 : decode cX4_factor 101 = .ok (.ifCond .eq 8, 3) := dk_153 0 8 (dk_at dksX4_factor_4 10 rfl rfl)
theorem dX4_factor_104 : decode cX4_factor 104 = .ok (.bipush 7, 2) := dk_16 7 (dk_at dksX4_factor_4 13 rfl rfl)
theorem dX4_factor_106 : decode cX4_factor 106 = .ok (.goto 34, 3) := dk_167 0 34 (dk_at dksX4_factor_4 15 rfl rfl)
theorem dX4_factor_109 : decode cX4_factor 109 = .ok (.aload_n 0, 1) := dk_42 (dk_at dksX4_factor_4 18 rfl rfl)
theorem dX4_factor_110 : decode cX4_factor 110 = .ok (.ldc_w 339, 3) := dk_19 1 83 (dk_at dksX4_factor_4 19 rfl rfl)
theorem dX4_factor_113 : decode cX4_factor 113 = .ok (.invokevirtual 327, 3) := dk_182 1 71 (dk_at dksX4_factor_5 0 rfl rfl)
theorem dX4_factor_116 : decode cX4_factor 116 = .ok (.ifCond .eq 8, 3) := dk_153 0 8 (dk_at dksX4_factor_5 3 rfl rfl)
theorem dX4_factor_119 : decode cX4_factor 119 = .ok (.bipush 8, 2) := dk_16 8 (dk_at dksX4_factor_5 6 rfl rfl)
theorem dX4_factor_121 : decode cX4_factor 121 = .ok (.goto 19, 3) := dk_167 0 19 (dk_at dksX4_factor_5 8 rfl rfl)
theorem dX4_factor_124 : decode cX4_factor 124 = .ok (.aload_n 0, 1) := dk_42 (dk_at dksX4_factor_5 11 rfl rfl)
theorem dX4_factor_125 : decode cX4_factor 125 = .ok (.ldc_w 340, 3) := dk_19 1 84 (dk_at dksX4_factor_5 12 rfl rfl)
theorem dX4_factor_128 : decode cX4_factor 128 = .ok (.invokevirtual 327, 3) := dk_182 1 71 (dk_at dksX4_factor_5 15 rfl rfl)
theorem dX4_factor_131 : decode cX4_factor 131 = .ok (.ifCond .eq 8, 3) := dk_153 0 8 (dk_at dksX4_factor_5 18 rfl rfl)
theorem dX4_factor_134 : decode cX4_factor 134 = .ok (.bipush 9, 2) := dk_16 9 (dk_at dksX4_factor_5 21 rfl rfl)
theorem dX4_factor_136 : decode cX4_factor 136 = .ok (.goto 4, 3) := dk_167 0 4 (dk_at dksX4_factor_6 0 rfl rfl)
theorem dX4_factor_139 : decode cX4_factor 139 = .ok (.iconst (-1), 1) := dk_2 (dk_at dksX4_factor_6 3 rfl rfl)
theorem dX4_factor_140 : decode cX4_factor 140 = .ok (.istore_n 2, 1) := dk_61 (dk_at dksX4_factor_6 4 rfl rfl)
theorem dX4_factor_141 : decode cX4_factor 141 = .ok (.iload_n 2, 1) := dk_28 (dk_at dksX4_factor_6 5 rfl rfl)
theorem dX4_factor_142 : decode cX4_factor 142 = .ok (.iconst (-1), 1) := dk_2 (dk_at dksX4_factor_6 6 rfl rfl)
theorem dX4_factor_143 : decode cX4_factor 143 = .ok (.if_icmp .ne 10, 3) := dk_160 0 10 (dk_at dksX4_factor_6 7 rfl rfl)
theorem dX4_factor_146 : decode cX4_factor 146 = .ok (.aload_n 0, 1) := dk_42 (dk_at dksX4_factor_6 10 rfl rfl)
theorem dX4_factor_147 : decode cX4_factor 147 = .ok (.iconst 1, 1) := dk_4 (dk_at dksX4_factor_6 11 rfl rfl)
theorem dX4_factor_148 : decode cX4_factor 148 = .ok (.invokevirtual 323, 3) := dk_182 1 67 (dk_at dksX4_factor_6 12 rfl rfl)
theorem dX4_factor_151 : decode cX4_factor 151 = .ok (.iconst 0, 1) := dk_3 (dk_at dksX4_factor_6 15 rfl rfl)
theorem dX4_factor_152 : decode cX4_factor 152 = .ok (.ireturn, 1) := dk_172 (dk_at dksX4_factor_6 16 rfl rfl)
theorem dX4_factor_153 : decode cX4_factor 153 = .ok (.aload_n 0, 1) := dk_42 (dk_at dksX4_factor_6 17 rfl rfl)
theorem dX4_factor_154 : decode cX4_factor 154 = .ok (.invokevirtual 320, 3) := dk_182 1 64 (dk_at dksX4_factor_6 18 rfl rfl)
theorem dX4_factor_157 : decode cX4_factor 157 = .ok (.aload_n 0, 1) := dk_42 (dk_at dksX4_factor_6 21 rfl rfl)
theorem dX4_factor_158 : decode cX4_factor 158 = .ok (.getfield 341, 3) := dk_180 1 85 (dk_at dksX4_factor_7 0 rfl rfl)
theorem dX4_factor_161 : decode cX4_factor 161 = .ok (.istore_n 3, 1) := dk_62 (dk_at dksX4_factor_7 3 rfl rfl)
theorem dX4_factor_162 : decode cX4_factor 162 = .ok (.iload_n 3, 1) := dk_29 (dk_at dksX4_factor_7 4 rfl rfl)
theorem dX4_factor_163 : decode cX4_factor 163 = .ok (.iconst (-1), 1) := dk_2 (dk_at dksX4_factor_7 5 rfl rfl)
theorem dX4_factor_164 : decode cX4_factor 164 = .ok (.if_icmp .ne 7, 3) := dk_160 0 7 (dk_at dksX4_factor_7 6 rfl rfl)
theorem dX4_factor_167 : decode cX4_factor 167 = .ok (.iconst 0, 1) := dk_3 (dk_at dksX4_factor_7 9 rfl rfl)
theorem dX4_factor_168 : decode cX4_factor 168 = .ok (.goto 74, 3) := dk_167 0 74 (dk_at dksX4_factor_7 10 rfl rfl)
theorem dX4_factor_171 : decode cX4_factor 171 = .ok (.iload_n 2, 1) := dk_28 (dk_at dksX4_factor_7 13 rfl rfl)
theorem dX4_factor_172 : decode cX4_factor 172 = .ok (.bipush 6, 2) := dk_16 6 (dk_at dksX4_factor_7 14 rfl rfl)
theorem dX4_factor_174 : decode cX4_factor 174 = .ok (.if_icmp .ge 17, 3) := dk_162 0 17 (dk_at dksX4_factor_7 16 rfl rfl)
theorem dX4_factor_177 : decode cX4_factor 177 = .ok (.aload_n 0, 1) := dk_42 (dk_at dksX4_factor_7 19 rfl rfl)
theorem dX4_factor_178 : decode cX4_factor 178 = .ok (.getfield 70, 3) := dk_180 0 70 (dk_at dksX4_factor_7 20 rfl rfl)
theorem dX4_factor_181 : decode cX4_factor 181 = .ok (.bipush 6, 2) := dk_16 6 (dk_at dksX4_factor_8 0 rfl rfl)
theorem dX4_factor_183 : decode cX4_factor 183 = .ok (.iload_n 3, 1) := dk_29 (dk_at dksX4_factor_8 2 rfl rfl)
theorem dX4_factor_184 : decode cX4_factor 184 = .ok (.imul, 1) := dk_104 (dk_at dksX4_factor_8 3 rfl rfl)
theorem dX4_factor_185 : decode cX4_factor 185 = .ok (.iload_n 2, 1) := dk_28 (dk_at dksX4_factor_8 4 rfl rfl)
theorem dX4_factor_186 : decode cX4_factor 186 = .ok (.iadd, 1) := dk_96 (dk_at dksX4_factor_8 5 rfl rfl)
theorem dX4_factor_187 : decode cX4_factor 187 = .ok (.iaload, 1) := dk_46 (dk_at dksX4_factor_8 6 rfl rfl)
theorem dX4_factor_188 : decode cX4_factor 188 = .ok (.goto 54, 3) := dk_167 0 54 (dk_at dksX4_factor_8 7 rfl rfl)
theorem dX4_factor_191 : decode cX4_factor 191 = .ok (.iload_n 2, 1) := dk_28 (dk_at dksX4_factor_8 10 rfl rfl)
theorem dX4_factor_192 : decode cX4_factor 192 = .ok (.bipush 6, 2) := dk_16 6 (dk_at dksX4_factor_8 11 rfl rfl)
theorem dX4_factor_194 : decode cX4_factor 194 = .ok (.if_icmp .ne 12, 3) := dk_160 0 12 (dk_at dksX4_factor_8 13 rfl rfl)
theorem dX4_factor_197 : decode cX4_factor 197 = .ok (.aload_n 0, 1) := dk_42 (dk_at dksX4_factor_8 16 rfl rfl)
theorem dX4_factor_198 : decode cX4_factor 198 = .ok (.getfield 76, 3) := dk_180 0 76 (dk_at dksX4_factor_8 17 rfl rfl)
theorem dX4_factor_201 : decode cX4_factor 201 = .ok (.iload_n 3, 1) := dk_29 (dk_at dksX4_factor_8 20 rfl rfl)
theorem dX4_factor_202 : decode cX4_factor 202 = .ok (.iaload, 1) := dk_46 (dk_at dksX4_factor_8 21 rfl rfl)
theorem dX4_factor_203 : decode cX4_factor 203 = .ok (.goto 39, 3) := dk_167 0 39 (dk_at dksX4_factor_9 0 rfl rfl)
theorem dX4_factor_206 : decode cX4_factor 206 = .ok (.iload_n 2, 1) := dk_28 (dk_at dksX4_factor_9 3 rfl rfl)
theorem dX4_factor_207 : decode cX4_factor 207 = .ok (.bipush 7, 2) := dk_16 7 (dk_at dksX4_factor_9 4 rfl rfl)
theorem dX4_factor_209 : decode cX4_factor 209 = .ok (.if_icmp .ne 12, 3) := dk_160 0 12 (dk_at dksX4_factor_9 6 rfl rfl)
theorem dX4_factor_212 : decode cX4_factor 212 = .ok (.aload_n 0, 1) := dk_42 (dk_at dksX4_factor_9 9 rfl rfl)
theorem dX4_factor_213 : decode cX4_factor 213 = .ok (.getfield 73, 3) := dk_180 0 73 (dk_at dksX4_factor_9 10 rfl rfl)
theorem dX4_factor_216 : decode cX4_factor 216 = .ok (.iload_n 3, 1) := dk_29 (dk_at dksX4_factor_9 13 rfl rfl)
theorem dX4_factor_217 : decode cX4_factor 217 = .ok (.iaload, 1) := dk_46 (dk_at dksX4_factor_9 14 rfl rfl)
theorem dX4_factor_218 : decode cX4_factor 218 = .ok (.goto 24, 3) := dk_167 0 24 (dk_at dksX4_factor_9 15 rfl rfl)
theorem dX4_factor_221 : decode cX4_factor 221 = .ok (.iload_n 2, 1) := dk_28 (dk_at dksX4_factor_9 18 rfl rfl)
theorem dX4_factor_222 : decode cX4_factor 222 = .ok (.bipush 8, 2) := dk_16 8 (dk_at dksX4_factor_9 19 rfl rfl)
theorem dX4_factor_224 : decode cX4_factor 224 = .ok (.if_icmp .ne 12, 3) := dk_160 0 12 (dk_at dksX4_factor_9 21 rfl rfl)
theorem dX4_factor_227 : decode cX4_factor 227 = .ok (.aload_n 0, 1) := dk_42 (dk_at dksX4_factor_10 0 rfl rfl)
theorem dX4_factor_228 : decode cX4_factor 228 = .ok (.getfield 79, 3) := dk_180 0 79 (dk_at dksX4_factor_10 1 rfl rfl)
theorem dX4_factor_231 : decode cX4_factor 231 = .ok (.iload_n 3, 1) := dk_29 (dk_at dksX4_factor_10 4 rfl rfl)
theorem dX4_factor_232 : decode cX4_factor 232 = .ok (.iaload, 1) := dk_46 (dk_at dksX4_factor_10 5 rfl rfl)
theorem dX4_factor_233 : decode cX4_factor 233 = .ok (.goto 9, 3) := dk_167 0 9 (dk_at dksX4_factor_10 6 rfl rfl)
theorem dX4_factor_236 : decode cX4_factor 236 = .ok (.aload_n 0, 1) := dk_42 (dk_at dksX4_factor_10 9 rfl rfl)
theorem dX4_factor_237 : decode cX4_factor 237 = .ok (.getfield 82, 3) := dk_180 0 82 (dk_at dksX4_factor_10 10 rfl rfl)
theorem dX4_factor_240 : decode cX4_factor 240 = .ok (.iload_n 3, 1) := dk_29 (dk_at dksX4_factor_10 13 rfl rfl)
theorem dX4_factor_241 : decode cX4_factor 241 = .ok (.iaload, 1) := dk_46 (dk_at dksX4_factor_10 14 rfl rfl)
theorem dX4_factor_242 : decode cX4_factor 242 = .ok (.ireturn, 1) := dk_172 (dk_at dksX4_factor_10 15 rfl rfl)
theorem dX4_factor_243 : decode cX4_factor 243 = .ok (.aload_n 0, 1) := dk_42 (dk_at dksX4_factor_10 16 rfl rfl)
theorem dX4_factor_244 : decode cX4_factor 244 = .ok (.bipush 40, 2) := dk_16 40 (dk_at dksX4_factor_10 17 rfl rfl)
theorem dX4_factor_246 : decode cX4_factor 246 = .ok (.invokevirtual 317, 3) := dk_182 1 61 (dk_at dksX4_factor_10 19 rfl rfl)
theorem dX4_factor_249 : decode cX4_factor 249 = .ok (.ifCond .ne 10, 3) := dk_154 0 10 (dk_at dksX4_factor_11 0 rfl rfl)
theorem dX4_factor_252 : decode cX4_factor 252 = .ok (.aload_n 0, 1) := dk_42 (dk_at dksX4_factor_11 3 rfl rfl)
theorem dX4_factor_253 : decode cX4_factor 253 = .ok (.iconst 1, 1) := dk_4 (dk_at dksX4_factor_11 4 rfl rfl)
theorem dX4_factor_254 : decode cX4_factor 254 = .ok (.invokevirtual 323, 3) := dk_182 1 67 (dk_at dksX4_factor_11 5 rfl rfl)
theorem dX4_factor_257 : decode cX4_factor 257 = .ok (.iconst 0, 1) := dk_3 (dk_at dksX4_factor_11 8 rfl rfl)
theorem dX4_factor_258 : decode cX4_factor 258 = .ok (.ireturn, 1) := dk_172 (dk_at dksX4_factor_11 9 rfl rfl)
theorem dX4_factor_259 : decode cX4_factor 259 = .ok (.aload_n 0, 1) := dk_42 (dk_at dksX4_factor_11 10 rfl rfl)
theorem dX4_factor_260 : decode cX4_factor 260 = .ok (.invokevirtual 344, 3) := dk_182 1 88 (dk_at dksX4_factor_11 11 rfl rfl)
theorem dX4_factor_263 : decode cX4_factor 263 = .ok (.aload_n 0, 1) := dk_42 (dk_at dksX4_factor_11 14 rfl rfl)
theorem dX4_factor_264 : decode cX4_factor 264 = .ok (.invokevirtual 347, 3) := dk_182 1 91 (dk_at dksX4_factor_11 15 rfl rfl)
theorem dX4_factor_267 : decode cX4_factor 267 = .ok (.istore_n 1, 1) := dk_60 (dk_at dksX4_factor_11 18 rfl rfl)
theorem dX4_factor_268 : decode cX4_factor 268 = .ok (.aload_n 0, 1) := dk_42 (dk_at dksX4_factor_11 19 rfl rfl)
theorem dX4_factor_269 : decode cX4_factor 269 = .ok (.bipush 41, 2) := dk_16 41 (dk_at dksX4_factor_11 20 rfl rfl)
theorem dX4_factor_271 : decode cX4_factor 271 = .ok (.invokevirtual 350, 3) := dk_182 1 94 (dk_at dksX4_factor_12 0 rfl rfl)
theorem dX4_factor_274 : decode cX4_factor 274 = .ok (.aload_n 0, 1) := dk_42 (dk_at dksX4_factor_12 3 rfl rfl)
theorem dX4_factor_275 : decode cX4_factor 275 = .ok (.dup, 1) := dk_89 (dk_at dksX4_factor_12 4 rfl rfl)
theorem dX4_factor_276 : decode cX4_factor 276 = .ok (.getfield 331, 3) := dk_180 1 75 (dk_at dksX4_factor_12 5 rfl rfl)
theorem dX4_factor_279 : decode cX4_factor 279 = .ok (.iconst 1, 1) := dk_4 (dk_at dksX4_factor_12 8 rfl rfl)
theorem dX4_factor_280 : decode cX4_factor 280 = .ok (.isub, 1) := dk_100 (dk_at dksX4_factor_12 9 rfl rfl)
theorem dX4_factor_281 : decode cX4_factor 281 = .ok (.putfield 331, 3) := dk_181 1 75 (dk_at dksX4_factor_12 10 rfl rfl)
theorem dX4_factor_284 : decode cX4_factor 284 = .ok (.iload_n 1, 1) := dk_27 (dk_at dksX4_factor_12 13 rfl rfl)
theorem dX4_factor_285 : decode cX4_factor 285 = .ok (.ireturn, 1) := dk_172 (dk_at dksX4_factor_12 14 rfl rfl)
abbrev cX4_needWord : ByteArray := prog_20_method_40_code
def yX4_needWord : MethodName := ⟨RX4, "needWord", "(Ljava/lang/String;)V"⟩
def dkwX4_needWord_0 : List UInt8 := [42, 43, 182, 1, 71, 153, 0, 10, 42, 182, 1, 64, 167, 0, 8, 42, 4, 182, 1, 67, 177]
abbrev dktX4_needWord_0 : List UInt8 := dkwX4_needWord_0 ++ []
theorem dksX4_needWord_0 : cX4_needWord.data.toList.drop 0 = dktX4_needWord_0 := by decide +kernel
theorem dX4_needWord_0 : decode cX4_needWord 0 = .ok (.aload_n 0, 1) := dk_42 (dk_at dksX4_needWord_0 0 rfl rfl)
theorem dX4_needWord_1 : decode cX4_needWord 1 = .ok (.aload_n 1, 1) := dk_43 (dk_at dksX4_needWord_0 1 rfl rfl)
theorem dX4_needWord_2 : decode cX4_needWord 2 = .ok (.invokevirtual 327, 3) := dk_182 1 71 (dk_at dksX4_needWord_0 2 rfl rfl)
theorem dX4_needWord_5 : decode cX4_needWord 5 = .ok (.ifCond .eq 10, 3) := dk_153 0 10 (dk_at dksX4_needWord_0 5 rfl rfl)
theorem dX4_needWord_8 : decode cX4_needWord 8 = .ok (.aload_n 0, 1) := dk_42 (dk_at dksX4_needWord_0 8 rfl rfl)
theorem dX4_needWord_9 : decode cX4_needWord 9 = .ok (.invokevirtual 320, 3) := dk_182 1 64 (dk_at dksX4_needWord_0 9 rfl rfl)
theorem dX4_needWord_12 : decode cX4_needWord 12 = .ok (.goto 8, 3) := dk_167 0 8 (dk_at dksX4_needWord_0 12 rfl rfl)
theorem dX4_needWord_15 : decode cX4_needWord 15 = .ok (.aload_n 0, 1) := dk_42 (dk_at dksX4_needWord_0 15 rfl rfl)
theorem dX4_needWord_16 : decode cX4_needWord 16 = .ok (.iconst 1, 1) := dk_4 (dk_at dksX4_needWord_0 16 rfl rfl)
theorem dX4_needWord_17 : decode cX4_needWord 17 = .ok (.invokevirtual 323, 3) := dk_182 1 67 (dk_at dksX4_needWord_0 17 rfl rfl)
theorem dX4_needWord_20 : decode cX4_needWord 20 = .ok (.return_, 1) := dk_177 (dk_at dksX4_needWord_0 20 rfl rfl)
abbrev cX4_goal : ByteArray := prog_20_method_49_code
def yX4_goal : MethodName := ⟨RX4, "goal", "(Z)V"⟩
def dkwX4_goal_8 : List UInt8 := [16, 100, 28, 104, 29, 96, 181, 1, 129, 42, 2, 181, 1, 117, 167, 0, 8, 42, 4, 182, 1, 67, 177]
abbrev dktX4_goal_8 : List UInt8 := dkwX4_goal_8 ++ []
def dkwX4_goal_7 : List UInt8 := [42, 42, 180, 0, 198, 4, 100, 6, 182, 1, 78, 62, 42, 180, 1, 45, 154, 0, 22, 27, 153, 0, 18, 42]
abbrev dktX4_goal_7 : List UInt8 := dkwX4_goal_7 ++ dktX4_goal_8
def dkwX4_goal_6 : List UInt8 := [182, 1, 71, 153, 0, 62, 42, 182, 1, 64, 42, 16, 7, 6, 182, 1, 78, 61, 42, 16, 46, 182, 1, 94]
abbrev dktX4_goal_6 : List UInt8 := dkwX4_goal_6 ++ dktX4_goal_7
def dkwX4_goal_5 : List UInt8 := [180, 1, 125, 4, 96, 181, 1, 125, 27, 153, 0, 8, 42, 29, 181, 1, 117, 167, 0, 77, 42, 19, 1, 128]
abbrev dktX4_goal_5 : List UInt8 := dkwX4_goal_5 ++ dktX4_goal_6
def dkwX4_goal_4 : List UInt8 := [177, 42, 180, 0, 128, 42, 180, 1, 125, 28, 79, 42, 180, 0, 131, 42, 180, 1, 125, 29, 79, 42, 89]
abbrev dktX4_goal_4 : List UInt8 := dkwX4_goal_4 ++ dktX4_goal_5
def dkwX4_goal_3 : List UInt8 := [163, 0, 8, 42, 7, 182, 1, 67, 42, 17, 39, 16, 4, 182, 1, 78, 62, 42, 180, 1, 45, 153, 0, 4]
abbrev dktX4_goal_3 : List UInt8 := dkwX4_goal_3 ++ dktX4_goal_4
def dkwX4_goal_2 : List UInt8 := [180, 1, 45, 154, 0, 27, 42, 180, 1, 30, 5, 160, 0, 19, 42, 180, 1, 39, 42, 180, 1, 122]
abbrev dktX4_goal_2 : List UInt8 := dkwX4_goal_2 ++ dktX4_goal_3
def dkwX4_goal_1 : List UInt8 := [167, 0, 186, 42, 19, 1, 120, 182, 1, 71, 153, 0, 102, 42, 182, 1, 64, 42, 180, 1, 27, 61, 42]
abbrev dktX4_goal_1 : List UInt8 := dkwX4_goal_1 ++ dktX4_goal_2
def dkwX4_goal_0 : List UInt8 := [42, 19, 1, 115, 182, 1, 71, 153, 0, 19, 42, 182, 1, 64, 27, 153, 0, 194, 42, 2, 181, 1, 117]
abbrev dktX4_goal_0 : List UInt8 := dkwX4_goal_0 ++ dktX4_goal_1
theorem dksX4_goal_0 : cX4_goal.data.toList.drop 0 = dktX4_goal_0 := by decide +kernel
theorem dksX4_goal_1 : cX4_goal.data.toList.drop 23 = dktX4_goal_1 := dk_seg dksX4_goal_0 23 rfl rfl
theorem dksX4_goal_2 : cX4_goal.data.toList.drop 46 = dktX4_goal_2 := dk_seg dksX4_goal_1 23 rfl rfl
theorem dksX4_goal_3 : cX4_goal.data.toList.drop 68 = dktX4_goal_3 := dk_seg dksX4_goal_2 22 rfl rfl
theorem dksX4_goal_4 : cX4_goal.data.toList.drop 92 = dktX4_goal_4 := dk_seg dksX4_goal_3 24 rfl rfl
theorem dksX4_goal_5 : cX4_goal.data.toList.drop 115 = dktX4_goal_5 := dk_seg dksX4_goal_4 23 rfl rfl
theorem dksX4_goal_6 : cX4_goal.data.toList.drop 139 = dktX4_goal_6 := dk_seg dksX4_goal_5 24 rfl rfl
theorem dksX4_goal_7 : cX4_goal.data.toList.drop 163 = dktX4_goal_7 := dk_seg dksX4_goal_6 24 rfl rfl
theorem dksX4_goal_8 : cX4_goal.data.toList.drop 187 = dktX4_goal_8 := dk_seg dksX4_goal_7 24 rfl rfl
theorem dX4_goal_0 : decode cX4_goal 0 = .ok (.aload_n 0, 1) := dk_42 (dk_at dksX4_goal_0 0 rfl rfl)
theorem dX4_goal_1 : decode cX4_goal 1 = .ok (.ldc_w 371, 3) := dk_19 1 115 (dk_at dksX4_goal_0 1 rfl rfl)
theorem dX4_goal_4 : decode cX4_goal 4 = .ok (.invokevirtual 327, 3) := dk_182 1 71 (dk_at dksX4_goal_0 4 rfl rfl)
theorem dX4_goal_7 : decode cX4_goal 7 = .ok (.ifCond .eq 19, 3) := dk_153 0 19 (dk_at dksX4_goal_0 7 rfl rfl)
theorem dX4_goal_10 : decode cX4_goal 10 = .ok (.aload_n 0, 1) := dk_42 (dk_at dksX4_goal_0 10 rfl rfl)
theorem dX4_goal_11 : decode cX4_goal 11 = .ok (.invokevirtual 320, 3) := dk_182 1 64 (dk_at dksX4_goal_0 11 rfl rfl)
theorem dX4_goal_14 : decode cX4_goal 14 = .ok (.iload_n 1, 1) := dk_27 (dk_at dksX4_goal_0 14 rfl rfl)
theorem dX4_goal_15 : decode cX4_goal 15 = .ok (.ifCond .eq 194, 3) := dk_153 0 194 (dk_at dksX4_goal_0 15 rfl rfl)
theorem dX4_goal_18 : decode cX4_goal 18 = .ok (.aload_n 0, 1) := dk_42 (dk_at dksX4_goal_0 18 rfl rfl)
theorem dX4_goal_19 : decode cX4_goal 19 = .ok (.iconst (-1), 1) := dk_2 (dk_at dksX4_goal_0 19 rfl rfl)
theorem dX4_goal_20 : decode cX4_goal 20 = .ok (.putfield 373, 3) := dk_181 1 117 (dk_at dksX4_goal_0 20 rfl rfl)
theorem dX4_goal_23 : decode cX4_goal 23 = .ok (.goto 186, 3) := dk_167 0 186 (dk_at dksX4_goal_1 0 rfl rfl)
theorem dX4_goal_26 : decode cX4_goal 26 = .ok (.aload_n 0, 1) := dk_42 (dk_at dksX4_goal_1 3 rfl rfl)
theorem dX4_goal_27 : decode cX4_goal 27 = .ok (.ldc_w 376, 3) := dk_19 1 120 (dk_at dksX4_goal_1 4 rfl rfl)
theorem dX4_goal_30 : decode cX4_goal 30 = .ok (.invokevirtual 327, 3) := dk_182 1 71 (dk_at dksX4_goal_1 7 rfl rfl)
theorem dX4_goal_33 : decode cX4_goal 33 = .ok (.ifCond .eq 102, 3) := dk_153 0 102 (dk_at dksX4_goal_1 10 rfl rfl)
theorem dX4_goal_36 : decode cX4_goal 36 = .ok (.aload_n 0, 1) := dk_42 (dk_at dksX4_goal_1 13 rfl rfl)
theorem dX4_goal_37 : decode cX4_goal 37 = .ok (.invokevirtual 320, 3) := dk_182 1 64 (dk_at dksX4_goal_1 14 rfl rfl)
theorem dX4_goal_40 : decode cX4_goal 40 = .ok (.aload_n 0, 1) := dk_42 (dk_at dksX4_goal_1 17 rfl rfl)
theorem dX4_goal_41 : decode cX4_goal 41 = .ok (.getfield 283, 3) := dk_180 1 27 (dk_at dksX4_goal_1 18 rfl rfl)
theorem dX4_goal_44 : decode cX4_goal 44 = .ok (.istore_n 2, 1) := dk_61 (dk_at dksX4_goal_1 21 rfl rfl)
theorem dX4_goal_45 : decode cX4_goal 45 = .ok (.aload_n 0, 1) := dk_42 (dk_at dksX4_goal_1 22 rfl rfl)
theorem dX4_goal_46 : decode cX4_goal 46 = .ok (.getfield 301, 3) := dk_180 1 45 (dk_at dksX4_goal_2 0 rfl rfl)
theorem dX4_goal_49 : decode cX4_goal 49 = .ok (.ifCond .ne 27, 3) := dk_154 0 27 (dk_at dksX4_goal_2 3 rfl rfl)
theorem dX4_goal_52 : decode cX4_goal 52 = .ok (.aload_n 0, 1) := dk_42 (dk_at dksX4_goal_2 6 rfl rfl)
theorem dX4_goal_53 : decode cX4_goal 53 = .ok (.getfield 286, 3) := dk_180 1 30 (dk_at dksX4_goal_2 7 rfl rfl)
theorem dX4_goal_56 : decode cX4_goal 56 = .ok (.iconst 2, 1) := dk_5 (dk_at dksX4_goal_2 10 rfl rfl)
theorem dX4_goal_57 : decode cX4_goal 57 = .ok (.if_icmp .ne 19, 3) := dk_160 0 19 (dk_at dksX4_goal_2 11 rfl rfl)
theorem dX4_goal_60 : decode cX4_goal 60 = .ok (.aload_n 0, 1) := dk_42 (dk_at dksX4_goal_2 14 rfl rfl)
theorem dX4_goal_61 : decode cX4_goal 61 = .ok (.getfield 295, 3) := dk_180 1 39 (dk_at dksX4_goal_2 15 rfl rfl)
theorem dX4_goal_64 : decode cX4_goal 64 = .ok (.aload_n 0, 1) := dk_42 (dk_at dksX4_goal_2 18 rfl rfl)
theorem dX4_goal_65 : decode cX4_goal 65 = .ok (.getfield 378, 3) := dk_180 1 122 (dk_at dksX4_goal_2 19 rfl rfl)
theorem dX4_goal_68 : decode cX4_goal 68 = .ok (.if_icmp .gt 8, 3) := dk_163 0 8 (dk_at dksX4_goal_3 0 rfl rfl)
theorem dX4_goal_71 : decode cX4_goal 71 = .ok (.aload_n 0, 1) := dk_42 (dk_at dksX4_goal_3 3 rfl rfl)
theorem dX4_goal_72 : decode cX4_goal 72 = .ok (.iconst 4, 1) := dk_7 (dk_at dksX4_goal_3 4 rfl rfl)
theorem dX4_goal_73 : decode cX4_goal 73 = .ok (.invokevirtual 323, 3) := dk_182 1 67 (dk_at dksX4_goal_3 5 rfl rfl)
theorem dX4_goal_76 : decode cX4_goal 76 = .ok (.aload_n 0, 1) := dk_42 (dk_at dksX4_goal_3 8 rfl rfl)
theorem dX4_goal_77 : decode cX4_goal 77 = .ok (.sipush 10000, 3) := dk_17 39 16 (dk_at dksX4_goal_3 9 rfl rfl)
theorem dX4_goal_80 : decode cX4_goal 80 = .ok (.iconst 1, 1) := dk_4 (dk_at dksX4_goal_3 12 rfl rfl)
theorem dX4_goal_81 : decode cX4_goal 81 = .ok (.invokevirtual 334, 3) := dk_182 1 78 (dk_at dksX4_goal_3 13 rfl rfl)
theorem dX4_goal_84 : decode cX4_goal 84 = .ok (.istore_n 3, 1) := dk_62 (dk_at dksX4_goal_3 16 rfl rfl)
theorem dX4_goal_85 : decode cX4_goal 85 = .ok (.aload_n 0, 1) := dk_42 (dk_at dksX4_goal_3 17 rfl rfl)
theorem dX4_goal_86 : decode cX4_goal 86 = .ok (.getfield 301, 3) := dk_180 1 45 (dk_at dksX4_goal_3 18 rfl rfl)
theorem dX4_goal_89 : decode cX4_goal 89 = .ok (.ifCond .eq 4, 3) := dk_153 0 4 (dk_at dksX4_goal_3 21 rfl rfl)
theorem dX4_goal_92 : decode cX4_goal 92 = .ok (.return_, 1) := dk_177 (dk_at dksX4_goal_4 0 rfl rfl)
theorem dX4_goal_93 : decode cX4_goal 93 = .ok (.aload_n 0, 1) := dk_42 (dk_at dksX4_goal_4 1 rfl rfl)
theorem dX4_goal_94 : decode cX4_goal 94 = .ok (.getfield 128, 3) := dk_180 0 128 (dk_at dksX4_goal_4 2 rfl rfl)
theorem dX4_goal_97 : decode cX4_goal 97 = .ok (.aload_n 0, 1) := dk_42 (dk_at dksX4_goal_4 5 rfl rfl)
theorem dX4_goal_98 : decode cX4_goal 98 = .ok (.getfield 381, 3) := dk_180 1 125 (dk_at dksX4_goal_4 6 rfl rfl)
theorem dX4_goal_101 : decode cX4_goal 101 = .ok (.iload_n 2, 1) := dk_28 (dk_at dksX4_goal_4 9 rfl rfl)
theorem dX4_goal_102 : decode cX4_goal 102 = .ok (.iastore, 1) := dk_79 (dk_at dksX4_goal_4 10 rfl rfl)
theorem dX4_goal_103 : decode cX4_goal 103 = .ok (.aload_n 0, 1) := dk_42 (dk_at dksX4_goal_4 11 rfl rfl)
theorem dX4_goal_104 : decode cX4_goal 104 = .ok (.getfield 131, 3) := dk_180 0 131 (dk_at dksX4_goal_4 12 rfl rfl)
theorem dX4_goal_107 : decode cX4_goal 107 = .ok (.aload_n 0, 1) := dk_42 (dk_at dksX4_goal_4 15 rfl rfl)
theorem dX4_goal_108 : decode cX4_goal 108 = .ok (.getfield 381, 3) := dk_180 1 125 (dk_at dksX4_goal_4 16 rfl rfl)
theorem dX4_goal_111 : decode cX4_goal 111 = .ok (.iload_n 3, 1) := dk_29 (dk_at dksX4_goal_4 19 rfl rfl)
theorem dX4_goal_112 : decode cX4_goal 112 = .ok (.iastore, 1) := dk_79 (dk_at dksX4_goal_4 20 rfl rfl)
theorem dX4_goal_113 : decode cX4_goal 113 = .ok (.aload_n 0, 1) := dk_42 (dk_at dksX4_goal_4 21 rfl rfl)
theorem dX4_goal_114 : decode cX4_goal 114 = .ok (.dup, 1) := dk_89 (dk_at dksX4_goal_4 22 rfl rfl)
theorem dX4_goal_115 : decode cX4_goal 115 = .ok (.getfield 381, 3) := dk_180 1 125 (dk_at dksX4_goal_5 0 rfl rfl)
theorem dX4_goal_118 : decode cX4_goal 118 = .ok (.iconst 1, 1) := dk_4 (dk_at dksX4_goal_5 3 rfl rfl)
theorem dX4_goal_119 : decode cX4_goal 119 = .ok (.iadd, 1) := dk_96 (dk_at dksX4_goal_5 4 rfl rfl)
theorem dX4_goal_120 : decode cX4_goal 120 = .ok (.putfield 381, 3) := dk_181 1 125 (dk_at dksX4_goal_5 5 rfl rfl)
theorem dX4_goal_123 : decode cX4_goal 123 = .ok (.iload_n 1, 1) := dk_27 (dk_at dksX4_goal_5 8 rfl rfl)
theorem dX4_goal_124 : decode cX4_goal 124 = .ok (.ifCond .eq 8, 3) := dk_153 0 8 (dk_at dksX4_goal_5 9 rfl rfl)
theorem dX4_goal_127 : decode cX4_goal 127 = .ok (.aload_n 0, 1) := dk_42 (dk_at dksX4_goal_5 12 rfl rfl)
theorem dX4_goal_128 : decode cX4_goal 128 = .ok (.iload_n 3, 1) := dk_29 (dk_at dksX4_goal_5 13 rfl rfl)
theorem dX4_goal_129 : decode cX4_goal 129 = .ok (.putfield 373, 3) := dk_181 1 117 (dk_at dksX4_goal_5 14 rfl rfl)
theorem dX4_goal_132 : decode cX4_goal 132 = .ok (.goto 77, 3) := dk_167 0 77 (dk_at dksX4_goal_5 17 rfl rfl)
theorem dX4_goal_135 : decode cX4_goal 135 = .ok (.aload_n 0, 1) := dk_42 (dk_at dksX4_goal_5 20 rfl rfl)
theorem dX4_goal_136 : decode cX4_goal 136 = .ok (.ldc_w 384, 3) := dk_19 1 128 (dk_at dksX4_goal_5 21 rfl rfl)
theorem dX4_goal_139 : decode cX4_goal 139 = .ok (.invokevirtual 327, 3) := dk_182 1 71 (dk_at dksX4_goal_6 0 rfl rfl)
theorem dX4_goal_142 : decode cX4_goal 142 = .ok (.ifCond .eq 62, 3) := dk_153 0 62 (dk_at dksX4_goal_6 3 rfl rfl)
theorem dX4_goal_145 : decode cX4_goal 145 = .ok (.aload_n 0, 1) := dk_42 (dk_at dksX4_goal_6 6 rfl rfl)
theorem dX4_goal_146 : decode cX4_goal 146 = .ok (.invokevirtual 320, 3) := dk_182 1 64 (dk_at dksX4_goal_6 7 rfl rfl)
theorem dX4_goal_149 : decode cX4_goal 149 = .ok (.aload_n 0, 1) := dk_42 (dk_at dksX4_goal_6 10 rfl rfl)
theorem dX4_goal_150 : decode cX4_goal 150 = .ok (.bipush 7, 2) := dk_16 7 (dk_at dksX4_goal_6 11 rfl rfl)
theorem dX4_goal_152 : decode cX4_goal 152 = .ok (.iconst 3, 1) := dk_6 (dk_at dksX4_goal_6 13 rfl rfl)
theorem dX4_goal_153 : decode cX4_goal 153 = .ok (.invokevirtual 334, 3) := dk_182 1 78 (dk_at dksX4_goal_6 14 rfl rfl)
theorem dX4_goal_156 : decode cX4_goal 156 = .ok (.istore_n 2, 1) := dk_61 (dk_at dksX4_goal_6 17 rfl rfl)
theorem dX4_goal_157 : decode cX4_goal 157 = .ok (.aload_n 0, 1) := dk_42 (dk_at dksX4_goal_6 18 rfl rfl)
theorem dX4_goal_158 : decode cX4_goal 158 = .ok (.bipush 46, 2) := dk_16 46 (dk_at dksX4_goal_6 19 rfl rfl)
theorem dX4_goal_160 : decode cX4_goal 160 = .ok (.invokevirtual 350, 3) := dk_182 1 94 (dk_at dksX4_goal_6 21 rfl rfl)
theorem dX4_goal_163 : decode cX4_goal 163 = .ok (.aload_n 0, 1) := dk_42 (dk_at dksX4_goal_7 0 rfl rfl)
theorem dX4_goal_164 : decode cX4_goal 164 = .ok (.aload_n 0, 1) := dk_42 (dk_at dksX4_goal_7 1 rfl rfl)
theorem dX4_goal_165 : decode cX4_goal 165 = .ok (.getfield 198, 3) := dk_180 0 198 (dk_at dksX4_goal_7 2 rfl rfl)
theorem dX4_goal_168 : decode cX4_goal 168 = .ok (.iconst 1, 1) := dk_4 (dk_at dksX4_goal_7 5 rfl rfl)
theorem dX4_goal_169 : decode cX4_goal 169 = .ok (.isub, 1) := dk_100 (dk_at dksX4_goal_7 6 rfl rfl)
theorem dX4_goal_170 : decode cX4_goal 170 = .ok (.iconst 3, 1) := dk_6 (dk_at dksX4_goal_7 7 rfl rfl)
theorem dX4_goal_171 : decode cX4_goal 171 = .ok (.invokevirtual 334, 3) := dk_182 1 78 (dk_at dksX4_goal_7 8 rfl rfl)
theorem dX4_goal_174 : decode cX4_goal 174 = .ok (.istore_n 3, 1) := dk_62 (dk_at dksX4_goal_7 11 rfl rfl)
theorem dX4_goal_175 : decode cX4_goal 175 = .ok (.aload_n 0, 1) := dk_42 (dk_at dksX4_goal_7 12 rfl rfl)
theorem dX4_goal_176 : decode cX4_goal 176 = .ok (.getfield 301, 3) := dk_180 1 45 (dk_at dksX4_goal_7 13 rfl rfl)
theorem dX4_goal_179 : decode cX4_goal 179 = .ok (.ifCond .ne 22, 3) := dk_154 0 22 (dk_at dksX4_goal_7 16 rfl rfl)
theorem dX4_goal_182 : decode cX4_goal 182 = .ok (.iload_n 1, 1) := dk_27 (dk_at dksX4_goal_7 19 rfl rfl)
theorem dX4_goal_183 : decode cX4_goal 183 = .ok (.ifCond .eq 18, 3) := dk_153 0 18 (dk_at dksX4_goal_7 20 rfl rfl)
theorem dX4_goal_186 : decode cX4_goal 186 = .ok (.aload_n 0, 1) := dk_42 (dk_at dksX4_goal_7 23 rfl rfl)
theorem dX4_goal_187 : decode cX4_goal 187 = .ok (.bipush 100, 2) := dk_16 100 (dk_at dksX4_goal_8 0 rfl rfl)
theorem dX4_goal_189 : decode cX4_goal 189 = .ok (.iload_n 2, 1) := dk_28 (dk_at dksX4_goal_8 2 rfl rfl)
theorem dX4_goal_190 : decode cX4_goal 190 = .ok (.imul, 1) := dk_104 (dk_at dksX4_goal_8 3 rfl rfl)
theorem dX4_goal_191 : decode cX4_goal 191 = .ok (.iload_n 3, 1) := dk_29 (dk_at dksX4_goal_8 4 rfl rfl)
theorem dX4_goal_192 : decode cX4_goal 192 = .ok (.iadd, 1) := dk_96 (dk_at dksX4_goal_8 5 rfl rfl)
theorem dX4_goal_193 : decode cX4_goal 193 = .ok (.putfield 385, 3) := dk_181 1 129 (dk_at dksX4_goal_8 6 rfl rfl)
theorem dX4_goal_196 : decode cX4_goal 196 = .ok (.aload_n 0, 1) := dk_42 (dk_at dksX4_goal_8 9 rfl rfl)
theorem dX4_goal_197 : decode cX4_goal 197 = .ok (.iconst (-1), 1) := dk_2 (dk_at dksX4_goal_8 10 rfl rfl)
theorem dX4_goal_198 : decode cX4_goal 198 = .ok (.putfield 373, 3) := dk_181 1 117 (dk_at dksX4_goal_8 11 rfl rfl)
theorem dX4_goal_201 : decode cX4_goal 201 = .ok (.goto 8, 3) := dk_167 0 8 (dk_at dksX4_goal_8 14 rfl rfl)
theorem dX4_goal_204 : decode cX4_goal 204 = .ok (.aload_n 0, 1) := dk_42 (dk_at dksX4_goal_8 17 rfl rfl)
theorem dX4_goal_205 : decode cX4_goal 205 = .ok (.iconst 1, 1) := dk_4 (dk_at dksX4_goal_8 18 rfl rfl)
theorem dX4_goal_206 : decode cX4_goal 206 = .ok (.invokevirtual 323, 3) := dk_182 1 67 (dk_at dksX4_goal_8 19 rfl rfl)
theorem dX4_goal_209 : decode cX4_goal 209 = .ok (.return_, 1) := dk_177 (dk_at dksX4_goal_8 22 rfl rfl)
abbrev cX4_feed : ByteArray := prog_20_method_29_code
def yX4_feed : MethodName := ⟨RX4, "feed", "(IIIII)I"⟩
def dkwX4_feed_5 : List UInt8 := [181, 1, 11, 42, 180, 1, 11, 172]
abbrev dktX4_feed_5 : List UInt8 := dkwX4_feed_5 ++ []
def dkwX4_feed_4 : List UInt8 := [21, 6, 7, 112, 104, 100, 122, 145, 84, 132, 6, 1, 167, 255, 172, 42, 89, 180, 1, 11, 16, 20, 96]
abbrev dktX4_feed_4 : List UInt8 := dkwX4_feed_4 ++ dktX4_feed_5
def dkwX4_feed_3 : List UInt8 := [167, 0, 5, 21, 5, 54, 7, 42, 180, 0, 100, 42, 180, 1, 11, 21, 6, 96, 21, 7, 16, 24, 16, 8]
abbrev dktX4_feed_3 : List UInt8 := dkwX4_feed_3 ++ dktX4_feed_4
def dkwX4_feed_2 : List UInt8 := [28, 167, 0, 28, 21, 6, 16, 12, 162, 0, 7, 29, 167, 0, 17, 21, 6, 16, 16, 162, 0, 8, 21, 4]
abbrev dktX4_feed_2 : List UInt8 := dkwX4_feed_2 ++ dktX4_feed_3
def dkwX4_feed_1 : List UInt8 := [21, 6, 16, 20, 162, 0, 83, 21, 6, 7, 162, 0, 7, 27, 167, 0, 39, 21, 6, 16, 8, 162, 0, 7]
abbrev dktX4_feed_1 : List UInt8 := dkwX4_feed_1 ++ dktX4_feed_2
def dkwX4_feed_0 : List UInt8 := [42, 3, 181, 0, 173, 42, 180, 1, 11, 16, 20, 96, 17, 1, 144, 164, 0, 5, 2, 172, 3, 54, 6]
abbrev dktX4_feed_0 : List UInt8 := dkwX4_feed_0 ++ dktX4_feed_1
theorem dksX4_feed_0 : cX4_feed.data.toList.drop 0 = dktX4_feed_0 := by decide +kernel
theorem dksX4_feed_1 : cX4_feed.data.toList.drop 23 = dktX4_feed_1 := dk_seg dksX4_feed_0 23 rfl rfl
theorem dksX4_feed_2 : cX4_feed.data.toList.drop 47 = dktX4_feed_2 := dk_seg dksX4_feed_1 24 rfl rfl
theorem dksX4_feed_3 : cX4_feed.data.toList.drop 71 = dktX4_feed_3 := dk_seg dksX4_feed_2 24 rfl rfl
theorem dksX4_feed_4 : cX4_feed.data.toList.drop 95 = dktX4_feed_4 := dk_seg dksX4_feed_3 24 rfl rfl
theorem dksX4_feed_5 : cX4_feed.data.toList.drop 118 = dktX4_feed_5 := dk_seg dksX4_feed_4 23 rfl rfl
theorem dX4_feed_0 : decode cX4_feed 0 = .ok (.aload_n 0, 1) := dk_42 (dk_at dksX4_feed_0 0 rfl rfl)
theorem dX4_feed_1 : decode cX4_feed 1 = .ok (.iconst 0, 1) := dk_3 (dk_at dksX4_feed_0 1 rfl rfl)
theorem dX4_feed_2 : decode cX4_feed 2 = .ok (.putfield 173, 3) := dk_181 0 173 (dk_at dksX4_feed_0 2 rfl rfl)
theorem dX4_feed_5 : decode cX4_feed 5 = .ok (.aload_n 0, 1) := dk_42 (dk_at dksX4_feed_0 5 rfl rfl)
theorem dX4_feed_6 : decode cX4_feed 6 = .ok (.getfield 267, 3) := dk_180 1 11 (dk_at dksX4_feed_0 6 rfl rfl)
theorem dX4_feed_9 : decode cX4_feed 9 = .ok (.bipush 20, 2) := dk_16 20 (dk_at dksX4_feed_0 9 rfl rfl)
theorem dX4_feed_11 : decode cX4_feed 11 = .ok (.iadd, 1) := dk_96 (dk_at dksX4_feed_0 11 rfl rfl)
theorem dX4_feed_12 : decode cX4_feed 12 = .ok (.sipush 400, 3) := dk_17 1 144 (dk_at dksX4_feed_0 12 rfl rfl)
theorem dX4_feed_15 : decode cX4_feed 15 = .ok (.if_icmp .le 5, 3) := dk_164 0 5 (dk_at dksX4_feed_0 15 rfl rfl)
theorem dX4_feed_18 : decode cX4_feed 18 = .ok (.iconst (-1), 1) := dk_2 (dk_at dksX4_feed_0 18 rfl rfl)
theorem dX4_feed_19 : decode cX4_feed 19 = .ok (.ireturn, 1) := dk_172 (dk_at dksX4_feed_0 19 rfl rfl)
theorem dX4_feed_20 : decode cX4_feed 20 = .ok (.iconst 0, 1) := dk_3 (dk_at dksX4_feed_0 20 rfl rfl)
theorem dX4_feed_21 : decode cX4_feed 21 = .ok (.istore 6, 2) := dk_54 6 (dk_at dksX4_feed_0 21 rfl rfl)
theorem dX4_feed_23 : decode cX4_feed 23 = .ok (.iload 6, 2) := dk_21 6 (dk_at dksX4_feed_1 0 rfl rfl)
theorem dX4_feed_25 : decode cX4_feed 25 = .ok (.bipush 20, 2) := dk_16 20 (dk_at dksX4_feed_1 2 rfl rfl)
theorem dX4_feed_27 : decode cX4_feed 27 = .ok (.if_icmp .ge 83, 3) := dk_162 0 83 (dk_at dksX4_feed_1 4 rfl rfl)
theorem dX4_feed_30 : decode cX4_feed 30 = .ok (.iload 6, 2) := dk_21 6 (dk_at dksX4_feed_1 7 rfl rfl)
theorem dX4_feed_32 : decode cX4_feed 32 = .ok (.iconst 4, 1) := dk_7 (dk_at dksX4_feed_1 9 rfl rfl)
theorem dX4_feed_33 : decode cX4_feed 33 = .ok (.if_icmp .ge 7, 3) := dk_162 0 7 (dk_at dksX4_feed_1 10 rfl rfl)
theorem dX4_feed_36 : decode cX4_feed 36 = .ok (.iload_n 1, 1) := dk_27 (dk_at dksX4_feed_1 13 rfl rfl)
theorem dX4_feed_37 : decode cX4_feed 37 = .ok (.goto 39, 3) := dk_167 0 39 (dk_at dksX4_feed_1 14 rfl rfl)
theorem dX4_feed_40 : decode cX4_feed 40 = .ok (.iload 6, 2) := dk_21 6 (dk_at dksX4_feed_1 17 rfl rfl)
theorem dX4_feed_42 : decode cX4_feed 42 = .ok (.bipush 8, 2) := dk_16 8 (dk_at dksX4_feed_1 19 rfl rfl)
theorem dX4_feed_44 : decode cX4_feed 44 = .ok (.if_icmp .ge 7, 3) := dk_162 0 7 (dk_at dksX4_feed_1 21 rfl rfl)
theorem dX4_feed_47 : decode cX4_feed 47 = .ok (.iload_n 2, 1) := dk_28 (dk_at dksX4_feed_2 0 rfl rfl)
theorem dX4_feed_48 : decode cX4_feed 48 = .ok (.goto 28, 3) := dk_167 0 28 (dk_at dksX4_feed_2 1 rfl rfl)
theorem dX4_feed_51 : decode cX4_feed 51 = .ok (.iload 6, 2) := dk_21 6 (dk_at dksX4_feed_2 4 rfl rfl)
theorem dX4_feed_53 : decode cX4_feed 53 = .ok (.bipush 12, 2) := dk_16 12 (dk_at dksX4_feed_2 6 rfl rfl)
theorem dX4_feed_55 : decode cX4_feed 55 = .ok (.if_icmp .ge 7, 3) := dk_162 0 7 (dk_at dksX4_feed_2 8 rfl rfl)
theorem dX4_feed_58 : decode cX4_feed 58 = .ok (.iload_n 3, 1) := dk_29 (dk_at dksX4_feed_2 11 rfl rfl)
theorem dX4_feed_59 : decode cX4_feed 59 = .ok (.goto 17, 3) := dk_167 0 17 (dk_at dksX4_feed_2 12 rfl rfl)
theorem dX4_feed_62 : decode cX4_feed 62 = .ok (.iload 6, 2) := dk_21 6 (dk_at dksX4_feed_2 15 rfl rfl)
theorem dX4_feed_64 : decode cX4_feed 64 = .ok (.bipush 16, 2) := dk_16 16 (dk_at dksX4_feed_2 17 rfl rfl)
theorem dX4_feed_66 : decode cX4_feed 66 = .ok (.if_icmp .ge 8, 3) := dk_162 0 8 (dk_at dksX4_feed_2 19 rfl rfl)
theorem dX4_feed_69 : decode cX4_feed 69 = .ok (.iload 4, 2) := dk_21 4 (dk_at dksX4_feed_2 22 rfl rfl)
theorem dX4_feed_71 : decode cX4_feed 71 = .ok (.goto 5, 3) := dk_167 0 5 (dk_at dksX4_feed_3 0 rfl rfl)
theorem dX4_feed_74 : decode cX4_feed 74 = .ok (.iload 5, 2) := dk_21 5 (dk_at dksX4_feed_3 3 rfl rfl)
theorem dX4_feed_76 : decode cX4_feed 76 = .ok (.istore 7, 2) := dk_54 7 (dk_at dksX4_feed_3 5 rfl rfl)
theorem dX4_feed_78 : decode cX4_feed 78 = .ok (.aload_n 0, 1) := dk_42 (dk_at dksX4_feed_3 7 rfl rfl)
theorem dX4_feed_79 : decode cX4_feed 79 = .ok (.getfield 100, 3) := dk_180 0 100 (dk_at dksX4_feed_3 8 rfl rfl)
theorem dX4_feed_82 : decode cX4_feed 82 = .ok (.aload_n 0, 1) := dk_42 (dk_at dksX4_feed_3 11 rfl rfl)
theorem dX4_feed_83 : decode cX4_feed 83 = .ok (.getfield 267, 3) := dk_180 1 11 (dk_at dksX4_feed_3 12 rfl rfl)
theorem dX4_feed_86 : decode cX4_feed 86 = .ok (.iload 6, 2) := dk_21 6 (dk_at dksX4_feed_3 15 rfl rfl)
theorem dX4_feed_88 : decode cX4_feed 88 = .ok (.iadd, 1) := dk_96 (dk_at dksX4_feed_3 17 rfl rfl)
theorem dX4_feed_89 : decode cX4_feed 89 = .ok (.iload 7, 2) := dk_21 7 (dk_at dksX4_feed_3 18 rfl rfl)
theorem dX4_feed_91 : decode cX4_feed 91 = .ok (.bipush 24, 2) := dk_16 24 (dk_at dksX4_feed_3 20 rfl rfl)
theorem dX4_feed_93 : decode cX4_feed 93 = .ok (.bipush 8, 2) := dk_16 8 (dk_at dksX4_feed_3 22 rfl rfl)
theorem dX4_feed_95 : decode cX4_feed 95 = .ok (.iload 6, 2) := dk_21 6 (dk_at dksX4_feed_4 0 rfl rfl)
theorem dX4_feed_97 : decode cX4_feed 97 = .ok (.iconst 4, 1) := dk_7 (dk_at dksX4_feed_4 2 rfl rfl)
theorem dX4_feed_98 : decode cX4_feed 98 = .ok (.irem, 1) := dk_112 (dk_at dksX4_feed_4 3 rfl rfl)
theorem dX4_feed_99 : decode cX4_feed 99 = .ok (.imul, 1) := dk_104 (dk_at dksX4_feed_4 4 rfl rfl)
theorem dX4_feed_100 : decode cX4_feed 100 = .ok (.isub, 1) := dk_100 (dk_at dksX4_feed_4 5 rfl rfl)
theorem dX4_feed_101 : decode cX4_feed 101 = .ok (.ishr, 1) := dk_122 (dk_at dksX4_feed_4 6 rfl rfl)
theorem dX4_feed_102 : decode cX4_feed 102 = .ok (.i2b, 1) := dk_145 (dk_at dksX4_feed_4 7 rfl rfl)
theorem dX4_feed_103 : decode cX4_feed 103 = .ok (.bastore, 1) := dk_84 (dk_at dksX4_feed_4 8 rfl rfl)
theorem dX4_feed_104 : decode cX4_feed 104 = .ok (.iinc 6 1, 3) := dk_132 6 1 (dk_at dksX4_feed_4 9 rfl rfl)
theorem dX4_feed_107 : decode cX4_feed 107 = .ok (.goto (-84), 3) := dk_167 255 172 (dk_at dksX4_feed_4 12 rfl rfl)
theorem dX4_feed_110 : decode cX4_feed 110 = .ok (.aload_n 0, 1) := dk_42 (dk_at dksX4_feed_4 15 rfl rfl)
theorem dX4_feed_111 : decode cX4_feed 111 = .ok (.dup, 1) := dk_89 (dk_at dksX4_feed_4 16 rfl rfl)
theorem dX4_feed_112 : decode cX4_feed 112 = .ok (.getfield 267, 3) := dk_180 1 11 (dk_at dksX4_feed_4 17 rfl rfl)
theorem dX4_feed_115 : decode cX4_feed 115 = .ok (.bipush 20, 2) := dk_16 20 (dk_at dksX4_feed_4 20 rfl rfl)
theorem dX4_feed_117 : decode cX4_feed 117 = .ok (.iadd, 1) := dk_96 (dk_at dksX4_feed_4 22 rfl rfl)
theorem dX4_feed_118 : decode cX4_feed 118 = .ok (.putfield 267, 3) := dk_181 1 11 (dk_at dksX4_feed_5 0 rfl rfl)
theorem dX4_feed_121 : decode cX4_feed 121 = .ok (.aload_n 0, 1) := dk_42 (dk_at dksX4_feed_5 3 rfl rfl)
theorem dX4_feed_122 : decode cX4_feed 122 = .ok (.getfield 267, 3) := dk_180 1 11 (dk_at dksX4_feed_5 4 rfl rfl)
theorem dX4_feed_125 : decode cX4_feed 125 = .ok (.ireturn, 1) := dk_172 (dk_at dksX4_feed_5 7 rfl rfl)
abbrev cX4_end : ByteArray := prog_20_method_30_code
def yX4_end : MethodName := ⟨RX4, "end", "(I)I"⟩
def dkwX4_end_1 : List UInt8 := [181, 1, 11, 27, 172]
abbrev dktX4_end_1 : List UInt8 := dkwX4_end_1 ++ []
def dkwX4_end_0 : List UInt8 := [42, 3, 181, 0, 173, 27, 133, 9, 42, 180, 1, 11, 133, 184, 0, 178, 154, 0, 5, 2, 172, 42, 27]
abbrev dktX4_end_0 : List UInt8 := dkwX4_end_0 ++ dktX4_end_1
theorem dksX4_end_0 : cX4_end.data.toList.drop 0 = dktX4_end_0 := by decide +kernel
theorem dksX4_end_1 : cX4_end.data.toList.drop 23 = dktX4_end_1 := dk_seg dksX4_end_0 23 rfl rfl
theorem dX4_end_0 : decode cX4_end 0 = .ok (.aload_n 0, 1) := dk_42 (dk_at dksX4_end_0 0 rfl rfl)
theorem dX4_end_1 : decode cX4_end 1 = .ok (.iconst 0, 1) := dk_3 (dk_at dksX4_end_0 1 rfl rfl)
theorem dX4_end_2 : decode cX4_end 2 = .ok (.putfield 173, 3) := dk_181 0 173 (dk_at dksX4_end_0 2 rfl rfl)
theorem dX4_end_5 : decode cX4_end 5 = .ok (.iload_n 1, 1) := dk_27 (dk_at dksX4_end_0 5 rfl rfl)
theorem dX4_end_6 : decode cX4_end 6 = .ok (.i2l, 1) := dk_133 (dk_at dksX4_end_0 6 rfl rfl)
theorem dX4_end_7 : decode cX4_end 7 = .ok (.lconst 0, 1) := dk_9 (dk_at dksX4_end_0 7 rfl rfl)
theorem dX4_end_8 : decode cX4_end 8 = .ok (.aload_n 0, 1) := dk_42 (dk_at dksX4_end_0 8 rfl rfl)
theorem dX4_end_9 : decode cX4_end 9 = .ok (.getfield 267, 3) := dk_180 1 11 (dk_at dksX4_end_0 9 rfl rfl)
theorem dX4_end_12 : decode cX4_end 12 = .ok (.i2l, 1) := dk_133 (dk_at dksX4_end_0 12 rfl rfl)
theorem dX4_end_13 : decode cX4_end 13 = .ok (.invokestatic 178, 3) := dk_184 0 178 (dk_at dksX4_end_0 13 rfl rfl)
theorem dX4_end_16 : decode cX4_end 16 = .ok (.ifCond .ne 5, 3) := dk_154 0 5 (dk_at dksX4_end_0 16 rfl rfl)
theorem dX4_end_19 : decode cX4_end 19 = .ok (.iconst (-1), 1) := dk_2 (dk_at dksX4_end_0 19 rfl rfl)
theorem dX4_end_20 : decode cX4_end 20 = .ok (.ireturn, 1) := dk_172 (dk_at dksX4_end_0 20 rfl rfl)
theorem dX4_end_21 : decode cX4_end 21 = .ok (.aload_n 0, 1) := dk_42 (dk_at dksX4_end_0 21 rfl rfl)
theorem dX4_end_22 : decode cX4_end 22 = .ok (.iload_n 1, 1) := dk_27 (dk_at dksX4_end_0 22 rfl rfl)
theorem dX4_end_23 : decode cX4_end 23 = .ok (.putfield 267, 3) := dk_181 1 11 (dk_at dksX4_end_1 0 rfl rfl)
theorem dX4_end_26 : decode cX4_end 26 = .ok (.iload_n 1, 1) := dk_27 (dk_at dksX4_end_1 3 rfl rfl)
theorem dX4_end_27 : decode cX4_end 27 = .ok (.ireturn, 1) := dk_172 (dk_at dksX4_end_1 4 rfl rfl)
abbrev cX4_key : ByteArray := prog_20_method_53_code
def yX4_key : MethodName := ⟨RX4, "key", "()I"⟩
def dkwX4_key_6 : List UInt8 := [180, 0, 209, 4, 100, 27, 182, 1, 7, 132, 1, 1, 167, 255, 234, 42, 180, 0, 209, 4, 100, 172]
abbrev dktX4_key_6 : List UInt8 := dkwX4_key_6 ++ []
def dkwX4_key_5 : List UInt8 := [42, 89, 180, 0, 209, 4, 96, 181, 0, 209, 3, 60, 27, 42, 180, 0, 206, 162, 0, 20, 42, 42]
abbrev dktX4_key_5 : List UInt8 := dkwX4_key_5 ++ dktX4_key_6
def dkwX4_key_4 : List UInt8 := [154, 0, 7, 2, 167, 0, 7, 42, 180, 1, 48, 181, 0, 107, 42, 180, 1, 45, 153, 0, 6, 16, 252, 172]
abbrev dktX4_key_4 : List UInt8 := dkwX4_key_4 ++ dktX4_key_5
def dkwX4_key_3 : List UInt8 := [42, 42, 180, 0, 209, 2, 182, 1, 155, 42, 42, 180, 1, 45, 181, 0, 104, 42, 42, 180, 1, 45]
abbrev dktX4_key_3 : List UInt8 := dkwX4_key_3 ++ dktX4_key_4
def dkwX4_key_2 : List UInt8 := [132, 1, 1, 167, 255, 224, 42, 180, 0, 113, 42, 180, 0, 209, 42, 180, 1, 11, 79, 42, 3, 181, 1, 11]
abbrev dktX4_key_2 : List UInt8 := dkwX4_key_2 ++ dktX4_key_3
def dkwX4_key_1 : List UInt8 := [162, 0, 30, 42, 180, 0, 110, 17, 1, 144, 42, 180, 0, 209, 104, 27, 96, 42, 180, 0, 100, 27, 51, 84]
abbrev dktX4_key_1 : List UInt8 := dkwX4_key_1 ++ dktX4_key_2
def dkwX4_key_0 : List UInt8 := [42, 3, 181, 0, 173, 42, 180, 0, 209, 16, 12, 160, 0, 6, 16, 253, 172, 3, 60, 27, 42, 180, 1, 11]
abbrev dktX4_key_0 : List UInt8 := dkwX4_key_0 ++ dktX4_key_1
theorem dksX4_key_0 : cX4_key.data.toList.drop 0 = dktX4_key_0 := by decide +kernel
theorem dksX4_key_1 : cX4_key.data.toList.drop 24 = dktX4_key_1 := dk_seg dksX4_key_0 24 rfl rfl
theorem dksX4_key_2 : cX4_key.data.toList.drop 48 = dktX4_key_2 := dk_seg dksX4_key_1 24 rfl rfl
theorem dksX4_key_3 : cX4_key.data.toList.drop 72 = dktX4_key_3 := dk_seg dksX4_key_2 24 rfl rfl
theorem dksX4_key_4 : cX4_key.data.toList.drop 94 = dktX4_key_4 := dk_seg dksX4_key_3 22 rfl rfl
theorem dksX4_key_5 : cX4_key.data.toList.drop 118 = dktX4_key_5 := dk_seg dksX4_key_4 24 rfl rfl
theorem dksX4_key_6 : cX4_key.data.toList.drop 140 = dktX4_key_6 := dk_seg dksX4_key_5 22 rfl rfl
theorem dX4_key_0 : decode cX4_key 0 = .ok (.aload_n 0, 1) := dk_42 (dk_at dksX4_key_0 0 rfl rfl)
theorem dX4_key_1 : decode cX4_key 1 = .ok (.iconst 0, 1) := dk_3 (dk_at dksX4_key_0 1 rfl rfl)
theorem dX4_key_2 : decode cX4_key 2 = .ok (.putfield 173, 3) := dk_181 0 173 (dk_at dksX4_key_0 2 rfl rfl)
theorem dX4_key_5 : decode cX4_key 5 = .ok (.aload_n 0, 1) := dk_42 (dk_at dksX4_key_0 5 rfl rfl)
theorem dX4_key_6 : decode cX4_key 6 = .ok (.getfield 209, 3) := dk_180 0 209 (dk_at dksX4_key_0 6 rfl rfl)
theorem dX4_key_9 : decode cX4_key 9 = .ok (.bipush 12, 2) := dk_16 12 (dk_at dksX4_key_0 9 rfl rfl)
theorem dX4_key_11 : decode cX4_key 11 = .ok (.if_icmp .ne 6, 3) := dk_160 0 6 (dk_at dksX4_key_0 11 rfl rfl)
theorem dX4_key_14 : decode cX4_key 14 = .ok (.bipush (-3), 2) := dk_16 253 (dk_at dksX4_key_0 14 rfl rfl)
theorem dX4_key_16 : decode cX4_key 16 = .ok (.ireturn, 1) := dk_172 (dk_at dksX4_key_0 16 rfl rfl)
theorem dX4_key_17 : decode cX4_key 17 = .ok (.iconst 0, 1) := dk_3 (dk_at dksX4_key_0 17 rfl rfl)
theorem dX4_key_18 : decode cX4_key 18 = .ok (.istore_n 1, 1) := dk_60 (dk_at dksX4_key_0 18 rfl rfl)
theorem dX4_key_19 : decode cX4_key 19 = .ok (.iload_n 1, 1) := dk_27 (dk_at dksX4_key_0 19 rfl rfl)
theorem dX4_key_20 : decode cX4_key 20 = .ok (.aload_n 0, 1) := dk_42 (dk_at dksX4_key_0 20 rfl rfl)
theorem dX4_key_21 : decode cX4_key 21 = .ok (.getfield 267, 3) := dk_180 1 11 (dk_at dksX4_key_0 21 rfl rfl)
theorem dX4_key_24 : decode cX4_key 24 = .ok (.if_icmp .ge 30, 3) := dk_162 0 30 (dk_at dksX4_key_1 0 rfl rfl)
theorem dX4_key_27 : decode cX4_key 27 = .ok (.aload_n 0, 1) := dk_42 (dk_at dksX4_key_1 3 rfl rfl)
theorem dX4_key_28 : decode cX4_key 28 = .ok (.getfield 110, 3) := dk_180 0 110 (dk_at dksX4_key_1 4 rfl rfl)
theorem dX4_key_31 : decode cX4_key 31 = .ok (.sipush 400, 3) := dk_17 1 144 (dk_at dksX4_key_1 7 rfl rfl)
theorem dX4_key_34 : decode cX4_key 34 = .ok (.aload_n 0, 1) := dk_42 (dk_at dksX4_key_1 10 rfl rfl)
theorem dX4_key_35 : decode cX4_key 35 = .ok (.getfield 209, 3) := dk_180 0 209 (dk_at dksX4_key_1 11 rfl rfl)
theorem dX4_key_38 : decode cX4_key 38 = .ok (.imul, 1) := dk_104 (dk_at dksX4_key_1 14 rfl rfl)
theorem dX4_key_39 : decode cX4_key 39 = .ok (.iload_n 1, 1) := dk_27 (dk_at dksX4_key_1 15 rfl rfl)
theorem dX4_key_40 : decode cX4_key 40 = .ok (.iadd, 1) := dk_96 (dk_at dksX4_key_1 16 rfl rfl)
theorem dX4_key_41 : decode cX4_key 41 = .ok (.aload_n 0, 1) := dk_42 (dk_at dksX4_key_1 17 rfl rfl)
theorem dX4_key_42 : decode cX4_key 42 = .ok (.getfield 100, 3) := dk_180 0 100 (dk_at dksX4_key_1 18 rfl rfl)
theorem dX4_key_45 : decode cX4_key 45 = .ok (.iload_n 1, 1) := dk_27 (dk_at dksX4_key_1 21 rfl rfl)
theorem dX4_key_46 : decode cX4_key 46 = .ok (.baload, 1) := dk_51 (dk_at dksX4_key_1 22 rfl rfl)
theorem dX4_key_47 : decode cX4_key 47 = .ok (.bastore, 1) := dk_84 (dk_at dksX4_key_1 23 rfl rfl)
theorem dX4_key_48 : decode cX4_key 48 = .ok (.iinc 1 1, 3) := dk_132 1 1 (dk_at dksX4_key_2 0 rfl rfl)
theorem dX4_key_51 : decode cX4_key 51 = .ok (.goto (-32), 3) := dk_167 255 224 (dk_at dksX4_key_2 3 rfl rfl)
theorem dX4_key_54 : decode cX4_key 54 = .ok (.aload_n 0, 1) := dk_42 (dk_at dksX4_key_2 6 rfl rfl)
theorem dX4_key_55 : decode cX4_key 55 = .ok (.getfield 113, 3) := dk_180 0 113 (dk_at dksX4_key_2 7 rfl rfl)
theorem dX4_key_58 : decode cX4_key 58 = .ok (.aload_n 0, 1) := dk_42 (dk_at dksX4_key_2 10 rfl rfl)
theorem dX4_key_59 : decode cX4_key 59 = .ok (.getfield 209, 3) := dk_180 0 209 (dk_at dksX4_key_2 11 rfl rfl)
theorem dX4_key_62 : decode cX4_key 62 = .ok (.aload_n 0, 1) := dk_42 (dk_at dksX4_key_2 14 rfl rfl)
theorem dX4_key_63 : decode cX4_key 63 = .ok (.getfield 267, 3) := dk_180 1 11 (dk_at dksX4_key_2 15 rfl rfl)
theorem dX4_key_66 : decode cX4_key 66 = .ok (.iastore, 1) := dk_79 (dk_at dksX4_key_2 18 rfl rfl)
theorem dX4_key_67 : decode cX4_key 67 = .ok (.aload_n 0, 1) := dk_42 (dk_at dksX4_key_2 19 rfl rfl)
theorem dX4_key_68 : decode cX4_key 68 = .ok (.iconst 0, 1) := dk_3 (dk_at dksX4_key_2 20 rfl rfl)
theorem dX4_key_69 : decode cX4_key 69 = .ok (.putfield 267, 3) := dk_181 1 11 (dk_at dksX4_key_2 21 rfl rfl)
theorem dX4_key_72 : decode cX4_key 72 = .ok (.aload_n 0, 1) := dk_42 (dk_at dksX4_key_3 0 rfl rfl)
theorem dX4_key_73 : decode cX4_key 73 = .ok (.aload_n 0, 1) := dk_42 (dk_at dksX4_key_3 1 rfl rfl)
theorem dX4_key_74 : decode cX4_key 74 = .ok (.getfield 209, 3) := dk_180 0 209 (dk_at dksX4_key_3 2 rfl rfl)
theorem dX4_key_77 : decode cX4_key 77 = .ok (.iconst (-1), 1) := dk_2 (dk_at dksX4_key_3 5 rfl rfl)
theorem dX4_key_78 : decode cX4_key 78 = .ok (.invokevirtual 411, 3) := dk_182 1 155 (dk_at dksX4_key_3 6 rfl rfl)
theorem dX4_key_81 : decode cX4_key 81 = .ok (.aload_n 0, 1) := dk_42 (dk_at dksX4_key_3 9 rfl rfl)
theorem dX4_key_82 : decode cX4_key 82 = .ok (.aload_n 0, 1) := dk_42 (dk_at dksX4_key_3 10 rfl rfl)
theorem dX4_key_83 : decode cX4_key 83 = .ok (.getfield 301, 3) := dk_180 1 45 (dk_at dksX4_key_3 11 rfl rfl)
theorem dX4_key_86 : decode cX4_key 86 = .ok (.putfield 104, 3) := dk_181 0 104 (dk_at dksX4_key_3 14 rfl rfl)
theorem dX4_key_89 : decode cX4_key 89 = .ok (.aload_n 0, 1) := dk_42 (dk_at dksX4_key_3 17 rfl rfl)
theorem dX4_key_90 : decode cX4_key 90 = .ok (.aload_n 0, 1) := dk_42 (dk_at dksX4_key_3 18 rfl rfl)
theorem dX4_key_91 : decode cX4_key 91 = .ok (.getfield 301, 3) := dk_180 1 45 (dk_at dksX4_key_3 19 rfl rfl)
theorem dX4_key_94 : decode cX4_key 94 = .ok (.ifCond .ne 7, 3) := dk_154 0 7 (dk_at dksX4_key_4 0 rfl rfl)
theorem dX4_key_97 : decode cX4_key 97 = .ok (.iconst (-1), 1) := dk_2 (dk_at dksX4_key_4 3 rfl rfl)
theorem dX4_key_98 : decode cX4_key 98 = .ok (.goto 7, 3) := dk_167 0 7 (dk_at dksX4_key_4 4 rfl rfl)
theorem dX4_key_101 : decode cX4_key 101 = .ok (.aload_n 0, 1) := dk_42 (dk_at dksX4_key_4 7 rfl rfl)
theorem dX4_key_102 : decode cX4_key 102 = .ok (.getfield 304, 3) := dk_180 1 48 (dk_at dksX4_key_4 8 rfl rfl)
theorem dX4_key_105 : decode cX4_key 105 = .ok (.putfield 107, 3) := dk_181 0 107 (dk_at dksX4_key_4 11 rfl rfl)
theorem dX4_key_108 : decode cX4_key 108 = .ok (.aload_n 0, 1) := dk_42 (dk_at dksX4_key_4 14 rfl rfl)
theorem dX4_key_109 : decode cX4_key 109 = .ok (.getfield 301, 3) := dk_180 1 45 (dk_at dksX4_key_4 15 rfl rfl)
theorem dX4_key_112 : decode cX4_key 112 = .ok (.ifCond .eq 6, 3) := dk_153 0 6 (dk_at dksX4_key_4 18 rfl rfl)
theorem dX4_key_115 : decode cX4_key 115 = .ok (.bipush (-4), 2) := dk_16 252 (dk_at dksX4_key_4 21 rfl rfl)
theorem dX4_key_117 : decode cX4_key 117 = .ok (.ireturn, 1) := dk_172 (dk_at dksX4_key_4 23 rfl rfl)
theorem dX4_key_118 : decode cX4_key 118 = .ok (.aload_n 0, 1) := dk_42 (dk_at dksX4_key_5 0 rfl rfl)
theorem dX4_key_119 : decode cX4_key 119 = .ok (.dup, 1) := dk_89 (dk_at dksX4_key_5 1 rfl rfl)
theorem dX4_key_120 : decode cX4_key 120 = .ok (.getfield 209, 3) := dk_180 0 209 (dk_at dksX4_key_5 2 rfl rfl)
theorem dX4_key_123 : decode cX4_key 123 = .ok (.iconst 1, 1) := dk_4 (dk_at dksX4_key_5 5 rfl rfl)
theorem dX4_key_124 : decode cX4_key 124 = .ok (.iadd, 1) := dk_96 (dk_at dksX4_key_5 6 rfl rfl)
theorem dX4_key_125 : decode cX4_key 125 = .ok (.putfield 209, 3) := dk_181 0 209 (dk_at dksX4_key_5 7 rfl rfl)
theorem dX4_key_128 : decode cX4_key 128 = .ok (.iconst 0, 1) := dk_3 (dk_at dksX4_key_5 10 rfl rfl)
theorem dX4_key_129 : decode cX4_key 129 = .ok (.istore_n 1, 1) := dk_60 (dk_at dksX4_key_5 11 rfl rfl)
theorem dX4_key_130 : decode cX4_key 130 = .ok (.iload_n 1, 1) := dk_27 (dk_at dksX4_key_5 12 rfl rfl)
theorem dX4_key_131 : decode cX4_key 131 = .ok (.aload_n 0, 1) := dk_42 (dk_at dksX4_key_5 13 rfl rfl)
theorem dX4_key_132 : decode cX4_key 132 = .ok (.getfield 206, 3) := dk_180 0 206 (dk_at dksX4_key_5 14 rfl rfl)
theorem dX4_key_135 : decode cX4_key 135 = .ok (.if_icmp .ge 20, 3) := dk_162 0 20 (dk_at dksX4_key_5 17 rfl rfl)
theorem dX4_key_138 : decode cX4_key 138 = .ok (.aload_n 0, 1) := dk_42 (dk_at dksX4_key_5 20 rfl rfl)
theorem dX4_key_139 : decode cX4_key 139 = .ok (.aload_n 0, 1) := dk_42 (dk_at dksX4_key_5 21 rfl rfl)
theorem dX4_key_140 : decode cX4_key 140 = .ok (.getfield 209, 3) := dk_180 0 209 (dk_at dksX4_key_6 0 rfl rfl)
theorem dX4_key_143 : decode cX4_key 143 = .ok (.iconst 1, 1) := dk_4 (dk_at dksX4_key_6 3 rfl rfl)
theorem dX4_key_144 : decode cX4_key 144 = .ok (.isub, 1) := dk_100 (dk_at dksX4_key_6 4 rfl rfl)
theorem dX4_key_145 : decode cX4_key 145 = .ok (.iload_n 1, 1) := dk_27 (dk_at dksX4_key_6 5 rfl rfl)
theorem dX4_key_146 : decode cX4_key 146 = .ok (.invokevirtual 263, 3) := dk_182 1 7 (dk_at dksX4_key_6 6 rfl rfl)
theorem dX4_key_149 : decode cX4_key 149 = .ok (.iinc 1 1, 3) := dk_132 1 1 (dk_at dksX4_key_6 9 rfl rfl)
theorem dX4_key_152 : decode cX4_key 152 = .ok (.goto (-22), 3) := dk_167 255 234 (dk_at dksX4_key_6 12 rfl rfl)
theorem dX4_key_155 : decode cX4_key 155 = .ok (.aload_n 0, 1) := dk_42 (dk_at dksX4_key_6 15 rfl rfl)
theorem dX4_key_156 : decode cX4_key 156 = .ok (.getfield 209, 3) := dk_180 0 209 (dk_at dksX4_key_6 16 rfl rfl)
theorem dX4_key_159 : decode cX4_key 159 = .ok (.iconst 1, 1) := dk_4 (dk_at dksX4_key_6 19 rfl rfl)
theorem dX4_key_160 : decode cX4_key 160 = .ok (.isub, 1) := dk_100 (dk_at dksX4_key_6 20 rfl rfl)
theorem dX4_key_161 : decode cX4_key 161 = .ok (.ireturn, 1) := dk_172 (dk_at dksX4_key_6 21 rfl rfl)
abbrev cX4_fault : ByteArray := prog_20_method_54_code
def yX4_fault : MethodName := ⟨RX4, "fault", "(I)I"⟩
def dkwX4_fault_1 : List UInt8 := [180, 0, 107, 167, 0, 4, 2, 172]
abbrev dktX4_fault_1 : List UInt8 := dkwX4_fault_1 ++ []
def dkwX4_fault_0 : List UInt8 := [42, 3, 181, 0, 173, 27, 154, 0, 10, 42, 180, 0, 104, 167, 0, 16, 27, 4, 160, 0, 10, 42]
abbrev dktX4_fault_0 : List UInt8 := dkwX4_fault_0 ++ dktX4_fault_1
theorem dksX4_fault_0 : cX4_fault.data.toList.drop 0 = dktX4_fault_0 := by decide +kernel
theorem dksX4_fault_1 : cX4_fault.data.toList.drop 22 = dktX4_fault_1 := dk_seg dksX4_fault_0 22 rfl rfl
theorem dX4_fault_0 : decode cX4_fault 0 = .ok (.aload_n 0, 1) := dk_42 (dk_at dksX4_fault_0 0 rfl rfl)
theorem dX4_fault_1 : decode cX4_fault 1 = .ok (.iconst 0, 1) := dk_3 (dk_at dksX4_fault_0 1 rfl rfl)
theorem dX4_fault_2 : decode cX4_fault 2 = .ok (.putfield 173, 3) := dk_181 0 173 (dk_at dksX4_fault_0 2 rfl rfl)
theorem dX4_fault_5 : decode cX4_fault 5 = .ok (.iload_n 1, 1) := dk_27 (dk_at dksX4_fault_0 5 rfl rfl)
theorem dX4_fault_6 : decode cX4_fault 6 = .ok (.ifCond .ne 10, 3) := dk_154 0 10 (dk_at dksX4_fault_0 6 rfl rfl)
theorem dX4_fault_9 : decode cX4_fault 9 = .ok (.aload_n 0, 1) := dk_42 (dk_at dksX4_fault_0 9 rfl rfl)
theorem dX4_fault_10 : decode cX4_fault 10 = .ok (.getfield 104, 3) := dk_180 0 104 (dk_at dksX4_fault_0 10 rfl rfl)
theorem dX4_fault_13 : decode cX4_fault 13 = .ok (.goto 16, 3) := dk_167 0 16 (dk_at dksX4_fault_0 13 rfl rfl)
theorem dX4_fault_16 : decode cX4_fault 16 = .ok (.iload_n 1, 1) := dk_27 (dk_at dksX4_fault_0 16 rfl rfl)
theorem dX4_fault_17 : decode cX4_fault 17 = .ok (.iconst 1, 1) := dk_4 (dk_at dksX4_fault_0 17 rfl rfl)
theorem dX4_fault_18 : decode cX4_fault 18 = .ok (.if_icmp .ne 10, 3) := dk_160 0 10 (dk_at dksX4_fault_0 18 rfl rfl)
theorem dX4_fault_21 : decode cX4_fault 21 = .ok (.aload_n 0, 1) := dk_42 (dk_at dksX4_fault_0 21 rfl rfl)
theorem dX4_fault_22 : decode cX4_fault 22 = .ok (.getfield 107, 3) := dk_180 0 107 (dk_at dksX4_fault_1 0 rfl rfl)
theorem dX4_fault_25 : decode cX4_fault 25 = .ok (.goto 4, 3) := dk_167 0 4 (dk_at dksX4_fault_1 3 rfl rfl)
theorem dX4_fault_28 : decode cX4_fault 28 = .ok (.iconst (-1), 1) := dk_2 (dk_at dksX4_fault_1 6 rfl rfl)
theorem dX4_fault_29 : decode cX4_fault 29 = .ok (.ireturn, 1) := dk_172 (dk_at dksX4_fault_1 7 rfl rfl)
abbrev cX4_named : ByteArray := prog_20_method_55_code
def yX4_named : MethodName := ⟨RX4, "named", "(II)I"⟩
def dkwX4_named_1 : List UInt8 := [180, 0, 94, 17, 0, 200, 28, 104, 27, 96, 46, 167, 0, 5, 16, 254, 172]
abbrev dktX4_named_1 : List UInt8 := dkwX4_named_1 ++ []
def dkwX4_named_0 : List UInt8 := [42, 3, 181, 0, 173, 42, 27, 182, 0, 252, 153, 0, 26, 42, 28, 182, 1, 158, 153, 0, 18, 42]
abbrev dktX4_named_0 : List UInt8 := dkwX4_named_0 ++ dktX4_named_1
theorem dksX4_named_0 : cX4_named.data.toList.drop 0 = dktX4_named_0 := by decide +kernel
theorem dksX4_named_1 : cX4_named.data.toList.drop 22 = dktX4_named_1 := dk_seg dksX4_named_0 22 rfl rfl
theorem dX4_named_0 : decode cX4_named 0 = .ok (.aload_n 0, 1) := dk_42 (dk_at dksX4_named_0 0 rfl rfl)
theorem dX4_named_1 : decode cX4_named 1 = .ok (.iconst 0, 1) := dk_3 (dk_at dksX4_named_0 1 rfl rfl)
theorem dX4_named_2 : decode cX4_named 2 = .ok (.putfield 173, 3) := dk_181 0 173 (dk_at dksX4_named_0 2 rfl rfl)
theorem dX4_named_5 : decode cX4_named 5 = .ok (.aload_n 0, 1) := dk_42 (dk_at dksX4_named_0 5 rfl rfl)
theorem dX4_named_6 : decode cX4_named 6 = .ok (.iload_n 1, 1) := dk_27 (dk_at dksX4_named_0 6 rfl rfl)
theorem dX4_named_7 : decode cX4_named 7 = .ok (.invokevirtual 252, 3) := dk_182 0 252 (dk_at dksX4_named_0 7 rfl rfl)
theorem dX4_named_10 : decode cX4_named 10 = .ok (.ifCond .eq 26, 3) := dk_153 0 26 (dk_at dksX4_named_0 10 rfl rfl)
theorem dX4_named_13 : decode cX4_named 13 = .ok (.aload_n 0, 1) := dk_42 (dk_at dksX4_named_0 13 rfl rfl)
theorem dX4_named_14 : decode cX4_named 14 = .ok (.iload_n 2, 1) := dk_28 (dk_at dksX4_named_0 14 rfl rfl)
theorem dX4_named_15 : decode cX4_named 15 = .ok (.invokevirtual 414, 3) := dk_182 1 158 (dk_at dksX4_named_0 15 rfl rfl)
theorem dX4_named_18 : decode cX4_named 18 = .ok (.ifCond .eq 18, 3) := dk_153 0 18 (dk_at dksX4_named_0 18 rfl rfl)
theorem dX4_named_21 : decode cX4_named 21 = .ok (.aload_n 0, 1) := dk_42 (dk_at dksX4_named_0 21 rfl rfl)
theorem dX4_named_22 : decode cX4_named 22 = .ok (.getfield 94, 3) := dk_180 0 94 (dk_at dksX4_named_1 0 rfl rfl)
theorem dX4_named_25 : decode cX4_named 25 = .ok (.sipush 200, 3) := dk_17 0 200 (dk_at dksX4_named_1 3 rfl rfl)
theorem dX4_named_28 : decode cX4_named 28 = .ok (.iload_n 2, 1) := dk_28 (dk_at dksX4_named_1 6 rfl rfl)
theorem dX4_named_29 : decode cX4_named 29 = .ok (.imul, 1) := dk_104 (dk_at dksX4_named_1 7 rfl rfl)
theorem dX4_named_30 : decode cX4_named 30 = .ok (.iload_n 1, 1) := dk_27 (dk_at dksX4_named_1 8 rfl rfl)
theorem dX4_named_31 : decode cX4_named 31 = .ok (.iadd, 1) := dk_96 (dk_at dksX4_named_1 9 rfl rfl)
theorem dX4_named_32 : decode cX4_named 32 = .ok (.iaload, 1) := dk_46 (dk_at dksX4_named_1 10 rfl rfl)
theorem dX4_named_33 : decode cX4_named 33 = .ok (.goto 5, 3) := dk_167 0 5 (dk_at dksX4_named_1 11 rfl rfl)
theorem dX4_named_36 : decode cX4_named 36 = .ok (.bipush (-2), 2) := dk_16 254 (dk_at dksX4_named_1 14 rfl rfl)
theorem dX4_named_38 : decode cX4_named 38 = .ok (.ireturn, 1) := dk_172 (dk_at dksX4_named_1 16 rfl rfl)
abbrev cX4_isKey : ByteArray := prog_20_method_16_code
def yX4_isKey : MethodName := ⟨RX4, "isKey", "(I)Z"⟩
def dkwX4_isKey_0 : List UInt8 := [27, 133, 9, 42, 180, 0, 209, 4, 100, 133, 184, 0, 178, 172]
abbrev dktX4_isKey_0 : List UInt8 := dkwX4_isKey_0 ++ []
theorem dksX4_isKey_0 : cX4_isKey.data.toList.drop 0 = dktX4_isKey_0 := by decide +kernel
theorem dX4_isKey_0 : decode cX4_isKey 0 = .ok (.iload_n 1, 1) := dk_27 (dk_at dksX4_isKey_0 0 rfl rfl)
theorem dX4_isKey_1 : decode cX4_isKey 1 = .ok (.i2l, 1) := dk_133 (dk_at dksX4_isKey_0 1 rfl rfl)
theorem dX4_isKey_2 : decode cX4_isKey 2 = .ok (.lconst 0, 1) := dk_9 (dk_at dksX4_isKey_0 2 rfl rfl)
theorem dX4_isKey_3 : decode cX4_isKey 3 = .ok (.aload_n 0, 1) := dk_42 (dk_at dksX4_isKey_0 3 rfl rfl)
theorem dX4_isKey_4 : decode cX4_isKey 4 = .ok (.getfield 209, 3) := dk_180 0 209 (dk_at dksX4_isKey_0 4 rfl rfl)
theorem dX4_isKey_7 : decode cX4_isKey 7 = .ok (.iconst 1, 1) := dk_4 (dk_at dksX4_isKey_0 7 rfl rfl)
theorem dX4_isKey_8 : decode cX4_isKey 8 = .ok (.isub, 1) := dk_100 (dk_at dksX4_isKey_0 8 rfl rfl)
theorem dX4_isKey_9 : decode cX4_isKey 9 = .ok (.i2l, 1) := dk_133 (dk_at dksX4_isKey_0 9 rfl rfl)
theorem dX4_isKey_10 : decode cX4_isKey 10 = .ok (.invokestatic 178, 3) := dk_184 0 178 (dk_at dksX4_isKey_0 10 rfl rfl)
theorem dX4_isKey_13 : decode cX4_isKey 13 = .ok (.ireturn, 1) := dk_172 (dk_at dksX4_isKey_0 13 rfl rfl)
abbrev cX4_steps : ByteArray := prog_20_method_56_code
def yX4_steps : MethodName := ⟨RX4, "steps", "(II)I"⟩
def dkwX4_steps_1 : List UInt8 := [180, 0, 97, 17, 0, 200, 28, 104, 27, 96, 46, 167, 0, 5, 16, 254, 172]
abbrev dktX4_steps_1 : List UInt8 := dkwX4_steps_1 ++ []
def dkwX4_steps_0 : List UInt8 := [42, 3, 181, 0, 173, 42, 27, 182, 0, 252, 153, 0, 26, 42, 28, 182, 1, 158, 153, 0, 18, 42]
abbrev dktX4_steps_0 : List UInt8 := dkwX4_steps_0 ++ dktX4_steps_1
theorem dksX4_steps_0 : cX4_steps.data.toList.drop 0 = dktX4_steps_0 := by decide +kernel
theorem dksX4_steps_1 : cX4_steps.data.toList.drop 22 = dktX4_steps_1 := dk_seg dksX4_steps_0 22 rfl rfl
theorem dX4_steps_0 : decode cX4_steps 0 = .ok (.aload_n 0, 1) := dk_42 (dk_at dksX4_steps_0 0 rfl rfl)
theorem dX4_steps_1 : decode cX4_steps 1 = .ok (.iconst 0, 1) := dk_3 (dk_at dksX4_steps_0 1 rfl rfl)
theorem dX4_steps_2 : decode cX4_steps 2 = .ok (.putfield 173, 3) := dk_181 0 173 (dk_at dksX4_steps_0 2 rfl rfl)
theorem dX4_steps_5 : decode cX4_steps 5 = .ok (.aload_n 0, 1) := dk_42 (dk_at dksX4_steps_0 5 rfl rfl)
theorem dX4_steps_6 : decode cX4_steps 6 = .ok (.iload_n 1, 1) := dk_27 (dk_at dksX4_steps_0 6 rfl rfl)
theorem dX4_steps_7 : decode cX4_steps 7 = .ok (.invokevirtual 252, 3) := dk_182 0 252 (dk_at dksX4_steps_0 7 rfl rfl)
theorem dX4_steps_10 : decode cX4_steps 10 = .ok (.ifCond .eq 26, 3) := dk_153 0 26 (dk_at dksX4_steps_0 10 rfl rfl)
theorem dX4_steps_13 : decode cX4_steps 13 = .ok (.aload_n 0, 1) := dk_42 (dk_at dksX4_steps_0 13 rfl rfl)
theorem dX4_steps_14 : decode cX4_steps 14 = .ok (.iload_n 2, 1) := dk_28 (dk_at dksX4_steps_0 14 rfl rfl)
theorem dX4_steps_15 : decode cX4_steps 15 = .ok (.invokevirtual 414, 3) := dk_182 1 158 (dk_at dksX4_steps_0 15 rfl rfl)
theorem dX4_steps_18 : decode cX4_steps 18 = .ok (.ifCond .eq 18, 3) := dk_153 0 18 (dk_at dksX4_steps_0 18 rfl rfl)
theorem dX4_steps_21 : decode cX4_steps 21 = .ok (.aload_n 0, 1) := dk_42 (dk_at dksX4_steps_0 21 rfl rfl)
theorem dX4_steps_22 : decode cX4_steps 22 = .ok (.getfield 97, 3) := dk_180 0 97 (dk_at dksX4_steps_1 0 rfl rfl)
theorem dX4_steps_25 : decode cX4_steps 25 = .ok (.sipush 200, 3) := dk_17 0 200 (dk_at dksX4_steps_1 3 rfl rfl)
theorem dX4_steps_28 : decode cX4_steps 28 = .ok (.iload_n 2, 1) := dk_28 (dk_at dksX4_steps_1 6 rfl rfl)
theorem dX4_steps_29 : decode cX4_steps 29 = .ok (.imul, 1) := dk_104 (dk_at dksX4_steps_1 7 rfl rfl)
theorem dX4_steps_30 : decode cX4_steps 30 = .ok (.iload_n 1, 1) := dk_27 (dk_at dksX4_steps_1 8 rfl rfl)
theorem dX4_steps_31 : decode cX4_steps 31 = .ok (.iadd, 1) := dk_96 (dk_at dksX4_steps_1 9 rfl rfl)
theorem dX4_steps_32 : decode cX4_steps 32 = .ok (.iaload, 1) := dk_46 (dk_at dksX4_steps_1 10 rfl rfl)
theorem dX4_steps_33 : decode cX4_steps 33 = .ok (.goto 5, 3) := dk_167 0 5 (dk_at dksX4_steps_1 11 rfl rfl)
theorem dX4_steps_36 : decode cX4_steps 36 = .ok (.bipush (-2), 2) := dk_16 254 (dk_at dksX4_steps_1 14 rfl rfl)
theorem dX4_steps_38 : decode cX4_steps 38 = .ok (.ireturn, 1) := dk_172 (dk_at dksX4_steps_1 16 rfl rfl)
abbrev cX4_alike : ByteArray := prog_20_method_57_code
def yX4_alike : MethodName := ⟨RX4, "alike", "(III)I"⟩
def dkwX4_alike_6 : List UInt8 := [132, 5, 1, 167, 255, 154, 21, 4, 172]
abbrev dktX4_alike_6 : List UInt8 := dkwX4_alike_6 ++ []
def dkwX4_alike_5 : List UInt8 := [3, 167, 0, 4, 4, 54, 8, 21, 4, 21, 8, 29, 160, 0, 7, 4, 167, 0, 4, 3, 96, 54, 4]
abbrev dktX4_alike_5 : List UInt8 := dkwX4_alike_5 ++ dktX4_alike_6
def dkwX4_alike_4 : List UInt8 := [167, 0, 29, 6, 167, 0, 25, 21, 7, 2, 160, 0, 7, 5, 167, 0, 15, 21, 6, 21, 7, 160, 0, 7]
abbrev dktX4_alike_4 : List UInt8 := dkwX4_alike_4 ++ dktX4_alike_5
def dkwX4_alike_3 : List UInt8 := [17, 0, 200, 28, 104, 21, 5, 96, 46, 54, 7, 21, 6, 2, 160, 0, 17, 21, 7, 2, 160, 0, 7, 7]
abbrev dktX4_alike_3 : List UInt8 := dkwX4_alike_3 ++ dktX4_alike_4
def dkwX4_alike_2 : List UInt8 := [162, 0, 99, 42, 180, 0, 94, 17, 0, 200, 27, 104, 21, 5, 96, 46, 54, 6, 42, 180, 0, 94]
abbrev dktX4_alike_2 : List UInt8 := dkwX4_alike_2 ++ dktX4_alike_3
def dkwX4_alike_1 : List UInt8 := [20, 1, 161, 184, 0, 178, 154, 0, 6, 16, 254, 172, 3, 54, 4, 3, 54, 5, 21, 5, 42, 180, 0, 206]
abbrev dktX4_alike_1 : List UInt8 := dkwX4_alike_1 ++ dktX4_alike_2
def dkwX4_alike_0 : List UInt8 := [42, 3, 181, 0, 173, 42, 27, 182, 1, 158, 153, 0, 23, 42, 28, 182, 1, 158, 153, 0, 15, 29, 133, 9]
abbrev dktX4_alike_0 : List UInt8 := dkwX4_alike_0 ++ dktX4_alike_1
theorem dksX4_alike_0 : cX4_alike.data.toList.drop 0 = dktX4_alike_0 := by decide +kernel
theorem dksX4_alike_1 : cX4_alike.data.toList.drop 24 = dktX4_alike_1 := dk_seg dksX4_alike_0 24 rfl rfl
theorem dksX4_alike_2 : cX4_alike.data.toList.drop 48 = dktX4_alike_2 := dk_seg dksX4_alike_1 24 rfl rfl
theorem dksX4_alike_3 : cX4_alike.data.toList.drop 70 = dktX4_alike_3 := dk_seg dksX4_alike_2 22 rfl rfl
theorem dksX4_alike_4 : cX4_alike.data.toList.drop 94 = dktX4_alike_4 := dk_seg dksX4_alike_3 24 rfl rfl
theorem dksX4_alike_5 : cX4_alike.data.toList.drop 118 = dktX4_alike_5 := dk_seg dksX4_alike_4 24 rfl rfl
theorem dksX4_alike_6 : cX4_alike.data.toList.drop 141 = dktX4_alike_6 := dk_seg dksX4_alike_5 23 rfl rfl
theorem dX4_alike_0 : decode cX4_alike 0 = .ok (.aload_n 0, 1) := dk_42 (dk_at dksX4_alike_0 0 rfl rfl)
theorem dX4_alike_1 : decode cX4_alike 1 = .ok (.iconst 0, 1) := dk_3 (dk_at dksX4_alike_0 1 rfl rfl)
theorem dX4_alike_2 : decode cX4_alike 2 = .ok (.putfield 173, 3) := dk_181 0 173 (dk_at dksX4_alike_0 2 rfl rfl)
theorem dX4_alike_5 : decode cX4_alike 5 = .ok (.aload_n 0, 1) := dk_42 (dk_at dksX4_alike_0 5 rfl rfl)
theorem dX4_alike_6 : decode cX4_alike 6 = .ok (.iload_n 1, 1) := dk_27 (dk_at dksX4_alike_0 6 rfl rfl)
theorem dX4_alike_7 : decode cX4_alike 7 = .ok (.invokevirtual 414, 3) := dk_182 1 158 (dk_at dksX4_alike_0 7 rfl rfl)
theorem dX4_alike_10 : decode cX4_alike 10 = .ok (.ifCond .eq 23, 3) := dk_153 0 23 (dk_at dksX4_alike_0 10 rfl rfl)
theorem dX4_alike_13 : decode cX4_alike 13 = .ok (.aload_n 0, 1) := dk_42 (dk_at dksX4_alike_0 13 rfl rfl)
theorem dX4_alike_14 : decode cX4_alike 14 = .ok (.iload_n 2, 1) := dk_28 (dk_at dksX4_alike_0 14 rfl rfl)
theorem dX4_alike_15 : decode cX4_alike 15 = .ok (.invokevirtual 414, 3) := dk_182 1 158 (dk_at dksX4_alike_0 15 rfl rfl)
theorem dX4_alike_18 : decode cX4_alike 18 = .ok (.ifCond .eq 15, 3) := dk_153 0 15 (dk_at dksX4_alike_0 18 rfl rfl)
theorem dX4_alike_21 : decode cX4_alike 21 = .ok (.iload_n 3, 1) := dk_29 (dk_at dksX4_alike_0 21 rfl rfl)
theorem dX4_alike_22 : decode cX4_alike 22 = .ok (.i2l, 1) := dk_133 (dk_at dksX4_alike_0 22 rfl rfl)
theorem dX4_alike_23 : decode cX4_alike 23 = .ok (.lconst 0, 1) := dk_9 (dk_at dksX4_alike_0 23 rfl rfl)
theorem dX4_alike_24 : decode cX4_alike 24 = .ok (.ldc2_w 417, 3) := dk_20 1 161 (dk_at dksX4_alike_1 0 rfl rfl)
theorem dX4_alike_27 : decode cX4_alike 27 = .ok (.invokestatic 178, 3) := dk_184 0 178 (dk_at dksX4_alike_1 3 rfl rfl)
theorem dX4_alike_30 : decode cX4_alike 30 = .ok (.ifCond .ne 6, 3) := dk_154 0 6 (dk_at dksX4_alike_1 6 rfl rfl)
theorem dX4_alike_33 : decode cX4_alike 33 = .ok (.bipush (-2), 2) := dk_16 254 (dk_at dksX4_alike_1 9 rfl rfl)
theorem dX4_alike_35 : decode cX4_alike 35 = .ok (.ireturn, 1) := dk_172 (dk_at dksX4_alike_1 11 rfl rfl)
theorem dX4_alike_36 : decode cX4_alike 36 = .ok (.iconst 0, 1) := dk_3 (dk_at dksX4_alike_1 12 rfl rfl)
theorem dX4_alike_37 : decode cX4_alike 37 = .ok (.istore 4, 2) := dk_54 4 (dk_at dksX4_alike_1 13 rfl rfl)
theorem dX4_alike_39 : decode cX4_alike 39 = .ok (.iconst 0, 1) := dk_3 (dk_at dksX4_alike_1 15 rfl rfl)
theorem dX4_alike_40 : decode cX4_alike 40 = .ok (.istore 5, 2) := dk_54 5 (dk_at dksX4_alike_1 16 rfl rfl)
theorem dX4_alike_42 : decode cX4_alike 42 = .ok (.iload 5, 2) := dk_21 5 (dk_at dksX4_alike_1 18 rfl rfl)
theorem dX4_alike_44 : decode cX4_alike 44 = .ok (.aload_n 0, 1) := dk_42 (dk_at dksX4_alike_1 20 rfl rfl)
theorem dX4_alike_45 : decode cX4_alike 45 = .ok (.getfield 206, 3) := dk_180 0 206 (dk_at dksX4_alike_1 21 rfl rfl)
theorem dX4_alike_48 : decode cX4_alike 48 = .ok (.if_icmp .ge 99, 3) := dk_162 0 99 (dk_at dksX4_alike_2 0 rfl rfl)
theorem dX4_alike_51 : decode cX4_alike 51 = .ok (.aload_n 0, 1) := dk_42 (dk_at dksX4_alike_2 3 rfl rfl)
theorem dX4_alike_52 : decode cX4_alike 52 = .ok (.getfield 94, 3) := dk_180 0 94 (dk_at dksX4_alike_2 4 rfl rfl)
theorem dX4_alike_55 : decode cX4_alike 55 = .ok (.sipush 200, 3) := dk_17 0 200 (dk_at dksX4_alike_2 7 rfl rfl)
theorem dX4_alike_58 : decode cX4_alike 58 = .ok (.iload_n 1, 1) := dk_27 (dk_at dksX4_alike_2 10 rfl rfl)
theorem dX4_alike_59 : decode cX4_alike 59 = .ok (.imul, 1) := dk_104 (dk_at dksX4_alike_2 11 rfl rfl)
theorem dX4_alike_60 : decode cX4_alike 60 = .ok (.iload 5, 2) := dk_21 5 (dk_at dksX4_alike_2 12 rfl rfl)
theorem dX4_alike_62 : decode cX4_alike 62 = .ok (.iadd, 1) := dk_96 (dk_at dksX4_alike_2 14 rfl rfl)
theorem dX4_alike_63 : decode cX4_alike 63 = .ok (.iaload, 1) := dk_46 (dk_at dksX4_alike_2 15 rfl rfl)
theorem dX4_alike_64 : decode cX4_alike 64 = .ok (.istore 6, 2) := dk_54 6 (dk_at dksX4_alike_2 16 rfl rfl)
theorem dX4_alike_66 : decode cX4_alike 66 = .ok (.aload_n 0, 1) := dk_42 (dk_at dksX4_alike_2 18 rfl rfl)
theorem dX4_alike_67 : decode cX4_alike 67 = .ok (.getfield 94, 3) := dk_180 0 94 (dk_at dksX4_alike_2 19 rfl rfl)
theorem dX4_alike_70 : decode cX4_alike 70 = .ok (.sipush 200, 3) := dk_17 0 200 (dk_at dksX4_alike_3 0 rfl rfl)
theorem dX4_alike_73 : decode cX4_alike 73 = .ok (.iload_n 2, 1) := dk_28 (dk_at dksX4_alike_3 3 rfl rfl)
theorem dX4_alike_74 : decode cX4_alike 74 = .ok (.imul, 1) := dk_104 (dk_at dksX4_alike_3 4 rfl rfl)
theorem dX4_alike_75 : decode cX4_alike 75 = .ok (.iload 5, 2) := dk_21 5 (dk_at dksX4_alike_3 5 rfl rfl)
theorem dX4_alike_77 : decode cX4_alike 77 = .ok (.iadd, 1) := dk_96 (dk_at dksX4_alike_3 7 rfl rfl)
theorem dX4_alike_78 : decode cX4_alike 78 = .ok (.iaload, 1) := dk_46 (dk_at dksX4_alike_3 8 rfl rfl)
theorem dX4_alike_79 : decode cX4_alike 79 = .ok (.istore 7, 2) := dk_54 7 (dk_at dksX4_alike_3 9 rfl rfl)
theorem dX4_alike_81 : decode cX4_alike 81 = .ok (.iload 6, 2) := dk_21 6 (dk_at dksX4_alike_3 11 rfl rfl)
theorem dX4_alike_83 : decode cX4_alike 83 = .ok (.iconst (-1), 1) := dk_2 (dk_at dksX4_alike_3 13 rfl rfl)
theorem dX4_alike_84 : decode cX4_alike 84 = .ok (.if_icmp .ne 17, 3) := dk_160 0 17 (dk_at dksX4_alike_3 14 rfl rfl)
theorem dX4_alike_87 : decode cX4_alike 87 = .ok (.iload 7, 2) := dk_21 7 (dk_at dksX4_alike_3 17 rfl rfl)
theorem dX4_alike_89 : decode cX4_alike 89 = .ok (.iconst (-1), 1) := dk_2 (dk_at dksX4_alike_3 19 rfl rfl)
theorem dX4_alike_90 : decode cX4_alike 90 = .ok (.if_icmp .ne 7, 3) := dk_160 0 7 (dk_at dksX4_alike_3 20 rfl rfl)
theorem dX4_alike_93 : decode cX4_alike 93 = .ok (.iconst 4, 1) := dk_7 (dk_at dksX4_alike_3 23 rfl rfl)
theorem dX4_alike_94 : decode cX4_alike 94 = .ok (.goto 29, 3) := dk_167 0 29 (dk_at dksX4_alike_4 0 rfl rfl)
theorem dX4_alike_97 : decode cX4_alike 97 = .ok (.iconst 3, 1) := dk_6 (dk_at dksX4_alike_4 3 rfl rfl)
theorem dX4_alike_98 : decode cX4_alike 98 = .ok (.goto 25, 3) := dk_167 0 25 (dk_at dksX4_alike_4 4 rfl rfl)
theorem dX4_alike_101 : decode cX4_alike 101 = .ok (.iload 7, 2) := dk_21 7 (dk_at dksX4_alike_4 7 rfl rfl)
theorem dX4_alike_103 : decode cX4_alike 103 = .ok (.iconst (-1), 1) := dk_2 (dk_at dksX4_alike_4 9 rfl rfl)
theorem dX4_alike_104 : decode cX4_alike 104 = .ok (.if_icmp .ne 7, 3) := dk_160 0 7 (dk_at dksX4_alike_4 10 rfl rfl)
theorem dX4_alike_107 : decode cX4_alike 107 = .ok (.iconst 2, 1) := dk_5 (dk_at dksX4_alike_4 13 rfl rfl)
theorem dX4_alike_108 : decode cX4_alike 108 = .ok (.goto 15, 3) := dk_167 0 15 (dk_at dksX4_alike_4 14 rfl rfl)
theorem dX4_alike_111 : decode cX4_alike 111 = .ok (.iload 6, 2) := dk_21 6 (dk_at dksX4_alike_4 17 rfl rfl)
theorem dX4_alike_113 : decode cX4_alike 113 = .ok (.iload 7, 2) := dk_21 7 (dk_at dksX4_alike_4 19 rfl rfl)
theorem dX4_alike_115 : decode cX4_alike 115 = .ok (.if_icmp .ne 7, 3) := dk_160 0 7 (dk_at dksX4_alike_4 21 rfl rfl)
theorem dX4_alike_118 : decode cX4_alike 118 = .ok (.iconst 0, 1) := dk_3 (dk_at dksX4_alike_5 0 rfl rfl)
theorem dX4_alike_119 : decode cX4_alike 119 = .ok (.goto 4, 3) := dk_167 0 4 (dk_at dksX4_alike_5 1 rfl rfl)
theorem dX4_alike_122 : decode cX4_alike 122 = .ok (.iconst 1, 1) := dk_4 (dk_at dksX4_alike_5 4 rfl rfl)
theorem dX4_alike_123 : decode cX4_alike 123 = .ok (.istore 8, 2) := dk_54 8 (dk_at dksX4_alike_5 5 rfl rfl)
theorem dX4_alike_125 : decode cX4_alike 125 = .ok (.iload 4, 2) := dk_21 4 (dk_at dksX4_alike_5 7 rfl rfl)
theorem dX4_alike_127 : decode cX4_alike 127 = .ok (.iload 8, 2) := dk_21 8 (dk_at dksX4_alike_5 9 rfl rfl)
theorem dX4_alike_129 : decode cX4_alike 129 = .ok (.iload_n 3, 1) := dk_29 (dk_at dksX4_alike_5 11 rfl rfl)
theorem dX4_alike_130 : decode cX4_alike 130 = .ok (.if_icmp .ne 7, 3) := dk_160 0 7 (dk_at dksX4_alike_5 12 rfl rfl)
theorem dX4_alike_133 : decode cX4_alike 133 = .ok (.iconst 1, 1) := dk_4 (dk_at dksX4_alike_5 15 rfl rfl)
theorem dX4_alike_134 : decode cX4_alike 134 = .ok (.goto 4, 3) := dk_167 0 4 (dk_at dksX4_alike_5 16 rfl rfl)
theorem dX4_alike_137 : decode cX4_alike 137 = .ok (.iconst 0, 1) := dk_3 (dk_at dksX4_alike_5 19 rfl rfl)
theorem dX4_alike_138 : decode cX4_alike 138 = .ok (.iadd, 1) := dk_96 (dk_at dksX4_alike_5 20 rfl rfl)
theorem dX4_alike_139 : decode cX4_alike 139 = .ok (.istore 4, 2) := dk_54 4 (dk_at dksX4_alike_5 21 rfl rfl)
theorem dX4_alike_141 : decode cX4_alike 141 = .ok (.iinc 5 1, 3) := dk_132 5 1 (dk_at dksX4_alike_6 0 rfl rfl)
theorem dX4_alike_144 : decode cX4_alike 144 = .ok (.goto (-102), 3) := dk_167 255 154 (dk_at dksX4_alike_6 3 rfl rfl)
theorem dX4_alike_147 : decode cX4_alike 147 = .ok (.iload 4, 2) := dk_21 4 (dk_at dksX4_alike_6 6 rfl rfl)
theorem dX4_alike_149 : decode cX4_alike 149 = .ok (.ireturn, 1) := dk_172 (dk_at dksX4_alike_6 8 rfl rfl)
abbrev cX4_beasts : ByteArray := prog_20_method_69_code
def yX4_beasts : MethodName := ⟨RX4, "beasts", "(IIIII)I"⟩
def dkwX4_beasts_7 : List UInt8 := [184, 0, 229, 54, 6, 132, 7, 1, 167, 255, 226, 21, 6, 172]
abbrev dktX4_beasts_7 : List UInt8 := dkwX4_beasts_7 ++ []
def dkwX4_beasts_6 : List UInt8 := [54, 7, 21, 7, 42, 180, 0, 198, 162, 0, 27, 21, 6, 42, 27, 21, 7, 28, 29, 21, 4, 182, 1, 189]
abbrev dktX4_beasts_6 : List UInt8 := dkwX4_beasts_6 ++ dktX4_beasts_7
def dkwX4_beasts_5 : List UInt8 := [21, 6, 172, 21, 5, 5, 160, 0, 17, 42, 182, 1, 200, 42, 27, 28, 29, 21, 4, 182, 1, 192, 172, 3]
abbrev dktX4_beasts_5 : List UInt8 := dkwX4_beasts_5 ++ dktX4_beasts_6
def dkwX4_beasts_4 : List UInt8 := [21, 7, 46, 122, 4, 126, 4, 160, 0, 7, 4, 167, 0, 4, 3, 96, 54, 6, 132, 7, 1, 167, 255, 185]
abbrev dktX4_beasts_4 : List UInt8 := dkwX4_beasts_4 ++ dktX4_beasts_5
def dkwX4_beasts_3 : List UInt8 := [160, 0, 38, 42, 180, 0, 94, 17, 0, 200, 29, 104, 21, 7, 96, 46, 155, 0, 22, 28, 42, 180, 0, 67]
abbrev dktX4_beasts_3 : List UInt8 := dkwX4_beasts_3 ++ dktX4_beasts_4
def dkwX4_beasts_2 : List UInt8 := [162, 0, 70, 21, 6, 42, 180, 0, 94, 17, 0, 200, 29, 104, 21, 7, 96, 46, 16, 100, 108, 27]
abbrev dktX4_beasts_2 : List UInt8 := dkwX4_beasts_2 ++ dktX4_beasts_3
def dkwX4_beasts_1 : List UInt8 := [184, 0, 178, 154, 0, 6, 16, 254, 172, 3, 54, 6, 21, 5, 154, 0, 83, 3, 54, 7, 21, 7, 21, 4]
abbrev dktX4_beasts_1 : List UInt8 := dkwX4_beasts_1 ++ dktX4_beasts_2
def dkwX4_beasts_0 : List UInt8 := [42, 3, 181, 0, 173, 42, 27, 28, 29, 21, 4, 182, 1, 196, 153, 0, 16, 21, 5, 133, 9, 20, 1, 1]
abbrev dktX4_beasts_0 : List UInt8 := dkwX4_beasts_0 ++ dktX4_beasts_1
theorem dksX4_beasts_0 : cX4_beasts.data.toList.drop 0 = dktX4_beasts_0 := by decide +kernel
theorem dksX4_beasts_1 : cX4_beasts.data.toList.drop 24 = dktX4_beasts_1 := dk_seg dksX4_beasts_0 24 rfl rfl
theorem dksX4_beasts_2 : cX4_beasts.data.toList.drop 48 = dktX4_beasts_2 := dk_seg dksX4_beasts_1 24 rfl rfl
theorem dksX4_beasts_3 : cX4_beasts.data.toList.drop 70 = dktX4_beasts_3 := dk_seg dksX4_beasts_2 22 rfl rfl
theorem dksX4_beasts_4 : cX4_beasts.data.toList.drop 94 = dktX4_beasts_4 := dk_seg dksX4_beasts_3 24 rfl rfl
theorem dksX4_beasts_5 : cX4_beasts.data.toList.drop 118 = dktX4_beasts_5 := dk_seg dksX4_beasts_4 24 rfl rfl
theorem dksX4_beasts_6 : cX4_beasts.data.toList.drop 142 = dktX4_beasts_6 := dk_seg dksX4_beasts_5 24 rfl rfl
theorem dksX4_beasts_7 : cX4_beasts.data.toList.drop 166 = dktX4_beasts_7 := dk_seg dksX4_beasts_6 24 rfl rfl
theorem dX4_beasts_0 : decode cX4_beasts 0 = .ok (.aload_n 0, 1) := dk_42 (dk_at dksX4_beasts_0 0 rfl rfl)
theorem dX4_beasts_1 : decode cX4_beasts 1 = .ok (.iconst 0, 1) := dk_3 (dk_at dksX4_beasts_0 1 rfl rfl)
theorem dX4_beasts_2 : decode cX4_beasts 2 = .ok (.putfield 173, 3) := dk_181 0 173 (dk_at dksX4_beasts_0 2 rfl rfl)
theorem dX4_beasts_5 : decode cX4_beasts 5 = .ok (.aload_n 0, 1) := dk_42 (dk_at dksX4_beasts_0 5 rfl rfl)
theorem dX4_beasts_6 : decode cX4_beasts 6 = .ok (.iload_n 1, 1) := dk_27 (dk_at dksX4_beasts_0 6 rfl rfl)
theorem dX4_beasts_7 : decode cX4_beasts 7 = .ok (.iload_n 2, 1) := dk_28 (dk_at dksX4_beasts_0 7 rfl rfl)
theorem dX4_beasts_8 : decode cX4_beasts 8 = .ok (.iload_n 3, 1) := dk_29 (dk_at dksX4_beasts_0 8 rfl rfl)
theorem dX4_beasts_9 : decode cX4_beasts 9 = .ok (.iload 4, 2) := dk_21 4 (dk_at dksX4_beasts_0 9 rfl rfl)
theorem dX4_beasts_11 : decode cX4_beasts 11 = .ok (.invokevirtual 452, 3) := dk_182 1 196 (dk_at dksX4_beasts_0 11 rfl rfl)
theorem dX4_beasts_14 : decode cX4_beasts 14 = .ok (.ifCond .eq 16, 3) := dk_153 0 16 (dk_at dksX4_beasts_0 14 rfl rfl)
theorem dX4_beasts_17 : decode cX4_beasts 17 = .ok (.iload 5, 2) := dk_21 5 (dk_at dksX4_beasts_0 17 rfl rfl)
theorem dX4_beasts_19 : decode cX4_beasts 19 = .ok (.i2l, 1) := dk_133 (dk_at dksX4_beasts_0 19 rfl rfl)
theorem dX4_beasts_20 : decode cX4_beasts 20 = .ok (.lconst 0, 1) := dk_9 (dk_at dksX4_beasts_0 20 rfl rfl)
theorem dX4_beasts_21 : decode cX4_beasts 21 = .ok (.ldc2_w 257, 3) := dk_20 1 1 (dk_at dksX4_beasts_0 21 rfl rfl)
theorem dX4_beasts_24 : decode cX4_beasts 24 = .ok (.invokestatic 178, 3) := dk_184 0 178 (dk_at dksX4_beasts_1 0 rfl rfl)
theorem dX4_beasts_27 : decode cX4_beasts 27 = .ok (.ifCond .ne 6, 3) := dk_154 0 6 (dk_at dksX4_beasts_1 3 rfl rfl)
theorem dX4_beasts_30 : decode cX4_beasts 30 = .ok (.bipush (-2), 2) := dk_16 254 (dk_at dksX4_beasts_1 6 rfl rfl)
theorem dX4_beasts_32 : decode cX4_beasts 32 = .ok (.ireturn, 1) := dk_172 (dk_at dksX4_beasts_1 8 rfl rfl)
theorem dX4_beasts_33 : decode cX4_beasts 33 = .ok (.iconst 0, 1) := dk_3 (dk_at dksX4_beasts_1 9 rfl rfl)
theorem dX4_beasts_34 : decode cX4_beasts 34 = .ok (.istore 6, 2) := dk_54 6 (dk_at dksX4_beasts_1 10 rfl rfl)
theorem dX4_beasts_36 : decode cX4_beasts 36 = .ok (.iload 5, 2) := dk_21 5 (dk_at dksX4_beasts_1 12 rfl rfl)
theorem dX4_beasts_38 : decode cX4_beasts 38 = .ok (.ifCond .ne 83, 3) := dk_154 0 83 (dk_at dksX4_beasts_1 14 rfl rfl)
theorem dX4_beasts_41 : decode cX4_beasts 41 = .ok (.iconst 0, 1) := dk_3 (dk_at dksX4_beasts_1 17 rfl rfl)
theorem dX4_beasts_42 : decode cX4_beasts 42 = .ok (.istore 7, 2) := dk_54 7 (dk_at dksX4_beasts_1 18 rfl rfl)
theorem dX4_beasts_44 : decode cX4_beasts 44 = .ok (.iload 7, 2) := dk_21 7 (dk_at dksX4_beasts_1 20 rfl rfl)
theorem dX4_beasts_46 : decode cX4_beasts 46 = .ok (.iload 4, 2) := dk_21 4 (dk_at dksX4_beasts_1 22 rfl rfl)
theorem dX4_beasts_48 : decode cX4_beasts 48 = .ok (.if_icmp .ge 70, 3) := dk_162 0 70 (dk_at dksX4_beasts_2 0 rfl rfl)
theorem dX4_beasts_51 : decode cX4_beasts 51 = .ok (.iload 6, 2) := dk_21 6 (dk_at dksX4_beasts_2 3 rfl rfl)
theorem dX4_beasts_53 : decode cX4_beasts 53 = .ok (.aload_n 0, 1) := dk_42 (dk_at dksX4_beasts_2 5 rfl rfl)
theorem dX4_beasts_54 : decode cX4_beasts 54 = .ok (.getfield 94, 3) := dk_180 0 94 (dk_at dksX4_beasts_2 6 rfl rfl)
theorem dX4_beasts_57 : decode cX4_beasts 57 = .ok (.sipush 200, 3) := dk_17 0 200 (dk_at dksX4_beasts_2 9 rfl rfl)
theorem dX4_beasts_60 : decode cX4_beasts 60 = .ok (.iload_n 3, 1) := dk_29 (dk_at dksX4_beasts_2 12 rfl rfl)
theorem dX4_beasts_61 : decode cX4_beasts 61 = .ok (.imul, 1) := dk_104 (dk_at dksX4_beasts_2 13 rfl rfl)
theorem dX4_beasts_62 : decode cX4_beasts 62 = .ok (.iload 7, 2) := dk_21 7 (dk_at dksX4_beasts_2 14 rfl rfl)
theorem dX4_beasts_64 : decode cX4_beasts 64 = .ok (.iadd, 1) := dk_96 (dk_at dksX4_beasts_2 16 rfl rfl)
theorem dX4_beasts_65 : decode cX4_beasts 65 = .ok (.iaload, 1) := dk_46 (dk_at dksX4_beasts_2 17 rfl rfl)
theorem dX4_beasts_66 : decode cX4_beasts 66 = .ok (.bipush 100, 2) := dk_16 100 (dk_at dksX4_beasts_2 18 rfl rfl)
theorem dX4_beasts_68 : decode cX4_beasts 68 = .ok (.idiv, 1) := dk_108 (dk_at dksX4_beasts_2 20 rfl rfl)
theorem dX4_beasts_69 : decode cX4_beasts 69 = .ok (.iload_n 1, 1) := dk_27 (dk_at dksX4_beasts_2 21 rfl rfl)
theorem dX4_beasts_70 : decode cX4_beasts 70 = .ok (.if_icmp .ne 38, 3) := dk_160 0 38 (dk_at dksX4_beasts_3 0 rfl rfl)
theorem dX4_beasts_73 : decode cX4_beasts 73 = .ok (.aload_n 0, 1) := dk_42 (dk_at dksX4_beasts_3 3 rfl rfl)
theorem dX4_beasts_74 : decode cX4_beasts 74 = .ok (.getfield 94, 3) := dk_180 0 94 (dk_at dksX4_beasts_3 4 rfl rfl)
theorem dX4_beasts_77 : decode cX4_beasts 77 = .ok (.sipush 200, 3) := dk_17 0 200 (dk_at dksX4_beasts_3 7 rfl rfl)
theorem dX4_beasts_80 : decode cX4_beasts 80 = .ok (.iload_n 3, 1) := dk_29 (dk_at dksX4_beasts_3 10 rfl rfl)
theorem dX4_beasts_81 : decode cX4_beasts 81 = .ok (.imul, 1) := dk_104 (dk_at dksX4_beasts_3 11 rfl rfl)
theorem dX4_beasts_82 : decode cX4_beasts 82 = .ok (.iload 7, 2) := dk_21 7 (dk_at dksX4_beasts_3 12 rfl rfl)
theorem dX4_beasts_84 : decode cX4_beasts 84 = .ok (.iadd, 1) := dk_96 (dk_at dksX4_beasts_3 14 rfl rfl)
theorem dX4_beasts_85 : decode cX4_beasts 85 = .ok (.iaload, 1) := dk_46 (dk_at dksX4_beasts_3 15 rfl rfl)
theorem dX4_beasts_86 : decode cX4_beasts 86 = .ok (.ifCond .lt 22, 3) := dk_155 0 22 (dk_at dksX4_beasts_3 16 rfl rfl)
theorem dX4_beasts_89 : decode cX4_beasts 89 = .ok (.iload_n 2, 1) := dk_28 (dk_at dksX4_beasts_3 19 rfl rfl)
theorem dX4_beasts_90 : decode cX4_beasts 90 = .ok (.aload_n 0, 1) := dk_42 (dk_at dksX4_beasts_3 20 rfl rfl)
theorem dX4_beasts_91 : decode cX4_beasts 91 = .ok (.getfield 67, 3) := dk_180 0 67 (dk_at dksX4_beasts_3 21 rfl rfl)
theorem dX4_beasts_94 : decode cX4_beasts 94 = .ok (.iload 7, 2) := dk_21 7 (dk_at dksX4_beasts_4 0 rfl rfl)
theorem dX4_beasts_96 : decode cX4_beasts 96 = .ok (.iaload, 1) := dk_46 (dk_at dksX4_beasts_4 2 rfl rfl)
theorem dX4_beasts_97 : decode cX4_beasts 97 = .ok (.ishr, 1) := dk_122 (dk_at dksX4_beasts_4 3 rfl rfl)
theorem dX4_beasts_98 : decode cX4_beasts 98 = .ok (.iconst 1, 1) := dk_4 (dk_at dksX4_beasts_4 4 rfl rfl)
theorem dX4_beasts_99 : decode cX4_beasts 99 = .ok (.iand, 1) := dk_126 (dk_at dksX4_beasts_4 5 rfl rfl)
theorem dX4_beasts_100 : decode cX4_beasts 100 = .ok (.iconst 1, 1) := dk_4 (dk_at dksX4_beasts_4 6 rfl rfl)
theorem dX4_beasts_101 : decode cX4_beasts 101 = .ok (.if_icmp .ne 7, 3) := dk_160 0 7 (dk_at dksX4_beasts_4 7 rfl rfl)
theorem dX4_beasts_104 : decode cX4_beasts 104 = .ok (.iconst 1, 1) := dk_4 (dk_at dksX4_beasts_4 10 rfl rfl)
theorem dX4_beasts_105 : decode cX4_beasts 105 = .ok (.goto 4, 3) := dk_167 0 4 (dk_at dksX4_beasts_4 11 rfl rfl)
theorem dX4_beasts_108 : decode cX4_beasts 108 = .ok (.iconst 0, 1) := dk_3 (dk_at dksX4_beasts_4 14 rfl rfl)
theorem dX4_beasts_109 : decode cX4_beasts 109 = .ok (.iadd, 1) := dk_96 (dk_at dksX4_beasts_4 15 rfl rfl)
theorem dX4_beasts_110 : decode cX4_beasts 110 = .ok (.istore 6, 2) := dk_54 6 (dk_at dksX4_beasts_4 16 rfl rfl)
theorem dX4_beasts_112 : decode cX4_beasts 112 = .ok (.iinc 7 1, 3) := dk_132 7 1 (dk_at dksX4_beasts_4 18 rfl rfl)
theorem dX4_beasts_115 : decode cX4_beasts 115 = .ok (.goto (-71), 3) := dk_167 255 185 (dk_at dksX4_beasts_4 21 rfl rfl)
theorem dX4_beasts_118 : decode cX4_beasts 118 = .ok (.iload 6, 2) := dk_21 6 (dk_at dksX4_beasts_5 0 rfl rfl)
theorem dX4_beasts_120 : decode cX4_beasts 120 = .ok (.ireturn, 1) := dk_172 (dk_at dksX4_beasts_5 2 rfl rfl)
theorem dX4_beasts_121 : decode cX4_beasts 121 = .ok (.iload 5, 2) := dk_21 5 (dk_at dksX4_beasts_5 3 rfl rfl)
theorem dX4_beasts_123 : decode cX4_beasts 123 = .ok (.iconst 2, 1) := dk_5 (dk_at dksX4_beasts_5 5 rfl rfl)
theorem dX4_beasts_124 : decode cX4_beasts 124 = .ok (.if_icmp .ne 17, 3) := dk_160 0 17 (dk_at dksX4_beasts_5 6 rfl rfl)
theorem dX4_beasts_127 : decode cX4_beasts 127 = .ok (.aload_n 0, 1) := dk_42 (dk_at dksX4_beasts_5 9 rfl rfl)
theorem dX4_beasts_128 : decode cX4_beasts 128 = .ok (.invokevirtual 456, 3) := dk_182 1 200 (dk_at dksX4_beasts_5 10 rfl rfl)
theorem dX4_beasts_131 : decode cX4_beasts 131 = .ok (.aload_n 0, 1) := dk_42 (dk_at dksX4_beasts_5 13 rfl rfl)
theorem dX4_beasts_132 : decode cX4_beasts 132 = .ok (.iload_n 1, 1) := dk_27 (dk_at dksX4_beasts_5 14 rfl rfl)
theorem dX4_beasts_133 : decode cX4_beasts 133 = .ok (.iload_n 2, 1) := dk_28 (dk_at dksX4_beasts_5 15 rfl rfl)
theorem dX4_beasts_134 : decode cX4_beasts 134 = .ok (.iload_n 3, 1) := dk_29 (dk_at dksX4_beasts_5 16 rfl rfl)
theorem dX4_beasts_135 : decode cX4_beasts 135 = .ok (.iload 4, 2) := dk_21 4 (dk_at dksX4_beasts_5 17 rfl rfl)
theorem dX4_beasts_137 : decode cX4_beasts 137 = .ok (.invokevirtual 448, 3) := dk_182 1 192 (dk_at dksX4_beasts_5 19 rfl rfl)
theorem dX4_beasts_140 : decode cX4_beasts 140 = .ok (.ireturn, 1) := dk_172 (dk_at dksX4_beasts_5 22 rfl rfl)
theorem dX4_beasts_141 : decode cX4_beasts 141 = .ok (.iconst 0, 1) := dk_3 (dk_at dksX4_beasts_5 23 rfl rfl)
theorem dX4_beasts_142 : decode cX4_beasts 142 = .ok (.istore 7, 2) := dk_54 7 (dk_at dksX4_beasts_6 0 rfl rfl)
theorem dX4_beasts_144 : decode cX4_beasts 144 = .ok (.iload 7, 2) := dk_21 7 (dk_at dksX4_beasts_6 2 rfl rfl)
theorem dX4_beasts_146 : decode cX4_beasts 146 = .ok (.aload_n 0, 1) := dk_42 (dk_at dksX4_beasts_6 4 rfl rfl)
theorem dX4_beasts_147 : decode cX4_beasts 147 = .ok (.getfield 198, 3) := dk_180 0 198 (dk_at dksX4_beasts_6 5 rfl rfl)
theorem dX4_beasts_150 : decode cX4_beasts 150 = .ok (.if_icmp .ge 27, 3) := dk_162 0 27 (dk_at dksX4_beasts_6 8 rfl rfl)
theorem dX4_beasts_153 : decode cX4_beasts 153 = .ok (.iload 6, 2) := dk_21 6 (dk_at dksX4_beasts_6 11 rfl rfl)
theorem dX4_beasts_155 : decode cX4_beasts 155 = .ok (.aload_n 0, 1) := dk_42 (dk_at dksX4_beasts_6 13 rfl rfl)
theorem dX4_beasts_156 : decode cX4_beasts 156 = .ok (.iload_n 1, 1) := dk_27 (dk_at dksX4_beasts_6 14 rfl rfl)
theorem dX4_beasts_157 : decode cX4_beasts 157 = .ok (.iload 7, 2) := dk_21 7 (dk_at dksX4_beasts_6 15 rfl rfl)
theorem dX4_beasts_159 : decode cX4_beasts 159 = .ok (.iload_n 2, 1) := dk_28 (dk_at dksX4_beasts_6 17 rfl rfl)
theorem dX4_beasts_160 : decode cX4_beasts 160 = .ok (.iload_n 3, 1) := dk_29 (dk_at dksX4_beasts_6 18 rfl rfl)
theorem dX4_beasts_161 : decode cX4_beasts 161 = .ok (.iload 4, 2) := dk_21 4 (dk_at dksX4_beasts_6 19 rfl rfl)
theorem dX4_beasts_163 : decode cX4_beasts 163 = .ok (.invokevirtual 445, 3) := dk_182 1 189 (dk_at dksX4_beasts_6 21 rfl rfl)
theorem dX4_beasts_166 : decode cX4_beasts 166 = .ok (.invokestatic 229, 3) := dk_184 0 229 (dk_at dksX4_beasts_7 0 rfl rfl)
theorem dX4_beasts_169 : decode cX4_beasts 169 = .ok (.istore 6, 2) := dk_54 6 (dk_at dksX4_beasts_7 3 rfl rfl)
theorem dX4_beasts_171 : decode cX4_beasts 171 = .ok (.iinc 7 1, 3) := dk_132 7 1 (dk_at dksX4_beasts_7 5 rfl rfl)
theorem dX4_beasts_174 : decode cX4_beasts 174 = .ok (.goto (-30), 3) := dk_167 255 226 (dk_at dksX4_beasts_7 8 rfl rfl)
theorem dX4_beasts_177 : decode cX4_beasts 177 = .ok (.iload 6, 2) := dk_21 6 (dk_at dksX4_beasts_7 11 rfl rfl)
theorem dX4_beasts_179 : decode cX4_beasts 179 = .ok (.ireturn, 1) := dk_172 (dk_at dksX4_beasts_7 13 rfl rfl)
abbrev cX4_isAsked : ByteArray := prog_20_method_58_code
def yX4_isAsked : MethodName := ⟨RX4, "isAsked", "(IIII)Z"⟩
def dkwX4_isAsked_2 : List UInt8 := [167, 0, 4, 3, 172]
abbrev dktX4_isAsked_2 : List UInt8 := dkwX4_isAsked_2 ++ []
def dkwX4_isAsked_1 : List UInt8 := [42, 29, 182, 1, 158, 153, 0, 22, 21, 4, 133, 9, 42, 180, 0, 206, 133, 184, 0, 178, 153, 0, 7, 4]
abbrev dktX4_isAsked_1 : List UInt8 := dkwX4_isAsked_1 ++ dktX4_isAsked_2
def dkwX4_isAsked_0 : List UInt8 := [27, 184, 0, 212, 153, 0, 47, 28, 133, 9, 10, 42, 180, 0, 203, 121, 10, 101, 184, 0, 178, 153, 0, 30]
abbrev dktX4_isAsked_0 : List UInt8 := dkwX4_isAsked_0 ++ dktX4_isAsked_1
theorem dksX4_isAsked_0 : cX4_isAsked.data.toList.drop 0 = dktX4_isAsked_0 := by decide +kernel
theorem dksX4_isAsked_1 : cX4_isAsked.data.toList.drop 24 = dktX4_isAsked_1 := dk_seg dksX4_isAsked_0 24 rfl rfl
theorem dksX4_isAsked_2 : cX4_isAsked.data.toList.drop 48 = dktX4_isAsked_2 := dk_seg dksX4_isAsked_1 24 rfl rfl
theorem dX4_isAsked_0 : decode cX4_isAsked 0 = .ok (.iload_n 1, 1) := dk_27 (dk_at dksX4_isAsked_0 0 rfl rfl)
theorem dX4_isAsked_1 : decode cX4_isAsked 1 = .ok (.invokestatic 212, 3) := dk_184 0 212 (dk_at dksX4_isAsked_0 1 rfl rfl)
theorem dX4_isAsked_4 : decode cX4_isAsked 4 = .ok (.ifCond .eq 47, 3) := dk_153 0 47 (dk_at dksX4_isAsked_0 4 rfl rfl)
theorem dX4_isAsked_7 : decode cX4_isAsked 7 = .ok (.iload_n 2, 1) := dk_28 (dk_at dksX4_isAsked_0 7 rfl rfl)
theorem dX4_isAsked_8 : decode cX4_isAsked 8 = .ok (.i2l, 1) := dk_133 (dk_at dksX4_isAsked_0 8 rfl rfl)
theorem dX4_isAsked_9 : decode cX4_isAsked 9 = .ok (.lconst 0, 1) := dk_9 (dk_at dksX4_isAsked_0 9 rfl rfl)
theorem dX4_isAsked_10 : decode cX4_isAsked 10 = .ok (.lconst 1, 1) := dk_10 (dk_at dksX4_isAsked_0 10 rfl rfl)
theorem dX4_isAsked_11 : decode cX4_isAsked 11 = .ok (.aload_n 0, 1) := dk_42 (dk_at dksX4_isAsked_0 11 rfl rfl)
theorem dX4_isAsked_12 : decode cX4_isAsked 12 = .ok (.getfield 203, 3) := dk_180 0 203 (dk_at dksX4_isAsked_0 12 rfl rfl)
theorem dX4_isAsked_15 : decode cX4_isAsked 15 = .ok (.lshl, 1) := dk_121 (dk_at dksX4_isAsked_0 15 rfl rfl)
theorem dX4_isAsked_16 : decode cX4_isAsked 16 = .ok (.lconst 1, 1) := dk_10 (dk_at dksX4_isAsked_0 16 rfl rfl)
theorem dX4_isAsked_17 : decode cX4_isAsked 17 = .ok (.lsub, 1) := dk_101 (dk_at dksX4_isAsked_0 17 rfl rfl)
theorem dX4_isAsked_18 : decode cX4_isAsked 18 = .ok (.invokestatic 178, 3) := dk_184 0 178 (dk_at dksX4_isAsked_0 18 rfl rfl)
theorem dX4_isAsked_21 : decode cX4_isAsked 21 = .ok (.ifCond .eq 30, 3) := dk_153 0 30 (dk_at dksX4_isAsked_0 21 rfl rfl)
theorem dX4_isAsked_24 : decode cX4_isAsked 24 = .ok (.aload_n 0, 1) := dk_42 (dk_at dksX4_isAsked_1 0 rfl rfl)
theorem dX4_isAsked_25 : decode cX4_isAsked 25 = .ok (.iload_n 3, 1) := dk_29 (dk_at dksX4_isAsked_1 1 rfl rfl)
theorem dX4_isAsked_26 : decode cX4_isAsked 26 = .ok (.invokevirtual 414, 3) := dk_182 1 158 (dk_at dksX4_isAsked_1 2 rfl rfl)
theorem dX4_isAsked_29 : decode cX4_isAsked 29 = .ok (.ifCond .eq 22, 3) := dk_153 0 22 (dk_at dksX4_isAsked_1 5 rfl rfl)
theorem dX4_isAsked_32 : decode cX4_isAsked 32 = .ok (.iload 4, 2) := dk_21 4 (dk_at dksX4_isAsked_1 8 rfl rfl)
theorem dX4_isAsked_34 : decode cX4_isAsked 34 = .ok (.i2l, 1) := dk_133 (dk_at dksX4_isAsked_1 10 rfl rfl)
theorem dX4_isAsked_35 : decode cX4_isAsked 35 = .ok (.lconst 0, 1) := dk_9 (dk_at dksX4_isAsked_1 11 rfl rfl)
theorem dX4_isAsked_36 : decode cX4_isAsked 36 = .ok (.aload_n 0, 1) := dk_42 (dk_at dksX4_isAsked_1 12 rfl rfl)
theorem dX4_isAsked_37 : decode cX4_isAsked 37 = .ok (.getfield 206, 3) := dk_180 0 206 (dk_at dksX4_isAsked_1 13 rfl rfl)
theorem dX4_isAsked_40 : decode cX4_isAsked 40 = .ok (.i2l, 1) := dk_133 (dk_at dksX4_isAsked_1 16 rfl rfl)
theorem dX4_isAsked_41 : decode cX4_isAsked 41 = .ok (.invokestatic 178, 3) := dk_184 0 178 (dk_at dksX4_isAsked_1 17 rfl rfl)
theorem dX4_isAsked_44 : decode cX4_isAsked 44 = .ok (.ifCond .eq 7, 3) := dk_153 0 7 (dk_at dksX4_isAsked_1 20 rfl rfl)
theorem dX4_isAsked_47 : decode cX4_isAsked 47 = .ok (.iconst 1, 1) := dk_4 (dk_at dksX4_isAsked_1 23 rfl rfl)
theorem dX4_isAsked_48 : decode cX4_isAsked 48 = .ok (.goto 4, 3) := dk_167 0 4 (dk_at dksX4_isAsked_2 0 rfl rfl)
theorem dX4_isAsked_51 : decode cX4_isAsked 51 = .ok (.iconst 0, 1) := dk_3 (dk_at dksX4_isAsked_2 3 rfl rfl)
theorem dX4_isAsked_52 : decode cX4_isAsked 52 = .ok (.ireturn, 1) := dk_172 (dk_at dksX4_isAsked_2 4 rfl rfl)
abbrev cX4_alone : ByteArray := prog_20_method_68_code
def yX4_alone : MethodName := ⟨RX4, "alone", "()V"⟩
def dkwX4_alone_0 : List UInt8 := [3, 60, 27, 17, 0, 200, 162, 0, 16, 42, 180, 0, 137, 27, 2, 79, 132, 1, 1, 167, 255, 239, 177]
abbrev dktX4_alone_0 : List UInt8 := dkwX4_alone_0 ++ []
theorem dksX4_alone_0 : cX4_alone.data.toList.drop 0 = dktX4_alone_0 := by decide +kernel
theorem dX4_alone_0 : decode cX4_alone 0 = .ok (.iconst 0, 1) := dk_3 (dk_at dksX4_alone_0 0 rfl rfl)
theorem dX4_alone_1 : decode cX4_alone 1 = .ok (.istore_n 1, 1) := dk_60 (dk_at dksX4_alone_0 1 rfl rfl)
theorem dX4_alone_2 : decode cX4_alone 2 = .ok (.iload_n 1, 1) := dk_27 (dk_at dksX4_alone_0 2 rfl rfl)
theorem dX4_alone_3 : decode cX4_alone 3 = .ok (.sipush 200, 3) := dk_17 0 200 (dk_at dksX4_alone_0 3 rfl rfl)
theorem dX4_alone_6 : decode cX4_alone 6 = .ok (.if_icmp .ge 16, 3) := dk_162 0 16 (dk_at dksX4_alone_0 6 rfl rfl)
theorem dX4_alone_9 : decode cX4_alone 9 = .ok (.aload_n 0, 1) := dk_42 (dk_at dksX4_alone_0 9 rfl rfl)
theorem dX4_alone_10 : decode cX4_alone 10 = .ok (.getfield 137, 3) := dk_180 0 137 (dk_at dksX4_alone_0 10 rfl rfl)
theorem dX4_alone_13 : decode cX4_alone 13 = .ok (.iload_n 1, 1) := dk_27 (dk_at dksX4_alone_0 13 rfl rfl)
theorem dX4_alone_14 : decode cX4_alone 14 = .ok (.iconst (-1), 1) := dk_2 (dk_at dksX4_alone_0 14 rfl rfl)
theorem dX4_alone_15 : decode cX4_alone 15 = .ok (.iastore, 1) := dk_79 (dk_at dksX4_alone_0 15 rfl rfl)
theorem dX4_alone_16 : decode cX4_alone 16 = .ok (.iinc 1 1, 3) := dk_132 1 1 (dk_at dksX4_alone_0 16 rfl rfl)
theorem dX4_alone_19 : decode cX4_alone 19 = .ok (.goto (-17), 3) := dk_167 255 239 (dk_at dksX4_alone_0 19 rfl rfl)
theorem dX4_alone_22 : decode cX4_alone 22 = .ok (.return_, 1) := dk_177 (dk_at dksX4_alone_0 22 rfl rfl)
abbrev cX4_byPairs : ByteArray := prog_20_method_66_code
def yX4_byPairs : MethodName := ⟨RX4, "byPairs", "(IIII)I"⟩
def dkwX4_byPairs_5 : List UInt8 := [21, 5, 172]
abbrev dktX4_byPairs_5 : List UInt8 := dkwX4_byPairs_5 ++ []
def dkwX4_byPairs_4 : List UInt8 := [28, 29, 21, 4, 182, 1, 189, 54, 7, 21, 5, 21, 7, 184, 0, 229, 54, 5, 132, 6, 1, 167, 255, 145]
abbrev dktX4_byPairs_4 : List UInt8 := dkwX4_byPairs_4 ++ dktX4_byPairs_5
def dkwX4_byPairs_3 : List UInt8 := [162, 0, 7, 4, 167, 0, 4, 3, 96, 54, 7, 132, 8, 1, 167, 255, 211, 167, 0, 16, 42, 27, 21, 6]
abbrev dktX4_byPairs_3 : List UInt8 := dkwX4_byPairs_3 ++ dktX4_byPairs_4
def dkwX4_byPairs_2 : List UInt8 := [21, 7, 42, 21, 8, 27, 21, 6, 28, 29, 182, 1, 163, 153, 0, 18, 42, 180, 0, 76, 21, 8, 46, 5]
abbrev dktX4_byPairs_2 : List UInt8 := dkwX4_byPairs_2 ++ dktX4_byPairs_3
def dkwX4_byPairs_1 : List UInt8 := [42, 27, 21, 6, 28, 29, 21, 4, 182, 1, 185, 116, 54, 7, 3, 54, 8, 21, 8, 21, 4, 162, 0, 44]
abbrev dktX4_byPairs_1 : List UInt8 := dkwX4_byPairs_1 ++ dktX4_byPairs_2
def dkwX4_byPairs_0 : List UInt8 := [3, 54, 5, 3, 54, 6, 21, 6, 42, 180, 0, 198, 162, 0, 108, 42, 21, 6, 182, 1, 182, 153, 0, 71]
abbrev dktX4_byPairs_0 : List UInt8 := dkwX4_byPairs_0 ++ dktX4_byPairs_1
theorem dksX4_byPairs_0 : cX4_byPairs.data.toList.drop 0 = dktX4_byPairs_0 := by decide +kernel
theorem dksX4_byPairs_1 : cX4_byPairs.data.toList.drop 24 = dktX4_byPairs_1 := dk_seg dksX4_byPairs_0 24 rfl rfl
theorem dksX4_byPairs_2 : cX4_byPairs.data.toList.drop 48 = dktX4_byPairs_2 := dk_seg dksX4_byPairs_1 24 rfl rfl
theorem dksX4_byPairs_3 : cX4_byPairs.data.toList.drop 72 = dktX4_byPairs_3 := dk_seg dksX4_byPairs_2 24 rfl rfl
theorem dksX4_byPairs_4 : cX4_byPairs.data.toList.drop 96 = dktX4_byPairs_4 := dk_seg dksX4_byPairs_3 24 rfl rfl
theorem dksX4_byPairs_5 : cX4_byPairs.data.toList.drop 120 = dktX4_byPairs_5 := dk_seg dksX4_byPairs_4 24 rfl rfl
theorem dX4_byPairs_0 : decode cX4_byPairs 0 = .ok (.iconst 0, 1) := dk_3 (dk_at dksX4_byPairs_0 0 rfl rfl)
theorem dX4_byPairs_1 : decode cX4_byPairs 1 = .ok (.istore 5, 2) := dk_54 5 (dk_at dksX4_byPairs_0 1 rfl rfl)
theorem dX4_byPairs_3 : decode cX4_byPairs 3 = .ok (.iconst 0, 1) := dk_3 (dk_at dksX4_byPairs_0 3 rfl rfl)
theorem dX4_byPairs_4 : decode cX4_byPairs 4 = .ok (.istore 6, 2) := dk_54 6 (dk_at dksX4_byPairs_0 4 rfl rfl)
theorem dX4_byPairs_6 : decode cX4_byPairs 6 = .ok (.iload 6, 2) := dk_21 6 (dk_at dksX4_byPairs_0 6 rfl rfl)
theorem dX4_byPairs_8 : decode cX4_byPairs 8 = .ok (.aload_n 0, 1) := dk_42 (dk_at dksX4_byPairs_0 8 rfl rfl)
theorem dX4_byPairs_9 : decode cX4_byPairs 9 = .ok (.getfield 198, 3) := dk_180 0 198 (dk_at dksX4_byPairs_0 9 rfl rfl)
theorem dX4_byPairs_12 : decode cX4_byPairs 12 = .ok (.if_icmp .ge 108, 3) := dk_162 0 108 (dk_at dksX4_byPairs_0 12 rfl rfl)
theorem dX4_byPairs_15 : decode cX4_byPairs 15 = .ok (.aload_n 0, 1) := dk_42 (dk_at dksX4_byPairs_0 15 rfl rfl)
theorem dX4_byPairs_16 : decode cX4_byPairs 16 = .ok (.iload 6, 2) := dk_21 6 (dk_at dksX4_byPairs_0 16 rfl rfl)
theorem dX4_byPairs_18 : decode cX4_byPairs 18 = .ok (.invokevirtual 438, 3) := dk_182 1 182 (dk_at dksX4_byPairs_0 18 rfl rfl)
theorem dX4_byPairs_21 : decode cX4_byPairs 21 = .ok (.ifCond .eq 71, 3) := dk_153 0 71 (dk_at dksX4_byPairs_0 21 rfl rfl)
theorem dX4_byPairs_24 : decode cX4_byPairs 24 = .ok (.aload_n 0, 1) := dk_42 (dk_at dksX4_byPairs_1 0 rfl rfl)
theorem dX4_byPairs_25 : decode cX4_byPairs 25 = .ok (.iload_n 1, 1) := dk_27 (dk_at dksX4_byPairs_1 1 rfl rfl)
theorem dX4_byPairs_26 : decode cX4_byPairs 26 = .ok (.iload 6, 2) := dk_21 6 (dk_at dksX4_byPairs_1 2 rfl rfl)
theorem dX4_byPairs_28 : decode cX4_byPairs 28 = .ok (.iload_n 2, 1) := dk_28 (dk_at dksX4_byPairs_1 4 rfl rfl)
theorem dX4_byPairs_29 : decode cX4_byPairs 29 = .ok (.iload_n 3, 1) := dk_29 (dk_at dksX4_byPairs_1 5 rfl rfl)
theorem dX4_byPairs_30 : decode cX4_byPairs 30 = .ok (.iload 4, 2) := dk_21 4 (dk_at dksX4_byPairs_1 6 rfl rfl)
theorem dX4_byPairs_32 : decode cX4_byPairs 32 = .ok (.invokevirtual 441, 3) := dk_182 1 185 (dk_at dksX4_byPairs_1 8 rfl rfl)
theorem dX4_byPairs_35 : decode cX4_byPairs 35 = .ok (.ineg, 1) := dk_116 (dk_at dksX4_byPairs_1 11 rfl rfl)
theorem dX4_byPairs_36 : decode cX4_byPairs 36 = .ok (.istore 7, 2) := dk_54 7 (dk_at dksX4_byPairs_1 12 rfl rfl)
theorem dX4_byPairs_38 : decode cX4_byPairs 38 = .ok (.iconst 0, 1) := dk_3 (dk_at dksX4_byPairs_1 14 rfl rfl)
theorem dX4_byPairs_39 : decode cX4_byPairs 39 = .ok (.istore 8, 2) := dk_54 8 (dk_at dksX4_byPairs_1 15 rfl rfl)
theorem dX4_byPairs_41 : decode cX4_byPairs 41 = .ok (.iload 8, 2) := dk_21 8 (dk_at dksX4_byPairs_1 17 rfl rfl)
theorem dX4_byPairs_43 : decode cX4_byPairs 43 = .ok (.iload 4, 2) := dk_21 4 (dk_at dksX4_byPairs_1 19 rfl rfl)
theorem dX4_byPairs_45 : decode cX4_byPairs 45 = .ok (.if_icmp .ge 44, 3) := dk_162 0 44 (dk_at dksX4_byPairs_1 21 rfl rfl)
theorem dX4_byPairs_48 : decode cX4_byPairs 48 = .ok (.iload 7, 2) := dk_21 7 (dk_at dksX4_byPairs_2 0 rfl rfl)
theorem dX4_byPairs_50 : decode cX4_byPairs 50 = .ok (.aload_n 0, 1) := dk_42 (dk_at dksX4_byPairs_2 2 rfl rfl)
theorem dX4_byPairs_51 : decode cX4_byPairs 51 = .ok (.iload 8, 2) := dk_21 8 (dk_at dksX4_byPairs_2 3 rfl rfl)
theorem dX4_byPairs_53 : decode cX4_byPairs 53 = .ok (.iload_n 1, 1) := dk_27 (dk_at dksX4_byPairs_2 5 rfl rfl)
theorem dX4_byPairs_54 : decode cX4_byPairs 54 = .ok (.iload 6, 2) := dk_21 6 (dk_at dksX4_byPairs_2 6 rfl rfl)
theorem dX4_byPairs_56 : decode cX4_byPairs 56 = .ok (.iload_n 2, 1) := dk_28 (dk_at dksX4_byPairs_2 8 rfl rfl)
theorem dX4_byPairs_57 : decode cX4_byPairs 57 = .ok (.iload_n 3, 1) := dk_29 (dk_at dksX4_byPairs_2 9 rfl rfl)
theorem dX4_byPairs_58 : decode cX4_byPairs 58 = .ok (.invokevirtual 419, 3) := dk_182 1 163 (dk_at dksX4_byPairs_2 10 rfl rfl)
theorem dX4_byPairs_61 : decode cX4_byPairs 61 = .ok (.ifCond .eq 18, 3) := dk_153 0 18 (dk_at dksX4_byPairs_2 13 rfl rfl)
theorem dX4_byPairs_64 : decode cX4_byPairs 64 = .ok (.aload_n 0, 1) := dk_42 (dk_at dksX4_byPairs_2 16 rfl rfl)
theorem dX4_byPairs_65 : decode cX4_byPairs 65 = .ok (.getfield 76, 3) := dk_180 0 76 (dk_at dksX4_byPairs_2 17 rfl rfl)
theorem dX4_byPairs_68 : decode cX4_byPairs 68 = .ok (.iload 8, 2) := dk_21 8 (dk_at dksX4_byPairs_2 20 rfl rfl)
theorem dX4_byPairs_70 : decode cX4_byPairs 70 = .ok (.iaload, 1) := dk_46 (dk_at dksX4_byPairs_2 22 rfl rfl)
theorem dX4_byPairs_71 : decode cX4_byPairs 71 = .ok (.iconst 2, 1) := dk_5 (dk_at dksX4_byPairs_2 23 rfl rfl)
theorem dX4_byPairs_72 : decode cX4_byPairs 72 = .ok (.if_icmp .ge 7, 3) := dk_162 0 7 (dk_at dksX4_byPairs_3 0 rfl rfl)
theorem dX4_byPairs_75 : decode cX4_byPairs 75 = .ok (.iconst 1, 1) := dk_4 (dk_at dksX4_byPairs_3 3 rfl rfl)
theorem dX4_byPairs_76 : decode cX4_byPairs 76 = .ok (.goto 4, 3) := dk_167 0 4 (dk_at dksX4_byPairs_3 4 rfl rfl)
theorem dX4_byPairs_79 : decode cX4_byPairs 79 = .ok (.iconst 0, 1) := dk_3 (dk_at dksX4_byPairs_3 7 rfl rfl)
theorem dX4_byPairs_80 : decode cX4_byPairs 80 = .ok (.iadd, 1) := dk_96 (dk_at dksX4_byPairs_3 8 rfl rfl)
theorem dX4_byPairs_81 : decode cX4_byPairs 81 = .ok (.istore 7, 2) := dk_54 7 (dk_at dksX4_byPairs_3 9 rfl rfl)
theorem dX4_byPairs_83 : decode cX4_byPairs 83 = .ok (.iinc 8 1, 3) := dk_132 8 1 (dk_at dksX4_byPairs_3 11 rfl rfl)
theorem dX4_byPairs_86 : decode cX4_byPairs 86 = .ok (.goto (-45), 3) := dk_167 255 211 (dk_at dksX4_byPairs_3 14 rfl rfl)
theorem dX4_byPairs_89 : decode cX4_byPairs 89 = .ok (.goto 16, 3) := dk_167 0 16 (dk_at dksX4_byPairs_3 17 rfl rfl)
theorem dX4_byPairs_92 : decode cX4_byPairs 92 = .ok (.aload_n 0, 1) := dk_42 (dk_at dksX4_byPairs_3 20 rfl rfl)
theorem dX4_byPairs_93 : decode cX4_byPairs 93 = .ok (.iload_n 1, 1) := dk_27 (dk_at dksX4_byPairs_3 21 rfl rfl)
theorem dX4_byPairs_94 : decode cX4_byPairs 94 = .ok (.iload 6, 2) := dk_21 6 (dk_at dksX4_byPairs_3 22 rfl rfl)
theorem dX4_byPairs_96 : decode cX4_byPairs 96 = .ok (.iload_n 2, 1) := dk_28 (dk_at dksX4_byPairs_4 0 rfl rfl)
theorem dX4_byPairs_97 : decode cX4_byPairs 97 = .ok (.iload_n 3, 1) := dk_29 (dk_at dksX4_byPairs_4 1 rfl rfl)
theorem dX4_byPairs_98 : decode cX4_byPairs 98 = .ok (.iload 4, 2) := dk_21 4 (dk_at dksX4_byPairs_4 2 rfl rfl)
theorem dX4_byPairs_100 : decode cX4_byPairs 100 = .ok (.invokevirtual 445, 3) := dk_182 1 189 (dk_at dksX4_byPairs_4 4 rfl rfl)
theorem dX4_byPairs_103 : decode cX4_byPairs 103 = .ok (.istore 7, 2) := dk_54 7 (dk_at dksX4_byPairs_4 7 rfl rfl)
theorem dX4_byPairs_105 : decode cX4_byPairs 105 = .ok (.iload 5, 2) := dk_21 5 (dk_at dksX4_byPairs_4 9 rfl rfl)
theorem dX4_byPairs_107 : decode cX4_byPairs 107 = .ok (.iload 7, 2) := dk_21 7 (dk_at dksX4_byPairs_4 11 rfl rfl)
theorem dX4_byPairs_109 : decode cX4_byPairs 109 = .ok (.invokestatic 229, 3) := dk_184 0 229 (dk_at dksX4_byPairs_4 13 rfl rfl)
theorem dX4_byPairs_112 : decode cX4_byPairs 112 = .ok (.istore 5, 2) := dk_54 5 (dk_at dksX4_byPairs_4 16 rfl rfl)
theorem dX4_byPairs_114 : decode cX4_byPairs 114 = .ok (.iinc 6 1, 3) := dk_132 6 1 (dk_at dksX4_byPairs_4 18 rfl rfl)
theorem dX4_byPairs_117 : decode cX4_byPairs 117 = .ok (.goto (-111), 3) := dk_167 255 145 (dk_at dksX4_byPairs_4 21 rfl rfl)
theorem dX4_byPairs_120 : decode cX4_byPairs 120 = .ok (.iload 5, 2) := dk_21 5 (dk_at dksX4_byPairs_5 0 rfl rfl)
theorem dX4_byPairs_122 : decode cX4_byPairs 122 = .ok (.ireturn, 1) := dk_172 (dk_at dksX4_byPairs_5 2 rfl rfl)
abbrev cX4_makesPairs : ByteArray := prog_20_method_64_code
def yX4_makesPairs : MethodName := ⟨RX4, "makesPairs", "(I)Z"⟩
def dkwX4_makesPairs_1 : List UInt8 := [172]
abbrev dktX4_makesPairs_1 : List UInt8 := dkwX4_makesPairs_1 ++ []
def dkwX4_makesPairs_0 : List UInt8 := [42, 180, 0, 30, 27, 51, 153, 0, 17, 42, 180, 0, 34, 27, 46, 5, 160, 0, 7, 4, 167, 0, 4, 3]
abbrev dktX4_makesPairs_0 : List UInt8 := dkwX4_makesPairs_0 ++ dktX4_makesPairs_1
theorem dksX4_makesPairs_0 : cX4_makesPairs.data.toList.drop 0 = dktX4_makesPairs_0 := by decide +kernel
theorem dksX4_makesPairs_1 : cX4_makesPairs.data.toList.drop 24 = dktX4_makesPairs_1 := dk_seg dksX4_makesPairs_0 24 rfl rfl
theorem dX4_makesPairs_0 : decode cX4_makesPairs 0 = .ok (.aload_n 0, 1) := dk_42 (dk_at dksX4_makesPairs_0 0 rfl rfl)
theorem dX4_makesPairs_1 : decode cX4_makesPairs 1 = .ok (.getfield 30, 3) := dk_180 0 30 (dk_at dksX4_makesPairs_0 1 rfl rfl)
theorem dX4_makesPairs_4 : decode cX4_makesPairs 4 = .ok (.iload_n 1, 1) := dk_27 (dk_at dksX4_makesPairs_0 4 rfl rfl)
theorem dX4_makesPairs_5 : decode cX4_makesPairs 5 = .ok (.baload, 1) := dk_51 (dk_at dksX4_makesPairs_0 5 rfl rfl)
theorem dX4_makesPairs_6 : decode cX4_makesPairs 6 = .ok (.ifCond .eq 17, 3) := dk_153 0 17 (dk_at dksX4_makesPairs_0 6 rfl rfl)
theorem dX4_makesPairs_9 : decode cX4_makesPairs 9 = .ok (.aload_n 0, 1) := dk_42 (dk_at dksX4_makesPairs_0 9 rfl rfl)
theorem dX4_makesPairs_10 : decode cX4_makesPairs 10 = .ok (.getfield 34, 3) := dk_180 0 34 (dk_at dksX4_makesPairs_0 10 rfl rfl)
theorem dX4_makesPairs_13 : decode cX4_makesPairs 13 = .ok (.iload_n 1, 1) := dk_27 (dk_at dksX4_makesPairs_0 13 rfl rfl)
theorem dX4_makesPairs_14 : decode cX4_makesPairs 14 = .ok (.iaload, 1) := dk_46 (dk_at dksX4_makesPairs_0 14 rfl rfl)
theorem dX4_makesPairs_15 : decode cX4_makesPairs 15 = .ok (.iconst 2, 1) := dk_5 (dk_at dksX4_makesPairs_0 15 rfl rfl)
theorem dX4_makesPairs_16 : decode cX4_makesPairs 16 = .ok (.if_icmp .ne 7, 3) := dk_160 0 7 (dk_at dksX4_makesPairs_0 16 rfl rfl)
theorem dX4_makesPairs_19 : decode cX4_makesPairs 19 = .ok (.iconst 1, 1) := dk_4 (dk_at dksX4_makesPairs_0 19 rfl rfl)
theorem dX4_makesPairs_20 : decode cX4_makesPairs 20 = .ok (.goto 4, 3) := dk_167 0 4 (dk_at dksX4_makesPairs_0 20 rfl rfl)
theorem dX4_makesPairs_23 : decode cX4_makesPairs 23 = .ok (.iconst 0, 1) := dk_3 (dk_at dksX4_makesPairs_0 23 rfl rfl)
theorem dX4_makesPairs_24 : decode cX4_makesPairs 24 = .ok (.ireturn, 1) := dk_172 (dk_at dksX4_makesPairs_1 0 rfl rfl)
abbrev cX4_pairs : ByteArray := prog_20_method_65_code
def yX4_pairs : MethodName := ⟨RX4, "pairs", "(IIIII)I"⟩
def dkwX4_pairs_11 : List UInt8 := [132, 7, 1, 167, 255, 177, 21, 6, 172]
abbrev dktX4_pairs_11 : List UInt8 := dkwX4_pairs_11 ++ []
def dkwX4_pairs_10 : List UInt8 := [180, 0, 137, 42, 180, 0, 140, 42, 180, 0, 143, 21, 7, 46, 46, 42, 180, 0, 143, 21, 7, 46, 79]
abbrev dktX4_pairs_10 : List UInt8 := dkwX4_pairs_10 ++ dktX4_pairs_11
def dkwX4_pairs_9 : List UInt8 := [180, 0, 137, 42, 180, 0, 143, 21, 7, 46, 42, 180, 0, 140, 42, 180, 0, 143, 21, 7, 46, 46, 79, 42]
abbrev dktX4_pairs_9 : List UInt8 := dkwX4_pairs_9 ++ dktX4_pairs_10
def dkwX4_pairs_8 : List UInt8 := [162, 0, 76, 42, 180, 0, 140, 42, 180, 0, 143, 21, 7, 46, 46, 2, 160, 0, 6, 167, 0, 51, 42]
abbrev dktX4_pairs_8 : List UInt8 := dkwX4_pairs_8 ++ dktX4_pairs_9
def dkwX4_pairs_7 : List UInt8 := [4, 167, 0, 4, 3, 96, 54, 6, 132, 7, 1, 167, 255, 175, 3, 54, 7, 21, 7, 42, 180, 1, 174]
abbrev dktX4_pairs_7 : List UInt8 := dkwX4_pairs_7 ++ dktX4_pairs_8
def dkwX4_pairs_6 : List UInt8 := [180, 0, 146, 21, 8, 3, 84, 132, 8, 1, 167, 255, 237, 21, 6, 42, 21, 7, 182, 1, 179, 153, 0, 7]
abbrev dktX4_pairs_6 : List UInt8 := dkwX4_pairs_6 ++ dktX4_pairs_7
def dkwX4_pairs_5 : List UInt8 := [180, 0, 76, 21, 7, 46, 153, 0, 6, 167, 0, 47, 3, 54, 8, 21, 8, 17, 0, 200, 162, 0, 17, 42]
abbrev dktX4_pairs_5 : List UInt8 := dkwX4_pairs_5 ++ dktX4_pairs_6
def dkwX4_pairs_4 : List UInt8 := [21, 7, 21, 5, 162, 0, 80, 42, 21, 7, 27, 28, 29, 21, 4, 182, 1, 163, 153, 0, 60, 42]
abbrev dktX4_pairs_4 : List UInt8 := dkwX4_pairs_4 ++ dktX4_pairs_5
def dkwX4_pairs_3 : List UInt8 := [2, 79, 42, 89, 180, 1, 174, 4, 96, 181, 1, 174, 132, 6, 1, 167, 255, 189, 3, 54, 6, 3, 54, 7]
abbrev dktX4_pairs_3 : List UInt8 := dkwX4_pairs_3 ++ dktX4_pairs_4
def dkwX4_pairs_2 : List UInt8 := [4, 159, 0, 6, 167, 0, 32, 42, 180, 0, 143, 42, 180, 1, 174, 21, 6, 79, 42, 180, 0, 140, 21, 6]
abbrev dktX4_pairs_2 : List UInt8 := dkwX4_pairs_2 ++ dktX4_pairs_3
def dkwX4_pairs_1 : List UInt8 := [162, 0, 66, 42, 21, 6, 27, 28, 29, 21, 4, 182, 1, 163, 153, 0, 46, 42, 180, 0, 76, 21, 6, 46]
abbrev dktX4_pairs_1 : List UInt8 := dkwX4_pairs_1 ++ dktX4_pairs_2
def dkwX4_pairs_0 : List UInt8 := [42, 28, 182, 1, 182, 154, 0, 5, 3, 172, 42, 3, 181, 1, 174, 3, 54, 6, 21, 6, 21, 5]
abbrev dktX4_pairs_0 : List UInt8 := dkwX4_pairs_0 ++ dktX4_pairs_1
theorem dksX4_pairs_0 : cX4_pairs.data.toList.drop 0 = dktX4_pairs_0 := by decide +kernel
theorem dksX4_pairs_1 : cX4_pairs.data.toList.drop 22 = dktX4_pairs_1 := dk_seg dksX4_pairs_0 22 rfl rfl
theorem dksX4_pairs_2 : cX4_pairs.data.toList.drop 46 = dktX4_pairs_2 := dk_seg dksX4_pairs_1 24 rfl rfl
theorem dksX4_pairs_3 : cX4_pairs.data.toList.drop 70 = dktX4_pairs_3 := dk_seg dksX4_pairs_2 24 rfl rfl
theorem dksX4_pairs_4 : cX4_pairs.data.toList.drop 94 = dktX4_pairs_4 := dk_seg dksX4_pairs_3 24 rfl rfl
theorem dksX4_pairs_5 : cX4_pairs.data.toList.drop 116 = dktX4_pairs_5 := dk_seg dksX4_pairs_4 22 rfl rfl
theorem dksX4_pairs_6 : cX4_pairs.data.toList.drop 140 = dktX4_pairs_6 := dk_seg dksX4_pairs_5 24 rfl rfl
theorem dksX4_pairs_7 : cX4_pairs.data.toList.drop 164 = dktX4_pairs_7 := dk_seg dksX4_pairs_6 24 rfl rfl
theorem dksX4_pairs_8 : cX4_pairs.data.toList.drop 187 = dktX4_pairs_8 := dk_seg dksX4_pairs_7 23 rfl rfl
theorem dksX4_pairs_9 : cX4_pairs.data.toList.drop 210 = dktX4_pairs_9 := dk_seg dksX4_pairs_8 23 rfl rfl
theorem dksX4_pairs_10 : cX4_pairs.data.toList.drop 234 = dktX4_pairs_10 := dk_seg dksX4_pairs_9 24 rfl rfl
theorem dksX4_pairs_11 : cX4_pairs.data.toList.drop 257 = dktX4_pairs_11 := dk_seg dksX4_pairs_10 23 rfl rfl
theorem dX4_pairs_0 : decode cX4_pairs 0 = .ok (.aload_n 0, 1) := dk_42 (dk_at dksX4_pairs_0 0 rfl rfl)
theorem dX4_pairs_1 : decode cX4_pairs 1 = .ok (.iload_n 2, 1) := dk_28 (dk_at dksX4_pairs_0 1 rfl rfl)
theorem dX4_pairs_2 : decode cX4_pairs 2 = .ok (.invokevirtual 438, 3) := dk_182 1 182 (dk_at dksX4_pairs_0 2 rfl rfl)
theorem dX4_pairs_5 : decode cX4_pairs 5 = .ok (.ifCond .ne 5, 3) := dk_154 0 5 (dk_at dksX4_pairs_0 5 rfl rfl)
theorem dX4_pairs_8 : decode cX4_pairs 8 = .ok (.iconst 0, 1) := dk_3 (dk_at dksX4_pairs_0 8 rfl rfl)
theorem dX4_pairs_9 : decode cX4_pairs 9 = .ok (.ireturn, 1) := dk_172 (dk_at dksX4_pairs_0 9 rfl rfl)
theorem dX4_pairs_10 : decode cX4_pairs 10 = .ok (.aload_n 0, 1) := dk_42 (dk_at dksX4_pairs_0 10 rfl rfl)
theorem dX4_pairs_11 : decode cX4_pairs 11 = .ok (.iconst 0, 1) := dk_3 (dk_at dksX4_pairs_0 11 rfl rfl)
theorem dX4_pairs_12 : decode cX4_pairs 12 = .ok (.putfield 430, 3) := dk_181 1 174 (dk_at dksX4_pairs_0 12 rfl rfl)
theorem dX4_pairs_15 : decode cX4_pairs 15 = .ok (.iconst 0, 1) := dk_3 (dk_at dksX4_pairs_0 15 rfl rfl)
theorem dX4_pairs_16 : decode cX4_pairs 16 = .ok (.istore 6, 2) := dk_54 6 (dk_at dksX4_pairs_0 16 rfl rfl)
theorem dX4_pairs_18 : decode cX4_pairs 18 = .ok (.iload 6, 2) := dk_21 6 (dk_at dksX4_pairs_0 18 rfl rfl)
theorem dX4_pairs_20 : decode cX4_pairs 20 = .ok (.iload 5, 2) := dk_21 5 (dk_at dksX4_pairs_0 20 rfl rfl)
theorem dX4_pairs_22 : decode cX4_pairs 22 = .ok (.if_icmp .ge 66, 3) := dk_162 0 66 (dk_at dksX4_pairs_1 0 rfl rfl)
theorem dX4_pairs_25 : decode cX4_pairs 25 = .ok (.aload_n 0, 1) := dk_42 (dk_at dksX4_pairs_1 3 rfl rfl)
theorem dX4_pairs_26 : decode cX4_pairs 26 = .ok (.iload 6, 2) := dk_21 6 (dk_at dksX4_pairs_1 4 rfl rfl)
theorem dX4_pairs_28 : decode cX4_pairs 28 = .ok (.iload_n 1, 1) := dk_27 (dk_at dksX4_pairs_1 6 rfl rfl)
theorem dX4_pairs_29 : decode cX4_pairs 29 = .ok (.iload_n 2, 1) := dk_28 (dk_at dksX4_pairs_1 7 rfl rfl)
theorem dX4_pairs_30 : decode cX4_pairs 30 = .ok (.iload_n 3, 1) := dk_29 (dk_at dksX4_pairs_1 8 rfl rfl)
theorem dX4_pairs_31 : decode cX4_pairs 31 = .ok (.iload 4, 2) := dk_21 4 (dk_at dksX4_pairs_1 9 rfl rfl)
theorem dX4_pairs_33 : decode cX4_pairs 33 = .ok (.invokevirtual 419, 3) := dk_182 1 163 (dk_at dksX4_pairs_1 11 rfl rfl)
theorem dX4_pairs_36 : decode cX4_pairs 36 = .ok (.ifCond .eq 46, 3) := dk_153 0 46 (dk_at dksX4_pairs_1 14 rfl rfl)
theorem dX4_pairs_39 : decode cX4_pairs 39 = .ok (.aload_n 0, 1) := dk_42 (dk_at dksX4_pairs_1 17 rfl rfl)
theorem dX4_pairs_40 : decode cX4_pairs 40 = .ok (.getfield 76, 3) := dk_180 0 76 (dk_at dksX4_pairs_1 18 rfl rfl)
theorem dX4_pairs_43 : decode cX4_pairs 43 = .ok (.iload 6, 2) := dk_21 6 (dk_at dksX4_pairs_1 21 rfl rfl)
theorem dX4_pairs_45 : decode cX4_pairs 45 = .ok (.iaload, 1) := dk_46 (dk_at dksX4_pairs_1 23 rfl rfl)
theorem dX4_pairs_46 : decode cX4_pairs 46 = .ok (.iconst 1, 1) := dk_4 (dk_at dksX4_pairs_2 0 rfl rfl)
theorem dX4_pairs_47 : decode cX4_pairs 47 = .ok (.if_icmp .eq 6, 3) := dk_159 0 6 (dk_at dksX4_pairs_2 1 rfl rfl)
theorem dX4_pairs_50 : decode cX4_pairs 50 = .ok (.goto 32, 3) := dk_167 0 32 (dk_at dksX4_pairs_2 4 rfl rfl)
theorem dX4_pairs_53 : decode cX4_pairs 53 = .ok (.aload_n 0, 1) := dk_42 (dk_at dksX4_pairs_2 7 rfl rfl)
theorem dX4_pairs_54 : decode cX4_pairs 54 = .ok (.getfield 143, 3) := dk_180 0 143 (dk_at dksX4_pairs_2 8 rfl rfl)
theorem dX4_pairs_57 : decode cX4_pairs 57 = .ok (.aload_n 0, 1) := dk_42 (dk_at dksX4_pairs_2 11 rfl rfl)
theorem dX4_pairs_58 : decode cX4_pairs 58 = .ok (.getfield 430, 3) := dk_180 1 174 (dk_at dksX4_pairs_2 12 rfl rfl)
theorem dX4_pairs_61 : decode cX4_pairs 61 = .ok (.iload 6, 2) := dk_21 6 (dk_at dksX4_pairs_2 15 rfl rfl)
theorem dX4_pairs_63 : decode cX4_pairs 63 = .ok (.iastore, 1) := dk_79 (dk_at dksX4_pairs_2 17 rfl rfl)
theorem dX4_pairs_64 : decode cX4_pairs 64 = .ok (.aload_n 0, 1) := dk_42 (dk_at dksX4_pairs_2 18 rfl rfl)
theorem dX4_pairs_65 : decode cX4_pairs 65 = .ok (.getfield 140, 3) := dk_180 0 140 (dk_at dksX4_pairs_2 19 rfl rfl)
theorem dX4_pairs_68 : decode cX4_pairs 68 = .ok (.iload 6, 2) := dk_21 6 (dk_at dksX4_pairs_2 22 rfl rfl)
theorem dX4_pairs_70 : decode cX4_pairs 70 = .ok (.iconst (-1), 1) := dk_2 (dk_at dksX4_pairs_3 0 rfl rfl)
theorem dX4_pairs_71 : decode cX4_pairs 71 = .ok (.iastore, 1) := dk_79 (dk_at dksX4_pairs_3 1 rfl rfl)
theorem dX4_pairs_72 : decode cX4_pairs 72 = .ok (.aload_n 0, 1) := dk_42 (dk_at dksX4_pairs_3 2 rfl rfl)
theorem dX4_pairs_73 : decode cX4_pairs 73 = .ok (.dup, 1) := dk_89 (dk_at dksX4_pairs_3 3 rfl rfl)
theorem dX4_pairs_74 : decode cX4_pairs 74 = .ok (.getfield 430, 3) := dk_180 1 174 (dk_at dksX4_pairs_3 4 rfl rfl)
theorem dX4_pairs_77 : decode cX4_pairs 77 = .ok (.iconst 1, 1) := dk_4 (dk_at dksX4_pairs_3 7 rfl rfl)
theorem dX4_pairs_78 : decode cX4_pairs 78 = .ok (.iadd, 1) := dk_96 (dk_at dksX4_pairs_3 8 rfl rfl)
theorem dX4_pairs_79 : decode cX4_pairs 79 = .ok (.putfield 430, 3) := dk_181 1 174 (dk_at dksX4_pairs_3 9 rfl rfl)
theorem dX4_pairs_82 : decode cX4_pairs 82 = .ok (.iinc 6 1, 3) := dk_132 6 1 (dk_at dksX4_pairs_3 12 rfl rfl)
theorem dX4_pairs_85 : decode cX4_pairs 85 = .ok (.goto (-67), 3) := dk_167 255 189 (dk_at dksX4_pairs_3 15 rfl rfl)
theorem dX4_pairs_88 : decode cX4_pairs 88 = .ok (.iconst 0, 1) := dk_3 (dk_at dksX4_pairs_3 18 rfl rfl)
theorem dX4_pairs_89 : decode cX4_pairs 89 = .ok (.istore 6, 2) := dk_54 6 (dk_at dksX4_pairs_3 19 rfl rfl)
theorem dX4_pairs_91 : decode cX4_pairs 91 = .ok (.iconst 0, 1) := dk_3 (dk_at dksX4_pairs_3 21 rfl rfl)
theorem dX4_pairs_92 : decode cX4_pairs 92 = .ok (.istore 7, 2) := dk_54 7 (dk_at dksX4_pairs_3 22 rfl rfl)
theorem dX4_pairs_94 : decode cX4_pairs 94 = .ok (.iload 7, 2) := dk_21 7 (dk_at dksX4_pairs_4 0 rfl rfl)
theorem dX4_pairs_96 : decode cX4_pairs 96 = .ok (.iload 5, 2) := dk_21 5 (dk_at dksX4_pairs_4 2 rfl rfl)
theorem dX4_pairs_98 : decode cX4_pairs 98 = .ok (.if_icmp .ge 80, 3) := dk_162 0 80 (dk_at dksX4_pairs_4 4 rfl rfl)
theorem dX4_pairs_101 : decode cX4_pairs 101 = .ok (.aload_n 0, 1) := dk_42 (dk_at dksX4_pairs_4 7 rfl rfl)
theorem dX4_pairs_102 : decode cX4_pairs 102 = .ok (.iload 7, 2) := dk_21 7 (dk_at dksX4_pairs_4 8 rfl rfl)
theorem dX4_pairs_104 : decode cX4_pairs 104 = .ok (.iload_n 1, 1) := dk_27 (dk_at dksX4_pairs_4 10 rfl rfl)
theorem dX4_pairs_105 : decode cX4_pairs 105 = .ok (.iload_n 2, 1) := dk_28 (dk_at dksX4_pairs_4 11 rfl rfl)
theorem dX4_pairs_106 : decode cX4_pairs 106 = .ok (.iload_n 3, 1) := dk_29 (dk_at dksX4_pairs_4 12 rfl rfl)
theorem dX4_pairs_107 : decode cX4_pairs 107 = .ok (.iload 4, 2) := dk_21 4 (dk_at dksX4_pairs_4 13 rfl rfl)
theorem dX4_pairs_109 : decode cX4_pairs 109 = .ok (.invokevirtual 419, 3) := dk_182 1 163 (dk_at dksX4_pairs_4 15 rfl rfl)
theorem dX4_pairs_112 : decode cX4_pairs 112 = .ok (.ifCond .eq 60, 3) := dk_153 0 60 (dk_at dksX4_pairs_4 18 rfl rfl)
theorem dX4_pairs_115 : decode cX4_pairs 115 = .ok (.aload_n 0, 1) := dk_42 (dk_at dksX4_pairs_4 21 rfl rfl)
theorem dX4_pairs_116 : decode cX4_pairs 116 = .ok (.getfield 76, 3) := dk_180 0 76 (dk_at dksX4_pairs_5 0 rfl rfl)
theorem dX4_pairs_119 : decode cX4_pairs 119 = .ok (.iload 7, 2) := dk_21 7 (dk_at dksX4_pairs_5 3 rfl rfl)
theorem dX4_pairs_121 : decode cX4_pairs 121 = .ok (.iaload, 1) := dk_46 (dk_at dksX4_pairs_5 5 rfl rfl)
theorem dX4_pairs_122 : decode cX4_pairs 122 = .ok (.ifCond .eq 6, 3) := dk_153 0 6 (dk_at dksX4_pairs_5 6 rfl rfl)
theorem dX4_pairs_125 : decode cX4_pairs 125 = .ok (.goto 47, 3) := dk_167 0 47 (dk_at dksX4_pairs_5 9 rfl rfl)
theorem dX4_pairs_128 : decode cX4_pairs 128 = .ok (.iconst 0, 1) := dk_3 (dk_at dksX4_pairs_5 12 rfl rfl)
theorem dX4_pairs_129 : decode cX4_pairs 129 = .ok (.istore 8, 2) := dk_54 8 (dk_at dksX4_pairs_5 13 rfl rfl)
theorem dX4_pairs_131 : decode cX4_pairs 131 = .ok (.iload 8, 2) := dk_21 8 (dk_at dksX4_pairs_5 15 rfl rfl)
theorem dX4_pairs_133 : decode cX4_pairs 133 = .ok (.sipush 200, 3) := dk_17 0 200 (dk_at dksX4_pairs_5 17 rfl rfl)
theorem dX4_pairs_136 : decode cX4_pairs 136 = .ok (.if_icmp .ge 17, 3) := dk_162 0 17 (dk_at dksX4_pairs_5 20 rfl rfl)
theorem dX4_pairs_139 : decode cX4_pairs 139 = .ok (.aload_n 0, 1) := dk_42 (dk_at dksX4_pairs_5 23 rfl rfl)
theorem dX4_pairs_140 : decode cX4_pairs 140 = .ok (.getfield 146, 3) := dk_180 0 146 (dk_at dksX4_pairs_6 0 rfl rfl)
theorem dX4_pairs_143 : decode cX4_pairs 143 = .ok (.iload 8, 2) := dk_21 8 (dk_at dksX4_pairs_6 3 rfl rfl)
theorem dX4_pairs_145 : decode cX4_pairs 145 = .ok (.iconst 0, 1) := dk_3 (dk_at dksX4_pairs_6 5 rfl rfl)
theorem dX4_pairs_146 : decode cX4_pairs 146 = .ok (.bastore, 1) := dk_84 (dk_at dksX4_pairs_6 6 rfl rfl)
theorem dX4_pairs_147 : decode cX4_pairs 147 = .ok (.iinc 8 1, 3) := dk_132 8 1 (dk_at dksX4_pairs_6 7 rfl rfl)
theorem dX4_pairs_150 : decode cX4_pairs 150 = .ok (.goto (-19), 3) := dk_167 255 237 (dk_at dksX4_pairs_6 10 rfl rfl)
theorem dX4_pairs_153 : decode cX4_pairs 153 = .ok (.iload 6, 2) := dk_21 6 (dk_at dksX4_pairs_6 13 rfl rfl)
theorem dX4_pairs_155 : decode cX4_pairs 155 = .ok (.aload_n 0, 1) := dk_42 (dk_at dksX4_pairs_6 15 rfl rfl)
theorem dX4_pairs_156 : decode cX4_pairs 156 = .ok (.iload 7, 2) := dk_21 7 (dk_at dksX4_pairs_6 16 rfl rfl)
theorem dX4_pairs_158 : decode cX4_pairs 158 = .ok (.invokevirtual 435, 3) := dk_182 1 179 (dk_at dksX4_pairs_6 18 rfl rfl)
theorem dX4_pairs_161 : decode cX4_pairs 161 = .ok (.ifCond .eq 7, 3) := dk_153 0 7 (dk_at dksX4_pairs_6 21 rfl rfl)
theorem dX4_pairs_164 : decode cX4_pairs 164 = .ok (.iconst 1, 1) := dk_4 (dk_at dksX4_pairs_7 0 rfl rfl)
theorem dX4_pairs_165 : decode cX4_pairs 165 = .ok (.goto 4, 3) := dk_167 0 4 (dk_at dksX4_pairs_7 1 rfl rfl)
theorem dX4_pairs_168 : decode cX4_pairs 168 = .ok (.iconst 0, 1) := dk_3 (dk_at dksX4_pairs_7 4 rfl rfl)
theorem dX4_pairs_169 : decode cX4_pairs 169 = .ok (.iadd, 1) := dk_96 (dk_at dksX4_pairs_7 5 rfl rfl)
theorem dX4_pairs_170 : decode cX4_pairs 170 = .ok (.istore 6, 2) := dk_54 6 (dk_at dksX4_pairs_7 6 rfl rfl)
theorem dX4_pairs_172 : decode cX4_pairs 172 = .ok (.iinc 7 1, 3) := dk_132 7 1 (dk_at dksX4_pairs_7 8 rfl rfl)
theorem dX4_pairs_175 : decode cX4_pairs 175 = .ok (.goto (-81), 3) := dk_167 255 175 (dk_at dksX4_pairs_7 11 rfl rfl)
theorem dX4_pairs_178 : decode cX4_pairs 178 = .ok (.iconst 0, 1) := dk_3 (dk_at dksX4_pairs_7 14 rfl rfl)
theorem dX4_pairs_179 : decode cX4_pairs 179 = .ok (.istore 7, 2) := dk_54 7 (dk_at dksX4_pairs_7 15 rfl rfl)
theorem dX4_pairs_181 : decode cX4_pairs 181 = .ok (.iload 7, 2) := dk_21 7 (dk_at dksX4_pairs_7 17 rfl rfl)
theorem dX4_pairs_183 : decode cX4_pairs 183 = .ok (.aload_n 0, 1) := dk_42 (dk_at dksX4_pairs_7 19 rfl rfl)
theorem dX4_pairs_184 : decode cX4_pairs 184 = .ok (.getfield 430, 3) := dk_180 1 174 (dk_at dksX4_pairs_7 20 rfl rfl)
theorem dX4_pairs_187 : decode cX4_pairs 187 = .ok (.if_icmp .ge 76, 3) := dk_162 0 76 (dk_at dksX4_pairs_8 0 rfl rfl)
theorem dX4_pairs_190 : decode cX4_pairs 190 = .ok (.aload_n 0, 1) := dk_42 (dk_at dksX4_pairs_8 3 rfl rfl)
theorem dX4_pairs_191 : decode cX4_pairs 191 = .ok (.getfield 140, 3) := dk_180 0 140 (dk_at dksX4_pairs_8 4 rfl rfl)
theorem dX4_pairs_194 : decode cX4_pairs 194 = .ok (.aload_n 0, 1) := dk_42 (dk_at dksX4_pairs_8 7 rfl rfl)
theorem dX4_pairs_195 : decode cX4_pairs 195 = .ok (.getfield 143, 3) := dk_180 0 143 (dk_at dksX4_pairs_8 8 rfl rfl)
theorem dX4_pairs_198 : decode cX4_pairs 198 = .ok (.iload 7, 2) := dk_21 7 (dk_at dksX4_pairs_8 11 rfl rfl)
theorem dX4_pairs_200 : decode cX4_pairs 200 = .ok (.iaload, 1) := dk_46 (dk_at dksX4_pairs_8 13 rfl rfl)
theorem dX4_pairs_201 : decode cX4_pairs 201 = .ok (.iaload, 1) := dk_46 (dk_at dksX4_pairs_8 14 rfl rfl)
theorem dX4_pairs_202 : decode cX4_pairs 202 = .ok (.iconst (-1), 1) := dk_2 (dk_at dksX4_pairs_8 15 rfl rfl)
theorem dX4_pairs_203 : decode cX4_pairs 203 = .ok (.if_icmp .ne 6, 3) := dk_160 0 6 (dk_at dksX4_pairs_8 16 rfl rfl)
theorem dX4_pairs_206 : decode cX4_pairs 206 = .ok (.goto 51, 3) := dk_167 0 51 (dk_at dksX4_pairs_8 19 rfl rfl)
theorem dX4_pairs_209 : decode cX4_pairs 209 = .ok (.aload_n 0, 1) := dk_42 (dk_at dksX4_pairs_8 22 rfl rfl)
theorem dX4_pairs_210 : decode cX4_pairs 210 = .ok (.getfield 137, 3) := dk_180 0 137 (dk_at dksX4_pairs_9 0 rfl rfl)
theorem dX4_pairs_213 : decode cX4_pairs 213 = .ok (.aload_n 0, 1) := dk_42 (dk_at dksX4_pairs_9 3 rfl rfl)
theorem dX4_pairs_214 : decode cX4_pairs 214 = .ok (.getfield 143, 3) := dk_180 0 143 (dk_at dksX4_pairs_9 4 rfl rfl)
theorem dX4_pairs_217 : decode cX4_pairs 217 = .ok (.iload 7, 2) := dk_21 7 (dk_at dksX4_pairs_9 7 rfl rfl)
theorem dX4_pairs_219 : decode cX4_pairs 219 = .ok (.iaload, 1) := dk_46 (dk_at dksX4_pairs_9 9 rfl rfl)
theorem dX4_pairs_220 : decode cX4_pairs 220 = .ok (.aload_n 0, 1) := dk_42 (dk_at dksX4_pairs_9 10 rfl rfl)
theorem dX4_pairs_221 : decode cX4_pairs 221 = .ok (.getfield 140, 3) := dk_180 0 140 (dk_at dksX4_pairs_9 11 rfl rfl)
theorem dX4_pairs_224 : decode cX4_pairs 224 = .ok (.aload_n 0, 1) := dk_42 (dk_at dksX4_pairs_9 14 rfl rfl)
theorem dX4_pairs_225 : decode cX4_pairs 225 = .ok (.getfield 143, 3) := dk_180 0 143 (dk_at dksX4_pairs_9 15 rfl rfl)
theorem dX4_pairs_228 : decode cX4_pairs 228 = .ok (.iload 7, 2) := dk_21 7 (dk_at dksX4_pairs_9 18 rfl rfl)
theorem dX4_pairs_230 : decode cX4_pairs 230 = .ok (.iaload, 1) := dk_46 (dk_at dksX4_pairs_9 20 rfl rfl)
theorem dX4_pairs_231 : decode cX4_pairs 231 = .ok (.iaload, 1) := dk_46 (dk_at dksX4_pairs_9 21 rfl rfl)
theorem dX4_pairs_232 : decode cX4_pairs 232 = .ok (.iastore, 1) := dk_79 (dk_at dksX4_pairs_9 22 rfl rfl)
theorem dX4_pairs_233 : decode cX4_pairs 233 = .ok (.aload_n 0, 1) := dk_42 (dk_at dksX4_pairs_9 23 rfl rfl)
theorem dX4_pairs_234 : decode cX4_pairs 234 = .ok (.getfield 137, 3) := dk_180 0 137 (dk_at dksX4_pairs_10 0 rfl rfl)
theorem dX4_pairs_237 : decode cX4_pairs 237 = .ok (.aload_n 0, 1) := dk_42 (dk_at dksX4_pairs_10 3 rfl rfl)
theorem dX4_pairs_238 : decode cX4_pairs 238 = .ok (.getfield 140, 3) := dk_180 0 140 (dk_at dksX4_pairs_10 4 rfl rfl)
theorem dX4_pairs_241 : decode cX4_pairs 241 = .ok (.aload_n 0, 1) := dk_42 (dk_at dksX4_pairs_10 7 rfl rfl)
theorem dX4_pairs_242 : decode cX4_pairs 242 = .ok (.getfield 143, 3) := dk_180 0 143 (dk_at dksX4_pairs_10 8 rfl rfl)
theorem dX4_pairs_245 : decode cX4_pairs 245 = .ok (.iload 7, 2) := dk_21 7 (dk_at dksX4_pairs_10 11 rfl rfl)
theorem dX4_pairs_247 : decode cX4_pairs 247 = .ok (.iaload, 1) := dk_46 (dk_at dksX4_pairs_10 13 rfl rfl)
theorem dX4_pairs_248 : decode cX4_pairs 248 = .ok (.iaload, 1) := dk_46 (dk_at dksX4_pairs_10 14 rfl rfl)
theorem dX4_pairs_249 : decode cX4_pairs 249 = .ok (.aload_n 0, 1) := dk_42 (dk_at dksX4_pairs_10 15 rfl rfl)
theorem dX4_pairs_250 : decode cX4_pairs 250 = .ok (.getfield 143, 3) := dk_180 0 143 (dk_at dksX4_pairs_10 16 rfl rfl)
theorem dX4_pairs_253 : decode cX4_pairs 253 = .ok (.iload 7, 2) := dk_21 7 (dk_at dksX4_pairs_10 19 rfl rfl)
theorem dX4_pairs_255 : decode cX4_pairs 255 = .ok (.iaload, 1) := dk_46 (dk_at dksX4_pairs_10 21 rfl rfl)
theorem dX4_pairs_256 : decode cX4_pairs 256 = .ok (.iastore, 1) := dk_79 (dk_at dksX4_pairs_10 22 rfl rfl)
theorem dX4_pairs_257 : decode cX4_pairs 257 = .ok (.iinc 7 1, 3) := dk_132 7 1 (dk_at dksX4_pairs_11 0 rfl rfl)
theorem dX4_pairs_260 : decode cX4_pairs 260 = .ok (.goto (-79), 3) := dk_167 255 177 (dk_at dksX4_pairs_11 3 rfl rfl)
theorem dX4_pairs_263 : decode cX4_pairs 263 = .ok (.iload 6, 2) := dk_21 6 (dk_at dksX4_pairs_11 6 rfl rfl)
theorem dX4_pairs_265 : decode cX4_pairs 265 = .ok (.ireturn, 1) := dk_172 (dk_at dksX4_pairs_11 8 rfl rfl)
abbrev cX4_isOf : ByteArray := prog_20_method_59_code
def yX4_isOf : MethodName := ⟨RX4, "isOf", "(IIIII)Z"⟩
def dkwX4_isOf_1 : List UInt8 := [42, 180, 0, 67, 27, 46, 122, 4, 126, 4, 160, 0, 7, 4, 167, 0, 4, 3, 172]
abbrev dktX4_isOf_1 : List UInt8 := dkwX4_isOf_1 ++ []
def dkwX4_isOf_0 : List UInt8 := [42, 180, 0, 94, 17, 0, 200, 21, 5, 104, 27, 96, 46, 16, 100, 28, 104, 29, 96, 160, 0, 22, 21, 4]
abbrev dktX4_isOf_0 : List UInt8 := dkwX4_isOf_0 ++ dktX4_isOf_1
theorem dksX4_isOf_0 : cX4_isOf.data.toList.drop 0 = dktX4_isOf_0 := by decide +kernel
theorem dksX4_isOf_1 : cX4_isOf.data.toList.drop 24 = dktX4_isOf_1 := dk_seg dksX4_isOf_0 24 rfl rfl
theorem dX4_isOf_0 : decode cX4_isOf 0 = .ok (.aload_n 0, 1) := dk_42 (dk_at dksX4_isOf_0 0 rfl rfl)
theorem dX4_isOf_1 : decode cX4_isOf 1 = .ok (.getfield 94, 3) := dk_180 0 94 (dk_at dksX4_isOf_0 1 rfl rfl)
theorem dX4_isOf_4 : decode cX4_isOf 4 = .ok (.sipush 200, 3) := dk_17 0 200 (dk_at dksX4_isOf_0 4 rfl rfl)
theorem dX4_isOf_7 : decode cX4_isOf 7 = .ok (.iload 5, 2) := dk_21 5 (dk_at dksX4_isOf_0 7 rfl rfl)
theorem dX4_isOf_9 : decode cX4_isOf 9 = .ok (.imul, 1) := dk_104 (dk_at dksX4_isOf_0 9 rfl rfl)
theorem dX4_isOf_10 : decode cX4_isOf 10 = .ok (.iload_n 1, 1) := dk_27 (dk_at dksX4_isOf_0 10 rfl rfl)
theorem dX4_isOf_11 : decode cX4_isOf 11 = .ok (.iadd, 1) := dk_96 (dk_at dksX4_isOf_0 11 rfl rfl)
theorem dX4_isOf_12 : decode cX4_isOf 12 = .ok (.iaload, 1) := dk_46 (dk_at dksX4_isOf_0 12 rfl rfl)
theorem dX4_isOf_13 : decode cX4_isOf 13 = .ok (.bipush 100, 2) := dk_16 100 (dk_at dksX4_isOf_0 13 rfl rfl)
theorem dX4_isOf_15 : decode cX4_isOf 15 = .ok (.iload_n 2, 1) := dk_28 (dk_at dksX4_isOf_0 15 rfl rfl)
theorem dX4_isOf_16 : decode cX4_isOf 16 = .ok (.imul, 1) := dk_104 (dk_at dksX4_isOf_0 16 rfl rfl)
theorem dX4_isOf_17 : decode cX4_isOf 17 = .ok (.iload_n 3, 1) := dk_29 (dk_at dksX4_isOf_0 17 rfl rfl)
theorem dX4_isOf_18 : decode cX4_isOf 18 = .ok (.iadd, 1) := dk_96 (dk_at dksX4_isOf_0 18 rfl rfl)
theorem dX4_isOf_19 : decode cX4_isOf 19 = .ok (.if_icmp .ne 22, 3) := dk_160 0 22 (dk_at dksX4_isOf_0 19 rfl rfl)
theorem dX4_isOf_22 : decode cX4_isOf 22 = .ok (.iload 4, 2) := dk_21 4 (dk_at dksX4_isOf_0 22 rfl rfl)
theorem dX4_isOf_24 : decode cX4_isOf 24 = .ok (.aload_n 0, 1) := dk_42 (dk_at dksX4_isOf_1 0 rfl rfl)
theorem dX4_isOf_25 : decode cX4_isOf 25 = .ok (.getfield 67, 3) := dk_180 0 67 (dk_at dksX4_isOf_1 1 rfl rfl)
theorem dX4_isOf_28 : decode cX4_isOf 28 = .ok (.iload_n 1, 1) := dk_27 (dk_at dksX4_isOf_1 4 rfl rfl)
theorem dX4_isOf_29 : decode cX4_isOf 29 = .ok (.iaload, 1) := dk_46 (dk_at dksX4_isOf_1 5 rfl rfl)
theorem dX4_isOf_30 : decode cX4_isOf 30 = .ok (.ishr, 1) := dk_122 (dk_at dksX4_isOf_1 6 rfl rfl)
theorem dX4_isOf_31 : decode cX4_isOf 31 = .ok (.iconst 1, 1) := dk_4 (dk_at dksX4_isOf_1 7 rfl rfl)
theorem dX4_isOf_32 : decode cX4_isOf 32 = .ok (.iand, 1) := dk_126 (dk_at dksX4_isOf_1 8 rfl rfl)
theorem dX4_isOf_33 : decode cX4_isOf 33 = .ok (.iconst 1, 1) := dk_4 (dk_at dksX4_isOf_1 9 rfl rfl)
theorem dX4_isOf_34 : decode cX4_isOf 34 = .ok (.if_icmp .ne 7, 3) := dk_160 0 7 (dk_at dksX4_isOf_1 10 rfl rfl)
theorem dX4_isOf_37 : decode cX4_isOf 37 = .ok (.iconst 1, 1) := dk_4 (dk_at dksX4_isOf_1 13 rfl rfl)
theorem dX4_isOf_38 : decode cX4_isOf 38 = .ok (.goto 4, 3) := dk_167 0 4 (dk_at dksX4_isOf_1 14 rfl rfl)
theorem dX4_isOf_41 : decode cX4_isOf 41 = .ok (.iconst 0, 1) := dk_3 (dk_at dksX4_isOf_1 17 rfl rfl)
theorem dX4_isOf_42 : decode cX4_isOf 42 = .ok (.ireturn, 1) := dk_172 (dk_at dksX4_isOf_1 18 rfl rfl)
abbrev cX4_takes : ByteArray := prog_20_method_63_code
def yX4_takes : MethodName := ⟨RX4, "takes", "(I)Z"⟩
def dkwX4_takes_3 : List UInt8 := [167, 0, 12, 42, 180, 0, 140, 29, 27, 79, 4, 172, 132, 2, 1, 167, 255, 175, 3, 172]
abbrev dktX4_takes_3 : List UInt8 := dkwX4_takes_3 ++ []
def dkwX4_takes_2 : List UInt8 := [180, 0, 140, 29, 46, 2, 159, 0, 19, 42, 42, 180, 0, 140, 29, 46, 182, 1, 179, 154, 0, 6]
abbrev dktX4_takes_2 : List UInt8 := dkwX4_takes_2 ++ dktX4_takes_3
def dkwX4_takes_1 : List UInt8 := [154, 0, 57, 42, 27, 29, 182, 1, 177, 154, 0, 6, 167, 0, 45, 42, 180, 0, 146, 29, 4, 84, 42]
abbrev dktX4_takes_1 : List UInt8 := dkwX4_takes_1 ++ dktX4_takes_2
def dkwX4_takes_0 : List UInt8 := [3, 61, 28, 42, 180, 1, 174, 162, 0, 79, 42, 180, 0, 143, 28, 46, 62, 42, 180, 0, 146, 29, 51]
abbrev dktX4_takes_0 : List UInt8 := dkwX4_takes_0 ++ dktX4_takes_1
theorem dksX4_takes_0 : cX4_takes.data.toList.drop 0 = dktX4_takes_0 := by decide +kernel
theorem dksX4_takes_1 : cX4_takes.data.toList.drop 23 = dktX4_takes_1 := dk_seg dksX4_takes_0 23 rfl rfl
theorem dksX4_takes_2 : cX4_takes.data.toList.drop 46 = dktX4_takes_2 := dk_seg dksX4_takes_1 23 rfl rfl
theorem dksX4_takes_3 : cX4_takes.data.toList.drop 68 = dktX4_takes_3 := dk_seg dksX4_takes_2 22 rfl rfl
theorem dX4_takes_0 : decode cX4_takes 0 = .ok (.iconst 0, 1) := dk_3 (dk_at dksX4_takes_0 0 rfl rfl)
theorem dX4_takes_1 : decode cX4_takes 1 = .ok (.istore_n 2, 1) := dk_61 (dk_at dksX4_takes_0 1 rfl rfl)
theorem dX4_takes_2 : decode cX4_takes 2 = .ok (.iload_n 2, 1) := dk_28 (dk_at dksX4_takes_0 2 rfl rfl)
theorem dX4_takes_3 : decode cX4_takes 3 = .ok (.aload_n 0, 1) := dk_42 (dk_at dksX4_takes_0 3 rfl rfl)
theorem dX4_takes_4 : decode cX4_takes 4 = .ok (.getfield 430, 3) := dk_180 1 174 (dk_at dksX4_takes_0 4 rfl rfl)
theorem dX4_takes_7 : decode cX4_takes 7 = .ok (.if_icmp .ge 79, 3) := dk_162 0 79 (dk_at dksX4_takes_0 7 rfl rfl)
theorem dX4_takes_10 : decode cX4_takes 10 = .ok (.aload_n 0, 1) := dk_42 (dk_at dksX4_takes_0 10 rfl rfl)
theorem dX4_takes_11 : decode cX4_takes 11 = .ok (.getfield 143, 3) := dk_180 0 143 (dk_at dksX4_takes_0 11 rfl rfl)
theorem dX4_takes_14 : decode cX4_takes 14 = .ok (.iload_n 2, 1) := dk_28 (dk_at dksX4_takes_0 14 rfl rfl)
theorem dX4_takes_15 : decode cX4_takes 15 = .ok (.iaload, 1) := dk_46 (dk_at dksX4_takes_0 15 rfl rfl)
theorem dX4_takes_16 : decode cX4_takes 16 = .ok (.istore_n 3, 1) := dk_62 (dk_at dksX4_takes_0 16 rfl rfl)
theorem dX4_takes_17 : decode cX4_takes 17 = .ok (.aload_n 0, 1) := dk_42 (dk_at dksX4_takes_0 17 rfl rfl)
theorem dX4_takes_18 : decode cX4_takes 18 = .ok (.getfield 146, 3) := dk_180 0 146 (dk_at dksX4_takes_0 18 rfl rfl)
theorem dX4_takes_21 : decode cX4_takes 21 = .ok (.iload_n 3, 1) := dk_29 (dk_at dksX4_takes_0 21 rfl rfl)
theorem dX4_takes_22 : decode cX4_takes 22 = .ok (.baload, 1) := dk_51 (dk_at dksX4_takes_0 22 rfl rfl)
theorem dX4_takes_23 : decode cX4_takes 23 = .ok (.ifCond .ne 57, 3) := dk_154 0 57 (dk_at dksX4_takes_1 0 rfl rfl)
theorem dX4_takes_26 : decode cX4_takes 26 = .ok (.aload_n 0, 1) := dk_42 (dk_at dksX4_takes_1 3 rfl rfl)
theorem dX4_takes_27 : decode cX4_takes 27 = .ok (.iload_n 1, 1) := dk_27 (dk_at dksX4_takes_1 4 rfl rfl)
theorem dX4_takes_28 : decode cX4_takes 28 = .ok (.iload_n 3, 1) := dk_29 (dk_at dksX4_takes_1 5 rfl rfl)
theorem dX4_takes_29 : decode cX4_takes 29 = .ok (.invokevirtual 433, 3) := dk_182 1 177 (dk_at dksX4_takes_1 6 rfl rfl)
theorem dX4_takes_32 : decode cX4_takes 32 = .ok (.ifCond .ne 6, 3) := dk_154 0 6 (dk_at dksX4_takes_1 9 rfl rfl)
theorem dX4_takes_35 : decode cX4_takes 35 = .ok (.goto 45, 3) := dk_167 0 45 (dk_at dksX4_takes_1 12 rfl rfl)
theorem dX4_takes_38 : decode cX4_takes 38 = .ok (.aload_n 0, 1) := dk_42 (dk_at dksX4_takes_1 15 rfl rfl)
theorem dX4_takes_39 : decode cX4_takes 39 = .ok (.getfield 146, 3) := dk_180 0 146 (dk_at dksX4_takes_1 16 rfl rfl)
theorem dX4_takes_42 : decode cX4_takes 42 = .ok (.iload_n 3, 1) := dk_29 (dk_at dksX4_takes_1 19 rfl rfl)
theorem dX4_takes_43 : decode cX4_takes 43 = .ok (.iconst 1, 1) := dk_4 (dk_at dksX4_takes_1 20 rfl rfl)
theorem dX4_takes_44 : decode cX4_takes 44 = .ok (.bastore, 1) := dk_84 (dk_at dksX4_takes_1 21 rfl rfl)
theorem dX4_takes_45 : decode cX4_takes 45 = .ok (.aload_n 0, 1) := dk_42 (dk_at dksX4_takes_1 22 rfl rfl)
theorem dX4_takes_46 : decode cX4_takes 46 = .ok (.getfield 140, 3) := dk_180 0 140 (dk_at dksX4_takes_2 0 rfl rfl)
theorem dX4_takes_49 : decode cX4_takes 49 = .ok (.iload_n 3, 1) := dk_29 (dk_at dksX4_takes_2 3 rfl rfl)
theorem dX4_takes_50 : decode cX4_takes 50 = .ok (.iaload, 1) := dk_46 (dk_at dksX4_takes_2 4 rfl rfl)
theorem dX4_takes_51 : decode cX4_takes 51 = .ok (.iconst (-1), 1) := dk_2 (dk_at dksX4_takes_2 5 rfl rfl)
theorem dX4_takes_52 : decode cX4_takes 52 = .ok (.if_icmp .eq 19, 3) := dk_159 0 19 (dk_at dksX4_takes_2 6 rfl rfl)
theorem dX4_takes_55 : decode cX4_takes 55 = .ok (.aload_n 0, 1) := dk_42 (dk_at dksX4_takes_2 9 rfl rfl)
theorem dX4_takes_56 : decode cX4_takes 56 = .ok (.aload_n 0, 1) := dk_42 (dk_at dksX4_takes_2 10 rfl rfl)
theorem dX4_takes_57 : decode cX4_takes 57 = .ok (.getfield 140, 3) := dk_180 0 140 (dk_at dksX4_takes_2 11 rfl rfl)
theorem dX4_takes_60 : decode cX4_takes 60 = .ok (.iload_n 3, 1) := dk_29 (dk_at dksX4_takes_2 14 rfl rfl)
theorem dX4_takes_61 : decode cX4_takes 61 = .ok (.iaload, 1) := dk_46 (dk_at dksX4_takes_2 15 rfl rfl)
theorem dX4_takes_62 : decode cX4_takes 62 = .ok (.invokevirtual 435, 3) := dk_182 1 179 (dk_at dksX4_takes_2 16 rfl rfl)
theorem dX4_takes_65 : decode cX4_takes 65 = .ok (.ifCond .ne 6, 3) := dk_154 0 6 (dk_at dksX4_takes_2 19 rfl rfl)
theorem dX4_takes_68 : decode cX4_takes 68 = .ok (.goto 12, 3) := dk_167 0 12 (dk_at dksX4_takes_3 0 rfl rfl)
theorem dX4_takes_71 : decode cX4_takes 71 = .ok (.aload_n 0, 1) := dk_42 (dk_at dksX4_takes_3 3 rfl rfl)
theorem dX4_takes_72 : decode cX4_takes 72 = .ok (.getfield 140, 3) := dk_180 0 140 (dk_at dksX4_takes_3 4 rfl rfl)
theorem dX4_takes_75 : decode cX4_takes 75 = .ok (.iload_n 3, 1) := dk_29 (dk_at dksX4_takes_3 7 rfl rfl)
theorem dX4_takes_76 : decode cX4_takes 76 = .ok (.iload_n 1, 1) := dk_27 (dk_at dksX4_takes_3 8 rfl rfl)
theorem dX4_takes_77 : decode cX4_takes 77 = .ok (.iastore, 1) := dk_79 (dk_at dksX4_takes_3 9 rfl rfl)
theorem dX4_takes_78 : decode cX4_takes 78 = .ok (.iconst 1, 1) := dk_4 (dk_at dksX4_takes_3 10 rfl rfl)
theorem dX4_takes_79 : decode cX4_takes 79 = .ok (.ireturn, 1) := dk_172 (dk_at dksX4_takes_3 11 rfl rfl)
theorem dX4_takes_80 : decode cX4_takes 80 = .ok (.iinc 2 1, 3) := dk_132 2 1 (dk_at dksX4_takes_3 12 rfl rfl)
theorem dX4_takes_83 : decode cX4_takes 83 = .ok (.goto (-81), 3) := dk_167 255 175 (dk_at dksX4_takes_3 15 rfl rfl)
theorem dX4_takes_86 : decode cX4_takes 86 = .ok (.iconst 0, 1) := dk_3 (dk_at dksX4_takes_3 18 rfl rfl)
theorem dX4_takes_87 : decode cX4_takes 87 = .ok (.ireturn, 1) := dk_172 (dk_at dksX4_takes_3 19 rfl rfl)
abbrev cX4_go : ByteArray := prog_20_method_62_code
def yX4_go : MethodName := ⟨RX4, "go", "(II)Z"⟩
def dkwX4_go_2 : List UInt8 := [159, 0, 18, 42, 180, 0, 79, 27, 46, 42, 180, 0, 79, 28, 46, 160, 0, 7, 4, 167, 0, 4, 3, 172]
abbrev dktX4_go_2 : List UInt8 := dkwX4_go_2 ++ []
def dkwX4_go_1 : List UInt8 := [180, 0, 23, 163, 0, 42, 42, 180, 0, 79, 27, 46, 5, 159, 0, 28, 42, 180, 0, 79, 28, 46, 5]
abbrev dktX4_go_1 : List UInt8 := dkwX4_go_1 ++ dktX4_go_2
def dkwX4_go_0 : List UInt8 := [42, 180, 0, 70, 16, 6, 27, 104, 46, 42, 180, 0, 70, 16, 6, 28, 104, 46, 100, 184, 1, 171, 42]
abbrev dktX4_go_0 : List UInt8 := dkwX4_go_0 ++ dktX4_go_1
theorem dksX4_go_0 : cX4_go.data.toList.drop 0 = dktX4_go_0 := by decide +kernel
theorem dksX4_go_1 : cX4_go.data.toList.drop 23 = dktX4_go_1 := dk_seg dksX4_go_0 23 rfl rfl
theorem dksX4_go_2 : cX4_go.data.toList.drop 46 = dktX4_go_2 := dk_seg dksX4_go_1 23 rfl rfl
theorem dX4_go_0 : decode cX4_go 0 = .ok (.aload_n 0, 1) := dk_42 (dk_at dksX4_go_0 0 rfl rfl)
theorem dX4_go_1 : decode cX4_go 1 = .ok (.getfield 70, 3) := dk_180 0 70 (dk_at dksX4_go_0 1 rfl rfl)
theorem dX4_go_4 : decode cX4_go 4 = .ok (.bipush 6, 2) := dk_16 6 (dk_at dksX4_go_0 4 rfl rfl)
theorem dX4_go_6 : decode cX4_go 6 = .ok (.iload_n 1, 1) := dk_27 (dk_at dksX4_go_0 6 rfl rfl)
theorem dX4_go_7 : decode cX4_go 7 = .ok (.imul, 1) := dk_104 (dk_at dksX4_go_0 7 rfl rfl)
theorem dX4_go_8 : decode cX4_go 8 = .ok (.iaload, 1) := dk_46 (dk_at dksX4_go_0 8 rfl rfl)
theorem dX4_go_9 : decode cX4_go 9 = .ok (.aload_n 0, 1) := dk_42 (dk_at dksX4_go_0 9 rfl rfl)
theorem dX4_go_10 : decode cX4_go 10 = .ok (.getfield 70, 3) := dk_180 0 70 (dk_at dksX4_go_0 10 rfl rfl)
theorem dX4_go_13 : decode cX4_go 13 = .ok (.bipush 6, 2) := dk_16 6 (dk_at dksX4_go_0 13 rfl rfl)
theorem dX4_go_15 : decode cX4_go 15 = .ok (.iload_n 2, 1) := dk_28 (dk_at dksX4_go_0 15 rfl rfl)
theorem dX4_go_16 : decode cX4_go 16 = .ok (.imul, 1) := dk_104 (dk_at dksX4_go_0 16 rfl rfl)
theorem dX4_go_17 : decode cX4_go 17 = .ok (.iaload, 1) := dk_46 (dk_at dksX4_go_0 17 rfl rfl)
theorem dX4_go_18 : decode cX4_go 18 = .ok (.isub, 1) := dk_100 (dk_at dksX4_go_0 18 rfl rfl)
theorem dX4_go_19 : decode cX4_go 19 = .ok (.invokestatic 427, 3) := dk_184 1 171 (dk_at dksX4_go_0 19 rfl rfl)
theorem dX4_go_22 : decode cX4_go 22 = .ok (.aload_n 0, 1) := dk_42 (dk_at dksX4_go_0 22 rfl rfl)
theorem dX4_go_23 : decode cX4_go 23 = .ok (.getfield 23, 3) := dk_180 0 23 (dk_at dksX4_go_1 0 rfl rfl)
theorem dX4_go_26 : decode cX4_go 26 = .ok (.if_icmp .gt 42, 3) := dk_163 0 42 (dk_at dksX4_go_1 3 rfl rfl)
theorem dX4_go_29 : decode cX4_go 29 = .ok (.aload_n 0, 1) := dk_42 (dk_at dksX4_go_1 6 rfl rfl)
theorem dX4_go_30 : decode cX4_go 30 = .ok (.getfield 79, 3) := dk_180 0 79 (dk_at dksX4_go_1 7 rfl rfl)
theorem dX4_go_33 : decode cX4_go 33 = .ok (.iload_n 1, 1) := dk_27 (dk_at dksX4_go_1 10 rfl rfl)
theorem dX4_go_34 : decode cX4_go 34 = .ok (.iaload, 1) := dk_46 (dk_at dksX4_go_1 11 rfl rfl)
theorem dX4_go_35 : decode cX4_go 35 = .ok (.iconst 2, 1) := dk_5 (dk_at dksX4_go_1 12 rfl rfl)
theorem dX4_go_36 : decode cX4_go 36 = .ok (.if_icmp .eq 28, 3) := dk_159 0 28 (dk_at dksX4_go_1 13 rfl rfl)
theorem dX4_go_39 : decode cX4_go 39 = .ok (.aload_n 0, 1) := dk_42 (dk_at dksX4_go_1 16 rfl rfl)
theorem dX4_go_40 : decode cX4_go 40 = .ok (.getfield 79, 3) := dk_180 0 79 (dk_at dksX4_go_1 17 rfl rfl)
theorem dX4_go_43 : decode cX4_go 43 = .ok (.iload_n 2, 1) := dk_28 (dk_at dksX4_go_1 20 rfl rfl)
theorem dX4_go_44 : decode cX4_go 44 = .ok (.iaload, 1) := dk_46 (dk_at dksX4_go_1 21 rfl rfl)
theorem dX4_go_45 : decode cX4_go 45 = .ok (.iconst 2, 1) := dk_5 (dk_at dksX4_go_1 22 rfl rfl)
theorem dX4_go_46 : decode cX4_go 46 = .ok (.if_icmp .eq 18, 3) := dk_159 0 18 (dk_at dksX4_go_2 0 rfl rfl)
theorem dX4_go_49 : decode cX4_go 49 = .ok (.aload_n 0, 1) := dk_42 (dk_at dksX4_go_2 3 rfl rfl)
theorem dX4_go_50 : decode cX4_go 50 = .ok (.getfield 79, 3) := dk_180 0 79 (dk_at dksX4_go_2 4 rfl rfl)
theorem dX4_go_53 : decode cX4_go 53 = .ok (.iload_n 1, 1) := dk_27 (dk_at dksX4_go_2 7 rfl rfl)
theorem dX4_go_54 : decode cX4_go 54 = .ok (.iaload, 1) := dk_46 (dk_at dksX4_go_2 8 rfl rfl)
theorem dX4_go_55 : decode cX4_go 55 = .ok (.aload_n 0, 1) := dk_42 (dk_at dksX4_go_2 9 rfl rfl)
theorem dX4_go_56 : decode cX4_go 56 = .ok (.getfield 79, 3) := dk_180 0 79 (dk_at dksX4_go_2 10 rfl rfl)
theorem dX4_go_59 : decode cX4_go 59 = .ok (.iload_n 2, 1) := dk_28 (dk_at dksX4_go_2 13 rfl rfl)
theorem dX4_go_60 : decode cX4_go 60 = .ok (.iaload, 1) := dk_46 (dk_at dksX4_go_2 14 rfl rfl)
theorem dX4_go_61 : decode cX4_go 61 = .ok (.if_icmp .ne 7, 3) := dk_160 0 7 (dk_at dksX4_go_2 15 rfl rfl)
theorem dX4_go_64 : decode cX4_go 64 = .ok (.iconst 1, 1) := dk_4 (dk_at dksX4_go_2 18 rfl rfl)
theorem dX4_go_65 : decode cX4_go 65 = .ok (.goto 4, 3) := dk_167 0 4 (dk_at dksX4_go_2 19 rfl rfl)
theorem dX4_go_68 : decode cX4_go 68 = .ok (.iconst 0, 1) := dk_3 (dk_at dksX4_go_2 22 rfl rfl)
theorem dX4_go_69 : decode cX4_go 69 = .ok (.ireturn, 1) := dk_172 (dk_at dksX4_go_2 23 rfl rfl)
abbrev cX4_byZones : ByteArray := prog_20_method_61_code
def yX4_byZones : MethodName := ⟨RX4, "byZones", "(IIIII)I"⟩
def dkwX4_byZones_3 : List UInt8 := [167, 0, 9, 42, 180, 0, 34, 28, 46, 54, 9, 21, 8, 21, 9, 96, 4, 100, 21, 9, 108, 172]
abbrev dktX4_byZones_3 : List UInt8 := dkwX4_byZones_3 ++ []
def dkwX4_byZones_2 : List UInt8 := [21, 6, 21, 7, 96, 54, 8, 42, 180, 0, 30, 28, 51, 153, 0, 14, 42, 180, 0, 34, 28, 46, 5, 108]
abbrev dktX4_byZones_2 : List UInt8 := dkwX4_byZones_2 ++ dktX4_byZones_3
def dkwX4_byZones_1 : List UInt8 := [182, 1, 167, 54, 7, 42, 180, 0, 30, 28, 51, 153, 0, 13, 21, 6, 21, 7, 184, 0, 229, 167, 0, 8]
abbrev dktX4_byZones_1 : List UInt8 := dkwX4_byZones_1 ++ dktX4_byZones_2
def dkwX4_byZones_0 : List UInt8 := [42, 27, 28, 29, 21, 4, 21, 5, 3, 182, 1, 167, 54, 6, 42, 27, 28, 29, 21, 4, 21, 5, 4]
abbrev dktX4_byZones_0 : List UInt8 := dkwX4_byZones_0 ++ dktX4_byZones_1
theorem dksX4_byZones_0 : cX4_byZones.data.toList.drop 0 = dktX4_byZones_0 := by decide +kernel
theorem dksX4_byZones_1 : cX4_byZones.data.toList.drop 23 = dktX4_byZones_1 := dk_seg dksX4_byZones_0 23 rfl rfl
theorem dksX4_byZones_2 : cX4_byZones.data.toList.drop 47 = dktX4_byZones_2 := dk_seg dksX4_byZones_1 24 rfl rfl
theorem dksX4_byZones_3 : cX4_byZones.data.toList.drop 71 = dktX4_byZones_3 := dk_seg dksX4_byZones_2 24 rfl rfl
theorem dX4_byZones_0 : decode cX4_byZones 0 = .ok (.aload_n 0, 1) := dk_42 (dk_at dksX4_byZones_0 0 rfl rfl)
theorem dX4_byZones_1 : decode cX4_byZones 1 = .ok (.iload_n 1, 1) := dk_27 (dk_at dksX4_byZones_0 1 rfl rfl)
theorem dX4_byZones_2 : decode cX4_byZones 2 = .ok (.iload_n 2, 1) := dk_28 (dk_at dksX4_byZones_0 2 rfl rfl)
theorem dX4_byZones_3 : decode cX4_byZones 3 = .ok (.iload_n 3, 1) := dk_29 (dk_at dksX4_byZones_0 3 rfl rfl)
theorem dX4_byZones_4 : decode cX4_byZones 4 = .ok (.iload 4, 2) := dk_21 4 (dk_at dksX4_byZones_0 4 rfl rfl)
theorem dX4_byZones_6 : decode cX4_byZones 6 = .ok (.iload 5, 2) := dk_21 5 (dk_at dksX4_byZones_0 6 rfl rfl)
theorem dX4_byZones_8 : decode cX4_byZones 8 = .ok (.iconst 0, 1) := dk_3 (dk_at dksX4_byZones_0 8 rfl rfl)
theorem dX4_byZones_9 : decode cX4_byZones 9 = .ok (.invokevirtual 423, 3) := dk_182 1 167 (dk_at dksX4_byZones_0 9 rfl rfl)
theorem dX4_byZones_12 : decode cX4_byZones 12 = .ok (.istore 6, 2) := dk_54 6 (dk_at dksX4_byZones_0 12 rfl rfl)
theorem dX4_byZones_14 : decode cX4_byZones 14 = .ok (.aload_n 0, 1) := dk_42 (dk_at dksX4_byZones_0 14 rfl rfl)
theorem dX4_byZones_15 : decode cX4_byZones 15 = .ok (.iload_n 1, 1) := dk_27 (dk_at dksX4_byZones_0 15 rfl rfl)
theorem dX4_byZones_16 : decode cX4_byZones 16 = .ok (.iload_n 2, 1) := dk_28 (dk_at dksX4_byZones_0 16 rfl rfl)
theorem dX4_byZones_17 : decode cX4_byZones 17 = .ok (.iload_n 3, 1) := dk_29 (dk_at dksX4_byZones_0 17 rfl rfl)
theorem dX4_byZones_18 : decode cX4_byZones 18 = .ok (.iload 4, 2) := dk_21 4 (dk_at dksX4_byZones_0 18 rfl rfl)
theorem dX4_byZones_20 : decode cX4_byZones 20 = .ok (.iload 5, 2) := dk_21 5 (dk_at dksX4_byZones_0 20 rfl rfl)
theorem dX4_byZones_22 : decode cX4_byZones 22 = .ok (.iconst 1, 1) := dk_4 (dk_at dksX4_byZones_0 22 rfl rfl)
theorem dX4_byZones_23 : decode cX4_byZones 23 = .ok (.invokevirtual 423, 3) := dk_182 1 167 (dk_at dksX4_byZones_1 0 rfl rfl)
theorem dX4_byZones_26 : decode cX4_byZones 26 = .ok (.istore 7, 2) := dk_54 7 (dk_at dksX4_byZones_1 3 rfl rfl)
theorem dX4_byZones_28 : decode cX4_byZones 28 = .ok (.aload_n 0, 1) := dk_42 (dk_at dksX4_byZones_1 5 rfl rfl)
theorem dX4_byZones_29 : decode cX4_byZones 29 = .ok (.getfield 30, 3) := dk_180 0 30 (dk_at dksX4_byZones_1 6 rfl rfl)
theorem dX4_byZones_32 : decode cX4_byZones 32 = .ok (.iload_n 2, 1) := dk_28 (dk_at dksX4_byZones_1 9 rfl rfl)
theorem dX4_byZones_33 : decode cX4_byZones 33 = .ok (.baload, 1) := dk_51 (dk_at dksX4_byZones_1 10 rfl rfl)
theorem dX4_byZones_34 : decode cX4_byZones 34 = .ok (.ifCond .eq 13, 3) := dk_153 0 13 (dk_at dksX4_byZones_1 11 rfl rfl)
theorem dX4_byZones_37 : decode cX4_byZones 37 = .ok (.iload 6, 2) := dk_21 6 (dk_at dksX4_byZones_1 14 rfl rfl)
theorem dX4_byZones_39 : decode cX4_byZones 39 = .ok (.iload 7, 2) := dk_21 7 (dk_at dksX4_byZones_1 16 rfl rfl)
theorem dX4_byZones_41 : decode cX4_byZones 41 = .ok (.invokestatic 229, 3) := dk_184 0 229 (dk_at dksX4_byZones_1 18 rfl rfl)
theorem dX4_byZones_44 : decode cX4_byZones 44 = .ok (.goto 8, 3) := dk_167 0 8 (dk_at dksX4_byZones_1 21 rfl rfl)
theorem dX4_byZones_47 : decode cX4_byZones 47 = .ok (.iload 6, 2) := dk_21 6 (dk_at dksX4_byZones_2 0 rfl rfl)
theorem dX4_byZones_49 : decode cX4_byZones 49 = .ok (.iload 7, 2) := dk_21 7 (dk_at dksX4_byZones_2 2 rfl rfl)
theorem dX4_byZones_51 : decode cX4_byZones 51 = .ok (.iadd, 1) := dk_96 (dk_at dksX4_byZones_2 4 rfl rfl)
theorem dX4_byZones_52 : decode cX4_byZones 52 = .ok (.istore 8, 2) := dk_54 8 (dk_at dksX4_byZones_2 5 rfl rfl)
theorem dX4_byZones_54 : decode cX4_byZones 54 = .ok (.aload_n 0, 1) := dk_42 (dk_at dksX4_byZones_2 7 rfl rfl)
theorem dX4_byZones_55 : decode cX4_byZones 55 = .ok (.getfield 30, 3) := dk_180 0 30 (dk_at dksX4_byZones_2 8 rfl rfl)
theorem dX4_byZones_58 : decode cX4_byZones 58 = .ok (.iload_n 2, 1) := dk_28 (dk_at dksX4_byZones_2 11 rfl rfl)
theorem dX4_byZones_59 : decode cX4_byZones 59 = .ok (.baload, 1) := dk_51 (dk_at dksX4_byZones_2 12 rfl rfl)
theorem dX4_byZones_60 : decode cX4_byZones 60 = .ok (.ifCond .eq 14, 3) := dk_153 0 14 (dk_at dksX4_byZones_2 13 rfl rfl)
theorem dX4_byZones_63 : decode cX4_byZones 63 = .ok (.aload_n 0, 1) := dk_42 (dk_at dksX4_byZones_2 16 rfl rfl)
theorem dX4_byZones_64 : decode cX4_byZones 64 = .ok (.getfield 34, 3) := dk_180 0 34 (dk_at dksX4_byZones_2 17 rfl rfl)
theorem dX4_byZones_67 : decode cX4_byZones 67 = .ok (.iload_n 2, 1) := dk_28 (dk_at dksX4_byZones_2 20 rfl rfl)
theorem dX4_byZones_68 : decode cX4_byZones 68 = .ok (.iaload, 1) := dk_46 (dk_at dksX4_byZones_2 21 rfl rfl)
theorem dX4_byZones_69 : decode cX4_byZones 69 = .ok (.iconst 2, 1) := dk_5 (dk_at dksX4_byZones_2 22 rfl rfl)
theorem dX4_byZones_70 : decode cX4_byZones 70 = .ok (.idiv, 1) := dk_108 (dk_at dksX4_byZones_2 23 rfl rfl)
theorem dX4_byZones_71 : decode cX4_byZones 71 = .ok (.goto 9, 3) := dk_167 0 9 (dk_at dksX4_byZones_3 0 rfl rfl)
theorem dX4_byZones_74 : decode cX4_byZones 74 = .ok (.aload_n 0, 1) := dk_42 (dk_at dksX4_byZones_3 3 rfl rfl)
theorem dX4_byZones_75 : decode cX4_byZones 75 = .ok (.getfield 34, 3) := dk_180 0 34 (dk_at dksX4_byZones_3 4 rfl rfl)
theorem dX4_byZones_78 : decode cX4_byZones 78 = .ok (.iload_n 2, 1) := dk_28 (dk_at dksX4_byZones_3 7 rfl rfl)
theorem dX4_byZones_79 : decode cX4_byZones 79 = .ok (.iaload, 1) := dk_46 (dk_at dksX4_byZones_3 8 rfl rfl)
theorem dX4_byZones_80 : decode cX4_byZones 80 = .ok (.istore 9, 2) := dk_54 9 (dk_at dksX4_byZones_3 9 rfl rfl)
theorem dX4_byZones_82 : decode cX4_byZones 82 = .ok (.iload 8, 2) := dk_21 8 (dk_at dksX4_byZones_3 11 rfl rfl)
theorem dX4_byZones_84 : decode cX4_byZones 84 = .ok (.iload 9, 2) := dk_21 9 (dk_at dksX4_byZones_3 13 rfl rfl)
theorem dX4_byZones_86 : decode cX4_byZones 86 = .ok (.iadd, 1) := dk_96 (dk_at dksX4_byZones_3 15 rfl rfl)
theorem dX4_byZones_87 : decode cX4_byZones 87 = .ok (.iconst 1, 1) := dk_4 (dk_at dksX4_byZones_3 16 rfl rfl)
theorem dX4_byZones_88 : decode cX4_byZones 88 = .ok (.isub, 1) := dk_100 (dk_at dksX4_byZones_3 17 rfl rfl)
theorem dX4_byZones_89 : decode cX4_byZones 89 = .ok (.iload 9, 2) := dk_21 9 (dk_at dksX4_byZones_3 18 rfl rfl)
theorem dX4_byZones_91 : decode cX4_byZones 91 = .ok (.idiv, 1) := dk_108 (dk_at dksX4_byZones_3 20 rfl rfl)
theorem dX4_byZones_92 : decode cX4_byZones 92 = .ok (.ireturn, 1) := dk_172 (dk_at dksX4_byZones_3 21 rfl rfl)
abbrev cX4_zoned : ByteArray := prog_20_method_60_code
def yX4_zoned : MethodName := ⟨RX4, "zoned", "(IIIIIZ)I"⟩
def dkwX4_zoned_4 : List UInt8 := [21, 7, 21, 9, 184, 0, 229, 54, 7, 132, 8, 1, 167, 255, 158, 21, 7, 172]
abbrev dktX4_zoned_4 : List UInt8 := dkwX4_zoned_4 ++ []
def dkwX4_zoned_3 : List UInt8 := [21, 8, 122, 4, 126, 4, 160, 0, 7, 4, 167, 0, 4, 3, 96, 54, 9, 132, 10, 1, 167, 255, 185]
abbrev dktX4_zoned_3 : List UInt8 := dkwX4_zoned_3 ++ dktX4_zoned_4
def dkwX4_zoned_2 : List UInt8 := [21, 10, 46, 4, 160, 0, 7, 4, 167, 0, 4, 3, 21, 6, 160, 0, 23, 42, 180, 0, 73, 21, 10, 46]
abbrev dktX4_zoned_2 : List UInt8 := dkwX4_zoned_2 ++ dktX4_zoned_3
def dkwX4_zoned_1 : List UInt8 := [162, 0, 70, 21, 9, 42, 21, 10, 27, 28, 29, 21, 4, 182, 1, 163, 153, 0, 44, 42, 180, 0, 76]
abbrev dktX4_zoned_1 : List UInt8 := dkwX4_zoned_1 ++ dktX4_zoned_2
def dkwX4_zoned_0 : List UInt8 := [3, 54, 7, 3, 54, 8, 21, 8, 7, 162, 0, 98, 3, 54, 9, 3, 54, 10, 21, 10, 21, 5]
abbrev dktX4_zoned_0 : List UInt8 := dkwX4_zoned_0 ++ dktX4_zoned_1
theorem dksX4_zoned_0 : cX4_zoned.data.toList.drop 0 = dktX4_zoned_0 := by decide +kernel
theorem dksX4_zoned_1 : cX4_zoned.data.toList.drop 22 = dktX4_zoned_1 := dk_seg dksX4_zoned_0 22 rfl rfl
theorem dksX4_zoned_2 : cX4_zoned.data.toList.drop 45 = dktX4_zoned_2 := dk_seg dksX4_zoned_1 23 rfl rfl
theorem dksX4_zoned_3 : cX4_zoned.data.toList.drop 69 = dktX4_zoned_3 := dk_seg dksX4_zoned_2 24 rfl rfl
theorem dksX4_zoned_4 : cX4_zoned.data.toList.drop 92 = dktX4_zoned_4 := dk_seg dksX4_zoned_3 23 rfl rfl
theorem dX4_zoned_0 : decode cX4_zoned 0 = .ok (.iconst 0, 1) := dk_3 (dk_at dksX4_zoned_0 0 rfl rfl)
theorem dX4_zoned_1 : decode cX4_zoned 1 = .ok (.istore 7, 2) := dk_54 7 (dk_at dksX4_zoned_0 1 rfl rfl)
theorem dX4_zoned_3 : decode cX4_zoned 3 = .ok (.iconst 0, 1) := dk_3 (dk_at dksX4_zoned_0 3 rfl rfl)
theorem dX4_zoned_4 : decode cX4_zoned 4 = .ok (.istore 8, 2) := dk_54 8 (dk_at dksX4_zoned_0 4 rfl rfl)
theorem dX4_zoned_6 : decode cX4_zoned 6 = .ok (.iload 8, 2) := dk_21 8 (dk_at dksX4_zoned_0 6 rfl rfl)
theorem dX4_zoned_8 : decode cX4_zoned 8 = .ok (.iconst 4, 1) := dk_7 (dk_at dksX4_zoned_0 8 rfl rfl)
theorem dX4_zoned_9 : decode cX4_zoned 9 = .ok (.if_icmp .ge 98, 3) := dk_162 0 98 (dk_at dksX4_zoned_0 9 rfl rfl)
theorem dX4_zoned_12 : decode cX4_zoned 12 = .ok (.iconst 0, 1) := dk_3 (dk_at dksX4_zoned_0 12 rfl rfl)
theorem dX4_zoned_13 : decode cX4_zoned 13 = .ok (.istore 9, 2) := dk_54 9 (dk_at dksX4_zoned_0 13 rfl rfl)
theorem dX4_zoned_15 : decode cX4_zoned 15 = .ok (.iconst 0, 1) := dk_3 (dk_at dksX4_zoned_0 15 rfl rfl)
theorem dX4_zoned_16 : decode cX4_zoned 16 = .ok (.istore 10, 2) := dk_54 10 (dk_at dksX4_zoned_0 16 rfl rfl)
theorem dX4_zoned_18 : decode cX4_zoned 18 = .ok (.iload 10, 2) := dk_21 10 (dk_at dksX4_zoned_0 18 rfl rfl)
theorem dX4_zoned_20 : decode cX4_zoned 20 = .ok (.iload 5, 2) := dk_21 5 (dk_at dksX4_zoned_0 20 rfl rfl)
theorem dX4_zoned_22 : decode cX4_zoned 22 = .ok (.if_icmp .ge 70, 3) := dk_162 0 70 (dk_at dksX4_zoned_1 0 rfl rfl)
theorem dX4_zoned_25 : decode cX4_zoned 25 = .ok (.iload 9, 2) := dk_21 9 (dk_at dksX4_zoned_1 3 rfl rfl)
theorem dX4_zoned_27 : decode cX4_zoned 27 = .ok (.aload_n 0, 1) := dk_42 (dk_at dksX4_zoned_1 5 rfl rfl)
theorem dX4_zoned_28 : decode cX4_zoned 28 = .ok (.iload 10, 2) := dk_21 10 (dk_at dksX4_zoned_1 6 rfl rfl)
theorem dX4_zoned_30 : decode cX4_zoned 30 = .ok (.iload_n 1, 1) := dk_27 (dk_at dksX4_zoned_1 8 rfl rfl)
theorem dX4_zoned_31 : decode cX4_zoned 31 = .ok (.iload_n 2, 1) := dk_28 (dk_at dksX4_zoned_1 9 rfl rfl)
theorem dX4_zoned_32 : decode cX4_zoned 32 = .ok (.iload_n 3, 1) := dk_29 (dk_at dksX4_zoned_1 10 rfl rfl)
theorem dX4_zoned_33 : decode cX4_zoned 33 = .ok (.iload 4, 2) := dk_21 4 (dk_at dksX4_zoned_1 11 rfl rfl)
theorem dX4_zoned_35 : decode cX4_zoned 35 = .ok (.invokevirtual 419, 3) := dk_182 1 163 (dk_at dksX4_zoned_1 13 rfl rfl)
theorem dX4_zoned_38 : decode cX4_zoned 38 = .ok (.ifCond .eq 44, 3) := dk_153 0 44 (dk_at dksX4_zoned_1 16 rfl rfl)
theorem dX4_zoned_41 : decode cX4_zoned 41 = .ok (.aload_n 0, 1) := dk_42 (dk_at dksX4_zoned_1 19 rfl rfl)
theorem dX4_zoned_42 : decode cX4_zoned 42 = .ok (.getfield 76, 3) := dk_180 0 76 (dk_at dksX4_zoned_1 20 rfl rfl)
theorem dX4_zoned_45 : decode cX4_zoned 45 = .ok (.iload 10, 2) := dk_21 10 (dk_at dksX4_zoned_2 0 rfl rfl)
theorem dX4_zoned_47 : decode cX4_zoned 47 = .ok (.iaload, 1) := dk_46 (dk_at dksX4_zoned_2 2 rfl rfl)
theorem dX4_zoned_48 : decode cX4_zoned 48 = .ok (.iconst 1, 1) := dk_4 (dk_at dksX4_zoned_2 3 rfl rfl)
theorem dX4_zoned_49 : decode cX4_zoned 49 = .ok (.if_icmp .ne 7, 3) := dk_160 0 7 (dk_at dksX4_zoned_2 4 rfl rfl)
theorem dX4_zoned_52 : decode cX4_zoned 52 = .ok (.iconst 1, 1) := dk_4 (dk_at dksX4_zoned_2 7 rfl rfl)
theorem dX4_zoned_53 : decode cX4_zoned 53 = .ok (.goto 4, 3) := dk_167 0 4 (dk_at dksX4_zoned_2 8 rfl rfl)
theorem dX4_zoned_56 : decode cX4_zoned 56 = .ok (.iconst 0, 1) := dk_3 (dk_at dksX4_zoned_2 11 rfl rfl)
theorem dX4_zoned_57 : decode cX4_zoned 57 = .ok (.iload 6, 2) := dk_21 6 (dk_at dksX4_zoned_2 12 rfl rfl)
theorem dX4_zoned_59 : decode cX4_zoned 59 = .ok (.if_icmp .ne 23, 3) := dk_160 0 23 (dk_at dksX4_zoned_2 14 rfl rfl)
theorem dX4_zoned_62 : decode cX4_zoned 62 = .ok (.aload_n 0, 1) := dk_42 (dk_at dksX4_zoned_2 17 rfl rfl)
theorem dX4_zoned_63 : decode cX4_zoned 63 = .ok (.getfield 73, 3) := dk_180 0 73 (dk_at dksX4_zoned_2 18 rfl rfl)
theorem dX4_zoned_66 : decode cX4_zoned 66 = .ok (.iload 10, 2) := dk_21 10 (dk_at dksX4_zoned_2 21 rfl rfl)
theorem dX4_zoned_68 : decode cX4_zoned 68 = .ok (.iaload, 1) := dk_46 (dk_at dksX4_zoned_2 23 rfl rfl)
theorem dX4_zoned_69 : decode cX4_zoned 69 = .ok (.iload 8, 2) := dk_21 8 (dk_at dksX4_zoned_3 0 rfl rfl)
theorem dX4_zoned_71 : decode cX4_zoned 71 = .ok (.ishr, 1) := dk_122 (dk_at dksX4_zoned_3 2 rfl rfl)
theorem dX4_zoned_72 : decode cX4_zoned 72 = .ok (.iconst 1, 1) := dk_4 (dk_at dksX4_zoned_3 3 rfl rfl)
theorem dX4_zoned_73 : decode cX4_zoned 73 = .ok (.iand, 1) := dk_126 (dk_at dksX4_zoned_3 4 rfl rfl)
theorem dX4_zoned_74 : decode cX4_zoned 74 = .ok (.iconst 1, 1) := dk_4 (dk_at dksX4_zoned_3 5 rfl rfl)
theorem dX4_zoned_75 : decode cX4_zoned 75 = .ok (.if_icmp .ne 7, 3) := dk_160 0 7 (dk_at dksX4_zoned_3 6 rfl rfl)
theorem dX4_zoned_78 : decode cX4_zoned 78 = .ok (.iconst 1, 1) := dk_4 (dk_at dksX4_zoned_3 9 rfl rfl)
theorem dX4_zoned_79 : decode cX4_zoned 79 = .ok (.goto 4, 3) := dk_167 0 4 (dk_at dksX4_zoned_3 10 rfl rfl)
theorem dX4_zoned_82 : decode cX4_zoned 82 = .ok (.iconst 0, 1) := dk_3 (dk_at dksX4_zoned_3 13 rfl rfl)
theorem dX4_zoned_83 : decode cX4_zoned 83 = .ok (.iadd, 1) := dk_96 (dk_at dksX4_zoned_3 14 rfl rfl)
theorem dX4_zoned_84 : decode cX4_zoned 84 = .ok (.istore 9, 2) := dk_54 9 (dk_at dksX4_zoned_3 15 rfl rfl)
theorem dX4_zoned_86 : decode cX4_zoned 86 = .ok (.iinc 10 1, 3) := dk_132 10 1 (dk_at dksX4_zoned_3 17 rfl rfl)
theorem dX4_zoned_89 : decode cX4_zoned 89 = .ok (.goto (-71), 3) := dk_167 255 185 (dk_at dksX4_zoned_3 20 rfl rfl)
theorem dX4_zoned_92 : decode cX4_zoned 92 = .ok (.iload 7, 2) := dk_21 7 (dk_at dksX4_zoned_4 0 rfl rfl)
theorem dX4_zoned_94 : decode cX4_zoned 94 = .ok (.iload 9, 2) := dk_21 9 (dk_at dksX4_zoned_4 2 rfl rfl)
theorem dX4_zoned_96 : decode cX4_zoned 96 = .ok (.invokestatic 229, 3) := dk_184 0 229 (dk_at dksX4_zoned_4 4 rfl rfl)
theorem dX4_zoned_99 : decode cX4_zoned 99 = .ok (.istore 7, 2) := dk_54 7 (dk_at dksX4_zoned_4 7 rfl rfl)
theorem dX4_zoned_101 : decode cX4_zoned 101 = .ok (.iinc 8 1, 3) := dk_132 8 1 (dk_at dksX4_zoned_4 9 rfl rfl)
theorem dX4_zoned_104 : decode cX4_zoned 104 = .ok (.goto (-98), 3) := dk_167 255 158 (dk_at dksX4_zoned_4 12 rfl rfl)
theorem dX4_zoned_107 : decode cX4_zoned 107 = .ok (.iload 7, 2) := dk_21 7 (dk_at dksX4_zoned_4 15 rfl rfl)
theorem dX4_zoned_109 : decode cX4_zoned 109 = .ok (.ireturn, 1) := dk_172 (dk_at dksX4_zoned_4 17 rfl rfl)
abbrev cX4_bones : ByteArray := prog_20_method_70_code
def yX4_bones : MethodName := ⟨RX4, "bones", "(IIIIII)I"⟩
def dkwX4_bones_3 : List UInt8 := [182, 1, 167, 172, 42, 182, 1, 200, 42, 27, 28, 29, 21, 4, 21, 5, 182, 1, 185, 172]
abbrev dktX4_bones_3 : List UInt8 := dkwX4_bones_3 ++ []
def dkwX4_bones_2 : List UInt8 := [162, 0, 26, 42, 27, 28, 29, 21, 4, 21, 5, 21, 6, 4, 160, 0, 7, 4, 167, 0, 4, 3]
abbrev dktX4_bones_2 : List UInt8 := dkwX4_bones_2 ++ dktX4_bones_3
def dkwX4_bones_1 : List UInt8 := [153, 0, 16, 21, 6, 133, 9, 20, 1, 1, 184, 0, 178, 154, 0, 6, 16, 254, 172, 21, 6, 5]
abbrev dktX4_bones_1 : List UInt8 := dkwX4_bones_1 ++ dktX4_bones_2
def dkwX4_bones_0 : List UInt8 := [42, 3, 181, 0, 173, 42, 27, 29, 21, 4, 21, 5, 182, 1, 196, 153, 0, 24, 42, 28, 182, 1, 203]
abbrev dktX4_bones_0 : List UInt8 := dkwX4_bones_0 ++ dktX4_bones_1
theorem dksX4_bones_0 : cX4_bones.data.toList.drop 0 = dktX4_bones_0 := by decide +kernel
theorem dksX4_bones_1 : cX4_bones.data.toList.drop 23 = dktX4_bones_1 := dk_seg dksX4_bones_0 23 rfl rfl
theorem dksX4_bones_2 : cX4_bones.data.toList.drop 45 = dktX4_bones_2 := dk_seg dksX4_bones_1 22 rfl rfl
theorem dksX4_bones_3 : cX4_bones.data.toList.drop 67 = dktX4_bones_3 := dk_seg dksX4_bones_2 22 rfl rfl
theorem dX4_bones_0 : decode cX4_bones 0 = .ok (.aload_n 0, 1) := dk_42 (dk_at dksX4_bones_0 0 rfl rfl)
theorem dX4_bones_1 : decode cX4_bones 1 = .ok (.iconst 0, 1) := dk_3 (dk_at dksX4_bones_0 1 rfl rfl)
theorem dX4_bones_2 : decode cX4_bones 2 = .ok (.putfield 173, 3) := dk_181 0 173 (dk_at dksX4_bones_0 2 rfl rfl)
theorem dX4_bones_5 : decode cX4_bones 5 = .ok (.aload_n 0, 1) := dk_42 (dk_at dksX4_bones_0 5 rfl rfl)
theorem dX4_bones_6 : decode cX4_bones 6 = .ok (.iload_n 1, 1) := dk_27 (dk_at dksX4_bones_0 6 rfl rfl)
theorem dX4_bones_7 : decode cX4_bones 7 = .ok (.iload_n 3, 1) := dk_29 (dk_at dksX4_bones_0 7 rfl rfl)
theorem dX4_bones_8 : decode cX4_bones 8 = .ok (.iload 4, 2) := dk_21 4 (dk_at dksX4_bones_0 8 rfl rfl)
theorem dX4_bones_10 : decode cX4_bones 10 = .ok (.iload 5, 2) := dk_21 5 (dk_at dksX4_bones_0 10 rfl rfl)
theorem dX4_bones_12 : decode cX4_bones 12 = .ok (.invokevirtual 452, 3) := dk_182 1 196 (dk_at dksX4_bones_0 12 rfl rfl)
theorem dX4_bones_15 : decode cX4_bones 15 = .ok (.ifCond .eq 24, 3) := dk_153 0 24 (dk_at dksX4_bones_0 15 rfl rfl)
theorem dX4_bones_18 : decode cX4_bones 18 = .ok (.aload_n 0, 1) := dk_42 (dk_at dksX4_bones_0 18 rfl rfl)
theorem dX4_bones_19 : decode cX4_bones 19 = .ok (.iload_n 2, 1) := dk_28 (dk_at dksX4_bones_0 19 rfl rfl)
theorem dX4_bones_20 : decode cX4_bones 20 = .ok (.invokevirtual 459, 3) := dk_182 1 203 (dk_at dksX4_bones_0 20 rfl rfl)
theorem dX4_bones_23 : decode cX4_bones 23 = .ok (.ifCond .eq 16, 3) := dk_153 0 16 (dk_at dksX4_bones_1 0 rfl rfl)
theorem dX4_bones_26 : decode cX4_bones 26 = .ok (.iload 6, 2) := dk_21 6 (dk_at dksX4_bones_1 3 rfl rfl)
theorem dX4_bones_28 : decode cX4_bones 28 = .ok (.i2l, 1) := dk_133 (dk_at dksX4_bones_1 5 rfl rfl)
theorem dX4_bones_29 : decode cX4_bones 29 = .ok (.lconst 0, 1) := dk_9 (dk_at dksX4_bones_1 6 rfl rfl)
theorem dX4_bones_30 : decode cX4_bones 30 = .ok (.ldc2_w 257, 3) := dk_20 1 1 (dk_at dksX4_bones_1 7 rfl rfl)
theorem dX4_bones_33 : decode cX4_bones 33 = .ok (.invokestatic 178, 3) := dk_184 0 178 (dk_at dksX4_bones_1 10 rfl rfl)
theorem dX4_bones_36 : decode cX4_bones 36 = .ok (.ifCond .ne 6, 3) := dk_154 0 6 (dk_at dksX4_bones_1 13 rfl rfl)
theorem dX4_bones_39 : decode cX4_bones 39 = .ok (.bipush (-2), 2) := dk_16 254 (dk_at dksX4_bones_1 16 rfl rfl)
theorem dX4_bones_41 : decode cX4_bones 41 = .ok (.ireturn, 1) := dk_172 (dk_at dksX4_bones_1 18 rfl rfl)
theorem dX4_bones_42 : decode cX4_bones 42 = .ok (.iload 6, 2) := dk_21 6 (dk_at dksX4_bones_1 19 rfl rfl)
theorem dX4_bones_44 : decode cX4_bones 44 = .ok (.iconst 2, 1) := dk_5 (dk_at dksX4_bones_1 21 rfl rfl)
theorem dX4_bones_45 : decode cX4_bones 45 = .ok (.if_icmp .ge 26, 3) := dk_162 0 26 (dk_at dksX4_bones_2 0 rfl rfl)
theorem dX4_bones_48 : decode cX4_bones 48 = .ok (.aload_n 0, 1) := dk_42 (dk_at dksX4_bones_2 3 rfl rfl)
theorem dX4_bones_49 : decode cX4_bones 49 = .ok (.iload_n 1, 1) := dk_27 (dk_at dksX4_bones_2 4 rfl rfl)
theorem dX4_bones_50 : decode cX4_bones 50 = .ok (.iload_n 2, 1) := dk_28 (dk_at dksX4_bones_2 5 rfl rfl)
theorem dX4_bones_51 : decode cX4_bones 51 = .ok (.iload_n 3, 1) := dk_29 (dk_at dksX4_bones_2 6 rfl rfl)
theorem dX4_bones_52 : decode cX4_bones 52 = .ok (.iload 4, 2) := dk_21 4 (dk_at dksX4_bones_2 7 rfl rfl)
theorem dX4_bones_54 : decode cX4_bones 54 = .ok (.iload 5, 2) := dk_21 5 (dk_at dksX4_bones_2 9 rfl rfl)
theorem dX4_bones_56 : decode cX4_bones 56 = .ok (.iload 6, 2) := dk_21 6 (dk_at dksX4_bones_2 11 rfl rfl)
theorem dX4_bones_58 : decode cX4_bones 58 = .ok (.iconst 1, 1) := dk_4 (dk_at dksX4_bones_2 13 rfl rfl)
theorem dX4_bones_59 : decode cX4_bones 59 = .ok (.if_icmp .ne 7, 3) := dk_160 0 7 (dk_at dksX4_bones_2 14 rfl rfl)
theorem dX4_bones_62 : decode cX4_bones 62 = .ok (.iconst 1, 1) := dk_4 (dk_at dksX4_bones_2 17 rfl rfl)
theorem dX4_bones_63 : decode cX4_bones 63 = .ok (.goto 4, 3) := dk_167 0 4 (dk_at dksX4_bones_2 18 rfl rfl)
theorem dX4_bones_66 : decode cX4_bones 66 = .ok (.iconst 0, 1) := dk_3 (dk_at dksX4_bones_2 21 rfl rfl)
theorem dX4_bones_67 : decode cX4_bones 67 = .ok (.invokevirtual 423, 3) := dk_182 1 167 (dk_at dksX4_bones_3 0 rfl rfl)
theorem dX4_bones_70 : decode cX4_bones 70 = .ok (.ireturn, 1) := dk_172 (dk_at dksX4_bones_3 3 rfl rfl)
theorem dX4_bones_71 : decode cX4_bones 71 = .ok (.aload_n 0, 1) := dk_42 (dk_at dksX4_bones_3 4 rfl rfl)
theorem dX4_bones_72 : decode cX4_bones 72 = .ok (.invokevirtual 456, 3) := dk_182 1 200 (dk_at dksX4_bones_3 5 rfl rfl)
theorem dX4_bones_75 : decode cX4_bones 75 = .ok (.aload_n 0, 1) := dk_42 (dk_at dksX4_bones_3 8 rfl rfl)
theorem dX4_bones_76 : decode cX4_bones 76 = .ok (.iload_n 1, 1) := dk_27 (dk_at dksX4_bones_3 9 rfl rfl)
theorem dX4_bones_77 : decode cX4_bones 77 = .ok (.iload_n 2, 1) := dk_28 (dk_at dksX4_bones_3 10 rfl rfl)
theorem dX4_bones_78 : decode cX4_bones 78 = .ok (.iload_n 3, 1) := dk_29 (dk_at dksX4_bones_3 11 rfl rfl)
theorem dX4_bones_79 : decode cX4_bones 79 = .ok (.iload 4, 2) := dk_21 4 (dk_at dksX4_bones_3 12 rfl rfl)
theorem dX4_bones_81 : decode cX4_bones 81 = .ok (.iload 5, 2) := dk_21 5 (dk_at dksX4_bones_3 14 rfl rfl)
theorem dX4_bones_83 : decode cX4_bones 83 = .ok (.invokevirtual 441, 3) := dk_182 1 185 (dk_at dksX4_bones_3 16 rfl rfl)
theorem dX4_bones_86 : decode cX4_bones 86 = .ok (.ireturn, 1) := dk_172 (dk_at dksX4_bones_3 19 rfl rfl)
abbrev cX4_isElement : ByteArray := prog_20_method_13_code
def yX4_isElement : MethodName := ⟨RX4, "isElement", "(I)Z"⟩
def dkwX4_isElement_0 : List UInt8 := [27, 133, 9, 42, 180, 0, 198, 4, 100, 133, 184, 0, 178, 172]
abbrev dktX4_isElement_0 : List UInt8 := dkwX4_isElement_0 ++ []
theorem dksX4_isElement_0 : cX4_isElement.data.toList.drop 0 = dktX4_isElement_0 := by decide +kernel
theorem dX4_isElement_0 : decode cX4_isElement 0 = .ok (.iload_n 1, 1) := dk_27 (dk_at dksX4_isElement_0 0 rfl rfl)
theorem dX4_isElement_1 : decode cX4_isElement 1 = .ok (.i2l, 1) := dk_133 (dk_at dksX4_isElement_0 1 rfl rfl)
theorem dX4_isElement_2 : decode cX4_isElement 2 = .ok (.lconst 0, 1) := dk_9 (dk_at dksX4_isElement_0 2 rfl rfl)
theorem dX4_isElement_3 : decode cX4_isElement 3 = .ok (.aload_n 0, 1) := dk_42 (dk_at dksX4_isElement_0 3 rfl rfl)
theorem dX4_isElement_4 : decode cX4_isElement 4 = .ok (.getfield 198, 3) := dk_180 0 198 (dk_at dksX4_isElement_0 4 rfl rfl)
theorem dX4_isElement_7 : decode cX4_isElement 7 = .ok (.iconst 1, 1) := dk_4 (dk_at dksX4_isElement_0 7 rfl rfl)
theorem dX4_isElement_8 : decode cX4_isElement 8 = .ok (.isub, 1) := dk_100 (dk_at dksX4_isElement_0 8 rfl rfl)
theorem dX4_isElement_9 : decode cX4_isElement 9 = .ok (.i2l, 1) := dk_133 (dk_at dksX4_isElement_0 9 rfl rfl)
theorem dX4_isElement_10 : decode cX4_isElement 10 = .ok (.invokestatic 178, 3) := dk_184 0 178 (dk_at dksX4_isElement_0 10 rfl rfl)
theorem dX4_isElement_13 : decode cX4_isElement 13 = .ok (.ireturn, 1) := dk_172 (dk_at dksX4_isElement_0 13 rfl rfl)
abbrev cX4_partner : ByteArray := prog_20_method_71_code
def yX4_partner : MethodName := ⟨RX4, "partner", "(I)I"⟩
def dkwX4_partner_0 : List UInt8 := [42, 3, 181, 0, 173, 42, 27, 182, 0, 252, 153, 0, 12, 42, 180, 0, 137, 27, 46, 167, 0, 4, 2, 172]
abbrev dktX4_partner_0 : List UInt8 := dkwX4_partner_0 ++ []
theorem dksX4_partner_0 : cX4_partner.data.toList.drop 0 = dktX4_partner_0 := by decide +kernel
theorem dX4_partner_0 : decode cX4_partner 0 = .ok (.aload_n 0, 1) := dk_42 (dk_at dksX4_partner_0 0 rfl rfl)
theorem dX4_partner_1 : decode cX4_partner 1 = .ok (.iconst 0, 1) := dk_3 (dk_at dksX4_partner_0 1 rfl rfl)
theorem dX4_partner_2 : decode cX4_partner 2 = .ok (.putfield 173, 3) := dk_181 0 173 (dk_at dksX4_partner_0 2 rfl rfl)
theorem dX4_partner_5 : decode cX4_partner 5 = .ok (.aload_n 0, 1) := dk_42 (dk_at dksX4_partner_0 5 rfl rfl)
theorem dX4_partner_6 : decode cX4_partner 6 = .ok (.iload_n 1, 1) := dk_27 (dk_at dksX4_partner_0 6 rfl rfl)
theorem dX4_partner_7 : decode cX4_partner 7 = .ok (.invokevirtual 252, 3) := dk_182 0 252 (dk_at dksX4_partner_0 7 rfl rfl)
theorem dX4_partner_10 : decode cX4_partner 10 = .ok (.ifCond .eq 12, 3) := dk_153 0 12 (dk_at dksX4_partner_0 10 rfl rfl)
theorem dX4_partner_13 : decode cX4_partner 13 = .ok (.aload_n 0, 1) := dk_42 (dk_at dksX4_partner_0 13 rfl rfl)
theorem dX4_partner_14 : decode cX4_partner 14 = .ok (.getfield 137, 3) := dk_180 0 137 (dk_at dksX4_partner_0 14 rfl rfl)
theorem dX4_partner_17 : decode cX4_partner 17 = .ok (.iload_n 1, 1) := dk_27 (dk_at dksX4_partner_0 17 rfl rfl)
theorem dX4_partner_18 : decode cX4_partner 18 = .ok (.iaload, 1) := dk_46 (dk_at dksX4_partner_0 18 rfl rfl)
theorem dX4_partner_19 : decode cX4_partner 19 = .ok (.goto 4, 3) := dk_167 0 4 (dk_at dksX4_partner_0 19 rfl rfl)
theorem dX4_partner_22 : decode cX4_partner 22 = .ok (.iconst (-1), 1) := dk_2 (dk_at dksX4_partner_0 22 rfl rfl)
theorem dX4_partner_23 : decode cX4_partner 23 = .ok (.ireturn, 1) := dk_172 (dk_at dksX4_partner_0 23 rfl rfl)
abbrev cX4_meatOf : ByteArray := prog_20_method_72_code
def yX4_meatOf : MethodName := ⟨RX4, "meatOf", "(IIII)I"⟩
def dkwX4_meatOf_1 : List UInt8 := [27, 28, 29, 21, 4, 182, 1, 206, 104, 167, 0, 5, 16, 254, 172]
abbrev dktX4_meatOf_1 : List UInt8 := dkwX4_meatOf_1 ++ []
def dkwX4_meatOf_0 : List UInt8 := [42, 3, 181, 0, 173, 42, 27, 28, 29, 21, 4, 182, 1, 196, 153, 0, 22, 42, 180, 0, 46, 27, 46, 42]
abbrev dktX4_meatOf_0 : List UInt8 := dkwX4_meatOf_0 ++ dktX4_meatOf_1
theorem dksX4_meatOf_0 : cX4_meatOf.data.toList.drop 0 = dktX4_meatOf_0 := by decide +kernel
theorem dksX4_meatOf_1 : cX4_meatOf.data.toList.drop 24 = dktX4_meatOf_1 := dk_seg dksX4_meatOf_0 24 rfl rfl
theorem dX4_meatOf_0 : decode cX4_meatOf 0 = .ok (.aload_n 0, 1) := dk_42 (dk_at dksX4_meatOf_0 0 rfl rfl)
theorem dX4_meatOf_1 : decode cX4_meatOf 1 = .ok (.iconst 0, 1) := dk_3 (dk_at dksX4_meatOf_0 1 rfl rfl)
theorem dX4_meatOf_2 : decode cX4_meatOf 2 = .ok (.putfield 173, 3) := dk_181 0 173 (dk_at dksX4_meatOf_0 2 rfl rfl)
theorem dX4_meatOf_5 : decode cX4_meatOf 5 = .ok (.aload_n 0, 1) := dk_42 (dk_at dksX4_meatOf_0 5 rfl rfl)
theorem dX4_meatOf_6 : decode cX4_meatOf 6 = .ok (.iload_n 1, 1) := dk_27 (dk_at dksX4_meatOf_0 6 rfl rfl)
theorem dX4_meatOf_7 : decode cX4_meatOf 7 = .ok (.iload_n 2, 1) := dk_28 (dk_at dksX4_meatOf_0 7 rfl rfl)
theorem dX4_meatOf_8 : decode cX4_meatOf 8 = .ok (.iload_n 3, 1) := dk_29 (dk_at dksX4_meatOf_0 8 rfl rfl)
theorem dX4_meatOf_9 : decode cX4_meatOf 9 = .ok (.iload 4, 2) := dk_21 4 (dk_at dksX4_meatOf_0 9 rfl rfl)
theorem dX4_meatOf_11 : decode cX4_meatOf 11 = .ok (.invokevirtual 452, 3) := dk_182 1 196 (dk_at dksX4_meatOf_0 11 rfl rfl)
theorem dX4_meatOf_14 : decode cX4_meatOf 14 = .ok (.ifCond .eq 22, 3) := dk_153 0 22 (dk_at dksX4_meatOf_0 14 rfl rfl)
theorem dX4_meatOf_17 : decode cX4_meatOf 17 = .ok (.aload_n 0, 1) := dk_42 (dk_at dksX4_meatOf_0 17 rfl rfl)
theorem dX4_meatOf_18 : decode cX4_meatOf 18 = .ok (.getfield 46, 3) := dk_180 0 46 (dk_at dksX4_meatOf_0 18 rfl rfl)
theorem dX4_meatOf_21 : decode cX4_meatOf 21 = .ok (.iload_n 1, 1) := dk_27 (dk_at dksX4_meatOf_0 21 rfl rfl)
theorem dX4_meatOf_22 : decode cX4_meatOf 22 = .ok (.iaload, 1) := dk_46 (dk_at dksX4_meatOf_0 22 rfl rfl)
theorem dX4_meatOf_23 : decode cX4_meatOf 23 = .ok (.aload_n 0, 1) := dk_42 (dk_at dksX4_meatOf_0 23 rfl rfl)
theorem dX4_meatOf_24 : decode cX4_meatOf 24 = .ok (.iload_n 1, 1) := dk_27 (dk_at dksX4_meatOf_1 0 rfl rfl)
theorem dX4_meatOf_25 : decode cX4_meatOf 25 = .ok (.iload_n 2, 1) := dk_28 (dk_at dksX4_meatOf_1 1 rfl rfl)
theorem dX4_meatOf_26 : decode cX4_meatOf 26 = .ok (.iload_n 3, 1) := dk_29 (dk_at dksX4_meatOf_1 2 rfl rfl)
theorem dX4_meatOf_27 : decode cX4_meatOf 27 = .ok (.iload 4, 2) := dk_21 4 (dk_at dksX4_meatOf_1 3 rfl rfl)
theorem dX4_meatOf_29 : decode cX4_meatOf 29 = .ok (.invokevirtual 462, 3) := dk_182 1 206 (dk_at dksX4_meatOf_1 5 rfl rfl)
theorem dX4_meatOf_32 : decode cX4_meatOf 32 = .ok (.imul, 1) := dk_104 (dk_at dksX4_meatOf_1 8 rfl rfl)
theorem dX4_meatOf_33 : decode cX4_meatOf 33 = .ok (.goto 5, 3) := dk_167 0 5 (dk_at dksX4_meatOf_1 9 rfl rfl)
theorem dX4_meatOf_36 : decode cX4_meatOf 36 = .ok (.bipush (-2), 2) := dk_16 254 (dk_at dksX4_meatOf_1 12 rfl rfl)
theorem dX4_meatOf_38 : decode cX4_meatOf 38 = .ok (.ireturn, 1) := dk_172 (dk_at dksX4_meatOf_1 14 rfl rfl)
abbrev cX4_beastsOf : ByteArray := prog_20_method_67_code
def yX4_beastsOf : MethodName := ⟨RX4, "beastsOf", "(IIII)I"⟩
def dkwX4_beastsOf_3 : List UInt8 := [167, 255, 231, 21, 5, 172]
abbrev dktX4_beastsOf_3 : List UInt8 := dkwX4_beastsOf_3 ++ []
def dkwX4_beastsOf_2 : List UInt8 := [17, 0, 200, 162, 0, 23, 42, 180, 0, 137, 21, 6, 42, 180, 0, 149, 21, 6, 46, 79, 132, 6, 1]
abbrev dktX4_beastsOf_2 : List UInt8 := dkwX4_beastsOf_2 ++ dktX4_beastsOf_3
def dkwX4_beastsOf_1 : List UInt8 := [79, 132, 5, 1, 167, 255, 231, 42, 27, 28, 29, 21, 4, 182, 1, 192, 54, 5, 3, 54, 6, 21, 6]
abbrev dktX4_beastsOf_1 : List UInt8 := dkwX4_beastsOf_1 ++ dktX4_beastsOf_2
def dkwX4_beastsOf_0 : List UInt8 := [3, 54, 5, 21, 5, 17, 0, 200, 162, 0, 23, 42, 180, 0, 149, 21, 5, 42, 180, 0, 137, 21, 5, 46]
abbrev dktX4_beastsOf_0 : List UInt8 := dkwX4_beastsOf_0 ++ dktX4_beastsOf_1
theorem dksX4_beastsOf_0 : cX4_beastsOf.data.toList.drop 0 = dktX4_beastsOf_0 := by decide +kernel
theorem dksX4_beastsOf_1 : cX4_beastsOf.data.toList.drop 24 = dktX4_beastsOf_1 := dk_seg dksX4_beastsOf_0 24 rfl rfl
theorem dksX4_beastsOf_2 : cX4_beastsOf.data.toList.drop 47 = dktX4_beastsOf_2 := dk_seg dksX4_beastsOf_1 23 rfl rfl
theorem dksX4_beastsOf_3 : cX4_beastsOf.data.toList.drop 70 = dktX4_beastsOf_3 := dk_seg dksX4_beastsOf_2 23 rfl rfl
theorem dX4_beastsOf_0 : decode cX4_beastsOf 0 = .ok (.iconst 0, 1) := dk_3 (dk_at dksX4_beastsOf_0 0 rfl rfl)
theorem dX4_beastsOf_1 : decode cX4_beastsOf 1 = .ok (.istore 5, 2) := dk_54 5 (dk_at dksX4_beastsOf_0 1 rfl rfl)
theorem dX4_beastsOf_3 : decode cX4_beastsOf 3 = .ok (.iload 5, 2) := dk_21 5 (dk_at dksX4_beastsOf_0 3 rfl rfl)
theorem dX4_beastsOf_5 : decode cX4_beastsOf 5 = .ok (.sipush 200, 3) := dk_17 0 200 (dk_at dksX4_beastsOf_0 5 rfl rfl)
theorem dX4_beastsOf_8 : decode cX4_beastsOf 8 = .ok (.if_icmp .ge 23, 3) := dk_162 0 23 (dk_at dksX4_beastsOf_0 8 rfl rfl)
theorem dX4_beastsOf_11 : decode cX4_beastsOf 11 = .ok (.aload_n 0, 1) := dk_42 (dk_at dksX4_beastsOf_0 11 rfl rfl)
theorem dX4_beastsOf_12 : decode cX4_beastsOf 12 = .ok (.getfield 149, 3) := dk_180 0 149 (dk_at dksX4_beastsOf_0 12 rfl rfl)
theorem dX4_beastsOf_15 : decode cX4_beastsOf 15 = .ok (.iload 5, 2) := dk_21 5 (dk_at dksX4_beastsOf_0 15 rfl rfl)
theorem dX4_beastsOf_17 : decode cX4_beastsOf 17 = .ok (.aload_n 0, 1) := dk_42 (dk_at dksX4_beastsOf_0 17 rfl rfl)
theorem dX4_beastsOf_18 : decode cX4_beastsOf 18 = .ok (.getfield 137, 3) := dk_180 0 137 (dk_at dksX4_beastsOf_0 18 rfl rfl)
theorem dX4_beastsOf_21 : decode cX4_beastsOf 21 = .ok (.iload 5, 2) := dk_21 5 (dk_at dksX4_beastsOf_0 21 rfl rfl)
theorem dX4_beastsOf_23 : decode cX4_beastsOf 23 = .ok (.iaload, 1) := dk_46 (dk_at dksX4_beastsOf_0 23 rfl rfl)
theorem dX4_beastsOf_24 : decode cX4_beastsOf 24 = .ok (.iastore, 1) := dk_79 (dk_at dksX4_beastsOf_1 0 rfl rfl)
theorem dX4_beastsOf_25 : decode cX4_beastsOf 25 = .ok (.iinc 5 1, 3) := dk_132 5 1 (dk_at dksX4_beastsOf_1 1 rfl rfl)
theorem dX4_beastsOf_28 : decode cX4_beastsOf 28 = .ok (.goto (-25), 3) := dk_167 255 231 (dk_at dksX4_beastsOf_1 4 rfl rfl)
theorem dX4_beastsOf_31 : decode cX4_beastsOf 31 = .ok (.aload_n 0, 1) := dk_42 (dk_at dksX4_beastsOf_1 7 rfl rfl)
theorem dX4_beastsOf_32 : decode cX4_beastsOf 32 = .ok (.iload_n 1, 1) := dk_27 (dk_at dksX4_beastsOf_1 8 rfl rfl)
theorem dX4_beastsOf_33 : decode cX4_beastsOf 33 = .ok (.iload_n 2, 1) := dk_28 (dk_at dksX4_beastsOf_1 9 rfl rfl)
theorem dX4_beastsOf_34 : decode cX4_beastsOf 34 = .ok (.iload_n 3, 1) := dk_29 (dk_at dksX4_beastsOf_1 10 rfl rfl)
theorem dX4_beastsOf_35 : decode cX4_beastsOf 35 = .ok (.iload 4, 2) := dk_21 4 (dk_at dksX4_beastsOf_1 11 rfl rfl)
theorem dX4_beastsOf_37 : decode cX4_beastsOf 37 = .ok (.invokevirtual 448, 3) := dk_182 1 192 (dk_at dksX4_beastsOf_1 13 rfl rfl)
theorem dX4_beastsOf_40 : decode cX4_beastsOf 40 = .ok (.istore 5, 2) := dk_54 5 (dk_at dksX4_beastsOf_1 16 rfl rfl)
theorem dX4_beastsOf_42 : decode cX4_beastsOf 42 = .ok (.iconst 0, 1) := dk_3 (dk_at dksX4_beastsOf_1 18 rfl rfl)
theorem dX4_beastsOf_43 : decode cX4_beastsOf 43 = .ok (.istore 6, 2) := dk_54 6 (dk_at dksX4_beastsOf_1 19 rfl rfl)
theorem dX4_beastsOf_45 : decode cX4_beastsOf 45 = .ok (.iload 6, 2) := dk_21 6 (dk_at dksX4_beastsOf_1 21 rfl rfl)
theorem dX4_beastsOf_47 : decode cX4_beastsOf 47 = .ok (.sipush 200, 3) := dk_17 0 200 (dk_at dksX4_beastsOf_2 0 rfl rfl)
theorem dX4_beastsOf_50 : decode cX4_beastsOf 50 = .ok (.if_icmp .ge 23, 3) := dk_162 0 23 (dk_at dksX4_beastsOf_2 3 rfl rfl)
theorem dX4_beastsOf_53 : decode cX4_beastsOf 53 = .ok (.aload_n 0, 1) := dk_42 (dk_at dksX4_beastsOf_2 6 rfl rfl)
theorem dX4_beastsOf_54 : decode cX4_beastsOf 54 = .ok (.getfield 137, 3) := dk_180 0 137 (dk_at dksX4_beastsOf_2 7 rfl rfl)
theorem dX4_beastsOf_57 : decode cX4_beastsOf 57 = .ok (.iload 6, 2) := dk_21 6 (dk_at dksX4_beastsOf_2 10 rfl rfl)
theorem dX4_beastsOf_59 : decode cX4_beastsOf 59 = .ok (.aload_n 0, 1) := dk_42 (dk_at dksX4_beastsOf_2 12 rfl rfl)
theorem dX4_beastsOf_60 : decode cX4_beastsOf 60 = .ok (.getfield 149, 3) := dk_180 0 149 (dk_at dksX4_beastsOf_2 13 rfl rfl)
theorem dX4_beastsOf_63 : decode cX4_beastsOf 63 = .ok (.iload 6, 2) := dk_21 6 (dk_at dksX4_beastsOf_2 16 rfl rfl)
theorem dX4_beastsOf_65 : decode cX4_beastsOf 65 = .ok (.iaload, 1) := dk_46 (dk_at dksX4_beastsOf_2 18 rfl rfl)
theorem dX4_beastsOf_66 : decode cX4_beastsOf 66 = .ok (.iastore, 1) := dk_79 (dk_at dksX4_beastsOf_2 19 rfl rfl)
theorem dX4_beastsOf_67 : decode cX4_beastsOf 67 = .ok (.iinc 6 1, 3) := dk_132 6 1 (dk_at dksX4_beastsOf_2 20 rfl rfl)
theorem dX4_beastsOf_70 : decode cX4_beastsOf 70 = .ok (.goto (-25), 3) := dk_167 255 231 (dk_at dksX4_beastsOf_3 0 rfl rfl)
theorem dX4_beastsOf_73 : decode cX4_beastsOf 73 = .ok (.iload 5, 2) := dk_21 5 (dk_at dksX4_beastsOf_3 3 rfl rfl)
theorem dX4_beastsOf_75 : decode cX4_beastsOf 75 = .ok (.ireturn, 1) := dk_172 (dk_at dksX4_beastsOf_3 5 rfl rfl)
abbrev cX4_age : ByteArray := prog_20_method_74_code
def yX4_age : MethodName := ⟨RX4, "age", "(III)I"⟩
def dkwX4_age_3 : List UInt8 := [154, 0, 10, 42, 180, 1, 209, 167, 0, 7, 42, 180, 1, 212, 172]
abbrev dktX4_age_3 : List UInt8 := dkwX4_age_3 ++ []
def dkwX4_age_2 : List UInt8 := [21, 4, 2, 159, 0, 16, 42, 27, 21, 4, 16, 100, 112, 182, 1, 215, 154, 0, 5, 2, 172, 29]
abbrev dktX4_age_2 : List UInt8 := dkwX4_age_2 ++ dktX4_age_3
def dkwX4_age_1 : List UInt8 := [10, 184, 0, 178, 154, 0, 6, 16, 254, 172, 42, 180, 0, 94, 17, 0, 200, 28, 104, 27, 96, 46, 54, 4]
abbrev dktX4_age_1 : List UInt8 := dkwX4_age_1 ++ dktX4_age_2
def dkwX4_age_0 : List UInt8 := [42, 3, 181, 0, 173, 42, 27, 182, 0, 252, 153, 0, 21, 42, 28, 182, 1, 158, 153, 0, 13, 29, 133, 9]
abbrev dktX4_age_0 : List UInt8 := dkwX4_age_0 ++ dktX4_age_1
theorem dksX4_age_0 : cX4_age.data.toList.drop 0 = dktX4_age_0 := by decide +kernel
theorem dksX4_age_1 : cX4_age.data.toList.drop 24 = dktX4_age_1 := dk_seg dksX4_age_0 24 rfl rfl
theorem dksX4_age_2 : cX4_age.data.toList.drop 48 = dktX4_age_2 := dk_seg dksX4_age_1 24 rfl rfl
theorem dksX4_age_3 : cX4_age.data.toList.drop 70 = dktX4_age_3 := dk_seg dksX4_age_2 22 rfl rfl
theorem dX4_age_0 : decode cX4_age 0 = .ok (.aload_n 0, 1) := dk_42 (dk_at dksX4_age_0 0 rfl rfl)
theorem dX4_age_1 : decode cX4_age 1 = .ok (.iconst 0, 1) := dk_3 (dk_at dksX4_age_0 1 rfl rfl)
theorem dX4_age_2 : decode cX4_age 2 = .ok (.putfield 173, 3) := dk_181 0 173 (dk_at dksX4_age_0 2 rfl rfl)
theorem dX4_age_5 : decode cX4_age 5 = .ok (.aload_n 0, 1) := dk_42 (dk_at dksX4_age_0 5 rfl rfl)
theorem dX4_age_6 : decode cX4_age 6 = .ok (.iload_n 1, 1) := dk_27 (dk_at dksX4_age_0 6 rfl rfl)
theorem dX4_age_7 : decode cX4_age 7 = .ok (.invokevirtual 252, 3) := dk_182 0 252 (dk_at dksX4_age_0 7 rfl rfl)
theorem dX4_age_10 : decode cX4_age 10 = .ok (.ifCond .eq 21, 3) := dk_153 0 21 (dk_at dksX4_age_0 10 rfl rfl)
theorem dX4_age_13 : decode cX4_age 13 = .ok (.aload_n 0, 1) := dk_42 (dk_at dksX4_age_0 13 rfl rfl)
theorem dX4_age_14 : decode cX4_age 14 = .ok (.iload_n 2, 1) := dk_28 (dk_at dksX4_age_0 14 rfl rfl)
theorem dX4_age_15 : decode cX4_age 15 = .ok (.invokevirtual 414, 3) := dk_182 1 158 (dk_at dksX4_age_0 15 rfl rfl)
theorem dX4_age_18 : decode cX4_age 18 = .ok (.ifCond .eq 13, 3) := dk_153 0 13 (dk_at dksX4_age_0 18 rfl rfl)
theorem dX4_age_21 : decode cX4_age 21 = .ok (.iload_n 3, 1) := dk_29 (dk_at dksX4_age_0 21 rfl rfl)
theorem dX4_age_22 : decode cX4_age 22 = .ok (.i2l, 1) := dk_133 (dk_at dksX4_age_0 22 rfl rfl)
theorem dX4_age_23 : decode cX4_age 23 = .ok (.lconst 0, 1) := dk_9 (dk_at dksX4_age_0 23 rfl rfl)
theorem dX4_age_24 : decode cX4_age 24 = .ok (.lconst 1, 1) := dk_10 (dk_at dksX4_age_1 0 rfl rfl)
theorem dX4_age_25 : decode cX4_age 25 = .ok (.invokestatic 178, 3) := dk_184 0 178 (dk_at dksX4_age_1 1 rfl rfl)
theorem dX4_age_28 : decode cX4_age 28 = .ok (.ifCond .ne 6, 3) := dk_154 0 6 (dk_at dksX4_age_1 4 rfl rfl)
theorem dX4_age_31 : decode cX4_age 31 = .ok (.bipush (-2), 2) := dk_16 254 (dk_at dksX4_age_1 7 rfl rfl)
theorem dX4_age_33 : decode cX4_age 33 = .ok (.ireturn, 1) := dk_172 (dk_at dksX4_age_1 9 rfl rfl)
theorem dX4_age_34 : decode cX4_age 34 = .ok (.aload_n 0, 1) := dk_42 (dk_at dksX4_age_1 10 rfl rfl)
theorem dX4_age_35 : decode cX4_age 35 = .ok (.getfield 94, 3) := dk_180 0 94 (dk_at dksX4_age_1 11 rfl rfl)
theorem dX4_age_38 : decode cX4_age 38 = .ok (.sipush 200, 3) := dk_17 0 200 (dk_at dksX4_age_1 14 rfl rfl)
theorem dX4_age_41 : decode cX4_age 41 = .ok (.iload_n 2, 1) := dk_28 (dk_at dksX4_age_1 17 rfl rfl)
theorem dX4_age_42 : decode cX4_age 42 = .ok (.imul, 1) := dk_104 (dk_at dksX4_age_1 18 rfl rfl)
theorem dX4_age_43 : decode cX4_age 43 = .ok (.iload_n 1, 1) := dk_27 (dk_at dksX4_age_1 19 rfl rfl)
theorem dX4_age_44 : decode cX4_age 44 = .ok (.iadd, 1) := dk_96 (dk_at dksX4_age_1 20 rfl rfl)
theorem dX4_age_45 : decode cX4_age 45 = .ok (.iaload, 1) := dk_46 (dk_at dksX4_age_1 21 rfl rfl)
theorem dX4_age_46 : decode cX4_age 46 = .ok (.istore 4, 2) := dk_54 4 (dk_at dksX4_age_1 22 rfl rfl)
theorem dX4_age_48 : decode cX4_age 48 = .ok (.iload 4, 2) := dk_21 4 (dk_at dksX4_age_2 0 rfl rfl)
theorem dX4_age_50 : decode cX4_age 50 = .ok (.iconst (-1), 1) := dk_2 (dk_at dksX4_age_2 2 rfl rfl)
theorem dX4_age_51 : decode cX4_age 51 = .ok (.if_icmp .eq 16, 3) := dk_159 0 16 (dk_at dksX4_age_2 3 rfl rfl)
theorem dX4_age_54 : decode cX4_age 54 = .ok (.aload_n 0, 1) := dk_42 (dk_at dksX4_age_2 6 rfl rfl)
theorem dX4_age_55 : decode cX4_age 55 = .ok (.iload_n 1, 1) := dk_27 (dk_at dksX4_age_2 7 rfl rfl)
theorem dX4_age_56 : decode cX4_age 56 = .ok (.iload 4, 2) := dk_21 4 (dk_at dksX4_age_2 8 rfl rfl)
theorem dX4_age_58 : decode cX4_age 58 = .ok (.bipush 100, 2) := dk_16 100 (dk_at dksX4_age_2 10 rfl rfl)
theorem dX4_age_60 : decode cX4_age 60 = .ok (.irem, 1) := dk_112 (dk_at dksX4_age_2 12 rfl rfl)
theorem dX4_age_61 : decode cX4_age 61 = .ok (.invokevirtual 471, 3) := dk_182 1 215 (dk_at dksX4_age_2 13 rfl rfl)
theorem dX4_age_64 : decode cX4_age 64 = .ok (.ifCond .ne 5, 3) := dk_154 0 5 (dk_at dksX4_age_2 16 rfl rfl)
theorem dX4_age_67 : decode cX4_age 67 = .ok (.iconst (-1), 1) := dk_2 (dk_at dksX4_age_2 19 rfl rfl)
theorem dX4_age_68 : decode cX4_age 68 = .ok (.ireturn, 1) := dk_172 (dk_at dksX4_age_2 20 rfl rfl)
theorem dX4_age_69 : decode cX4_age 69 = .ok (.iload_n 3, 1) := dk_29 (dk_at dksX4_age_2 21 rfl rfl)
theorem dX4_age_70 : decode cX4_age 70 = .ok (.ifCond .ne 10, 3) := dk_154 0 10 (dk_at dksX4_age_3 0 rfl rfl)
theorem dX4_age_73 : decode cX4_age 73 = .ok (.aload_n 0, 1) := dk_42 (dk_at dksX4_age_3 3 rfl rfl)
theorem dX4_age_74 : decode cX4_age 74 = .ok (.getfield 465, 3) := dk_180 1 209 (dk_at dksX4_age_3 4 rfl rfl)
theorem dX4_age_77 : decode cX4_age 77 = .ok (.goto 7, 3) := dk_167 0 7 (dk_at dksX4_age_3 7 rfl rfl)
theorem dX4_age_80 : decode cX4_age 80 = .ok (.aload_n 0, 1) := dk_42 (dk_at dksX4_age_3 10 rfl rfl)
theorem dX4_age_81 : decode cX4_age 81 = .ok (.getfield 468, 3) := dk_180 1 212 (dk_at dksX4_age_3 11 rfl rfl)
theorem dX4_age_84 : decode cX4_age 84 = .ok (.ireturn, 1) := dk_172 (dk_at dksX4_age_3 14 rfl rfl)
abbrev cX4_months : ByteArray := prog_20_method_73_code
def yX4_months : MethodName := ⟨RX4, "months", "(II)Z"⟩
def dkwX4_months_5 : List UInt8 := [181, 1, 212, 42, 180, 1, 209, 42, 180, 1, 212, 163, 0, 7, 4, 167, 0, 4, 3, 172]
abbrev dktX4_months_5 : List UInt8 := dkwX4_months_5 ++ []
def dkwX4_months_4 : List UInt8 := [181, 1, 209, 42, 42, 180, 1, 212, 16, 12, 42, 180, 0, 82, 27, 46, 104, 16, 12, 96, 184, 0, 235]
abbrev dktX4_months_4 : List UInt8 := dkwX4_months_4 ++ dktX4_months_5
def dkwX4_months_3 : List UInt8 := [27, 46, 2, 159, 0, 46, 42, 42, 180, 1, 209, 16, 6, 42, 180, 0, 82, 27, 46, 104, 184, 0, 229]
abbrev dktX4_months_3 : List UInt8 := dkwX4_months_3 ++ dktX4_months_4
def dkwX4_months_2 : List UInt8 := [160, 0, 20, 42, 42, 180, 1, 209, 42, 180, 0, 40, 28, 46, 184, 0, 229, 181, 1, 209, 42, 180, 0, 82]
abbrev dktX4_months_2 : List UInt8 := dkwX4_months_2 ++ dktX4_months_3
def dkwX4_months_1 : List UInt8 := [180, 1, 212, 42, 180, 0, 43, 28, 46, 184, 0, 235, 181, 1, 212, 42, 180, 0, 79, 27, 46, 4]
abbrev dktX4_months_1 : List UInt8 := dkwX4_months_1 ++ dktX4_months_2
def dkwX4_months_0 : List UInt8 := [42, 3, 181, 1, 209, 42, 17, 0, 200, 181, 1, 212, 42, 180, 0, 79, 27, 46, 154, 0, 20, 42, 42]
abbrev dktX4_months_0 : List UInt8 := dkwX4_months_0 ++ dktX4_months_1
theorem dksX4_months_0 : cX4_months.data.toList.drop 0 = dktX4_months_0 := by decide +kernel
theorem dksX4_months_1 : cX4_months.data.toList.drop 23 = dktX4_months_1 := dk_seg dksX4_months_0 23 rfl rfl
theorem dksX4_months_2 : cX4_months.data.toList.drop 45 = dktX4_months_2 := dk_seg dksX4_months_1 22 rfl rfl
theorem dksX4_months_3 : cX4_months.data.toList.drop 69 = dktX4_months_3 := dk_seg dksX4_months_2 24 rfl rfl
theorem dksX4_months_4 : cX4_months.data.toList.drop 92 = dktX4_months_4 := dk_seg dksX4_months_3 23 rfl rfl
theorem dksX4_months_5 : cX4_months.data.toList.drop 115 = dktX4_months_5 := dk_seg dksX4_months_4 23 rfl rfl
theorem dX4_months_0 : decode cX4_months 0 = .ok (.aload_n 0, 1) := dk_42 (dk_at dksX4_months_0 0 rfl rfl)
theorem dX4_months_1 : decode cX4_months 1 = .ok (.iconst 0, 1) := dk_3 (dk_at dksX4_months_0 1 rfl rfl)
theorem dX4_months_2 : decode cX4_months 2 = .ok (.putfield 465, 3) := dk_181 1 209 (dk_at dksX4_months_0 2 rfl rfl)
theorem dX4_months_5 : decode cX4_months 5 = .ok (.aload_n 0, 1) := dk_42 (dk_at dksX4_months_0 5 rfl rfl)
theorem dX4_months_6 : decode cX4_months 6 = .ok (.sipush 200, 3) := dk_17 0 200 (dk_at dksX4_months_0 6 rfl rfl)
theorem dX4_months_9 : decode cX4_months 9 = .ok (.putfield 468, 3) := dk_181 1 212 (dk_at dksX4_months_0 9 rfl rfl)
theorem dX4_months_12 : decode cX4_months 12 = .ok (.aload_n 0, 1) := dk_42 (dk_at dksX4_months_0 12 rfl rfl)
theorem dX4_months_13 : decode cX4_months 13 = .ok (.getfield 79, 3) := dk_180 0 79 (dk_at dksX4_months_0 13 rfl rfl)
theorem dX4_months_16 : decode cX4_months 16 = .ok (.iload_n 1, 1) := dk_27 (dk_at dksX4_months_0 16 rfl rfl)
theorem dX4_months_17 : decode cX4_months 17 = .ok (.iaload, 1) := dk_46 (dk_at dksX4_months_0 17 rfl rfl)
theorem dX4_months_18 : decode cX4_months 18 = .ok (.ifCond .ne 20, 3) := dk_154 0 20 (dk_at dksX4_months_0 18 rfl rfl)
theorem dX4_months_21 : decode cX4_months 21 = .ok (.aload_n 0, 1) := dk_42 (dk_at dksX4_months_0 21 rfl rfl)
theorem dX4_months_22 : decode cX4_months 22 = .ok (.aload_n 0, 1) := dk_42 (dk_at dksX4_months_0 22 rfl rfl)
theorem dX4_months_23 : decode cX4_months 23 = .ok (.getfield 468, 3) := dk_180 1 212 (dk_at dksX4_months_1 0 rfl rfl)
theorem dX4_months_26 : decode cX4_months 26 = .ok (.aload_n 0, 1) := dk_42 (dk_at dksX4_months_1 3 rfl rfl)
theorem dX4_months_27 : decode cX4_months 27 = .ok (.getfield 43, 3) := dk_180 0 43 (dk_at dksX4_months_1 4 rfl rfl)
theorem dX4_months_30 : decode cX4_months 30 = .ok (.iload_n 2, 1) := dk_28 (dk_at dksX4_months_1 7 rfl rfl)
theorem dX4_months_31 : decode cX4_months 31 = .ok (.iaload, 1) := dk_46 (dk_at dksX4_months_1 8 rfl rfl)
theorem dX4_months_32 : decode cX4_months 32 = .ok (.invokestatic 235, 3) := dk_184 0 235 (dk_at dksX4_months_1 9 rfl rfl)
theorem dX4_months_35 : decode cX4_months 35 = .ok (.putfield 468, 3) := dk_181 1 212 (dk_at dksX4_months_1 12 rfl rfl)
theorem dX4_months_38 : decode cX4_months 38 = .ok (.aload_n 0, 1) := dk_42 (dk_at dksX4_months_1 15 rfl rfl)
theorem dX4_months_39 : decode cX4_months 39 = .ok (.getfield 79, 3) := dk_180 0 79 (dk_at dksX4_months_1 16 rfl rfl)
theorem dX4_months_42 : decode cX4_months 42 = .ok (.iload_n 1, 1) := dk_27 (dk_at dksX4_months_1 19 rfl rfl)
theorem dX4_months_43 : decode cX4_months 43 = .ok (.iaload, 1) := dk_46 (dk_at dksX4_months_1 20 rfl rfl)
theorem dX4_months_44 : decode cX4_months 44 = .ok (.iconst 1, 1) := dk_4 (dk_at dksX4_months_1 21 rfl rfl)
theorem dX4_months_45 : decode cX4_months 45 = .ok (.if_icmp .ne 20, 3) := dk_160 0 20 (dk_at dksX4_months_2 0 rfl rfl)
theorem dX4_months_48 : decode cX4_months 48 = .ok (.aload_n 0, 1) := dk_42 (dk_at dksX4_months_2 3 rfl rfl)
theorem dX4_months_49 : decode cX4_months 49 = .ok (.aload_n 0, 1) := dk_42 (dk_at dksX4_months_2 4 rfl rfl)
theorem dX4_months_50 : decode cX4_months 50 = .ok (.getfield 465, 3) := dk_180 1 209 (dk_at dksX4_months_2 5 rfl rfl)
theorem dX4_months_53 : decode cX4_months 53 = .ok (.aload_n 0, 1) := dk_42 (dk_at dksX4_months_2 8 rfl rfl)
theorem dX4_months_54 : decode cX4_months 54 = .ok (.getfield 40, 3) := dk_180 0 40 (dk_at dksX4_months_2 9 rfl rfl)
theorem dX4_months_57 : decode cX4_months 57 = .ok (.iload_n 2, 1) := dk_28 (dk_at dksX4_months_2 12 rfl rfl)
theorem dX4_months_58 : decode cX4_months 58 = .ok (.iaload, 1) := dk_46 (dk_at dksX4_months_2 13 rfl rfl)
theorem dX4_months_59 : decode cX4_months 59 = .ok (.invokestatic 229, 3) := dk_184 0 229 (dk_at dksX4_months_2 14 rfl rfl)
theorem dX4_months_62 : decode cX4_months 62 = .ok (.putfield 465, 3) := dk_181 1 209 (dk_at dksX4_months_2 17 rfl rfl)
theorem dX4_months_65 : decode cX4_months 65 = .ok (.aload_n 0, 1) := dk_42 (dk_at dksX4_months_2 20 rfl rfl)
theorem dX4_months_66 : decode cX4_months 66 = .ok (.getfield 82, 3) := dk_180 0 82 (dk_at dksX4_months_2 21 rfl rfl)
theorem dX4_months_69 : decode cX4_months 69 = .ok (.iload_n 1, 1) := dk_27 (dk_at dksX4_months_3 0 rfl rfl)
theorem dX4_months_70 : decode cX4_months 70 = .ok (.iaload, 1) := dk_46 (dk_at dksX4_months_3 1 rfl rfl)
theorem dX4_months_71 : decode cX4_months 71 = .ok (.iconst (-1), 1) := dk_2 (dk_at dksX4_months_3 2 rfl rfl)
theorem dX4_months_72 : decode cX4_months 72 = .ok (.if_icmp .eq 46, 3) := dk_159 0 46 (dk_at dksX4_months_3 3 rfl rfl)
theorem dX4_months_75 : decode cX4_months 75 = .ok (.aload_n 0, 1) := dk_42 (dk_at dksX4_months_3 6 rfl rfl)
theorem dX4_months_76 : decode cX4_months 76 = .ok (.aload_n 0, 1) := dk_42 (dk_at dksX4_months_3 7 rfl rfl)
theorem dX4_months_77 : decode cX4_months 77 = .ok (.getfield 465, 3) := dk_180 1 209 (dk_at dksX4_months_3 8 rfl rfl)
theorem dX4_months_80 : decode cX4_months 80 = .ok (.bipush 6, 2) := dk_16 6 (dk_at dksX4_months_3 11 rfl rfl)
theorem dX4_months_82 : decode cX4_months 82 = .ok (.aload_n 0, 1) := dk_42 (dk_at dksX4_months_3 13 rfl rfl)
theorem dX4_months_83 : decode cX4_months 83 = .ok (.getfield 82, 3) := dk_180 0 82 (dk_at dksX4_months_3 14 rfl rfl)
theorem dX4_months_86 : decode cX4_months 86 = .ok (.iload_n 1, 1) := dk_27 (dk_at dksX4_months_3 17 rfl rfl)
theorem dX4_months_87 : decode cX4_months 87 = .ok (.iaload, 1) := dk_46 (dk_at dksX4_months_3 18 rfl rfl)
theorem dX4_months_88 : decode cX4_months 88 = .ok (.imul, 1) := dk_104 (dk_at dksX4_months_3 19 rfl rfl)
theorem dX4_months_89 : decode cX4_months 89 = .ok (.invokestatic 229, 3) := dk_184 0 229 (dk_at dksX4_months_3 20 rfl rfl)
theorem dX4_months_92 : decode cX4_months 92 = .ok (.putfield 465, 3) := dk_181 1 209 (dk_at dksX4_months_4 0 rfl rfl)
theorem dX4_months_95 : decode cX4_months 95 = .ok (.aload_n 0, 1) := dk_42 (dk_at dksX4_months_4 3 rfl rfl)
theorem dX4_months_96 : decode cX4_months 96 = .ok (.aload_n 0, 1) := dk_42 (dk_at dksX4_months_4 4 rfl rfl)
theorem dX4_months_97 : decode cX4_months 97 = .ok (.getfield 468, 3) := dk_180 1 212 (dk_at dksX4_months_4 5 rfl rfl)
theorem dX4_months_100 : decode cX4_months 100 = .ok (.bipush 12, 2) := dk_16 12 (dk_at dksX4_months_4 8 rfl rfl)
theorem dX4_months_102 : decode cX4_months 102 = .ok (.aload_n 0, 1) := dk_42 (dk_at dksX4_months_4 10 rfl rfl)
theorem dX4_months_103 : decode cX4_months 103 = .ok (.getfield 82, 3) := dk_180 0 82 (dk_at dksX4_months_4 11 rfl rfl)
theorem dX4_months_106 : decode cX4_months 106 = .ok (.iload_n 1, 1) := dk_27 (dk_at dksX4_months_4 14 rfl rfl)
theorem dX4_months_107 : decode cX4_months 107 = .ok (.iaload, 1) := dk_46 (dk_at dksX4_months_4 15 rfl rfl)
theorem dX4_months_108 : decode cX4_months 108 = .ok (.imul, 1) := dk_104 (dk_at dksX4_months_4 16 rfl rfl)
theorem dX4_months_109 : decode cX4_months 109 = .ok (.bipush 12, 2) := dk_16 12 (dk_at dksX4_months_4 17 rfl rfl)
theorem dX4_months_111 : decode cX4_months 111 = .ok (.iadd, 1) := dk_96 (dk_at dksX4_months_4 19 rfl rfl)
theorem dX4_months_112 : decode cX4_months 112 = .ok (.invokestatic 235, 3) := dk_184 0 235 (dk_at dksX4_months_4 20 rfl rfl)
theorem dX4_months_115 : decode cX4_months 115 = .ok (.putfield 468, 3) := dk_181 1 212 (dk_at dksX4_months_5 0 rfl rfl)
theorem dX4_months_118 : decode cX4_months 118 = .ok (.aload_n 0, 1) := dk_42 (dk_at dksX4_months_5 3 rfl rfl)
theorem dX4_months_119 : decode cX4_months 119 = .ok (.getfield 465, 3) := dk_180 1 209 (dk_at dksX4_months_5 4 rfl rfl)
theorem dX4_months_122 : decode cX4_months 122 = .ok (.aload_n 0, 1) := dk_42 (dk_at dksX4_months_5 7 rfl rfl)
theorem dX4_months_123 : decode cX4_months 123 = .ok (.getfield 468, 3) := dk_180 1 212 (dk_at dksX4_months_5 8 rfl rfl)
theorem dX4_months_126 : decode cX4_months 126 = .ok (.if_icmp .gt 7, 3) := dk_163 0 7 (dk_at dksX4_months_5 11 rfl rfl)
theorem dX4_months_129 : decode cX4_months 129 = .ok (.iconst 1, 1) := dk_4 (dk_at dksX4_months_5 14 rfl rfl)
theorem dX4_months_130 : decode cX4_months 130 = .ok (.goto 4, 3) := dk_167 0 4 (dk_at dksX4_months_5 15 rfl rfl)
theorem dX4_months_133 : decode cX4_months 133 = .ok (.iconst 0, 1) := dk_3 (dk_at dksX4_months_5 18 rfl rfl)
theorem dX4_months_134 : decode cX4_months 134 = .ok (.ireturn, 1) := dk_172 (dk_at dksX4_months_5 19 rfl rfl)
abbrev cX4_ages : ByteArray := prog_20_method_76_code
def yX4_ages : MethodName := ⟨RX4, "ages", "(I)I"⟩
def dkwX4_ages_5 : List UInt8 := [167, 255, 229, 3, 172]
abbrev dktX4_ages_5 : List UInt8 := dkwX4_ages_5 ++ []
def dkwX4_ages_4 : List UInt8 := [162, 0, 27, 42, 180, 0, 88, 29, 42, 180, 0, 16, 16, 60, 27, 104, 29, 96, 47, 136, 79, 132, 3, 1]
abbrev dktX4_ages_4 : List UInt8 := dkwX4_ages_4 ++ dktX4_ages_5
def dkwX4_ages_3 : List UInt8 := [20, 0, 196, 184, 0, 178, 154, 0, 6, 16, 252, 172, 132, 3, 1, 167, 255, 193, 3, 62, 29, 16, 8]
abbrev dktX4_ages_3 : List UInt8 := dkwX4_ages_3 ++ dktX4_ages_4
def dkwX4_ages_2 : List UInt8 := [180, 0, 16, 16, 60, 27, 104, 29, 96, 4, 100, 47, 10, 97, 29, 154, 0, 7, 9, 167, 0, 6]
abbrev dktX4_ages_2 : List UInt8 := dkwX4_ages_2 ++ dktX4_ages_3
def dkwX4_ages_1 : List UInt8 := [162, 0, 63, 42, 180, 0, 16, 16, 60, 27, 104, 29, 96, 47, 29, 154, 0, 7, 9, 167, 0, 18, 42]
abbrev dktX4_ages_1 : List UInt8 := dkwX4_ages_1 ++ dktX4_ages_2
def dkwX4_ages_0 : List UInt8 := [42, 3, 181, 0, 173, 42, 27, 182, 1, 218, 61, 28, 156, 0, 5, 28, 172, 3, 62, 29, 16, 8]
abbrev dktX4_ages_0 : List UInt8 := dkwX4_ages_0 ++ dktX4_ages_1
theorem dksX4_ages_0 : cX4_ages.data.toList.drop 0 = dktX4_ages_0 := by decide +kernel
theorem dksX4_ages_1 : cX4_ages.data.toList.drop 22 = dktX4_ages_1 := dk_seg dksX4_ages_0 22 rfl rfl
theorem dksX4_ages_2 : cX4_ages.data.toList.drop 45 = dktX4_ages_2 := dk_seg dksX4_ages_1 23 rfl rfl
theorem dksX4_ages_3 : cX4_ages.data.toList.drop 67 = dktX4_ages_3 := dk_seg dksX4_ages_2 22 rfl rfl
theorem dksX4_ages_4 : cX4_ages.data.toList.drop 90 = dktX4_ages_4 := dk_seg dksX4_ages_3 23 rfl rfl
theorem dksX4_ages_5 : cX4_ages.data.toList.drop 114 = dktX4_ages_5 := dk_seg dksX4_ages_4 24 rfl rfl
theorem dX4_ages_0 : decode cX4_ages 0 = .ok (.aload_n 0, 1) := dk_42 (dk_at dksX4_ages_0 0 rfl rfl)
theorem dX4_ages_1 : decode cX4_ages 1 = .ok (.iconst 0, 1) := dk_3 (dk_at dksX4_ages_0 1 rfl rfl)
theorem dX4_ages_2 : decode cX4_ages 2 = .ok (.putfield 173, 3) := dk_181 0 173 (dk_at dksX4_ages_0 2 rfl rfl)
theorem dX4_ages_5 : decode cX4_ages 5 = .ok (.aload_n 0, 1) := dk_42 (dk_at dksX4_ages_0 5 rfl rfl)
theorem dX4_ages_6 : decode cX4_ages 6 = .ok (.iload_n 1, 1) := dk_27 (dk_at dksX4_ages_0 6 rfl rfl)
theorem dX4_ages_7 : decode cX4_ages 7 = .ok (.invokevirtual 474, 3) := dk_182 1 218 (dk_at dksX4_ages_0 7 rfl rfl)
theorem dX4_ages_10 : decode cX4_ages 10 = .ok (.istore_n 2, 1) := dk_61 (dk_at dksX4_ages_0 10 rfl rfl)
theorem dX4_ages_11 : decode cX4_ages 11 = .ok (.iload_n 2, 1) := dk_28 (dk_at dksX4_ages_0 11 rfl rfl)
theorem dX4_ages_12 : decode cX4_ages 12 = .ok (.ifCond .ge 5, 3) := dk_156 0 5 (dk_at dksX4_ages_0 12 rfl rfl)
theorem dX4_ages_15 : decode cX4_ages 15 = .ok (.iload_n 2, 1) := dk_28 (dk_at dksX4_ages_0 15 rfl rfl)
theorem dX4_ages_16 : decode cX4_ages 16 = .ok (.ireturn, 1) := dk_172 (dk_at dksX4_ages_0 16 rfl rfl)
theorem dX4_ages_17 : decode cX4_ages 17 = .ok (.iconst 0, 1) := dk_3 (dk_at dksX4_ages_0 17 rfl rfl)
theorem dX4_ages_18 : decode cX4_ages 18 = .ok (.istore_n 3, 1) := dk_62 (dk_at dksX4_ages_0 18 rfl rfl)
theorem dX4_ages_19 : decode cX4_ages 19 = .ok (.iload_n 3, 1) := dk_29 (dk_at dksX4_ages_0 19 rfl rfl)
theorem dX4_ages_20 : decode cX4_ages 20 = .ok (.bipush 8, 2) := dk_16 8 (dk_at dksX4_ages_0 20 rfl rfl)
theorem dX4_ages_22 : decode cX4_ages 22 = .ok (.if_icmp .ge 63, 3) := dk_162 0 63 (dk_at dksX4_ages_1 0 rfl rfl)
theorem dX4_ages_25 : decode cX4_ages 25 = .ok (.aload_n 0, 1) := dk_42 (dk_at dksX4_ages_1 3 rfl rfl)
theorem dX4_ages_26 : decode cX4_ages 26 = .ok (.getfield 16, 3) := dk_180 0 16 (dk_at dksX4_ages_1 4 rfl rfl)
theorem dX4_ages_29 : decode cX4_ages 29 = .ok (.bipush 60, 2) := dk_16 60 (dk_at dksX4_ages_1 7 rfl rfl)
theorem dX4_ages_31 : decode cX4_ages 31 = .ok (.iload_n 1, 1) := dk_27 (dk_at dksX4_ages_1 9 rfl rfl)
theorem dX4_ages_32 : decode cX4_ages 32 = .ok (.imul, 1) := dk_104 (dk_at dksX4_ages_1 10 rfl rfl)
theorem dX4_ages_33 : decode cX4_ages 33 = .ok (.iload_n 3, 1) := dk_29 (dk_at dksX4_ages_1 11 rfl rfl)
theorem dX4_ages_34 : decode cX4_ages 34 = .ok (.iadd, 1) := dk_96 (dk_at dksX4_ages_1 12 rfl rfl)
theorem dX4_ages_35 : decode cX4_ages 35 = .ok (.laload, 1) := dk_47 (dk_at dksX4_ages_1 13 rfl rfl)
theorem dX4_ages_36 : decode cX4_ages 36 = .ok (.iload_n 3, 1) := dk_29 (dk_at dksX4_ages_1 14 rfl rfl)
theorem dX4_ages_37 : decode cX4_ages 37 = .ok (.ifCond .ne 7, 3) := dk_154 0 7 (dk_at dksX4_ages_1 15 rfl rfl)
theorem dX4_ages_40 : decode cX4_ages 40 = .ok (.lconst 0, 1) := dk_9 (dk_at dksX4_ages_1 18 rfl rfl)
theorem dX4_ages_41 : decode cX4_ages 41 = .ok (.goto 18, 3) := dk_167 0 18 (dk_at dksX4_ages_1 19 rfl rfl)
theorem dX4_ages_44 : decode cX4_ages 44 = .ok (.aload_n 0, 1) := dk_42 (dk_at dksX4_ages_1 22 rfl rfl)
theorem dX4_ages_45 : decode cX4_ages 45 = .ok (.getfield 16, 3) := dk_180 0 16 (dk_at dksX4_ages_2 0 rfl rfl)
theorem dX4_ages_48 : decode cX4_ages 48 = .ok (.bipush 60, 2) := dk_16 60 (dk_at dksX4_ages_2 3 rfl rfl)
theorem dX4_ages_50 : decode cX4_ages 50 = .ok (.iload_n 1, 1) := dk_27 (dk_at dksX4_ages_2 5 rfl rfl)
theorem dX4_ages_51 : decode cX4_ages 51 = .ok (.imul, 1) := dk_104 (dk_at dksX4_ages_2 6 rfl rfl)
theorem dX4_ages_52 : decode cX4_ages 52 = .ok (.iload_n 3, 1) := dk_29 (dk_at dksX4_ages_2 7 rfl rfl)
theorem dX4_ages_53 : decode cX4_ages 53 = .ok (.iadd, 1) := dk_96 (dk_at dksX4_ages_2 8 rfl rfl)
theorem dX4_ages_54 : decode cX4_ages 54 = .ok (.iconst 1, 1) := dk_4 (dk_at dksX4_ages_2 9 rfl rfl)
theorem dX4_ages_55 : decode cX4_ages 55 = .ok (.isub, 1) := dk_100 (dk_at dksX4_ages_2 10 rfl rfl)
theorem dX4_ages_56 : decode cX4_ages 56 = .ok (.laload, 1) := dk_47 (dk_at dksX4_ages_2 11 rfl rfl)
theorem dX4_ages_57 : decode cX4_ages 57 = .ok (.lconst 1, 1) := dk_10 (dk_at dksX4_ages_2 12 rfl rfl)
theorem dX4_ages_58 : decode cX4_ages 58 = .ok (.ladd, 1) := dk_97 (dk_at dksX4_ages_2 13 rfl rfl)
theorem dX4_ages_59 : decode cX4_ages 59 = .ok (.iload_n 3, 1) := dk_29 (dk_at dksX4_ages_2 14 rfl rfl)
theorem dX4_ages_60 : decode cX4_ages 60 = .ok (.ifCond .ne 7, 3) := dk_154 0 7 (dk_at dksX4_ages_2 15 rfl rfl)
theorem dX4_ages_63 : decode cX4_ages 63 = .ok (.lconst 0, 1) := dk_9 (dk_at dksX4_ages_2 18 rfl rfl)
theorem dX4_ages_64 : decode cX4_ages 64 = .ok (.goto 6, 3) := dk_167 0 6 (dk_at dksX4_ages_2 19 rfl rfl)
theorem dX4_ages_67 : decode cX4_ages 67 = .ok (.ldc2_w 196, 3) := dk_20 0 196 (dk_at dksX4_ages_3 0 rfl rfl)
theorem dX4_ages_70 : decode cX4_ages 70 = .ok (.invokestatic 178, 3) := dk_184 0 178 (dk_at dksX4_ages_3 3 rfl rfl)
theorem dX4_ages_73 : decode cX4_ages 73 = .ok (.ifCond .ne 6, 3) := dk_154 0 6 (dk_at dksX4_ages_3 6 rfl rfl)
theorem dX4_ages_76 : decode cX4_ages 76 = .ok (.bipush (-4), 2) := dk_16 252 (dk_at dksX4_ages_3 9 rfl rfl)
theorem dX4_ages_78 : decode cX4_ages 78 = .ok (.ireturn, 1) := dk_172 (dk_at dksX4_ages_3 11 rfl rfl)
theorem dX4_ages_79 : decode cX4_ages 79 = .ok (.iinc 3 1, 3) := dk_132 3 1 (dk_at dksX4_ages_3 12 rfl rfl)
theorem dX4_ages_82 : decode cX4_ages 82 = .ok (.goto (-63), 3) := dk_167 255 193 (dk_at dksX4_ages_3 15 rfl rfl)
theorem dX4_ages_85 : decode cX4_ages 85 = .ok (.iconst 0, 1) := dk_3 (dk_at dksX4_ages_3 18 rfl rfl)
theorem dX4_ages_86 : decode cX4_ages 86 = .ok (.istore_n 3, 1) := dk_62 (dk_at dksX4_ages_3 19 rfl rfl)
theorem dX4_ages_87 : decode cX4_ages 87 = .ok (.iload_n 3, 1) := dk_29 (dk_at dksX4_ages_3 20 rfl rfl)
theorem dX4_ages_88 : decode cX4_ages 88 = .ok (.bipush 8, 2) := dk_16 8 (dk_at dksX4_ages_3 21 rfl rfl)
theorem dX4_ages_90 : decode cX4_ages 90 = .ok (.if_icmp .ge 27, 3) := dk_162 0 27 (dk_at dksX4_ages_4 0 rfl rfl)
theorem dX4_ages_93 : decode cX4_ages 93 = .ok (.aload_n 0, 1) := dk_42 (dk_at dksX4_ages_4 3 rfl rfl)
theorem dX4_ages_94 : decode cX4_ages 94 = .ok (.getfield 88, 3) := dk_180 0 88 (dk_at dksX4_ages_4 4 rfl rfl)
theorem dX4_ages_97 : decode cX4_ages 97 = .ok (.iload_n 3, 1) := dk_29 (dk_at dksX4_ages_4 7 rfl rfl)
theorem dX4_ages_98 : decode cX4_ages 98 = .ok (.aload_n 0, 1) := dk_42 (dk_at dksX4_ages_4 8 rfl rfl)
theorem dX4_ages_99 : decode cX4_ages 99 = .ok (.getfield 16, 3) := dk_180 0 16 (dk_at dksX4_ages_4 9 rfl rfl)
theorem dX4_ages_102 : decode cX4_ages 102 = .ok (.bipush 60, 2) := dk_16 60 (dk_at dksX4_ages_4 12 rfl rfl)
theorem dX4_ages_104 : decode cX4_ages 104 = .ok (.iload_n 1, 1) := dk_27 (dk_at dksX4_ages_4 14 rfl rfl)
theorem dX4_ages_105 : decode cX4_ages 105 = .ok (.imul, 1) := dk_104 (dk_at dksX4_ages_4 15 rfl rfl)
theorem dX4_ages_106 : decode cX4_ages 106 = .ok (.iload_n 3, 1) := dk_29 (dk_at dksX4_ages_4 16 rfl rfl)
theorem dX4_ages_107 : decode cX4_ages 107 = .ok (.iadd, 1) := dk_96 (dk_at dksX4_ages_4 17 rfl rfl)
theorem dX4_ages_108 : decode cX4_ages 108 = .ok (.laload, 1) := dk_47 (dk_at dksX4_ages_4 18 rfl rfl)
theorem dX4_ages_109 : decode cX4_ages 109 = .ok (.l2i, 1) := dk_136 (dk_at dksX4_ages_4 19 rfl rfl)
theorem dX4_ages_110 : decode cX4_ages 110 = .ok (.iastore, 1) := dk_79 (dk_at dksX4_ages_4 20 rfl rfl)
theorem dX4_ages_111 : decode cX4_ages 111 = .ok (.iinc 3 1, 3) := dk_132 3 1 (dk_at dksX4_ages_4 21 rfl rfl)
theorem dX4_ages_114 : decode cX4_ages 114 = .ok (.goto (-27), 3) := dk_167 255 229 (dk_at dksX4_ages_5 0 rfl rfl)
theorem dX4_ages_117 : decode cX4_ages 117 = .ok (.iconst 0, 1) := dk_3 (dk_at dksX4_ages_5 3 rfl rfl)
theorem dX4_ages_118 : decode cX4_ages 118 = .ok (.ireturn, 1) := dk_172 (dk_at dksX4_ages_5 4 rfl rfl)
abbrev cX4_refuses : ByteArray := prog_20_method_75_code
def yX4_refuses : MethodName := ⟨RX4, "refuses", "(I)I"⟩
def dkwX4_refuses_1 : List UInt8 := [42, 180, 0, 13, 27, 46, 16, 8, 162, 0, 8, 16, 250, 167, 0, 4, 3, 172]
abbrev dktX4_refuses_1 : List UInt8 := dkwX4_refuses_1 ++ []
def dkwX4_refuses_0 : List UInt8 := [27, 184, 0, 182, 154, 0, 6, 16, 254, 172, 42, 180, 0, 9, 27, 46, 156, 0, 8, 16, 251, 167, 0, 20]
abbrev dktX4_refuses_0 : List UInt8 := dkwX4_refuses_0 ++ dktX4_refuses_1
theorem dksX4_refuses_0 : cX4_refuses.data.toList.drop 0 = dktX4_refuses_0 := by decide +kernel
theorem dksX4_refuses_1 : cX4_refuses.data.toList.drop 24 = dktX4_refuses_1 := dk_seg dksX4_refuses_0 24 rfl rfl
theorem dX4_refuses_0 : decode cX4_refuses 0 = .ok (.iload_n 1, 1) := dk_27 (dk_at dksX4_refuses_0 0 rfl rfl)
theorem dX4_refuses_1 : decode cX4_refuses 1 = .ok (.invokestatic 182, 3) := dk_184 0 182 (dk_at dksX4_refuses_0 1 rfl rfl)
theorem dX4_refuses_4 : decode cX4_refuses 4 = .ok (.ifCond .ne 6, 3) := dk_154 0 6 (dk_at dksX4_refuses_0 4 rfl rfl)
theorem dX4_refuses_7 : decode cX4_refuses 7 = .ok (.bipush (-2), 2) := dk_16 254 (dk_at dksX4_refuses_0 7 rfl rfl)
theorem dX4_refuses_9 : decode cX4_refuses 9 = .ok (.ireturn, 1) := dk_172 (dk_at dksX4_refuses_0 9 rfl rfl)
theorem dX4_refuses_10 : decode cX4_refuses 10 = .ok (.aload_n 0, 1) := dk_42 (dk_at dksX4_refuses_0 10 rfl rfl)
theorem dX4_refuses_11 : decode cX4_refuses 11 = .ok (.getfield 9, 3) := dk_180 0 9 (dk_at dksX4_refuses_0 11 rfl rfl)
theorem dX4_refuses_14 : decode cX4_refuses 14 = .ok (.iload_n 1, 1) := dk_27 (dk_at dksX4_refuses_0 14 rfl rfl)
theorem dX4_refuses_15 : decode cX4_refuses 15 = .ok (.iaload, 1) := dk_46 (dk_at dksX4_refuses_0 15 rfl rfl)
theorem dX4_refuses_16 : decode cX4_refuses 16 = .ok (.ifCond .ge 8, 3) := dk_156 0 8 (dk_at dksX4_refuses_0 16 rfl rfl)
theorem dX4_refuses_19 : decode cX4_refuses 19 = .ok (.bipush (-5), 2) := dk_16 251 (dk_at dksX4_refuses_0 19 rfl rfl)
theorem dX4_refuses_21 : decode cX4_refuses 21 = .ok (.goto 20, 3) := dk_167 0 20 (dk_at dksX4_refuses_0 21 rfl rfl)
theorem dX4_refuses_24 : decode cX4_refuses 24 = .ok (.aload_n 0, 1) := dk_42 (dk_at dksX4_refuses_1 0 rfl rfl)
theorem dX4_refuses_25 : decode cX4_refuses 25 = .ok (.getfield 13, 3) := dk_180 0 13 (dk_at dksX4_refuses_1 1 rfl rfl)
theorem dX4_refuses_28 : decode cX4_refuses 28 = .ok (.iload_n 1, 1) := dk_27 (dk_at dksX4_refuses_1 4 rfl rfl)
theorem dX4_refuses_29 : decode cX4_refuses 29 = .ok (.iaload, 1) := dk_46 (dk_at dksX4_refuses_1 5 rfl rfl)
theorem dX4_refuses_30 : decode cX4_refuses 30 = .ok (.bipush 8, 2) := dk_16 8 (dk_at dksX4_refuses_1 6 rfl rfl)
theorem dX4_refuses_32 : decode cX4_refuses 32 = .ok (.if_icmp .ge 8, 3) := dk_162 0 8 (dk_at dksX4_refuses_1 8 rfl rfl)
theorem dX4_refuses_35 : decode cX4_refuses 35 = .ok (.bipush (-6), 2) := dk_16 250 (dk_at dksX4_refuses_1 11 rfl rfl)
theorem dX4_refuses_37 : decode cX4_refuses 37 = .ok (.goto 4, 3) := dk_167 0 4 (dk_at dksX4_refuses_1 13 rfl rfl)
theorem dX4_refuses_40 : decode cX4_refuses 40 = .ok (.iconst 0, 1) := dk_3 (dk_at dksX4_refuses_1 16 rfl rfl)
theorem dX4_refuses_41 : decode cX4_refuses 41 = .ok (.ireturn, 1) := dk_172 (dk_at dksX4_refuses_1 17 rfl rfl)
abbrev cX4_herd : ByteArray := prog_20_method_77_code
def yX4_herd : MethodName := ⟨RX4, "herd", "(I)I"⟩
def dkwX4_herd_6 : List UInt8 := [89, 180, 1, 221, 4, 96, 181, 1, 221, 42, 180, 1, 221, 4, 100, 172]
abbrev dktX4_herd_6 : List UInt8 := dkwX4_herd_6 ++ []
def dkwX4_herd_5 : List UInt8 := [21, 5, 96, 42, 180, 0, 16, 16, 60, 27, 104, 21, 5, 96, 47, 136, 79, 132, 5, 1, 167, 255, 218, 42]
abbrev dktX4_herd_5 : List UInt8 := dkwX4_herd_5 ++ dktX4_herd_6
def dkwX4_herd_4 : List UInt8 := [16, 253, 172, 3, 54, 5, 21, 5, 16, 8, 162, 0, 37, 42, 180, 0, 91, 16, 8, 42, 180, 1, 221, 104]
abbrev dktX4_herd_4 : List UInt8 := dkwX4_herd_4 ++ dktX4_herd_5
def dkwX4_herd_3 : List UInt8 := [167, 255, 206, 33, 20, 0, 192, 148, 153, 0, 6, 16, 252, 172, 42, 180, 1, 221, 16, 8, 160, 0, 6]
abbrev dktX4_herd_3 : List UInt8 := dkwX4_herd_3 ++ dktX4_herd_4
def dkwX4_herd_2 : List UInt8 := [154, 0, 6, 16, 252, 172, 33, 42, 180, 0, 16, 16, 60, 27, 104, 21, 5, 96, 47, 97, 66, 132, 5, 1]
abbrev dktX4_herd_2 : List UInt8 := dkwX4_herd_2 ++ dktX4_herd_3
def dkwX4_herd_1 : List UInt8 := [16, 8, 162, 0, 49, 42, 180, 0, 16, 16, 60, 27, 104, 21, 5, 96, 47, 9, 20, 0, 192, 184, 0, 178]
abbrev dktX4_herd_1 : List UInt8 := dkwX4_herd_1 ++ dktX4_herd_2
def dkwX4_herd_0 : List UInt8 := [42, 3, 181, 0, 173, 42, 27, 182, 1, 218, 61, 28, 156, 0, 5, 28, 172, 9, 66, 3, 54, 5, 21, 5]
abbrev dktX4_herd_0 : List UInt8 := dkwX4_herd_0 ++ dktX4_herd_1
theorem dksX4_herd_0 : cX4_herd.data.toList.drop 0 = dktX4_herd_0 := by decide +kernel
theorem dksX4_herd_1 : cX4_herd.data.toList.drop 24 = dktX4_herd_1 := dk_seg dksX4_herd_0 24 rfl rfl
theorem dksX4_herd_2 : cX4_herd.data.toList.drop 48 = dktX4_herd_2 := dk_seg dksX4_herd_1 24 rfl rfl
theorem dksX4_herd_3 : cX4_herd.data.toList.drop 72 = dktX4_herd_3 := dk_seg dksX4_herd_2 24 rfl rfl
theorem dksX4_herd_4 : cX4_herd.data.toList.drop 95 = dktX4_herd_4 := dk_seg dksX4_herd_3 23 rfl rfl
theorem dksX4_herd_5 : cX4_herd.data.toList.drop 119 = dktX4_herd_5 := dk_seg dksX4_herd_4 24 rfl rfl
theorem dksX4_herd_6 : cX4_herd.data.toList.drop 143 = dktX4_herd_6 := dk_seg dksX4_herd_5 24 rfl rfl
theorem dX4_herd_0 : decode cX4_herd 0 = .ok (.aload_n 0, 1) := dk_42 (dk_at dksX4_herd_0 0 rfl rfl)
theorem dX4_herd_1 : decode cX4_herd 1 = .ok (.iconst 0, 1) := dk_3 (dk_at dksX4_herd_0 1 rfl rfl)
theorem dX4_herd_2 : decode cX4_herd 2 = .ok (.putfield 173, 3) := dk_181 0 173 (dk_at dksX4_herd_0 2 rfl rfl)
theorem dX4_herd_5 : decode cX4_herd 5 = .ok (.aload_n 0, 1) := dk_42 (dk_at dksX4_herd_0 5 rfl rfl)
theorem dX4_herd_6 : decode cX4_herd 6 = .ok (.iload_n 1, 1) := dk_27 (dk_at dksX4_herd_0 6 rfl rfl)
theorem dX4_herd_7 : decode cX4_herd 7 = .ok (.invokevirtual 474, 3) := dk_182 1 218 (dk_at dksX4_herd_0 7 rfl rfl)
theorem dX4_herd_10 : decode cX4_herd 10 = .ok (.istore_n 2, 1) := dk_61 (dk_at dksX4_herd_0 10 rfl rfl)
theorem dX4_herd_11 : decode cX4_herd 11 = .ok (.iload_n 2, 1) := dk_28 (dk_at dksX4_herd_0 11 rfl rfl)
theorem dX4_herd_12 : decode cX4_herd 12 = .ok (.ifCond .ge 5, 3) := dk_156 0 5 (dk_at dksX4_herd_0 12 rfl rfl)
theorem dX4_herd_15 : decode cX4_herd 15 = .ok (.iload_n 2, 1) := dk_28 (dk_at dksX4_herd_0 15 rfl rfl)
theorem dX4_herd_16 : decode cX4_herd 16 = .ok (.ireturn, 1) := dk_172 (dk_at dksX4_herd_0 16 rfl rfl)
theorem dX4_herd_17 : decode cX4_herd 17 = .ok (.lconst 0, 1) := dk_9 (dk_at dksX4_herd_0 17 rfl rfl)
theorem dX4_herd_18 : decode cX4_herd 18 = .ok (.lstore_n 3, 1) := dk_66 (dk_at dksX4_herd_0 18 rfl rfl)
theorem dX4_herd_19 : decode cX4_herd 19 = .ok (.iconst 0, 1) := dk_3 (dk_at dksX4_herd_0 19 rfl rfl)
theorem dX4_herd_20 : decode cX4_herd 20 = .ok (.istore 5, 2) := dk_54 5 (dk_at dksX4_herd_0 20 rfl rfl)
theorem dX4_herd_22 : decode cX4_herd 22 = .ok (.iload 5, 2) := dk_21 5 (dk_at dksX4_herd_0 22 rfl rfl)
theorem dX4_herd_24 : decode cX4_herd 24 = .ok (.bipush 8, 2) := dk_16 8 (dk_at dksX4_herd_1 0 rfl rfl)
theorem dX4_herd_26 : decode cX4_herd 26 = .ok (.if_icmp .ge 49, 3) := dk_162 0 49 (dk_at dksX4_herd_1 2 rfl rfl)
theorem dX4_herd_29 : decode cX4_herd 29 = .ok (.aload_n 0, 1) := dk_42 (dk_at dksX4_herd_1 5 rfl rfl)
theorem dX4_herd_30 : decode cX4_herd 30 = .ok (.getfield 16, 3) := dk_180 0 16 (dk_at dksX4_herd_1 6 rfl rfl)
theorem dX4_herd_33 : decode cX4_herd 33 = .ok (.bipush 60, 2) := dk_16 60 (dk_at dksX4_herd_1 9 rfl rfl)
theorem dX4_herd_35 : decode cX4_herd 35 = .ok (.iload_n 1, 1) := dk_27 (dk_at dksX4_herd_1 11 rfl rfl)
theorem dX4_herd_36 : decode cX4_herd 36 = .ok (.imul, 1) := dk_104 (dk_at dksX4_herd_1 12 rfl rfl)
theorem dX4_herd_37 : decode cX4_herd 37 = .ok (.iload 5, 2) := dk_21 5 (dk_at dksX4_herd_1 13 rfl rfl)
theorem dX4_herd_39 : decode cX4_herd 39 = .ok (.iadd, 1) := dk_96 (dk_at dksX4_herd_1 15 rfl rfl)
theorem dX4_herd_40 : decode cX4_herd 40 = .ok (.laload, 1) := dk_47 (dk_at dksX4_herd_1 16 rfl rfl)
theorem dX4_herd_41 : decode cX4_herd 41 = .ok (.lconst 0, 1) := dk_9 (dk_at dksX4_herd_1 17 rfl rfl)
theorem dX4_herd_42 : decode cX4_herd 42 = .ok (.ldc2_w 192, 3) := dk_20 0 192 (dk_at dksX4_herd_1 18 rfl rfl)
theorem dX4_herd_45 : decode cX4_herd 45 = .ok (.invokestatic 178, 3) := dk_184 0 178 (dk_at dksX4_herd_1 21 rfl rfl)
theorem dX4_herd_48 : decode cX4_herd 48 = .ok (.ifCond .ne 6, 3) := dk_154 0 6 (dk_at dksX4_herd_2 0 rfl rfl)
theorem dX4_herd_51 : decode cX4_herd 51 = .ok (.bipush (-4), 2) := dk_16 252 (dk_at dksX4_herd_2 3 rfl rfl)
theorem dX4_herd_53 : decode cX4_herd 53 = .ok (.ireturn, 1) := dk_172 (dk_at dksX4_herd_2 5 rfl rfl)
theorem dX4_herd_54 : decode cX4_herd 54 = .ok (.lload_n 3, 1) := dk_33 (dk_at dksX4_herd_2 6 rfl rfl)
theorem dX4_herd_55 : decode cX4_herd 55 = .ok (.aload_n 0, 1) := dk_42 (dk_at dksX4_herd_2 7 rfl rfl)
theorem dX4_herd_56 : decode cX4_herd 56 = .ok (.getfield 16, 3) := dk_180 0 16 (dk_at dksX4_herd_2 8 rfl rfl)
theorem dX4_herd_59 : decode cX4_herd 59 = .ok (.bipush 60, 2) := dk_16 60 (dk_at dksX4_herd_2 11 rfl rfl)
theorem dX4_herd_61 : decode cX4_herd 61 = .ok (.iload_n 1, 1) := dk_27 (dk_at dksX4_herd_2 13 rfl rfl)
theorem dX4_herd_62 : decode cX4_herd 62 = .ok (.imul, 1) := dk_104 (dk_at dksX4_herd_2 14 rfl rfl)
theorem dX4_herd_63 : decode cX4_herd 63 = .ok (.iload 5, 2) := dk_21 5 (dk_at dksX4_herd_2 15 rfl rfl)
theorem dX4_herd_65 : decode cX4_herd 65 = .ok (.iadd, 1) := dk_96 (dk_at dksX4_herd_2 17 rfl rfl)
theorem dX4_herd_66 : decode cX4_herd 66 = .ok (.laload, 1) := dk_47 (dk_at dksX4_herd_2 18 rfl rfl)
theorem dX4_herd_67 : decode cX4_herd 67 = .ok (.ladd, 1) := dk_97 (dk_at dksX4_herd_2 19 rfl rfl)
theorem dX4_herd_68 : decode cX4_herd 68 = .ok (.lstore_n 3, 1) := dk_66 (dk_at dksX4_herd_2 20 rfl rfl)
theorem dX4_herd_69 : decode cX4_herd 69 = .ok (.iinc 5 1, 3) := dk_132 5 1 (dk_at dksX4_herd_2 21 rfl rfl)
theorem dX4_herd_72 : decode cX4_herd 72 = .ok (.goto (-50), 3) := dk_167 255 206 (dk_at dksX4_herd_3 0 rfl rfl)
theorem dX4_herd_75 : decode cX4_herd 75 = .ok (.lload_n 3, 1) := dk_33 (dk_at dksX4_herd_3 3 rfl rfl)
theorem dX4_herd_76 : decode cX4_herd 76 = .ok (.ldc2_w 192, 3) := dk_20 0 192 (dk_at dksX4_herd_3 4 rfl rfl)
theorem dX4_herd_79 : decode cX4_herd 79 = .ok (.lcmp, 1) := dk_148 (dk_at dksX4_herd_3 7 rfl rfl)
theorem dX4_herd_80 : decode cX4_herd 80 = .ok (.ifCond .eq 6, 3) := dk_153 0 6 (dk_at dksX4_herd_3 8 rfl rfl)
theorem dX4_herd_83 : decode cX4_herd 83 = .ok (.bipush (-4), 2) := dk_16 252 (dk_at dksX4_herd_3 11 rfl rfl)
theorem dX4_herd_85 : decode cX4_herd 85 = .ok (.ireturn, 1) := dk_172 (dk_at dksX4_herd_3 13 rfl rfl)
theorem dX4_herd_86 : decode cX4_herd 86 = .ok (.aload_n 0, 1) := dk_42 (dk_at dksX4_herd_3 14 rfl rfl)
theorem dX4_herd_87 : decode cX4_herd 87 = .ok (.getfield 477, 3) := dk_180 1 221 (dk_at dksX4_herd_3 15 rfl rfl)
theorem dX4_herd_90 : decode cX4_herd 90 = .ok (.bipush 8, 2) := dk_16 8 (dk_at dksX4_herd_3 18 rfl rfl)
theorem dX4_herd_92 : decode cX4_herd 92 = .ok (.if_icmp .ne 6, 3) := dk_160 0 6 (dk_at dksX4_herd_3 20 rfl rfl)
theorem dX4_herd_95 : decode cX4_herd 95 = .ok (.bipush (-3), 2) := dk_16 253 (dk_at dksX4_herd_4 0 rfl rfl)
theorem dX4_herd_97 : decode cX4_herd 97 = .ok (.ireturn, 1) := dk_172 (dk_at dksX4_herd_4 2 rfl rfl)
theorem dX4_herd_98 : decode cX4_herd 98 = .ok (.iconst 0, 1) := dk_3 (dk_at dksX4_herd_4 3 rfl rfl)
theorem dX4_herd_99 : decode cX4_herd 99 = .ok (.istore 5, 2) := dk_54 5 (dk_at dksX4_herd_4 4 rfl rfl)
theorem dX4_herd_101 : decode cX4_herd 101 = .ok (.iload 5, 2) := dk_21 5 (dk_at dksX4_herd_4 6 rfl rfl)
theorem dX4_herd_103 : decode cX4_herd 103 = .ok (.bipush 8, 2) := dk_16 8 (dk_at dksX4_herd_4 8 rfl rfl)
theorem dX4_herd_105 : decode cX4_herd 105 = .ok (.if_icmp .ge 37, 3) := dk_162 0 37 (dk_at dksX4_herd_4 10 rfl rfl)
theorem dX4_herd_108 : decode cX4_herd 108 = .ok (.aload_n 0, 1) := dk_42 (dk_at dksX4_herd_4 13 rfl rfl)
theorem dX4_herd_109 : decode cX4_herd 109 = .ok (.getfield 91, 3) := dk_180 0 91 (dk_at dksX4_herd_4 14 rfl rfl)
theorem dX4_herd_112 : decode cX4_herd 112 = .ok (.bipush 8, 2) := dk_16 8 (dk_at dksX4_herd_4 17 rfl rfl)
theorem dX4_herd_114 : decode cX4_herd 114 = .ok (.aload_n 0, 1) := dk_42 (dk_at dksX4_herd_4 19 rfl rfl)
theorem dX4_herd_115 : decode cX4_herd 115 = .ok (.getfield 477, 3) := dk_180 1 221 (dk_at dksX4_herd_4 20 rfl rfl)
theorem dX4_herd_118 : decode cX4_herd 118 = .ok (.imul, 1) := dk_104 (dk_at dksX4_herd_4 23 rfl rfl)
theorem dX4_herd_119 : decode cX4_herd 119 = .ok (.iload 5, 2) := dk_21 5 (dk_at dksX4_herd_5 0 rfl rfl)
theorem dX4_herd_121 : decode cX4_herd 121 = .ok (.iadd, 1) := dk_96 (dk_at dksX4_herd_5 2 rfl rfl)
theorem dX4_herd_122 : decode cX4_herd 122 = .ok (.aload_n 0, 1) := dk_42 (dk_at dksX4_herd_5 3 rfl rfl)
theorem dX4_herd_123 : decode cX4_herd 123 = .ok (.getfield 16, 3) := dk_180 0 16 (dk_at dksX4_herd_5 4 rfl rfl)
theorem dX4_herd_126 : decode cX4_herd 126 = .ok (.bipush 60, 2) := dk_16 60 (dk_at dksX4_herd_5 7 rfl rfl)
theorem dX4_herd_128 : decode cX4_herd 128 = .ok (.iload_n 1, 1) := dk_27 (dk_at dksX4_herd_5 9 rfl rfl)
theorem dX4_herd_129 : decode cX4_herd 129 = .ok (.imul, 1) := dk_104 (dk_at dksX4_herd_5 10 rfl rfl)
theorem dX4_herd_130 : decode cX4_herd 130 = .ok (.iload 5, 2) := dk_21 5 (dk_at dksX4_herd_5 11 rfl rfl)
theorem dX4_herd_132 : decode cX4_herd 132 = .ok (.iadd, 1) := dk_96 (dk_at dksX4_herd_5 13 rfl rfl)
theorem dX4_herd_133 : decode cX4_herd 133 = .ok (.laload, 1) := dk_47 (dk_at dksX4_herd_5 14 rfl rfl)
theorem dX4_herd_134 : decode cX4_herd 134 = .ok (.l2i, 1) := dk_136 (dk_at dksX4_herd_5 15 rfl rfl)
theorem dX4_herd_135 : decode cX4_herd 135 = .ok (.iastore, 1) := dk_79 (dk_at dksX4_herd_5 16 rfl rfl)
theorem dX4_herd_136 : decode cX4_herd 136 = .ok (.iinc 5 1, 3) := dk_132 5 1 (dk_at dksX4_herd_5 17 rfl rfl)
theorem dX4_herd_139 : decode cX4_herd 139 = .ok (.goto (-38), 3) := dk_167 255 218 (dk_at dksX4_herd_5 20 rfl rfl)
theorem dX4_herd_142 : decode cX4_herd 142 = .ok (.aload_n 0, 1) := dk_42 (dk_at dksX4_herd_5 23 rfl rfl)
theorem dX4_herd_143 : decode cX4_herd 143 = .ok (.dup, 1) := dk_89 (dk_at dksX4_herd_6 0 rfl rfl)
theorem dX4_herd_144 : decode cX4_herd 144 = .ok (.getfield 477, 3) := dk_180 1 221 (dk_at dksX4_herd_6 1 rfl rfl)
theorem dX4_herd_147 : decode cX4_herd 147 = .ok (.iconst 1, 1) := dk_4 (dk_at dksX4_herd_6 4 rfl rfl)
theorem dX4_herd_148 : decode cX4_herd 148 = .ok (.iadd, 1) := dk_96 (dk_at dksX4_herd_6 5 rfl rfl)
theorem dX4_herd_149 : decode cX4_herd 149 = .ok (.putfield 477, 3) := dk_181 1 221 (dk_at dksX4_herd_6 6 rfl rfl)
theorem dX4_herd_152 : decode cX4_herd 152 = .ok (.aload_n 0, 1) := dk_42 (dk_at dksX4_herd_6 9 rfl rfl)
theorem dX4_herd_153 : decode cX4_herd 153 = .ok (.getfield 477, 3) := dk_180 1 221 (dk_at dksX4_herd_6 10 rfl rfl)
theorem dX4_herd_156 : decode cX4_herd 156 = .ok (.iconst 1, 1) := dk_4 (dk_at dksX4_herd_6 13 rfl rfl)
theorem dX4_herd_157 : decode cX4_herd 157 = .ok (.isub, 1) := dk_100 (dk_at dksX4_herd_6 14 rfl rfl)
theorem dX4_herd_158 : decode cX4_herd 158 = .ok (.ireturn, 1) := dk_172 (dk_at dksX4_herd_6 15 rfl rfl)
abbrev cX4_killed : ByteArray := prog_20_method_80_code
def yX4_killed : MethodName := ⟨RX4, "killed", "(IIIIIII)I"⟩
def dkwX4_killed_9 : List UInt8 := [96, 46, 167, 0, 4, 3, 96, 54, 8, 132, 10, 1, 167, 255, 128, 132, 9, 1, 167, 255, 111, 21, 8, 172]
abbrev dktX4_killed_9 : List UInt8 := dkwX4_killed_9 ++ []
def dkwX4_killed_8 : List UInt8 := [167, 0, 4, 3, 54, 11, 21, 8, 21, 11, 153, 0, 19, 42, 180, 0, 152, 16, 8, 21, 9, 104, 21, 10]
abbrev dktX4_killed_8 : List UInt8 := dkwX4_killed_8 ++ dktX4_killed_9
def dkwX4_killed_7 : List UInt8 := [21, 10, 21, 6, 163, 0, 7, 4, 167, 0, 19, 3, 167, 0, 15, 21, 9, 21, 6, 163, 0, 7, 4]
abbrev dktX4_killed_7 : List UInt8 := dkwX4_killed_7 ++ dktX4_killed_8
def dkwX4_killed_6 : List UInt8 := [163, 0, 14, 21, 10, 21, 6, 161, 0, 7, 4, 167, 0, 40, 3, 167, 0, 36, 21, 7, 6, 160, 0, 18]
abbrev dktX4_killed_6 : List UInt8 := dkwX4_killed_6 ++ dktX4_killed_7
def dkwX4_killed_5 : List UInt8 := [21, 6, 160, 0, 7, 4, 167, 0, 68, 3, 167, 0, 64, 21, 7, 5, 160, 0, 25, 21, 9, 21, 6]
abbrev dktX4_killed_5 : List UInt8 := dkwX4_killed_5 ++ dktX4_killed_6
def dkwX4_killed_4 : List UInt8 := [54, 10, 21, 10, 16, 8, 162, 0, 127, 21, 7, 4, 160, 0, 25, 21, 9, 21, 6, 160, 0, 14, 21, 10]
abbrev dktX4_killed_4 : List UInt8 := dkwX4_killed_4 ++ dktX4_killed_5
def dkwX4_killed_3 : List UInt8 := [154, 0, 8, 42, 180, 1, 224, 172, 3, 54, 8, 3, 54, 9, 21, 9, 16, 8, 162, 0, 144, 21, 9]
abbrev dktX4_killed_3 : List UInt8 := dkwX4_killed_3 ++ dktX4_killed_4
def dkwX4_killed_2 : List UInt8 := [184, 0, 178, 154, 0, 6, 16, 254, 172, 42, 27, 28, 29, 21, 4, 21, 5, 182, 1, 230, 21, 7]
abbrev dktX4_killed_2 : List UInt8 := dkwX4_killed_2 ++ dktX4_killed_3
def dkwX4_killed_1 : List UInt8 := [153, 0, 29, 21, 6, 133, 9, 20, 0, 201, 184, 0, 178, 153, 0, 16, 21, 7, 133, 9, 20, 1, 161]
abbrev dktX4_killed_1 : List UInt8 := dkwX4_killed_1 ++ dktX4_killed_2
def dkwX4_killed_0 : List UInt8 := [42, 3, 181, 0, 173, 42, 27, 29, 21, 4, 21, 5, 182, 1, 196, 153, 0, 37, 42, 28, 182, 1, 203]
abbrev dktX4_killed_0 : List UInt8 := dkwX4_killed_0 ++ dktX4_killed_1
theorem dksX4_killed_0 : cX4_killed.data.toList.drop 0 = dktX4_killed_0 := by decide +kernel
theorem dksX4_killed_1 : cX4_killed.data.toList.drop 23 = dktX4_killed_1 := dk_seg dksX4_killed_0 23 rfl rfl
theorem dksX4_killed_2 : cX4_killed.data.toList.drop 46 = dktX4_killed_2 := dk_seg dksX4_killed_1 23 rfl rfl
theorem dksX4_killed_3 : cX4_killed.data.toList.drop 68 = dktX4_killed_3 := dk_seg dksX4_killed_2 22 rfl rfl
theorem dksX4_killed_4 : cX4_killed.data.toList.drop 91 = dktX4_killed_4 := dk_seg dksX4_killed_3 23 rfl rfl
theorem dksX4_killed_5 : cX4_killed.data.toList.drop 115 = dktX4_killed_5 := dk_seg dksX4_killed_4 24 rfl rfl
theorem dksX4_killed_6 : cX4_killed.data.toList.drop 138 = dktX4_killed_6 := dk_seg dksX4_killed_5 23 rfl rfl
theorem dksX4_killed_7 : cX4_killed.data.toList.drop 162 = dktX4_killed_7 := dk_seg dksX4_killed_6 24 rfl rfl
theorem dksX4_killed_8 : cX4_killed.data.toList.drop 185 = dktX4_killed_8 := dk_seg dksX4_killed_7 23 rfl rfl
theorem dksX4_killed_9 : cX4_killed.data.toList.drop 209 = dktX4_killed_9 := dk_seg dksX4_killed_8 24 rfl rfl
theorem dX4_killed_0 : decode cX4_killed 0 = .ok (.aload_n 0, 1) := dk_42 (dk_at dksX4_killed_0 0 rfl rfl)
theorem dX4_killed_1 : decode cX4_killed 1 = .ok (.iconst 0, 1) := dk_3 (dk_at dksX4_killed_0 1 rfl rfl)
theorem dX4_killed_2 : decode cX4_killed 2 = .ok (.putfield 173, 3) := dk_181 0 173 (dk_at dksX4_killed_0 2 rfl rfl)
theorem dX4_killed_5 : decode cX4_killed 5 = .ok (.aload_n 0, 1) := dk_42 (dk_at dksX4_killed_0 5 rfl rfl)
theorem dX4_killed_6 : decode cX4_killed 6 = .ok (.iload_n 1, 1) := dk_27 (dk_at dksX4_killed_0 6 rfl rfl)
theorem dX4_killed_7 : decode cX4_killed 7 = .ok (.iload_n 3, 1) := dk_29 (dk_at dksX4_killed_0 7 rfl rfl)
theorem dX4_killed_8 : decode cX4_killed 8 = .ok (.iload 4, 2) := dk_21 4 (dk_at dksX4_killed_0 8 rfl rfl)
theorem dX4_killed_10 : decode cX4_killed 10 = .ok (.iload 5, 2) := dk_21 5 (dk_at dksX4_killed_0 10 rfl rfl)
theorem dX4_killed_12 : decode cX4_killed 12 = .ok (.invokevirtual 452, 3) := dk_182 1 196 (dk_at dksX4_killed_0 12 rfl rfl)
theorem dX4_killed_15 : decode cX4_killed 15 = .ok (.ifCond .eq 37, 3) := dk_153 0 37 (dk_at dksX4_killed_0 15 rfl rfl)
theorem dX4_killed_18 : decode cX4_killed 18 = .ok (.aload_n 0, 1) := dk_42 (dk_at dksX4_killed_0 18 rfl rfl)
theorem dX4_killed_19 : decode cX4_killed 19 = .ok (.iload_n 2, 1) := dk_28 (dk_at dksX4_killed_0 19 rfl rfl)
theorem dX4_killed_20 : decode cX4_killed 20 = .ok (.invokevirtual 459, 3) := dk_182 1 203 (dk_at dksX4_killed_0 20 rfl rfl)
theorem dX4_killed_23 : decode cX4_killed 23 = .ok (.ifCond .eq 29, 3) := dk_153 0 29 (dk_at dksX4_killed_1 0 rfl rfl)
theorem dX4_killed_26 : decode cX4_killed 26 = .ok (.iload 6, 2) := dk_21 6 (dk_at dksX4_killed_1 3 rfl rfl)
theorem dX4_killed_28 : decode cX4_killed 28 = .ok (.i2l, 1) := dk_133 (dk_at dksX4_killed_1 5 rfl rfl)
theorem dX4_killed_29 : decode cX4_killed 29 = .ok (.lconst 0, 1) := dk_9 (dk_at dksX4_killed_1 6 rfl rfl)
theorem dX4_killed_30 : decode cX4_killed 30 = .ok (.ldc2_w 201, 3) := dk_20 0 201 (dk_at dksX4_killed_1 7 rfl rfl)
theorem dX4_killed_33 : decode cX4_killed 33 = .ok (.invokestatic 178, 3) := dk_184 0 178 (dk_at dksX4_killed_1 10 rfl rfl)
theorem dX4_killed_36 : decode cX4_killed 36 = .ok (.ifCond .eq 16, 3) := dk_153 0 16 (dk_at dksX4_killed_1 13 rfl rfl)
theorem dX4_killed_39 : decode cX4_killed 39 = .ok (.iload 7, 2) := dk_21 7 (dk_at dksX4_killed_1 16 rfl rfl)
theorem dX4_killed_41 : decode cX4_killed 41 = .ok (.i2l, 1) := dk_133 (dk_at dksX4_killed_1 18 rfl rfl)
theorem dX4_killed_42 : decode cX4_killed 42 = .ok (.lconst 0, 1) := dk_9 (dk_at dksX4_killed_1 19 rfl rfl)
theorem dX4_killed_43 : decode cX4_killed 43 = .ok (.ldc2_w 417, 3) := dk_20 1 161 (dk_at dksX4_killed_1 20 rfl rfl)
theorem dX4_killed_46 : decode cX4_killed 46 = .ok (.invokestatic 178, 3) := dk_184 0 178 (dk_at dksX4_killed_2 0 rfl rfl)
theorem dX4_killed_49 : decode cX4_killed 49 = .ok (.ifCond .ne 6, 3) := dk_154 0 6 (dk_at dksX4_killed_2 3 rfl rfl)
theorem dX4_killed_52 : decode cX4_killed 52 = .ok (.bipush (-2), 2) := dk_16 254 (dk_at dksX4_killed_2 6 rfl rfl)
theorem dX4_killed_54 : decode cX4_killed 54 = .ok (.ireturn, 1) := dk_172 (dk_at dksX4_killed_2 8 rfl rfl)
theorem dX4_killed_55 : decode cX4_killed 55 = .ok (.aload_n 0, 1) := dk_42 (dk_at dksX4_killed_2 9 rfl rfl)
theorem dX4_killed_56 : decode cX4_killed 56 = .ok (.iload_n 1, 1) := dk_27 (dk_at dksX4_killed_2 10 rfl rfl)
theorem dX4_killed_57 : decode cX4_killed 57 = .ok (.iload_n 2, 1) := dk_28 (dk_at dksX4_killed_2 11 rfl rfl)
theorem dX4_killed_58 : decode cX4_killed 58 = .ok (.iload_n 3, 1) := dk_29 (dk_at dksX4_killed_2 12 rfl rfl)
theorem dX4_killed_59 : decode cX4_killed 59 = .ok (.iload 4, 2) := dk_21 4 (dk_at dksX4_killed_2 13 rfl rfl)
theorem dX4_killed_61 : decode cX4_killed 61 = .ok (.iload 5, 2) := dk_21 5 (dk_at dksX4_killed_2 15 rfl rfl)
theorem dX4_killed_63 : decode cX4_killed 63 = .ok (.invokevirtual 486, 3) := dk_182 1 230 (dk_at dksX4_killed_2 17 rfl rfl)
theorem dX4_killed_66 : decode cX4_killed 66 = .ok (.iload 7, 2) := dk_21 7 (dk_at dksX4_killed_2 20 rfl rfl)
theorem dX4_killed_68 : decode cX4_killed 68 = .ok (.ifCond .ne 8, 3) := dk_154 0 8 (dk_at dksX4_killed_3 0 rfl rfl)
theorem dX4_killed_71 : decode cX4_killed 71 = .ok (.aload_n 0, 1) := dk_42 (dk_at dksX4_killed_3 3 rfl rfl)
theorem dX4_killed_72 : decode cX4_killed 72 = .ok (.getfield 480, 3) := dk_180 1 224 (dk_at dksX4_killed_3 4 rfl rfl)
theorem dX4_killed_75 : decode cX4_killed 75 = .ok (.ireturn, 1) := dk_172 (dk_at dksX4_killed_3 7 rfl rfl)
theorem dX4_killed_76 : decode cX4_killed 76 = .ok (.iconst 0, 1) := dk_3 (dk_at dksX4_killed_3 8 rfl rfl)
theorem dX4_killed_77 : decode cX4_killed 77 = .ok (.istore 8, 2) := dk_54 8 (dk_at dksX4_killed_3 9 rfl rfl)
theorem dX4_killed_79 : decode cX4_killed 79 = .ok (.iconst 0, 1) := dk_3 (dk_at dksX4_killed_3 11 rfl rfl)
theorem dX4_killed_80 : decode cX4_killed 80 = .ok (.istore 9, 2) := dk_54 9 (dk_at dksX4_killed_3 12 rfl rfl)
theorem dX4_killed_82 : decode cX4_killed 82 = .ok (.iload 9, 2) := dk_21 9 (dk_at dksX4_killed_3 14 rfl rfl)
theorem dX4_killed_84 : decode cX4_killed 84 = .ok (.bipush 8, 2) := dk_16 8 (dk_at dksX4_killed_3 16 rfl rfl)
theorem dX4_killed_86 : decode cX4_killed 86 = .ok (.if_icmp .ge 144, 3) := dk_162 0 144 (dk_at dksX4_killed_3 18 rfl rfl)
theorem dX4_killed_89 : decode cX4_killed 89 = .ok (.iload 9, 2) := dk_21 9 (dk_at dksX4_killed_3 21 rfl rfl)
theorem dX4_killed_91 : decode cX4_killed 91 = .ok (.istore 10, 2) := dk_54 10 (dk_at dksX4_killed_4 0 rfl rfl)
theorem dX4_killed_93 : decode cX4_killed 93 = .ok (.iload 10, 2) := dk_21 10 (dk_at dksX4_killed_4 2 rfl rfl)
theorem dX4_killed_95 : decode cX4_killed 95 = .ok (.bipush 8, 2) := dk_16 8 (dk_at dksX4_killed_4 4 rfl rfl)
theorem dX4_killed_97 : decode cX4_killed 97 = .ok (.if_icmp .ge 127, 3) := dk_162 0 127 (dk_at dksX4_killed_4 6 rfl rfl)
theorem dX4_killed_100 : decode cX4_killed 100 = .ok (.iload 7, 2) := dk_21 7 (dk_at dksX4_killed_4 9 rfl rfl)
theorem dX4_killed_102 : decode cX4_killed 102 = .ok (.iconst 1, 1) := dk_4 (dk_at dksX4_killed_4 11 rfl rfl)
theorem dX4_killed_103 : decode cX4_killed 103 = .ok (.if_icmp .ne 25, 3) := dk_160 0 25 (dk_at dksX4_killed_4 12 rfl rfl)
theorem dX4_killed_106 : decode cX4_killed 106 = .ok (.iload 9, 2) := dk_21 9 (dk_at dksX4_killed_4 15 rfl rfl)
theorem dX4_killed_108 : decode cX4_killed 108 = .ok (.iload 6, 2) := dk_21 6 (dk_at dksX4_killed_4 17 rfl rfl)
theorem dX4_killed_110 : decode cX4_killed 110 = .ok (.if_icmp .ne 14, 3) := dk_160 0 14 (dk_at dksX4_killed_4 19 rfl rfl)
theorem dX4_killed_113 : decode cX4_killed 113 = .ok (.iload 10, 2) := dk_21 10 (dk_at dksX4_killed_4 22 rfl rfl)
theorem dX4_killed_115 : decode cX4_killed 115 = .ok (.iload 6, 2) := dk_21 6 (dk_at dksX4_killed_5 0 rfl rfl)
theorem dX4_killed_117 : decode cX4_killed 117 = .ok (.if_icmp .ne 7, 3) := dk_160 0 7 (dk_at dksX4_killed_5 2 rfl rfl)
theorem dX4_killed_120 : decode cX4_killed 120 = .ok (.iconst 1, 1) := dk_4 (dk_at dksX4_killed_5 5 rfl rfl)
theorem dX4_killed_121 : decode cX4_killed 121 = .ok (.goto 68, 3) := dk_167 0 68 (dk_at dksX4_killed_5 6 rfl rfl)
theorem dX4_killed_124 : decode cX4_killed 124 = .ok (.iconst 0, 1) := dk_3 (dk_at dksX4_killed_5 9 rfl rfl)
theorem dX4_killed_125 : decode cX4_killed 125 = .ok (.goto 64, 3) := dk_167 0 64 (dk_at dksX4_killed_5 10 rfl rfl)
theorem dX4_killed_128 : decode cX4_killed 128 = .ok (.iload 7, 2) := dk_21 7 (dk_at dksX4_killed_5 13 rfl rfl)
theorem dX4_killed_130 : decode cX4_killed 130 = .ok (.iconst 2, 1) := dk_5 (dk_at dksX4_killed_5 15 rfl rfl)
theorem dX4_killed_131 : decode cX4_killed 131 = .ok (.if_icmp .ne 25, 3) := dk_160 0 25 (dk_at dksX4_killed_5 16 rfl rfl)
theorem dX4_killed_134 : decode cX4_killed 134 = .ok (.iload 9, 2) := dk_21 9 (dk_at dksX4_killed_5 19 rfl rfl)
theorem dX4_killed_136 : decode cX4_killed 136 = .ok (.iload 6, 2) := dk_21 6 (dk_at dksX4_killed_5 21 rfl rfl)
theorem dX4_killed_138 : decode cX4_killed 138 = .ok (.if_icmp .gt 14, 3) := dk_163 0 14 (dk_at dksX4_killed_6 0 rfl rfl)
theorem dX4_killed_141 : decode cX4_killed 141 = .ok (.iload 10, 2) := dk_21 10 (dk_at dksX4_killed_6 3 rfl rfl)
theorem dX4_killed_143 : decode cX4_killed 143 = .ok (.iload 6, 2) := dk_21 6 (dk_at dksX4_killed_6 5 rfl rfl)
theorem dX4_killed_145 : decode cX4_killed 145 = .ok (.if_icmp .lt 7, 3) := dk_161 0 7 (dk_at dksX4_killed_6 7 rfl rfl)
theorem dX4_killed_148 : decode cX4_killed 148 = .ok (.iconst 1, 1) := dk_4 (dk_at dksX4_killed_6 10 rfl rfl)
theorem dX4_killed_149 : decode cX4_killed 149 = .ok (.goto 40, 3) := dk_167 0 40 (dk_at dksX4_killed_6 11 rfl rfl)
theorem dX4_killed_152 : decode cX4_killed 152 = .ok (.iconst 0, 1) := dk_3 (dk_at dksX4_killed_6 14 rfl rfl)
theorem dX4_killed_153 : decode cX4_killed 153 = .ok (.goto 36, 3) := dk_167 0 36 (dk_at dksX4_killed_6 15 rfl rfl)
theorem dX4_killed_156 : decode cX4_killed 156 = .ok (.iload 7, 2) := dk_21 7 (dk_at dksX4_killed_6 18 rfl rfl)
theorem dX4_killed_158 : decode cX4_killed 158 = .ok (.iconst 3, 1) := dk_6 (dk_at dksX4_killed_6 20 rfl rfl)
theorem dX4_killed_159 : decode cX4_killed 159 = .ok (.if_icmp .ne 18, 3) := dk_160 0 18 (dk_at dksX4_killed_6 21 rfl rfl)
theorem dX4_killed_162 : decode cX4_killed 162 = .ok (.iload 10, 2) := dk_21 10 (dk_at dksX4_killed_7 0 rfl rfl)
theorem dX4_killed_164 : decode cX4_killed 164 = .ok (.iload 6, 2) := dk_21 6 (dk_at dksX4_killed_7 2 rfl rfl)
theorem dX4_killed_166 : decode cX4_killed 166 = .ok (.if_icmp .gt 7, 3) := dk_163 0 7 (dk_at dksX4_killed_7 4 rfl rfl)
theorem dX4_killed_169 : decode cX4_killed 169 = .ok (.iconst 1, 1) := dk_4 (dk_at dksX4_killed_7 7 rfl rfl)
theorem dX4_killed_170 : decode cX4_killed 170 = .ok (.goto 19, 3) := dk_167 0 19 (dk_at dksX4_killed_7 8 rfl rfl)
theorem dX4_killed_173 : decode cX4_killed 173 = .ok (.iconst 0, 1) := dk_3 (dk_at dksX4_killed_7 11 rfl rfl)
theorem dX4_killed_174 : decode cX4_killed 174 = .ok (.goto 15, 3) := dk_167 0 15 (dk_at dksX4_killed_7 12 rfl rfl)
theorem dX4_killed_177 : decode cX4_killed 177 = .ok (.iload 9, 2) := dk_21 9 (dk_at dksX4_killed_7 15 rfl rfl)
theorem dX4_killed_179 : decode cX4_killed 179 = .ok (.iload 6, 2) := dk_21 6 (dk_at dksX4_killed_7 17 rfl rfl)
theorem dX4_killed_181 : decode cX4_killed 181 = .ok (.if_icmp .gt 7, 3) := dk_163 0 7 (dk_at dksX4_killed_7 19 rfl rfl)
theorem dX4_killed_184 : decode cX4_killed 184 = .ok (.iconst 1, 1) := dk_4 (dk_at dksX4_killed_7 22 rfl rfl)
theorem dX4_killed_185 : decode cX4_killed 185 = .ok (.goto 4, 3) := dk_167 0 4 (dk_at dksX4_killed_8 0 rfl rfl)
theorem dX4_killed_188 : decode cX4_killed 188 = .ok (.iconst 0, 1) := dk_3 (dk_at dksX4_killed_8 3 rfl rfl)
theorem dX4_killed_189 : decode cX4_killed 189 = .ok (.istore 11, 2) := dk_54 11 (dk_at dksX4_killed_8 4 rfl rfl)
theorem dX4_killed_191 : decode cX4_killed 191 = .ok (.iload 8, 2) := dk_21 8 (dk_at dksX4_killed_8 6 rfl rfl)
theorem dX4_killed_193 : decode cX4_killed 193 = .ok (.iload 11, 2) := dk_21 11 (dk_at dksX4_killed_8 8 rfl rfl)
theorem dX4_killed_195 : decode cX4_killed 195 = .ok (.ifCond .eq 19, 3) := dk_153 0 19 (dk_at dksX4_killed_8 10 rfl rfl)
theorem dX4_killed_198 : decode cX4_killed 198 = .ok (.aload_n 0, 1) := dk_42 (dk_at dksX4_killed_8 13 rfl rfl)
theorem dX4_killed_199 : decode cX4_killed 199 = .ok (.getfield 152, 3) := dk_180 0 152 (dk_at dksX4_killed_8 14 rfl rfl)
theorem dX4_killed_202 : decode cX4_killed 202 = .ok (.bipush 8, 2) := dk_16 8 (dk_at dksX4_killed_8 17 rfl rfl)
theorem dX4_killed_204 : decode cX4_killed 204 = .ok (.iload 9, 2) := dk_21 9 (dk_at dksX4_killed_8 19 rfl rfl)
theorem dX4_killed_206 : decode cX4_killed 206 = .ok (.imul, 1) := dk_104 (dk_at dksX4_killed_8 21 rfl rfl)
theorem dX4_killed_207 : decode cX4_killed 207 = .ok (.iload 10, 2) := dk_21 10 (dk_at dksX4_killed_8 22 rfl rfl)
theorem dX4_killed_209 : decode cX4_killed 209 = .ok (.iadd, 1) := dk_96 (dk_at dksX4_killed_9 0 rfl rfl)
theorem dX4_killed_210 : decode cX4_killed 210 = .ok (.iaload, 1) := dk_46 (dk_at dksX4_killed_9 1 rfl rfl)
theorem dX4_killed_211 : decode cX4_killed 211 = .ok (.goto 4, 3) := dk_167 0 4 (dk_at dksX4_killed_9 2 rfl rfl)
theorem dX4_killed_214 : decode cX4_killed 214 = .ok (.iconst 0, 1) := dk_3 (dk_at dksX4_killed_9 5 rfl rfl)
theorem dX4_killed_215 : decode cX4_killed 215 = .ok (.iadd, 1) := dk_96 (dk_at dksX4_killed_9 6 rfl rfl)
theorem dX4_killed_216 : decode cX4_killed 216 = .ok (.istore 8, 2) := dk_54 8 (dk_at dksX4_killed_9 7 rfl rfl)
theorem dX4_killed_218 : decode cX4_killed 218 = .ok (.iinc 10 1, 3) := dk_132 10 1 (dk_at dksX4_killed_9 9 rfl rfl)
theorem dX4_killed_221 : decode cX4_killed 221 = .ok (.goto (-128), 3) := dk_167 255 128 (dk_at dksX4_killed_9 12 rfl rfl)
theorem dX4_killed_224 : decode cX4_killed 224 = .ok (.iinc 9 1, 3) := dk_132 9 1 (dk_at dksX4_killed_9 15 rfl rfl)
theorem dX4_killed_227 : decode cX4_killed 227 = .ok (.goto (-145), 3) := dk_167 255 111 (dk_at dksX4_killed_9 18 rfl rfl)
theorem dX4_killed_230 : decode cX4_killed 230 = .ok (.iload 8, 2) := dk_21 8 (dk_at dksX4_killed_9 21 rfl rfl)
theorem dX4_killed_232 : decode cX4_killed 232 = .ok (.ireturn, 1) := dk_172 (dk_at dksX4_killed_9 23 rfl rfl)
abbrev cX4_spans : ByteArray := prog_20_method_79_code
def yX4_spans : MethodName := ⟨RX4, "spans", "(IIIII)V"⟩
def dkwX4_spans_5 : List UInt8 := [79, 42, 89, 180, 1, 224, 4, 96, 181, 1, 224, 132, 6, 1, 167, 255, 158, 177]
abbrev dktX4_spans_5 : List UInt8 := dkwX4_spans_5 ++ []
def dkwX4_spans_4 : List UInt8 := [16, 8, 42, 42, 180, 1, 209, 182, 1, 227, 104, 42, 42, 180, 1, 212, 182, 1, 227, 96, 92, 46, 4, 96]
abbrev dktX4_spans_4 : List UInt8 := dkwX4_spans_4 ++ dktX4_spans_5
def dkwX4_spans_3 : List UInt8 := [21, 6, 46, 2, 159, 0, 55, 42, 21, 6, 28, 182, 1, 215, 154, 0, 6, 167, 0, 42, 42, 180, 0, 152]
abbrev dktX4_spans_3 : List UInt8 := dkwX4_spans_3 ++ dktX4_spans_4
def dkwX4_spans_2 : List UInt8 := [21, 4, 182, 1, 163, 153, 0, 77, 42, 180, 0, 79, 21, 6, 46, 5, 160, 0, 14, 42, 180, 0, 82]
abbrev dktX4_spans_2 : List UInt8 := dkwX4_spans_2 ++ dktX4_spans_3
def dkwX4_spans_1 : List UInt8 := [167, 255, 235, 42, 3, 181, 1, 224, 3, 54, 6, 21, 6, 21, 5, 162, 0, 97, 42, 21, 6, 27, 28, 29]
abbrev dktX4_spans_1 : List UInt8 := dkwX4_spans_1 ++ dktX4_spans_2
def dkwX4_spans_0 : List UInt8 := [3, 54, 6, 21, 6, 42, 180, 0, 152, 190, 162, 0, 17, 42, 180, 0, 152, 21, 6, 3, 79, 132, 6, 1]
abbrev dktX4_spans_0 : List UInt8 := dkwX4_spans_0 ++ dktX4_spans_1
theorem dksX4_spans_0 : cX4_spans.data.toList.drop 0 = dktX4_spans_0 := by decide +kernel
theorem dksX4_spans_1 : cX4_spans.data.toList.drop 24 = dktX4_spans_1 := dk_seg dksX4_spans_0 24 rfl rfl
theorem dksX4_spans_2 : cX4_spans.data.toList.drop 48 = dktX4_spans_2 := dk_seg dksX4_spans_1 24 rfl rfl
theorem dksX4_spans_3 : cX4_spans.data.toList.drop 71 = dktX4_spans_3 := dk_seg dksX4_spans_2 23 rfl rfl
theorem dksX4_spans_4 : cX4_spans.data.toList.drop 95 = dktX4_spans_4 := dk_seg dksX4_spans_3 24 rfl rfl
theorem dksX4_spans_5 : cX4_spans.data.toList.drop 119 = dktX4_spans_5 := dk_seg dksX4_spans_4 24 rfl rfl
theorem dX4_spans_0 : decode cX4_spans 0 = .ok (.iconst 0, 1) := dk_3 (dk_at dksX4_spans_0 0 rfl rfl)
theorem dX4_spans_1 : decode cX4_spans 1 = .ok (.istore 6, 2) := dk_54 6 (dk_at dksX4_spans_0 1 rfl rfl)
theorem dX4_spans_3 : decode cX4_spans 3 = .ok (.iload 6, 2) := dk_21 6 (dk_at dksX4_spans_0 3 rfl rfl)
theorem dX4_spans_5 : decode cX4_spans 5 = .ok (.aload_n 0, 1) := dk_42 (dk_at dksX4_spans_0 5 rfl rfl)
theorem dX4_spans_6 : decode cX4_spans 6 = .ok (.getfield 152, 3) := dk_180 0 152 (dk_at dksX4_spans_0 6 rfl rfl)
theorem dX4_spans_9 : decode cX4_spans 9 = .ok (.arraylength, 1) := dk_190 (dk_at dksX4_spans_0 9 rfl rfl)
theorem dX4_spans_10 : decode cX4_spans 10 = .ok (.if_icmp .ge 17, 3) := dk_162 0 17 (dk_at dksX4_spans_0 10 rfl rfl)
theorem dX4_spans_13 : decode cX4_spans 13 = .ok (.aload_n 0, 1) := dk_42 (dk_at dksX4_spans_0 13 rfl rfl)
theorem dX4_spans_14 : decode cX4_spans 14 = .ok (.getfield 152, 3) := dk_180 0 152 (dk_at dksX4_spans_0 14 rfl rfl)
theorem dX4_spans_17 : decode cX4_spans 17 = .ok (.iload 6, 2) := dk_21 6 (dk_at dksX4_spans_0 17 rfl rfl)
theorem dX4_spans_19 : decode cX4_spans 19 = .ok (.iconst 0, 1) := dk_3 (dk_at dksX4_spans_0 19 rfl rfl)
theorem dX4_spans_20 : decode cX4_spans 20 = .ok (.iastore, 1) := dk_79 (dk_at dksX4_spans_0 20 rfl rfl)
theorem dX4_spans_21 : decode cX4_spans 21 = .ok (.iinc 6 1, 3) := dk_132 6 1 (dk_at dksX4_spans_0 21 rfl rfl)
theorem dX4_spans_24 : decode cX4_spans 24 = .ok (.goto (-21), 3) := dk_167 255 235 (dk_at dksX4_spans_1 0 rfl rfl)
theorem dX4_spans_27 : decode cX4_spans 27 = .ok (.aload_n 0, 1) := dk_42 (dk_at dksX4_spans_1 3 rfl rfl)
theorem dX4_spans_28 : decode cX4_spans 28 = .ok (.iconst 0, 1) := dk_3 (dk_at dksX4_spans_1 4 rfl rfl)
theorem dX4_spans_29 : decode cX4_spans 29 = .ok (.putfield 480, 3) := dk_181 1 224 (dk_at dksX4_spans_1 5 rfl rfl)
theorem dX4_spans_32 : decode cX4_spans 32 = .ok (.iconst 0, 1) := dk_3 (dk_at dksX4_spans_1 8 rfl rfl)
theorem dX4_spans_33 : decode cX4_spans 33 = .ok (.istore 6, 2) := dk_54 6 (dk_at dksX4_spans_1 9 rfl rfl)
theorem dX4_spans_35 : decode cX4_spans 35 = .ok (.iload 6, 2) := dk_21 6 (dk_at dksX4_spans_1 11 rfl rfl)
theorem dX4_spans_37 : decode cX4_spans 37 = .ok (.iload 5, 2) := dk_21 5 (dk_at dksX4_spans_1 13 rfl rfl)
theorem dX4_spans_39 : decode cX4_spans 39 = .ok (.if_icmp .ge 97, 3) := dk_162 0 97 (dk_at dksX4_spans_1 15 rfl rfl)
theorem dX4_spans_42 : decode cX4_spans 42 = .ok (.aload_n 0, 1) := dk_42 (dk_at dksX4_spans_1 18 rfl rfl)
theorem dX4_spans_43 : decode cX4_spans 43 = .ok (.iload 6, 2) := dk_21 6 (dk_at dksX4_spans_1 19 rfl rfl)
theorem dX4_spans_45 : decode cX4_spans 45 = .ok (.iload_n 1, 1) := dk_27 (dk_at dksX4_spans_1 21 rfl rfl)
theorem dX4_spans_46 : decode cX4_spans 46 = .ok (.iload_n 2, 1) := dk_28 (dk_at dksX4_spans_1 22 rfl rfl)
theorem dX4_spans_47 : decode cX4_spans 47 = .ok (.iload_n 3, 1) := dk_29 (dk_at dksX4_spans_1 23 rfl rfl)
theorem dX4_spans_48 : decode cX4_spans 48 = .ok (.iload 4, 2) := dk_21 4 (dk_at dksX4_spans_2 0 rfl rfl)
theorem dX4_spans_50 : decode cX4_spans 50 = .ok (.invokevirtual 419, 3) := dk_182 1 163 (dk_at dksX4_spans_2 2 rfl rfl)
theorem dX4_spans_53 : decode cX4_spans 53 = .ok (.ifCond .eq 77, 3) := dk_153 0 77 (dk_at dksX4_spans_2 5 rfl rfl)
theorem dX4_spans_56 : decode cX4_spans 56 = .ok (.aload_n 0, 1) := dk_42 (dk_at dksX4_spans_2 8 rfl rfl)
theorem dX4_spans_57 : decode cX4_spans 57 = .ok (.getfield 79, 3) := dk_180 0 79 (dk_at dksX4_spans_2 9 rfl rfl)
theorem dX4_spans_60 : decode cX4_spans 60 = .ok (.iload 6, 2) := dk_21 6 (dk_at dksX4_spans_2 12 rfl rfl)
theorem dX4_spans_62 : decode cX4_spans 62 = .ok (.iaload, 1) := dk_46 (dk_at dksX4_spans_2 14 rfl rfl)
theorem dX4_spans_63 : decode cX4_spans 63 = .ok (.iconst 2, 1) := dk_5 (dk_at dksX4_spans_2 15 rfl rfl)
theorem dX4_spans_64 : decode cX4_spans 64 = .ok (.if_icmp .ne 14, 3) := dk_160 0 14 (dk_at dksX4_spans_2 16 rfl rfl)
theorem dX4_spans_67 : decode cX4_spans 67 = .ok (.aload_n 0, 1) := dk_42 (dk_at dksX4_spans_2 19 rfl rfl)
theorem dX4_spans_68 : decode cX4_spans 68 = .ok (.getfield 82, 3) := dk_180 0 82 (dk_at dksX4_spans_2 20 rfl rfl)
theorem dX4_spans_71 : decode cX4_spans 71 = .ok (.iload 6, 2) := dk_21 6 (dk_at dksX4_spans_3 0 rfl rfl)
theorem dX4_spans_73 : decode cX4_spans 73 = .ok (.iaload, 1) := dk_46 (dk_at dksX4_spans_3 2 rfl rfl)
theorem dX4_spans_74 : decode cX4_spans 74 = .ok (.iconst (-1), 1) := dk_2 (dk_at dksX4_spans_3 3 rfl rfl)
theorem dX4_spans_75 : decode cX4_spans 75 = .ok (.if_icmp .eq 55, 3) := dk_159 0 55 (dk_at dksX4_spans_3 4 rfl rfl)
theorem dX4_spans_78 : decode cX4_spans 78 = .ok (.aload_n 0, 1) := dk_42 (dk_at dksX4_spans_3 7 rfl rfl)
theorem dX4_spans_79 : decode cX4_spans 79 = .ok (.iload 6, 2) := dk_21 6 (dk_at dksX4_spans_3 8 rfl rfl)
theorem dX4_spans_81 : decode cX4_spans 81 = .ok (.iload_n 2, 1) := dk_28 (dk_at dksX4_spans_3 10 rfl rfl)
theorem dX4_spans_82 : decode cX4_spans 82 = .ok (.invokevirtual 471, 3) := dk_182 1 215 (dk_at dksX4_spans_3 11 rfl rfl)
theorem dX4_spans_85 : decode cX4_spans 85 = .ok (.ifCond .ne 6, 3) := dk_154 0 6 (dk_at dksX4_spans_3 14 rfl rfl)
theorem dX4_spans_88 : decode cX4_spans 88 = .ok (.goto 42, 3) := dk_167 0 42 (dk_at dksX4_spans_3 17 rfl rfl)
theorem dX4_spans_91 : decode cX4_spans 91 = .ok (.aload_n 0, 1) := dk_42 (dk_at dksX4_spans_3 20 rfl rfl)
theorem dX4_spans_92 : decode cX4_spans 92 = .ok (.getfield 152, 3) := dk_180 0 152 (dk_at dksX4_spans_3 21 rfl rfl)
theorem dX4_spans_95 : decode cX4_spans 95 = .ok (.bipush 8, 2) := dk_16 8 (dk_at dksX4_spans_4 0 rfl rfl)
theorem dX4_spans_97 : decode cX4_spans 97 = .ok (.aload_n 0, 1) := dk_42 (dk_at dksX4_spans_4 2 rfl rfl)
theorem dX4_spans_98 : decode cX4_spans 98 = .ok (.aload_n 0, 1) := dk_42 (dk_at dksX4_spans_4 3 rfl rfl)
theorem dX4_spans_99 : decode cX4_spans 99 = .ok (.getfield 465, 3) := dk_180 1 209 (dk_at dksX4_spans_4 4 rfl rfl)
theorem dX4_spans_102 : decode cX4_spans 102 = .ok (.invokevirtual 483, 3) := dk_182 1 227 (dk_at dksX4_spans_4 7 rfl rfl)
theorem dX4_spans_105 : decode cX4_spans 105 = .ok (.imul, 1) := dk_104 (dk_at dksX4_spans_4 10 rfl rfl)
theorem dX4_spans_106 : decode cX4_spans 106 = .ok (.aload_n 0, 1) := dk_42 (dk_at dksX4_spans_4 11 rfl rfl)
theorem dX4_spans_107 : decode cX4_spans 107 = .ok (.aload_n 0, 1) := dk_42 (dk_at dksX4_spans_4 12 rfl rfl)
theorem dX4_spans_108 : decode cX4_spans 108 = .ok (.getfield 468, 3) := dk_180 1 212 (dk_at dksX4_spans_4 13 rfl rfl)
theorem dX4_spans_111 : decode cX4_spans 111 = .ok (.invokevirtual 483, 3) := dk_182 1 227 (dk_at dksX4_spans_4 16 rfl rfl)
theorem dX4_spans_114 : decode cX4_spans 114 = .ok (.iadd, 1) := dk_96 (dk_at dksX4_spans_4 19 rfl rfl)
theorem dX4_spans_115 : decode cX4_spans 115 = .ok (.dup2, 1) := dk_92 (dk_at dksX4_spans_4 20 rfl rfl)
theorem dX4_spans_116 : decode cX4_spans 116 = .ok (.iaload, 1) := dk_46 (dk_at dksX4_spans_4 21 rfl rfl)
theorem dX4_spans_117 : decode cX4_spans 117 = .ok (.iconst 1, 1) := dk_4 (dk_at dksX4_spans_4 22 rfl rfl)
theorem dX4_spans_118 : decode cX4_spans 118 = .ok (.iadd, 1) := dk_96 (dk_at dksX4_spans_4 23 rfl rfl)
theorem dX4_spans_119 : decode cX4_spans 119 = .ok (.iastore, 1) := dk_79 (dk_at dksX4_spans_5 0 rfl rfl)
theorem dX4_spans_120 : decode cX4_spans 120 = .ok (.aload_n 0, 1) := dk_42 (dk_at dksX4_spans_5 1 rfl rfl)
theorem dX4_spans_121 : decode cX4_spans 121 = .ok (.dup, 1) := dk_89 (dk_at dksX4_spans_5 2 rfl rfl)
theorem dX4_spans_122 : decode cX4_spans 122 = .ok (.getfield 480, 3) := dk_180 1 224 (dk_at dksX4_spans_5 3 rfl rfl)
theorem dX4_spans_125 : decode cX4_spans 125 = .ok (.iconst 1, 1) := dk_4 (dk_at dksX4_spans_5 6 rfl rfl)
theorem dX4_spans_126 : decode cX4_spans 126 = .ok (.iadd, 1) := dk_96 (dk_at dksX4_spans_5 7 rfl rfl)
theorem dX4_spans_127 : decode cX4_spans 127 = .ok (.putfield 480, 3) := dk_181 1 224 (dk_at dksX4_spans_5 8 rfl rfl)
theorem dX4_spans_130 : decode cX4_spans 130 = .ok (.iinc 6 1, 3) := dk_132 6 1 (dk_at dksX4_spans_5 11 rfl rfl)
theorem dX4_spans_133 : decode cX4_spans 133 = .ok (.goto (-98), 3) := dk_167 255 158 (dk_at dksX4_spans_5 14 rfl rfl)
theorem dX4_spans_136 : decode cX4_spans 136 = .ok (.return_, 1) := dk_177 (dk_at dksX4_spans_5 17 rfl rfl)
abbrev cX4_ageOf : ByteArray := prog_20_method_78_code
def yX4_ageOf : MethodName := ⟨RX4, "ageOf", "(I)I"⟩
def dkwX4_ageOf_1 : List UInt8 := [132, 2, 1, 167, 255, 233, 28, 172]
abbrev dktX4_ageOf_1 : List UInt8 := dkwX4_ageOf_1 ++ []
def dkwX4_ageOf_0 : List UInt8 := [3, 61, 28, 4, 96, 16, 8, 162, 0, 21, 42, 180, 0, 88, 28, 4, 96, 46, 27, 163, 0, 9]
abbrev dktX4_ageOf_0 : List UInt8 := dkwX4_ageOf_0 ++ dktX4_ageOf_1
theorem dksX4_ageOf_0 : cX4_ageOf.data.toList.drop 0 = dktX4_ageOf_0 := by decide +kernel
theorem dksX4_ageOf_1 : cX4_ageOf.data.toList.drop 22 = dktX4_ageOf_1 := dk_seg dksX4_ageOf_0 22 rfl rfl
theorem dX4_ageOf_0 : decode cX4_ageOf 0 = .ok (.iconst 0, 1) := dk_3 (dk_at dksX4_ageOf_0 0 rfl rfl)
theorem dX4_ageOf_1 : decode cX4_ageOf 1 = .ok (.istore_n 2, 1) := dk_61 (dk_at dksX4_ageOf_0 1 rfl rfl)
theorem dX4_ageOf_2 : decode cX4_ageOf 2 = .ok (.iload_n 2, 1) := dk_28 (dk_at dksX4_ageOf_0 2 rfl rfl)
theorem dX4_ageOf_3 : decode cX4_ageOf 3 = .ok (.iconst 1, 1) := dk_4 (dk_at dksX4_ageOf_0 3 rfl rfl)
theorem dX4_ageOf_4 : decode cX4_ageOf 4 = .ok (.iadd, 1) := dk_96 (dk_at dksX4_ageOf_0 4 rfl rfl)
theorem dX4_ageOf_5 : decode cX4_ageOf 5 = .ok (.bipush 8, 2) := dk_16 8 (dk_at dksX4_ageOf_0 5 rfl rfl)
theorem dX4_ageOf_7 : decode cX4_ageOf 7 = .ok (.if_icmp .ge 21, 3) := dk_162 0 21 (dk_at dksX4_ageOf_0 7 rfl rfl)
theorem dX4_ageOf_10 : decode cX4_ageOf 10 = .ok (.aload_n 0, 1) := dk_42 (dk_at dksX4_ageOf_0 10 rfl rfl)
theorem dX4_ageOf_11 : decode cX4_ageOf 11 = .ok (.getfield 88, 3) := dk_180 0 88 (dk_at dksX4_ageOf_0 11 rfl rfl)
theorem dX4_ageOf_14 : decode cX4_ageOf 14 = .ok (.iload_n 2, 1) := dk_28 (dk_at dksX4_ageOf_0 14 rfl rfl)
theorem dX4_ageOf_15 : decode cX4_ageOf 15 = .ok (.iconst 1, 1) := dk_4 (dk_at dksX4_ageOf_0 15 rfl rfl)
theorem dX4_ageOf_16 : decode cX4_ageOf 16 = .ok (.iadd, 1) := dk_96 (dk_at dksX4_ageOf_0 16 rfl rfl)
theorem dX4_ageOf_17 : decode cX4_ageOf 17 = .ok (.iaload, 1) := dk_46 (dk_at dksX4_ageOf_0 17 rfl rfl)
theorem dX4_ageOf_18 : decode cX4_ageOf 18 = .ok (.iload_n 1, 1) := dk_27 (dk_at dksX4_ageOf_0 18 rfl rfl)
theorem dX4_ageOf_19 : decode cX4_ageOf 19 = .ok (.if_icmp .gt 9, 3) := dk_163 0 9 (dk_at dksX4_ageOf_0 19 rfl rfl)
theorem dX4_ageOf_22 : decode cX4_ageOf 22 = .ok (.iinc 2 1, 3) := dk_132 2 1 (dk_at dksX4_ageOf_1 0 rfl rfl)
theorem dX4_ageOf_25 : decode cX4_ageOf 25 = .ok (.goto (-23), 3) := dk_167 255 233 (dk_at dksX4_ageOf_1 3 rfl rfl)
theorem dX4_ageOf_28 : decode cX4_ageOf 28 = .ok (.iload_n 2, 1) := dk_28 (dk_at dksX4_ageOf_1 6 rfl rfl)
theorem dX4_ageOf_29 : decode cX4_ageOf 29 = .ok (.ireturn, 1) := dk_172 (dk_at dksX4_ageOf_1 7 rfl rfl)
abbrev cX4_slack : ByteArray := prog_20_method_85_code
def yX4_slack : MethodName := ⟨RX4, "slack", "(IIIIII)I"⟩
def dkwX4_slack_2 : List UInt8 := [182, 1, 230, 42, 180, 1, 224, 154, 0, 7, 2, 167, 0, 8, 42, 27, 182, 1, 242, 172]
abbrev dktX4_slack_2 : List UInt8 := dkwX4_slack_2 ++ []
def dkwX4_slack_1 : List UInt8 := [153, 0, 11, 42, 29, 182, 1, 203, 154, 0, 6, 16, 254, 172, 42, 28, 29, 21, 4, 21, 5, 21, 6]
abbrev dktX4_slack_1 : List UInt8 := dkwX4_slack_1 ++ dktX4_slack_2
def dkwX4_slack_0 : List UInt8 := [42, 3, 181, 0, 173, 42, 27, 182, 1, 239, 153, 0, 25, 42, 28, 21, 4, 21, 5, 21, 6, 182, 1, 196]
abbrev dktX4_slack_0 : List UInt8 := dkwX4_slack_0 ++ dktX4_slack_1
theorem dksX4_slack_0 : cX4_slack.data.toList.drop 0 = dktX4_slack_0 := by decide +kernel
theorem dksX4_slack_1 : cX4_slack.data.toList.drop 24 = dktX4_slack_1 := dk_seg dksX4_slack_0 24 rfl rfl
theorem dksX4_slack_2 : cX4_slack.data.toList.drop 47 = dktX4_slack_2 := dk_seg dksX4_slack_1 23 rfl rfl
theorem dX4_slack_0 : decode cX4_slack 0 = .ok (.aload_n 0, 1) := dk_42 (dk_at dksX4_slack_0 0 rfl rfl)
theorem dX4_slack_1 : decode cX4_slack 1 = .ok (.iconst 0, 1) := dk_3 (dk_at dksX4_slack_0 1 rfl rfl)
theorem dX4_slack_2 : decode cX4_slack 2 = .ok (.putfield 173, 3) := dk_181 0 173 (dk_at dksX4_slack_0 2 rfl rfl)
theorem dX4_slack_5 : decode cX4_slack 5 = .ok (.aload_n 0, 1) := dk_42 (dk_at dksX4_slack_0 5 rfl rfl)
theorem dX4_slack_6 : decode cX4_slack 6 = .ok (.iload_n 1, 1) := dk_27 (dk_at dksX4_slack_0 6 rfl rfl)
theorem dX4_slack_7 : decode cX4_slack 7 = .ok (.invokevirtual 495, 3) := dk_182 1 239 (dk_at dksX4_slack_0 7 rfl rfl)
theorem dX4_slack_10 : decode cX4_slack 10 = .ok (.ifCond .eq 25, 3) := dk_153 0 25 (dk_at dksX4_slack_0 10 rfl rfl)
theorem dX4_slack_13 : decode cX4_slack 13 = .ok (.aload_n 0, 1) := dk_42 (dk_at dksX4_slack_0 13 rfl rfl)
theorem dX4_slack_14 : decode cX4_slack 14 = .ok (.iload_n 2, 1) := dk_28 (dk_at dksX4_slack_0 14 rfl rfl)
theorem dX4_slack_15 : decode cX4_slack 15 = .ok (.iload 4, 2) := dk_21 4 (dk_at dksX4_slack_0 15 rfl rfl)
theorem dX4_slack_17 : decode cX4_slack 17 = .ok (.iload 5, 2) := dk_21 5 (dk_at dksX4_slack_0 17 rfl rfl)
theorem dX4_slack_19 : decode cX4_slack 19 = .ok (.iload 6, 2) := dk_21 6 (dk_at dksX4_slack_0 19 rfl rfl)
theorem dX4_slack_21 : decode cX4_slack 21 = .ok (.invokevirtual 452, 3) := dk_182 1 196 (dk_at dksX4_slack_0 21 rfl rfl)
theorem dX4_slack_24 : decode cX4_slack 24 = .ok (.ifCond .eq 11, 3) := dk_153 0 11 (dk_at dksX4_slack_1 0 rfl rfl)
theorem dX4_slack_27 : decode cX4_slack 27 = .ok (.aload_n 0, 1) := dk_42 (dk_at dksX4_slack_1 3 rfl rfl)
theorem dX4_slack_28 : decode cX4_slack 28 = .ok (.iload_n 3, 1) := dk_29 (dk_at dksX4_slack_1 4 rfl rfl)
theorem dX4_slack_29 : decode cX4_slack 29 = .ok (.invokevirtual 459, 3) := dk_182 1 203 (dk_at dksX4_slack_1 5 rfl rfl)
theorem dX4_slack_32 : decode cX4_slack 32 = .ok (.ifCond .ne 6, 3) := dk_154 0 6 (dk_at dksX4_slack_1 8 rfl rfl)
theorem dX4_slack_35 : decode cX4_slack 35 = .ok (.bipush (-2), 2) := dk_16 254 (dk_at dksX4_slack_1 11 rfl rfl)
theorem dX4_slack_37 : decode cX4_slack 37 = .ok (.ireturn, 1) := dk_172 (dk_at dksX4_slack_1 13 rfl rfl)
theorem dX4_slack_38 : decode cX4_slack 38 = .ok (.aload_n 0, 1) := dk_42 (dk_at dksX4_slack_1 14 rfl rfl)
theorem dX4_slack_39 : decode cX4_slack 39 = .ok (.iload_n 2, 1) := dk_28 (dk_at dksX4_slack_1 15 rfl rfl)
theorem dX4_slack_40 : decode cX4_slack 40 = .ok (.iload_n 3, 1) := dk_29 (dk_at dksX4_slack_1 16 rfl rfl)
theorem dX4_slack_41 : decode cX4_slack 41 = .ok (.iload 4, 2) := dk_21 4 (dk_at dksX4_slack_1 17 rfl rfl)
theorem dX4_slack_43 : decode cX4_slack 43 = .ok (.iload 5, 2) := dk_21 5 (dk_at dksX4_slack_1 19 rfl rfl)
theorem dX4_slack_45 : decode cX4_slack 45 = .ok (.iload 6, 2) := dk_21 6 (dk_at dksX4_slack_1 21 rfl rfl)
theorem dX4_slack_47 : decode cX4_slack 47 = .ok (.invokevirtual 486, 3) := dk_182 1 230 (dk_at dksX4_slack_2 0 rfl rfl)
theorem dX4_slack_50 : decode cX4_slack 50 = .ok (.aload_n 0, 1) := dk_42 (dk_at dksX4_slack_2 3 rfl rfl)
theorem dX4_slack_51 : decode cX4_slack 51 = .ok (.getfield 480, 3) := dk_180 1 224 (dk_at dksX4_slack_2 4 rfl rfl)
theorem dX4_slack_54 : decode cX4_slack 54 = .ok (.ifCond .ne 7, 3) := dk_154 0 7 (dk_at dksX4_slack_2 7 rfl rfl)
theorem dX4_slack_57 : decode cX4_slack 57 = .ok (.iconst (-1), 1) := dk_2 (dk_at dksX4_slack_2 10 rfl rfl)
theorem dX4_slack_58 : decode cX4_slack 58 = .ok (.goto 8, 3) := dk_167 0 8 (dk_at dksX4_slack_2 11 rfl rfl)
theorem dX4_slack_61 : decode cX4_slack 61 = .ok (.aload_n 0, 1) := dk_42 (dk_at dksX4_slack_2 14 rfl rfl)
theorem dX4_slack_62 : decode cX4_slack 62 = .ok (.iload_n 1, 1) := dk_27 (dk_at dksX4_slack_2 15 rfl rfl)
theorem dX4_slack_63 : decode cX4_slack 63 = .ok (.invokevirtual 498, 3) := dk_182 1 242 (dk_at dksX4_slack_2 16 rfl rfl)
theorem dX4_slack_66 : decode cX4_slack 66 = .ok (.ireturn, 1) := dk_172 (dk_at dksX4_slack_2 19 rfl rfl)
abbrev cX4_isHerd : ByteArray := prog_20_method_84_code
def yX4_isHerd : MethodName := ⟨RX4, "isHerd", "(I)Z"⟩
def dkwX4_isHerd_0 : List UInt8 := [27, 133, 9, 42, 180, 1, 221, 4, 100, 133, 184, 0, 178, 172]
abbrev dktX4_isHerd_0 : List UInt8 := dkwX4_isHerd_0 ++ []
theorem dksX4_isHerd_0 : cX4_isHerd.data.toList.drop 0 = dktX4_isHerd_0 := by decide +kernel
theorem dX4_isHerd_0 : decode cX4_isHerd 0 = .ok (.iload_n 1, 1) := dk_27 (dk_at dksX4_isHerd_0 0 rfl rfl)
theorem dX4_isHerd_1 : decode cX4_isHerd 1 = .ok (.i2l, 1) := dk_133 (dk_at dksX4_isHerd_0 1 rfl rfl)
theorem dX4_isHerd_2 : decode cX4_isHerd 2 = .ok (.lconst 0, 1) := dk_9 (dk_at dksX4_isHerd_0 2 rfl rfl)
theorem dX4_isHerd_3 : decode cX4_isHerd 3 = .ok (.aload_n 0, 1) := dk_42 (dk_at dksX4_isHerd_0 3 rfl rfl)
theorem dX4_isHerd_4 : decode cX4_isHerd 4 = .ok (.getfield 477, 3) := dk_180 1 221 (dk_at dksX4_isHerd_0 4 rfl rfl)
theorem dX4_isHerd_7 : decode cX4_isHerd 7 = .ok (.iconst 1, 1) := dk_4 (dk_at dksX4_isHerd_0 7 rfl rfl)
theorem dX4_isHerd_8 : decode cX4_isHerd 8 = .ok (.isub, 1) := dk_100 (dk_at dksX4_isHerd_0 8 rfl rfl)
theorem dX4_isHerd_9 : decode cX4_isHerd 9 = .ok (.i2l, 1) := dk_133 (dk_at dksX4_isHerd_0 9 rfl rfl)
theorem dX4_isHerd_10 : decode cX4_isHerd 10 = .ok (.invokestatic 178, 3) := dk_184 0 178 (dk_at dksX4_isHerd_0 10 rfl rfl)
theorem dX4_isHerd_13 : decode cX4_isHerd 13 = .ok (.ireturn, 1) := dk_172 (dk_at dksX4_isHerd_0 13 rfl rfl)
abbrev cX4_leastSlack : ByteArray := prog_20_method_83_code
def yX4_leastSlack : MethodName := ⟨RX4, "leastSlack", "(I)I"⟩
def dkwX4_leastSlack_1 : List UInt8 := [167, 255, 240, 28, 172]
abbrev dktX4_leastSlack_1 : List UInt8 := dkwX4_leastSlack_1 ++ []
def dkwX4_leastSlack_0 : List UInt8 := [3, 61, 42, 27, 3, 182, 1, 233, 42, 182, 1, 236, 154, 0, 15, 132, 2, 1, 42, 27, 28, 182, 1, 233]
abbrev dktX4_leastSlack_0 : List UInt8 := dkwX4_leastSlack_0 ++ dktX4_leastSlack_1
theorem dksX4_leastSlack_0 : cX4_leastSlack.data.toList.drop 0 = dktX4_leastSlack_0 := by decide +kernel
theorem dksX4_leastSlack_1 : cX4_leastSlack.data.toList.drop 24 = dktX4_leastSlack_1 := dk_seg dksX4_leastSlack_0 24 rfl rfl
theorem dX4_leastSlack_0 : decode cX4_leastSlack 0 = .ok (.iconst 0, 1) := dk_3 (dk_at dksX4_leastSlack_0 0 rfl rfl)
theorem dX4_leastSlack_1 : decode cX4_leastSlack 1 = .ok (.istore_n 2, 1) := dk_61 (dk_at dksX4_leastSlack_0 1 rfl rfl)
theorem dX4_leastSlack_2 : decode cX4_leastSlack 2 = .ok (.aload_n 0, 1) := dk_42 (dk_at dksX4_leastSlack_0 2 rfl rfl)
theorem dX4_leastSlack_3 : decode cX4_leastSlack 3 = .ok (.iload_n 1, 1) := dk_27 (dk_at dksX4_leastSlack_0 3 rfl rfl)
theorem dX4_leastSlack_4 : decode cX4_leastSlack 4 = .ok (.iconst 0, 1) := dk_3 (dk_at dksX4_leastSlack_0 4 rfl rfl)
theorem dX4_leastSlack_5 : decode cX4_leastSlack 5 = .ok (.invokevirtual 489, 3) := dk_182 1 233 (dk_at dksX4_leastSlack_0 5 rfl rfl)
theorem dX4_leastSlack_8 : decode cX4_leastSlack 8 = .ok (.aload_n 0, 1) := dk_42 (dk_at dksX4_leastSlack_0 8 rfl rfl)
theorem dX4_leastSlack_9 : decode cX4_leastSlack 9 = .ok (.invokevirtual 492, 3) := dk_182 1 236 (dk_at dksX4_leastSlack_0 9 rfl rfl)
theorem dX4_leastSlack_12 : decode cX4_leastSlack 12 = .ok (.ifCond .ne 15, 3) := dk_154 0 15 (dk_at dksX4_leastSlack_0 12 rfl rfl)
theorem dX4_leastSlack_15 : decode cX4_leastSlack 15 = .ok (.iinc 2 1, 3) := dk_132 2 1 (dk_at dksX4_leastSlack_0 15 rfl rfl)
theorem dX4_leastSlack_18 : decode cX4_leastSlack 18 = .ok (.aload_n 0, 1) := dk_42 (dk_at dksX4_leastSlack_0 18 rfl rfl)
theorem dX4_leastSlack_19 : decode cX4_leastSlack 19 = .ok (.iload_n 1, 1) := dk_27 (dk_at dksX4_leastSlack_0 19 rfl rfl)
theorem dX4_leastSlack_20 : decode cX4_leastSlack 20 = .ok (.iload_n 2, 1) := dk_28 (dk_at dksX4_leastSlack_0 20 rfl rfl)
theorem dX4_leastSlack_21 : decode cX4_leastSlack 21 = .ok (.invokevirtual 489, 3) := dk_182 1 233 (dk_at dksX4_leastSlack_0 21 rfl rfl)
theorem dX4_leastSlack_24 : decode cX4_leastSlack 24 = .ok (.goto (-16), 3) := dk_167 255 240 (dk_at dksX4_leastSlack_1 0 rfl rfl)
theorem dX4_leastSlack_27 : decode cX4_leastSlack 27 = .ok (.iload_n 2, 1) := dk_28 (dk_at dksX4_leastSlack_1 3 rfl rfl)
theorem dX4_leastSlack_28 : decode cX4_leastSlack 28 = .ok (.ireturn, 1) := dk_172 (dk_at dksX4_leastSlack_1 4 rfl rfl)
abbrev cX4_limits : ByteArray := prog_20_method_82_code
def yX4_limits : MethodName := ⟨RX4, "limits", "(II)V"⟩
def dkwX4_limits_2 : List UInt8 := [21, 4, 28, 96, 79, 132, 3, 1, 167, 255, 202, 177]
abbrev dktX4_limits_2 : List UInt8 := dkwX4_limits_2 ++ []
def dkwX4_limits_1 : List UInt8 := [16, 100, 108, 54, 4, 42, 180, 0, 155, 29, 3, 21, 4, 28, 100, 184, 0, 229, 79, 42, 180, 0, 158, 29]
abbrev dktX4_limits_1 : List UInt8 := dkwX4_limits_1 ++ dktX4_limits_2
def dkwX4_limits_0 : List UInt8 := [3, 62, 29, 16, 8, 162, 0, 54, 42, 180, 1, 224, 42, 180, 0, 91, 16, 8, 27, 104, 29, 96, 46, 104]
abbrev dktX4_limits_0 : List UInt8 := dkwX4_limits_0 ++ dktX4_limits_1
theorem dksX4_limits_0 : cX4_limits.data.toList.drop 0 = dktX4_limits_0 := by decide +kernel
theorem dksX4_limits_1 : cX4_limits.data.toList.drop 24 = dktX4_limits_1 := dk_seg dksX4_limits_0 24 rfl rfl
theorem dksX4_limits_2 : cX4_limits.data.toList.drop 48 = dktX4_limits_2 := dk_seg dksX4_limits_1 24 rfl rfl
theorem dX4_limits_0 : decode cX4_limits 0 = .ok (.iconst 0, 1) := dk_3 (dk_at dksX4_limits_0 0 rfl rfl)
theorem dX4_limits_1 : decode cX4_limits 1 = .ok (.istore_n 3, 1) := dk_62 (dk_at dksX4_limits_0 1 rfl rfl)
theorem dX4_limits_2 : decode cX4_limits 2 = .ok (.iload_n 3, 1) := dk_29 (dk_at dksX4_limits_0 2 rfl rfl)
theorem dX4_limits_3 : decode cX4_limits 3 = .ok (.bipush 8, 2) := dk_16 8 (dk_at dksX4_limits_0 3 rfl rfl)
theorem dX4_limits_5 : decode cX4_limits 5 = .ok (.if_icmp .ge 54, 3) := dk_162 0 54 (dk_at dksX4_limits_0 5 rfl rfl)
theorem dX4_limits_8 : decode cX4_limits 8 = .ok (.aload_n 0, 1) := dk_42 (dk_at dksX4_limits_0 8 rfl rfl)
theorem dX4_limits_9 : decode cX4_limits 9 = .ok (.getfield 480, 3) := dk_180 1 224 (dk_at dksX4_limits_0 9 rfl rfl)
theorem dX4_limits_12 : decode cX4_limits 12 = .ok (.aload_n 0, 1) := dk_42 (dk_at dksX4_limits_0 12 rfl rfl)
theorem dX4_limits_13 : decode cX4_limits 13 = .ok (.getfield 91, 3) := dk_180 0 91 (dk_at dksX4_limits_0 13 rfl rfl)
theorem dX4_limits_16 : decode cX4_limits 16 = .ok (.bipush 8, 2) := dk_16 8 (dk_at dksX4_limits_0 16 rfl rfl)
theorem dX4_limits_18 : decode cX4_limits 18 = .ok (.iload_n 1, 1) := dk_27 (dk_at dksX4_limits_0 18 rfl rfl)
theorem dX4_limits_19 : decode cX4_limits 19 = .ok (.imul, 1) := dk_104 (dk_at dksX4_limits_0 19 rfl rfl)
theorem dX4_limits_20 : decode cX4_limits 20 = .ok (.iload_n 3, 1) := dk_29 (dk_at dksX4_limits_0 20 rfl rfl)
theorem dX4_limits_21 : decode cX4_limits 21 = .ok (.iadd, 1) := dk_96 (dk_at dksX4_limits_0 21 rfl rfl)
theorem dX4_limits_22 : decode cX4_limits 22 = .ok (.iaload, 1) := dk_46 (dk_at dksX4_limits_0 22 rfl rfl)
theorem dX4_limits_23 : decode cX4_limits 23 = .ok (.imul, 1) := dk_104 (dk_at dksX4_limits_0 23 rfl rfl)
theorem dX4_limits_24 : decode cX4_limits 24 = .ok (.bipush 100, 2) := dk_16 100 (dk_at dksX4_limits_1 0 rfl rfl)
theorem dX4_limits_26 : decode cX4_limits 26 = .ok (.idiv, 1) := dk_108 (dk_at dksX4_limits_1 2 rfl rfl)
theorem dX4_limits_27 : decode cX4_limits 27 = .ok (.istore 4, 2) := dk_54 4 (dk_at dksX4_limits_1 3 rfl rfl)
theorem dX4_limits_29 : decode cX4_limits 29 = .ok (.aload_n 0, 1) := dk_42 (dk_at dksX4_limits_1 5 rfl rfl)
theorem dX4_limits_30 : decode cX4_limits 30 = .ok (.getfield 155, 3) := dk_180 0 155 (dk_at dksX4_limits_1 6 rfl rfl)
theorem dX4_limits_33 : decode cX4_limits 33 = .ok (.iload_n 3, 1) := dk_29 (dk_at dksX4_limits_1 9 rfl rfl)
theorem dX4_limits_34 : decode cX4_limits 34 = .ok (.iconst 0, 1) := dk_3 (dk_at dksX4_limits_1 10 rfl rfl)
theorem dX4_limits_35 : decode cX4_limits 35 = .ok (.iload 4, 2) := dk_21 4 (dk_at dksX4_limits_1 11 rfl rfl)
theorem dX4_limits_37 : decode cX4_limits 37 = .ok (.iload_n 2, 1) := dk_28 (dk_at dksX4_limits_1 13 rfl rfl)
theorem dX4_limits_38 : decode cX4_limits 38 = .ok (.isub, 1) := dk_100 (dk_at dksX4_limits_1 14 rfl rfl)
theorem dX4_limits_39 : decode cX4_limits 39 = .ok (.invokestatic 229, 3) := dk_184 0 229 (dk_at dksX4_limits_1 15 rfl rfl)
theorem dX4_limits_42 : decode cX4_limits 42 = .ok (.iastore, 1) := dk_79 (dk_at dksX4_limits_1 18 rfl rfl)
theorem dX4_limits_43 : decode cX4_limits 43 = .ok (.aload_n 0, 1) := dk_42 (dk_at dksX4_limits_1 19 rfl rfl)
theorem dX4_limits_44 : decode cX4_limits 44 = .ok (.getfield 158, 3) := dk_180 0 158 (dk_at dksX4_limits_1 20 rfl rfl)
theorem dX4_limits_47 : decode cX4_limits 47 = .ok (.iload_n 3, 1) := dk_29 (dk_at dksX4_limits_1 23 rfl rfl)
theorem dX4_limits_48 : decode cX4_limits 48 = .ok (.iload 4, 2) := dk_21 4 (dk_at dksX4_limits_2 0 rfl rfl)
theorem dX4_limits_50 : decode cX4_limits 50 = .ok (.iload_n 2, 1) := dk_28 (dk_at dksX4_limits_2 2 rfl rfl)
theorem dX4_limits_51 : decode cX4_limits 51 = .ok (.iadd, 1) := dk_96 (dk_at dksX4_limits_2 3 rfl rfl)
theorem dX4_limits_52 : decode cX4_limits 52 = .ok (.iastore, 1) := dk_79 (dk_at dksX4_limits_2 4 rfl rfl)
theorem dX4_limits_53 : decode cX4_limits 53 = .ok (.iinc 3 1, 3) := dk_132 3 1 (dk_at dksX4_limits_2 5 rfl rfl)
theorem dX4_limits_56 : decode cX4_limits 56 = .ok (.goto (-54), 3) := dk_167 255 202 (dk_at dksX4_limits_2 8 rfl rfl)
theorem dX4_limits_59 : decode cX4_limits 59 = .ok (.return_, 1) := dk_177 (dk_at dksX4_limits_2 11 rfl rfl)
abbrev cX4_isKilling : ByteArray := prog_20_method_81_code
def yX4_isKilling : MethodName := ⟨RX4, "isKilling", "()Z"⟩
def dkwX4_isKilling_8 : List UInt8 := [167, 255, 70, 4, 172]
abbrev dktX4_isKilling_8 : List UInt8 := dkwX4_isKilling_8 ++ []
def dkwX4_isKilling_7 : List UInt8 := [132, 6, 1, 167, 255, 162, 28, 21, 5, 163, 0, 9, 29, 21, 4, 162, 0, 5, 3, 172, 132, 1, 1]
abbrev dktX4_isKilling_7 : List UInt8 := dkwX4_isKilling_7 ++ dktX4_isKilling_8
def dkwX4_isKilling_6 : List UInt8 := [180, 0, 152, 16, 8, 21, 6, 104, 21, 7, 96, 46, 167, 0, 4, 3, 96, 62, 132, 7, 1, 167, 255, 179]
abbrev dktX4_isKilling_6 : List UInt8 := dkwX4_isKilling_6 ++ dktX4_isKilling_7
def dkwX4_isKilling_5 : List UInt8 := [21, 6, 104, 21, 7, 96, 46, 167, 0, 4, 3, 96, 61, 29, 21, 8, 27, 126, 153, 0, 19, 42]
abbrev dktX4_isKilling_5 : List UInt8 := dkwX4_isKilling_5 ++ dktX4_isKilling_6
def dkwX4_isKilling_4 : List UInt8 := [120, 4, 21, 6, 120, 100, 54, 8, 28, 21, 8, 27, 2, 130, 126, 154, 0, 19, 42, 180, 0, 152, 16, 8]
abbrev dktX4_isKilling_4 : List UInt8 := dkwX4_isKilling_4 ++ dktX4_isKilling_5
def dkwX4_isKilling_3 : List UInt8 := [3, 54, 6, 21, 6, 16, 8, 162, 0, 93, 21, 6, 54, 7, 21, 7, 16, 8, 162, 0, 76, 5, 21, 7]
abbrev dktX4_isKilling_3 : List UInt8 := dkwX4_isKilling_3 ++ dktX4_isKilling_4
def dkwX4_isKilling_2 : List UInt8 := [21, 6, 46, 96, 54, 4, 21, 5, 42, 180, 0, 158, 21, 6, 46, 96, 54, 5, 132, 6, 1, 167, 255, 210]
abbrev dktX4_isKilling_2 : List UInt8 := dkwX4_isKilling_2 ++ dktX4_isKilling_3
def dkwX4_isKilling_1 : List UInt8 := [16, 8, 162, 0, 45, 27, 21, 6, 122, 4, 126, 154, 0, 6, 167, 0, 27, 21, 4, 42, 180, 0, 155]
abbrev dktX4_isKilling_1 : List UInt8 := dkwX4_isKilling_1 ++ dktX4_isKilling_2
def dkwX4_isKilling_0 : List UInt8 := [4, 60, 27, 17, 1, 0, 162, 0, 185, 3, 61, 3, 62, 3, 54, 4, 3, 54, 5, 3, 54, 6, 21, 6]
abbrev dktX4_isKilling_0 : List UInt8 := dkwX4_isKilling_0 ++ dktX4_isKilling_1
theorem dksX4_isKilling_0 : cX4_isKilling.data.toList.drop 0 = dktX4_isKilling_0 := by decide +kernel
theorem dksX4_isKilling_1 : cX4_isKilling.data.toList.drop 24 = dktX4_isKilling_1 := dk_seg dksX4_isKilling_0 24 rfl rfl
theorem dksX4_isKilling_2 : cX4_isKilling.data.toList.drop 47 = dktX4_isKilling_2 := dk_seg dksX4_isKilling_1 23 rfl rfl
theorem dksX4_isKilling_3 : cX4_isKilling.data.toList.drop 71 = dktX4_isKilling_3 := dk_seg dksX4_isKilling_2 24 rfl rfl
theorem dksX4_isKilling_4 : cX4_isKilling.data.toList.drop 95 = dktX4_isKilling_4 := dk_seg dksX4_isKilling_3 24 rfl rfl
theorem dksX4_isKilling_5 : cX4_isKilling.data.toList.drop 119 = dktX4_isKilling_5 := dk_seg dksX4_isKilling_4 24 rfl rfl
theorem dksX4_isKilling_6 : cX4_isKilling.data.toList.drop 141 = dktX4_isKilling_6 := dk_seg dksX4_isKilling_5 22 rfl rfl
theorem dksX4_isKilling_7 : cX4_isKilling.data.toList.drop 165 = dktX4_isKilling_7 := dk_seg dksX4_isKilling_6 24 rfl rfl
theorem dksX4_isKilling_8 : cX4_isKilling.data.toList.drop 188 = dktX4_isKilling_8 := dk_seg dksX4_isKilling_7 23 rfl rfl
theorem dX4_isKilling_0 : decode cX4_isKilling 0 = .ok (.iconst 1, 1) := dk_4 (dk_at dksX4_isKilling_0 0 rfl rfl)
theorem dX4_isKilling_1 : decode cX4_isKilling 1 = .ok (.istore_n 1, 1) := dk_60 (dk_at dksX4_isKilling_0 1 rfl rfl)
theorem dX4_isKilling_2 : decode cX4_isKilling 2 = .ok (.iload_n 1, 1) := dk_27 (dk_at dksX4_isKilling_0 2 rfl rfl)
theorem dX4_isKilling_3 : decode cX4_isKilling 3 = .ok (.sipush 256, 3) := dk_17 1 0 (dk_at dksX4_isKilling_0 3 rfl rfl)
theorem dX4_isKilling_6 : decode cX4_isKilling 6 = .ok (.if_icmp .ge 185, 3) := dk_162 0 185 (dk_at dksX4_isKilling_0 6 rfl rfl)
theorem dX4_isKilling_9 : decode cX4_isKilling 9 = .ok (.iconst 0, 1) := dk_3 (dk_at dksX4_isKilling_0 9 rfl rfl)
theorem dX4_isKilling_10 : decode cX4_isKilling 10 = .ok (.istore_n 2, 1) := dk_61 (dk_at dksX4_isKilling_0 10 rfl rfl)
theorem dX4_isKilling_11 : decode cX4_isKilling 11 = .ok (.iconst 0, 1) := dk_3 (dk_at dksX4_isKilling_0 11 rfl rfl)
theorem dX4_isKilling_12 : decode cX4_isKilling 12 = .ok (.istore_n 3, 1) := dk_62 (dk_at dksX4_isKilling_0 12 rfl rfl)
theorem dX4_isKilling_13 : decode cX4_isKilling 13 = .ok (.iconst 0, 1) := dk_3 (dk_at dksX4_isKilling_0 13 rfl rfl)
theorem dX4_isKilling_14 : decode cX4_isKilling 14 = .ok (.istore 4, 2) := dk_54 4 (dk_at dksX4_isKilling_0 14 rfl rfl)
theorem dX4_isKilling_16 : decode cX4_isKilling 16 = .ok (.iconst 0, 1) := dk_3 (dk_at dksX4_isKilling_0 16 rfl rfl)
theorem dX4_isKilling_17 : decode cX4_isKilling 17 = .ok (.istore 5, 2) := dk_54 5 (dk_at dksX4_isKilling_0 17 rfl rfl)
theorem dX4_isKilling_19 : decode cX4_isKilling 19 = .ok (.iconst 0, 1) := dk_3 (dk_at dksX4_isKilling_0 19 rfl rfl)
theorem dX4_isKilling_20 : decode cX4_isKilling 20 = .ok (.istore 6, 2) := dk_54 6 (dk_at dksX4_isKilling_0 20 rfl rfl)
theorem dX4_isKilling_22 : decode cX4_isKilling 22 = .ok (.iload 6, 2) := dk_21 6 (dk_at dksX4_isKilling_0 22 rfl rfl)
theorem dX4_isKilling_24 : decode cX4_isKilling 24 = .ok (.bipush 8, 2) := dk_16 8 (dk_at dksX4_isKilling_1 0 rfl rfl)
theorem dX4_isKilling_26 : decode cX4_isKilling 26 = .ok (.if_icmp .ge 45, 3) := dk_162 0 45 (dk_at dksX4_isKilling_1 2 rfl rfl)
theorem dX4_isKilling_29 : decode cX4_isKilling 29 = .ok (.iload_n 1, 1) := dk_27 (dk_at dksX4_isKilling_1 5 rfl rfl)
theorem dX4_isKilling_30 : decode cX4_isKilling 30 = .ok (.iload 6, 2) := dk_21 6 (dk_at dksX4_isKilling_1 6 rfl rfl)
theorem dX4_isKilling_32 : decode cX4_isKilling 32 = .ok (.ishr, 1) := dk_122 (dk_at dksX4_isKilling_1 8 rfl rfl)
theorem dX4_isKilling_33 : decode cX4_isKilling 33 = .ok (.iconst 1, 1) := dk_4 (dk_at dksX4_isKilling_1 9 rfl rfl)
theorem dX4_isKilling_34 : decode cX4_isKilling 34 = .ok (.iand, 1) := dk_126 (dk_at dksX4_isKilling_1 10 rfl rfl)
theorem dX4_isKilling_35 : decode cX4_isKilling 35 = .ok (.ifCond .ne 6, 3) := dk_154 0 6 (dk_at dksX4_isKilling_1 11 rfl rfl)
theorem dX4_isKilling_38 : decode cX4_isKilling 38 = .ok (.goto 27, 3) := dk_167 0 27 (dk_at dksX4_isKilling_1 14 rfl rfl)
theorem dX4_isKilling_41 : decode cX4_isKilling 41 = .ok (.iload 4, 2) := dk_21 4 (dk_at dksX4_isKilling_1 17 rfl rfl)
theorem dX4_isKilling_43 : decode cX4_isKilling 43 = .ok (.aload_n 0, 1) := dk_42 (dk_at dksX4_isKilling_1 19 rfl rfl)
theorem dX4_isKilling_44 : decode cX4_isKilling 44 = .ok (.getfield 155, 3) := dk_180 0 155 (dk_at dksX4_isKilling_1 20 rfl rfl)
theorem dX4_isKilling_47 : decode cX4_isKilling 47 = .ok (.iload 6, 2) := dk_21 6 (dk_at dksX4_isKilling_2 0 rfl rfl)
theorem dX4_isKilling_49 : decode cX4_isKilling 49 = .ok (.iaload, 1) := dk_46 (dk_at dksX4_isKilling_2 2 rfl rfl)
theorem dX4_isKilling_50 : decode cX4_isKilling 50 = .ok (.iadd, 1) := dk_96 (dk_at dksX4_isKilling_2 3 rfl rfl)
theorem dX4_isKilling_51 : decode cX4_isKilling 51 = .ok (.istore 4, 2) := dk_54 4 (dk_at dksX4_isKilling_2 4 rfl rfl)
theorem dX4_isKilling_53 : decode cX4_isKilling 53 = .ok (.iload 5, 2) := dk_21 5 (dk_at dksX4_isKilling_2 6 rfl rfl)
theorem dX4_isKilling_55 : decode cX4_isKilling 55 = .ok (.aload_n 0, 1) := dk_42 (dk_at dksX4_isKilling_2 8 rfl rfl)
theorem dX4_isKilling_56 : decode cX4_isKilling 56 = .ok (.getfield 158, 3) := dk_180 0 158 (dk_at dksX4_isKilling_2 9 rfl rfl)
theorem dX4_isKilling_59 : decode cX4_isKilling 59 = .ok (.iload 6, 2) := dk_21 6 (dk_at dksX4_isKilling_2 12 rfl rfl)
theorem dX4_isKilling_61 : decode cX4_isKilling 61 = .ok (.iaload, 1) := dk_46 (dk_at dksX4_isKilling_2 14 rfl rfl)
theorem dX4_isKilling_62 : decode cX4_isKilling 62 = .ok (.iadd, 1) := dk_96 (dk_at dksX4_isKilling_2 15 rfl rfl)
theorem dX4_isKilling_63 : decode cX4_isKilling 63 = .ok (.istore 5, 2) := dk_54 5 (dk_at dksX4_isKilling_2 16 rfl rfl)
theorem dX4_isKilling_65 : decode cX4_isKilling 65 = .ok (.iinc 6 1, 3) := dk_132 6 1 (dk_at dksX4_isKilling_2 18 rfl rfl)
theorem dX4_isKilling_68 : decode cX4_isKilling 68 = .ok (.goto (-46), 3) := dk_167 255 210 (dk_at dksX4_isKilling_2 21 rfl rfl)
theorem dX4_isKilling_71 : decode cX4_isKilling 71 = .ok (.iconst 0, 1) := dk_3 (dk_at dksX4_isKilling_3 0 rfl rfl)
theorem dX4_isKilling_72 : decode cX4_isKilling 72 = .ok (.istore 6, 2) := dk_54 6 (dk_at dksX4_isKilling_3 1 rfl rfl)
theorem dX4_isKilling_74 : decode cX4_isKilling 74 = .ok (.iload 6, 2) := dk_21 6 (dk_at dksX4_isKilling_3 3 rfl rfl)
theorem dX4_isKilling_76 : decode cX4_isKilling 76 = .ok (.bipush 8, 2) := dk_16 8 (dk_at dksX4_isKilling_3 5 rfl rfl)
theorem dX4_isKilling_78 : decode cX4_isKilling 78 = .ok (.if_icmp .ge 93, 3) := dk_162 0 93 (dk_at dksX4_isKilling_3 7 rfl rfl)
theorem dX4_isKilling_81 : decode cX4_isKilling 81 = .ok (.iload 6, 2) := dk_21 6 (dk_at dksX4_isKilling_3 10 rfl rfl)
theorem dX4_isKilling_83 : decode cX4_isKilling 83 = .ok (.istore 7, 2) := dk_54 7 (dk_at dksX4_isKilling_3 12 rfl rfl)
theorem dX4_isKilling_85 : decode cX4_isKilling 85 = .ok (.iload 7, 2) := dk_21 7 (dk_at dksX4_isKilling_3 14 rfl rfl)
theorem dX4_isKilling_87 : decode cX4_isKilling 87 = .ok (.bipush 8, 2) := dk_16 8 (dk_at dksX4_isKilling_3 16 rfl rfl)
theorem dX4_isKilling_89 : decode cX4_isKilling 89 = .ok (.if_icmp .ge 76, 3) := dk_162 0 76 (dk_at dksX4_isKilling_3 18 rfl rfl)
theorem dX4_isKilling_92 : decode cX4_isKilling 92 = .ok (.iconst 2, 1) := dk_5 (dk_at dksX4_isKilling_3 21 rfl rfl)
theorem dX4_isKilling_93 : decode cX4_isKilling 93 = .ok (.iload 7, 2) := dk_21 7 (dk_at dksX4_isKilling_3 22 rfl rfl)
theorem dX4_isKilling_95 : decode cX4_isKilling 95 = .ok (.ishl, 1) := dk_120 (dk_at dksX4_isKilling_4 0 rfl rfl)
theorem dX4_isKilling_96 : decode cX4_isKilling 96 = .ok (.iconst 1, 1) := dk_4 (dk_at dksX4_isKilling_4 1 rfl rfl)
theorem dX4_isKilling_97 : decode cX4_isKilling 97 = .ok (.iload 6, 2) := dk_21 6 (dk_at dksX4_isKilling_4 2 rfl rfl)
theorem dX4_isKilling_99 : decode cX4_isKilling 99 = .ok (.ishl, 1) := dk_120 (dk_at dksX4_isKilling_4 4 rfl rfl)
theorem dX4_isKilling_100 : decode cX4_isKilling 100 = .ok (.isub, 1) := dk_100 (dk_at dksX4_isKilling_4 5 rfl rfl)
theorem dX4_isKilling_101 : decode cX4_isKilling 101 = .ok (.istore 8, 2) := dk_54 8 (dk_at dksX4_isKilling_4 6 rfl rfl)
theorem dX4_isKilling_103 : decode cX4_isKilling 103 = .ok (.iload_n 2, 1) := dk_28 (dk_at dksX4_isKilling_4 8 rfl rfl)
theorem dX4_isKilling_104 : decode cX4_isKilling 104 = .ok (.iload 8, 2) := dk_21 8 (dk_at dksX4_isKilling_4 9 rfl rfl)
theorem dX4_isKilling_106 : decode cX4_isKilling 106 = .ok (.iload_n 1, 1) := dk_27 (dk_at dksX4_isKilling_4 11 rfl rfl)
theorem dX4_isKilling_107 : decode cX4_isKilling 107 = .ok (.iconst (-1), 1) := dk_2 (dk_at dksX4_isKilling_4 12 rfl rfl)
theorem dX4_isKilling_108 : decode cX4_isKilling 108 = .ok (.ixor, 1) := dk_130 (dk_at dksX4_isKilling_4 13 rfl rfl)
theorem dX4_isKilling_109 : decode cX4_isKilling 109 = .ok (.iand, 1) := dk_126 (dk_at dksX4_isKilling_4 14 rfl rfl)
theorem dX4_isKilling_110 : decode cX4_isKilling 110 = .ok (.ifCond .ne 19, 3) := dk_154 0 19 (dk_at dksX4_isKilling_4 15 rfl rfl)
theorem dX4_isKilling_113 : decode cX4_isKilling 113 = .ok (.aload_n 0, 1) := dk_42 (dk_at dksX4_isKilling_4 18 rfl rfl)
theorem dX4_isKilling_114 : decode cX4_isKilling 114 = .ok (.getfield 152, 3) := dk_180 0 152 (dk_at dksX4_isKilling_4 19 rfl rfl)
theorem dX4_isKilling_117 : decode cX4_isKilling 117 = .ok (.bipush 8, 2) := dk_16 8 (dk_at dksX4_isKilling_4 22 rfl rfl)
theorem dX4_isKilling_119 : decode cX4_isKilling 119 = .ok (.iload 6, 2) := dk_21 6 (dk_at dksX4_isKilling_5 0 rfl rfl)
theorem dX4_isKilling_121 : decode cX4_isKilling 121 = .ok (.imul, 1) := dk_104 (dk_at dksX4_isKilling_5 2 rfl rfl)
theorem dX4_isKilling_122 : decode cX4_isKilling 122 = .ok (.iload 7, 2) := dk_21 7 (dk_at dksX4_isKilling_5 3 rfl rfl)
theorem dX4_isKilling_124 : decode cX4_isKilling 124 = .ok (.iadd, 1) := dk_96 (dk_at dksX4_isKilling_5 5 rfl rfl)
theorem dX4_isKilling_125 : decode cX4_isKilling 125 = .ok (.iaload, 1) := dk_46 (dk_at dksX4_isKilling_5 6 rfl rfl)
theorem dX4_isKilling_126 : decode cX4_isKilling 126 = .ok (.goto 4, 3) := dk_167 0 4 (dk_at dksX4_isKilling_5 7 rfl rfl)
theorem dX4_isKilling_129 : decode cX4_isKilling 129 = .ok (.iconst 0, 1) := dk_3 (dk_at dksX4_isKilling_5 10 rfl rfl)
theorem dX4_isKilling_130 : decode cX4_isKilling 130 = .ok (.iadd, 1) := dk_96 (dk_at dksX4_isKilling_5 11 rfl rfl)
theorem dX4_isKilling_131 : decode cX4_isKilling 131 = .ok (.istore_n 2, 1) := dk_61 (dk_at dksX4_isKilling_5 12 rfl rfl)
theorem dX4_isKilling_132 : decode cX4_isKilling 132 = .ok (.iload_n 3, 1) := dk_29 (dk_at dksX4_isKilling_5 13 rfl rfl)
theorem dX4_isKilling_133 : decode cX4_isKilling 133 = .ok (.iload 8, 2) := dk_21 8 (dk_at dksX4_isKilling_5 14 rfl rfl)
theorem dX4_isKilling_135 : decode cX4_isKilling 135 = .ok (.iload_n 1, 1) := dk_27 (dk_at dksX4_isKilling_5 16 rfl rfl)
theorem dX4_isKilling_136 : decode cX4_isKilling 136 = .ok (.iand, 1) := dk_126 (dk_at dksX4_isKilling_5 17 rfl rfl)
theorem dX4_isKilling_137 : decode cX4_isKilling 137 = .ok (.ifCond .eq 19, 3) := dk_153 0 19 (dk_at dksX4_isKilling_5 18 rfl rfl)
theorem dX4_isKilling_140 : decode cX4_isKilling 140 = .ok (.aload_n 0, 1) := dk_42 (dk_at dksX4_isKilling_5 21 rfl rfl)
theorem dX4_isKilling_141 : decode cX4_isKilling 141 = .ok (.getfield 152, 3) := dk_180 0 152 (dk_at dksX4_isKilling_6 0 rfl rfl)
theorem dX4_isKilling_144 : decode cX4_isKilling 144 = .ok (.bipush 8, 2) := dk_16 8 (dk_at dksX4_isKilling_6 3 rfl rfl)
theorem dX4_isKilling_146 : decode cX4_isKilling 146 = .ok (.iload 6, 2) := dk_21 6 (dk_at dksX4_isKilling_6 5 rfl rfl)
theorem dX4_isKilling_148 : decode cX4_isKilling 148 = .ok (.imul, 1) := dk_104 (dk_at dksX4_isKilling_6 7 rfl rfl)
theorem dX4_isKilling_149 : decode cX4_isKilling 149 = .ok (.iload 7, 2) := dk_21 7 (dk_at dksX4_isKilling_6 8 rfl rfl)
theorem dX4_isKilling_151 : decode cX4_isKilling 151 = .ok (.iadd, 1) := dk_96 (dk_at dksX4_isKilling_6 10 rfl rfl)
theorem dX4_isKilling_152 : decode cX4_isKilling 152 = .ok (.iaload, 1) := dk_46 (dk_at dksX4_isKilling_6 11 rfl rfl)
theorem dX4_isKilling_153 : decode cX4_isKilling 153 = .ok (.goto 4, 3) := dk_167 0 4 (dk_at dksX4_isKilling_6 12 rfl rfl)
theorem dX4_isKilling_156 : decode cX4_isKilling 156 = .ok (.iconst 0, 1) := dk_3 (dk_at dksX4_isKilling_6 15 rfl rfl)
theorem dX4_isKilling_157 : decode cX4_isKilling 157 = .ok (.iadd, 1) := dk_96 (dk_at dksX4_isKilling_6 16 rfl rfl)
theorem dX4_isKilling_158 : decode cX4_isKilling 158 = .ok (.istore_n 3, 1) := dk_62 (dk_at dksX4_isKilling_6 17 rfl rfl)
theorem dX4_isKilling_159 : decode cX4_isKilling 159 = .ok (.iinc 7 1, 3) := dk_132 7 1 (dk_at dksX4_isKilling_6 18 rfl rfl)
theorem dX4_isKilling_162 : decode cX4_isKilling 162 = .ok (.goto (-77), 3) := dk_167 255 179 (dk_at dksX4_isKilling_6 21 rfl rfl)
theorem dX4_isKilling_165 : decode cX4_isKilling 165 = .ok (.iinc 6 1, 3) := dk_132 6 1 (dk_at dksX4_isKilling_7 0 rfl rfl)
theorem dX4_isKilling_168 : decode cX4_isKilling 168 = .ok (.goto (-94), 3) := dk_167 255 162 (dk_at dksX4_isKilling_7 3 rfl rfl)
theorem dX4_isKilling_171 : decode cX4_isKilling 171 = .ok (.iload_n 2, 1) := dk_28 (dk_at dksX4_isKilling_7 6 rfl rfl)
theorem dX4_isKilling_172 : decode cX4_isKilling 172 = .ok (.iload 5, 2) := dk_21 5 (dk_at dksX4_isKilling_7 7 rfl rfl)
theorem dX4_isKilling_174 : decode cX4_isKilling 174 = .ok (.if_icmp .gt 9, 3) := dk_163 0 9 (dk_at dksX4_isKilling_7 9 rfl rfl)
theorem dX4_isKilling_177 : decode cX4_isKilling 177 = .ok (.iload_n 3, 1) := dk_29 (dk_at dksX4_isKilling_7 12 rfl rfl)
theorem dX4_isKilling_178 : decode cX4_isKilling 178 = .ok (.iload 4, 2) := dk_21 4 (dk_at dksX4_isKilling_7 13 rfl rfl)
theorem dX4_isKilling_180 : decode cX4_isKilling 180 = .ok (.if_icmp .ge 5, 3) := dk_162 0 5 (dk_at dksX4_isKilling_7 15 rfl rfl)
theorem dX4_isKilling_183 : decode cX4_isKilling 183 = .ok (.iconst 0, 1) := dk_3 (dk_at dksX4_isKilling_7 18 rfl rfl)
theorem dX4_isKilling_184 : decode cX4_isKilling 184 = .ok (.ireturn, 1) := dk_172 (dk_at dksX4_isKilling_7 19 rfl rfl)
theorem dX4_isKilling_185 : decode cX4_isKilling 185 = .ok (.iinc 1 1, 3) := dk_132 1 1 (dk_at dksX4_isKilling_7 20 rfl rfl)
theorem dX4_isKilling_188 : decode cX4_isKilling 188 = .ok (.goto (-186), 3) := dk_167 255 70 (dk_at dksX4_isKilling_8 0 rfl rfl)
theorem dX4_isKilling_191 : decode cX4_isKilling 191 = .ok (.iconst 1, 1) := dk_4 (dk_at dksX4_isKilling_8 3 rfl rfl)
theorem dX4_isKilling_192 : decode cX4_isKilling 192 = .ok (.ireturn, 1) := dk_172 (dk_at dksX4_isKilling_8 4 rfl rfl)
abbrev cX4_fitted : ByteArray := prog_20_method_86_code
def yX4_fitted : MethodName := ⟨RX4, "fitted", "(IIIIIIII)I"⟩
def dkwX4_fitted_7 : List UInt8 := [21, 13, 21, 14, 153, 0, 7, 3, 167, 0, 5, 21, 12, 96, 54, 13, 167, 255, 211, 21, 13, 172]
abbrev dktX4_fitted_7 : List UInt8 := dkwX4_fitted_7 ++ []
def dkwX4_fitted_6 : List UInt8 := [42, 180, 0, 155, 21, 7, 21, 13, 79, 42, 180, 0, 158, 21, 7, 21, 13, 79, 42, 182, 1, 236, 54, 14]
abbrev dktX4_fitted_6 : List UInt8 := dkwX4_fitted_6 ++ dktX4_fitted_7
def dkwX4_fitted_5 : List UInt8 := [54, 12, 21, 8, 154, 0, 8, 21, 10, 167, 0, 5, 21, 11, 54, 13, 3, 54, 14, 21, 14, 154, 0, 46]
abbrev dktX4_fitted_5 : List UInt8 := dkwX4_fitted_5 ++ dktX4_fitted_6
def dkwX4_fitted_4 : List UInt8 := [21, 7, 46, 54, 10, 42, 180, 0, 158, 21, 7, 46, 54, 11, 21, 8, 154, 0, 7, 4, 167, 0, 4, 2]
abbrev dktX4_fitted_4 : List UInt8 := dkwX4_fitted_4 ++ dktX4_fitted_5
def dkwX4_fitted_3 : List UInt8 := [182, 1, 230, 42, 180, 1, 224, 154, 0, 5, 2, 172, 42, 27, 182, 1, 242, 54, 9, 42, 180, 0, 155]
abbrev dktX4_fitted_3 : List UInt8 := dkwX4_fitted_3 ++ dktX4_fitted_4
def dkwX4_fitted_2 : List UInt8 := [21, 8, 133, 9, 10, 184, 0, 178, 154, 0, 6, 16, 254, 172, 42, 28, 29, 21, 4, 21, 5, 21, 6]
abbrev dktX4_fitted_2 : List UInt8 := dkwX4_fitted_2 ++ dktX4_fitted_3
def dkwX4_fitted_1 : List UInt8 := [153, 0, 35, 42, 29, 182, 1, 203, 153, 0, 27, 21, 7, 133, 9, 20, 0, 201, 184, 0, 178, 153, 0, 14]
abbrev dktX4_fitted_1 : List UInt8 := dkwX4_fitted_1 ++ dktX4_fitted_2
def dkwX4_fitted_0 : List UInt8 := [42, 3, 181, 0, 173, 42, 27, 182, 1, 239, 153, 0, 49, 42, 28, 21, 4, 21, 5, 21, 6, 182, 1, 196]
abbrev dktX4_fitted_0 : List UInt8 := dkwX4_fitted_0 ++ dktX4_fitted_1
theorem dksX4_fitted_0 : cX4_fitted.data.toList.drop 0 = dktX4_fitted_0 := by decide +kernel
theorem dksX4_fitted_1 : cX4_fitted.data.toList.drop 24 = dktX4_fitted_1 := dk_seg dksX4_fitted_0 24 rfl rfl
theorem dksX4_fitted_2 : cX4_fitted.data.toList.drop 48 = dktX4_fitted_2 := dk_seg dksX4_fitted_1 24 rfl rfl
theorem dksX4_fitted_3 : cX4_fitted.data.toList.drop 71 = dktX4_fitted_3 := dk_seg dksX4_fitted_2 23 rfl rfl
theorem dksX4_fitted_4 : cX4_fitted.data.toList.drop 94 = dktX4_fitted_4 := dk_seg dksX4_fitted_3 23 rfl rfl
theorem dksX4_fitted_5 : cX4_fitted.data.toList.drop 118 = dktX4_fitted_5 := dk_seg dksX4_fitted_4 24 rfl rfl
theorem dksX4_fitted_6 : cX4_fitted.data.toList.drop 142 = dktX4_fitted_6 := dk_seg dksX4_fitted_5 24 rfl rfl
theorem dksX4_fitted_7 : cX4_fitted.data.toList.drop 166 = dktX4_fitted_7 := dk_seg dksX4_fitted_6 24 rfl rfl
theorem dX4_fitted_0 : decode cX4_fitted 0 = .ok (.aload_n 0, 1) := dk_42 (dk_at dksX4_fitted_0 0 rfl rfl)
theorem dX4_fitted_1 : decode cX4_fitted 1 = .ok (.iconst 0, 1) := dk_3 (dk_at dksX4_fitted_0 1 rfl rfl)
theorem dX4_fitted_2 : decode cX4_fitted 2 = .ok (.putfield 173, 3) := dk_181 0 173 (dk_at dksX4_fitted_0 2 rfl rfl)
theorem dX4_fitted_5 : decode cX4_fitted 5 = .ok (.aload_n 0, 1) := dk_42 (dk_at dksX4_fitted_0 5 rfl rfl)
theorem dX4_fitted_6 : decode cX4_fitted 6 = .ok (.iload_n 1, 1) := dk_27 (dk_at dksX4_fitted_0 6 rfl rfl)
theorem dX4_fitted_7 : decode cX4_fitted 7 = .ok (.invokevirtual 495, 3) := dk_182 1 239 (dk_at dksX4_fitted_0 7 rfl rfl)
theorem dX4_fitted_10 : decode cX4_fitted 10 = .ok (.ifCond .eq 49, 3) := dk_153 0 49 (dk_at dksX4_fitted_0 10 rfl rfl)
theorem dX4_fitted_13 : decode cX4_fitted 13 = .ok (.aload_n 0, 1) := dk_42 (dk_at dksX4_fitted_0 13 rfl rfl)
theorem dX4_fitted_14 : decode cX4_fitted 14 = .ok (.iload_n 2, 1) := dk_28 (dk_at dksX4_fitted_0 14 rfl rfl)
theorem dX4_fitted_15 : decode cX4_fitted 15 = .ok (.iload 4, 2) := dk_21 4 (dk_at dksX4_fitted_0 15 rfl rfl)
theorem dX4_fitted_17 : decode cX4_fitted 17 = .ok (.iload 5, 2) := dk_21 5 (dk_at dksX4_fitted_0 17 rfl rfl)
theorem dX4_fitted_19 : decode cX4_fitted 19 = .ok (.iload 6, 2) := dk_21 6 (dk_at dksX4_fitted_0 19 rfl rfl)
theorem dX4_fitted_21 : decode cX4_fitted 21 = .ok (.invokevirtual 452, 3) := dk_182 1 196 (dk_at dksX4_fitted_0 21 rfl rfl)
theorem dX4_fitted_24 : decode cX4_fitted 24 = .ok (.ifCond .eq 35, 3) := dk_153 0 35 (dk_at dksX4_fitted_1 0 rfl rfl)
theorem dX4_fitted_27 : decode cX4_fitted 27 = .ok (.aload_n 0, 1) := dk_42 (dk_at dksX4_fitted_1 3 rfl rfl)
theorem dX4_fitted_28 : decode cX4_fitted 28 = .ok (.iload_n 3, 1) := dk_29 (dk_at dksX4_fitted_1 4 rfl rfl)
theorem dX4_fitted_29 : decode cX4_fitted 29 = .ok (.invokevirtual 459, 3) := dk_182 1 203 (dk_at dksX4_fitted_1 5 rfl rfl)
theorem dX4_fitted_32 : decode cX4_fitted 32 = .ok (.ifCond .eq 27, 3) := dk_153 0 27 (dk_at dksX4_fitted_1 8 rfl rfl)
theorem dX4_fitted_35 : decode cX4_fitted 35 = .ok (.iload 7, 2) := dk_21 7 (dk_at dksX4_fitted_1 11 rfl rfl)
theorem dX4_fitted_37 : decode cX4_fitted 37 = .ok (.i2l, 1) := dk_133 (dk_at dksX4_fitted_1 13 rfl rfl)
theorem dX4_fitted_38 : decode cX4_fitted 38 = .ok (.lconst 0, 1) := dk_9 (dk_at dksX4_fitted_1 14 rfl rfl)
theorem dX4_fitted_39 : decode cX4_fitted 39 = .ok (.ldc2_w 201, 3) := dk_20 0 201 (dk_at dksX4_fitted_1 15 rfl rfl)
theorem dX4_fitted_42 : decode cX4_fitted 42 = .ok (.invokestatic 178, 3) := dk_184 0 178 (dk_at dksX4_fitted_1 18 rfl rfl)
theorem dX4_fitted_45 : decode cX4_fitted 45 = .ok (.ifCond .eq 14, 3) := dk_153 0 14 (dk_at dksX4_fitted_1 21 rfl rfl)
theorem dX4_fitted_48 : decode cX4_fitted 48 = .ok (.iload 8, 2) := dk_21 8 (dk_at dksX4_fitted_2 0 rfl rfl)
theorem dX4_fitted_50 : decode cX4_fitted 50 = .ok (.i2l, 1) := dk_133 (dk_at dksX4_fitted_2 2 rfl rfl)
theorem dX4_fitted_51 : decode cX4_fitted 51 = .ok (.lconst 0, 1) := dk_9 (dk_at dksX4_fitted_2 3 rfl rfl)
theorem dX4_fitted_52 : decode cX4_fitted 52 = .ok (.lconst 1, 1) := dk_10 (dk_at dksX4_fitted_2 4 rfl rfl)
theorem dX4_fitted_53 : decode cX4_fitted 53 = .ok (.invokestatic 178, 3) := dk_184 0 178 (dk_at dksX4_fitted_2 5 rfl rfl)
theorem dX4_fitted_56 : decode cX4_fitted 56 = .ok (.ifCond .ne 6, 3) := dk_154 0 6 (dk_at dksX4_fitted_2 8 rfl rfl)
theorem dX4_fitted_59 : decode cX4_fitted 59 = .ok (.bipush (-2), 2) := dk_16 254 (dk_at dksX4_fitted_2 11 rfl rfl)
theorem dX4_fitted_61 : decode cX4_fitted 61 = .ok (.ireturn, 1) := dk_172 (dk_at dksX4_fitted_2 13 rfl rfl)
theorem dX4_fitted_62 : decode cX4_fitted 62 = .ok (.aload_n 0, 1) := dk_42 (dk_at dksX4_fitted_2 14 rfl rfl)
theorem dX4_fitted_63 : decode cX4_fitted 63 = .ok (.iload_n 2, 1) := dk_28 (dk_at dksX4_fitted_2 15 rfl rfl)
theorem dX4_fitted_64 : decode cX4_fitted 64 = .ok (.iload_n 3, 1) := dk_29 (dk_at dksX4_fitted_2 16 rfl rfl)
theorem dX4_fitted_65 : decode cX4_fitted 65 = .ok (.iload 4, 2) := dk_21 4 (dk_at dksX4_fitted_2 17 rfl rfl)
theorem dX4_fitted_67 : decode cX4_fitted 67 = .ok (.iload 5, 2) := dk_21 5 (dk_at dksX4_fitted_2 19 rfl rfl)
theorem dX4_fitted_69 : decode cX4_fitted 69 = .ok (.iload 6, 2) := dk_21 6 (dk_at dksX4_fitted_2 21 rfl rfl)
theorem dX4_fitted_71 : decode cX4_fitted 71 = .ok (.invokevirtual 486, 3) := dk_182 1 230 (dk_at dksX4_fitted_3 0 rfl rfl)
theorem dX4_fitted_74 : decode cX4_fitted 74 = .ok (.aload_n 0, 1) := dk_42 (dk_at dksX4_fitted_3 3 rfl rfl)
theorem dX4_fitted_75 : decode cX4_fitted 75 = .ok (.getfield 480, 3) := dk_180 1 224 (dk_at dksX4_fitted_3 4 rfl rfl)
theorem dX4_fitted_78 : decode cX4_fitted 78 = .ok (.ifCond .ne 5, 3) := dk_154 0 5 (dk_at dksX4_fitted_3 7 rfl rfl)
theorem dX4_fitted_81 : decode cX4_fitted 81 = .ok (.iconst (-1), 1) := dk_2 (dk_at dksX4_fitted_3 10 rfl rfl)
theorem dX4_fitted_82 : decode cX4_fitted 82 = .ok (.ireturn, 1) := dk_172 (dk_at dksX4_fitted_3 11 rfl rfl)
theorem dX4_fitted_83 : decode cX4_fitted 83 = .ok (.aload_n 0, 1) := dk_42 (dk_at dksX4_fitted_3 12 rfl rfl)
theorem dX4_fitted_84 : decode cX4_fitted 84 = .ok (.iload_n 1, 1) := dk_27 (dk_at dksX4_fitted_3 13 rfl rfl)
theorem dX4_fitted_85 : decode cX4_fitted 85 = .ok (.invokevirtual 498, 3) := dk_182 1 242 (dk_at dksX4_fitted_3 14 rfl rfl)
theorem dX4_fitted_88 : decode cX4_fitted 88 = .ok (.istore 9, 2) := dk_54 9 (dk_at dksX4_fitted_3 17 rfl rfl)
theorem dX4_fitted_90 : decode cX4_fitted 90 = .ok (.aload_n 0, 1) := dk_42 (dk_at dksX4_fitted_3 19 rfl rfl)
theorem dX4_fitted_91 : decode cX4_fitted 91 = .ok (.getfield 155, 3) := dk_180 0 155 (dk_at dksX4_fitted_3 20 rfl rfl)
theorem dX4_fitted_94 : decode cX4_fitted 94 = .ok (.iload 7, 2) := dk_21 7 (dk_at dksX4_fitted_4 0 rfl rfl)
theorem dX4_fitted_96 : decode cX4_fitted 96 = .ok (.iaload, 1) := dk_46 (dk_at dksX4_fitted_4 2 rfl rfl)
theorem dX4_fitted_97 : decode cX4_fitted 97 = .ok (.istore 10, 2) := dk_54 10 (dk_at dksX4_fitted_4 3 rfl rfl)
theorem dX4_fitted_99 : decode cX4_fitted 99 = .ok (.aload_n 0, 1) := dk_42 (dk_at dksX4_fitted_4 5 rfl rfl)
theorem dX4_fitted_100 : decode cX4_fitted 100 = .ok (.getfield 158, 3) := dk_180 0 158 (dk_at dksX4_fitted_4 6 rfl rfl)
theorem dX4_fitted_103 : decode cX4_fitted 103 = .ok (.iload 7, 2) := dk_21 7 (dk_at dksX4_fitted_4 9 rfl rfl)
theorem dX4_fitted_105 : decode cX4_fitted 105 = .ok (.iaload, 1) := dk_46 (dk_at dksX4_fitted_4 11 rfl rfl)
theorem dX4_fitted_106 : decode cX4_fitted 106 = .ok (.istore 11, 2) := dk_54 11 (dk_at dksX4_fitted_4 12 rfl rfl)
theorem dX4_fitted_108 : decode cX4_fitted 108 = .ok (.iload 8, 2) := dk_21 8 (dk_at dksX4_fitted_4 14 rfl rfl)
theorem dX4_fitted_110 : decode cX4_fitted 110 = .ok (.ifCond .ne 7, 3) := dk_154 0 7 (dk_at dksX4_fitted_4 16 rfl rfl)
theorem dX4_fitted_113 : decode cX4_fitted 113 = .ok (.iconst 1, 1) := dk_4 (dk_at dksX4_fitted_4 19 rfl rfl)
theorem dX4_fitted_114 : decode cX4_fitted 114 = .ok (.goto 4, 3) := dk_167 0 4 (dk_at dksX4_fitted_4 20 rfl rfl)
theorem dX4_fitted_117 : decode cX4_fitted 117 = .ok (.iconst (-1), 1) := dk_2 (dk_at dksX4_fitted_4 23 rfl rfl)
theorem dX4_fitted_118 : decode cX4_fitted 118 = .ok (.istore 12, 2) := dk_54 12 (dk_at dksX4_fitted_5 0 rfl rfl)
theorem dX4_fitted_120 : decode cX4_fitted 120 = .ok (.iload 8, 2) := dk_21 8 (dk_at dksX4_fitted_5 2 rfl rfl)
theorem dX4_fitted_122 : decode cX4_fitted 122 = .ok (.ifCond .ne 8, 3) := dk_154 0 8 (dk_at dksX4_fitted_5 4 rfl rfl)
theorem dX4_fitted_125 : decode cX4_fitted 125 = .ok (.iload 10, 2) := dk_21 10 (dk_at dksX4_fitted_5 7 rfl rfl)
theorem dX4_fitted_127 : decode cX4_fitted 127 = .ok (.goto 5, 3) := dk_167 0 5 (dk_at dksX4_fitted_5 9 rfl rfl)
theorem dX4_fitted_130 : decode cX4_fitted 130 = .ok (.iload 11, 2) := dk_21 11 (dk_at dksX4_fitted_5 12 rfl rfl)
theorem dX4_fitted_132 : decode cX4_fitted 132 = .ok (.istore 13, 2) := dk_54 13 (dk_at dksX4_fitted_5 14 rfl rfl)
theorem dX4_fitted_134 : decode cX4_fitted 134 = .ok (.iconst 0, 1) := dk_3 (dk_at dksX4_fitted_5 16 rfl rfl)
theorem dX4_fitted_135 : decode cX4_fitted 135 = .ok (.istore 14, 2) := dk_54 14 (dk_at dksX4_fitted_5 17 rfl rfl)
theorem dX4_fitted_137 : decode cX4_fitted 137 = .ok (.iload 14, 2) := dk_21 14 (dk_at dksX4_fitted_5 19 rfl rfl)
theorem dX4_fitted_139 : decode cX4_fitted 139 = .ok (.ifCond .ne 46, 3) := dk_154 0 46 (dk_at dksX4_fitted_5 21 rfl rfl)
theorem dX4_fitted_142 : decode cX4_fitted 142 = .ok (.aload_n 0, 1) := dk_42 (dk_at dksX4_fitted_6 0 rfl rfl)
theorem dX4_fitted_143 : decode cX4_fitted 143 = .ok (.getfield 155, 3) := dk_180 0 155 (dk_at dksX4_fitted_6 1 rfl rfl)
theorem dX4_fitted_146 : decode cX4_fitted 146 = .ok (.iload 7, 2) := dk_21 7 (dk_at dksX4_fitted_6 4 rfl rfl)
theorem dX4_fitted_148 : decode cX4_fitted 148 = .ok (.iload 13, 2) := dk_21 13 (dk_at dksX4_fitted_6 6 rfl rfl)
theorem dX4_fitted_150 : decode cX4_fitted 150 = .ok (.iastore, 1) := dk_79 (dk_at dksX4_fitted_6 8 rfl rfl)
theorem dX4_fitted_151 : decode cX4_fitted 151 = .ok (.aload_n 0, 1) := dk_42 (dk_at dksX4_fitted_6 9 rfl rfl)
theorem dX4_fitted_152 : decode cX4_fitted 152 = .ok (.getfield 158, 3) := dk_180 0 158 (dk_at dksX4_fitted_6 10 rfl rfl)
theorem dX4_fitted_155 : decode cX4_fitted 155 = .ok (.iload 7, 2) := dk_21 7 (dk_at dksX4_fitted_6 13 rfl rfl)
theorem dX4_fitted_157 : decode cX4_fitted 157 = .ok (.iload 13, 2) := dk_21 13 (dk_at dksX4_fitted_6 15 rfl rfl)
theorem dX4_fitted_159 : decode cX4_fitted 159 = .ok (.iastore, 1) := dk_79 (dk_at dksX4_fitted_6 17 rfl rfl)
theorem dX4_fitted_160 : decode cX4_fitted 160 = .ok (.aload_n 0, 1) := dk_42 (dk_at dksX4_fitted_6 18 rfl rfl)
theorem dX4_fitted_161 : decode cX4_fitted 161 = .ok (.invokevirtual 492, 3) := dk_182 1 236 (dk_at dksX4_fitted_6 19 rfl rfl)
theorem dX4_fitted_164 : decode cX4_fitted 164 = .ok (.istore 14, 2) := dk_54 14 (dk_at dksX4_fitted_6 22 rfl rfl)
theorem dX4_fitted_166 : decode cX4_fitted 166 = .ok (.iload 13, 2) := dk_21 13 (dk_at dksX4_fitted_7 0 rfl rfl)
theorem dX4_fitted_168 : decode cX4_fitted 168 = .ok (.iload 14, 2) := dk_21 14 (dk_at dksX4_fitted_7 2 rfl rfl)
theorem dX4_fitted_170 : decode cX4_fitted 170 = .ok (.ifCond .eq 7, 3) := dk_153 0 7 (dk_at dksX4_fitted_7 4 rfl rfl)
theorem dX4_fitted_173 : decode cX4_fitted 173 = .ok (.iconst 0, 1) := dk_3 (dk_at dksX4_fitted_7 7 rfl rfl)
theorem dX4_fitted_174 : decode cX4_fitted 174 = .ok (.goto 5, 3) := dk_167 0 5 (dk_at dksX4_fitted_7 8 rfl rfl)
theorem dX4_fitted_177 : decode cX4_fitted 177 = .ok (.iload 12, 2) := dk_21 12 (dk_at dksX4_fitted_7 11 rfl rfl)
theorem dX4_fitted_179 : decode cX4_fitted 179 = .ok (.iadd, 1) := dk_96 (dk_at dksX4_fitted_7 13 rfl rfl)
theorem dX4_fitted_180 : decode cX4_fitted 180 = .ok (.istore 13, 2) := dk_54 13 (dk_at dksX4_fitted_7 14 rfl rfl)
theorem dX4_fitted_182 : decode cX4_fitted 182 = .ok (.goto (-45), 3) := dk_167 255 211 (dk_at dksX4_fitted_7 16 rfl rfl)
theorem dX4_fitted_185 : decode cX4_fitted 185 = .ok (.iload 13, 2) := dk_21 13 (dk_at dksX4_fitted_7 19 rfl rfl)
theorem dX4_fitted_187 : decode cX4_fitted 187 = .ok (.ireturn, 1) := dk_172 (dk_at dksX4_fitted_7 21 rfl rfl)
abbrev cX4_there : ByteArray := prog_20_method_88_code
def yX4_there : MethodName := ⟨RX4, "there", "(IIIII)I"⟩
def dkwX4_there_2 : List UInt8 := [167, 0, 16, 42, 27, 28, 29, 21, 4, 21, 5, 21, 6, 182, 1, 245, 172]
abbrev dktX4_there_2 : List UInt8 := dkwX4_there_2 ++ []
def dkwX4_there_1 : List UInt8 := [154, 0, 6, 16, 254, 172, 42, 27, 29, 21, 4, 21, 5, 182, 1, 206, 54, 6, 21, 6, 154, 0, 7, 2]
abbrev dktX4_there_1 : List UInt8 := dkwX4_there_1 ++ dktX4_there_2
def dkwX4_there_0 : List UInt8 := [42, 3, 181, 0, 173, 42, 27, 29, 21, 4, 21, 5, 182, 1, 196, 153, 0, 11, 42, 28, 182, 1, 203]
abbrev dktX4_there_0 : List UInt8 := dkwX4_there_0 ++ dktX4_there_1
theorem dksX4_there_0 : cX4_there.data.toList.drop 0 = dktX4_there_0 := by decide +kernel
theorem dksX4_there_1 : cX4_there.data.toList.drop 23 = dktX4_there_1 := dk_seg dksX4_there_0 23 rfl rfl
theorem dksX4_there_2 : cX4_there.data.toList.drop 47 = dktX4_there_2 := dk_seg dksX4_there_1 24 rfl rfl
theorem dX4_there_0 : decode cX4_there 0 = .ok (.aload_n 0, 1) := dk_42 (dk_at dksX4_there_0 0 rfl rfl)
theorem dX4_there_1 : decode cX4_there 1 = .ok (.iconst 0, 1) := dk_3 (dk_at dksX4_there_0 1 rfl rfl)
theorem dX4_there_2 : decode cX4_there 2 = .ok (.putfield 173, 3) := dk_181 0 173 (dk_at dksX4_there_0 2 rfl rfl)
theorem dX4_there_5 : decode cX4_there 5 = .ok (.aload_n 0, 1) := dk_42 (dk_at dksX4_there_0 5 rfl rfl)
theorem dX4_there_6 : decode cX4_there 6 = .ok (.iload_n 1, 1) := dk_27 (dk_at dksX4_there_0 6 rfl rfl)
theorem dX4_there_7 : decode cX4_there 7 = .ok (.iload_n 3, 1) := dk_29 (dk_at dksX4_there_0 7 rfl rfl)
theorem dX4_there_8 : decode cX4_there 8 = .ok (.iload 4, 2) := dk_21 4 (dk_at dksX4_there_0 8 rfl rfl)
theorem dX4_there_10 : decode cX4_there 10 = .ok (.iload 5, 2) := dk_21 5 (dk_at dksX4_there_0 10 rfl rfl)
theorem dX4_there_12 : decode cX4_there 12 = .ok (.invokevirtual 452, 3) := dk_182 1 196 (dk_at dksX4_there_0 12 rfl rfl)
theorem dX4_there_15 : decode cX4_there 15 = .ok (.ifCond .eq 11, 3) := dk_153 0 11 (dk_at dksX4_there_0 15 rfl rfl)
theorem dX4_there_18 : decode cX4_there 18 = .ok (.aload_n 0, 1) := dk_42 (dk_at dksX4_there_0 18 rfl rfl)
theorem dX4_there_19 : decode cX4_there 19 = .ok (.iload_n 2, 1) := dk_28 (dk_at dksX4_there_0 19 rfl rfl)
theorem dX4_there_20 : decode cX4_there 20 = .ok (.invokevirtual 459, 3) := dk_182 1 203 (dk_at dksX4_there_0 20 rfl rfl)
theorem dX4_there_23 : decode cX4_there 23 = .ok (.ifCond .ne 6, 3) := dk_154 0 6 (dk_at dksX4_there_1 0 rfl rfl)
theorem dX4_there_26 : decode cX4_there 26 = .ok (.bipush (-2), 2) := dk_16 254 (dk_at dksX4_there_1 3 rfl rfl)
theorem dX4_there_28 : decode cX4_there 28 = .ok (.ireturn, 1) := dk_172 (dk_at dksX4_there_1 5 rfl rfl)
theorem dX4_there_29 : decode cX4_there 29 = .ok (.aload_n 0, 1) := dk_42 (dk_at dksX4_there_1 6 rfl rfl)
theorem dX4_there_30 : decode cX4_there 30 = .ok (.iload_n 1, 1) := dk_27 (dk_at dksX4_there_1 7 rfl rfl)
theorem dX4_there_31 : decode cX4_there 31 = .ok (.iload_n 3, 1) := dk_29 (dk_at dksX4_there_1 8 rfl rfl)
theorem dX4_there_32 : decode cX4_there 32 = .ok (.iload 4, 2) := dk_21 4 (dk_at dksX4_there_1 9 rfl rfl)
theorem dX4_there_34 : decode cX4_there 34 = .ok (.iload 5, 2) := dk_21 5 (dk_at dksX4_there_1 11 rfl rfl)
theorem dX4_there_36 : decode cX4_there 36 = .ok (.invokevirtual 462, 3) := dk_182 1 206 (dk_at dksX4_there_1 13 rfl rfl)
theorem dX4_there_39 : decode cX4_there 39 = .ok (.istore 6, 2) := dk_54 6 (dk_at dksX4_there_1 16 rfl rfl)
theorem dX4_there_41 : decode cX4_there 41 = .ok (.iload 6, 2) := dk_21 6 (dk_at dksX4_there_1 18 rfl rfl)
theorem dX4_there_43 : decode cX4_there 43 = .ok (.ifCond .ne 7, 3) := dk_154 0 7 (dk_at dksX4_there_1 20 rfl rfl)
theorem dX4_there_46 : decode cX4_there 46 = .ok (.iconst (-1), 1) := dk_2 (dk_at dksX4_there_1 23 rfl rfl)
theorem dX4_there_47 : decode cX4_there 47 = .ok (.goto 16, 3) := dk_167 0 16 (dk_at dksX4_there_2 0 rfl rfl)
theorem dX4_there_50 : decode cX4_there 50 = .ok (.aload_n 0, 1) := dk_42 (dk_at dksX4_there_2 3 rfl rfl)
theorem dX4_there_51 : decode cX4_there 51 = .ok (.iload_n 1, 1) := dk_27 (dk_at dksX4_there_2 4 rfl rfl)
theorem dX4_there_52 : decode cX4_there 52 = .ok (.iload_n 2, 1) := dk_28 (dk_at dksX4_there_2 5 rfl rfl)
theorem dX4_there_53 : decode cX4_there 53 = .ok (.iload_n 3, 1) := dk_29 (dk_at dksX4_there_2 6 rfl rfl)
theorem dX4_there_54 : decode cX4_there 54 = .ok (.iload 4, 2) := dk_21 4 (dk_at dksX4_there_2 7 rfl rfl)
theorem dX4_there_56 : decode cX4_there 56 = .ok (.iload 5, 2) := dk_21 5 (dk_at dksX4_there_2 9 rfl rfl)
theorem dX4_there_58 : decode cX4_there 58 = .ok (.iload 6, 2) := dk_21 6 (dk_at dksX4_there_2 11 rfl rfl)
theorem dX4_there_60 : decode cX4_there 60 = .ok (.invokevirtual 501, 3) := dk_182 1 245 (dk_at dksX4_there_2 13 rfl rfl)
theorem dX4_there_63 : decode cX4_there 63 = .ok (.ireturn, 1) := dk_172 (dk_at dksX4_there_2 16 rfl rfl)
abbrev cX4_thereOf : ByteArray := prog_20_method_87_code
def yX4_thereOf : MethodName := ⟨RX4, "thereOf", "(IIIIII)I"⟩
def dkwX4_thereOf_1 : List UInt8 := [96, 54, 7, 16, 100, 16, 100, 21, 7, 104, 21, 6, 42, 180, 0, 34, 28, 46, 104, 108, 184, 0, 235, 172]
abbrev dktX4_thereOf_1 : List UInt8 := dkwX4_thereOf_1 ++ []
def dkwX4_thereOf_0 : List UInt8 := [42, 27, 28, 29, 21, 4, 21, 5, 3, 182, 1, 167, 42, 27, 28, 29, 21, 4, 21, 5, 4, 182, 1, 167]
abbrev dktX4_thereOf_0 : List UInt8 := dkwX4_thereOf_0 ++ dktX4_thereOf_1
theorem dksX4_thereOf_0 : cX4_thereOf.data.toList.drop 0 = dktX4_thereOf_0 := by decide +kernel
theorem dksX4_thereOf_1 : cX4_thereOf.data.toList.drop 24 = dktX4_thereOf_1 := dk_seg dksX4_thereOf_0 24 rfl rfl
theorem dX4_thereOf_0 : decode cX4_thereOf 0 = .ok (.aload_n 0, 1) := dk_42 (dk_at dksX4_thereOf_0 0 rfl rfl)
theorem dX4_thereOf_1 : decode cX4_thereOf 1 = .ok (.iload_n 1, 1) := dk_27 (dk_at dksX4_thereOf_0 1 rfl rfl)
theorem dX4_thereOf_2 : decode cX4_thereOf 2 = .ok (.iload_n 2, 1) := dk_28 (dk_at dksX4_thereOf_0 2 rfl rfl)
theorem dX4_thereOf_3 : decode cX4_thereOf 3 = .ok (.iload_n 3, 1) := dk_29 (dk_at dksX4_thereOf_0 3 rfl rfl)
theorem dX4_thereOf_4 : decode cX4_thereOf 4 = .ok (.iload 4, 2) := dk_21 4 (dk_at dksX4_thereOf_0 4 rfl rfl)
theorem dX4_thereOf_6 : decode cX4_thereOf 6 = .ok (.iload 5, 2) := dk_21 5 (dk_at dksX4_thereOf_0 6 rfl rfl)
theorem dX4_thereOf_8 : decode cX4_thereOf 8 = .ok (.iconst 0, 1) := dk_3 (dk_at dksX4_thereOf_0 8 rfl rfl)
theorem dX4_thereOf_9 : decode cX4_thereOf 9 = .ok (.invokevirtual 423, 3) := dk_182 1 167 (dk_at dksX4_thereOf_0 9 rfl rfl)
theorem dX4_thereOf_12 : decode cX4_thereOf 12 = .ok (.aload_n 0, 1) := dk_42 (dk_at dksX4_thereOf_0 12 rfl rfl)
theorem dX4_thereOf_13 : decode cX4_thereOf 13 = .ok (.iload_n 1, 1) := dk_27 (dk_at dksX4_thereOf_0 13 rfl rfl)
theorem dX4_thereOf_14 : decode cX4_thereOf 14 = .ok (.iload_n 2, 1) := dk_28 (dk_at dksX4_thereOf_0 14 rfl rfl)
theorem dX4_thereOf_15 : decode cX4_thereOf 15 = .ok (.iload_n 3, 1) := dk_29 (dk_at dksX4_thereOf_0 15 rfl rfl)
theorem dX4_thereOf_16 : decode cX4_thereOf 16 = .ok (.iload 4, 2) := dk_21 4 (dk_at dksX4_thereOf_0 16 rfl rfl)
theorem dX4_thereOf_18 : decode cX4_thereOf 18 = .ok (.iload 5, 2) := dk_21 5 (dk_at dksX4_thereOf_0 18 rfl rfl)
theorem dX4_thereOf_20 : decode cX4_thereOf 20 = .ok (.iconst 1, 1) := dk_4 (dk_at dksX4_thereOf_0 20 rfl rfl)
theorem dX4_thereOf_21 : decode cX4_thereOf 21 = .ok (.invokevirtual 423, 3) := dk_182 1 167 (dk_at dksX4_thereOf_0 21 rfl rfl)
theorem dX4_thereOf_24 : decode cX4_thereOf 24 = .ok (.iadd, 1) := dk_96 (dk_at dksX4_thereOf_1 0 rfl rfl)
theorem dX4_thereOf_25 : decode cX4_thereOf 25 = .ok (.istore 7, 2) := dk_54 7 (dk_at dksX4_thereOf_1 1 rfl rfl)
theorem dX4_thereOf_27 : decode cX4_thereOf 27 = .ok (.bipush 100, 2) := dk_16 100 (dk_at dksX4_thereOf_1 3 rfl rfl)
theorem dX4_thereOf_29 : decode cX4_thereOf 29 = .ok (.bipush 100, 2) := dk_16 100 (dk_at dksX4_thereOf_1 5 rfl rfl)
theorem dX4_thereOf_31 : decode cX4_thereOf 31 = .ok (.iload 7, 2) := dk_21 7 (dk_at dksX4_thereOf_1 7 rfl rfl)
theorem dX4_thereOf_33 : decode cX4_thereOf 33 = .ok (.imul, 1) := dk_104 (dk_at dksX4_thereOf_1 9 rfl rfl)
theorem dX4_thereOf_34 : decode cX4_thereOf 34 = .ok (.iload 6, 2) := dk_21 6 (dk_at dksX4_thereOf_1 10 rfl rfl)
theorem dX4_thereOf_36 : decode cX4_thereOf 36 = .ok (.aload_n 0, 1) := dk_42 (dk_at dksX4_thereOf_1 12 rfl rfl)
theorem dX4_thereOf_37 : decode cX4_thereOf 37 = .ok (.getfield 34, 3) := dk_180 0 34 (dk_at dksX4_thereOf_1 13 rfl rfl)
theorem dX4_thereOf_40 : decode cX4_thereOf 40 = .ok (.iload_n 2, 1) := dk_28 (dk_at dksX4_thereOf_1 16 rfl rfl)
theorem dX4_thereOf_41 : decode cX4_thereOf 41 = .ok (.iaload, 1) := dk_46 (dk_at dksX4_thereOf_1 17 rfl rfl)
theorem dX4_thereOf_42 : decode cX4_thereOf 42 = .ok (.imul, 1) := dk_104 (dk_at dksX4_thereOf_1 18 rfl rfl)
theorem dX4_thereOf_43 : decode cX4_thereOf 43 = .ok (.idiv, 1) := dk_108 (dk_at dksX4_thereOf_1 19 rfl rfl)
theorem dX4_thereOf_44 : decode cX4_thereOf 44 = .ok (.invokestatic 235, 3) := dk_184 0 235 (dk_at dksX4_thereOf_1 20 rfl rfl)
theorem dX4_thereOf_47 : decode cX4_thereOf 47 = .ok (.ireturn, 1) := dk_172 (dk_at dksX4_thereOf_1 23 rfl rfl)
abbrev cX4_lacks : ByteArray := prog_20_method_89_code
def yX4_lacks : MethodName := ⟨RX4, "lacks", "(IIII)I"⟩
def dkwX4_lacks_7 : List UInt8 := [21, 6, 172]
abbrev dktX4_lacks_7 : List UInt8 := dkwX4_lacks_7 ++ []
def dkwX4_lacks_6 : List UInt8 := [164, 0, 12, 21, 6, 4, 21, 7, 120, 128, 54, 6, 132, 8, 1, 167, 255, 196, 132, 7, 1, 167, 255, 178]
abbrev dktX4_lacks_6 : List UInt8 := dkwX4_lacks_6 ++ dktX4_lacks_7
def dkwX4_lacks_5 : List UInt8 := [163, 0, 34, 42, 180, 0, 161, 21, 8, 46, 42, 180, 0, 161, 21, 7, 46, 42, 180, 0, 27, 96]
abbrev dktX4_lacks_5 : List UInt8 := dkwX4_lacks_5 ++ dktX4_lacks_6
def dkwX4_lacks_4 : List UInt8 := [21, 8, 42, 180, 0, 198, 162, 0, 57, 42, 180, 0, 37, 21, 8, 46, 42, 180, 0, 37, 21, 7, 46]
abbrev dktX4_lacks_4 : List UInt8 := dkwX4_lacks_4 ++ dktX4_lacks_5
def dkwX4_lacks_3 : List UInt8 := [132, 6, 1, 167, 255, 224, 3, 54, 6, 3, 54, 7, 21, 7, 42, 180, 0, 198, 162, 0, 75, 3, 54, 8]
abbrev dktX4_lacks_3 : List UInt8 := dkwX4_lacks_3 ++ dktX4_lacks_4
def dkwX4_lacks_2 : List UInt8 := [162, 0, 29, 42, 180, 0, 161, 21, 6, 42, 27, 21, 6, 28, 29, 21, 4, 21, 5, 182, 1, 245, 79]
abbrev dktX4_lacks_2 : List UInt8 := dkwX4_lacks_2 ++ dktX4_lacks_3
def dkwX4_lacks_1 : List UInt8 := [21, 4, 182, 1, 206, 54, 5, 21, 5, 154, 0, 5, 2, 172, 3, 54, 6, 21, 6, 42, 180, 0, 198]
abbrev dktX4_lacks_1 : List UInt8 := dkwX4_lacks_1 ++ dktX4_lacks_2
def dkwX4_lacks_0 : List UInt8 := [42, 3, 181, 0, 173, 42, 27, 28, 29, 21, 4, 182, 1, 196, 154, 0, 6, 16, 254, 172, 42, 27, 28, 29]
abbrev dktX4_lacks_0 : List UInt8 := dkwX4_lacks_0 ++ dktX4_lacks_1
theorem dksX4_lacks_0 : cX4_lacks.data.toList.drop 0 = dktX4_lacks_0 := by decide +kernel
theorem dksX4_lacks_1 : cX4_lacks.data.toList.drop 24 = dktX4_lacks_1 := dk_seg dksX4_lacks_0 24 rfl rfl
theorem dksX4_lacks_2 : cX4_lacks.data.toList.drop 47 = dktX4_lacks_2 := dk_seg dksX4_lacks_1 23 rfl rfl
theorem dksX4_lacks_3 : cX4_lacks.data.toList.drop 70 = dktX4_lacks_3 := dk_seg dksX4_lacks_2 23 rfl rfl
theorem dksX4_lacks_4 : cX4_lacks.data.toList.drop 94 = dktX4_lacks_4 := dk_seg dksX4_lacks_3 24 rfl rfl
theorem dksX4_lacks_5 : cX4_lacks.data.toList.drop 117 = dktX4_lacks_5 := dk_seg dksX4_lacks_4 23 rfl rfl
theorem dksX4_lacks_6 : cX4_lacks.data.toList.drop 139 = dktX4_lacks_6 := dk_seg dksX4_lacks_5 22 rfl rfl
theorem dksX4_lacks_7 : cX4_lacks.data.toList.drop 163 = dktX4_lacks_7 := dk_seg dksX4_lacks_6 24 rfl rfl
theorem dX4_lacks_0 : decode cX4_lacks 0 = .ok (.aload_n 0, 1) := dk_42 (dk_at dksX4_lacks_0 0 rfl rfl)
theorem dX4_lacks_1 : decode cX4_lacks 1 = .ok (.iconst 0, 1) := dk_3 (dk_at dksX4_lacks_0 1 rfl rfl)
theorem dX4_lacks_2 : decode cX4_lacks 2 = .ok (.putfield 173, 3) := dk_181 0 173 (dk_at dksX4_lacks_0 2 rfl rfl)
theorem dX4_lacks_5 : decode cX4_lacks 5 = .ok (.aload_n 0, 1) := dk_42 (dk_at dksX4_lacks_0 5 rfl rfl)
theorem dX4_lacks_6 : decode cX4_lacks 6 = .ok (.iload_n 1, 1) := dk_27 (dk_at dksX4_lacks_0 6 rfl rfl)
theorem dX4_lacks_7 : decode cX4_lacks 7 = .ok (.iload_n 2, 1) := dk_28 (dk_at dksX4_lacks_0 7 rfl rfl)
theorem dX4_lacks_8 : decode cX4_lacks 8 = .ok (.iload_n 3, 1) := dk_29 (dk_at dksX4_lacks_0 8 rfl rfl)
theorem dX4_lacks_9 : decode cX4_lacks 9 = .ok (.iload 4, 2) := dk_21 4 (dk_at dksX4_lacks_0 9 rfl rfl)
theorem dX4_lacks_11 : decode cX4_lacks 11 = .ok (.invokevirtual 452, 3) := dk_182 1 196 (dk_at dksX4_lacks_0 11 rfl rfl)
theorem dX4_lacks_14 : decode cX4_lacks 14 = .ok (.ifCond .ne 6, 3) := dk_154 0 6 (dk_at dksX4_lacks_0 14 rfl rfl)
theorem dX4_lacks_17 : decode cX4_lacks 17 = .ok (.bipush (-2), 2) := dk_16 254 (dk_at dksX4_lacks_0 17 rfl rfl)
theorem dX4_lacks_19 : decode cX4_lacks 19 = .ok (.ireturn, 1) := dk_172 (dk_at dksX4_lacks_0 19 rfl rfl)
theorem dX4_lacks_20 : decode cX4_lacks 20 = .ok (.aload_n 0, 1) := dk_42 (dk_at dksX4_lacks_0 20 rfl rfl)
theorem dX4_lacks_21 : decode cX4_lacks 21 = .ok (.iload_n 1, 1) := dk_27 (dk_at dksX4_lacks_0 21 rfl rfl)
theorem dX4_lacks_22 : decode cX4_lacks 22 = .ok (.iload_n 2, 1) := dk_28 (dk_at dksX4_lacks_0 22 rfl rfl)
theorem dX4_lacks_23 : decode cX4_lacks 23 = .ok (.iload_n 3, 1) := dk_29 (dk_at dksX4_lacks_0 23 rfl rfl)
theorem dX4_lacks_24 : decode cX4_lacks 24 = .ok (.iload 4, 2) := dk_21 4 (dk_at dksX4_lacks_1 0 rfl rfl)
theorem dX4_lacks_26 : decode cX4_lacks 26 = .ok (.invokevirtual 462, 3) := dk_182 1 206 (dk_at dksX4_lacks_1 2 rfl rfl)
theorem dX4_lacks_29 : decode cX4_lacks 29 = .ok (.istore 5, 2) := dk_54 5 (dk_at dksX4_lacks_1 5 rfl rfl)
theorem dX4_lacks_31 : decode cX4_lacks 31 = .ok (.iload 5, 2) := dk_21 5 (dk_at dksX4_lacks_1 7 rfl rfl)
theorem dX4_lacks_33 : decode cX4_lacks 33 = .ok (.ifCond .ne 5, 3) := dk_154 0 5 (dk_at dksX4_lacks_1 9 rfl rfl)
theorem dX4_lacks_36 : decode cX4_lacks 36 = .ok (.iconst (-1), 1) := dk_2 (dk_at dksX4_lacks_1 12 rfl rfl)
theorem dX4_lacks_37 : decode cX4_lacks 37 = .ok (.ireturn, 1) := dk_172 (dk_at dksX4_lacks_1 13 rfl rfl)
theorem dX4_lacks_38 : decode cX4_lacks 38 = .ok (.iconst 0, 1) := dk_3 (dk_at dksX4_lacks_1 14 rfl rfl)
theorem dX4_lacks_39 : decode cX4_lacks 39 = .ok (.istore 6, 2) := dk_54 6 (dk_at dksX4_lacks_1 15 rfl rfl)
theorem dX4_lacks_41 : decode cX4_lacks 41 = .ok (.iload 6, 2) := dk_21 6 (dk_at dksX4_lacks_1 17 rfl rfl)
theorem dX4_lacks_43 : decode cX4_lacks 43 = .ok (.aload_n 0, 1) := dk_42 (dk_at dksX4_lacks_1 19 rfl rfl)
theorem dX4_lacks_44 : decode cX4_lacks 44 = .ok (.getfield 198, 3) := dk_180 0 198 (dk_at dksX4_lacks_1 20 rfl rfl)
theorem dX4_lacks_47 : decode cX4_lacks 47 = .ok (.if_icmp .ge 29, 3) := dk_162 0 29 (dk_at dksX4_lacks_2 0 rfl rfl)
theorem dX4_lacks_50 : decode cX4_lacks 50 = .ok (.aload_n 0, 1) := dk_42 (dk_at dksX4_lacks_2 3 rfl rfl)
theorem dX4_lacks_51 : decode cX4_lacks 51 = .ok (.getfield 161, 3) := dk_180 0 161 (dk_at dksX4_lacks_2 4 rfl rfl)
theorem dX4_lacks_54 : decode cX4_lacks 54 = .ok (.iload 6, 2) := dk_21 6 (dk_at dksX4_lacks_2 7 rfl rfl)
theorem dX4_lacks_56 : decode cX4_lacks 56 = .ok (.aload_n 0, 1) := dk_42 (dk_at dksX4_lacks_2 9 rfl rfl)
theorem dX4_lacks_57 : decode cX4_lacks 57 = .ok (.iload_n 1, 1) := dk_27 (dk_at dksX4_lacks_2 10 rfl rfl)
theorem dX4_lacks_58 : decode cX4_lacks 58 = .ok (.iload 6, 2) := dk_21 6 (dk_at dksX4_lacks_2 11 rfl rfl)
theorem dX4_lacks_60 : decode cX4_lacks 60 = .ok (.iload_n 2, 1) := dk_28 (dk_at dksX4_lacks_2 13 rfl rfl)
theorem dX4_lacks_61 : decode cX4_lacks 61 = .ok (.iload_n 3, 1) := dk_29 (dk_at dksX4_lacks_2 14 rfl rfl)
theorem dX4_lacks_62 : decode cX4_lacks 62 = .ok (.iload 4, 2) := dk_21 4 (dk_at dksX4_lacks_2 15 rfl rfl)
theorem dX4_lacks_64 : decode cX4_lacks 64 = .ok (.iload 5, 2) := dk_21 5 (dk_at dksX4_lacks_2 17 rfl rfl)
theorem dX4_lacks_66 : decode cX4_lacks 66 = .ok (.invokevirtual 501, 3) := dk_182 1 245 (dk_at dksX4_lacks_2 19 rfl rfl)
theorem dX4_lacks_69 : decode cX4_lacks 69 = .ok (.iastore, 1) := dk_79 (dk_at dksX4_lacks_2 22 rfl rfl)
theorem dX4_lacks_70 : decode cX4_lacks 70 = .ok (.iinc 6 1, 3) := dk_132 6 1 (dk_at dksX4_lacks_3 0 rfl rfl)
theorem dX4_lacks_73 : decode cX4_lacks 73 = .ok (.goto (-32), 3) := dk_167 255 224 (dk_at dksX4_lacks_3 3 rfl rfl)
theorem dX4_lacks_76 : decode cX4_lacks 76 = .ok (.iconst 0, 1) := dk_3 (dk_at dksX4_lacks_3 6 rfl rfl)
theorem dX4_lacks_77 : decode cX4_lacks 77 = .ok (.istore 6, 2) := dk_54 6 (dk_at dksX4_lacks_3 7 rfl rfl)
theorem dX4_lacks_79 : decode cX4_lacks 79 = .ok (.iconst 0, 1) := dk_3 (dk_at dksX4_lacks_3 9 rfl rfl)
theorem dX4_lacks_80 : decode cX4_lacks 80 = .ok (.istore 7, 2) := dk_54 7 (dk_at dksX4_lacks_3 10 rfl rfl)
theorem dX4_lacks_82 : decode cX4_lacks 82 = .ok (.iload 7, 2) := dk_21 7 (dk_at dksX4_lacks_3 12 rfl rfl)
theorem dX4_lacks_84 : decode cX4_lacks 84 = .ok (.aload_n 0, 1) := dk_42 (dk_at dksX4_lacks_3 14 rfl rfl)
theorem dX4_lacks_85 : decode cX4_lacks 85 = .ok (.getfield 198, 3) := dk_180 0 198 (dk_at dksX4_lacks_3 15 rfl rfl)
theorem dX4_lacks_88 : decode cX4_lacks 88 = .ok (.if_icmp .ge 75, 3) := dk_162 0 75 (dk_at dksX4_lacks_3 18 rfl rfl)
theorem dX4_lacks_91 : decode cX4_lacks 91 = .ok (.iconst 0, 1) := dk_3 (dk_at dksX4_lacks_3 21 rfl rfl)
theorem dX4_lacks_92 : decode cX4_lacks 92 = .ok (.istore 8, 2) := dk_54 8 (dk_at dksX4_lacks_3 22 rfl rfl)
theorem dX4_lacks_94 : decode cX4_lacks 94 = .ok (.iload 8, 2) := dk_21 8 (dk_at dksX4_lacks_4 0 rfl rfl)
theorem dX4_lacks_96 : decode cX4_lacks 96 = .ok (.aload_n 0, 1) := dk_42 (dk_at dksX4_lacks_4 2 rfl rfl)
theorem dX4_lacks_97 : decode cX4_lacks 97 = .ok (.getfield 198, 3) := dk_180 0 198 (dk_at dksX4_lacks_4 3 rfl rfl)
theorem dX4_lacks_100 : decode cX4_lacks 100 = .ok (.if_icmp .ge 57, 3) := dk_162 0 57 (dk_at dksX4_lacks_4 6 rfl rfl)
theorem dX4_lacks_103 : decode cX4_lacks 103 = .ok (.aload_n 0, 1) := dk_42 (dk_at dksX4_lacks_4 9 rfl rfl)
theorem dX4_lacks_104 : decode cX4_lacks 104 = .ok (.getfield 37, 3) := dk_180 0 37 (dk_at dksX4_lacks_4 10 rfl rfl)
theorem dX4_lacks_107 : decode cX4_lacks 107 = .ok (.iload 8, 2) := dk_21 8 (dk_at dksX4_lacks_4 13 rfl rfl)
theorem dX4_lacks_109 : decode cX4_lacks 109 = .ok (.iaload, 1) := dk_46 (dk_at dksX4_lacks_4 15 rfl rfl)
theorem dX4_lacks_110 : decode cX4_lacks 110 = .ok (.aload_n 0, 1) := dk_42 (dk_at dksX4_lacks_4 16 rfl rfl)
theorem dX4_lacks_111 : decode cX4_lacks 111 = .ok (.getfield 37, 3) := dk_180 0 37 (dk_at dksX4_lacks_4 17 rfl rfl)
theorem dX4_lacks_114 : decode cX4_lacks 114 = .ok (.iload 7, 2) := dk_21 7 (dk_at dksX4_lacks_4 20 rfl rfl)
theorem dX4_lacks_116 : decode cX4_lacks 116 = .ok (.iaload, 1) := dk_46 (dk_at dksX4_lacks_4 22 rfl rfl)
theorem dX4_lacks_117 : decode cX4_lacks 117 = .ok (.if_icmp .gt 34, 3) := dk_163 0 34 (dk_at dksX4_lacks_5 0 rfl rfl)
theorem dX4_lacks_120 : decode cX4_lacks 120 = .ok (.aload_n 0, 1) := dk_42 (dk_at dksX4_lacks_5 3 rfl rfl)
theorem dX4_lacks_121 : decode cX4_lacks 121 = .ok (.getfield 161, 3) := dk_180 0 161 (dk_at dksX4_lacks_5 4 rfl rfl)
theorem dX4_lacks_124 : decode cX4_lacks 124 = .ok (.iload 8, 2) := dk_21 8 (dk_at dksX4_lacks_5 7 rfl rfl)
theorem dX4_lacks_126 : decode cX4_lacks 126 = .ok (.iaload, 1) := dk_46 (dk_at dksX4_lacks_5 9 rfl rfl)
theorem dX4_lacks_127 : decode cX4_lacks 127 = .ok (.aload_n 0, 1) := dk_42 (dk_at dksX4_lacks_5 10 rfl rfl)
theorem dX4_lacks_128 : decode cX4_lacks 128 = .ok (.getfield 161, 3) := dk_180 0 161 (dk_at dksX4_lacks_5 11 rfl rfl)
theorem dX4_lacks_131 : decode cX4_lacks 131 = .ok (.iload 7, 2) := dk_21 7 (dk_at dksX4_lacks_5 14 rfl rfl)
theorem dX4_lacks_133 : decode cX4_lacks 133 = .ok (.iaload, 1) := dk_46 (dk_at dksX4_lacks_5 16 rfl rfl)
theorem dX4_lacks_134 : decode cX4_lacks 134 = .ok (.aload_n 0, 1) := dk_42 (dk_at dksX4_lacks_5 17 rfl rfl)
theorem dX4_lacks_135 : decode cX4_lacks 135 = .ok (.getfield 27, 3) := dk_180 0 27 (dk_at dksX4_lacks_5 18 rfl rfl)
theorem dX4_lacks_138 : decode cX4_lacks 138 = .ok (.iadd, 1) := dk_96 (dk_at dksX4_lacks_5 21 rfl rfl)
theorem dX4_lacks_139 : decode cX4_lacks 139 = .ok (.if_icmp .le 12, 3) := dk_164 0 12 (dk_at dksX4_lacks_6 0 rfl rfl)
theorem dX4_lacks_142 : decode cX4_lacks 142 = .ok (.iload 6, 2) := dk_21 6 (dk_at dksX4_lacks_6 3 rfl rfl)
theorem dX4_lacks_144 : decode cX4_lacks 144 = .ok (.iconst 1, 1) := dk_4 (dk_at dksX4_lacks_6 5 rfl rfl)
theorem dX4_lacks_145 : decode cX4_lacks 145 = .ok (.iload 7, 2) := dk_21 7 (dk_at dksX4_lacks_6 6 rfl rfl)
theorem dX4_lacks_147 : decode cX4_lacks 147 = .ok (.ishl, 1) := dk_120 (dk_at dksX4_lacks_6 8 rfl rfl)
theorem dX4_lacks_148 : decode cX4_lacks 148 = .ok (.ior, 1) := dk_128 (dk_at dksX4_lacks_6 9 rfl rfl)
theorem dX4_lacks_149 : decode cX4_lacks 149 = .ok (.istore 6, 2) := dk_54 6 (dk_at dksX4_lacks_6 10 rfl rfl)
theorem dX4_lacks_151 : decode cX4_lacks 151 = .ok (.iinc 8 1, 3) := dk_132 8 1 (dk_at dksX4_lacks_6 12 rfl rfl)
theorem dX4_lacks_154 : decode cX4_lacks 154 = .ok (.goto (-60), 3) := dk_167 255 196 (dk_at dksX4_lacks_6 15 rfl rfl)
theorem dX4_lacks_157 : decode cX4_lacks 157 = .ok (.iinc 7 1, 3) := dk_132 7 1 (dk_at dksX4_lacks_6 18 rfl rfl)
theorem dX4_lacks_160 : decode cX4_lacks 160 = .ok (.goto (-78), 3) := dk_167 255 178 (dk_at dksX4_lacks_6 21 rfl rfl)
theorem dX4_lacks_163 : decode cX4_lacks 163 = .ok (.iload 6, 2) := dk_21 6 (dk_at dksX4_lacks_7 0 rfl rfl)
theorem dX4_lacks_165 : decode cX4_lacks 165 = .ok (.ireturn, 1) := dk_172 (dk_at dksX4_lacks_7 2 rfl rfl)
abbrev cX4_ranked : ByteArray := prog_20_method_90_code
def yX4_ranked : MethodName := ⟨RX4, "ranked", "(IIIIIII)I"⟩
def dkwX4_ranked_30 : List UInt8 := [167, 255, 188, 20, 1, 251, 22, 14, 105, 22, 12, 97, 10, 101, 22, 12, 109, 136, 172]
abbrev dktX4_ranked_30 : List UInt8 := dkwX4_ranked_30 ++ []
def dkwX4_ranked_29 : List UInt8 := [42, 180, 0, 170, 17, 3, 232, 21, 8, 104, 21, 16, 96, 47, 167, 0, 4, 9, 97, 55, 14, 132, 16, 1]
abbrev dktX4_ranked_29 : List UInt8 := dkwX4_ranked_29 ++ dktX4_ranked_30
def dkwX4_ranked_28 : List UInt8 := [21, 16, 96, 47, 97, 55, 12, 22, 14, 21, 16, 21, 8, 21, 8, 4, 100, 104, 100, 21, 11, 161, 0, 20]
abbrev dktX4_ranked_28 : List UInt8 := dkwX4_ranked_28 ++ dktX4_ranked_29
def dkwX4_ranked_27 : List UInt8 := [3, 54, 16, 21, 16, 17, 3, 232, 162, 0, 66, 22, 12, 42, 180, 0, 170, 17, 3, 232, 21, 8, 104]
abbrev dktX4_ranked_27 : List UInt8 := dkwX4_ranked_27 ++ dktX4_ranked_28
def dkwX4_ranked_26 : List UInt8 := [132, 14, 255, 167, 255, 207, 132, 13, 255, 167, 255, 183, 132, 12, 1, 167, 255, 164, 9, 55, 12, 9, 55, 14]
abbrev dktX4_ranked_26 : List UInt8 := dkwX4_ranked_26 ++ dktX4_ranked_27
def dkwX4_ranked_25 : List UInt8 := [21, 12, 46, 96, 92, 47, 42, 180, 0, 170, 17, 3, 232, 21, 13, 104, 21, 14, 96, 47, 97, 80]
abbrev dktX4_ranked_25 : List UInt8 := dkwX4_ranked_25 ++ dktX4_ranked_26
def dkwX4_ranked_24 : List UInt8 := [21, 14, 155, 0, 50, 42, 180, 0, 170, 17, 3, 232, 21, 13, 4, 96, 104, 21, 14, 96, 42, 180, 0, 167]
abbrev dktX4_ranked_24 : List UInt8 := dkwX4_ranked_24 ++ dktX4_ranked_25
def dkwX4_ranked_23 : List UInt8 := [21, 8, 4, 100, 54, 13, 21, 13, 155, 0, 74, 17, 3, 231, 42, 180, 0, 167, 21, 12, 46, 100, 54, 14]
abbrev dktX4_ranked_23 : List UInt8 := dkwX4_ranked_23 ++ dktX4_ranked_24
def dkwX4_ranked_22 : List UInt8 := [132, 12, 1, 167, 255, 235, 42, 180, 0, 170, 3, 10, 80, 3, 54, 12, 21, 12, 21, 10, 162, 0, 91]
abbrev dktX4_ranked_22 : List UInt8 := dkwX4_ranked_22 ++ dktX4_ranked_23
def dkwX4_ranked_21 : List UInt8 := [167, 255, 162, 3, 54, 12, 21, 12, 42, 180, 0, 170, 190, 162, 0, 17, 42, 180, 0, 170, 21, 12, 9, 80]
abbrev dktX4_ranked_21 : List UInt8 := dkwX4_ranked_21 ++ dktX4_ranked_22
def dkwX4_ranked_20 : List UInt8 := [21, 13, 46, 160, 0, 7, 4, 167, 0, 4, 3, 96, 79, 132, 13, 1, 167, 255, 186, 132, 12, 1]
abbrev dktX4_ranked_20 : List UInt8 := dkwX4_ranked_20 ++ dktX4_ranked_21
def dkwX4_ranked_19 : List UInt8 := [180, 0, 164, 21, 13, 46, 164, 0, 7, 5, 167, 0, 25, 42, 180, 0, 164, 21, 12, 46, 42, 180, 0, 164]
abbrev dktX4_ranked_19 : List UInt8 := dkwX4_ranked_19 ++ dktX4_ranked_20
def dkwX4_ranked_18 : List UInt8 := [21, 13, 21, 12, 159, 0, 56, 42, 180, 0, 167, 21, 12, 92, 46, 42, 180, 0, 164, 21, 12, 46, 42]
abbrev dktX4_ranked_18 : List UInt8 := dkwX4_ranked_18 ++ dktX4_ranked_19
def dkwX4_ranked_17 : List UInt8 := [21, 10, 162, 0, 93, 42, 180, 0, 167, 21, 12, 3, 79, 3, 54, 13, 21, 13, 21, 10, 162, 0, 69]
abbrev dktX4_ranked_17 : List UInt8 := dkwX4_ranked_17 ++ dktX4_ranked_18
def dkwX4_ranked_16 : List UInt8 := [167, 255, 198, 132, 12, 1, 167, 255, 181, 21, 7, 5, 160, 0, 6, 21, 11, 172, 3, 54, 12, 21, 12]
abbrev dktX4_ranked_16 : List UInt8 := dkwX4_ranked_16 ++ dktX4_ranked_17
def dkwX4_ranked_15 : List UInt8 := [21, 12, 46, 42, 180, 0, 164, 21, 13, 46, 160, 0, 7, 4, 167, 0, 4, 3, 96, 54, 11, 132, 13, 1]
abbrev dktX4_ranked_15 : List UInt8 := dkwX4_ranked_15 ++ dktX4_ranked_16
def dkwX4_ranked_14 : List UInt8 := [180, 0, 164, 21, 12, 46, 42, 180, 0, 164, 21, 13, 46, 164, 0, 7, 5, 167, 0, 25, 42, 180, 0, 164]
abbrev dktX4_ranked_14 : List UInt8 := dkwX4_ranked_14 ++ dktX4_ranked_15
def dkwX4_ranked_13 : List UInt8 := [54, 12, 21, 12, 21, 8, 162, 0, 74, 21, 8, 54, 13, 21, 13, 21, 10, 162, 0, 57, 21, 11, 42]
abbrev dktX4_ranked_13 : List UInt8 := dkwX4_ranked_13 ++ dktX4_ranked_14
def dkwX4_ranked_12 : List UInt8 := [180, 0, 70, 16, 6, 21, 11, 104, 21, 6, 96, 46, 79, 132, 11, 1, 167, 255, 206, 3, 54, 11, 3]
abbrev dktX4_ranked_12 : List UInt8 := dkwX4_ranked_12 ++ dktX4_ranked_13
def dkwX4_ranked_11 : List UInt8 := [21, 11, 27, 28, 21, 4, 21, 5, 182, 1, 163, 153, 0, 26, 42, 180, 0, 164, 21, 10, 132, 10, 1, 42]
abbrev dktX4_ranked_11 : List UInt8 := dkwX4_ranked_11 ++ dktX4_ranked_12
def dkwX4_ranked_10 : List UInt8 := [21, 6, 96, 46, 79, 132, 11, 1, 167, 255, 207, 3, 54, 11, 21, 11, 42, 180, 0, 206, 162, 0, 47, 42]
abbrev dktX4_ranked_10 : List UInt8 := dkwX4_ranked_10 ++ dktX4_ranked_11
def dkwX4_ranked_9 : List UInt8 := [182, 1, 163, 153, 0, 26, 42, 180, 0, 164, 21, 10, 132, 10, 1, 42, 180, 0, 70, 16, 6, 21, 11, 104]
abbrev dktX4_ranked_9 : List UInt8 := dkwX4_ranked_9 ++ dktX4_ranked_10
def dkwX4_ranked_8 : List UInt8 := [54, 10, 3, 54, 11, 21, 11, 42, 180, 0, 206, 162, 0, 46, 42, 21, 11, 27, 28, 29, 21, 5]
abbrev dktX4_ranked_8 : List UInt8 := dkwX4_ranked_8 ++ dktX4_ranked_9
def dkwX4_ranked_7 : List UInt8 := [164, 0, 6, 16, 248, 172, 21, 7, 154, 0, 6, 21, 8, 172, 21, 7, 4, 160, 0, 6, 21, 9, 172, 3]
abbrev dktX4_ranked_7 : List UInt8 := dkwX4_ranked_7 ++ dktX4_ranked_8
def dkwX4_ranked_6 : List UInt8 := [132, 10, 1, 167, 255, 195, 21, 8, 153, 0, 18, 21, 9, 153, 0, 13, 21, 8, 21, 9, 96, 16, 20]
abbrev dktX4_ranked_6 : List UInt8 := dkwX4_ranked_6 ++ dktX4_ranked_7
def dkwX4_ranked_5 : List UInt8 := [21, 10, 27, 28, 21, 4, 21, 5, 182, 1, 163, 153, 0, 7, 4, 167, 0, 4, 3, 96, 54, 9]
abbrev dktX4_ranked_5 : List UInt8 := dkwX4_ranked_5 ++ dktX4_ranked_6
def dkwX4_ranked_4 : List UInt8 := [21, 10, 27, 28, 29, 21, 5, 182, 1, 163, 153, 0, 7, 4, 167, 0, 4, 3, 96, 54, 8, 21, 9, 42]
abbrev dktX4_ranked_4 : List UInt8 := dkwX4_ranked_4 ++ dktX4_ranked_5
def dkwX4_ranked_3 : List UInt8 := [16, 254, 172, 3, 54, 8, 3, 54, 9, 3, 54, 10, 21, 10, 42, 180, 0, 206, 162, 0, 58, 21, 8, 42]
abbrev dktX4_ranked_3 : List UInt8 := dkwX4_ranked_3 ++ dktX4_ranked_4
def dkwX4_ranked_2 : List UInt8 := [9, 20, 1, 249, 184, 0, 178, 153, 0, 16, 21, 7, 133, 9, 20, 0, 176, 184, 0, 178, 154, 0, 6]
abbrev dktX4_ranked_2 : List UInt8 := dkwX4_ranked_2 ++ dktX4_ranked_3
def dkwX4_ranked_1 : List UInt8 := [182, 1, 196, 153, 0, 44, 29, 21, 4, 126, 154, 0, 37, 42, 28, 182, 1, 203, 153, 0, 29, 21, 6, 133]
abbrev dktX4_ranked_1 : List UInt8 := dkwX4_ranked_1 ++ dktX4_ranked_2
def dkwX4_ranked_0 : List UInt8 := [42, 3, 181, 0, 173, 42, 27, 29, 21, 5, 3, 182, 1, 196, 153, 0, 57, 42, 27, 21, 4, 21, 5, 3]
abbrev dktX4_ranked_0 : List UInt8 := dkwX4_ranked_0 ++ dktX4_ranked_1
theorem dksX4_ranked_0 : cX4_ranked.data.toList.drop 0 = dktX4_ranked_0 := by decide +kernel
theorem dksX4_ranked_1 : cX4_ranked.data.toList.drop 24 = dktX4_ranked_1 := dk_seg dksX4_ranked_0 24 rfl rfl
theorem dksX4_ranked_2 : cX4_ranked.data.toList.drop 48 = dktX4_ranked_2 := dk_seg dksX4_ranked_1 24 rfl rfl
theorem dksX4_ranked_3 : cX4_ranked.data.toList.drop 71 = dktX4_ranked_3 := dk_seg dksX4_ranked_2 23 rfl rfl
theorem dksX4_ranked_4 : cX4_ranked.data.toList.drop 95 = dktX4_ranked_4 := dk_seg dksX4_ranked_3 24 rfl rfl
theorem dksX4_ranked_5 : cX4_ranked.data.toList.drop 119 = dktX4_ranked_5 := dk_seg dksX4_ranked_4 24 rfl rfl
theorem dksX4_ranked_6 : cX4_ranked.data.toList.drop 141 = dktX4_ranked_6 := dk_seg dksX4_ranked_5 22 rfl rfl
theorem dksX4_ranked_7 : cX4_ranked.data.toList.drop 164 = dktX4_ranked_7 := dk_seg dksX4_ranked_6 23 rfl rfl
theorem dksX4_ranked_8 : cX4_ranked.data.toList.drop 188 = dktX4_ranked_8 := dk_seg dksX4_ranked_7 24 rfl rfl
theorem dksX4_ranked_9 : cX4_ranked.data.toList.drop 210 = dktX4_ranked_9 := dk_seg dksX4_ranked_8 22 rfl rfl
theorem dksX4_ranked_10 : cX4_ranked.data.toList.drop 234 = dktX4_ranked_10 := dk_seg dksX4_ranked_9 24 rfl rfl
theorem dksX4_ranked_11 : cX4_ranked.data.toList.drop 258 = dktX4_ranked_11 := dk_seg dksX4_ranked_10 24 rfl rfl
theorem dksX4_ranked_12 : cX4_ranked.data.toList.drop 282 = dktX4_ranked_12 := dk_seg dksX4_ranked_11 24 rfl rfl
theorem dksX4_ranked_13 : cX4_ranked.data.toList.drop 305 = dktX4_ranked_13 := dk_seg dksX4_ranked_12 23 rfl rfl
theorem dksX4_ranked_14 : cX4_ranked.data.toList.drop 328 = dktX4_ranked_14 := dk_seg dksX4_ranked_13 23 rfl rfl
theorem dksX4_ranked_15 : cX4_ranked.data.toList.drop 352 = dktX4_ranked_15 := dk_seg dksX4_ranked_14 24 rfl rfl
theorem dksX4_ranked_16 : cX4_ranked.data.toList.drop 376 = dktX4_ranked_16 := dk_seg dksX4_ranked_15 24 rfl rfl
theorem dksX4_ranked_17 : cX4_ranked.data.toList.drop 399 = dktX4_ranked_17 := dk_seg dksX4_ranked_16 23 rfl rfl
theorem dksX4_ranked_18 : cX4_ranked.data.toList.drop 422 = dktX4_ranked_18 := dk_seg dksX4_ranked_17 23 rfl rfl
theorem dksX4_ranked_19 : cX4_ranked.data.toList.drop 445 = dktX4_ranked_19 := dk_seg dksX4_ranked_18 23 rfl rfl
theorem dksX4_ranked_20 : cX4_ranked.data.toList.drop 469 = dktX4_ranked_20 := dk_seg dksX4_ranked_19 24 rfl rfl
theorem dksX4_ranked_21 : cX4_ranked.data.toList.drop 491 = dktX4_ranked_21 := dk_seg dksX4_ranked_20 22 rfl rfl
theorem dksX4_ranked_22 : cX4_ranked.data.toList.drop 515 = dktX4_ranked_22 := dk_seg dksX4_ranked_21 24 rfl rfl
theorem dksX4_ranked_23 : cX4_ranked.data.toList.drop 538 = dktX4_ranked_23 := dk_seg dksX4_ranked_22 23 rfl rfl
theorem dksX4_ranked_24 : cX4_ranked.data.toList.drop 562 = dktX4_ranked_24 := dk_seg dksX4_ranked_23 24 rfl rfl
theorem dksX4_ranked_25 : cX4_ranked.data.toList.drop 586 = dktX4_ranked_25 := dk_seg dksX4_ranked_24 24 rfl rfl
theorem dksX4_ranked_26 : cX4_ranked.data.toList.drop 608 = dktX4_ranked_26 := dk_seg dksX4_ranked_25 22 rfl rfl
theorem dksX4_ranked_27 : cX4_ranked.data.toList.drop 632 = dktX4_ranked_27 := dk_seg dksX4_ranked_26 24 rfl rfl
theorem dksX4_ranked_28 : cX4_ranked.data.toList.drop 655 = dktX4_ranked_28 := dk_seg dksX4_ranked_27 23 rfl rfl
theorem dksX4_ranked_29 : cX4_ranked.data.toList.drop 679 = dktX4_ranked_29 := dk_seg dksX4_ranked_28 24 rfl rfl
theorem dksX4_ranked_30 : cX4_ranked.data.toList.drop 703 = dktX4_ranked_30 := dk_seg dksX4_ranked_29 24 rfl rfl
theorem dX4_ranked_0 : decode cX4_ranked 0 = .ok (.aload_n 0, 1) := dk_42 (dk_at dksX4_ranked_0 0 rfl rfl)
theorem dX4_ranked_1 : decode cX4_ranked 1 = .ok (.iconst 0, 1) := dk_3 (dk_at dksX4_ranked_0 1 rfl rfl)
theorem dX4_ranked_2 : decode cX4_ranked 2 = .ok (.putfield 173, 3) := dk_181 0 173 (dk_at dksX4_ranked_0 2 rfl rfl)
theorem dX4_ranked_5 : decode cX4_ranked 5 = .ok (.aload_n 0, 1) := dk_42 (dk_at dksX4_ranked_0 5 rfl rfl)
theorem dX4_ranked_6 : decode cX4_ranked 6 = .ok (.iload_n 1, 1) := dk_27 (dk_at dksX4_ranked_0 6 rfl rfl)
theorem dX4_ranked_7 : decode cX4_ranked 7 = .ok (.iload_n 3, 1) := dk_29 (dk_at dksX4_ranked_0 7 rfl rfl)
theorem dX4_ranked_8 : decode cX4_ranked 8 = .ok (.iload 5, 2) := dk_21 5 (dk_at dksX4_ranked_0 8 rfl rfl)
theorem dX4_ranked_10 : decode cX4_ranked 10 = .ok (.iconst 0, 1) := dk_3 (dk_at dksX4_ranked_0 10 rfl rfl)
theorem dX4_ranked_11 : decode cX4_ranked 11 = .ok (.invokevirtual 452, 3) := dk_182 1 196 (dk_at dksX4_ranked_0 11 rfl rfl)
theorem dX4_ranked_14 : decode cX4_ranked 14 = .ok (.ifCond .eq 57, 3) := dk_153 0 57 (dk_at dksX4_ranked_0 14 rfl rfl)
theorem dX4_ranked_17 : decode cX4_ranked 17 = .ok (.aload_n 0, 1) := dk_42 (dk_at dksX4_ranked_0 17 rfl rfl)
theorem dX4_ranked_18 : decode cX4_ranked 18 = .ok (.iload_n 1, 1) := dk_27 (dk_at dksX4_ranked_0 18 rfl rfl)
theorem dX4_ranked_19 : decode cX4_ranked 19 = .ok (.iload 4, 2) := dk_21 4 (dk_at dksX4_ranked_0 19 rfl rfl)
theorem dX4_ranked_21 : decode cX4_ranked 21 = .ok (.iload 5, 2) := dk_21 5 (dk_at dksX4_ranked_0 21 rfl rfl)
theorem dX4_ranked_23 : decode cX4_ranked 23 = .ok (.iconst 0, 1) := dk_3 (dk_at dksX4_ranked_0 23 rfl rfl)
theorem dX4_ranked_24 : decode cX4_ranked 24 = .ok (.invokevirtual 452, 3) := dk_182 1 196 (dk_at dksX4_ranked_1 0 rfl rfl)
theorem dX4_ranked_27 : decode cX4_ranked 27 = .ok (.ifCond .eq 44, 3) := dk_153 0 44 (dk_at dksX4_ranked_1 3 rfl rfl)
theorem dX4_ranked_30 : decode cX4_ranked 30 = .ok (.iload_n 3, 1) := dk_29 (dk_at dksX4_ranked_1 6 rfl rfl)
theorem dX4_ranked_31 : decode cX4_ranked 31 = .ok (.iload 4, 2) := dk_21 4 (dk_at dksX4_ranked_1 7 rfl rfl)
theorem dX4_ranked_33 : decode cX4_ranked 33 = .ok (.iand, 1) := dk_126 (dk_at dksX4_ranked_1 9 rfl rfl)
theorem dX4_ranked_34 : decode cX4_ranked 34 = .ok (.ifCond .ne 37, 3) := dk_154 0 37 (dk_at dksX4_ranked_1 10 rfl rfl)
theorem dX4_ranked_37 : decode cX4_ranked 37 = .ok (.aload_n 0, 1) := dk_42 (dk_at dksX4_ranked_1 13 rfl rfl)
theorem dX4_ranked_38 : decode cX4_ranked 38 = .ok (.iload_n 2, 1) := dk_28 (dk_at dksX4_ranked_1 14 rfl rfl)
theorem dX4_ranked_39 : decode cX4_ranked 39 = .ok (.invokevirtual 459, 3) := dk_182 1 203 (dk_at dksX4_ranked_1 15 rfl rfl)
theorem dX4_ranked_42 : decode cX4_ranked 42 = .ok (.ifCond .eq 29, 3) := dk_153 0 29 (dk_at dksX4_ranked_1 18 rfl rfl)
theorem dX4_ranked_45 : decode cX4_ranked 45 = .ok (.iload 6, 2) := dk_21 6 (dk_at dksX4_ranked_1 21 rfl rfl)
theorem dX4_ranked_47 : decode cX4_ranked 47 = .ok (.i2l, 1) := dk_133 (dk_at dksX4_ranked_1 23 rfl rfl)
theorem dX4_ranked_48 : decode cX4_ranked 48 = .ok (.lconst 0, 1) := dk_9 (dk_at dksX4_ranked_2 0 rfl rfl)
theorem dX4_ranked_49 : decode cX4_ranked 49 = .ok (.ldc2_w 505, 3) := dk_20 1 249 (dk_at dksX4_ranked_2 1 rfl rfl)
theorem dX4_ranked_52 : decode cX4_ranked 52 = .ok (.invokestatic 178, 3) := dk_184 0 178 (dk_at dksX4_ranked_2 4 rfl rfl)
theorem dX4_ranked_55 : decode cX4_ranked 55 = .ok (.ifCond .eq 16, 3) := dk_153 0 16 (dk_at dksX4_ranked_2 7 rfl rfl)
theorem dX4_ranked_58 : decode cX4_ranked 58 = .ok (.iload 7, 2) := dk_21 7 (dk_at dksX4_ranked_2 10 rfl rfl)
theorem dX4_ranked_60 : decode cX4_ranked 60 = .ok (.i2l, 1) := dk_133 (dk_at dksX4_ranked_2 12 rfl rfl)
theorem dX4_ranked_61 : decode cX4_ranked 61 = .ok (.lconst 0, 1) := dk_9 (dk_at dksX4_ranked_2 13 rfl rfl)
theorem dX4_ranked_62 : decode cX4_ranked 62 = .ok (.ldc2_w 176, 3) := dk_20 0 176 (dk_at dksX4_ranked_2 14 rfl rfl)
theorem dX4_ranked_65 : decode cX4_ranked 65 = .ok (.invokestatic 178, 3) := dk_184 0 178 (dk_at dksX4_ranked_2 17 rfl rfl)
theorem dX4_ranked_68 : decode cX4_ranked 68 = .ok (.ifCond .ne 6, 3) := dk_154 0 6 (dk_at dksX4_ranked_2 20 rfl rfl)
theorem dX4_ranked_71 : decode cX4_ranked 71 = .ok (.bipush (-2), 2) := dk_16 254 (dk_at dksX4_ranked_3 0 rfl rfl)
theorem dX4_ranked_73 : decode cX4_ranked 73 = .ok (.ireturn, 1) := dk_172 (dk_at dksX4_ranked_3 2 rfl rfl)
theorem dX4_ranked_74 : decode cX4_ranked 74 = .ok (.iconst 0, 1) := dk_3 (dk_at dksX4_ranked_3 3 rfl rfl)
theorem dX4_ranked_75 : decode cX4_ranked 75 = .ok (.istore 8, 2) := dk_54 8 (dk_at dksX4_ranked_3 4 rfl rfl)
theorem dX4_ranked_77 : decode cX4_ranked 77 = .ok (.iconst 0, 1) := dk_3 (dk_at dksX4_ranked_3 6 rfl rfl)
theorem dX4_ranked_78 : decode cX4_ranked 78 = .ok (.istore 9, 2) := dk_54 9 (dk_at dksX4_ranked_3 7 rfl rfl)
theorem dX4_ranked_80 : decode cX4_ranked 80 = .ok (.iconst 0, 1) := dk_3 (dk_at dksX4_ranked_3 9 rfl rfl)
theorem dX4_ranked_81 : decode cX4_ranked 81 = .ok (.istore 10, 2) := dk_54 10 (dk_at dksX4_ranked_3 10 rfl rfl)
theorem dX4_ranked_83 : decode cX4_ranked 83 = .ok (.iload 10, 2) := dk_21 10 (dk_at dksX4_ranked_3 12 rfl rfl)
theorem dX4_ranked_85 : decode cX4_ranked 85 = .ok (.aload_n 0, 1) := dk_42 (dk_at dksX4_ranked_3 14 rfl rfl)
theorem dX4_ranked_86 : decode cX4_ranked 86 = .ok (.getfield 206, 3) := dk_180 0 206 (dk_at dksX4_ranked_3 15 rfl rfl)
theorem dX4_ranked_89 : decode cX4_ranked 89 = .ok (.if_icmp .ge 58, 3) := dk_162 0 58 (dk_at dksX4_ranked_3 18 rfl rfl)
theorem dX4_ranked_92 : decode cX4_ranked 92 = .ok (.iload 8, 2) := dk_21 8 (dk_at dksX4_ranked_3 21 rfl rfl)
theorem dX4_ranked_94 : decode cX4_ranked 94 = .ok (.aload_n 0, 1) := dk_42 (dk_at dksX4_ranked_3 23 rfl rfl)
theorem dX4_ranked_95 : decode cX4_ranked 95 = .ok (.iload 10, 2) := dk_21 10 (dk_at dksX4_ranked_4 0 rfl rfl)
theorem dX4_ranked_97 : decode cX4_ranked 97 = .ok (.iload_n 1, 1) := dk_27 (dk_at dksX4_ranked_4 2 rfl rfl)
theorem dX4_ranked_98 : decode cX4_ranked 98 = .ok (.iload_n 2, 1) := dk_28 (dk_at dksX4_ranked_4 3 rfl rfl)
theorem dX4_ranked_99 : decode cX4_ranked 99 = .ok (.iload_n 3, 1) := dk_29 (dk_at dksX4_ranked_4 4 rfl rfl)
theorem dX4_ranked_100 : decode cX4_ranked 100 = .ok (.iload 5, 2) := dk_21 5 (dk_at dksX4_ranked_4 5 rfl rfl)
theorem dX4_ranked_102 : decode cX4_ranked 102 = .ok (.invokevirtual 419, 3) := dk_182 1 163 (dk_at dksX4_ranked_4 7 rfl rfl)
theorem dX4_ranked_105 : decode cX4_ranked 105 = .ok (.ifCond .eq 7, 3) := dk_153 0 7 (dk_at dksX4_ranked_4 10 rfl rfl)
theorem dX4_ranked_108 : decode cX4_ranked 108 = .ok (.iconst 1, 1) := dk_4 (dk_at dksX4_ranked_4 13 rfl rfl)
theorem dX4_ranked_109 : decode cX4_ranked 109 = .ok (.goto 4, 3) := dk_167 0 4 (dk_at dksX4_ranked_4 14 rfl rfl)
theorem dX4_ranked_112 : decode cX4_ranked 112 = .ok (.iconst 0, 1) := dk_3 (dk_at dksX4_ranked_4 17 rfl rfl)
theorem dX4_ranked_113 : decode cX4_ranked 113 = .ok (.iadd, 1) := dk_96 (dk_at dksX4_ranked_4 18 rfl rfl)
theorem dX4_ranked_114 : decode cX4_ranked 114 = .ok (.istore 8, 2) := dk_54 8 (dk_at dksX4_ranked_4 19 rfl rfl)
theorem dX4_ranked_116 : decode cX4_ranked 116 = .ok (.iload 9, 2) := dk_21 9 (dk_at dksX4_ranked_4 21 rfl rfl)
theorem dX4_ranked_118 : decode cX4_ranked 118 = .ok (.aload_n 0, 1) := dk_42 (dk_at dksX4_ranked_4 23 rfl rfl)
theorem dX4_ranked_119 : decode cX4_ranked 119 = .ok (.iload 10, 2) := dk_21 10 (dk_at dksX4_ranked_5 0 rfl rfl)
theorem dX4_ranked_121 : decode cX4_ranked 121 = .ok (.iload_n 1, 1) := dk_27 (dk_at dksX4_ranked_5 2 rfl rfl)
theorem dX4_ranked_122 : decode cX4_ranked 122 = .ok (.iload_n 2, 1) := dk_28 (dk_at dksX4_ranked_5 3 rfl rfl)
theorem dX4_ranked_123 : decode cX4_ranked 123 = .ok (.iload 4, 2) := dk_21 4 (dk_at dksX4_ranked_5 4 rfl rfl)
theorem dX4_ranked_125 : decode cX4_ranked 125 = .ok (.iload 5, 2) := dk_21 5 (dk_at dksX4_ranked_5 6 rfl rfl)
theorem dX4_ranked_127 : decode cX4_ranked 127 = .ok (.invokevirtual 419, 3) := dk_182 1 163 (dk_at dksX4_ranked_5 8 rfl rfl)
theorem dX4_ranked_130 : decode cX4_ranked 130 = .ok (.ifCond .eq 7, 3) := dk_153 0 7 (dk_at dksX4_ranked_5 11 rfl rfl)
theorem dX4_ranked_133 : decode cX4_ranked 133 = .ok (.iconst 1, 1) := dk_4 (dk_at dksX4_ranked_5 14 rfl rfl)
theorem dX4_ranked_134 : decode cX4_ranked 134 = .ok (.goto 4, 3) := dk_167 0 4 (dk_at dksX4_ranked_5 15 rfl rfl)
theorem dX4_ranked_137 : decode cX4_ranked 137 = .ok (.iconst 0, 1) := dk_3 (dk_at dksX4_ranked_5 18 rfl rfl)
theorem dX4_ranked_138 : decode cX4_ranked 138 = .ok (.iadd, 1) := dk_96 (dk_at dksX4_ranked_5 19 rfl rfl)
theorem dX4_ranked_139 : decode cX4_ranked 139 = .ok (.istore 9, 2) := dk_54 9 (dk_at dksX4_ranked_5 20 rfl rfl)
theorem dX4_ranked_141 : decode cX4_ranked 141 = .ok (.iinc 10 1, 3) := dk_132 10 1 (dk_at dksX4_ranked_6 0 rfl rfl)
theorem dX4_ranked_144 : decode cX4_ranked 144 = .ok (.goto (-61), 3) := dk_167 255 195 (dk_at dksX4_ranked_6 3 rfl rfl)
theorem dX4_ranked_147 : decode cX4_ranked 147 = .ok (.iload 8, 2) := dk_21 8 (dk_at dksX4_ranked_6 6 rfl rfl)
theorem dX4_ranked_149 : decode cX4_ranked 149 = .ok (.ifCond .eq 18, 3) := dk_153 0 18 (dk_at dksX4_ranked_6 8 rfl rfl)
theorem dX4_ranked_152 : decode cX4_ranked 152 = .ok (.iload 9, 2) := dk_21 9 (dk_at dksX4_ranked_6 11 rfl rfl)
theorem dX4_ranked_154 : decode cX4_ranked 154 = .ok (.ifCond .eq 13, 3) := dk_153 0 13 (dk_at dksX4_ranked_6 13 rfl rfl)
theorem dX4_ranked_157 : decode cX4_ranked 157 = .ok (.iload 8, 2) := dk_21 8 (dk_at dksX4_ranked_6 16 rfl rfl)
theorem dX4_ranked_159 : decode cX4_ranked 159 = .ok (.iload 9, 2) := dk_21 9 (dk_at dksX4_ranked_6 18 rfl rfl)
theorem dX4_ranked_161 : decode cX4_ranked 161 = .ok (.iadd, 1) := dk_96 (dk_at dksX4_ranked_6 20 rfl rfl)
theorem dX4_ranked_162 : decode cX4_ranked 162 = .ok (.bipush 20, 2) := dk_16 20 (dk_at dksX4_ranked_6 21 rfl rfl)
theorem dX4_ranked_164 : decode cX4_ranked 164 = .ok (.if_icmp .le 6, 3) := dk_164 0 6 (dk_at dksX4_ranked_7 0 rfl rfl)
theorem dX4_ranked_167 : decode cX4_ranked 167 = .ok (.bipush (-8), 2) := dk_16 248 (dk_at dksX4_ranked_7 3 rfl rfl)
theorem dX4_ranked_169 : decode cX4_ranked 169 = .ok (.ireturn, 1) := dk_172 (dk_at dksX4_ranked_7 5 rfl rfl)
theorem dX4_ranked_170 : decode cX4_ranked 170 = .ok (.iload 7, 2) := dk_21 7 (dk_at dksX4_ranked_7 6 rfl rfl)
theorem dX4_ranked_172 : decode cX4_ranked 172 = .ok (.ifCond .ne 6, 3) := dk_154 0 6 (dk_at dksX4_ranked_7 8 rfl rfl)
theorem dX4_ranked_175 : decode cX4_ranked 175 = .ok (.iload 8, 2) := dk_21 8 (dk_at dksX4_ranked_7 11 rfl rfl)
theorem dX4_ranked_177 : decode cX4_ranked 177 = .ok (.ireturn, 1) := dk_172 (dk_at dksX4_ranked_7 13 rfl rfl)
theorem dX4_ranked_178 : decode cX4_ranked 178 = .ok (.iload 7, 2) := dk_21 7 (dk_at dksX4_ranked_7 14 rfl rfl)
theorem dX4_ranked_180 : decode cX4_ranked 180 = .ok (.iconst 1, 1) := dk_4 (dk_at dksX4_ranked_7 16 rfl rfl)
theorem dX4_ranked_181 : decode cX4_ranked 181 = .ok (.if_icmp .ne 6, 3) := dk_160 0 6 (dk_at dksX4_ranked_7 17 rfl rfl)
theorem dX4_ranked_184 : decode cX4_ranked 184 = .ok (.iload 9, 2) := dk_21 9 (dk_at dksX4_ranked_7 20 rfl rfl)
theorem dX4_ranked_186 : decode cX4_ranked 186 = .ok (.ireturn, 1) := dk_172 (dk_at dksX4_ranked_7 22 rfl rfl)
theorem dX4_ranked_187 : decode cX4_ranked 187 = .ok (.iconst 0, 1) := dk_3 (dk_at dksX4_ranked_7 23 rfl rfl)
theorem dX4_ranked_188 : decode cX4_ranked 188 = .ok (.istore 10, 2) := dk_54 10 (dk_at dksX4_ranked_8 0 rfl rfl)
theorem dX4_ranked_190 : decode cX4_ranked 190 = .ok (.iconst 0, 1) := dk_3 (dk_at dksX4_ranked_8 2 rfl rfl)
theorem dX4_ranked_191 : decode cX4_ranked 191 = .ok (.istore 11, 2) := dk_54 11 (dk_at dksX4_ranked_8 3 rfl rfl)
theorem dX4_ranked_193 : decode cX4_ranked 193 = .ok (.iload 11, 2) := dk_21 11 (dk_at dksX4_ranked_8 5 rfl rfl)
theorem dX4_ranked_195 : decode cX4_ranked 195 = .ok (.aload_n 0, 1) := dk_42 (dk_at dksX4_ranked_8 7 rfl rfl)
theorem dX4_ranked_196 : decode cX4_ranked 196 = .ok (.getfield 206, 3) := dk_180 0 206 (dk_at dksX4_ranked_8 8 rfl rfl)
theorem dX4_ranked_199 : decode cX4_ranked 199 = .ok (.if_icmp .ge 46, 3) := dk_162 0 46 (dk_at dksX4_ranked_8 11 rfl rfl)
theorem dX4_ranked_202 : decode cX4_ranked 202 = .ok (.aload_n 0, 1) := dk_42 (dk_at dksX4_ranked_8 14 rfl rfl)
theorem dX4_ranked_203 : decode cX4_ranked 203 = .ok (.iload 11, 2) := dk_21 11 (dk_at dksX4_ranked_8 15 rfl rfl)
theorem dX4_ranked_205 : decode cX4_ranked 205 = .ok (.iload_n 1, 1) := dk_27 (dk_at dksX4_ranked_8 17 rfl rfl)
theorem dX4_ranked_206 : decode cX4_ranked 206 = .ok (.iload_n 2, 1) := dk_28 (dk_at dksX4_ranked_8 18 rfl rfl)
theorem dX4_ranked_207 : decode cX4_ranked 207 = .ok (.iload_n 3, 1) := dk_29 (dk_at dksX4_ranked_8 19 rfl rfl)
theorem dX4_ranked_208 : decode cX4_ranked 208 = .ok (.iload 5, 2) := dk_21 5 (dk_at dksX4_ranked_8 20 rfl rfl)
theorem dX4_ranked_210 : decode cX4_ranked 210 = .ok (.invokevirtual 419, 3) := dk_182 1 163 (dk_at dksX4_ranked_9 0 rfl rfl)
theorem dX4_ranked_213 : decode cX4_ranked 213 = .ok (.ifCond .eq 26, 3) := dk_153 0 26 (dk_at dksX4_ranked_9 3 rfl rfl)
theorem dX4_ranked_216 : decode cX4_ranked 216 = .ok (.aload_n 0, 1) := dk_42 (dk_at dksX4_ranked_9 6 rfl rfl)
theorem dX4_ranked_217 : decode cX4_ranked 217 = .ok (.getfield 164, 3) := dk_180 0 164 (dk_at dksX4_ranked_9 7 rfl rfl)
theorem dX4_ranked_220 : decode cX4_ranked 220 = .ok (.iload 10, 2) := dk_21 10 (dk_at dksX4_ranked_9 10 rfl rfl)
theorem dX4_ranked_222 : decode cX4_ranked 222 = .ok (.iinc 10 1, 3) := dk_132 10 1 (dk_at dksX4_ranked_9 12 rfl rfl)
theorem dX4_ranked_225 : decode cX4_ranked 225 = .ok (.aload_n 0, 1) := dk_42 (dk_at dksX4_ranked_9 15 rfl rfl)
theorem dX4_ranked_226 : decode cX4_ranked 226 = .ok (.getfield 70, 3) := dk_180 0 70 (dk_at dksX4_ranked_9 16 rfl rfl)
theorem dX4_ranked_229 : decode cX4_ranked 229 = .ok (.bipush 6, 2) := dk_16 6 (dk_at dksX4_ranked_9 19 rfl rfl)
theorem dX4_ranked_231 : decode cX4_ranked 231 = .ok (.iload 11, 2) := dk_21 11 (dk_at dksX4_ranked_9 21 rfl rfl)
theorem dX4_ranked_233 : decode cX4_ranked 233 = .ok (.imul, 1) := dk_104 (dk_at dksX4_ranked_9 23 rfl rfl)
theorem dX4_ranked_234 : decode cX4_ranked 234 = .ok (.iload 6, 2) := dk_21 6 (dk_at dksX4_ranked_10 0 rfl rfl)
theorem dX4_ranked_236 : decode cX4_ranked 236 = .ok (.iadd, 1) := dk_96 (dk_at dksX4_ranked_10 2 rfl rfl)
theorem dX4_ranked_237 : decode cX4_ranked 237 = .ok (.iaload, 1) := dk_46 (dk_at dksX4_ranked_10 3 rfl rfl)
theorem dX4_ranked_238 : decode cX4_ranked 238 = .ok (.iastore, 1) := dk_79 (dk_at dksX4_ranked_10 4 rfl rfl)
theorem dX4_ranked_239 : decode cX4_ranked 239 = .ok (.iinc 11 1, 3) := dk_132 11 1 (dk_at dksX4_ranked_10 5 rfl rfl)
theorem dX4_ranked_242 : decode cX4_ranked 242 = .ok (.goto (-49), 3) := dk_167 255 207 (dk_at dksX4_ranked_10 8 rfl rfl)
theorem dX4_ranked_245 : decode cX4_ranked 245 = .ok (.iconst 0, 1) := dk_3 (dk_at dksX4_ranked_10 11 rfl rfl)
theorem dX4_ranked_246 : decode cX4_ranked 246 = .ok (.istore 11, 2) := dk_54 11 (dk_at dksX4_ranked_10 12 rfl rfl)
theorem dX4_ranked_248 : decode cX4_ranked 248 = .ok (.iload 11, 2) := dk_21 11 (dk_at dksX4_ranked_10 14 rfl rfl)
theorem dX4_ranked_250 : decode cX4_ranked 250 = .ok (.aload_n 0, 1) := dk_42 (dk_at dksX4_ranked_10 16 rfl rfl)
theorem dX4_ranked_251 : decode cX4_ranked 251 = .ok (.getfield 206, 3) := dk_180 0 206 (dk_at dksX4_ranked_10 17 rfl rfl)
theorem dX4_ranked_254 : decode cX4_ranked 254 = .ok (.if_icmp .ge 47, 3) := dk_162 0 47 (dk_at dksX4_ranked_10 20 rfl rfl)
theorem dX4_ranked_257 : decode cX4_ranked 257 = .ok (.aload_n 0, 1) := dk_42 (dk_at dksX4_ranked_10 23 rfl rfl)
theorem dX4_ranked_258 : decode cX4_ranked 258 = .ok (.iload 11, 2) := dk_21 11 (dk_at dksX4_ranked_11 0 rfl rfl)
theorem dX4_ranked_260 : decode cX4_ranked 260 = .ok (.iload_n 1, 1) := dk_27 (dk_at dksX4_ranked_11 2 rfl rfl)
theorem dX4_ranked_261 : decode cX4_ranked 261 = .ok (.iload_n 2, 1) := dk_28 (dk_at dksX4_ranked_11 3 rfl rfl)
theorem dX4_ranked_262 : decode cX4_ranked 262 = .ok (.iload 4, 2) := dk_21 4 (dk_at dksX4_ranked_11 4 rfl rfl)
theorem dX4_ranked_264 : decode cX4_ranked 264 = .ok (.iload 5, 2) := dk_21 5 (dk_at dksX4_ranked_11 6 rfl rfl)
theorem dX4_ranked_266 : decode cX4_ranked 266 = .ok (.invokevirtual 419, 3) := dk_182 1 163 (dk_at dksX4_ranked_11 8 rfl rfl)
theorem dX4_ranked_269 : decode cX4_ranked 269 = .ok (.ifCond .eq 26, 3) := dk_153 0 26 (dk_at dksX4_ranked_11 11 rfl rfl)
theorem dX4_ranked_272 : decode cX4_ranked 272 = .ok (.aload_n 0, 1) := dk_42 (dk_at dksX4_ranked_11 14 rfl rfl)
theorem dX4_ranked_273 : decode cX4_ranked 273 = .ok (.getfield 164, 3) := dk_180 0 164 (dk_at dksX4_ranked_11 15 rfl rfl)
theorem dX4_ranked_276 : decode cX4_ranked 276 = .ok (.iload 10, 2) := dk_21 10 (dk_at dksX4_ranked_11 18 rfl rfl)
theorem dX4_ranked_278 : decode cX4_ranked 278 = .ok (.iinc 10 1, 3) := dk_132 10 1 (dk_at dksX4_ranked_11 20 rfl rfl)
theorem dX4_ranked_281 : decode cX4_ranked 281 = .ok (.aload_n 0, 1) := dk_42 (dk_at dksX4_ranked_11 23 rfl rfl)
theorem dX4_ranked_282 : decode cX4_ranked 282 = .ok (.getfield 70, 3) := dk_180 0 70 (dk_at dksX4_ranked_12 0 rfl rfl)
theorem dX4_ranked_285 : decode cX4_ranked 285 = .ok (.bipush 6, 2) := dk_16 6 (dk_at dksX4_ranked_12 3 rfl rfl)
theorem dX4_ranked_287 : decode cX4_ranked 287 = .ok (.iload 11, 2) := dk_21 11 (dk_at dksX4_ranked_12 5 rfl rfl)
theorem dX4_ranked_289 : decode cX4_ranked 289 = .ok (.imul, 1) := dk_104 (dk_at dksX4_ranked_12 7 rfl rfl)
theorem dX4_ranked_290 : decode cX4_ranked 290 = .ok (.iload 6, 2) := dk_21 6 (dk_at dksX4_ranked_12 8 rfl rfl)
theorem dX4_ranked_292 : decode cX4_ranked 292 = .ok (.iadd, 1) := dk_96 (dk_at dksX4_ranked_12 10 rfl rfl)
theorem dX4_ranked_293 : decode cX4_ranked 293 = .ok (.iaload, 1) := dk_46 (dk_at dksX4_ranked_12 11 rfl rfl)
theorem dX4_ranked_294 : decode cX4_ranked 294 = .ok (.iastore, 1) := dk_79 (dk_at dksX4_ranked_12 12 rfl rfl)
theorem dX4_ranked_295 : decode cX4_ranked 295 = .ok (.iinc 11 1, 3) := dk_132 11 1 (dk_at dksX4_ranked_12 13 rfl rfl)
theorem dX4_ranked_298 : decode cX4_ranked 298 = .ok (.goto (-50), 3) := dk_167 255 206 (dk_at dksX4_ranked_12 16 rfl rfl)
theorem dX4_ranked_301 : decode cX4_ranked 301 = .ok (.iconst 0, 1) := dk_3 (dk_at dksX4_ranked_12 19 rfl rfl)
theorem dX4_ranked_302 : decode cX4_ranked 302 = .ok (.istore 11, 2) := dk_54 11 (dk_at dksX4_ranked_12 20 rfl rfl)
theorem dX4_ranked_304 : decode cX4_ranked 304 = .ok (.iconst 0, 1) := dk_3 (dk_at dksX4_ranked_12 22 rfl rfl)
theorem dX4_ranked_305 : decode cX4_ranked 305 = .ok (.istore 12, 2) := dk_54 12 (dk_at dksX4_ranked_13 0 rfl rfl)
theorem dX4_ranked_307 : decode cX4_ranked 307 = .ok (.iload 12, 2) := dk_21 12 (dk_at dksX4_ranked_13 2 rfl rfl)
theorem dX4_ranked_309 : decode cX4_ranked 309 = .ok (.iload 8, 2) := dk_21 8 (dk_at dksX4_ranked_13 4 rfl rfl)
theorem dX4_ranked_311 : decode cX4_ranked 311 = .ok (.if_icmp .ge 74, 3) := dk_162 0 74 (dk_at dksX4_ranked_13 6 rfl rfl)
theorem dX4_ranked_314 : decode cX4_ranked 314 = .ok (.iload 8, 2) := dk_21 8 (dk_at dksX4_ranked_13 9 rfl rfl)
theorem dX4_ranked_316 : decode cX4_ranked 316 = .ok (.istore 13, 2) := dk_54 13 (dk_at dksX4_ranked_13 11 rfl rfl)
theorem dX4_ranked_318 : decode cX4_ranked 318 = .ok (.iload 13, 2) := dk_21 13 (dk_at dksX4_ranked_13 13 rfl rfl)
theorem dX4_ranked_320 : decode cX4_ranked 320 = .ok (.iload 10, 2) := dk_21 10 (dk_at dksX4_ranked_13 15 rfl rfl)
theorem dX4_ranked_322 : decode cX4_ranked 322 = .ok (.if_icmp .ge 57, 3) := dk_162 0 57 (dk_at dksX4_ranked_13 17 rfl rfl)
theorem dX4_ranked_325 : decode cX4_ranked 325 = .ok (.iload 11, 2) := dk_21 11 (dk_at dksX4_ranked_13 20 rfl rfl)
theorem dX4_ranked_327 : decode cX4_ranked 327 = .ok (.aload_n 0, 1) := dk_42 (dk_at dksX4_ranked_13 22 rfl rfl)
theorem dX4_ranked_328 : decode cX4_ranked 328 = .ok (.getfield 164, 3) := dk_180 0 164 (dk_at dksX4_ranked_14 0 rfl rfl)
theorem dX4_ranked_331 : decode cX4_ranked 331 = .ok (.iload 12, 2) := dk_21 12 (dk_at dksX4_ranked_14 3 rfl rfl)
theorem dX4_ranked_333 : decode cX4_ranked 333 = .ok (.iaload, 1) := dk_46 (dk_at dksX4_ranked_14 5 rfl rfl)
theorem dX4_ranked_334 : decode cX4_ranked 334 = .ok (.aload_n 0, 1) := dk_42 (dk_at dksX4_ranked_14 6 rfl rfl)
theorem dX4_ranked_335 : decode cX4_ranked 335 = .ok (.getfield 164, 3) := dk_180 0 164 (dk_at dksX4_ranked_14 7 rfl rfl)
theorem dX4_ranked_338 : decode cX4_ranked 338 = .ok (.iload 13, 2) := dk_21 13 (dk_at dksX4_ranked_14 10 rfl rfl)
theorem dX4_ranked_340 : decode cX4_ranked 340 = .ok (.iaload, 1) := dk_46 (dk_at dksX4_ranked_14 12 rfl rfl)
theorem dX4_ranked_341 : decode cX4_ranked 341 = .ok (.if_icmp .le 7, 3) := dk_164 0 7 (dk_at dksX4_ranked_14 13 rfl rfl)
theorem dX4_ranked_344 : decode cX4_ranked 344 = .ok (.iconst 2, 1) := dk_5 (dk_at dksX4_ranked_14 16 rfl rfl)
theorem dX4_ranked_345 : decode cX4_ranked 345 = .ok (.goto 25, 3) := dk_167 0 25 (dk_at dksX4_ranked_14 17 rfl rfl)
theorem dX4_ranked_348 : decode cX4_ranked 348 = .ok (.aload_n 0, 1) := dk_42 (dk_at dksX4_ranked_14 20 rfl rfl)
theorem dX4_ranked_349 : decode cX4_ranked 349 = .ok (.getfield 164, 3) := dk_180 0 164 (dk_at dksX4_ranked_14 21 rfl rfl)
theorem dX4_ranked_352 : decode cX4_ranked 352 = .ok (.iload 12, 2) := dk_21 12 (dk_at dksX4_ranked_15 0 rfl rfl)
theorem dX4_ranked_354 : decode cX4_ranked 354 = .ok (.iaload, 1) := dk_46 (dk_at dksX4_ranked_15 2 rfl rfl)
theorem dX4_ranked_355 : decode cX4_ranked 355 = .ok (.aload_n 0, 1) := dk_42 (dk_at dksX4_ranked_15 3 rfl rfl)
theorem dX4_ranked_356 : decode cX4_ranked 356 = .ok (.getfield 164, 3) := dk_180 0 164 (dk_at dksX4_ranked_15 4 rfl rfl)
theorem dX4_ranked_359 : decode cX4_ranked 359 = .ok (.iload 13, 2) := dk_21 13 (dk_at dksX4_ranked_15 7 rfl rfl)
theorem dX4_ranked_361 : decode cX4_ranked 361 = .ok (.iaload, 1) := dk_46 (dk_at dksX4_ranked_15 9 rfl rfl)
theorem dX4_ranked_362 : decode cX4_ranked 362 = .ok (.if_icmp .ne 7, 3) := dk_160 0 7 (dk_at dksX4_ranked_15 10 rfl rfl)
theorem dX4_ranked_365 : decode cX4_ranked 365 = .ok (.iconst 1, 1) := dk_4 (dk_at dksX4_ranked_15 13 rfl rfl)
theorem dX4_ranked_366 : decode cX4_ranked 366 = .ok (.goto 4, 3) := dk_167 0 4 (dk_at dksX4_ranked_15 14 rfl rfl)
theorem dX4_ranked_369 : decode cX4_ranked 369 = .ok (.iconst 0, 1) := dk_3 (dk_at dksX4_ranked_15 17 rfl rfl)
theorem dX4_ranked_370 : decode cX4_ranked 370 = .ok (.iadd, 1) := dk_96 (dk_at dksX4_ranked_15 18 rfl rfl)
theorem dX4_ranked_371 : decode cX4_ranked 371 = .ok (.istore 11, 2) := dk_54 11 (dk_at dksX4_ranked_15 19 rfl rfl)
theorem dX4_ranked_373 : decode cX4_ranked 373 = .ok (.iinc 13 1, 3) := dk_132 13 1 (dk_at dksX4_ranked_15 21 rfl rfl)
theorem dX4_ranked_376 : decode cX4_ranked 376 = .ok (.goto (-58), 3) := dk_167 255 198 (dk_at dksX4_ranked_16 0 rfl rfl)
theorem dX4_ranked_379 : decode cX4_ranked 379 = .ok (.iinc 12 1, 3) := dk_132 12 1 (dk_at dksX4_ranked_16 3 rfl rfl)
theorem dX4_ranked_382 : decode cX4_ranked 382 = .ok (.goto (-75), 3) := dk_167 255 181 (dk_at dksX4_ranked_16 6 rfl rfl)
theorem dX4_ranked_385 : decode cX4_ranked 385 = .ok (.iload 7, 2) := dk_21 7 (dk_at dksX4_ranked_16 9 rfl rfl)
theorem dX4_ranked_387 : decode cX4_ranked 387 = .ok (.iconst 2, 1) := dk_5 (dk_at dksX4_ranked_16 11 rfl rfl)
theorem dX4_ranked_388 : decode cX4_ranked 388 = .ok (.if_icmp .ne 6, 3) := dk_160 0 6 (dk_at dksX4_ranked_16 12 rfl rfl)
theorem dX4_ranked_391 : decode cX4_ranked 391 = .ok (.iload 11, 2) := dk_21 11 (dk_at dksX4_ranked_16 15 rfl rfl)
theorem dX4_ranked_393 : decode cX4_ranked 393 = .ok (.ireturn, 1) := dk_172 (dk_at dksX4_ranked_16 17 rfl rfl)
theorem dX4_ranked_394 : decode cX4_ranked 394 = .ok (.iconst 0, 1) := dk_3 (dk_at dksX4_ranked_16 18 rfl rfl)
theorem dX4_ranked_395 : decode cX4_ranked 395 = .ok (.istore 12, 2) := dk_54 12 (dk_at dksX4_ranked_16 19 rfl rfl)
theorem dX4_ranked_397 : decode cX4_ranked 397 = .ok (.iload 12, 2) := dk_21 12 (dk_at dksX4_ranked_16 21 rfl rfl)
theorem dX4_ranked_399 : decode cX4_ranked 399 = .ok (.iload 10, 2) := dk_21 10 (dk_at dksX4_ranked_17 0 rfl rfl)
theorem dX4_ranked_401 : decode cX4_ranked 401 = .ok (.if_icmp .ge 93, 3) := dk_162 0 93 (dk_at dksX4_ranked_17 2 rfl rfl)
theorem dX4_ranked_404 : decode cX4_ranked 404 = .ok (.aload_n 0, 1) := dk_42 (dk_at dksX4_ranked_17 5 rfl rfl)
theorem dX4_ranked_405 : decode cX4_ranked 405 = .ok (.getfield 167, 3) := dk_180 0 167 (dk_at dksX4_ranked_17 6 rfl rfl)
theorem dX4_ranked_408 : decode cX4_ranked 408 = .ok (.iload 12, 2) := dk_21 12 (dk_at dksX4_ranked_17 9 rfl rfl)
theorem dX4_ranked_410 : decode cX4_ranked 410 = .ok (.iconst 0, 1) := dk_3 (dk_at dksX4_ranked_17 11 rfl rfl)
theorem dX4_ranked_411 : decode cX4_ranked 411 = .ok (.iastore, 1) := dk_79 (dk_at dksX4_ranked_17 12 rfl rfl)
theorem dX4_ranked_412 : decode cX4_ranked 412 = .ok (.iconst 0, 1) := dk_3 (dk_at dksX4_ranked_17 13 rfl rfl)
theorem dX4_ranked_413 : decode cX4_ranked 413 = .ok (.istore 13, 2) := dk_54 13 (dk_at dksX4_ranked_17 14 rfl rfl)
theorem dX4_ranked_415 : decode cX4_ranked 415 = .ok (.iload 13, 2) := dk_21 13 (dk_at dksX4_ranked_17 16 rfl rfl)
theorem dX4_ranked_417 : decode cX4_ranked 417 = .ok (.iload 10, 2) := dk_21 10 (dk_at dksX4_ranked_17 18 rfl rfl)
theorem dX4_ranked_419 : decode cX4_ranked 419 = .ok (.if_icmp .ge 69, 3) := dk_162 0 69 (dk_at dksX4_ranked_17 20 rfl rfl)
theorem dX4_ranked_422 : decode cX4_ranked 422 = .ok (.iload 13, 2) := dk_21 13 (dk_at dksX4_ranked_18 0 rfl rfl)
theorem dX4_ranked_424 : decode cX4_ranked 424 = .ok (.iload 12, 2) := dk_21 12 (dk_at dksX4_ranked_18 2 rfl rfl)
theorem dX4_ranked_426 : decode cX4_ranked 426 = .ok (.if_icmp .eq 56, 3) := dk_159 0 56 (dk_at dksX4_ranked_18 4 rfl rfl)
theorem dX4_ranked_429 : decode cX4_ranked 429 = .ok (.aload_n 0, 1) := dk_42 (dk_at dksX4_ranked_18 7 rfl rfl)
theorem dX4_ranked_430 : decode cX4_ranked 430 = .ok (.getfield 167, 3) := dk_180 0 167 (dk_at dksX4_ranked_18 8 rfl rfl)
theorem dX4_ranked_433 : decode cX4_ranked 433 = .ok (.iload 12, 2) := dk_21 12 (dk_at dksX4_ranked_18 11 rfl rfl)
theorem dX4_ranked_435 : decode cX4_ranked 435 = .ok (.dup2, 1) := dk_92 (dk_at dksX4_ranked_18 13 rfl rfl)
theorem dX4_ranked_436 : decode cX4_ranked 436 = .ok (.iaload, 1) := dk_46 (dk_at dksX4_ranked_18 14 rfl rfl)
theorem dX4_ranked_437 : decode cX4_ranked 437 = .ok (.aload_n 0, 1) := dk_42 (dk_at dksX4_ranked_18 15 rfl rfl)
theorem dX4_ranked_438 : decode cX4_ranked 438 = .ok (.getfield 164, 3) := dk_180 0 164 (dk_at dksX4_ranked_18 16 rfl rfl)
theorem dX4_ranked_441 : decode cX4_ranked 441 = .ok (.iload 12, 2) := dk_21 12 (dk_at dksX4_ranked_18 19 rfl rfl)
theorem dX4_ranked_443 : decode cX4_ranked 443 = .ok (.iaload, 1) := dk_46 (dk_at dksX4_ranked_18 21 rfl rfl)
theorem dX4_ranked_444 : decode cX4_ranked 444 = .ok (.aload_n 0, 1) := dk_42 (dk_at dksX4_ranked_18 22 rfl rfl)
theorem dX4_ranked_445 : decode cX4_ranked 445 = .ok (.getfield 164, 3) := dk_180 0 164 (dk_at dksX4_ranked_19 0 rfl rfl)
theorem dX4_ranked_448 : decode cX4_ranked 448 = .ok (.iload 13, 2) := dk_21 13 (dk_at dksX4_ranked_19 3 rfl rfl)
theorem dX4_ranked_450 : decode cX4_ranked 450 = .ok (.iaload, 1) := dk_46 (dk_at dksX4_ranked_19 5 rfl rfl)
theorem dX4_ranked_451 : decode cX4_ranked 451 = .ok (.if_icmp .le 7, 3) := dk_164 0 7 (dk_at dksX4_ranked_19 6 rfl rfl)
theorem dX4_ranked_454 : decode cX4_ranked 454 = .ok (.iconst 2, 1) := dk_5 (dk_at dksX4_ranked_19 9 rfl rfl)
theorem dX4_ranked_455 : decode cX4_ranked 455 = .ok (.goto 25, 3) := dk_167 0 25 (dk_at dksX4_ranked_19 10 rfl rfl)
theorem dX4_ranked_458 : decode cX4_ranked 458 = .ok (.aload_n 0, 1) := dk_42 (dk_at dksX4_ranked_19 13 rfl rfl)
theorem dX4_ranked_459 : decode cX4_ranked 459 = .ok (.getfield 164, 3) := dk_180 0 164 (dk_at dksX4_ranked_19 14 rfl rfl)
theorem dX4_ranked_462 : decode cX4_ranked 462 = .ok (.iload 12, 2) := dk_21 12 (dk_at dksX4_ranked_19 17 rfl rfl)
theorem dX4_ranked_464 : decode cX4_ranked 464 = .ok (.iaload, 1) := dk_46 (dk_at dksX4_ranked_19 19 rfl rfl)
theorem dX4_ranked_465 : decode cX4_ranked 465 = .ok (.aload_n 0, 1) := dk_42 (dk_at dksX4_ranked_19 20 rfl rfl)
theorem dX4_ranked_466 : decode cX4_ranked 466 = .ok (.getfield 164, 3) := dk_180 0 164 (dk_at dksX4_ranked_19 21 rfl rfl)
theorem dX4_ranked_469 : decode cX4_ranked 469 = .ok (.iload 13, 2) := dk_21 13 (dk_at dksX4_ranked_20 0 rfl rfl)
theorem dX4_ranked_471 : decode cX4_ranked 471 = .ok (.iaload, 1) := dk_46 (dk_at dksX4_ranked_20 2 rfl rfl)
theorem dX4_ranked_472 : decode cX4_ranked 472 = .ok (.if_icmp .ne 7, 3) := dk_160 0 7 (dk_at dksX4_ranked_20 3 rfl rfl)
theorem dX4_ranked_475 : decode cX4_ranked 475 = .ok (.iconst 1, 1) := dk_4 (dk_at dksX4_ranked_20 6 rfl rfl)
theorem dX4_ranked_476 : decode cX4_ranked 476 = .ok (.goto 4, 3) := dk_167 0 4 (dk_at dksX4_ranked_20 7 rfl rfl)
theorem dX4_ranked_479 : decode cX4_ranked 479 = .ok (.iconst 0, 1) := dk_3 (dk_at dksX4_ranked_20 10 rfl rfl)
theorem dX4_ranked_480 : decode cX4_ranked 480 = .ok (.iadd, 1) := dk_96 (dk_at dksX4_ranked_20 11 rfl rfl)
theorem dX4_ranked_481 : decode cX4_ranked 481 = .ok (.iastore, 1) := dk_79 (dk_at dksX4_ranked_20 12 rfl rfl)
theorem dX4_ranked_482 : decode cX4_ranked 482 = .ok (.iinc 13 1, 3) := dk_132 13 1 (dk_at dksX4_ranked_20 13 rfl rfl)
theorem dX4_ranked_485 : decode cX4_ranked 485 = .ok (.goto (-70), 3) := dk_167 255 186 (dk_at dksX4_ranked_20 16 rfl rfl)
theorem dX4_ranked_488 : decode cX4_ranked 488 = .ok (.iinc 12 1, 3) := dk_132 12 1 (dk_at dksX4_ranked_20 19 rfl rfl)
theorem dX4_ranked_491 : decode cX4_ranked 491 = .ok (.goto (-94), 3) := dk_167 255 162 (dk_at dksX4_ranked_21 0 rfl rfl)
theorem dX4_ranked_494 : decode cX4_ranked 494 = .ok (.iconst 0, 1) := dk_3 (dk_at dksX4_ranked_21 3 rfl rfl)
theorem dX4_ranked_495 : decode cX4_ranked 495 = .ok (.istore 12, 2) := dk_54 12 (dk_at dksX4_ranked_21 4 rfl rfl)
theorem dX4_ranked_497 : decode cX4_ranked 497 = .ok (.iload 12, 2) := dk_21 12 (dk_at dksX4_ranked_21 6 rfl rfl)
theorem dX4_ranked_499 : decode cX4_ranked 499 = .ok (.aload_n 0, 1) := dk_42 (dk_at dksX4_ranked_21 8 rfl rfl)
theorem dX4_ranked_500 : decode cX4_ranked 500 = .ok (.getfield 170, 3) := dk_180 0 170 (dk_at dksX4_ranked_21 9 rfl rfl)
theorem dX4_ranked_503 : decode cX4_ranked 503 = .ok (.arraylength, 1) := dk_190 (dk_at dksX4_ranked_21 12 rfl rfl)
theorem dX4_ranked_504 : decode cX4_ranked 504 = .ok (.if_icmp .ge 17, 3) := dk_162 0 17 (dk_at dksX4_ranked_21 13 rfl rfl)
theorem dX4_ranked_507 : decode cX4_ranked 507 = .ok (.aload_n 0, 1) := dk_42 (dk_at dksX4_ranked_21 16 rfl rfl)
theorem dX4_ranked_508 : decode cX4_ranked 508 = .ok (.getfield 170, 3) := dk_180 0 170 (dk_at dksX4_ranked_21 17 rfl rfl)
theorem dX4_ranked_511 : decode cX4_ranked 511 = .ok (.iload 12, 2) := dk_21 12 (dk_at dksX4_ranked_21 20 rfl rfl)
theorem dX4_ranked_513 : decode cX4_ranked 513 = .ok (.lconst 0, 1) := dk_9 (dk_at dksX4_ranked_21 22 rfl rfl)
theorem dX4_ranked_514 : decode cX4_ranked 514 = .ok (.lastore, 1) := dk_80 (dk_at dksX4_ranked_21 23 rfl rfl)
theorem dX4_ranked_515 : decode cX4_ranked 515 = .ok (.iinc 12 1, 3) := dk_132 12 1 (dk_at dksX4_ranked_22 0 rfl rfl)
theorem dX4_ranked_518 : decode cX4_ranked 518 = .ok (.goto (-21), 3) := dk_167 255 235 (dk_at dksX4_ranked_22 3 rfl rfl)
theorem dX4_ranked_521 : decode cX4_ranked 521 = .ok (.aload_n 0, 1) := dk_42 (dk_at dksX4_ranked_22 6 rfl rfl)
theorem dX4_ranked_522 : decode cX4_ranked 522 = .ok (.getfield 170, 3) := dk_180 0 170 (dk_at dksX4_ranked_22 7 rfl rfl)
theorem dX4_ranked_525 : decode cX4_ranked 525 = .ok (.iconst 0, 1) := dk_3 (dk_at dksX4_ranked_22 10 rfl rfl)
theorem dX4_ranked_526 : decode cX4_ranked 526 = .ok (.lconst 1, 1) := dk_10 (dk_at dksX4_ranked_22 11 rfl rfl)
theorem dX4_ranked_527 : decode cX4_ranked 527 = .ok (.lastore, 1) := dk_80 (dk_at dksX4_ranked_22 12 rfl rfl)
theorem dX4_ranked_528 : decode cX4_ranked 528 = .ok (.iconst 0, 1) := dk_3 (dk_at dksX4_ranked_22 13 rfl rfl)
theorem dX4_ranked_529 : decode cX4_ranked 529 = .ok (.istore 12, 2) := dk_54 12 (dk_at dksX4_ranked_22 14 rfl rfl)
theorem dX4_ranked_531 : decode cX4_ranked 531 = .ok (.iload 12, 2) := dk_21 12 (dk_at dksX4_ranked_22 16 rfl rfl)
theorem dX4_ranked_533 : decode cX4_ranked 533 = .ok (.iload 10, 2) := dk_21 10 (dk_at dksX4_ranked_22 18 rfl rfl)
theorem dX4_ranked_535 : decode cX4_ranked 535 = .ok (.if_icmp .ge 91, 3) := dk_162 0 91 (dk_at dksX4_ranked_22 20 rfl rfl)
theorem dX4_ranked_538 : decode cX4_ranked 538 = .ok (.iload 8, 2) := dk_21 8 (dk_at dksX4_ranked_23 0 rfl rfl)
theorem dX4_ranked_540 : decode cX4_ranked 540 = .ok (.iconst 1, 1) := dk_4 (dk_at dksX4_ranked_23 2 rfl rfl)
theorem dX4_ranked_541 : decode cX4_ranked 541 = .ok (.isub, 1) := dk_100 (dk_at dksX4_ranked_23 3 rfl rfl)
theorem dX4_ranked_542 : decode cX4_ranked 542 = .ok (.istore 13, 2) := dk_54 13 (dk_at dksX4_ranked_23 4 rfl rfl)
theorem dX4_ranked_544 : decode cX4_ranked 544 = .ok (.iload 13, 2) := dk_21 13 (dk_at dksX4_ranked_23 6 rfl rfl)
theorem dX4_ranked_546 : decode cX4_ranked 546 = .ok (.ifCond .lt 74, 3) := dk_155 0 74 (dk_at dksX4_ranked_23 8 rfl rfl)
theorem dX4_ranked_549 : decode cX4_ranked 549 = .ok (.sipush 999, 3) := dk_17 3 231 (dk_at dksX4_ranked_23 11 rfl rfl)
theorem dX4_ranked_552 : decode cX4_ranked 552 = .ok (.aload_n 0, 1) := dk_42 (dk_at dksX4_ranked_23 14 rfl rfl)
theorem dX4_ranked_553 : decode cX4_ranked 553 = .ok (.getfield 167, 3) := dk_180 0 167 (dk_at dksX4_ranked_23 15 rfl rfl)
theorem dX4_ranked_556 : decode cX4_ranked 556 = .ok (.iload 12, 2) := dk_21 12 (dk_at dksX4_ranked_23 18 rfl rfl)
theorem dX4_ranked_558 : decode cX4_ranked 558 = .ok (.iaload, 1) := dk_46 (dk_at dksX4_ranked_23 20 rfl rfl)
theorem dX4_ranked_559 : decode cX4_ranked 559 = .ok (.isub, 1) := dk_100 (dk_at dksX4_ranked_23 21 rfl rfl)
theorem dX4_ranked_560 : decode cX4_ranked 560 = .ok (.istore 14, 2) := dk_54 14 (dk_at dksX4_ranked_23 22 rfl rfl)
theorem dX4_ranked_562 : decode cX4_ranked 562 = .ok (.iload 14, 2) := dk_21 14 (dk_at dksX4_ranked_24 0 rfl rfl)
theorem dX4_ranked_564 : decode cX4_ranked 564 = .ok (.ifCond .lt 50, 3) := dk_155 0 50 (dk_at dksX4_ranked_24 2 rfl rfl)
theorem dX4_ranked_567 : decode cX4_ranked 567 = .ok (.aload_n 0, 1) := dk_42 (dk_at dksX4_ranked_24 5 rfl rfl)
theorem dX4_ranked_568 : decode cX4_ranked 568 = .ok (.getfield 170, 3) := dk_180 0 170 (dk_at dksX4_ranked_24 6 rfl rfl)
theorem dX4_ranked_571 : decode cX4_ranked 571 = .ok (.sipush 1000, 3) := dk_17 3 232 (dk_at dksX4_ranked_24 9 rfl rfl)
theorem dX4_ranked_574 : decode cX4_ranked 574 = .ok (.iload 13, 2) := dk_21 13 (dk_at dksX4_ranked_24 12 rfl rfl)
theorem dX4_ranked_576 : decode cX4_ranked 576 = .ok (.iconst 1, 1) := dk_4 (dk_at dksX4_ranked_24 14 rfl rfl)
theorem dX4_ranked_577 : decode cX4_ranked 577 = .ok (.iadd, 1) := dk_96 (dk_at dksX4_ranked_24 15 rfl rfl)
theorem dX4_ranked_578 : decode cX4_ranked 578 = .ok (.imul, 1) := dk_104 (dk_at dksX4_ranked_24 16 rfl rfl)
theorem dX4_ranked_579 : decode cX4_ranked 579 = .ok (.iload 14, 2) := dk_21 14 (dk_at dksX4_ranked_24 17 rfl rfl)
theorem dX4_ranked_581 : decode cX4_ranked 581 = .ok (.iadd, 1) := dk_96 (dk_at dksX4_ranked_24 19 rfl rfl)
theorem dX4_ranked_582 : decode cX4_ranked 582 = .ok (.aload_n 0, 1) := dk_42 (dk_at dksX4_ranked_24 20 rfl rfl)
theorem dX4_ranked_583 : decode cX4_ranked 583 = .ok (.getfield 167, 3) := dk_180 0 167 (dk_at dksX4_ranked_24 21 rfl rfl)
theorem dX4_ranked_586 : decode cX4_ranked 586 = .ok (.iload 12, 2) := dk_21 12 (dk_at dksX4_ranked_25 0 rfl rfl)
theorem dX4_ranked_588 : decode cX4_ranked 588 = .ok (.iaload, 1) := dk_46 (dk_at dksX4_ranked_25 2 rfl rfl)
theorem dX4_ranked_589 : decode cX4_ranked 589 = .ok (.iadd, 1) := dk_96 (dk_at dksX4_ranked_25 3 rfl rfl)
theorem dX4_ranked_590 : decode cX4_ranked 590 = .ok (.dup2, 1) := dk_92 (dk_at dksX4_ranked_25 4 rfl rfl)
theorem dX4_ranked_591 : decode cX4_ranked 591 = .ok (.laload, 1) := dk_47 (dk_at dksX4_ranked_25 5 rfl rfl)
theorem dX4_ranked_592 : decode cX4_ranked 592 = .ok (.aload_n 0, 1) := dk_42 (dk_at dksX4_ranked_25 6 rfl rfl)
theorem dX4_ranked_593 : decode cX4_ranked 593 = .ok (.getfield 170, 3) := dk_180 0 170 (dk_at dksX4_ranked_25 7 rfl rfl)
theorem dX4_ranked_596 : decode cX4_ranked 596 = .ok (.sipush 1000, 3) := dk_17 3 232 (dk_at dksX4_ranked_25 10 rfl rfl)
theorem dX4_ranked_599 : decode cX4_ranked 599 = .ok (.iload 13, 2) := dk_21 13 (dk_at dksX4_ranked_25 13 rfl rfl)
theorem dX4_ranked_601 : decode cX4_ranked 601 = .ok (.imul, 1) := dk_104 (dk_at dksX4_ranked_25 15 rfl rfl)
theorem dX4_ranked_602 : decode cX4_ranked 602 = .ok (.iload 14, 2) := dk_21 14 (dk_at dksX4_ranked_25 16 rfl rfl)
theorem dX4_ranked_604 : decode cX4_ranked 604 = .ok (.iadd, 1) := dk_96 (dk_at dksX4_ranked_25 18 rfl rfl)
theorem dX4_ranked_605 : decode cX4_ranked 605 = .ok (.laload, 1) := dk_47 (dk_at dksX4_ranked_25 19 rfl rfl)
theorem dX4_ranked_606 : decode cX4_ranked 606 = .ok (.ladd, 1) := dk_97 (dk_at dksX4_ranked_25 20 rfl rfl)
theorem dX4_ranked_607 : decode cX4_ranked 607 = .ok (.lastore, 1) := dk_80 (dk_at dksX4_ranked_25 21 rfl rfl)
theorem dX4_ranked_608 : decode cX4_ranked 608 = .ok (.iinc 14 (-1), 3) := dk_132 14 255 (dk_at dksX4_ranked_26 0 rfl rfl)
theorem dX4_ranked_611 : decode cX4_ranked 611 = .ok (.goto (-49), 3) := dk_167 255 207 (dk_at dksX4_ranked_26 3 rfl rfl)
theorem dX4_ranked_614 : decode cX4_ranked 614 = .ok (.iinc 13 (-1), 3) := dk_132 13 255 (dk_at dksX4_ranked_26 6 rfl rfl)
theorem dX4_ranked_617 : decode cX4_ranked 617 = .ok (.goto (-73), 3) := dk_167 255 183 (dk_at dksX4_ranked_26 9 rfl rfl)
theorem dX4_ranked_620 : decode cX4_ranked 620 = .ok (.iinc 12 1, 3) := dk_132 12 1 (dk_at dksX4_ranked_26 12 rfl rfl)
theorem dX4_ranked_623 : decode cX4_ranked 623 = .ok (.goto (-92), 3) := dk_167 255 164 (dk_at dksX4_ranked_26 15 rfl rfl)
theorem dX4_ranked_626 : decode cX4_ranked 626 = .ok (.lconst 0, 1) := dk_9 (dk_at dksX4_ranked_26 18 rfl rfl)
theorem dX4_ranked_627 : decode cX4_ranked 627 = .ok (.lstore 12, 2) := dk_55 12 (dk_at dksX4_ranked_26 19 rfl rfl)
theorem dX4_ranked_629 : decode cX4_ranked 629 = .ok (.lconst 0, 1) := dk_9 (dk_at dksX4_ranked_26 21 rfl rfl)
theorem dX4_ranked_630 : decode cX4_ranked 630 = .ok (.lstore 14, 2) := dk_55 14 (dk_at dksX4_ranked_26 22 rfl rfl)
theorem dX4_ranked_632 : decode cX4_ranked 632 = .ok (.iconst 0, 1) := dk_3 (dk_at dksX4_ranked_27 0 rfl rfl)
theorem dX4_ranked_633 : decode cX4_ranked 633 = .ok (.istore 16, 2) := dk_54 16 (dk_at dksX4_ranked_27 1 rfl rfl)
theorem dX4_ranked_635 : decode cX4_ranked 635 = .ok (.iload 16, 2) := dk_21 16 (dk_at dksX4_ranked_27 3 rfl rfl)
theorem dX4_ranked_637 : decode cX4_ranked 637 = .ok (.sipush 1000, 3) := dk_17 3 232 (dk_at dksX4_ranked_27 5 rfl rfl)
theorem dX4_ranked_640 : decode cX4_ranked 640 = .ok (.if_icmp .ge 66, 3) := dk_162 0 66 (dk_at dksX4_ranked_27 8 rfl rfl)
theorem dX4_ranked_643 : decode cX4_ranked 643 = .ok (.lload 12, 2) := dk_22 12 (dk_at dksX4_ranked_27 11 rfl rfl)
theorem dX4_ranked_645 : decode cX4_ranked 645 = .ok (.aload_n 0, 1) := dk_42 (dk_at dksX4_ranked_27 13 rfl rfl)
theorem dX4_ranked_646 : decode cX4_ranked 646 = .ok (.getfield 170, 3) := dk_180 0 170 (dk_at dksX4_ranked_27 14 rfl rfl)
theorem dX4_ranked_649 : decode cX4_ranked 649 = .ok (.sipush 1000, 3) := dk_17 3 232 (dk_at dksX4_ranked_27 17 rfl rfl)
theorem dX4_ranked_652 : decode cX4_ranked 652 = .ok (.iload 8, 2) := dk_21 8 (dk_at dksX4_ranked_27 20 rfl rfl)
theorem dX4_ranked_654 : decode cX4_ranked 654 = .ok (.imul, 1) := dk_104 (dk_at dksX4_ranked_27 22 rfl rfl)
theorem dX4_ranked_655 : decode cX4_ranked 655 = .ok (.iload 16, 2) := dk_21 16 (dk_at dksX4_ranked_28 0 rfl rfl)
theorem dX4_ranked_657 : decode cX4_ranked 657 = .ok (.iadd, 1) := dk_96 (dk_at dksX4_ranked_28 2 rfl rfl)
theorem dX4_ranked_658 : decode cX4_ranked 658 = .ok (.laload, 1) := dk_47 (dk_at dksX4_ranked_28 3 rfl rfl)
theorem dX4_ranked_659 : decode cX4_ranked 659 = .ok (.ladd, 1) := dk_97 (dk_at dksX4_ranked_28 4 rfl rfl)
theorem dX4_ranked_660 : decode cX4_ranked 660 = .ok (.lstore 12, 2) := dk_55 12 (dk_at dksX4_ranked_28 5 rfl rfl)
theorem dX4_ranked_662 : decode cX4_ranked 662 = .ok (.lload 14, 2) := dk_22 14 (dk_at dksX4_ranked_28 7 rfl rfl)
theorem dX4_ranked_664 : decode cX4_ranked 664 = .ok (.iload 16, 2) := dk_21 16 (dk_at dksX4_ranked_28 9 rfl rfl)
theorem dX4_ranked_666 : decode cX4_ranked 666 = .ok (.iload 8, 2) := dk_21 8 (dk_at dksX4_ranked_28 11 rfl rfl)
theorem dX4_ranked_668 : decode cX4_ranked 668 = .ok (.iload 8, 2) := dk_21 8 (dk_at dksX4_ranked_28 13 rfl rfl)
theorem dX4_ranked_670 : decode cX4_ranked 670 = .ok (.iconst 1, 1) := dk_4 (dk_at dksX4_ranked_28 15 rfl rfl)
theorem dX4_ranked_671 : decode cX4_ranked 671 = .ok (.isub, 1) := dk_100 (dk_at dksX4_ranked_28 16 rfl rfl)
theorem dX4_ranked_672 : decode cX4_ranked 672 = .ok (.imul, 1) := dk_104 (dk_at dksX4_ranked_28 17 rfl rfl)
theorem dX4_ranked_673 : decode cX4_ranked 673 = .ok (.isub, 1) := dk_100 (dk_at dksX4_ranked_28 18 rfl rfl)
theorem dX4_ranked_674 : decode cX4_ranked 674 = .ok (.iload 11, 2) := dk_21 11 (dk_at dksX4_ranked_28 19 rfl rfl)
theorem dX4_ranked_676 : decode cX4_ranked 676 = .ok (.if_icmp .lt 20, 3) := dk_161 0 20 (dk_at dksX4_ranked_28 21 rfl rfl)
theorem dX4_ranked_679 : decode cX4_ranked 679 = .ok (.aload_n 0, 1) := dk_42 (dk_at dksX4_ranked_29 0 rfl rfl)
theorem dX4_ranked_680 : decode cX4_ranked 680 = .ok (.getfield 170, 3) := dk_180 0 170 (dk_at dksX4_ranked_29 1 rfl rfl)
theorem dX4_ranked_683 : decode cX4_ranked 683 = .ok (.sipush 1000, 3) := dk_17 3 232 (dk_at dksX4_ranked_29 4 rfl rfl)
theorem dX4_ranked_686 : decode cX4_ranked 686 = .ok (.iload 8, 2) := dk_21 8 (dk_at dksX4_ranked_29 7 rfl rfl)
theorem dX4_ranked_688 : decode cX4_ranked 688 = .ok (.imul, 1) := dk_104 (dk_at dksX4_ranked_29 9 rfl rfl)
theorem dX4_ranked_689 : decode cX4_ranked 689 = .ok (.iload 16, 2) := dk_21 16 (dk_at dksX4_ranked_29 10 rfl rfl)
theorem dX4_ranked_691 : decode cX4_ranked 691 = .ok (.iadd, 1) := dk_96 (dk_at dksX4_ranked_29 12 rfl rfl)
theorem dX4_ranked_692 : decode cX4_ranked 692 = .ok (.laload, 1) := dk_47 (dk_at dksX4_ranked_29 13 rfl rfl)
theorem dX4_ranked_693 : decode cX4_ranked 693 = .ok (.goto 4, 3) := dk_167 0 4 (dk_at dksX4_ranked_29 14 rfl rfl)
theorem dX4_ranked_696 : decode cX4_ranked 696 = .ok (.lconst 0, 1) := dk_9 (dk_at dksX4_ranked_29 17 rfl rfl)
theorem dX4_ranked_697 : decode cX4_ranked 697 = .ok (.ladd, 1) := dk_97 (dk_at dksX4_ranked_29 18 rfl rfl)
theorem dX4_ranked_698 : decode cX4_ranked 698 = .ok (.lstore 14, 2) := dk_55 14 (dk_at dksX4_ranked_29 19 rfl rfl)
theorem dX4_ranked_700 : decode cX4_ranked 700 = .ok (.iinc 16 1, 3) := dk_132 16 1 (dk_at dksX4_ranked_29 21 rfl rfl)
theorem dX4_ranked_703 : decode cX4_ranked 703 = .ok (.goto (-68), 3) := dk_167 255 188 (dk_at dksX4_ranked_30 0 rfl rfl)
theorem dX4_ranked_706 : decode cX4_ranked 706 = .ok (.ldc2_w 507, 3) := dk_20 1 251 (dk_at dksX4_ranked_30 3 rfl rfl)
theorem dX4_ranked_709 : decode cX4_ranked 709 = .ok (.lload 14, 2) := dk_22 14 (dk_at dksX4_ranked_30 6 rfl rfl)
theorem dX4_ranked_711 : decode cX4_ranked 711 = .ok (.lmul, 1) := dk_105 (dk_at dksX4_ranked_30 8 rfl rfl)
theorem dX4_ranked_712 : decode cX4_ranked 712 = .ok (.lload 12, 2) := dk_22 12 (dk_at dksX4_ranked_30 9 rfl rfl)
theorem dX4_ranked_714 : decode cX4_ranked 714 = .ok (.ladd, 1) := dk_97 (dk_at dksX4_ranked_30 11 rfl rfl)
theorem dX4_ranked_715 : decode cX4_ranked 715 = .ok (.lconst 1, 1) := dk_10 (dk_at dksX4_ranked_30 12 rfl rfl)
theorem dX4_ranked_716 : decode cX4_ranked 716 = .ok (.lsub, 1) := dk_101 (dk_at dksX4_ranked_30 13 rfl rfl)
theorem dX4_ranked_717 : decode cX4_ranked 717 = .ok (.lload 12, 2) := dk_22 12 (dk_at dksX4_ranked_30 14 rfl rfl)
theorem dX4_ranked_719 : decode cX4_ranked 719 = .ok (.ldiv, 1) := dk_109 (dk_at dksX4_ranked_30 16 rfl rfl)
theorem dX4_ranked_720 : decode cX4_ranked 720 = .ok (.l2i, 1) := dk_136 (dk_at dksX4_ranked_30 17 rfl rfl)
theorem dX4_ranked_721 : decode cX4_ranked 721 = .ok (.ireturn, 1) := dk_172 (dk_at dksX4_ranked_30 18 rfl rfl)
abbrev cX4_boneOf : ByteArray := prog_20_method_91_code
def yX4_boneOf : MethodName := ⟨RX4, "boneOf", "(II)I"⟩
def dkwX4_boneOf_5 : List UInt8 := [16, 6, 27, 104, 28, 96, 16, 6, 100, 46, 167, 0, 5, 16, 254, 172]
abbrev dktX4_boneOf_5 : List UInt8 := dkwX4_boneOf_5 ++ []
def dkwX4_boneOf_4 : List UInt8 := [167, 0, 4, 3, 172, 28, 133, 20, 1, 253, 20, 1, 255, 184, 0, 178, 153, 0, 20, 42, 180, 0, 70]
abbrev dktX4_boneOf_4 : List UInt8 := dkwX4_boneOf_4 ++ dktX4_boneOf_5
def dkwX4_boneOf_3 : List UInt8 := [180, 0, 79, 27, 46, 172, 42, 180, 0, 82, 27, 46, 172, 42, 180, 0, 85, 27, 51, 153, 0, 7, 4]
abbrev dktX4_boneOf_3 : List UInt8 := dkwX4_boneOf_3 ++ dktX4_boneOf_4
def dkwX4_boneOf_2 : List UInt8 := [42, 180, 0, 67, 27, 46, 172, 42, 180, 0, 73, 27, 46, 172, 42, 180, 0, 76, 27, 46, 172, 42]
abbrev dktX4_boneOf_2 : List UInt8 := dkwX4_boneOf_2 ++ dktX4_boneOf_3
def dkwX4_boneOf_1 : List UInt8 := [170, 0, 0, 0, 0, 0, 89, 0, 0, 0, 0, 0, 0, 0, 5, 0, 0, 0, 39, 0, 0, 0, 46, 0, 0, 0, 53, 0, 0, 0, 60, 0, 0, 0, 67, 0, 0, 0, 74]
abbrev dktX4_boneOf_1 : List UInt8 := dkwX4_boneOf_1 ++ dktX4_boneOf_2
def dkwX4_boneOf_0 : List UInt8 := [42, 3, 181, 0, 173, 42, 27, 182, 0, 252, 154, 0, 6, 16, 254, 172, 28]
abbrev dktX4_boneOf_0 : List UInt8 := dkwX4_boneOf_0 ++ dktX4_boneOf_1
theorem dksX4_boneOf_0 : cX4_boneOf.data.toList.drop 0 = dktX4_boneOf_0 := by decide +kernel
theorem dksX4_boneOf_1 : cX4_boneOf.data.toList.drop 17 = dktX4_boneOf_1 := dk_seg dksX4_boneOf_0 17 rfl rfl
theorem dksX4_boneOf_2 : cX4_boneOf.data.toList.drop 56 = dktX4_boneOf_2 := dk_seg dksX4_boneOf_1 39 rfl rfl
theorem dksX4_boneOf_3 : cX4_boneOf.data.toList.drop 78 = dktX4_boneOf_3 := dk_seg dksX4_boneOf_2 22 rfl rfl
theorem dksX4_boneOf_4 : cX4_boneOf.data.toList.drop 101 = dktX4_boneOf_4 := dk_seg dksX4_boneOf_3 23 rfl rfl
theorem dksX4_boneOf_5 : cX4_boneOf.data.toList.drop 124 = dktX4_boneOf_5 := dk_seg dksX4_boneOf_4 23 rfl rfl
theorem dX4_boneOf_0 : decode cX4_boneOf 0 = .ok (.aload_n 0, 1) := dk_42 (dk_at dksX4_boneOf_0 0 rfl rfl)
theorem dX4_boneOf_1 : decode cX4_boneOf 1 = .ok (.iconst 0, 1) := dk_3 (dk_at dksX4_boneOf_0 1 rfl rfl)
theorem dX4_boneOf_2 : decode cX4_boneOf 2 = .ok (.putfield 173, 3) := dk_181 0 173 (dk_at dksX4_boneOf_0 2 rfl rfl)
theorem dX4_boneOf_5 : decode cX4_boneOf 5 = .ok (.aload_n 0, 1) := dk_42 (dk_at dksX4_boneOf_0 5 rfl rfl)
theorem dX4_boneOf_6 : decode cX4_boneOf 6 = .ok (.iload_n 1, 1) := dk_27 (dk_at dksX4_boneOf_0 6 rfl rfl)
theorem dX4_boneOf_7 : decode cX4_boneOf 7 = .ok (.invokevirtual 252, 3) := dk_182 0 252 (dk_at dksX4_boneOf_0 7 rfl rfl)
theorem dX4_boneOf_10 : decode cX4_boneOf 10 = .ok (.ifCond .ne 6, 3) := dk_154 0 6 (dk_at dksX4_boneOf_0 10 rfl rfl)
theorem dX4_boneOf_13 : decode cX4_boneOf 13 = .ok (.bipush (-2), 2) := dk_16 254 (dk_at dksX4_boneOf_0 13 rfl rfl)
theorem dX4_boneOf_15 : decode cX4_boneOf 15 = .ok (.ireturn, 1) := dk_172 (dk_at dksX4_boneOf_0 15 rfl rfl)
theorem dX4_boneOf_16 : decode cX4_boneOf 16 = .ok (.iload_n 2, 1) := dk_28 (dk_at dksX4_boneOf_0 16 rfl rfl)
theorem dX4_boneOf_17 : decode cX4_boneOf 17 = .ok (.tableswitch 89 0 5 #[39, 46, 53, 60, 67, 74], 39) := by decide +kernel
theorem dX4_boneOf_56 : decode cX4_boneOf 56 = .ok (.aload_n 0, 1) := dk_42 (dk_at dksX4_boneOf_2 0 rfl rfl)
theorem dX4_boneOf_57 : decode cX4_boneOf 57 = .ok (.getfield 67, 3) := dk_180 0 67 (dk_at dksX4_boneOf_2 1 rfl rfl)
theorem dX4_boneOf_60 : decode cX4_boneOf 60 = .ok (.iload_n 1, 1) := dk_27 (dk_at dksX4_boneOf_2 4 rfl rfl)
theorem dX4_boneOf_61 : decode cX4_boneOf 61 = .ok (.iaload, 1) := dk_46 (dk_at dksX4_boneOf_2 5 rfl rfl)
theorem dX4_boneOf_62 : decode cX4_boneOf 62 = .ok (.ireturn, 1) := dk_172 (dk_at dksX4_boneOf_2 6 rfl rfl)
theorem dX4_boneOf_63 : decode cX4_boneOf 63 = .ok (.aload_n 0, 1) := dk_42 (dk_at dksX4_boneOf_2 7 rfl rfl)
theorem dX4_boneOf_64 : decode cX4_boneOf 64 = .ok (.getfield 73, 3) := dk_180 0 73 (dk_at dksX4_boneOf_2 8 rfl rfl)
theorem dX4_boneOf_67 : decode cX4_boneOf 67 = .ok (.iload_n 1, 1) := dk_27 (dk_at dksX4_boneOf_2 11 rfl rfl)
theorem dX4_boneOf_68 : decode cX4_boneOf 68 = .ok (.iaload, 1) := dk_46 (dk_at dksX4_boneOf_2 12 rfl rfl)
theorem dX4_boneOf_69 : decode cX4_boneOf 69 = .ok (.ireturn, 1) := dk_172 (dk_at dksX4_boneOf_2 13 rfl rfl)
theorem dX4_boneOf_70 : decode cX4_boneOf 70 = .ok (.aload_n 0, 1) := dk_42 (dk_at dksX4_boneOf_2 14 rfl rfl)
theorem dX4_boneOf_71 : decode cX4_boneOf 71 = .ok (.getfield 76, 3) := dk_180 0 76 (dk_at dksX4_boneOf_2 15 rfl rfl)
theorem dX4_boneOf_74 : decode cX4_boneOf 74 = .ok (.iload_n 1, 1) := dk_27 (dk_at dksX4_boneOf_2 18 rfl rfl)
theorem dX4_boneOf_75 : decode cX4_boneOf 75 = .ok (.iaload, 1) := dk_46 (dk_at dksX4_boneOf_2 19 rfl rfl)
theorem dX4_boneOf_76 : decode cX4_boneOf 76 = .ok (.ireturn, 1) := dk_172 (dk_at dksX4_boneOf_2 20 rfl rfl)
theorem dX4_boneOf_77 : decode cX4_boneOf 77 = .ok (.aload_n 0, 1) := dk_42 (dk_at dksX4_boneOf_2 21 rfl rfl)
theorem dX4_boneOf_78 : decode cX4_boneOf 78 = .ok (.getfield 79, 3) := dk_180 0 79 (dk_at dksX4_boneOf_3 0 rfl rfl)
theorem dX4_boneOf_81 : decode cX4_boneOf 81 = .ok (.iload_n 1, 1) := dk_27 (dk_at dksX4_boneOf_3 3 rfl rfl)
theorem dX4_boneOf_82 : decode cX4_boneOf 82 = .ok (.iaload, 1) := dk_46 (dk_at dksX4_boneOf_3 4 rfl rfl)
theorem dX4_boneOf_83 : decode cX4_boneOf 83 = .ok (.ireturn, 1) := dk_172 (dk_at dksX4_boneOf_3 5 rfl rfl)
theorem dX4_boneOf_84 : decode cX4_boneOf 84 = .ok (.aload_n 0, 1) := dk_42 (dk_at dksX4_boneOf_3 6 rfl rfl)
theorem dX4_boneOf_85 : decode cX4_boneOf 85 = .ok (.getfield 82, 3) := dk_180 0 82 (dk_at dksX4_boneOf_3 7 rfl rfl)
theorem dX4_boneOf_88 : decode cX4_boneOf 88 = .ok (.iload_n 1, 1) := dk_27 (dk_at dksX4_boneOf_3 10 rfl rfl)
theorem dX4_boneOf_89 : decode cX4_boneOf 89 = .ok (.iaload, 1) := dk_46 (dk_at dksX4_boneOf_3 11 rfl rfl)
theorem dX4_boneOf_90 : decode cX4_boneOf 90 = .ok (.ireturn, 1) := dk_172 (dk_at dksX4_boneOf_3 12 rfl rfl)
theorem dX4_boneOf_91 : decode cX4_boneOf 91 = .ok (.aload_n 0, 1) := dk_42 (dk_at dksX4_boneOf_3 13 rfl rfl)
theorem dX4_boneOf_92 : decode cX4_boneOf 92 = .ok (.getfield 85, 3) := dk_180 0 85 (dk_at dksX4_boneOf_3 14 rfl rfl)
theorem dX4_boneOf_95 : decode cX4_boneOf 95 = .ok (.iload_n 1, 1) := dk_27 (dk_at dksX4_boneOf_3 17 rfl rfl)
theorem dX4_boneOf_96 : decode cX4_boneOf 96 = .ok (.baload, 1) := dk_51 (dk_at dksX4_boneOf_3 18 rfl rfl)
theorem dX4_boneOf_97 : decode cX4_boneOf 97 = .ok (.ifCond .eq 7, 3) := dk_153 0 7 (dk_at dksX4_boneOf_3 19 rfl rfl)
theorem dX4_boneOf_100 : decode cX4_boneOf 100 = .ok (.iconst 1, 1) := dk_4 (dk_at dksX4_boneOf_3 22 rfl rfl)
theorem dX4_boneOf_101 : decode cX4_boneOf 101 = .ok (.goto 4, 3) := dk_167 0 4 (dk_at dksX4_boneOf_4 0 rfl rfl)
theorem dX4_boneOf_104 : decode cX4_boneOf 104 = .ok (.iconst 0, 1) := dk_3 (dk_at dksX4_boneOf_4 3 rfl rfl)
theorem dX4_boneOf_105 : decode cX4_boneOf 105 = .ok (.ireturn, 1) := dk_172 (dk_at dksX4_boneOf_4 4 rfl rfl)
theorem dX4_boneOf_106 : decode cX4_boneOf 106 = .ok (.iload_n 2, 1) := dk_28 (dk_at dksX4_boneOf_4 5 rfl rfl)
theorem dX4_boneOf_107 : decode cX4_boneOf 107 = .ok (.i2l, 1) := dk_133 (dk_at dksX4_boneOf_4 6 rfl rfl)
theorem dX4_boneOf_108 : decode cX4_boneOf 108 = .ok (.ldc2_w 509, 3) := dk_20 1 253 (dk_at dksX4_boneOf_4 7 rfl rfl)
theorem dX4_boneOf_111 : decode cX4_boneOf 111 = .ok (.ldc2_w 511, 3) := dk_20 1 255 (dk_at dksX4_boneOf_4 10 rfl rfl)
theorem dX4_boneOf_114 : decode cX4_boneOf 114 = .ok (.invokestatic 178, 3) := dk_184 0 178 (dk_at dksX4_boneOf_4 13 rfl rfl)
theorem dX4_boneOf_117 : decode cX4_boneOf 117 = .ok (.ifCond .eq 20, 3) := dk_153 0 20 (dk_at dksX4_boneOf_4 16 rfl rfl)
theorem dX4_boneOf_120 : decode cX4_boneOf 120 = .ok (.aload_n 0, 1) := dk_42 (dk_at dksX4_boneOf_4 19 rfl rfl)
theorem dX4_boneOf_121 : decode cX4_boneOf 121 = .ok (.getfield 70, 3) := dk_180 0 70 (dk_at dksX4_boneOf_4 20 rfl rfl)
theorem dX4_boneOf_124 : decode cX4_boneOf 124 = .ok (.bipush 6, 2) := dk_16 6 (dk_at dksX4_boneOf_5 0 rfl rfl)
theorem dX4_boneOf_126 : decode cX4_boneOf 126 = .ok (.iload_n 1, 1) := dk_27 (dk_at dksX4_boneOf_5 2 rfl rfl)
theorem dX4_boneOf_127 : decode cX4_boneOf 127 = .ok (.imul, 1) := dk_104 (dk_at dksX4_boneOf_5 3 rfl rfl)
theorem dX4_boneOf_128 : decode cX4_boneOf 128 = .ok (.iload_n 2, 1) := dk_28 (dk_at dksX4_boneOf_5 4 rfl rfl)
theorem dX4_boneOf_129 : decode cX4_boneOf 129 = .ok (.iadd, 1) := dk_96 (dk_at dksX4_boneOf_5 5 rfl rfl)
theorem dX4_boneOf_130 : decode cX4_boneOf 130 = .ok (.bipush 6, 2) := dk_16 6 (dk_at dksX4_boneOf_5 6 rfl rfl)
theorem dX4_boneOf_132 : decode cX4_boneOf 132 = .ok (.isub, 1) := dk_100 (dk_at dksX4_boneOf_5 8 rfl rfl)
theorem dX4_boneOf_133 : decode cX4_boneOf 133 = .ok (.iaload, 1) := dk_46 (dk_at dksX4_boneOf_5 9 rfl rfl)
theorem dX4_boneOf_134 : decode cX4_boneOf 134 = .ok (.goto 5, 3) := dk_167 0 5 (dk_at dksX4_boneOf_5 10 rfl rfl)
theorem dX4_boneOf_137 : decode cX4_boneOf 137 = .ok (.bipush (-2), 2) := dk_16 254 (dk_at dksX4_boneOf_5 13 rfl rfl)
theorem dX4_boneOf_139 : decode cX4_boneOf 139 = .ok (.ireturn, 1) := dk_172 (dk_at dksX4_boneOf_5 15 rfl rfl)
abbrev cX4_count : ByteArray := prog_20_method_92_code
def yX4_count : MethodName := ⟨RX4, "count", "(I)I"⟩
def dkwX4_count_5 : List UInt8 := [2, 172]
abbrev dktX4_count_5 : List UInt8 := dkwX4_count_5 ++ []
def dkwX4_count_4 : List UInt8 := [42, 180, 0, 9, 29, 46, 155, 0, 7, 4, 167, 0, 4, 3, 96, 61, 132, 3, 1, 167, 255, 231, 28, 172]
abbrev dktX4_count_4 : List UInt8 := dkwX4_count_4 ++ dktX4_count_5
def dkwX4_count_3 : List UInt8 := [172, 42, 180, 0, 219, 172, 42, 180, 0, 226, 172, 42, 180, 1, 11, 172, 3, 62, 29, 7, 162, 0, 26, 28]
abbrev dktX4_count_3 : List UInt8 := dkwX4_count_3 ++ dktX4_count_4
def dkwX4_count_2 : List UInt8 := [42, 180, 0, 198, 172, 42, 180, 0, 203, 172, 42, 180, 0, 206, 172, 42, 180, 0, 209, 172, 42, 180, 1, 221]
abbrev dktX4_count_2 : List UInt8 := dkwX4_count_2 ++ dktX4_count_3
def dkwX4_count_1 : List UInt8 := [170, 0, 0, 0, 0, 0, 0, 124, 0, 0, 0, 0, 0, 0, 0, 8, 0, 0, 0, 52, 0, 0, 0, 57, 0, 0, 0, 62, 0, 0, 0, 67, 0, 0, 0, 72, 0, 0, 0, 77, 0, 0, 0, 82, 0, 0, 0, 87, 0, 0, 0, 92]
abbrev dktX4_count_1 : List UInt8 := dkwX4_count_1 ++ dktX4_count_2
def dkwX4_count_0 : List UInt8 := [42, 3, 181, 0, 173, 3, 61, 27]
abbrev dktX4_count_0 : List UInt8 := dkwX4_count_0 ++ dktX4_count_1
theorem dksX4_count_0 : cX4_count.data.toList.drop 0 = dktX4_count_0 := by decide +kernel
theorem dksX4_count_1 : cX4_count.data.toList.drop 8 = dktX4_count_1 := dk_seg dksX4_count_0 8 rfl rfl
theorem dksX4_count_2 : cX4_count.data.toList.drop 60 = dktX4_count_2 := dk_seg dksX4_count_1 52 rfl rfl
theorem dksX4_count_3 : cX4_count.data.toList.drop 84 = dktX4_count_3 := dk_seg dksX4_count_2 24 rfl rfl
theorem dksX4_count_4 : cX4_count.data.toList.drop 108 = dktX4_count_4 := dk_seg dksX4_count_3 24 rfl rfl
theorem dksX4_count_5 : cX4_count.data.toList.drop 132 = dktX4_count_5 := dk_seg dksX4_count_4 24 rfl rfl
theorem dX4_count_0 : decode cX4_count 0 = .ok (.aload_n 0, 1) := dk_42 (dk_at dksX4_count_0 0 rfl rfl)
theorem dX4_count_1 : decode cX4_count 1 = .ok (.iconst 0, 1) := dk_3 (dk_at dksX4_count_0 1 rfl rfl)
theorem dX4_count_2 : decode cX4_count 2 = .ok (.putfield 173, 3) := dk_181 0 173 (dk_at dksX4_count_0 2 rfl rfl)
theorem dX4_count_5 : decode cX4_count 5 = .ok (.iconst 0, 1) := dk_3 (dk_at dksX4_count_0 5 rfl rfl)
theorem dX4_count_6 : decode cX4_count 6 = .ok (.istore_n 2, 1) := dk_61 (dk_at dksX4_count_0 6 rfl rfl)
theorem dX4_count_7 : decode cX4_count 7 = .ok (.iload_n 1, 1) := dk_27 (dk_at dksX4_count_0 7 rfl rfl)
theorem dX4_count_8 : decode cX4_count 8 = .ok (.tableswitch 124 0 8 #[52, 57, 62, 67, 72, 77, 82, 87, 92], 52) := by decide +kernel
theorem dX4_count_60 : decode cX4_count 60 = .ok (.aload_n 0, 1) := dk_42 (dk_at dksX4_count_2 0 rfl rfl)
theorem dX4_count_61 : decode cX4_count 61 = .ok (.getfield 198, 3) := dk_180 0 198 (dk_at dksX4_count_2 1 rfl rfl)
theorem dX4_count_64 : decode cX4_count 64 = .ok (.ireturn, 1) := dk_172 (dk_at dksX4_count_2 4 rfl rfl)
theorem dX4_count_65 : decode cX4_count 65 = .ok (.aload_n 0, 1) := dk_42 (dk_at dksX4_count_2 5 rfl rfl)
theorem dX4_count_66 : decode cX4_count 66 = .ok (.getfield 203, 3) := dk_180 0 203 (dk_at dksX4_count_2 6 rfl rfl)
theorem dX4_count_69 : decode cX4_count 69 = .ok (.ireturn, 1) := dk_172 (dk_at dksX4_count_2 9 rfl rfl)
theorem dX4_count_70 : decode cX4_count 70 = .ok (.aload_n 0, 1) := dk_42 (dk_at dksX4_count_2 10 rfl rfl)
theorem dX4_count_71 : decode cX4_count 71 = .ok (.getfield 206, 3) := dk_180 0 206 (dk_at dksX4_count_2 11 rfl rfl)
theorem dX4_count_74 : decode cX4_count 74 = .ok (.ireturn, 1) := dk_172 (dk_at dksX4_count_2 14 rfl rfl)
theorem dX4_count_75 : decode cX4_count 75 = .ok (.aload_n 0, 1) := dk_42 (dk_at dksX4_count_2 15 rfl rfl)
theorem dX4_count_76 : decode cX4_count 76 = .ok (.getfield 209, 3) := dk_180 0 209 (dk_at dksX4_count_2 16 rfl rfl)
theorem dX4_count_79 : decode cX4_count 79 = .ok (.ireturn, 1) := dk_172 (dk_at dksX4_count_2 19 rfl rfl)
theorem dX4_count_80 : decode cX4_count 80 = .ok (.aload_n 0, 1) := dk_42 (dk_at dksX4_count_2 20 rfl rfl)
theorem dX4_count_81 : decode cX4_count 81 = .ok (.getfield 477, 3) := dk_180 1 221 (dk_at dksX4_count_2 21 rfl rfl)
theorem dX4_count_84 : decode cX4_count 84 = .ok (.ireturn, 1) := dk_172 (dk_at dksX4_count_3 0 rfl rfl)
theorem dX4_count_85 : decode cX4_count 85 = .ok (.aload_n 0, 1) := dk_42 (dk_at dksX4_count_3 1 rfl rfl)
theorem dX4_count_86 : decode cX4_count 86 = .ok (.getfield 219, 3) := dk_180 0 219 (dk_at dksX4_count_3 2 rfl rfl)
theorem dX4_count_89 : decode cX4_count 89 = .ok (.ireturn, 1) := dk_172 (dk_at dksX4_count_3 5 rfl rfl)
theorem dX4_count_90 : decode cX4_count 90 = .ok (.aload_n 0, 1) := dk_42 (dk_at dksX4_count_3 6 rfl rfl)
theorem dX4_count_91 : decode cX4_count 91 = .ok (.getfield 226, 3) := dk_180 0 226 (dk_at dksX4_count_3 7 rfl rfl)
theorem dX4_count_94 : decode cX4_count 94 = .ok (.ireturn, 1) := dk_172 (dk_at dksX4_count_3 10 rfl rfl)
theorem dX4_count_95 : decode cX4_count 95 = .ok (.aload_n 0, 1) := dk_42 (dk_at dksX4_count_3 11 rfl rfl)
theorem dX4_count_96 : decode cX4_count 96 = .ok (.getfield 267, 3) := dk_180 1 11 (dk_at dksX4_count_3 12 rfl rfl)
theorem dX4_count_99 : decode cX4_count 99 = .ok (.ireturn, 1) := dk_172 (dk_at dksX4_count_3 15 rfl rfl)
theorem dX4_count_100 : decode cX4_count 100 = .ok (.iconst 0, 1) := dk_3 (dk_at dksX4_count_3 16 rfl rfl)
theorem dX4_count_101 : decode cX4_count 101 = .ok (.istore_n 3, 1) := dk_62 (dk_at dksX4_count_3 17 rfl rfl)
theorem dX4_count_102 : decode cX4_count 102 = .ok (.iload_n 3, 1) := dk_29 (dk_at dksX4_count_3 18 rfl rfl)
theorem dX4_count_103 : decode cX4_count 103 = .ok (.iconst 4, 1) := dk_7 (dk_at dksX4_count_3 19 rfl rfl)
theorem dX4_count_104 : decode cX4_count 104 = .ok (.if_icmp .ge 26, 3) := dk_162 0 26 (dk_at dksX4_count_3 20 rfl rfl)
theorem dX4_count_107 : decode cX4_count 107 = .ok (.iload_n 2, 1) := dk_28 (dk_at dksX4_count_3 23 rfl rfl)
theorem dX4_count_108 : decode cX4_count 108 = .ok (.aload_n 0, 1) := dk_42 (dk_at dksX4_count_4 0 rfl rfl)
theorem dX4_count_109 : decode cX4_count 109 = .ok (.getfield 9, 3) := dk_180 0 9 (dk_at dksX4_count_4 1 rfl rfl)
theorem dX4_count_112 : decode cX4_count 112 = .ok (.iload_n 3, 1) := dk_29 (dk_at dksX4_count_4 4 rfl rfl)
theorem dX4_count_113 : decode cX4_count 113 = .ok (.iaload, 1) := dk_46 (dk_at dksX4_count_4 5 rfl rfl)
theorem dX4_count_114 : decode cX4_count 114 = .ok (.ifCond .lt 7, 3) := dk_155 0 7 (dk_at dksX4_count_4 6 rfl rfl)
theorem dX4_count_117 : decode cX4_count 117 = .ok (.iconst 1, 1) := dk_4 (dk_at dksX4_count_4 9 rfl rfl)
theorem dX4_count_118 : decode cX4_count 118 = .ok (.goto 4, 3) := dk_167 0 4 (dk_at dksX4_count_4 10 rfl rfl)
theorem dX4_count_121 : decode cX4_count 121 = .ok (.iconst 0, 1) := dk_3 (dk_at dksX4_count_4 13 rfl rfl)
theorem dX4_count_122 : decode cX4_count 122 = .ok (.iadd, 1) := dk_96 (dk_at dksX4_count_4 14 rfl rfl)
theorem dX4_count_123 : decode cX4_count 123 = .ok (.istore_n 2, 1) := dk_61 (dk_at dksX4_count_4 15 rfl rfl)
theorem dX4_count_124 : decode cX4_count 124 = .ok (.iinc 3 1, 3) := dk_132 3 1 (dk_at dksX4_count_4 16 rfl rfl)
theorem dX4_count_127 : decode cX4_count 127 = .ok (.goto (-25), 3) := dk_167 255 231 (dk_at dksX4_count_4 19 rfl rfl)
theorem dX4_count_130 : decode cX4_count 130 = .ok (.iload_n 2, 1) := dk_28 (dk_at dksX4_count_4 22 rfl rfl)
theorem dX4_count_131 : decode cX4_count 131 = .ok (.ireturn, 1) := dk_172 (dk_at dksX4_count_4 23 rfl rfl)
theorem dX4_count_132 : decode cX4_count 132 = .ok (.iconst (-1), 1) := dk_2 (dk_at dksX4_count_5 0 rfl rfl)
theorem dX4_count_133 : decode cX4_count 133 = .ok (.ireturn, 1) := dk_172 (dk_at dksX4_count_5 1 rfl rfl)
theorem q115 : (Jvm.Cond.initialized "BoneYardModel") ∈ lw_all := lw_g (lw_at lw_m1 7 rfl) rfl
theorem q1073 : (Jvm.Cond.selects "BoneYardModel" ({ cls := "java/lang/Object", name := "getClass", desc := "()Ljava/lang/Class;" } : Jvm.MethodName) ({ cls := "java/lang/Object", name := "getClass", desc := "()Ljava/lang/Class;" } : Jvm.MethodName)) ∈ lw_all := lw_g (lw_at lw_m5 5 rfl) rfl
theorem q1479 : (Jvm.Cond.instantiable "BoneYardModel" (82 : Nat)) ∈ lw_all := lw_g (lw_at lw_m6 171 rfl) rfl
theorem q1481 : (Jvm.Cond.instanceMethod ({ cls := "BoneYardModel", name := "<init>", desc := "()V" } : Jvm.MethodName)) ∈ lw_all := lw_g (lw_at lw_m6 173 rfl) rfl
theorem q1482 : (Jvm.Cond.code ({ cls := "BoneYardModel", name := "<init>", desc := "()V" } : Jvm.MethodName) prog_20_method_1_code (2 : Nat) (Option.none : Option Jvm.ClassFile.FieldType)) ∈ lw_all := lw_g (lw_at lw_m6 174 rfl) rfl
theorem q1483 : (Jvm.Cond.methodLink "BoneYardModel" (1 : Nat) ({ cls := "java/lang/Object", name := "<init>", desc := "()V" } : Jvm.MethodName)) ∈ lw_all := lw_g (lw_at lw_m6 175 rfl) rfl
theorem q1484 : (Jvm.Cond.fieldLink "BoneYardModel" (173 : Nat) "BoneYardModel" "thrown" "I") ∈ lw_all := lw_g (lw_at lw_m6 176 rfl) rfl
theorem q1485 : (Jvm.Cond.fieldLink "BoneYardModel" (9 : Nat) "BoneYardModel" "width" "[I") ∈ lw_all := lw_g (lw_at lw_m6 177 rfl) rfl
theorem q1486 : (Jvm.Cond.fieldLink "BoneYardModel" (13 : Nat) "BoneYardModel" "size" "[I") ∈ lw_all := lw_g (lw_at lw_m6 178 rfl) rfl
theorem q1487 : (Jvm.Cond.fieldLink "BoneYardModel" (16 : Nat) "BoneYardModel" "numbers" "[J") ∈ lw_all := lw_g (lw_at lw_m6 179 rfl) rfl
theorem q1488 : (Jvm.Cond.fieldLink "BoneYardModel" (20 : Nat) "BoneYardModel" "moved" "[J") ∈ lw_all := lw_g (lw_at lw_m6 180 rfl) rfl
theorem q1489 : (Jvm.Cond.fieldLink "BoneYardModel" (23 : Nat) "BoneYardModel" "near" "I") ∈ lw_all := lw_g (lw_at lw_m6 181 rfl) rfl
theorem q1490 : (Jvm.Cond.fieldLink "BoneYardModel" (27 : Nat) "BoneYardModel" "beyond" "I") ∈ lw_all := lw_g (lw_at lw_m6 182 rfl) rfl
theorem q1491 : (Jvm.Cond.fieldLink "BoneYardModel" (198 : Nat) "BoneYardModel" "elements" "I") ∈ lw_all := lw_g (lw_at lw_m6 183 rfl) rfl
theorem q1492 : (Jvm.Cond.fieldLink "BoneYardModel" (203 : Nat) "BoneYardModel" "layers" "I") ∈ lw_all := lw_g (lw_at lw_m6 184 rfl) rfl
theorem q1493 : (Jvm.Cond.fieldLink "BoneYardModel" (206 : Nat) "BoneYardModel" "bones" "I") ∈ lw_all := lw_g (lw_at lw_m6 185 rfl) rfl
theorem q1494 : (Jvm.Cond.fieldLink "BoneYardModel" (209 : Nat) "BoneYardModel" "keys" "I") ∈ lw_all := lw_g (lw_at lw_m6 186 rfl) rfl
theorem q1495 : (Jvm.Cond.fieldLink "BoneYardModel" (477 : Nat) "BoneYardModel" "herds" "I") ∈ lw_all := lw_g (lw_at lw_m6 187 rfl) rfl
theorem q1496 : (Jvm.Cond.fieldLink "BoneYardModel" (219 : Nat) "BoneYardModel" "overs" "I") ∈ lw_all := lw_g (lw_at lw_m6 188 rfl) rfl
theorem q1497 : (Jvm.Cond.fieldLink "BoneYardModel" (226 : Nat) "BoneYardModel" "joints" "I") ∈ lw_all := lw_g (lw_at lw_m6 189 rfl) rfl
theorem q1498 : (Jvm.Cond.fieldLink "BoneYardModel" (30 : Nat) "BoneYardModel" "hasSides" "[Z") ∈ lw_all := lw_g (lw_at lw_m6 190 rfl) rfl
theorem q1499 : (Jvm.Cond.fieldLink "BoneYardModel" (34 : Nat) "BoneYardModel" "inBody" "[I") ∈ lw_all := lw_g (lw_at lw_m6 191 rfl) rfl
theorem q1500 : (Jvm.Cond.fieldLink "BoneYardModel" (37 : Nat) "BoneYardModel" "density" "[I") ∈ lw_all := lw_g (lw_at lw_m6 192 rfl) rfl
theorem q1501 : (Jvm.Cond.fieldLink "BoneYardModel" (40 : Nat) "BoneYardModel" "grownFrom" "[I") ∈ lw_all := lw_g (lw_at lw_m6 193 rfl) rfl
theorem q1502 : (Jvm.Cond.fieldLink "BoneYardModel" (43 : Nat) "BoneYardModel" "grownTo" "[I") ∈ lw_all := lw_g (lw_at lw_m6 194 rfl) rfl
theorem q1503 : (Jvm.Cond.fieldLink "BoneYardModel" (46 : Nat) "BoneYardModel" "meat" "[I") ∈ lw_all := lw_g (lw_at lw_m6 195 rfl) rfl
theorem q1504 : (Jvm.Cond.fieldLink "BoneYardModel" (49 : Nat) "BoneYardModel" "coin" "[I") ∈ lw_all := lw_g (lw_at lw_m6 196 rfl) rfl
theorem q1505 : (Jvm.Cond.fieldLink "BoneYardModel" (52 : Nat) "BoneYardModel" "seal" "[I") ∈ lw_all := lw_g (lw_at lw_m6 197 rfl) rfl
theorem q1506 : (Jvm.Cond.fieldLink "BoneYardModel" (55 : Nat) "BoneYardModel" "upper" "[I") ∈ lw_all := lw_g (lw_at lw_m6 198 rfl) rfl
theorem q1507 : (Jvm.Cond.fieldLink "BoneYardModel" (58 : Nat) "BoneYardModel" "under" "[I") ∈ lw_all := lw_g (lw_at lw_m6 199 rfl) rfl
theorem q1508 : (Jvm.Cond.fieldLink "BoneYardModel" (61 : Nat) "BoneYardModel" "jointA" "[I") ∈ lw_all := lw_g (lw_at lw_m6 200 rfl) rfl
theorem q1509 : (Jvm.Cond.fieldLink "BoneYardModel" (64 : Nat) "BoneYardModel" "jointB" "[I") ∈ lw_all := lw_g (lw_at lw_m6 201 rfl) rfl
theorem q1510 : (Jvm.Cond.fieldLink "BoneYardModel" (67 : Nat) "BoneYardModel" "layerOf" "[I") ∈ lw_all := lw_g (lw_at lw_m6 202 rfl) rfl
theorem q1511 : (Jvm.Cond.fieldLink "BoneYardModel" (70 : Nat) "BoneYardModel" "measure" "[I") ∈ lw_all := lw_g (lw_at lw_m6 203 rfl) rfl
theorem q1512 : (Jvm.Cond.fieldLink "BoneYardModel" (73 : Nat) "BoneYardModel" "zones" "[I") ∈ lw_all := lw_g (lw_at lw_m6 204 rfl) rfl
theorem q1513 : (Jvm.Cond.fieldLink "BoneYardModel" (76 : Nat) "BoneYardModel" "side" "[I") ∈ lw_all := lw_g (lw_at lw_m6 205 rfl) rfl
theorem q1514 : (Jvm.Cond.fieldLink "BoneYardModel" (79 : Nat) "BoneYardModel" "ends" "[I") ∈ lw_all := lw_g (lw_at lw_m6 206 rfl) rfl
theorem q1515 : (Jvm.Cond.fieldLink "BoneYardModel" (82 : Nat) "BoneYardModel" "wear" "[I") ∈ lw_all := lw_g (lw_at lw_m6 207 rfl) rfl
theorem q1516 : (Jvm.Cond.fieldLink "BoneYardModel" (85 : Nat) "BoneYardModel" "isGnawed" "[Z") ∈ lw_all := lw_g (lw_at lw_m6 208 rfl) rfl
theorem q1517 : (Jvm.Cond.fieldLink "BoneYardModel" (88 : Nat) "BoneYardModel" "ageFrom" "[I") ∈ lw_all := lw_g (lw_at lw_m6 209 rfl) rfl
theorem q1518 : (Jvm.Cond.fieldLink "BoneYardModel" (91 : Nat) "BoneYardModel" "shares" "[I") ∈ lw_all := lw_g (lw_at lw_m6 210 rfl) rfl
theorem q1519 : (Jvm.Cond.fieldLink "BoneYardModel" (94 : Nat) "BoneYardModel" "named" "[I") ∈ lw_all := lw_g (lw_at lw_m6 211 rfl) rfl
theorem q1520 : (Jvm.Cond.fieldLink "BoneYardModel" (97 : Nat) "BoneYardModel" "stepsOf" "[I") ∈ lw_all := lw_g (lw_at lw_m6 212 rfl) rfl
theorem q1521 : (Jvm.Cond.fieldLink "BoneYardModel" (100 : Nat) "BoneYardModel" "tape" "[B") ∈ lw_all := lw_g (lw_at lw_m6 213 rfl) rfl
theorem q1522 : (Jvm.Cond.fieldLink "BoneYardModel" (267 : Nat) "BoneYardModel" "taped" "I") ∈ lw_all := lw_g (lw_at lw_m6 214 rfl) rfl
theorem q1523 : (Jvm.Cond.fieldLink "BoneYardModel" (104 : Nat) "BoneYardModel" "fault" "I") ∈ lw_all := lw_g (lw_at lw_m6 215 rfl) rfl
theorem q1524 : (Jvm.Cond.fieldLink "BoneYardModel" (107 : Nat) "BoneYardModel" "faultPlace" "I") ∈ lw_all := lw_g (lw_at lw_m6 216 rfl) rfl
theorem q1525 : (Jvm.Cond.fieldLink "BoneYardModel" (110 : Nat) "BoneYardModel" "text" "[B") ∈ lw_all := lw_g (lw_at lw_m6 217 rfl) rfl
theorem q1526 : (Jvm.Cond.fieldLink "BoneYardModel" (113 : Nat) "BoneYardModel" "textMany" "[I") ∈ lw_all := lw_g (lw_at lw_m6 218 rfl) rfl
theorem q1527 : (Jvm.Cond.fieldLink "BoneYardModel" (116 : Nat) "BoneYardModel" "early" "[I") ∈ lw_all := lw_g (lw_at lw_m6 219 rfl) rfl
theorem q1528 : (Jvm.Cond.fieldLink "BoneYardModel" (119 : Nat) "BoneYardModel" "late" "[I") ∈ lw_all := lw_g (lw_at lw_m6 220 rfl) rfl
theorem q1529 : (Jvm.Cond.fieldLink "BoneYardModel" (122 : Nat) "BoneYardModel" "lies" "[Z") ∈ lw_all := lw_g (lw_at lw_m6 221 rfl) rfl
theorem q1530 : (Jvm.Cond.fieldLink "BoneYardModel" (125 : Nat) "BoneYardModel" "areOne" "[Z") ∈ lw_all := lw_g (lw_at lw_m6 222 rfl) rfl
theorem q1531 : (Jvm.Cond.fieldLink "BoneYardModel" (273 : Nat) "BoneYardModel" "textRow" "I") ∈ lw_all := lw_g (lw_at lw_m6 223 rfl) rfl
theorem q1532 : (Jvm.Cond.fieldLink "BoneYardModel" (270 : Nat) "BoneYardModel" "textSize" "I") ∈ lw_all := lw_g (lw_at lw_m6 224 rfl) rfl
theorem q1533 : (Jvm.Cond.fieldLink "BoneYardModel" (276 : Nat) "BoneYardModel" "next" "I") ∈ lw_all := lw_g (lw_at lw_m6 225 rfl) rfl
theorem q1534 : (Jvm.Cond.fieldLink "BoneYardModel" (283 : Nat) "BoneYardModel" "begin" "I") ∈ lw_all := lw_g (lw_at lw_m6 226 rfl) rfl
theorem q1535 : (Jvm.Cond.fieldLink "BoneYardModel" (286 : Nat) "BoneYardModel" "sort" "I") ∈ lw_all := lw_g (lw_at lw_m6 227 rfl) rfl
theorem q1536 : (Jvm.Cond.fieldLink "BoneYardModel" (295 : Nat) "BoneYardModel" "number" "I") ∈ lw_all := lw_g (lw_at lw_m6 228 rfl) rfl
theorem q1537 : (Jvm.Cond.fieldLink "BoneYardModel" (331 : Nat) "BoneYardModel" "open" "I") ∈ lw_all := lw_g (lw_at lw_m6 229 rfl) rfl
theorem q1538 : (Jvm.Cond.fieldLink "BoneYardModel" (388 : Nat) "BoneYardModel" "told" "I") ∈ lw_all := lw_g (lw_at lw_m6 230 rfl) rfl
theorem q1539 : (Jvm.Cond.fieldLink "BoneYardModel" (301 : Nat) "BoneYardModel" "wrong" "I") ∈ lw_all := lw_g (lw_at lw_m6 231 rfl) rfl
theorem q1540 : (Jvm.Cond.fieldLink "BoneYardModel" (304 : Nat) "BoneYardModel" "wrongPlace" "I") ∈ lw_all := lw_g (lw_at lw_m6 232 rfl) rfl
theorem q1541 : (Jvm.Cond.fieldLink "BoneYardModel" (341 : Nat) "BoneYardModel" "ofBone" "I") ∈ lw_all := lw_g (lw_at lw_m6 233 rfl) rfl
theorem q1542 : (Jvm.Cond.fieldLink "BoneYardModel" (378 : Nat) "BoneYardModel" "step" "I") ∈ lw_all := lw_g (lw_at lw_m6 234 rfl) rfl
theorem q1543 : (Jvm.Cond.fieldLink "BoneYardModel" (373 : Nat) "BoneYardModel" "wanted" "I") ∈ lw_all := lw_g (lw_at lw_m6 235 rfl) rfl
theorem q1544 : (Jvm.Cond.fieldLink "BoneYardModel" (385 : Nat) "BoneYardModel" "found" "I") ∈ lw_all := lw_g (lw_at lw_m6 236 rfl) rfl
theorem q1545 : (Jvm.Cond.fieldLink "BoneYardModel" (394 : Nat) "BoneYardModel" "gone" "I") ∈ lw_all := lw_g (lw_at lw_m6 237 rfl) rfl
theorem q1546 : (Jvm.Cond.fieldLink "BoneYardModel" (128 : Nat) "BoneYardModel" "goPlace" "[I") ∈ lw_all := lw_g (lw_at lw_m6 238 rfl) rfl
theorem q1547 : (Jvm.Cond.fieldLink "BoneYardModel" (131 : Nat) "BoneYardModel" "goTo" "[I") ∈ lw_all := lw_g (lw_at lw_m6 239 rfl) rfl
theorem q1548 : (Jvm.Cond.fieldLink "BoneYardModel" (134 : Nat) "BoneYardModel" "stepRow" "[I") ∈ lw_all := lw_g (lw_at lw_m7 0 rfl) rfl
theorem q1549 : (Jvm.Cond.fieldLink "BoneYardModel" (381 : Nat) "BoneYardModel" "goMany" "I") ∈ lw_all := lw_g (lw_at lw_m7 1 rfl) rfl
theorem q1550 : (Jvm.Cond.fieldLink "BoneYardModel" (137 : Nat) "BoneYardModel" "partner" "[I") ∈ lw_all := lw_g (lw_at lw_m7 2 rfl) rfl
theorem q1551 : (Jvm.Cond.fieldLink "BoneYardModel" (140 : Nat) "BoneYardModel" "holds" "[I") ∈ lw_all := lw_g (lw_at lw_m7 3 rfl) rfl
theorem q1552 : (Jvm.Cond.fieldLink "BoneYardModel" (143 : Nat) "BoneYardModel" "row" "[I") ∈ lw_all := lw_g (lw_at lw_m7 4 rfl) rfl
theorem q1553 : (Jvm.Cond.fieldLink "BoneYardModel" (146 : Nat) "BoneYardModel" "wasAsked" "[Z") ∈ lw_all := lw_g (lw_at lw_m7 5 rfl) rfl
theorem q1554 : (Jvm.Cond.fieldLink "BoneYardModel" (430 : Nat) "BoneYardModel" "rowMany" "I") ∈ lw_all := lw_g (lw_at lw_m7 6 rfl) rfl
theorem q1555 : (Jvm.Cond.fieldLink "BoneYardModel" (149 : Nat) "BoneYardModel" "kept" "[I") ∈ lw_all := lw_g (lw_at lw_m7 7 rfl) rfl
theorem q1556 : (Jvm.Cond.fieldLink "BoneYardModel" (465 : Nat) "BoneYardModel" "least" "I") ∈ lw_all := lw_g (lw_at lw_m7 8 rfl) rfl
theorem q1557 : (Jvm.Cond.fieldLink "BoneYardModel" (468 : Nat) "BoneYardModel" "greatest" "I") ∈ lw_all := lw_g (lw_at lw_m7 9 rfl) rfl
theorem q1558 : (Jvm.Cond.fieldLink "BoneYardModel" (152 : Nat) "BoneYardModel" "spans" "[I") ∈ lw_all := lw_g (lw_at lw_m7 10 rfl) rfl
theorem q1559 : (Jvm.Cond.fieldLink "BoneYardModel" (480 : Nat) "BoneYardModel" "spanMany" "I") ∈ lw_all := lw_g (lw_at lw_m7 11 rfl) rfl
theorem q1560 : (Jvm.Cond.fieldLink "BoneYardModel" (155 : Nat) "BoneYardModel" "bottom" "[I") ∈ lw_all := lw_g (lw_at lw_m7 12 rfl) rfl
theorem q1561 : (Jvm.Cond.fieldLink "BoneYardModel" (158 : Nat) "BoneYardModel" "top" "[I") ∈ lw_all := lw_g (lw_at lw_m7 13 rfl) rfl
theorem q1562 : (Jvm.Cond.fieldLink "BoneYardModel" (161 : Nat) "BoneYardModel" "parts" "[I") ∈ lw_all := lw_g (lw_at lw_m7 14 rfl) rfl
theorem q1563 : (Jvm.Cond.fieldLink "BoneYardModel" (164 : Nat) "BoneYardModel" "sizes" "[I") ∈ lw_all := lw_g (lw_at lw_m7 15 rfl) rfl
theorem q1564 : (Jvm.Cond.fieldLink "BoneYardModel" (167 : Nat) "BoneYardModel" "ranks" "[I") ∈ lw_all := lw_g (lw_at lw_m7 16 rfl) rfl
theorem q1565 : (Jvm.Cond.fieldLink "BoneYardModel" (170 : Nat) "BoneYardModel" "ways" "[J") ∈ lw_all := lw_g (lw_at lw_m7 17 rfl) rfl
theorem q1566 : (Jvm.Cond.lays "BoneYardModel" "BoneYardModel" "thrown" "I") ∈ lw_all := lw_g (lw_at lw_m7 18 rfl) rfl
theorem q1567 : (Jvm.Cond.soleField "BoneYardModel" "thrown") ∈ lw_all := lw_g (lw_at lw_m7 19 rfl) rfl
theorem q1568 : (Jvm.Cond.laysFinal "BoneYardModel" "BoneYardModel" "width" "[I") ∈ lw_all := lw_g (lw_at lw_m7 20 rfl) rfl
theorem q1569 : (Jvm.Cond.soleField "BoneYardModel" "width") ∈ lw_all := lw_g (lw_at lw_m7 21 rfl) rfl
theorem q1570 : (Jvm.Cond.laysFinal "BoneYardModel" "BoneYardModel" "size" "[I") ∈ lw_all := lw_g (lw_at lw_m7 22 rfl) rfl
theorem q1571 : (Jvm.Cond.soleField "BoneYardModel" "size") ∈ lw_all := lw_g (lw_at lw_m7 23 rfl) rfl
theorem q1572 : (Jvm.Cond.laysFinal "BoneYardModel" "BoneYardModel" "numbers" "[J") ∈ lw_all := lw_g (lw_at lw_m7 24 rfl) rfl
theorem q1573 : (Jvm.Cond.soleField "BoneYardModel" "numbers") ∈ lw_all := lw_g (lw_at lw_m7 25 rfl) rfl
theorem q1574 : (Jvm.Cond.laysFinal "BoneYardModel" "BoneYardModel" "moved" "[J") ∈ lw_all := lw_g (lw_at lw_m7 26 rfl) rfl
theorem q1575 : (Jvm.Cond.soleField "BoneYardModel" "moved") ∈ lw_all := lw_g (lw_at lw_m7 27 rfl) rfl
theorem q1576 : (Jvm.Cond.lays "BoneYardModel" "BoneYardModel" "near" "I") ∈ lw_all := lw_g (lw_at lw_m7 28 rfl) rfl
theorem q1577 : (Jvm.Cond.soleField "BoneYardModel" "near") ∈ lw_all := lw_g (lw_at lw_m7 29 rfl) rfl
theorem q1578 : (Jvm.Cond.lays "BoneYardModel" "BoneYardModel" "beyond" "I") ∈ lw_all := lw_g (lw_at lw_m7 30 rfl) rfl
theorem q1579 : (Jvm.Cond.soleField "BoneYardModel" "beyond") ∈ lw_all := lw_g (lw_at lw_m7 31 rfl) rfl
theorem q1580 : (Jvm.Cond.lays "BoneYardModel" "BoneYardModel" "elements" "I") ∈ lw_all := lw_g (lw_at lw_m7 32 rfl) rfl
theorem q1581 : (Jvm.Cond.soleField "BoneYardModel" "elements") ∈ lw_all := lw_g (lw_at lw_m7 33 rfl) rfl
theorem q1582 : (Jvm.Cond.lays "BoneYardModel" "BoneYardModel" "layers" "I") ∈ lw_all := lw_g (lw_at lw_m7 34 rfl) rfl
theorem q1583 : (Jvm.Cond.soleField "BoneYardModel" "layers") ∈ lw_all := lw_g (lw_at lw_m7 35 rfl) rfl
theorem q1584 : (Jvm.Cond.lays "BoneYardModel" "BoneYardModel" "bones" "I") ∈ lw_all := lw_g (lw_at lw_m7 36 rfl) rfl
theorem q1585 : (Jvm.Cond.soleField "BoneYardModel" "bones") ∈ lw_all := lw_g (lw_at lw_m7 37 rfl) rfl
theorem q1586 : (Jvm.Cond.lays "BoneYardModel" "BoneYardModel" "keys" "I") ∈ lw_all := lw_g (lw_at lw_m7 38 rfl) rfl
theorem q1587 : (Jvm.Cond.soleField "BoneYardModel" "keys") ∈ lw_all := lw_g (lw_at lw_m7 39 rfl) rfl
theorem q1588 : (Jvm.Cond.lays "BoneYardModel" "BoneYardModel" "herds" "I") ∈ lw_all := lw_g (lw_at lw_m7 40 rfl) rfl
theorem q1589 : (Jvm.Cond.soleField "BoneYardModel" "herds") ∈ lw_all := lw_g (lw_at lw_m7 41 rfl) rfl
theorem q1590 : (Jvm.Cond.lays "BoneYardModel" "BoneYardModel" "overs" "I") ∈ lw_all := lw_g (lw_at lw_m7 42 rfl) rfl
theorem q1591 : (Jvm.Cond.soleField "BoneYardModel" "overs") ∈ lw_all := lw_g (lw_at lw_m7 43 rfl) rfl
theorem q1592 : (Jvm.Cond.lays "BoneYardModel" "BoneYardModel" "joints" "I") ∈ lw_all := lw_g (lw_at lw_m7 44 rfl) rfl
theorem q1593 : (Jvm.Cond.soleField "BoneYardModel" "joints") ∈ lw_all := lw_g (lw_at lw_m7 45 rfl) rfl
theorem q1594 : (Jvm.Cond.laysFinal "BoneYardModel" "BoneYardModel" "hasSides" "[Z") ∈ lw_all := lw_g (lw_at lw_m7 46 rfl) rfl
theorem q1595 : (Jvm.Cond.soleField "BoneYardModel" "hasSides") ∈ lw_all := lw_g (lw_at lw_m7 47 rfl) rfl
theorem q1596 : (Jvm.Cond.laysFinal "BoneYardModel" "BoneYardModel" "inBody" "[I") ∈ lw_all := lw_g (lw_at lw_m7 48 rfl) rfl
theorem q1597 : (Jvm.Cond.soleField "BoneYardModel" "inBody") ∈ lw_all := lw_g (lw_at lw_m7 49 rfl) rfl
theorem q1598 : (Jvm.Cond.laysFinal "BoneYardModel" "BoneYardModel" "density" "[I") ∈ lw_all := lw_g (lw_at lw_m7 50 rfl) rfl
theorem q1599 : (Jvm.Cond.soleField "BoneYardModel" "density") ∈ lw_all := lw_g (lw_at lw_m7 51 rfl) rfl
theorem q1600 : (Jvm.Cond.laysFinal "BoneYardModel" "BoneYardModel" "grownFrom" "[I") ∈ lw_all := lw_g (lw_at lw_m7 52 rfl) rfl
theorem q1601 : (Jvm.Cond.soleField "BoneYardModel" "grownFrom") ∈ lw_all := lw_g (lw_at lw_m7 53 rfl) rfl
theorem q1602 : (Jvm.Cond.laysFinal "BoneYardModel" "BoneYardModel" "grownTo" "[I") ∈ lw_all := lw_g (lw_at lw_m7 54 rfl) rfl
theorem q1603 : (Jvm.Cond.soleField "BoneYardModel" "grownTo") ∈ lw_all := lw_g (lw_at lw_m7 55 rfl) rfl
theorem q1604 : (Jvm.Cond.laysFinal "BoneYardModel" "BoneYardModel" "meat" "[I") ∈ lw_all := lw_g (lw_at lw_m7 56 rfl) rfl
theorem q1605 : (Jvm.Cond.soleField "BoneYardModel" "meat") ∈ lw_all := lw_g (lw_at lw_m7 57 rfl) rfl
theorem q1606 : (Jvm.Cond.laysFinal "BoneYardModel" "BoneYardModel" "coin" "[I") ∈ lw_all := lw_g (lw_at lw_m7 58 rfl) rfl
theorem q1607 : (Jvm.Cond.soleField "BoneYardModel" "coin") ∈ lw_all := lw_g (lw_at lw_m7 59 rfl) rfl
theorem q1608 : (Jvm.Cond.laysFinal "BoneYardModel" "BoneYardModel" "seal" "[I") ∈ lw_all := lw_g (lw_at lw_m7 60 rfl) rfl
theorem q1609 : (Jvm.Cond.soleField "BoneYardModel" "seal") ∈ lw_all := lw_g (lw_at lw_m7 61 rfl) rfl
theorem q1610 : (Jvm.Cond.laysFinal "BoneYardModel" "BoneYardModel" "upper" "[I") ∈ lw_all := lw_g (lw_at lw_m7 62 rfl) rfl
theorem q1611 : (Jvm.Cond.soleField "BoneYardModel" "upper") ∈ lw_all := lw_g (lw_at lw_m7 63 rfl) rfl
theorem q1612 : (Jvm.Cond.laysFinal "BoneYardModel" "BoneYardModel" "under" "[I") ∈ lw_all := lw_g (lw_at lw_m7 64 rfl) rfl
theorem q1613 : (Jvm.Cond.soleField "BoneYardModel" "under") ∈ lw_all := lw_g (lw_at lw_m7 65 rfl) rfl
theorem q1614 : (Jvm.Cond.laysFinal "BoneYardModel" "BoneYardModel" "jointA" "[I") ∈ lw_all := lw_g (lw_at lw_m7 66 rfl) rfl
theorem q1615 : (Jvm.Cond.soleField "BoneYardModel" "jointA") ∈ lw_all := lw_g (lw_at lw_m7 67 rfl) rfl
theorem q1616 : (Jvm.Cond.laysFinal "BoneYardModel" "BoneYardModel" "jointB" "[I") ∈ lw_all := lw_g (lw_at lw_m7 68 rfl) rfl
theorem q1617 : (Jvm.Cond.soleField "BoneYardModel" "jointB") ∈ lw_all := lw_g (lw_at lw_m7 69 rfl) rfl
theorem q1618 : (Jvm.Cond.laysFinal "BoneYardModel" "BoneYardModel" "layerOf" "[I") ∈ lw_all := lw_g (lw_at lw_m7 70 rfl) rfl
theorem q1619 : (Jvm.Cond.soleField "BoneYardModel" "layerOf") ∈ lw_all := lw_g (lw_at lw_m7 71 rfl) rfl
theorem q1620 : (Jvm.Cond.laysFinal "BoneYardModel" "BoneYardModel" "measure" "[I") ∈ lw_all := lw_g (lw_at lw_m7 72 rfl) rfl
theorem q1621 : (Jvm.Cond.soleField "BoneYardModel" "measure") ∈ lw_all := lw_g (lw_at lw_m7 73 rfl) rfl
theorem q1622 : (Jvm.Cond.laysFinal "BoneYardModel" "BoneYardModel" "zones" "[I") ∈ lw_all := lw_g (lw_at lw_m7 74 rfl) rfl
theorem q1623 : (Jvm.Cond.soleField "BoneYardModel" "zones") ∈ lw_all := lw_g (lw_at lw_m7 75 rfl) rfl
theorem q1624 : (Jvm.Cond.laysFinal "BoneYardModel" "BoneYardModel" "side" "[I") ∈ lw_all := lw_g (lw_at lw_m7 76 rfl) rfl
theorem q1625 : (Jvm.Cond.soleField "BoneYardModel" "side") ∈ lw_all := lw_g (lw_at lw_m7 77 rfl) rfl
theorem q1626 : (Jvm.Cond.laysFinal "BoneYardModel" "BoneYardModel" "ends" "[I") ∈ lw_all := lw_g (lw_at lw_m7 78 rfl) rfl
theorem q1627 : (Jvm.Cond.soleField "BoneYardModel" "ends") ∈ lw_all := lw_g (lw_at lw_m7 79 rfl) rfl
theorem q1628 : (Jvm.Cond.laysFinal "BoneYardModel" "BoneYardModel" "wear" "[I") ∈ lw_all := lw_g (lw_at lw_m7 80 rfl) rfl
theorem q1629 : (Jvm.Cond.soleField "BoneYardModel" "wear") ∈ lw_all := lw_g (lw_at lw_m7 81 rfl) rfl
theorem q1630 : (Jvm.Cond.laysFinal "BoneYardModel" "BoneYardModel" "isGnawed" "[Z") ∈ lw_all := lw_g (lw_at lw_m7 82 rfl) rfl
theorem q1631 : (Jvm.Cond.soleField "BoneYardModel" "isGnawed") ∈ lw_all := lw_g (lw_at lw_m7 83 rfl) rfl
theorem q1632 : (Jvm.Cond.laysFinal "BoneYardModel" "BoneYardModel" "ageFrom" "[I") ∈ lw_all := lw_g (lw_at lw_m7 84 rfl) rfl
theorem q1633 : (Jvm.Cond.soleField "BoneYardModel" "ageFrom") ∈ lw_all := lw_g (lw_at lw_m7 85 rfl) rfl
theorem q1634 : (Jvm.Cond.laysFinal "BoneYardModel" "BoneYardModel" "shares" "[I") ∈ lw_all := lw_g (lw_at lw_m7 86 rfl) rfl
theorem q1635 : (Jvm.Cond.soleField "BoneYardModel" "shares") ∈ lw_all := lw_g (lw_at lw_m7 87 rfl) rfl
theorem q1636 : (Jvm.Cond.laysFinal "BoneYardModel" "BoneYardModel" "named" "[I") ∈ lw_all := lw_g (lw_at lw_m7 88 rfl) rfl
theorem q1637 : (Jvm.Cond.soleField "BoneYardModel" "named") ∈ lw_all := lw_g (lw_at lw_m7 89 rfl) rfl
theorem q1638 : (Jvm.Cond.laysFinal "BoneYardModel" "BoneYardModel" "stepsOf" "[I") ∈ lw_all := lw_g (lw_at lw_m7 90 rfl) rfl
theorem q1639 : (Jvm.Cond.soleField "BoneYardModel" "stepsOf") ∈ lw_all := lw_g (lw_at lw_m7 91 rfl) rfl
theorem q1640 : (Jvm.Cond.laysFinal "BoneYardModel" "BoneYardModel" "tape" "[B") ∈ lw_all := lw_g (lw_at lw_m7 92 rfl) rfl
theorem q1641 : (Jvm.Cond.soleField "BoneYardModel" "tape") ∈ lw_all := lw_g (lw_at lw_m7 93 rfl) rfl
theorem q1642 : (Jvm.Cond.lays "BoneYardModel" "BoneYardModel" "taped" "I") ∈ lw_all := lw_g (lw_at lw_m7 94 rfl) rfl
theorem q1643 : (Jvm.Cond.soleField "BoneYardModel" "taped") ∈ lw_all := lw_g (lw_at lw_m7 95 rfl) rfl
theorem q1644 : (Jvm.Cond.lays "BoneYardModel" "BoneYardModel" "fault" "I") ∈ lw_all := lw_g (lw_at lw_m7 96 rfl) rfl
theorem q1645 : (Jvm.Cond.soleField "BoneYardModel" "fault") ∈ lw_all := lw_g (lw_at lw_m7 97 rfl) rfl
theorem q1646 : (Jvm.Cond.lays "BoneYardModel" "BoneYardModel" "faultPlace" "I") ∈ lw_all := lw_g (lw_at lw_m7 98 rfl) rfl
theorem q1647 : (Jvm.Cond.soleField "BoneYardModel" "faultPlace") ∈ lw_all := lw_g (lw_at lw_m7 99 rfl) rfl
theorem q1648 : (Jvm.Cond.laysFinal "BoneYardModel" "BoneYardModel" "text" "[B") ∈ lw_all := lw_g (lw_at lw_m7 100 rfl) rfl
theorem q1649 : (Jvm.Cond.soleField "BoneYardModel" "text") ∈ lw_all := lw_g (lw_at lw_m7 101 rfl) rfl
theorem q1650 : (Jvm.Cond.laysFinal "BoneYardModel" "BoneYardModel" "textMany" "[I") ∈ lw_all := lw_g (lw_at lw_m7 102 rfl) rfl
theorem q1651 : (Jvm.Cond.soleField "BoneYardModel" "textMany") ∈ lw_all := lw_g (lw_at lw_m7 103 rfl) rfl
theorem q1652 : (Jvm.Cond.laysFinal "BoneYardModel" "BoneYardModel" "early" "[I") ∈ lw_all := lw_g (lw_at lw_m7 104 rfl) rfl
theorem q1653 : (Jvm.Cond.soleField "BoneYardModel" "early") ∈ lw_all := lw_g (lw_at lw_m7 105 rfl) rfl
theorem q1654 : (Jvm.Cond.laysFinal "BoneYardModel" "BoneYardModel" "late" "[I") ∈ lw_all := lw_g (lw_at lw_m7 106 rfl) rfl
theorem q1655 : (Jvm.Cond.soleField "BoneYardModel" "late") ∈ lw_all := lw_g (lw_at lw_m7 107 rfl) rfl
theorem q1656 : (Jvm.Cond.laysFinal "BoneYardModel" "BoneYardModel" "lies" "[Z") ∈ lw_all := lw_g (lw_at lw_m7 108 rfl) rfl
theorem q1657 : (Jvm.Cond.soleField "BoneYardModel" "lies") ∈ lw_all := lw_g (lw_at lw_m7 109 rfl) rfl
theorem q1658 : (Jvm.Cond.laysFinal "BoneYardModel" "BoneYardModel" "areOne" "[Z") ∈ lw_all := lw_g (lw_at lw_m7 110 rfl) rfl
theorem q1659 : (Jvm.Cond.soleField "BoneYardModel" "areOne") ∈ lw_all := lw_g (lw_at lw_m7 111 rfl) rfl
theorem q1660 : (Jvm.Cond.lays "BoneYardModel" "BoneYardModel" "textRow" "I") ∈ lw_all := lw_g (lw_at lw_m7 112 rfl) rfl
theorem q1661 : (Jvm.Cond.soleField "BoneYardModel" "textRow") ∈ lw_all := lw_g (lw_at lw_m7 113 rfl) rfl
theorem q1662 : (Jvm.Cond.lays "BoneYardModel" "BoneYardModel" "textSize" "I") ∈ lw_all := lw_g (lw_at lw_m7 114 rfl) rfl
theorem q1663 : (Jvm.Cond.soleField "BoneYardModel" "textSize") ∈ lw_all := lw_g (lw_at lw_m7 115 rfl) rfl
theorem q1664 : (Jvm.Cond.lays "BoneYardModel" "BoneYardModel" "next" "I") ∈ lw_all := lw_g (lw_at lw_m7 116 rfl) rfl
theorem q1665 : (Jvm.Cond.soleField "BoneYardModel" "next") ∈ lw_all := lw_g (lw_at lw_m7 117 rfl) rfl
theorem q1666 : (Jvm.Cond.lays "BoneYardModel" "BoneYardModel" "begin" "I") ∈ lw_all := lw_g (lw_at lw_m7 118 rfl) rfl
theorem q1667 : (Jvm.Cond.soleField "BoneYardModel" "begin") ∈ lw_all := lw_g (lw_at lw_m7 119 rfl) rfl
theorem q1668 : (Jvm.Cond.lays "BoneYardModel" "BoneYardModel" "sort" "I") ∈ lw_all := lw_g (lw_at lw_m7 120 rfl) rfl
theorem q1669 : (Jvm.Cond.soleField "BoneYardModel" "sort") ∈ lw_all := lw_g (lw_at lw_m7 121 rfl) rfl
theorem q1670 : (Jvm.Cond.lays "BoneYardModel" "BoneYardModel" "number" "I") ∈ lw_all := lw_g (lw_at lw_m7 122 rfl) rfl
theorem q1671 : (Jvm.Cond.soleField "BoneYardModel" "number") ∈ lw_all := lw_g (lw_at lw_m7 123 rfl) rfl
theorem q1672 : (Jvm.Cond.lays "BoneYardModel" "BoneYardModel" "open" "I") ∈ lw_all := lw_g (lw_at lw_m7 124 rfl) rfl
theorem q1673 : (Jvm.Cond.soleField "BoneYardModel" "open") ∈ lw_all := lw_g (lw_at lw_m7 125 rfl) rfl
theorem q1674 : (Jvm.Cond.lays "BoneYardModel" "BoneYardModel" "told" "I") ∈ lw_all := lw_g (lw_at lw_m7 126 rfl) rfl
theorem q1675 : (Jvm.Cond.soleField "BoneYardModel" "told") ∈ lw_all := lw_g (lw_at lw_m7 127 rfl) rfl
theorem q1676 : (Jvm.Cond.lays "BoneYardModel" "BoneYardModel" "wrong" "I") ∈ lw_all := lw_g (lw_at lw_m7 128 rfl) rfl
theorem q1677 : (Jvm.Cond.soleField "BoneYardModel" "wrong") ∈ lw_all := lw_g (lw_at lw_m7 129 rfl) rfl
theorem q1678 : (Jvm.Cond.lays "BoneYardModel" "BoneYardModel" "wrongPlace" "I") ∈ lw_all := lw_g (lw_at lw_m7 130 rfl) rfl
theorem q1679 : (Jvm.Cond.soleField "BoneYardModel" "wrongPlace") ∈ lw_all := lw_g (lw_at lw_m7 131 rfl) rfl
theorem q1680 : (Jvm.Cond.lays "BoneYardModel" "BoneYardModel" "ofBone" "I") ∈ lw_all := lw_g (lw_at lw_m7 132 rfl) rfl
theorem q1681 : (Jvm.Cond.soleField "BoneYardModel" "ofBone") ∈ lw_all := lw_g (lw_at lw_m7 133 rfl) rfl
theorem q1682 : (Jvm.Cond.lays "BoneYardModel" "BoneYardModel" "step" "I") ∈ lw_all := lw_g (lw_at lw_m7 134 rfl) rfl
theorem q1683 : (Jvm.Cond.soleField "BoneYardModel" "step") ∈ lw_all := lw_g (lw_at lw_m7 135 rfl) rfl
theorem q1684 : (Jvm.Cond.lays "BoneYardModel" "BoneYardModel" "wanted" "I") ∈ lw_all := lw_g (lw_at lw_m7 136 rfl) rfl
theorem q1685 : (Jvm.Cond.soleField "BoneYardModel" "wanted") ∈ lw_all := lw_g (lw_at lw_m7 137 rfl) rfl
theorem q1686 : (Jvm.Cond.lays "BoneYardModel" "BoneYardModel" "found" "I") ∈ lw_all := lw_g (lw_at lw_m7 138 rfl) rfl
theorem q1687 : (Jvm.Cond.soleField "BoneYardModel" "found") ∈ lw_all := lw_g (lw_at lw_m7 139 rfl) rfl
theorem q1688 : (Jvm.Cond.lays "BoneYardModel" "BoneYardModel" "gone" "I") ∈ lw_all := lw_g (lw_at lw_m7 140 rfl) rfl
theorem q1689 : (Jvm.Cond.soleField "BoneYardModel" "gone") ∈ lw_all := lw_g (lw_at lw_m7 141 rfl) rfl
theorem q1690 : (Jvm.Cond.laysFinal "BoneYardModel" "BoneYardModel" "goPlace" "[I") ∈ lw_all := lw_g (lw_at lw_m7 142 rfl) rfl
theorem q1691 : (Jvm.Cond.soleField "BoneYardModel" "goPlace") ∈ lw_all := lw_g (lw_at lw_m7 143 rfl) rfl
theorem q1692 : (Jvm.Cond.laysFinal "BoneYardModel" "BoneYardModel" "goTo" "[I") ∈ lw_all := lw_g (lw_at lw_m7 144 rfl) rfl
theorem q1693 : (Jvm.Cond.soleField "BoneYardModel" "goTo") ∈ lw_all := lw_g (lw_at lw_m7 145 rfl) rfl
theorem q1694 : (Jvm.Cond.laysFinal "BoneYardModel" "BoneYardModel" "stepRow" "[I") ∈ lw_all := lw_g (lw_at lw_m7 146 rfl) rfl
theorem q1695 : (Jvm.Cond.soleField "BoneYardModel" "stepRow") ∈ lw_all := lw_g (lw_at lw_m7 147 rfl) rfl
theorem q1696 : (Jvm.Cond.lays "BoneYardModel" "BoneYardModel" "goMany" "I") ∈ lw_all := lw_g (lw_at lw_m7 148 rfl) rfl
theorem q1697 : (Jvm.Cond.soleField "BoneYardModel" "goMany") ∈ lw_all := lw_g (lw_at lw_m7 149 rfl) rfl
theorem q1698 : (Jvm.Cond.laysFinal "BoneYardModel" "BoneYardModel" "partner" "[I") ∈ lw_all := lw_g (lw_at lw_m7 150 rfl) rfl
theorem q1699 : (Jvm.Cond.soleField "BoneYardModel" "partner") ∈ lw_all := lw_g (lw_at lw_m7 151 rfl) rfl
theorem q1700 : (Jvm.Cond.laysFinal "BoneYardModel" "BoneYardModel" "holds" "[I") ∈ lw_all := lw_g (lw_at lw_m7 152 rfl) rfl
theorem q1701 : (Jvm.Cond.soleField "BoneYardModel" "holds") ∈ lw_all := lw_g (lw_at lw_m7 153 rfl) rfl
theorem q1702 : (Jvm.Cond.laysFinal "BoneYardModel" "BoneYardModel" "row" "[I") ∈ lw_all := lw_g (lw_at lw_m7 154 rfl) rfl
theorem q1703 : (Jvm.Cond.soleField "BoneYardModel" "row") ∈ lw_all := lw_g (lw_at lw_m7 155 rfl) rfl
theorem q1704 : (Jvm.Cond.laysFinal "BoneYardModel" "BoneYardModel" "wasAsked" "[Z") ∈ lw_all := lw_g (lw_at lw_m7 156 rfl) rfl
theorem q1705 : (Jvm.Cond.soleField "BoneYardModel" "wasAsked") ∈ lw_all := lw_g (lw_at lw_m7 157 rfl) rfl
theorem q1706 : (Jvm.Cond.lays "BoneYardModel" "BoneYardModel" "rowMany" "I") ∈ lw_all := lw_g (lw_at lw_m7 158 rfl) rfl
theorem q1707 : (Jvm.Cond.soleField "BoneYardModel" "rowMany") ∈ lw_all := lw_g (lw_at lw_m7 159 rfl) rfl
theorem q1708 : (Jvm.Cond.laysFinal "BoneYardModel" "BoneYardModel" "kept" "[I") ∈ lw_all := lw_g (lw_at lw_m7 160 rfl) rfl
theorem q1709 : (Jvm.Cond.soleField "BoneYardModel" "kept") ∈ lw_all := lw_g (lw_at lw_m7 161 rfl) rfl
theorem q1710 : (Jvm.Cond.lays "BoneYardModel" "BoneYardModel" "least" "I") ∈ lw_all := lw_g (lw_at lw_m7 162 rfl) rfl
theorem q1711 : (Jvm.Cond.soleField "BoneYardModel" "least") ∈ lw_all := lw_g (lw_at lw_m7 163 rfl) rfl
theorem q1712 : (Jvm.Cond.lays "BoneYardModel" "BoneYardModel" "greatest" "I") ∈ lw_all := lw_g (lw_at lw_m7 164 rfl) rfl
theorem q1713 : (Jvm.Cond.soleField "BoneYardModel" "greatest") ∈ lw_all := lw_g (lw_at lw_m7 165 rfl) rfl
theorem q1714 : (Jvm.Cond.laysFinal "BoneYardModel" "BoneYardModel" "spans" "[I") ∈ lw_all := lw_g (lw_at lw_m7 166 rfl) rfl
theorem q1715 : (Jvm.Cond.soleField "BoneYardModel" "spans") ∈ lw_all := lw_g (lw_at lw_m7 167 rfl) rfl
theorem q1716 : (Jvm.Cond.lays "BoneYardModel" "BoneYardModel" "spanMany" "I") ∈ lw_all := lw_g (lw_at lw_m7 168 rfl) rfl
theorem q1717 : (Jvm.Cond.soleField "BoneYardModel" "spanMany") ∈ lw_all := lw_g (lw_at lw_m7 169 rfl) rfl
theorem q1718 : (Jvm.Cond.laysFinal "BoneYardModel" "BoneYardModel" "bottom" "[I") ∈ lw_all := lw_g (lw_at lw_m7 170 rfl) rfl
theorem q1719 : (Jvm.Cond.soleField "BoneYardModel" "bottom") ∈ lw_all := lw_g (lw_at lw_m7 171 rfl) rfl
theorem q1720 : (Jvm.Cond.laysFinal "BoneYardModel" "BoneYardModel" "top" "[I") ∈ lw_all := lw_g (lw_at lw_m7 172 rfl) rfl
theorem q1721 : (Jvm.Cond.soleField "BoneYardModel" "top") ∈ lw_all := lw_g (lw_at lw_m7 173 rfl) rfl
theorem q1722 : (Jvm.Cond.laysFinal "BoneYardModel" "BoneYardModel" "parts" "[I") ∈ lw_all := lw_g (lw_at lw_m7 174 rfl) rfl
theorem q1723 : (Jvm.Cond.soleField "BoneYardModel" "parts") ∈ lw_all := lw_g (lw_at lw_m7 175 rfl) rfl
theorem q1724 : (Jvm.Cond.laysFinal "BoneYardModel" "BoneYardModel" "sizes" "[I") ∈ lw_all := lw_g (lw_at lw_m7 176 rfl) rfl
theorem q1725 : (Jvm.Cond.soleField "BoneYardModel" "sizes") ∈ lw_all := lw_g (lw_at lw_m7 177 rfl) rfl
theorem q1726 : (Jvm.Cond.laysFinal "BoneYardModel" "BoneYardModel" "ranks" "[I") ∈ lw_all := lw_g (lw_at lw_m7 178 rfl) rfl
theorem q1727 : (Jvm.Cond.soleField "BoneYardModel" "ranks") ∈ lw_all := lw_g (lw_at lw_m7 179 rfl) rfl
theorem q1728 : (Jvm.Cond.laysFinal "BoneYardModel" "BoneYardModel" "ways" "[J") ∈ lw_all := lw_g (lw_at lw_m7 180 rfl) rfl
theorem q1729 : (Jvm.Cond.soleField "BoneYardModel" "ways") ∈ lw_all := lw_g (lw_at lw_m7 181 rfl) rfl
theorem q1730 : (Jvm.Cond.superclass "BoneYardModel" "java/lang/Object") ∈ lw_all := lw_g (lw_at lw_m7 182 rfl) rfl
theorem q1732 : (Jvm.Cond.instanceMethod ({ cls := "BoneYardModel", name := "row", desc := "(III)I" } : Jvm.MethodName)) ∈ lw_all := lw_g (lw_at lw_m7 184 rfl) rfl
theorem q1733 : (Jvm.Cond.selects "BoneYardModel" ({ cls := "BoneYardModel", name := "row", desc := "(III)I" } : Jvm.MethodName) ({ cls := "BoneYardModel", name := "row", desc := "(III)I" } : Jvm.MethodName)) ∈ lw_all := lw_g (lw_at lw_m7 185 rfl) rfl
theorem q1734 : (Jvm.Cond.code ({ cls := "BoneYardModel", name := "row", desc := "(III)I" } : Jvm.MethodName) prog_20_method_6_code (5 : Nat) (Option.some Jvm.ClassFile.FieldType.int)) ∈ lw_all := lw_g (lw_at lw_m7 186 rfl) rfl
theorem q1735 : (Jvm.Cond.methodLink "BoneYardModel" (182 : Nat) ({ cls := "BoneYardModel", name := "isPlace", desc := "(I)Z" } : Jvm.MethodName)) ∈ lw_all := lw_g (lw_at lw_m7 187 rfl) rfl
theorem q1736 : (Jvm.Cond.static ({ cls := "BoneYardModel", name := "isPlace", desc := "(I)Z" } : Jvm.MethodName)) ∈ lw_all := lw_g (lw_at lw_m7 188 rfl) rfl
theorem q1737 : (Jvm.Cond.code ({ cls := "BoneYardModel", name := "isPlace", desc := "(I)Z" } : Jvm.MethodName) prog_20_method_4_code (1 : Nat) (Option.some Jvm.ClassFile.FieldType.boolean)) ∈ lw_all := lw_g (lw_at lw_m7 189 rfl) rfl
theorem q1738 : (Jvm.Cond.constantLong "BoneYardModel" (176 : Nat) (3 : Int64)) ∈ lw_all := lw_g (lw_at lw_m7 190 rfl) rfl
theorem q1739 : (Jvm.Cond.methodLink "BoneYardModel" (178 : Nat) ({ cls := "BoneYardModel", name := "in", desc := "(JJJ)Z" } : Jvm.MethodName)) ∈ lw_all := lw_g (lw_at lw_m7 191 rfl) rfl
theorem q1740 : (Jvm.Cond.static ({ cls := "BoneYardModel", name := "in", desc := "(JJJ)Z" } : Jvm.MethodName)) ∈ lw_all := lw_g (lw_at lw_m7 192 rfl) rfl
theorem q1741 : (Jvm.Cond.code ({ cls := "BoneYardModel", name := "in", desc := "(JJJ)Z" } : Jvm.MethodName) prog_20_method_3_code (6 : Nat) (Option.some Jvm.ClassFile.FieldType.boolean)) ∈ lw_all := lw_g (lw_at lw_m7 193 rfl) rfl
theorem q1743 : (Jvm.Cond.instanceMethod ({ cls := "BoneYardModel", name := "tear", desc := "(I)Z" } : Jvm.MethodName)) ∈ lw_all := lw_g (lw_at lw_m7 195 rfl) rfl
theorem q1744 : (Jvm.Cond.selects "BoneYardModel" ({ cls := "BoneYardModel", name := "tear", desc := "(I)Z" } : Jvm.MethodName) ({ cls := "BoneYardModel", name := "tear", desc := "(I)Z" } : Jvm.MethodName)) ∈ lw_all := lw_g (lw_at lw_m7 196 rfl) rfl
theorem q1745 : (Jvm.Cond.code ({ cls := "BoneYardModel", name := "tear", desc := "(I)Z" } : Jvm.MethodName) prog_20_method_7_code (2 : Nat) (Option.some Jvm.ClassFile.FieldType.boolean)) ∈ lw_all := lw_g (lw_at lw_m7 197 rfl) rfl
theorem q1747 : (Jvm.Cond.instanceMethod ({ cls := "BoneYardModel", name := "write", desc := "(IIJ)I" } : Jvm.MethodName)) ∈ lw_all := lw_g (lw_at lw_m7 199 rfl) rfl
theorem q1748 : (Jvm.Cond.selects "BoneYardModel" ({ cls := "BoneYardModel", name := "write", desc := "(IIJ)I" } : Jvm.MethodName) ({ cls := "BoneYardModel", name := "write", desc := "(IIJ)I" } : Jvm.MethodName)) ∈ lw_all := lw_g (lw_at lw_m7 200 rfl) rfl
theorem q1749 : (Jvm.Cond.code ({ cls := "BoneYardModel", name := "write", desc := "(IIJ)I" } : Jvm.MethodName) prog_20_method_8_code (5 : Nat) (Option.some Jvm.ClassFile.FieldType.int)) ∈ lw_all := lw_g (lw_at lw_m7 201 rfl) rfl
theorem q1750 : (Jvm.Cond.methodLink "BoneYardModel" (186 : Nat) ({ cls := "BoneYardModel", name := "cut", desc := "(IJ)J" } : Jvm.MethodName)) ∈ lw_all := lw_g (lw_at lw_m7 202 rfl) rfl
theorem q1751 : (Jvm.Cond.static ({ cls := "BoneYardModel", name := "cut", desc := "(IJ)J" } : Jvm.MethodName)) ∈ lw_all := lw_g (lw_at lw_m7 203 rfl) rfl
theorem q1752 : (Jvm.Cond.code ({ cls := "BoneYardModel", name := "cut", desc := "(IJ)J" } : Jvm.MethodName) prog_20_method_5_code (3 : Nat) (Option.some Jvm.ClassFile.FieldType.long)) ∈ lw_all := lw_g (lw_at lw_m7 204 rfl) rfl
theorem q1754 : (Jvm.Cond.instanceMethod ({ cls := "BoneYardModel", name := "paste", desc := "(IIIII)I" } : Jvm.MethodName)) ∈ lw_all := lw_g (lw_at lw_m7 206 rfl) rfl
theorem q1755 : (Jvm.Cond.selects "BoneYardModel" ({ cls := "BoneYardModel", name := "paste", desc := "(IIIII)I" } : Jvm.MethodName) ({ cls := "BoneYardModel", name := "paste", desc := "(IIIII)I" } : Jvm.MethodName)) ∈ lw_all := lw_g (lw_at lw_m7 207 rfl) rfl
theorem q1756 : (Jvm.Cond.code ({ cls := "BoneYardModel", name := "paste", desc := "(IIIII)I" } : Jvm.MethodName) prog_20_method_9_code (7 : Nat) (Option.some Jvm.ClassFile.FieldType.int)) ∈ lw_all := lw_g (lw_at lw_m7 208 rfl) rfl
theorem q1758 : (Jvm.Cond.instanceMethod ({ cls := "BoneYardModel", name := "terms", desc := "(II)I" } : Jvm.MethodName)) ∈ lw_all := lw_g (lw_at lw_m7 210 rfl) rfl
theorem q1759 : (Jvm.Cond.selects "BoneYardModel" ({ cls := "BoneYardModel", name := "terms", desc := "(II)I" } : Jvm.MethodName) ({ cls := "BoneYardModel", name := "terms", desc := "(II)I" } : Jvm.MethodName)) ∈ lw_all := lw_g (lw_at lw_m7 211 rfl) rfl
theorem q1760 : (Jvm.Cond.code ({ cls := "BoneYardModel", name := "terms", desc := "(II)I" } : Jvm.MethodName) prog_20_method_10_code (3 : Nat) (Option.some Jvm.ClassFile.FieldType.int)) ∈ lw_all := lw_g (lw_at lw_m7 212 rfl) rfl
theorem q1761 : (Jvm.Cond.constantLong "BoneYardModel" (190 : Nat) (50 : Int64)) ∈ lw_all := lw_g (lw_at lw_m7 213 rfl) rfl
theorem q1762 : (Jvm.Cond.constantLong "BoneYardModel" (192 : Nat) (100 : Int64)) ∈ lw_all := lw_g (lw_at lw_m7 214 rfl) rfl
theorem q1764 : (Jvm.Cond.instanceMethod ({ cls := "BoneYardModel", name := "element", desc := "(ZIIII)I" } : Jvm.MethodName)) ∈ lw_all := lw_g (lw_at lw_m7 216 rfl) rfl
theorem q1765 : (Jvm.Cond.selects "BoneYardModel" ({ cls := "BoneYardModel", name := "element", desc := "(ZIIII)I" } : Jvm.MethodName) ({ cls := "BoneYardModel", name := "element", desc := "(ZIIII)I" } : Jvm.MethodName)) ∈ lw_all := lw_g (lw_at lw_m7 217 rfl) rfl
theorem q1766 : (Jvm.Cond.code ({ cls := "BoneYardModel", name := "element", desc := "(ZIIII)I" } : Jvm.MethodName) prog_20_method_11_code (6 : Nat) (Option.some Jvm.ClassFile.FieldType.int)) ∈ lw_all := lw_g (lw_at lw_m7 218 rfl) rfl
theorem q1767 : (Jvm.Cond.constantLong "BoneYardModel" (194 : Nat) (8 : Int64)) ∈ lw_all := lw_g (lw_at lw_m7 219 rfl) rfl
theorem q1768 : (Jvm.Cond.constantLong "BoneYardModel" (196 : Nat) (200 : Int64)) ∈ lw_all := lw_g (lw_at lw_m7 220 rfl) rfl
theorem q1770 : (Jvm.Cond.instanceMethod ({ cls := "BoneYardModel", name := "meat", desc := "(II)I" } : Jvm.MethodName)) ∈ lw_all := lw_g (lw_at lw_m7 222 rfl) rfl
theorem q1771 : (Jvm.Cond.selects "BoneYardModel" ({ cls := "BoneYardModel", name := "meat", desc := "(II)I" } : Jvm.MethodName) ({ cls := "BoneYardModel", name := "meat", desc := "(II)I" } : Jvm.MethodName)) ∈ lw_all := lw_g (lw_at lw_m7 223 rfl) rfl
theorem q1772 : (Jvm.Cond.code ({ cls := "BoneYardModel", name := "meat", desc := "(II)I" } : Jvm.MethodName) prog_20_method_17_code (4 : Nat) (Option.some Jvm.ClassFile.FieldType.int)) ∈ lw_all := lw_g (lw_at lw_m7 224 rfl) rfl
theorem q1773 : (Jvm.Cond.methodLink "BoneYardModel" (212 : Nat) ({ cls := "BoneYardModel", name := "isKind", desc := "(I)Z" } : Jvm.MethodName)) ∈ lw_all := lw_g (lw_at lw_m7 225 rfl) rfl
theorem q1774 : (Jvm.Cond.static ({ cls := "BoneYardModel", name := "isKind", desc := "(I)Z" } : Jvm.MethodName)) ∈ lw_all := lw_g (lw_at lw_m7 226 rfl) rfl
theorem q1775 : (Jvm.Cond.code ({ cls := "BoneYardModel", name := "isKind", desc := "(I)Z" } : Jvm.MethodName) prog_20_method_12_code (1 : Nat) (Option.some Jvm.ClassFile.FieldType.boolean)) ∈ lw_all := lw_g (lw_at lw_m7 227 rfl) rfl
theorem q1776 : (Jvm.Cond.constantLong "BoneYardModel" (201 : Nat) (7 : Int64)) ∈ lw_all := lw_g (lw_at lw_m7 228 rfl) rfl
theorem q1777 : (Jvm.Cond.constantLong "BoneYardModel" (215 : Nat) (1000 : Int64)) ∈ lw_all := lw_g (lw_at lw_m7 229 rfl) rfl
theorem q1779 : (Jvm.Cond.instanceMethod ({ cls := "BoneYardModel", name := "layer", desc := "(I)I" } : Jvm.MethodName)) ∈ lw_all := lw_g (lw_at lw_m7 231 rfl) rfl
theorem q1780 : (Jvm.Cond.selects "BoneYardModel" ({ cls := "BoneYardModel", name := "layer", desc := "(I)I" } : Jvm.MethodName) ({ cls := "BoneYardModel", name := "layer", desc := "(I)I" } : Jvm.MethodName)) ∈ lw_all := lw_g (lw_at lw_m7 232 rfl) rfl
theorem q1781 : (Jvm.Cond.code ({ cls := "BoneYardModel", name := "layer", desc := "(I)I" } : Jvm.MethodName) prog_20_method_18_code (2 : Nat) (Option.some Jvm.ClassFile.FieldType.int)) ∈ lw_all := lw_g (lw_at lw_m7 233 rfl) rfl
theorem q1782 : (Jvm.Cond.constantLong "BoneYardModel" (217 : Nat) (2000 : Int64)) ∈ lw_all := lw_g (lw_at lw_m7 234 rfl) rfl
theorem q1784 : (Jvm.Cond.instanceMethod ({ cls := "BoneYardModel", name := "over", desc := "(II)I" } : Jvm.MethodName)) ∈ lw_all := lw_g (lw_at lw_m7 236 rfl) rfl
theorem q1785 : (Jvm.Cond.selects "BoneYardModel" ({ cls := "BoneYardModel", name := "over", desc := "(II)I" } : Jvm.MethodName) ({ cls := "BoneYardModel", name := "over", desc := "(II)I" } : Jvm.MethodName)) ∈ lw_all := lw_g (lw_at lw_m7 237 rfl) rfl
theorem q1786 : (Jvm.Cond.code ({ cls := "BoneYardModel", name := "over", desc := "(II)I" } : Jvm.MethodName) prog_20_method_23_code (5 : Nat) (Option.some Jvm.ClassFile.FieldType.int)) ∈ lw_all := lw_g (lw_at lw_m7 238 rfl) rfl
theorem q1787 : (Jvm.Cond.methodLink "BoneYardModel" (242 : Nat) ({ cls := "BoneYardModel", name := "isLayer", desc := "(I)Z" } : Jvm.MethodName)) ∈ lw_all := lw_g (lw_at lw_m7 239 rfl) rfl
theorem q1788 : (Jvm.Cond.privateMethod ({ cls := "BoneYardModel", name := "isLayer", desc := "(I)Z" } : Jvm.MethodName)) ∈ lw_tbl := lw_at lw_m8 0 rfl
theorem q1789 : (Jvm.Cond.instanceMethod ({ cls := "BoneYardModel", name := "isLayer", desc := "(I)Z" } : Jvm.MethodName)) ∈ lw_all := lw_g (lw_at lw_m8 1 rfl) rfl
theorem q1790 : (Jvm.Cond.code ({ cls := "BoneYardModel", name := "isLayer", desc := "(I)Z" } : Jvm.MethodName) prog_20_method_14_code (2 : Nat) (Option.some Jvm.ClassFile.FieldType.boolean)) ∈ lw_all := lw_g (lw_at lw_m8 2 rfl) rfl
theorem q1791 : (Jvm.Cond.methodLink "BoneYardModel" (245 : Nat) ({ cls := "BoneYardModel", name := "lays", desc := "()V" } : Jvm.MethodName)) ∈ lw_all := lw_g (lw_at lw_m8 3 rfl) rfl
theorem q1792 : (Jvm.Cond.privateMethod ({ cls := "BoneYardModel", name := "lays", desc := "()V" } : Jvm.MethodName)) ∈ lw_tbl := lw_at lw_m8 4 rfl
theorem q1793 : (Jvm.Cond.instanceMethod ({ cls := "BoneYardModel", name := "lays", desc := "()V" } : Jvm.MethodName)) ∈ lw_all := lw_g (lw_at lw_m8 5 rfl) rfl
theorem q1794 : (Jvm.Cond.code ({ cls := "BoneYardModel", name := "lays", desc := "()V" } : Jvm.MethodName) prog_20_method_21_code (4 : Nat) (Option.none : Option Jvm.ClassFile.FieldType)) ∈ lw_all := lw_g (lw_at lw_m8 6 rfl) rfl
theorem q1795 : (Jvm.Cond.methodLink "BoneYardModel" (238 : Nat) ({ cls := "BoneYardModel", name := "closes", desc := "([Z)V" } : Jvm.MethodName)) ∈ lw_all := lw_g (lw_at lw_m8 7 rfl) rfl
theorem q1796 : (Jvm.Cond.privateMethod ({ cls := "BoneYardModel", name := "closes", desc := "([Z)V" } : Jvm.MethodName)) ∈ lw_tbl := lw_at lw_m8 8 rfl
theorem q1797 : (Jvm.Cond.instanceMethod ({ cls := "BoneYardModel", name := "closes", desc := "([Z)V" } : Jvm.MethodName)) ∈ lw_all := lw_g (lw_at lw_m8 9 rfl) rfl
theorem q1798 : (Jvm.Cond.code ({ cls := "BoneYardModel", name := "closes", desc := "([Z)V" } : Jvm.MethodName) prog_20_method_22_code (5 : Nat) (Option.none : Option Jvm.ClassFile.FieldType)) ∈ lw_all := lw_g (lw_at lw_m8 10 rfl) rfl
theorem q1799 : (Jvm.Cond.methodLink "BoneYardModel" (248 : Nat) ({ cls := "BoneYardModel", name := "dates", desc := "()Z" } : Jvm.MethodName)) ∈ lw_all := lw_g (lw_at lw_m8 11 rfl) rfl
theorem q1800 : (Jvm.Cond.privateMethod ({ cls := "BoneYardModel", name := "dates", desc := "()Z" } : Jvm.MethodName)) ∈ lw_tbl := lw_at lw_m8 12 rfl
theorem q1801 : (Jvm.Cond.instanceMethod ({ cls := "BoneYardModel", name := "dates", desc := "()Z" } : Jvm.MethodName)) ∈ lw_all := lw_g (lw_at lw_m8 13 rfl) rfl
theorem q1802 : (Jvm.Cond.code ({ cls := "BoneYardModel", name := "dates", desc := "()Z" } : Jvm.MethodName) prog_20_method_19_code (5 : Nat) (Option.some Jvm.ClassFile.FieldType.boolean)) ∈ lw_all := lw_g (lw_at lw_m8 14 rfl) rfl
theorem q1803 : (Jvm.Cond.methodLink "BoneYardModel" (222 : Nat) ({ cls := "BoneYardModel", name := "bounds", desc := "(II)Z" } : Jvm.MethodName)) ∈ lw_all := lw_g (lw_at lw_m8 15 rfl) rfl
theorem q1804 : (Jvm.Cond.privateMethod ({ cls := "BoneYardModel", name := "bounds", desc := "(II)Z" } : Jvm.MethodName)) ∈ lw_tbl := lw_at lw_m8 16 rfl
theorem q1805 : (Jvm.Cond.instanceMethod ({ cls := "BoneYardModel", name := "bounds", desc := "(II)Z" } : Jvm.MethodName)) ∈ lw_all := lw_g (lw_at lw_m8 17 rfl) rfl
theorem q1806 : (Jvm.Cond.code ({ cls := "BoneYardModel", name := "bounds", desc := "(II)Z" } : Jvm.MethodName) prog_20_method_20_code (4 : Nat) (Option.some Jvm.ClassFile.FieldType.boolean)) ∈ lw_all := lw_g (lw_at lw_m8 18 rfl) rfl
theorem q1807 : (Jvm.Cond.methodLink "BoneYardModel" (229 : Nat) ({ cls := "java/lang/Math", name := "max", desc := "(II)I" } : Jvm.MethodName)) ∈ lw_all := lw_g (lw_at lw_m8 19 rfl) rfl
theorem q1808 : (Jvm.Cond.methodLink "BoneYardModel" (235 : Nat) ({ cls := "java/lang/Math", name := "min", desc := "(II)I" } : Jvm.MethodName)) ∈ lw_all := lw_g (lw_at lw_m8 20 rfl) rfl
theorem q1810 : (Jvm.Cond.instanceMethod ({ cls := "BoneYardModel", name := "sealed", desc := "(II)I" } : Jvm.MethodName)) ∈ lw_all := lw_g (lw_at lw_m8 22 rfl) rfl
theorem q1811 : (Jvm.Cond.selects "BoneYardModel" ({ cls := "BoneYardModel", name := "sealed", desc := "(II)I" } : Jvm.MethodName) ({ cls := "BoneYardModel", name := "sealed", desc := "(II)I" } : Jvm.MethodName)) ∈ lw_all := lw_g (lw_at lw_m8 23 rfl) rfl
theorem q1812 : (Jvm.Cond.code ({ cls := "BoneYardModel", name := "sealed", desc := "(II)I" } : Jvm.MethodName) prog_20_method_24_code (4 : Nat) (Option.some Jvm.ClassFile.FieldType.int)) ∈ lw_all := lw_g (lw_at lw_m8 24 rfl) rfl
theorem q1814 : (Jvm.Cond.instanceMethod ({ cls := "BoneYardModel", name := "joint", desc := "(II)I" } : Jvm.MethodName)) ∈ lw_all := lw_g (lw_at lw_m8 26 rfl) rfl
theorem q1815 : (Jvm.Cond.selects "BoneYardModel" ({ cls := "BoneYardModel", name := "joint", desc := "(II)I" } : Jvm.MethodName) ({ cls := "BoneYardModel", name := "joint", desc := "(II)I" } : Jvm.MethodName)) ∈ lw_all := lw_g (lw_at lw_m8 27 rfl) rfl
theorem q1816 : (Jvm.Cond.code ({ cls := "BoneYardModel", name := "joint", desc := "(II)I" } : Jvm.MethodName) prog_20_method_25_code (7 : Nat) (Option.some Jvm.ClassFile.FieldType.int)) ∈ lw_all := lw_g (lw_at lw_m8 28 rfl) rfl
theorem q1817 : (Jvm.Cond.methodLink "BoneYardModel" (252 : Nat) ({ cls := "BoneYardModel", name := "isBone", desc := "(I)Z" } : Jvm.MethodName)) ∈ lw_all := lw_g (lw_at lw_m8 29 rfl) rfl
theorem q1818 : (Jvm.Cond.privateMethod ({ cls := "BoneYardModel", name := "isBone", desc := "(I)Z" } : Jvm.MethodName)) ∈ lw_tbl := lw_at lw_m8 30 rfl
theorem q1819 : (Jvm.Cond.instanceMethod ({ cls := "BoneYardModel", name := "isBone", desc := "(I)Z" } : Jvm.MethodName)) ∈ lw_all := lw_g (lw_at lw_m8 31 rfl) rfl
theorem q1820 : (Jvm.Cond.code ({ cls := "BoneYardModel", name := "isBone", desc := "(I)Z" } : Jvm.MethodName) prog_20_method_15_code (2 : Nat) (Option.some Jvm.ClassFile.FieldType.boolean)) ∈ lw_all := lw_g (lw_at lw_m8 32 rfl) rfl
theorem q1822 : (Jvm.Cond.instanceMethod ({ cls := "BoneYardModel", name := "dated", desc := "(II)I" } : Jvm.MethodName)) ∈ lw_all := lw_g (lw_at lw_m8 34 rfl) rfl
theorem q1823 : (Jvm.Cond.selects "BoneYardModel" ({ cls := "BoneYardModel", name := "dated", desc := "(II)I" } : Jvm.MethodName) ({ cls := "BoneYardModel", name := "dated", desc := "(II)I" } : Jvm.MethodName)) ∈ lw_all := lw_g (lw_at lw_m8 35 rfl) rfl
theorem q1824 : (Jvm.Cond.code ({ cls := "BoneYardModel", name := "dated", desc := "(II)I" } : Jvm.MethodName) prog_20_method_26_code (4 : Nat) (Option.some Jvm.ClassFile.FieldType.int)) ∈ lw_all := lw_g (lw_at lw_m8 36 rfl) rfl
theorem q1826 : (Jvm.Cond.instanceMethod ({ cls := "BoneYardModel", name := "older", desc := "(II)I" } : Jvm.MethodName)) ∈ lw_all := lw_g (lw_at lw_m8 38 rfl) rfl
theorem q1827 : (Jvm.Cond.selects "BoneYardModel" ({ cls := "BoneYardModel", name := "older", desc := "(II)I" } : Jvm.MethodName) ({ cls := "BoneYardModel", name := "older", desc := "(II)I" } : Jvm.MethodName)) ∈ lw_all := lw_g (lw_at lw_m8 39 rfl) rfl
theorem q1828 : (Jvm.Cond.code ({ cls := "BoneYardModel", name := "older", desc := "(II)I" } : Jvm.MethodName) prog_20_method_27_code (4 : Nat) (Option.some Jvm.ClassFile.FieldType.int)) ∈ lw_all := lw_g (lw_at lw_m8 40 rfl) rfl
theorem q1830 : (Jvm.Cond.instanceMethod ({ cls := "BoneYardModel", name := "bone", desc := "(IIIIIIZ)I" } : Jvm.MethodName)) ∈ lw_all := lw_g (lw_at lw_m8 42 rfl) rfl
theorem q1831 : (Jvm.Cond.selects "BoneYardModel" ({ cls := "BoneYardModel", name := "bone", desc := "(IIIIIIZ)I" } : Jvm.MethodName) ({ cls := "BoneYardModel", name := "bone", desc := "(IIIIIIZ)I" } : Jvm.MethodName)) ∈ lw_all := lw_g (lw_at lw_m8 43 rfl) rfl
theorem q1832 : (Jvm.Cond.code ({ cls := "BoneYardModel", name := "bone", desc := "(IIIIIIZ)I" } : Jvm.MethodName) prog_20_method_28_code (9 : Nat) (Option.some Jvm.ClassFile.FieldType.int)) ∈ lw_all := lw_g (lw_at lw_m8 44 rfl) rfl
theorem q1833 : (Jvm.Cond.constantLong "BoneYardModel" (255 : Nat) (15 : Int64)) ∈ lw_all := lw_g (lw_at lw_m8 45 rfl) rfl
theorem q1834 : (Jvm.Cond.constantLong "BoneYardModel" (257 : Nat) (2 : Int64)) ∈ lw_all := lw_g (lw_at lw_m8 46 rfl) rfl
theorem q1835 : (Jvm.Cond.constantLong "BoneYardModel" (259 : Nat) (-1 : Int64)) ∈ lw_all := lw_g (lw_at lw_m8 47 rfl) rfl
theorem q1836 : (Jvm.Cond.constantLong "BoneYardModel" (261 : Nat) (9999 : Int64)) ∈ lw_all := lw_g (lw_at lw_m8 48 rfl) rfl
theorem q1837 : (Jvm.Cond.methodLink "BoneYardModel" (263 : Nat) ({ cls := "BoneYardModel", name := "names", desc := "(II)V" } : Jvm.MethodName)) ∈ lw_all := lw_g (lw_at lw_m8 49 rfl) rfl
theorem q1838 : (Jvm.Cond.privateMethod ({ cls := "BoneYardModel", name := "names", desc := "(II)V" } : Jvm.MethodName)) ∈ lw_tbl := lw_at lw_m8 50 rfl
theorem q1839 : (Jvm.Cond.instanceMethod ({ cls := "BoneYardModel", name := "names", desc := "(II)V" } : Jvm.MethodName)) ∈ lw_all := lw_g (lw_at lw_m8 51 rfl) rfl
theorem q1840 : (Jvm.Cond.code ({ cls := "BoneYardModel", name := "names", desc := "(II)V" } : Jvm.MethodName) prog_20_method_52_code (3 : Nat) (Option.none : Option Jvm.ClassFile.FieldType)) ∈ lw_all := lw_g (lw_at lw_m8 52 rfl) rfl
theorem q1841 : (Jvm.Cond.methodLink "BoneYardModel" (411 : Nat) ({ cls := "BoneYardModel", name := "reads", desc := "(II)V" } : Jvm.MethodName)) ∈ lw_all := lw_g (lw_at lw_m8 53 rfl) rfl
theorem q1842 : (Jvm.Cond.privateMethod ({ cls := "BoneYardModel", name := "reads", desc := "(II)V" } : Jvm.MethodName)) ∈ lw_tbl := lw_at lw_m8 54 rfl
theorem q1843 : (Jvm.Cond.instanceMethod ({ cls := "BoneYardModel", name := "reads", desc := "(II)V" } : Jvm.MethodName)) ∈ lw_all := lw_g (lw_at lw_m8 55 rfl) rfl
theorem q1844 : (Jvm.Cond.code ({ cls := "BoneYardModel", name := "reads", desc := "(II)V" } : Jvm.MethodName) prog_20_method_51_code (7 : Nat) (Option.none : Option Jvm.ClassFile.FieldType)) ∈ lw_all := lw_g (lw_at lw_m8 56 rfl) rfl
theorem q1845 : (Jvm.Cond.methodLink "BoneYardModel" (320 : Nat) ({ cls := "BoneYardModel", name := "goesOn", desc := "()V" } : Jvm.MethodName)) ∈ lw_all := lw_g (lw_at lw_m8 57 rfl) rfl
theorem q1846 : (Jvm.Cond.privateMethod ({ cls := "BoneYardModel", name := "goesOn", desc := "()V" } : Jvm.MethodName)) ∈ lw_tbl := lw_at lw_m8 58 rfl
theorem q1847 : (Jvm.Cond.instanceMethod ({ cls := "BoneYardModel", name := "goesOn", desc := "()V" } : Jvm.MethodName)) ∈ lw_all := lw_g (lw_at lw_m8 59 rfl) rfl
theorem q1848 : (Jvm.Cond.code ({ cls := "BoneYardModel", name := "goesOn", desc := "()V" } : Jvm.MethodName) prog_20_method_35_code (2 : Nat) (Option.none : Option Jvm.ClassFile.FieldType)) ∈ lw_all := lw_g (lw_at lw_m8 60 rfl) rfl
theorem q1849 : (Jvm.Cond.methodLink "BoneYardModel" (279 : Nat) ({ cls := "BoneYardModel", name := "see", desc := "(I)I" } : Jvm.MethodName)) ∈ lw_all := lw_g (lw_at lw_m8 61 rfl) rfl
theorem q1850 : (Jvm.Cond.privateMethod ({ cls := "BoneYardModel", name := "see", desc := "(I)I" } : Jvm.MethodName)) ∈ lw_tbl := lw_at lw_m8 62 rfl
theorem q1851 : (Jvm.Cond.instanceMethod ({ cls := "BoneYardModel", name := "see", desc := "(I)I" } : Jvm.MethodName)) ∈ lw_all := lw_g (lw_at lw_m8 63 rfl) rfl
theorem q1852 : (Jvm.Cond.code ({ cls := "BoneYardModel", name := "see", desc := "(I)I" } : Jvm.MethodName) prog_20_method_31_code (2 : Nat) (Option.some Jvm.ClassFile.FieldType.int)) ∈ lw_all := lw_g (lw_at lw_m8 64 rfl) rfl
theorem q1853 : (Jvm.Cond.methodLink "BoneYardModel" (289 : Nat) ({ cls := "BoneYardModel", name := "isLetter", desc := "(I)Z" } : Jvm.MethodName)) ∈ lw_all := lw_g (lw_at lw_m8 65 rfl) rfl
theorem q1854 : (Jvm.Cond.static ({ cls := "BoneYardModel", name := "isLetter", desc := "(I)Z" } : Jvm.MethodName)) ∈ lw_all := lw_g (lw_at lw_m8 66 rfl) rfl
theorem q1855 : (Jvm.Cond.code ({ cls := "BoneYardModel", name := "isLetter", desc := "(I)Z" } : Jvm.MethodName) prog_20_method_32_code (1 : Nat) (Option.some Jvm.ClassFile.FieldType.boolean)) ∈ lw_all := lw_g (lw_at lw_m8 67 rfl) rfl
theorem q1856 : (Jvm.Cond.methodLink "BoneYardModel" (292 : Nat) ({ cls := "BoneYardModel", name := "isDigit", desc := "(I)Z" } : Jvm.MethodName)) ∈ lw_all := lw_g (lw_at lw_m8 68 rfl) rfl
theorem q1857 : (Jvm.Cond.static ({ cls := "BoneYardModel", name := "isDigit", desc := "(I)Z" } : Jvm.MethodName)) ∈ lw_all := lw_g (lw_at lw_m8 69 rfl) rfl
theorem q1858 : (Jvm.Cond.code ({ cls := "BoneYardModel", name := "isDigit", desc := "(I)Z" } : Jvm.MethodName) prog_20_method_33_code (1 : Nat) (Option.some Jvm.ClassFile.FieldType.boolean)) ∈ lw_all := lw_g (lw_at lw_m8 70 rfl) rfl
theorem q1859 : (Jvm.Cond.methodLink "BoneYardModel" (298 : Nat) ({ cls := "BoneYardModel", name := "isSignByte", desc := "(I)Z" } : Jvm.MethodName)) ∈ lw_all := lw_g (lw_at lw_m8 71 rfl) rfl
theorem q1860 : (Jvm.Cond.static ({ cls := "BoneYardModel", name := "isSignByte", desc := "(I)Z" } : Jvm.MethodName)) ∈ lw_all := lw_g (lw_at lw_m8 72 rfl) rfl
theorem q1861 : (Jvm.Cond.code ({ cls := "BoneYardModel", name := "isSignByte", desc := "(I)Z" } : Jvm.MethodName) prog_20_method_34_code (1 : Nat) (Option.some Jvm.ClassFile.FieldType.boolean)) ∈ lw_all := lw_g (lw_at lw_m8 73 rfl) rfl
theorem q1862 : (Jvm.Cond.methodLink "BoneYardModel" (409 : Nat) ({ cls := "BoneYardModel", name := "step", desc := "()V" } : Jvm.MethodName)) ∈ lw_all := lw_g (lw_at lw_m8 74 rfl) rfl
theorem q1863 : (Jvm.Cond.privateMethod ({ cls := "BoneYardModel", name := "step", desc := "()V" } : Jvm.MethodName)) ∈ lw_tbl := lw_at lw_m8 75 rfl
theorem q1864 : (Jvm.Cond.instanceMethod ({ cls := "BoneYardModel", name := "step", desc := "()V" } : Jvm.MethodName)) ∈ lw_all := lw_g (lw_at lw_m8 76 rfl) rfl
theorem q1865 : (Jvm.Cond.code ({ cls := "BoneYardModel", name := "step", desc := "()V" } : Jvm.MethodName) prog_20_method_50_code (4 : Nat) (Option.none : Option Jvm.ClassFile.FieldType)) ∈ lw_all := lw_g (lw_at lw_m8 77 rfl) rfl
theorem q1866 : (Jvm.Cond.methodLink "BoneYardModel" (323 : Nat) ({ cls := "BoneYardModel", name := "bad", desc := "(I)V" } : Jvm.MethodName)) ∈ lw_all := lw_g (lw_at lw_m8 78 rfl) rfl
theorem q1867 : (Jvm.Cond.privateMethod ({ cls := "BoneYardModel", name := "bad", desc := "(I)V" } : Jvm.MethodName)) ∈ lw_tbl := lw_at lw_m8 79 rfl
theorem q1868 : (Jvm.Cond.instanceMethod ({ cls := "BoneYardModel", name := "bad", desc := "(I)V" } : Jvm.MethodName)) ∈ lw_all := lw_g (lw_at lw_m8 80 rfl) rfl
theorem q1869 : (Jvm.Cond.code ({ cls := "BoneYardModel", name := "bad", desc := "(I)V" } : Jvm.MethodName) prog_20_method_36_code (2 : Nat) (Option.none : Option Jvm.ClassFile.FieldType)) ∈ lw_all := lw_g (lw_at lw_m8 81 rfl) rfl
theorem q1870 : (Jvm.Cond.methodLink "BoneYardModel" (334 : Nat) ({ cls := "BoneYardModel", name := "whole", desc := "(II)I" } : Jvm.MethodName)) ∈ lw_all := lw_g (lw_at lw_m8 82 rfl) rfl
theorem q1871 : (Jvm.Cond.privateMethod ({ cls := "BoneYardModel", name := "whole", desc := "(II)I" } : Jvm.MethodName)) ∈ lw_tbl := lw_at lw_m8 83 rfl
theorem q1872 : (Jvm.Cond.instanceMethod ({ cls := "BoneYardModel", name := "whole", desc := "(II)I" } : Jvm.MethodName)) ∈ lw_all := lw_g (lw_at lw_m8 84 rfl) rfl
theorem q1873 : (Jvm.Cond.code ({ cls := "BoneYardModel", name := "whole", desc := "(II)I" } : Jvm.MethodName) prog_20_method_41_code (4 : Nat) (Option.some Jvm.ClassFile.FieldType.int)) ∈ lw_all := lw_g (lw_at lw_m8 85 rfl) rfl
theorem q1874 : (Jvm.Cond.methodLink "BoneYardModel" (350 : Nat) ({ cls := "BoneYardModel", name := "need", desc := "(I)V" } : Jvm.MethodName)) ∈ lw_all := lw_g (lw_at lw_m8 86 rfl) rfl
theorem q1875 : (Jvm.Cond.privateMethod ({ cls := "BoneYardModel", name := "need", desc := "(I)V" } : Jvm.MethodName)) ∈ lw_tbl := lw_at lw_m8 87 rfl
theorem q1876 : (Jvm.Cond.instanceMethod ({ cls := "BoneYardModel", name := "need", desc := "(I)V" } : Jvm.MethodName)) ∈ lw_all := lw_g (lw_at lw_m8 88 rfl) rfl
theorem q1877 : (Jvm.Cond.code ({ cls := "BoneYardModel", name := "need", desc := "(I)V" } : Jvm.MethodName) prog_20_method_39_code (2 : Nat) (Option.none : Option Jvm.ClassFile.FieldType)) ∈ lw_all := lw_g (lw_at lw_m8 89 rfl) rfl
theorem q1878 : (Jvm.Cond.methodLink "BoneYardModel" (317 : Nat) ({ cls := "BoneYardModel", name := "isSign", desc := "(I)Z" } : Jvm.MethodName)) ∈ lw_all := lw_g (lw_at lw_m8 90 rfl) rfl
theorem q1879 : (Jvm.Cond.privateMethod ({ cls := "BoneYardModel", name := "isSign", desc := "(I)Z" } : Jvm.MethodName)) ∈ lw_tbl := lw_at lw_m8 91 rfl
theorem q1880 : (Jvm.Cond.instanceMethod ({ cls := "BoneYardModel", name := "isSign", desc := "(I)Z" } : Jvm.MethodName)) ∈ lw_all := lw_g (lw_at lw_m8 92 rfl) rfl
theorem q1881 : (Jvm.Cond.code ({ cls := "BoneYardModel", name := "isSign", desc := "(I)Z" } : Jvm.MethodName) prog_20_method_37_code (2 : Nat) (Option.some Jvm.ClassFile.FieldType.boolean)) ∈ lw_all := lw_g (lw_at lw_m8 93 rfl) rfl
theorem q1882 : (Jvm.Cond.methodLink "BoneYardModel" (391 : Nat) ({ cls := "BoneYardModel", name := "any", desc := "()Z" } : Jvm.MethodName)) ∈ lw_all := lw_g (lw_at lw_m8 94 rfl) rfl
theorem q1883 : (Jvm.Cond.privateMethod ({ cls := "BoneYardModel", name := "any", desc := "()Z" } : Jvm.MethodName)) ∈ lw_tbl := lw_at lw_m8 95 rfl
theorem q1884 : (Jvm.Cond.instanceMethod ({ cls := "BoneYardModel", name := "any", desc := "()Z" } : Jvm.MethodName)) ∈ lw_all := lw_g (lw_at lw_m8 96 rfl) rfl
theorem q1885 : (Jvm.Cond.code ({ cls := "BoneYardModel", name := "any", desc := "()Z" } : Jvm.MethodName) prog_20_method_48_code (3 : Nat) (Option.some Jvm.ClassFile.FieldType.boolean)) ∈ lw_all := lw_g (lw_at lw_m8 97 rfl) rfl
theorem q1886 : (Jvm.Cond.methodLink "BoneYardModel" (366 : Nat) ({ cls := "BoneYardModel", name := "all", desc := "()Z" } : Jvm.MethodName)) ∈ lw_all := lw_g (lw_at lw_m8 98 rfl) rfl
theorem q1887 : (Jvm.Cond.privateMethod ({ cls := "BoneYardModel", name := "all", desc := "()Z" } : Jvm.MethodName)) ∈ lw_tbl := lw_at lw_m8 99 rfl
theorem q1888 : (Jvm.Cond.instanceMethod ({ cls := "BoneYardModel", name := "all", desc := "()Z" } : Jvm.MethodName)) ∈ lw_all := lw_g (lw_at lw_m8 100 rfl) rfl
theorem q1889 : (Jvm.Cond.code ({ cls := "BoneYardModel", name := "all", desc := "()Z" } : Jvm.MethodName) prog_20_method_47_code (3 : Nat) (Option.some Jvm.ClassFile.FieldType.boolean)) ∈ lw_all := lw_g (lw_at lw_m8 101 rfl) rfl
theorem q1890 : (Jvm.Cond.methodLink "BoneYardModel" (361 : Nat) ({ cls := "BoneYardModel", name := "one", desc := "()Z" } : Jvm.MethodName)) ∈ lw_all := lw_g (lw_at lw_m8 102 rfl) rfl
theorem q1891 : (Jvm.Cond.privateMethod ({ cls := "BoneYardModel", name := "one", desc := "()Z" } : Jvm.MethodName)) ∈ lw_tbl := lw_at lw_m8 103 rfl
theorem q1892 : (Jvm.Cond.instanceMethod ({ cls := "BoneYardModel", name := "one", desc := "()Z" } : Jvm.MethodName)) ∈ lw_all := lw_g (lw_at lw_m8 104 rfl) rfl
theorem q1893 : (Jvm.Cond.code ({ cls := "BoneYardModel", name := "one", desc := "()Z" } : Jvm.MethodName) prog_20_method_46_code (4 : Nat) (Option.some Jvm.ClassFile.FieldType.boolean)) ∈ lw_all := lw_g (lw_at lw_m8 105 rfl) rfl
theorem q1894 : (Jvm.Cond.stringRef "BoneYardModel" (359 : Nat) "not") ∈ lw_tbl := lw_at lw_m8 106 rfl
theorem q1895 : (Jvm.Cond.methodLink "BoneYardModel" (327 : Nat) ({ cls := "BoneYardModel", name := "is", desc := "(Ljava/lang/String;)Z" } : Jvm.MethodName)) ∈ lw_all := lw_g (lw_at lw_m8 107 rfl) rfl
theorem q1896 : (Jvm.Cond.privateMethod ({ cls := "BoneYardModel", name := "is", desc := "(Ljava/lang/String;)Z" } : Jvm.MethodName)) ∈ lw_tbl := lw_at lw_m8 108 rfl
theorem q1897 : (Jvm.Cond.instanceMethod ({ cls := "BoneYardModel", name := "is", desc := "(Ljava/lang/String;)Z" } : Jvm.MethodName)) ∈ lw_all := lw_g (lw_at lw_m8 109 rfl) rfl
theorem q1898 : (Jvm.Cond.code ({ cls := "BoneYardModel", name := "is", desc := "(Ljava/lang/String;)Z" } : Jvm.MethodName) prog_20_method_38_code (4 : Nat) (Option.some Jvm.ClassFile.FieldType.boolean)) ∈ lw_all := lw_g (lw_at lw_m8 110 rfl) rfl
theorem q1899 : (Jvm.Cond.methodLink "BoneYardModel" (307 : Nat) ({ cls := "java/lang/String", name := "length", desc := "()I" } : Jvm.MethodName)) ∈ lw_all := lw_g (lw_at lw_m8 111 rfl) rfl
theorem q1900 : (Jvm.Cond.methodLink "BoneYardModel" (313 : Nat) ({ cls := "java/lang/String", name := "charAt", desc := "(I)C" } : Jvm.MethodName)) ∈ lw_all := lw_g (lw_at lw_m8 112 rfl) rfl
theorem q1901 : (Jvm.Cond.methodLink "BoneYardModel" (344 : Nat) ({ cls := "BoneYardModel", name := "goesIn", desc := "()V" } : Jvm.MethodName)) ∈ lw_all := lw_g (lw_at lw_m8 113 rfl) rfl
theorem q1902 : (Jvm.Cond.privateMethod ({ cls := "BoneYardModel", name := "goesIn", desc := "()V" } : Jvm.MethodName)) ∈ lw_tbl := lw_at lw_m8 114 rfl
theorem q1903 : (Jvm.Cond.instanceMethod ({ cls := "BoneYardModel", name := "goesIn", desc := "()V" } : Jvm.MethodName)) ∈ lw_all := lw_g (lw_at lw_m8 115 rfl) rfl
theorem q1904 : (Jvm.Cond.code ({ cls := "BoneYardModel", name := "goesIn", desc := "()V" } : Jvm.MethodName) prog_20_method_42_code (1 : Nat) (Option.none : Option Jvm.ClassFile.FieldType)) ∈ lw_all := lw_g (lw_at lw_m8 116 rfl) rfl
theorem q1905 : (Jvm.Cond.methodLink "BoneYardModel" (347 : Nat) ({ cls := "BoneYardModel", name := "sum", desc := "()I" } : Jvm.MethodName)) ∈ lw_all := lw_g (lw_at lw_m8 117 rfl) rfl
theorem q1906 : (Jvm.Cond.privateMethod ({ cls := "BoneYardModel", name := "sum", desc := "()I" } : Jvm.MethodName)) ∈ lw_tbl := lw_at lw_m8 118 rfl
theorem q1907 : (Jvm.Cond.instanceMethod ({ cls := "BoneYardModel", name := "sum", desc := "()I" } : Jvm.MethodName)) ∈ lw_all := lw_g (lw_at lw_m8 119 rfl) rfl
theorem q1908 : (Jvm.Cond.code ({ cls := "BoneYardModel", name := "sum", desc := "()I" } : Jvm.MethodName) prog_20_method_45_code (4 : Nat) (Option.some Jvm.ClassFile.FieldType.int)) ∈ lw_all := lw_g (lw_at lw_m8 120 rfl) rfl
theorem q1909 : (Jvm.Cond.methodLink "BoneYardModel" (356 : Nat) ({ cls := "BoneYardModel", name := "term", desc := "()I" } : Jvm.MethodName)) ∈ lw_all := lw_g (lw_at lw_m8 121 rfl) rfl
theorem q1910 : (Jvm.Cond.privateMethod ({ cls := "BoneYardModel", name := "term", desc := "()I" } : Jvm.MethodName)) ∈ lw_tbl := lw_at lw_m8 122 rfl
theorem q1911 : (Jvm.Cond.instanceMethod ({ cls := "BoneYardModel", name := "term", desc := "()I" } : Jvm.MethodName)) ∈ lw_all := lw_g (lw_at lw_m8 123 rfl) rfl
theorem q1912 : (Jvm.Cond.code ({ cls := "BoneYardModel", name := "term", desc := "()I" } : Jvm.MethodName) prog_20_method_44_code (2 : Nat) (Option.some Jvm.ClassFile.FieldType.int)) ∈ lw_all := lw_g (lw_at lw_m8 124 rfl) rfl
theorem q1913 : (Jvm.Cond.methodLink "BoneYardModel" (353 : Nat) ({ cls := "BoneYardModel", name := "factor", desc := "()I" } : Jvm.MethodName)) ∈ lw_all := lw_g (lw_at lw_m8 125 rfl) rfl
theorem q1914 : (Jvm.Cond.privateMethod ({ cls := "BoneYardModel", name := "factor", desc := "()I" } : Jvm.MethodName)) ∈ lw_tbl := lw_at lw_m8 126 rfl
theorem q1915 : (Jvm.Cond.instanceMethod ({ cls := "BoneYardModel", name := "factor", desc := "()I" } : Jvm.MethodName)) ∈ lw_all := lw_g (lw_at lw_m8 127 rfl) rfl
theorem q1916 : (Jvm.Cond.code ({ cls := "BoneYardModel", name := "factor", desc := "()I" } : Jvm.MethodName) prog_20_method_43_code (4 : Nat) (Option.some Jvm.ClassFile.FieldType.int)) ∈ lw_all := lw_g (lw_at lw_m8 128 rfl) rfl
theorem q1917 : (Jvm.Cond.stringRef "BoneYardModel" (337 : Nat) "side") ∈ lw_tbl := lw_at lw_m8 129 rfl
theorem q1918 : (Jvm.Cond.stringRef "BoneYardModel" (338 : Nat) "zones") ∈ lw_tbl := lw_at lw_m8 130 rfl
theorem q1919 : (Jvm.Cond.stringRef "BoneYardModel" (339 : Nat) "ends") ∈ lw_tbl := lw_at lw_m8 131 rfl
theorem q1920 : (Jvm.Cond.stringRef "BoneYardModel" (340 : Nat) "wear") ∈ lw_tbl := lw_at lw_m8 132 rfl
theorem q1921 : (Jvm.Cond.stringRef "BoneYardModel" (364 : Nat) "and") ∈ lw_tbl := lw_at lw_m8 133 rfl
theorem q1922 : (Jvm.Cond.stringRef "BoneYardModel" (369 : Nat) "or") ∈ lw_tbl := lw_at lw_m8 134 rfl
theorem q1923 : (Jvm.Cond.stringRef "BoneYardModel" (397 : Nat) "then") ∈ lw_tbl := lw_at lw_m8 135 rfl
theorem q1924 : (Jvm.Cond.methodLink "BoneYardModel" (399 : Nat) ({ cls := "BoneYardModel", name := "needWord", desc := "(Ljava/lang/String;)V" } : Jvm.MethodName)) ∈ lw_all := lw_g (lw_at lw_m8 136 rfl) rfl
theorem q1925 : (Jvm.Cond.privateMethod ({ cls := "BoneYardModel", name := "needWord", desc := "(Ljava/lang/String;)V" } : Jvm.MethodName)) ∈ lw_tbl := lw_at lw_m8 137 rfl
theorem q1926 : (Jvm.Cond.instanceMethod ({ cls := "BoneYardModel", name := "needWord", desc := "(Ljava/lang/String;)V" } : Jvm.MethodName)) ∈ lw_all := lw_g (lw_at lw_m8 138 rfl) rfl
theorem q1927 : (Jvm.Cond.code ({ cls := "BoneYardModel", name := "needWord", desc := "(Ljava/lang/String;)V" } : Jvm.MethodName) prog_20_method_40_code (2 : Nat) (Option.none : Option Jvm.ClassFile.FieldType)) ∈ lw_all := lw_g (lw_at lw_m8 139 rfl) rfl
theorem q1928 : (Jvm.Cond.methodLink "BoneYardModel" (403 : Nat) ({ cls := "BoneYardModel", name := "goal", desc := "(Z)V" } : Jvm.MethodName)) ∈ lw_all := lw_g (lw_at lw_m8 140 rfl) rfl
theorem q1929 : (Jvm.Cond.privateMethod ({ cls := "BoneYardModel", name := "goal", desc := "(Z)V" } : Jvm.MethodName)) ∈ lw_tbl := lw_at lw_m8 141 rfl
theorem q1930 : (Jvm.Cond.instanceMethod ({ cls := "BoneYardModel", name := "goal", desc := "(Z)V" } : Jvm.MethodName)) ∈ lw_all := lw_g (lw_at lw_m8 142 rfl) rfl
theorem q1931 : (Jvm.Cond.code ({ cls := "BoneYardModel", name := "goal", desc := "(Z)V" } : Jvm.MethodName) prog_20_method_49_code (4 : Nat) (Option.none : Option Jvm.ClassFile.FieldType)) ∈ lw_all := lw_g (lw_at lw_m8 143 rfl) rfl
theorem q1932 : (Jvm.Cond.stringRef "BoneYardModel" (371 : Nat) "none") ∈ lw_tbl := lw_at lw_m8 144 rfl
theorem q1933 : (Jvm.Cond.stringRef "BoneYardModel" (376 : Nat) "go") ∈ lw_tbl := lw_at lw_m8 145 rfl
theorem q1934 : (Jvm.Cond.stringRef "BoneYardModel" (384 : Nat) "is") ∈ lw_tbl := lw_at lw_m8 146 rfl
theorem q1935 : (Jvm.Cond.stringRef "BoneYardModel" (407 : Nat) "else") ∈ lw_tbl := lw_at lw_m8 147 rfl
theorem q1937 : (Jvm.Cond.instanceMethod ({ cls := "BoneYardModel", name := "feed", desc := "(IIIII)I" } : Jvm.MethodName)) ∈ lw_all := lw_g (lw_at lw_m8 149 rfl) rfl
theorem q1938 : (Jvm.Cond.selects "BoneYardModel" ({ cls := "BoneYardModel", name := "feed", desc := "(IIIII)I" } : Jvm.MethodName) ({ cls := "BoneYardModel", name := "feed", desc := "(IIIII)I" } : Jvm.MethodName)) ∈ lw_all := lw_g (lw_at lw_m8 150 rfl) rfl
theorem q1939 : (Jvm.Cond.code ({ cls := "BoneYardModel", name := "feed", desc := "(IIIII)I" } : Jvm.MethodName) prog_20_method_29_code (8 : Nat) (Option.some Jvm.ClassFile.FieldType.int)) ∈ lw_all := lw_g (lw_at lw_m8 151 rfl) rfl
theorem q1941 : (Jvm.Cond.instanceMethod ({ cls := "BoneYardModel", name := "end", desc := "(I)I" } : Jvm.MethodName)) ∈ lw_all := lw_g (lw_at lw_m8 153 rfl) rfl
theorem q1942 : (Jvm.Cond.selects "BoneYardModel" ({ cls := "BoneYardModel", name := "end", desc := "(I)I" } : Jvm.MethodName) ({ cls := "BoneYardModel", name := "end", desc := "(I)I" } : Jvm.MethodName)) ∈ lw_all := lw_g (lw_at lw_m8 154 rfl) rfl
theorem q1943 : (Jvm.Cond.code ({ cls := "BoneYardModel", name := "end", desc := "(I)I" } : Jvm.MethodName) prog_20_method_30_code (2 : Nat) (Option.some Jvm.ClassFile.FieldType.int)) ∈ lw_all := lw_g (lw_at lw_m8 155 rfl) rfl
theorem q1945 : (Jvm.Cond.instanceMethod ({ cls := "BoneYardModel", name := "key", desc := "()I" } : Jvm.MethodName)) ∈ lw_all := lw_g (lw_at lw_m8 157 rfl) rfl
theorem q1946 : (Jvm.Cond.selects "BoneYardModel" ({ cls := "BoneYardModel", name := "key", desc := "()I" } : Jvm.MethodName) ({ cls := "BoneYardModel", name := "key", desc := "()I" } : Jvm.MethodName)) ∈ lw_all := lw_g (lw_at lw_m8 158 rfl) rfl
theorem q1947 : (Jvm.Cond.code ({ cls := "BoneYardModel", name := "key", desc := "()I" } : Jvm.MethodName) prog_20_method_53_code (2 : Nat) (Option.some Jvm.ClassFile.FieldType.int)) ∈ lw_all := lw_g (lw_at lw_m8 159 rfl) rfl
theorem q1949 : (Jvm.Cond.instanceMethod ({ cls := "BoneYardModel", name := "fault", desc := "(I)I" } : Jvm.MethodName)) ∈ lw_all := lw_g (lw_at lw_m8 161 rfl) rfl
theorem q1950 : (Jvm.Cond.selects "BoneYardModel" ({ cls := "BoneYardModel", name := "fault", desc := "(I)I" } : Jvm.MethodName) ({ cls := "BoneYardModel", name := "fault", desc := "(I)I" } : Jvm.MethodName)) ∈ lw_all := lw_g (lw_at lw_m8 162 rfl) rfl
theorem q1951 : (Jvm.Cond.code ({ cls := "BoneYardModel", name := "fault", desc := "(I)I" } : Jvm.MethodName) prog_20_method_54_code (2 : Nat) (Option.some Jvm.ClassFile.FieldType.int)) ∈ lw_all := lw_g (lw_at lw_m8 163 rfl) rfl
theorem q1953 : (Jvm.Cond.instanceMethod ({ cls := "BoneYardModel", name := "named", desc := "(II)I" } : Jvm.MethodName)) ∈ lw_all := lw_g (lw_at lw_m8 165 rfl) rfl
theorem q1954 : (Jvm.Cond.selects "BoneYardModel" ({ cls := "BoneYardModel", name := "named", desc := "(II)I" } : Jvm.MethodName) ({ cls := "BoneYardModel", name := "named", desc := "(II)I" } : Jvm.MethodName)) ∈ lw_all := lw_g (lw_at lw_m8 166 rfl) rfl
theorem q1955 : (Jvm.Cond.code ({ cls := "BoneYardModel", name := "named", desc := "(II)I" } : Jvm.MethodName) prog_20_method_55_code (3 : Nat) (Option.some Jvm.ClassFile.FieldType.int)) ∈ lw_all := lw_g (lw_at lw_m8 167 rfl) rfl
theorem q1956 : (Jvm.Cond.methodLink "BoneYardModel" (414 : Nat) ({ cls := "BoneYardModel", name := "isKey", desc := "(I)Z" } : Jvm.MethodName)) ∈ lw_all := lw_g (lw_at lw_m8 168 rfl) rfl
theorem q1957 : (Jvm.Cond.privateMethod ({ cls := "BoneYardModel", name := "isKey", desc := "(I)Z" } : Jvm.MethodName)) ∈ lw_tbl := lw_at lw_m8 169 rfl
theorem q1958 : (Jvm.Cond.instanceMethod ({ cls := "BoneYardModel", name := "isKey", desc := "(I)Z" } : Jvm.MethodName)) ∈ lw_all := lw_g (lw_at lw_m8 170 rfl) rfl
theorem q1959 : (Jvm.Cond.code ({ cls := "BoneYardModel", name := "isKey", desc := "(I)Z" } : Jvm.MethodName) prog_20_method_16_code (2 : Nat) (Option.some Jvm.ClassFile.FieldType.boolean)) ∈ lw_all := lw_g (lw_at lw_m8 171 rfl) rfl
theorem q1961 : (Jvm.Cond.instanceMethod ({ cls := "BoneYardModel", name := "steps", desc := "(II)I" } : Jvm.MethodName)) ∈ lw_all := lw_g (lw_at lw_m8 173 rfl) rfl
theorem q1962 : (Jvm.Cond.selects "BoneYardModel" ({ cls := "BoneYardModel", name := "steps", desc := "(II)I" } : Jvm.MethodName) ({ cls := "BoneYardModel", name := "steps", desc := "(II)I" } : Jvm.MethodName)) ∈ lw_all := lw_g (lw_at lw_m8 174 rfl) rfl
theorem q1963 : (Jvm.Cond.code ({ cls := "BoneYardModel", name := "steps", desc := "(II)I" } : Jvm.MethodName) prog_20_method_56_code (3 : Nat) (Option.some Jvm.ClassFile.FieldType.int)) ∈ lw_all := lw_g (lw_at lw_m8 175 rfl) rfl
theorem q1965 : (Jvm.Cond.instanceMethod ({ cls := "BoneYardModel", name := "alike", desc := "(III)I" } : Jvm.MethodName)) ∈ lw_all := lw_g (lw_at lw_m8 177 rfl) rfl
theorem q1966 : (Jvm.Cond.selects "BoneYardModel" ({ cls := "BoneYardModel", name := "alike", desc := "(III)I" } : Jvm.MethodName) ({ cls := "BoneYardModel", name := "alike", desc := "(III)I" } : Jvm.MethodName)) ∈ lw_all := lw_g (lw_at lw_m8 178 rfl) rfl
theorem q1967 : (Jvm.Cond.code ({ cls := "BoneYardModel", name := "alike", desc := "(III)I" } : Jvm.MethodName) prog_20_method_57_code (9 : Nat) (Option.some Jvm.ClassFile.FieldType.int)) ∈ lw_all := lw_g (lw_at lw_m8 179 rfl) rfl
theorem q1968 : (Jvm.Cond.constantLong "BoneYardModel" (417 : Nat) (4 : Int64)) ∈ lw_all := lw_g (lw_at lw_m8 180 rfl) rfl
theorem q1970 : (Jvm.Cond.instanceMethod ({ cls := "BoneYardModel", name := "beasts", desc := "(IIIII)I" } : Jvm.MethodName)) ∈ lw_all := lw_g (lw_at lw_m8 182 rfl) rfl
theorem q1971 : (Jvm.Cond.selects "BoneYardModel" ({ cls := "BoneYardModel", name := "beasts", desc := "(IIIII)I" } : Jvm.MethodName) ({ cls := "BoneYardModel", name := "beasts", desc := "(IIIII)I" } : Jvm.MethodName)) ∈ lw_all := lw_g (lw_at lw_m8 183 rfl) rfl
theorem q1972 : (Jvm.Cond.code ({ cls := "BoneYardModel", name := "beasts", desc := "(IIIII)I" } : Jvm.MethodName) prog_20_method_69_code (8 : Nat) (Option.some Jvm.ClassFile.FieldType.int)) ∈ lw_all := lw_g (lw_at lw_m8 184 rfl) rfl
theorem q1973 : (Jvm.Cond.methodLink "BoneYardModel" (452 : Nat) ({ cls := "BoneYardModel", name := "isAsked", desc := "(IIII)Z" } : Jvm.MethodName)) ∈ lw_all := lw_g (lw_at lw_m8 185 rfl) rfl
theorem q1974 : (Jvm.Cond.privateMethod ({ cls := "BoneYardModel", name := "isAsked", desc := "(IIII)Z" } : Jvm.MethodName)) ∈ lw_tbl := lw_at lw_m8 186 rfl
theorem q1975 : (Jvm.Cond.instanceMethod ({ cls := "BoneYardModel", name := "isAsked", desc := "(IIII)Z" } : Jvm.MethodName)) ∈ lw_all := lw_g (lw_at lw_m8 187 rfl) rfl
theorem q1976 : (Jvm.Cond.code ({ cls := "BoneYardModel", name := "isAsked", desc := "(IIII)Z" } : Jvm.MethodName) prog_20_method_58_code (5 : Nat) (Option.some Jvm.ClassFile.FieldType.boolean)) ∈ lw_all := lw_g (lw_at lw_m8 188 rfl) rfl
theorem q1977 : (Jvm.Cond.methodLink "BoneYardModel" (456 : Nat) ({ cls := "BoneYardModel", name := "alone", desc := "()V" } : Jvm.MethodName)) ∈ lw_all := lw_g (lw_at lw_m8 189 rfl) rfl
theorem q1978 : (Jvm.Cond.privateMethod ({ cls := "BoneYardModel", name := "alone", desc := "()V" } : Jvm.MethodName)) ∈ lw_tbl := lw_at lw_m8 190 rfl
theorem q1979 : (Jvm.Cond.instanceMethod ({ cls := "BoneYardModel", name := "alone", desc := "()V" } : Jvm.MethodName)) ∈ lw_all := lw_g (lw_at lw_m8 191 rfl) rfl
theorem q1980 : (Jvm.Cond.code ({ cls := "BoneYardModel", name := "alone", desc := "()V" } : Jvm.MethodName) prog_20_method_68_code (2 : Nat) (Option.none : Option Jvm.ClassFile.FieldType)) ∈ lw_all := lw_g (lw_at lw_m8 192 rfl) rfl
theorem q1981 : (Jvm.Cond.methodLink "BoneYardModel" (448 : Nat) ({ cls := "BoneYardModel", name := "byPairs", desc := "(IIII)I" } : Jvm.MethodName)) ∈ lw_all := lw_g (lw_at lw_m8 193 rfl) rfl
theorem q1982 : (Jvm.Cond.privateMethod ({ cls := "BoneYardModel", name := "byPairs", desc := "(IIII)I" } : Jvm.MethodName)) ∈ lw_tbl := lw_at lw_m8 194 rfl
theorem q1983 : (Jvm.Cond.instanceMethod ({ cls := "BoneYardModel", name := "byPairs", desc := "(IIII)I" } : Jvm.MethodName)) ∈ lw_all := lw_g (lw_at lw_m8 195 rfl) rfl
theorem q1984 : (Jvm.Cond.code ({ cls := "BoneYardModel", name := "byPairs", desc := "(IIII)I" } : Jvm.MethodName) prog_20_method_66_code (9 : Nat) (Option.some Jvm.ClassFile.FieldType.int)) ∈ lw_all := lw_g (lw_at lw_m8 196 rfl) rfl
theorem q1985 : (Jvm.Cond.methodLink "BoneYardModel" (438 : Nat) ({ cls := "BoneYardModel", name := "makesPairs", desc := "(I)Z" } : Jvm.MethodName)) ∈ lw_all := lw_g (lw_at lw_m8 197 rfl) rfl
theorem q1986 : (Jvm.Cond.privateMethod ({ cls := "BoneYardModel", name := "makesPairs", desc := "(I)Z" } : Jvm.MethodName)) ∈ lw_tbl := lw_at lw_m8 198 rfl
theorem q1987 : (Jvm.Cond.instanceMethod ({ cls := "BoneYardModel", name := "makesPairs", desc := "(I)Z" } : Jvm.MethodName)) ∈ lw_all := lw_g (lw_at lw_m8 199 rfl) rfl
theorem q1988 : (Jvm.Cond.code ({ cls := "BoneYardModel", name := "makesPairs", desc := "(I)Z" } : Jvm.MethodName) prog_20_method_64_code (2 : Nat) (Option.some Jvm.ClassFile.FieldType.boolean)) ∈ lw_all := lw_g (lw_at lw_m8 200 rfl) rfl
theorem q1989 : (Jvm.Cond.methodLink "BoneYardModel" (441 : Nat) ({ cls := "BoneYardModel", name := "pairs", desc := "(IIIII)I" } : Jvm.MethodName)) ∈ lw_all := lw_g (lw_at lw_m8 201 rfl) rfl
theorem q1990 : (Jvm.Cond.privateMethod ({ cls := "BoneYardModel", name := "pairs", desc := "(IIIII)I" } : Jvm.MethodName)) ∈ lw_tbl := lw_at lw_m8 202 rfl
theorem q1991 : (Jvm.Cond.instanceMethod ({ cls := "BoneYardModel", name := "pairs", desc := "(IIIII)I" } : Jvm.MethodName)) ∈ lw_all := lw_g (lw_at lw_m8 203 rfl) rfl
theorem q1992 : (Jvm.Cond.code ({ cls := "BoneYardModel", name := "pairs", desc := "(IIIII)I" } : Jvm.MethodName) prog_20_method_65_code (9 : Nat) (Option.some Jvm.ClassFile.FieldType.int)) ∈ lw_all := lw_g (lw_at lw_m8 204 rfl) rfl
theorem q1993 : (Jvm.Cond.methodLink "BoneYardModel" (419 : Nat) ({ cls := "BoneYardModel", name := "isOf", desc := "(IIIII)Z" } : Jvm.MethodName)) ∈ lw_all := lw_g (lw_at lw_m8 205 rfl) rfl
theorem q1994 : (Jvm.Cond.privateMethod ({ cls := "BoneYardModel", name := "isOf", desc := "(IIIII)Z" } : Jvm.MethodName)) ∈ lw_tbl := lw_at lw_m8 206 rfl
theorem q1995 : (Jvm.Cond.instanceMethod ({ cls := "BoneYardModel", name := "isOf", desc := "(IIIII)Z" } : Jvm.MethodName)) ∈ lw_all := lw_g (lw_at lw_m8 207 rfl) rfl
theorem q1996 : (Jvm.Cond.code ({ cls := "BoneYardModel", name := "isOf", desc := "(IIIII)Z" } : Jvm.MethodName) prog_20_method_59_code (6 : Nat) (Option.some Jvm.ClassFile.FieldType.boolean)) ∈ lw_all := lw_g (lw_at lw_m8 208 rfl) rfl
theorem q1997 : (Jvm.Cond.methodLink "BoneYardModel" (435 : Nat) ({ cls := "BoneYardModel", name := "takes", desc := "(I)Z" } : Jvm.MethodName)) ∈ lw_all := lw_g (lw_at lw_m8 209 rfl) rfl
theorem q1998 : (Jvm.Cond.privateMethod ({ cls := "BoneYardModel", name := "takes", desc := "(I)Z" } : Jvm.MethodName)) ∈ lw_tbl := lw_at lw_m8 210 rfl
theorem q1999 : (Jvm.Cond.instanceMethod ({ cls := "BoneYardModel", name := "takes", desc := "(I)Z" } : Jvm.MethodName)) ∈ lw_all := lw_g (lw_at lw_m8 211 rfl) rfl
theorem q2000 : (Jvm.Cond.code ({ cls := "BoneYardModel", name := "takes", desc := "(I)Z" } : Jvm.MethodName) prog_20_method_63_code (4 : Nat) (Option.some Jvm.ClassFile.FieldType.boolean)) ∈ lw_all := lw_g (lw_at lw_m8 212 rfl) rfl
theorem q2001 : (Jvm.Cond.methodLink "BoneYardModel" (433 : Nat) ({ cls := "BoneYardModel", name := "go", desc := "(II)Z" } : Jvm.MethodName)) ∈ lw_all := lw_g (lw_at lw_m8 213 rfl) rfl
theorem q2002 : (Jvm.Cond.privateMethod ({ cls := "BoneYardModel", name := "go", desc := "(II)Z" } : Jvm.MethodName)) ∈ lw_tbl := lw_at lw_m8 214 rfl
theorem q2003 : (Jvm.Cond.instanceMethod ({ cls := "BoneYardModel", name := "go", desc := "(II)Z" } : Jvm.MethodName)) ∈ lw_all := lw_g (lw_at lw_m8 215 rfl) rfl
theorem q2004 : (Jvm.Cond.code ({ cls := "BoneYardModel", name := "go", desc := "(II)Z" } : Jvm.MethodName) prog_20_method_62_code (3 : Nat) (Option.some Jvm.ClassFile.FieldType.boolean)) ∈ lw_all := lw_g (lw_at lw_m8 216 rfl) rfl
theorem q2005 : (Jvm.Cond.methodLink "BoneYardModel" (427 : Nat) ({ cls := "java/lang/Math", name := "abs", desc := "(I)I" } : Jvm.MethodName)) ∈ lw_all := lw_g (lw_at lw_m8 217 rfl) rfl
theorem q2006 : (Jvm.Cond.methodLink "BoneYardModel" (445 : Nat) ({ cls := "BoneYardModel", name := "byZones", desc := "(IIIII)I" } : Jvm.MethodName)) ∈ lw_all := lw_g (lw_at lw_m8 218 rfl) rfl
theorem q2007 : (Jvm.Cond.privateMethod ({ cls := "BoneYardModel", name := "byZones", desc := "(IIIII)I" } : Jvm.MethodName)) ∈ lw_tbl := lw_at lw_m8 219 rfl
theorem q2008 : (Jvm.Cond.instanceMethod ({ cls := "BoneYardModel", name := "byZones", desc := "(IIIII)I" } : Jvm.MethodName)) ∈ lw_all := lw_g (lw_at lw_m8 220 rfl) rfl
theorem q2009 : (Jvm.Cond.code ({ cls := "BoneYardModel", name := "byZones", desc := "(IIIII)I" } : Jvm.MethodName) prog_20_method_61_code (10 : Nat) (Option.some Jvm.ClassFile.FieldType.int)) ∈ lw_all := lw_g (lw_at lw_m8 221 rfl) rfl
theorem q2010 : (Jvm.Cond.methodLink "BoneYardModel" (423 : Nat) ({ cls := "BoneYardModel", name := "zoned", desc := "(IIIIIZ)I" } : Jvm.MethodName)) ∈ lw_all := lw_g (lw_at lw_m8 222 rfl) rfl
theorem q2011 : (Jvm.Cond.privateMethod ({ cls := "BoneYardModel", name := "zoned", desc := "(IIIIIZ)I" } : Jvm.MethodName)) ∈ lw_tbl := lw_at lw_m8 223 rfl
theorem q2012 : (Jvm.Cond.instanceMethod ({ cls := "BoneYardModel", name := "zoned", desc := "(IIIIIZ)I" } : Jvm.MethodName)) ∈ lw_all := lw_g (lw_at lw_m8 224 rfl) rfl
theorem q2013 : (Jvm.Cond.code ({ cls := "BoneYardModel", name := "zoned", desc := "(IIIIIZ)I" } : Jvm.MethodName) prog_20_method_60_code (11 : Nat) (Option.some Jvm.ClassFile.FieldType.int)) ∈ lw_all := lw_g (lw_at lw_m8 225 rfl) rfl
theorem q2015 : (Jvm.Cond.instanceMethod ({ cls := "BoneYardModel", name := "bones", desc := "(IIIIII)I" } : Jvm.MethodName)) ∈ lw_all := lw_g (lw_at lw_m8 227 rfl) rfl
theorem q2016 : (Jvm.Cond.selects "BoneYardModel" ({ cls := "BoneYardModel", name := "bones", desc := "(IIIIII)I" } : Jvm.MethodName) ({ cls := "BoneYardModel", name := "bones", desc := "(IIIIII)I" } : Jvm.MethodName)) ∈ lw_all := lw_g (lw_at lw_m8 228 rfl) rfl
theorem q2017 : (Jvm.Cond.code ({ cls := "BoneYardModel", name := "bones", desc := "(IIIIII)I" } : Jvm.MethodName) prog_20_method_70_code (7 : Nat) (Option.some Jvm.ClassFile.FieldType.int)) ∈ lw_all := lw_g (lw_at lw_m8 229 rfl) rfl
theorem q2018 : (Jvm.Cond.methodLink "BoneYardModel" (459 : Nat) ({ cls := "BoneYardModel", name := "isElement", desc := "(I)Z" } : Jvm.MethodName)) ∈ lw_all := lw_g (lw_at lw_m8 230 rfl) rfl
theorem q2019 : (Jvm.Cond.privateMethod ({ cls := "BoneYardModel", name := "isElement", desc := "(I)Z" } : Jvm.MethodName)) ∈ lw_tbl := lw_at lw_m8 231 rfl
theorem q2020 : (Jvm.Cond.instanceMethod ({ cls := "BoneYardModel", name := "isElement", desc := "(I)Z" } : Jvm.MethodName)) ∈ lw_all := lw_g (lw_at lw_m8 232 rfl) rfl
theorem q2021 : (Jvm.Cond.code ({ cls := "BoneYardModel", name := "isElement", desc := "(I)Z" } : Jvm.MethodName) prog_20_method_13_code (2 : Nat) (Option.some Jvm.ClassFile.FieldType.boolean)) ∈ lw_all := lw_g (lw_at lw_m8 233 rfl) rfl
theorem q2023 : (Jvm.Cond.instanceMethod ({ cls := "BoneYardModel", name := "partner", desc := "(I)I" } : Jvm.MethodName)) ∈ lw_all := lw_g (lw_at lw_m8 235 rfl) rfl
theorem q2024 : (Jvm.Cond.selects "BoneYardModel" ({ cls := "BoneYardModel", name := "partner", desc := "(I)I" } : Jvm.MethodName) ({ cls := "BoneYardModel", name := "partner", desc := "(I)I" } : Jvm.MethodName)) ∈ lw_all := lw_g (lw_at lw_m8 236 rfl) rfl
theorem q2025 : (Jvm.Cond.code ({ cls := "BoneYardModel", name := "partner", desc := "(I)I" } : Jvm.MethodName) prog_20_method_71_code (2 : Nat) (Option.some Jvm.ClassFile.FieldType.int)) ∈ lw_all := lw_g (lw_at lw_m8 237 rfl) rfl
theorem q2027 : (Jvm.Cond.instanceMethod ({ cls := "BoneYardModel", name := "meatOf", desc := "(IIII)I" } : Jvm.MethodName)) ∈ lw_all := lw_g (lw_at lw_m8 239 rfl) rfl
theorem q2028 : (Jvm.Cond.selects "BoneYardModel" ({ cls := "BoneYardModel", name := "meatOf", desc := "(IIII)I" } : Jvm.MethodName) ({ cls := "BoneYardModel", name := "meatOf", desc := "(IIII)I" } : Jvm.MethodName)) ∈ lw_all := lw_g (lw_at lw_m9 0 rfl) rfl
theorem q2029 : (Jvm.Cond.code ({ cls := "BoneYardModel", name := "meatOf", desc := "(IIII)I" } : Jvm.MethodName) prog_20_method_72_code (5 : Nat) (Option.some Jvm.ClassFile.FieldType.int)) ∈ lw_all := lw_g (lw_at lw_m9 1 rfl) rfl
theorem q2030 : (Jvm.Cond.methodLink "BoneYardModel" (462 : Nat) ({ cls := "BoneYardModel", name := "beastsOf", desc := "(IIII)I" } : Jvm.MethodName)) ∈ lw_all := lw_g (lw_at lw_m9 2 rfl) rfl
theorem q2031 : (Jvm.Cond.privateMethod ({ cls := "BoneYardModel", name := "beastsOf", desc := "(IIII)I" } : Jvm.MethodName)) ∈ lw_tbl := lw_at lw_m9 3 rfl
theorem q2032 : (Jvm.Cond.instanceMethod ({ cls := "BoneYardModel", name := "beastsOf", desc := "(IIII)I" } : Jvm.MethodName)) ∈ lw_all := lw_g (lw_at lw_m9 4 rfl) rfl
theorem q2033 : (Jvm.Cond.code ({ cls := "BoneYardModel", name := "beastsOf", desc := "(IIII)I" } : Jvm.MethodName) prog_20_method_67_code (7 : Nat) (Option.some Jvm.ClassFile.FieldType.int)) ∈ lw_all := lw_g (lw_at lw_m9 5 rfl) rfl
theorem q2035 : (Jvm.Cond.instanceMethod ({ cls := "BoneYardModel", name := "age", desc := "(III)I" } : Jvm.MethodName)) ∈ lw_all := lw_g (lw_at lw_m9 7 rfl) rfl
theorem q2036 : (Jvm.Cond.selects "BoneYardModel" ({ cls := "BoneYardModel", name := "age", desc := "(III)I" } : Jvm.MethodName) ({ cls := "BoneYardModel", name := "age", desc := "(III)I" } : Jvm.MethodName)) ∈ lw_all := lw_g (lw_at lw_m9 8 rfl) rfl
theorem q2037 : (Jvm.Cond.code ({ cls := "BoneYardModel", name := "age", desc := "(III)I" } : Jvm.MethodName) prog_20_method_74_code (5 : Nat) (Option.some Jvm.ClassFile.FieldType.int)) ∈ lw_all := lw_g (lw_at lw_m9 9 rfl) rfl
theorem q2038 : (Jvm.Cond.methodLink "BoneYardModel" (471 : Nat) ({ cls := "BoneYardModel", name := "months", desc := "(II)Z" } : Jvm.MethodName)) ∈ lw_all := lw_g (lw_at lw_m9 10 rfl) rfl
theorem q2039 : (Jvm.Cond.privateMethod ({ cls := "BoneYardModel", name := "months", desc := "(II)Z" } : Jvm.MethodName)) ∈ lw_tbl := lw_at lw_m9 11 rfl
theorem q2040 : (Jvm.Cond.instanceMethod ({ cls := "BoneYardModel", name := "months", desc := "(II)Z" } : Jvm.MethodName)) ∈ lw_all := lw_g (lw_at lw_m9 12 rfl) rfl
theorem q2041 : (Jvm.Cond.code ({ cls := "BoneYardModel", name := "months", desc := "(II)Z" } : Jvm.MethodName) prog_20_method_73_code (3 : Nat) (Option.some Jvm.ClassFile.FieldType.boolean)) ∈ lw_all := lw_g (lw_at lw_m9 13 rfl) rfl
theorem q2043 : (Jvm.Cond.instanceMethod ({ cls := "BoneYardModel", name := "ages", desc := "(I)I" } : Jvm.MethodName)) ∈ lw_all := lw_g (lw_at lw_m9 15 rfl) rfl
theorem q2044 : (Jvm.Cond.selects "BoneYardModel" ({ cls := "BoneYardModel", name := "ages", desc := "(I)I" } : Jvm.MethodName) ({ cls := "BoneYardModel", name := "ages", desc := "(I)I" } : Jvm.MethodName)) ∈ lw_all := lw_g (lw_at lw_m9 16 rfl) rfl
theorem q2045 : (Jvm.Cond.code ({ cls := "BoneYardModel", name := "ages", desc := "(I)I" } : Jvm.MethodName) prog_20_method_76_code (4 : Nat) (Option.some Jvm.ClassFile.FieldType.int)) ∈ lw_all := lw_g (lw_at lw_m9 17 rfl) rfl
theorem q2046 : (Jvm.Cond.methodLink "BoneYardModel" (474 : Nat) ({ cls := "BoneYardModel", name := "refuses", desc := "(I)I" } : Jvm.MethodName)) ∈ lw_all := lw_g (lw_at lw_m9 18 rfl) rfl
theorem q2047 : (Jvm.Cond.privateMethod ({ cls := "BoneYardModel", name := "refuses", desc := "(I)I" } : Jvm.MethodName)) ∈ lw_tbl := lw_at lw_m9 19 rfl
theorem q2048 : (Jvm.Cond.instanceMethod ({ cls := "BoneYardModel", name := "refuses", desc := "(I)I" } : Jvm.MethodName)) ∈ lw_all := lw_g (lw_at lw_m9 20 rfl) rfl
theorem q2049 : (Jvm.Cond.code ({ cls := "BoneYardModel", name := "refuses", desc := "(I)I" } : Jvm.MethodName) prog_20_method_75_code (2 : Nat) (Option.some Jvm.ClassFile.FieldType.int)) ∈ lw_all := lw_g (lw_at lw_m9 21 rfl) rfl
theorem q2051 : (Jvm.Cond.instanceMethod ({ cls := "BoneYardModel", name := "herd", desc := "(I)I" } : Jvm.MethodName)) ∈ lw_all := lw_g (lw_at lw_m9 23 rfl) rfl
theorem q2052 : (Jvm.Cond.selects "BoneYardModel" ({ cls := "BoneYardModel", name := "herd", desc := "(I)I" } : Jvm.MethodName) ({ cls := "BoneYardModel", name := "herd", desc := "(I)I" } : Jvm.MethodName)) ∈ lw_all := lw_g (lw_at lw_m9 24 rfl) rfl
theorem q2053 : (Jvm.Cond.code ({ cls := "BoneYardModel", name := "herd", desc := "(I)I" } : Jvm.MethodName) prog_20_method_77_code (6 : Nat) (Option.some Jvm.ClassFile.FieldType.int)) ∈ lw_all := lw_g (lw_at lw_m9 25 rfl) rfl
theorem q2055 : (Jvm.Cond.instanceMethod ({ cls := "BoneYardModel", name := "killed", desc := "(IIIIIII)I" } : Jvm.MethodName)) ∈ lw_all := lw_g (lw_at lw_m9 27 rfl) rfl
theorem q2056 : (Jvm.Cond.selects "BoneYardModel" ({ cls := "BoneYardModel", name := "killed", desc := "(IIIIIII)I" } : Jvm.MethodName) ({ cls := "BoneYardModel", name := "killed", desc := "(IIIIIII)I" } : Jvm.MethodName)) ∈ lw_all := lw_g (lw_at lw_m9 28 rfl) rfl
theorem q2057 : (Jvm.Cond.code ({ cls := "BoneYardModel", name := "killed", desc := "(IIIIIII)I" } : Jvm.MethodName) prog_20_method_80_code (12 : Nat) (Option.some Jvm.ClassFile.FieldType.int)) ∈ lw_all := lw_g (lw_at lw_m9 29 rfl) rfl
theorem q2058 : (Jvm.Cond.methodLink "BoneYardModel" (486 : Nat) ({ cls := "BoneYardModel", name := "spans", desc := "(IIIII)V" } : Jvm.MethodName)) ∈ lw_all := lw_g (lw_at lw_m9 30 rfl) rfl
theorem q2059 : (Jvm.Cond.privateMethod ({ cls := "BoneYardModel", name := "spans", desc := "(IIIII)V" } : Jvm.MethodName)) ∈ lw_tbl := lw_at lw_m9 31 rfl
theorem q2060 : (Jvm.Cond.instanceMethod ({ cls := "BoneYardModel", name := "spans", desc := "(IIIII)V" } : Jvm.MethodName)) ∈ lw_all := lw_g (lw_at lw_m9 32 rfl) rfl
theorem q2061 : (Jvm.Cond.code ({ cls := "BoneYardModel", name := "spans", desc := "(IIIII)V" } : Jvm.MethodName) prog_20_method_79_code (7 : Nat) (Option.none : Option Jvm.ClassFile.FieldType)) ∈ lw_all := lw_g (lw_at lw_m9 33 rfl) rfl
theorem q2062 : (Jvm.Cond.methodLink "BoneYardModel" (483 : Nat) ({ cls := "BoneYardModel", name := "ageOf", desc := "(I)I" } : Jvm.MethodName)) ∈ lw_all := lw_g (lw_at lw_m9 34 rfl) rfl
theorem q2063 : (Jvm.Cond.privateMethod ({ cls := "BoneYardModel", name := "ageOf", desc := "(I)I" } : Jvm.MethodName)) ∈ lw_tbl := lw_at lw_m9 35 rfl
theorem q2064 : (Jvm.Cond.instanceMethod ({ cls := "BoneYardModel", name := "ageOf", desc := "(I)I" } : Jvm.MethodName)) ∈ lw_all := lw_g (lw_at lw_m9 36 rfl) rfl
theorem q2065 : (Jvm.Cond.code ({ cls := "BoneYardModel", name := "ageOf", desc := "(I)I" } : Jvm.MethodName) prog_20_method_78_code (3 : Nat) (Option.some Jvm.ClassFile.FieldType.int)) ∈ lw_all := lw_g (lw_at lw_m9 37 rfl) rfl
theorem q2067 : (Jvm.Cond.instanceMethod ({ cls := "BoneYardModel", name := "slack", desc := "(IIIIII)I" } : Jvm.MethodName)) ∈ lw_all := lw_g (lw_at lw_m9 39 rfl) rfl
theorem q2068 : (Jvm.Cond.selects "BoneYardModel" ({ cls := "BoneYardModel", name := "slack", desc := "(IIIIII)I" } : Jvm.MethodName) ({ cls := "BoneYardModel", name := "slack", desc := "(IIIIII)I" } : Jvm.MethodName)) ∈ lw_all := lw_g (lw_at lw_m9 40 rfl) rfl
theorem q2069 : (Jvm.Cond.code ({ cls := "BoneYardModel", name := "slack", desc := "(IIIIII)I" } : Jvm.MethodName) prog_20_method_85_code (7 : Nat) (Option.some Jvm.ClassFile.FieldType.int)) ∈ lw_all := lw_g (lw_at lw_m9 41 rfl) rfl
theorem q2070 : (Jvm.Cond.methodLink "BoneYardModel" (495 : Nat) ({ cls := "BoneYardModel", name := "isHerd", desc := "(I)Z" } : Jvm.MethodName)) ∈ lw_all := lw_g (lw_at lw_m9 42 rfl) rfl
theorem q2071 : (Jvm.Cond.privateMethod ({ cls := "BoneYardModel", name := "isHerd", desc := "(I)Z" } : Jvm.MethodName)) ∈ lw_tbl := lw_at lw_m9 43 rfl
theorem q2072 : (Jvm.Cond.instanceMethod ({ cls := "BoneYardModel", name := "isHerd", desc := "(I)Z" } : Jvm.MethodName)) ∈ lw_all := lw_g (lw_at lw_m9 44 rfl) rfl
theorem q2073 : (Jvm.Cond.code ({ cls := "BoneYardModel", name := "isHerd", desc := "(I)Z" } : Jvm.MethodName) prog_20_method_84_code (2 : Nat) (Option.some Jvm.ClassFile.FieldType.boolean)) ∈ lw_all := lw_g (lw_at lw_m9 45 rfl) rfl
theorem q2074 : (Jvm.Cond.methodLink "BoneYardModel" (498 : Nat) ({ cls := "BoneYardModel", name := "leastSlack", desc := "(I)I" } : Jvm.MethodName)) ∈ lw_all := lw_g (lw_at lw_m9 46 rfl) rfl
theorem q2075 : (Jvm.Cond.privateMethod ({ cls := "BoneYardModel", name := "leastSlack", desc := "(I)I" } : Jvm.MethodName)) ∈ lw_tbl := lw_at lw_m9 47 rfl
theorem q2076 : (Jvm.Cond.instanceMethod ({ cls := "BoneYardModel", name := "leastSlack", desc := "(I)I" } : Jvm.MethodName)) ∈ lw_all := lw_g (lw_at lw_m9 48 rfl) rfl
theorem q2077 : (Jvm.Cond.code ({ cls := "BoneYardModel", name := "leastSlack", desc := "(I)I" } : Jvm.MethodName) prog_20_method_83_code (3 : Nat) (Option.some Jvm.ClassFile.FieldType.int)) ∈ lw_all := lw_g (lw_at lw_m9 49 rfl) rfl
theorem q2078 : (Jvm.Cond.methodLink "BoneYardModel" (489 : Nat) ({ cls := "BoneYardModel", name := "limits", desc := "(II)V" } : Jvm.MethodName)) ∈ lw_all := lw_g (lw_at lw_m9 50 rfl) rfl
theorem q2079 : (Jvm.Cond.privateMethod ({ cls := "BoneYardModel", name := "limits", desc := "(II)V" } : Jvm.MethodName)) ∈ lw_tbl := lw_at lw_m9 51 rfl
theorem q2080 : (Jvm.Cond.instanceMethod ({ cls := "BoneYardModel", name := "limits", desc := "(II)V" } : Jvm.MethodName)) ∈ lw_all := lw_g (lw_at lw_m9 52 rfl) rfl
theorem q2081 : (Jvm.Cond.code ({ cls := "BoneYardModel", name := "limits", desc := "(II)V" } : Jvm.MethodName) prog_20_method_82_code (5 : Nat) (Option.none : Option Jvm.ClassFile.FieldType)) ∈ lw_all := lw_g (lw_at lw_m9 53 rfl) rfl
theorem q2082 : (Jvm.Cond.methodLink "BoneYardModel" (492 : Nat) ({ cls := "BoneYardModel", name := "isKilling", desc := "()Z" } : Jvm.MethodName)) ∈ lw_all := lw_g (lw_at lw_m9 54 rfl) rfl
theorem q2083 : (Jvm.Cond.privateMethod ({ cls := "BoneYardModel", name := "isKilling", desc := "()Z" } : Jvm.MethodName)) ∈ lw_tbl := lw_at lw_m9 55 rfl
theorem q2084 : (Jvm.Cond.instanceMethod ({ cls := "BoneYardModel", name := "isKilling", desc := "()Z" } : Jvm.MethodName)) ∈ lw_all := lw_g (lw_at lw_m9 56 rfl) rfl
theorem q2085 : (Jvm.Cond.code ({ cls := "BoneYardModel", name := "isKilling", desc := "()Z" } : Jvm.MethodName) prog_20_method_81_code (9 : Nat) (Option.some Jvm.ClassFile.FieldType.boolean)) ∈ lw_all := lw_g (lw_at lw_m9 57 rfl) rfl
theorem q2087 : (Jvm.Cond.instanceMethod ({ cls := "BoneYardModel", name := "fitted", desc := "(IIIIIIII)I" } : Jvm.MethodName)) ∈ lw_all := lw_g (lw_at lw_m9 59 rfl) rfl
theorem q2088 : (Jvm.Cond.selects "BoneYardModel" ({ cls := "BoneYardModel", name := "fitted", desc := "(IIIIIIII)I" } : Jvm.MethodName) ({ cls := "BoneYardModel", name := "fitted", desc := "(IIIIIIII)I" } : Jvm.MethodName)) ∈ lw_all := lw_g (lw_at lw_m9 60 rfl) rfl
theorem q2089 : (Jvm.Cond.code ({ cls := "BoneYardModel", name := "fitted", desc := "(IIIIIIII)I" } : Jvm.MethodName) prog_20_method_86_code (15 : Nat) (Option.some Jvm.ClassFile.FieldType.int)) ∈ lw_all := lw_g (lw_at lw_m9 61 rfl) rfl
theorem q2091 : (Jvm.Cond.instanceMethod ({ cls := "BoneYardModel", name := "there", desc := "(IIIII)I" } : Jvm.MethodName)) ∈ lw_all := lw_g (lw_at lw_m9 63 rfl) rfl
theorem q2092 : (Jvm.Cond.selects "BoneYardModel" ({ cls := "BoneYardModel", name := "there", desc := "(IIIII)I" } : Jvm.MethodName) ({ cls := "BoneYardModel", name := "there", desc := "(IIIII)I" } : Jvm.MethodName)) ∈ lw_all := lw_g (lw_at lw_m9 64 rfl) rfl
theorem q2093 : (Jvm.Cond.code ({ cls := "BoneYardModel", name := "there", desc := "(IIIII)I" } : Jvm.MethodName) prog_20_method_88_code (7 : Nat) (Option.some Jvm.ClassFile.FieldType.int)) ∈ lw_all := lw_g (lw_at lw_m9 65 rfl) rfl
theorem q2094 : (Jvm.Cond.methodLink "BoneYardModel" (501 : Nat) ({ cls := "BoneYardModel", name := "thereOf", desc := "(IIIIII)I" } : Jvm.MethodName)) ∈ lw_all := lw_g (lw_at lw_m9 66 rfl) rfl
theorem q2095 : (Jvm.Cond.privateMethod ({ cls := "BoneYardModel", name := "thereOf", desc := "(IIIIII)I" } : Jvm.MethodName)) ∈ lw_tbl := lw_at lw_m9 67 rfl
theorem q2096 : (Jvm.Cond.instanceMethod ({ cls := "BoneYardModel", name := "thereOf", desc := "(IIIIII)I" } : Jvm.MethodName)) ∈ lw_all := lw_g (lw_at lw_m9 68 rfl) rfl
theorem q2097 : (Jvm.Cond.code ({ cls := "BoneYardModel", name := "thereOf", desc := "(IIIIII)I" } : Jvm.MethodName) prog_20_method_87_code (8 : Nat) (Option.some Jvm.ClassFile.FieldType.int)) ∈ lw_all := lw_g (lw_at lw_m9 69 rfl) rfl
theorem q2099 : (Jvm.Cond.instanceMethod ({ cls := "BoneYardModel", name := "lacks", desc := "(IIII)I" } : Jvm.MethodName)) ∈ lw_all := lw_g (lw_at lw_m9 71 rfl) rfl
theorem q2100 : (Jvm.Cond.selects "BoneYardModel" ({ cls := "BoneYardModel", name := "lacks", desc := "(IIII)I" } : Jvm.MethodName) ({ cls := "BoneYardModel", name := "lacks", desc := "(IIII)I" } : Jvm.MethodName)) ∈ lw_all := lw_g (lw_at lw_m9 72 rfl) rfl
theorem q2101 : (Jvm.Cond.code ({ cls := "BoneYardModel", name := "lacks", desc := "(IIII)I" } : Jvm.MethodName) prog_20_method_89_code (9 : Nat) (Option.some Jvm.ClassFile.FieldType.int)) ∈ lw_all := lw_g (lw_at lw_m9 73 rfl) rfl
theorem q2103 : (Jvm.Cond.instanceMethod ({ cls := "BoneYardModel", name := "ranked", desc := "(IIIIIII)I" } : Jvm.MethodName)) ∈ lw_all := lw_g (lw_at lw_m9 75 rfl) rfl
theorem q2104 : (Jvm.Cond.selects "BoneYardModel" ({ cls := "BoneYardModel", name := "ranked", desc := "(IIIIIII)I" } : Jvm.MethodName) ({ cls := "BoneYardModel", name := "ranked", desc := "(IIIIIII)I" } : Jvm.MethodName)) ∈ lw_all := lw_g (lw_at lw_m9 76 rfl) rfl
theorem q2105 : (Jvm.Cond.code ({ cls := "BoneYardModel", name := "ranked", desc := "(IIIIIII)I" } : Jvm.MethodName) prog_20_method_90_code (17 : Nat) (Option.some Jvm.ClassFile.FieldType.int)) ∈ lw_all := lw_g (lw_at lw_m9 77 rfl) rfl
theorem q2106 : (Jvm.Cond.constantLong "BoneYardModel" (505 : Nat) (5 : Int64)) ∈ lw_all := lw_g (lw_at lw_m9 78 rfl) rfl
theorem q2107 : (Jvm.Cond.constantLong "BoneYardModel" (507 : Nat) (10000 : Int64)) ∈ lw_all := lw_g (lw_at lw_m9 79 rfl) rfl
theorem q2109 : (Jvm.Cond.instanceMethod ({ cls := "BoneYardModel", name := "boneOf", desc := "(II)I" } : Jvm.MethodName)) ∈ lw_all := lw_g (lw_at lw_m9 81 rfl) rfl
theorem q2110 : (Jvm.Cond.selects "BoneYardModel" ({ cls := "BoneYardModel", name := "boneOf", desc := "(II)I" } : Jvm.MethodName) ({ cls := "BoneYardModel", name := "boneOf", desc := "(II)I" } : Jvm.MethodName)) ∈ lw_all := lw_g (lw_at lw_m9 82 rfl) rfl
theorem q2111 : (Jvm.Cond.code ({ cls := "BoneYardModel", name := "boneOf", desc := "(II)I" } : Jvm.MethodName) prog_20_method_91_code (3 : Nat) (Option.some Jvm.ClassFile.FieldType.int)) ∈ lw_all := lw_g (lw_at lw_m9 83 rfl) rfl
theorem q2112 : (Jvm.Cond.constantLong "BoneYardModel" (509 : Nat) (6 : Int64)) ∈ lw_all := lw_g (lw_at lw_m9 84 rfl) rfl
theorem q2113 : (Jvm.Cond.constantLong "BoneYardModel" (511 : Nat) (11 : Int64)) ∈ lw_all := lw_g (lw_at lw_m9 85 rfl) rfl
theorem q2115 : (Jvm.Cond.instanceMethod ({ cls := "BoneYardModel", name := "count", desc := "(I)I" } : Jvm.MethodName)) ∈ lw_all := lw_g (lw_at lw_m9 87 rfl) rfl
theorem q2116 : (Jvm.Cond.selects "BoneYardModel" ({ cls := "BoneYardModel", name := "count", desc := "(I)I" } : Jvm.MethodName) ({ cls := "BoneYardModel", name := "count", desc := "(I)I" } : Jvm.MethodName)) ∈ lw_all := lw_g (lw_at lw_m9 88 rfl) rfl
theorem q2117 : (Jvm.Cond.code ({ cls := "BoneYardModel", name := "count", desc := "(I)I" } : Jvm.MethodName) prog_20_method_92_code (4 : Nat) (Option.some Jvm.ClassFile.FieldType.int)) ∈ lw_all := lw_g (lw_at lw_m9 89 rfl) rfl
theorem q2138 : (Jvm.Cond.castable "BoneYardModel" "java/lang/Object") ∈ lw_tbl := lw_at lw_m9 110 rfl
theorem in_X4 : ∀ w ∈ wsX40, w ∈ lw_all := lw_in wsX40 [1566, 1568, 1570, 1572, 1574, 1576, 1578, 1580, 1582, 1584, 1586, 1588, 1590, 1592, 1594, 1596, 1598, 1600, 1602, 1604, 1606, 1608, 1610, 1612, 1614, 1616, 1618, 1620, 1622, 1624, 1626, 1628, 1630, 1632, 1634, 1636, 1638, 1640, 1642, 1644, 1646, 1648, 1650, 1652, 1654, 1656, 1658, 1660, 1662, 1664, 1666, 1668, 1670, 1672, 1674, 1676, 1678, 1680, 1682, 1684, 1686, 1688, 1690, 1692, 1694, 1696, 1698, 1700, 1702, 1704, 1706, 1708, 1710, 1712, 1714, 1716, 1718, 1720, 1722, 1724, 1726, 1728] (by decide +kernel) (by decide +kernel)
