/-! PlatesSing -/
set_option maxRecDepth 100000
def RX0 : String := "PlatesSing"
def TX0 : u_T := fun k => match k with
  | 0 => ("PlatesSing", "bodies", "[LPlatesSing$Part;", true)
  | 1 => ("PlatesSing", "bodyMany", "I", false)
  | 2 => ("PlatesSing", "trace", "[I", true)
  | 3 => ("PlatesSing", "ran", "I", false)
  | 4 => ("PlatesSing", "shapes", "[LPlatesSing$Shape;", true)
  | 5 => ("PlatesSing", "shapeMany", "I", false)
  | 6 => ("PlatesSing", "tape", "[I", true)
  | 7 => ("PlatesSing", "length", "I", false)
  | 8 => ("PlatesSing", "reader", "LPlatesSing$Reader;", true)
  | 9 => ("PlatesSing", "kept", "[LPlatesSing$Act;", true)
  | 10 => ("PlatesSing", "keptMany", "I", false)
  | 11 => ("PlatesSing", "done", "I", false)
  | 12 => ("PlatesSing", "matrix", "[J", true)
  | 13 => ("PlatesSing", "size", "I", false)
  | 14 => ("PlatesSing", "sums", "[J", true)
  | 15 => ("PlatesSing", "rows", "[I", true)
  | 16 => ("PlatesSing", "heldToo", "I", false)
  | 17 => ("PlatesSing", "shuts", "[I", true)
  | 18 => ("PlatesSing", "savedStiff", "[I", true)
  | 19 => ("PlatesSing", "savedCrack", "[I", true)
  | 20 => ("PlatesSing", "savedHeavy", "[I", true)
  | 21 => ("PlatesSing", "order", "[I", true)
  | 22 => ("PlatesSing", "ordersMany", "I", false)
  | 23 => ("PlatesSing", "firstOrder", "[I", true)
  | 24 => ("PlatesSing", "reach", "[I", true)
  | 25 => ("PlatesSing", "listShape", "LPlatesSing$Shape;", false)
  | 26 => ("PlatesSing", "listA", "[I", true)
  | 27 => ("PlatesSing", "listB", "[I", true)
  | 28 => ("PlatesSing", "listOften", "[I", true)
  | 29 => ("PlatesSing", "listMany", "I", false)
  | 30 => ("PlatesSing", "wishTone", "[I", true)
  | 31 => ("PlatesSing", "wishPart", "[I", true)
  | 32 => ("PlatesSing", "wishShut", "[I", true)
  | 33 => ("PlatesSing", "wishes", "I", false)
  | 34 => ("PlatesSing", "fewest", "I", false)
  | 35 => ("PlatesSing", "fewestDigits", "I", false)
  | 36 => ("PlatesSing", "closest", "I", false)
  | 37 => ("PlatesSing", "closestMany", "I", false)
  | 38 => ("PlatesSing", "heardShut", "[I", true)
  | 39 => ("PlatesSing", "heardMany", "I", false)
  | 40 => ("PlatesSing", "fitMany", "I", false)
  | 41 => ("PlatesSing", "fitPiece", "I", false)
  | 42 => ("PlatesSing", "fitCrack", "I", false)
  | 43 => ("PlatesSing", "fitShut", "[I", true)
  | 44 => ("PlatesSing", "damp", "I", false)
  | 45 => ("PlatesSing", "earAt", "[I", true)
  | 46 => ("PlatesSing", "earWas", "[I", true)
  | 47 => ("PlatesSing", "earKept", "[I", true)
  | 48 => ("PlatesSing", "steps", "I", false)
  | 49 => ("PlatesSing", "away", "[I", true)
  | 50 => ("PlatesSing", "speed", "[I", true)
  | 51 => ("PlatesSing", "push", "[I", true)
  | 52 => ("PlatesSing", "rollCorner", "[I", true)
  | 53 => ("PlatesSing", "rollBy", "[I", true)
  | 54 => ("PlatesSing", "rollWhen", "[I", true)
  | 55 => ("PlatesSing", "rolls", "I", false)
  | 56 => ("PlatesSing", "sound", "[I", true)
  | 57 => ("PlatesSing", "sounds", "I", false)
  | 58 => ("PlatesSing", "ratioA", "[I", true)
  | 59 => ("PlatesSing", "ratioB", "[I", true)
  | 60 => ("PlatesSing", "ratios", "I", false)
  | 61 => ("PlatesSing", "lowest", "[I", true)
  | _ => ("PlatesSing", "shelves", "[Ljava/lang/Object;", true)
def tyX0 : Nat → FieldType := fun k => match k with
  | 0 => .array (.object "PlatesSing$Part")
  | 1 => .int
  | 2 => .array .int
  | 3 => .int
  | 4 => .array (.object "PlatesSing$Shape")
  | 5 => .int
  | 6 => .array .int
  | 7 => .int
  | 8 => .object "PlatesSing$Reader"
  | 9 => .array (.object "PlatesSing$Act")
  | 10 => .int
  | 11 => .int
  | 12 => .array .long
  | 13 => .int
  | 14 => .array .long
  | 15 => .array .int
  | 16 => .int
  | 17 => .array .int
  | 18 => .array .int
  | 19 => .array .int
  | 20 => .array .int
  | 21 => .array .int
  | 22 => .int
  | 23 => .array .int
  | 24 => .array .int
  | 25 => .object "PlatesSing$Shape"
  | 26 => .array .int
  | 27 => .array .int
  | 28 => .array .int
  | 29 => .int
  | 30 => .array .int
  | 31 => .array .int
  | 32 => .array .int
  | 33 => .int
  | 34 => .int
  | 35 => .int
  | 36 => .int
  | 37 => .int
  | 38 => .array .int
  | 39 => .int
  | 40 => .int
  | 41 => .int
  | 42 => .int
  | 43 => .array .int
  | 44 => .int
  | 45 => .array .int
  | 46 => .array .int
  | 47 => .array .int
  | 48 => .int
  | 49 => .array .int
  | 50 => .array .int
  | 51 => .array .int
  | 52 => .array .int
  | 53 => .array .int
  | 54 => .array .int
  | 55 => .int
  | 56 => .array .int
  | 57 => .int
  | 58 => .array .int
  | 59 => .array .int
  | 60 => .int
  | 61 => .array .int
  | _ => .array (.object "java/lang/Object")
abbrev wsX00 : List Cond := u_ws RX0 TX0 63
set_option maxRecDepth 100000 in
theorem nmX0 : ∀ a, a < 63 → ∀ b, b < 63 → a ≠ b → (TX0 a).2.1 ≠ (TX0 b).2.1 := by decide +kernel
set_option maxRecDepth 100000 in
theorem tyX0_ok : ∀ k, k < 63 → parseFieldDescriptor (TX0 k).2.2.1 = some (tyX0 k) := by decide +kernel
abbrev cX0_init : ByteArray := prog_1_method_3_code
def yX0_init : MethodName := ⟨RX0, "<init>", "()V"⟩
def dkwX0_init_16 : List UInt8 := [132, 1, 1, 167, 255, 234, 177]
abbrev dktX0_init_16 : List UInt8 := dkwX0_init_16 ++ []
def dkwX0_init_15 : List UInt8 := [181, 0, 141, 3, 60, 27, 16, 40, 162, 0, 22, 42, 180, 0, 39, 27, 187, 0, 37, 89, 183, 0, 145, 83]
abbrev dktX0_init_15 : List UInt8 := dkwX0_init_15 ++ dktX0_init_16
def dkwX0_init_14 : List UInt8 := [42, 16, 6, 188, 10, 181, 0, 135, 42, 16, 7, 188, 10, 181, 0, 138, 42, 16, 6, 189, 0, 4]
abbrev dktX0_init_14 : List UInt8 := dkwX0_init_14 ++ dktX0_init_15
def dkwX0_init_13 : List UInt8 := [42, 16, 6, 188, 10, 181, 0, 126, 42, 16, 60, 188, 10, 181, 0, 129, 42, 16, 6, 188, 10, 181, 0, 132]
abbrev dktX0_init_13 : List UInt8 := dkwX0_init_13 ++ dktX0_init_14
def dkwX0_init_12 : List UInt8 := [42, 16, 6, 188, 10, 181, 0, 117, 42, 16, 6, 188, 10, 181, 0, 120, 42, 16, 6, 188, 10, 181, 0, 123]
abbrev dktX0_init_12 : List UInt8 := dkwX0_init_12 ++ dktX0_init_13
def dkwX0_init_11 : List UInt8 := [17, 3, 32, 188, 10, 181, 0, 108, 42, 16, 6, 188, 10, 181, 0, 111, 42, 16, 6, 188, 10, 181, 0, 114]
abbrev dktX0_init_11 : List UInt8 := dkwX0_init_11 ++ dktX0_init_12
def dkwX0_init_10 : List UInt8 := [188, 10, 89, 3, 2, 79, 89, 4, 2, 79, 89, 5, 2, 79, 89, 6, 2, 79, 181, 0, 105, 42]
abbrev dktX0_init_10 : List UInt8 := dkwX0_init_10 ++ dktX0_init_11
def dkwX0_init_9 : List UInt8 := [188, 10, 89, 3, 2, 79, 89, 4, 2, 79, 89, 5, 2, 79, 89, 6, 2, 79, 181, 0, 102, 42, 7]
abbrev dktX0_init_9 : List UInt8 := dkwX0_init_9 ++ dktX0_init_10
def dkwX0_init_8 : List UInt8 := [188, 10, 181, 0, 93, 42, 16, 6, 188, 10, 181, 0, 96, 42, 17, 3, 48, 188, 10, 181, 0, 99, 42, 7]
abbrev dktX0_init_8 : List UInt8 := dkwX0_init_8 ++ dktX0_init_9
def dkwX0_init_7 : List UInt8 := [188, 10, 181, 0, 84, 42, 16, 6, 188, 10, 181, 0, 87, 42, 16, 6, 188, 10, 181, 0, 90, 42, 16, 6]
abbrev dktX0_init_7 : List UInt8 := dkwX0_init_7 ++ dktX0_init_8
def dkwX0_init_6 : List UInt8 := [188, 10, 181, 0, 75, 42, 16, 6, 188, 10, 181, 0, 78, 42, 16, 6, 188, 10, 181, 0, 81, 42, 16, 6]
abbrev dktX0_init_6 : List UInt8 := dkwX0_init_6 ++ dktX0_init_7
def dkwX0_init_5 : List UInt8 := [188, 10, 181, 0, 66, 42, 16, 6, 188, 10, 181, 0, 69, 42, 16, 6, 188, 10, 181, 0, 72, 42, 16, 6]
abbrev dktX0_init_5 : List UInt8 := dkwX0_init_5 ++ dktX0_init_6
def dkwX0_init_4 : List UInt8 := [188, 10, 181, 0, 57, 42, 16, 15, 188, 10, 181, 0, 60, 42, 16, 15, 188, 10, 181, 0, 63, 42, 16, 6]
abbrev dktX0_init_4 : List UInt8 := dkwX0_init_4 ++ dktX0_init_5
def dkwX0_init_3 : List UInt8 := [16, 7, 188, 11, 181, 0, 47, 42, 16, 6, 188, 10, 181, 0, 50, 42, 2, 181, 0, 53, 42, 16, 6]
abbrev dktX0_init_3 : List UInt8 := dkwX0_init_3 ++ dktX0_init_4
def dkwX0_init_2 : List UInt8 := [183, 0, 30, 181, 0, 33, 42, 16, 40, 189, 0, 37, 181, 0, 39, 42, 16, 36, 188, 11, 181, 0, 43, 42]
abbrev dktX0_init_2 : List UInt8 := dkwX0_init_2 ++ dktX0_init_3
def dkwX0_init_1 : List UInt8 := [16, 12, 189, 0, 19, 181, 0, 21, 42, 16, 120, 188, 10, 181, 0, 25, 42, 187, 0, 28, 89, 42]
abbrev dktX0_init_1 : List UInt8 := dkwX0_init_1 ++ dktX0_init_2
def dkwX0_init_0 : List UInt8 := [42, 183, 0, 3, 42, 17, 0, 200, 189, 0, 9, 181, 0, 11, 42, 16, 24, 188, 10, 181, 0, 15, 42]
abbrev dktX0_init_0 : List UInt8 := dkwX0_init_0 ++ dktX0_init_1
theorem dksX0_init_0 : cX0_init.data.toList.drop 0 = dktX0_init_0 := by decide +kernel
theorem dksX0_init_1 : cX0_init.data.toList.drop 23 = dktX0_init_1 := dk_seg dksX0_init_0 23 rfl rfl
theorem dksX0_init_2 : cX0_init.data.toList.drop 45 = dktX0_init_2 := dk_seg dksX0_init_1 22 rfl rfl
theorem dksX0_init_3 : cX0_init.data.toList.drop 69 = dktX0_init_3 := dk_seg dksX0_init_2 24 rfl rfl
theorem dksX0_init_4 : cX0_init.data.toList.drop 92 = dktX0_init_4 := dk_seg dksX0_init_3 23 rfl rfl
theorem dksX0_init_5 : cX0_init.data.toList.drop 116 = dktX0_init_5 := dk_seg dksX0_init_4 24 rfl rfl
theorem dksX0_init_6 : cX0_init.data.toList.drop 140 = dktX0_init_6 := dk_seg dksX0_init_5 24 rfl rfl
theorem dksX0_init_7 : cX0_init.data.toList.drop 164 = dktX0_init_7 := dk_seg dksX0_init_6 24 rfl rfl
theorem dksX0_init_8 : cX0_init.data.toList.drop 188 = dktX0_init_8 := dk_seg dksX0_init_7 24 rfl rfl
theorem dksX0_init_9 : cX0_init.data.toList.drop 212 = dktX0_init_9 := dk_seg dksX0_init_8 24 rfl rfl
theorem dksX0_init_10 : cX0_init.data.toList.drop 235 = dktX0_init_10 := dk_seg dksX0_init_9 23 rfl rfl
theorem dksX0_init_11 : cX0_init.data.toList.drop 257 = dktX0_init_11 := dk_seg dksX0_init_10 22 rfl rfl
theorem dksX0_init_12 : cX0_init.data.toList.drop 281 = dktX0_init_12 := dk_seg dksX0_init_11 24 rfl rfl
theorem dksX0_init_13 : cX0_init.data.toList.drop 305 = dktX0_init_13 := dk_seg dksX0_init_12 24 rfl rfl
theorem dksX0_init_14 : cX0_init.data.toList.drop 329 = dktX0_init_14 := dk_seg dksX0_init_13 24 rfl rfl
theorem dksX0_init_15 : cX0_init.data.toList.drop 351 = dktX0_init_15 := dk_seg dksX0_init_14 22 rfl rfl
theorem dksX0_init_16 : cX0_init.data.toList.drop 375 = dktX0_init_16 := dk_seg dksX0_init_15 24 rfl rfl
theorem dX0_init_0 : decode cX0_init 0 = .ok (.aload_n 0, 1) := dk_42 (dk_at dksX0_init_0 0 rfl rfl)
theorem dX0_init_1 : decode cX0_init 1 = .ok (.invokespecial 3, 3) := dk_183 0 3 (dk_at dksX0_init_0 1 rfl rfl)
theorem dX0_init_4 : decode cX0_init 4 = .ok (.aload_n 0, 1) := dk_42 (dk_at dksX0_init_0 4 rfl rfl)
theorem dX0_init_5 : decode cX0_init 5 = .ok (.sipush 200, 3) := dk_17 0 200 (dk_at dksX0_init_0 5 rfl rfl)
theorem dX0_init_8 : decode cX0_init 8 = .ok (.anewarray 9, 3) := dk_189 0 9 (dk_at dksX0_init_0 8 rfl rfl)
theorem dX0_init_11 : decode cX0_init 11 = .ok (.putfield 11, 3) := dk_181 0 11 (dk_at dksX0_init_0 11 rfl rfl)
theorem dX0_init_14 : decode cX0_init 14 = .ok (.aload_n 0, 1) := dk_42 (dk_at dksX0_init_0 14 rfl rfl)
theorem dX0_init_15 : decode cX0_init 15 = .ok (.bipush 24, 2) := dk_16 24 (dk_at dksX0_init_0 15 rfl rfl)
theorem dX0_init_17 : decode cX0_init 17 = .ok (.newarray .int, 2) := dk_188_10 (dk_at dksX0_init_0 17 rfl rfl)
theorem dX0_init_19 : decode cX0_init 19 = .ok (.putfield 15, 3) := dk_181 0 15 (dk_at dksX0_init_0 19 rfl rfl)
theorem dX0_init_22 : decode cX0_init 22 = .ok (.aload_n 0, 1) := dk_42 (dk_at dksX0_init_0 22 rfl rfl)
theorem dX0_init_23 : decode cX0_init 23 = .ok (.bipush 12, 2) := dk_16 12 (dk_at dksX0_init_1 0 rfl rfl)
theorem dX0_init_25 : decode cX0_init 25 = .ok (.anewarray 19, 3) := dk_189 0 19 (dk_at dksX0_init_1 2 rfl rfl)
theorem dX0_init_28 : decode cX0_init 28 = .ok (.putfield 21, 3) := dk_181 0 21 (dk_at dksX0_init_1 5 rfl rfl)
theorem dX0_init_31 : decode cX0_init 31 = .ok (.aload_n 0, 1) := dk_42 (dk_at dksX0_init_1 8 rfl rfl)
theorem dX0_init_32 : decode cX0_init 32 = .ok (.bipush 120, 2) := dk_16 120 (dk_at dksX0_init_1 9 rfl rfl)
theorem dX0_init_34 : decode cX0_init 34 = .ok (.newarray .int, 2) := dk_188_10 (dk_at dksX0_init_1 11 rfl rfl)
theorem dX0_init_36 : decode cX0_init 36 = .ok (.putfield 25, 3) := dk_181 0 25 (dk_at dksX0_init_1 13 rfl rfl)
theorem dX0_init_39 : decode cX0_init 39 = .ok (.aload_n 0, 1) := dk_42 (dk_at dksX0_init_1 16 rfl rfl)
theorem dX0_init_40 : decode cX0_init 40 = .ok (.new 28, 3) := dk_187 0 28 (dk_at dksX0_init_1 17 rfl rfl)
theorem dX0_init_43 : decode cX0_init 43 = .ok (.dup, 1) := dk_89 (dk_at dksX0_init_1 20 rfl rfl)
theorem dX0_init_44 : decode cX0_init 44 = .ok (.aload_n 0, 1) := dk_42 (dk_at dksX0_init_1 21 rfl rfl)
theorem dX0_init_45 : decode cX0_init 45 = .ok (.invokespecial 30, 3) := dk_183 0 30 (dk_at dksX0_init_2 0 rfl rfl)
theorem dX0_init_48 : decode cX0_init 48 = .ok (.putfield 33, 3) := dk_181 0 33 (dk_at dksX0_init_2 3 rfl rfl)
theorem dX0_init_51 : decode cX0_init 51 = .ok (.aload_n 0, 1) := dk_42 (dk_at dksX0_init_2 6 rfl rfl)
theorem dX0_init_52 : decode cX0_init 52 = .ok (.bipush 40, 2) := dk_16 40 (dk_at dksX0_init_2 7 rfl rfl)
theorem dX0_init_54 : decode cX0_init 54 = .ok (.anewarray 37, 3) := dk_189 0 37 (dk_at dksX0_init_2 9 rfl rfl)
theorem dX0_init_57 : decode cX0_init 57 = .ok (.putfield 39, 3) := dk_181 0 39 (dk_at dksX0_init_2 12 rfl rfl)
theorem dX0_init_60 : decode cX0_init 60 = .ok (.aload_n 0, 1) := dk_42 (dk_at dksX0_init_2 15 rfl rfl)
theorem dX0_init_61 : decode cX0_init 61 = .ok (.bipush 36, 2) := dk_16 36 (dk_at dksX0_init_2 16 rfl rfl)
theorem dX0_init_63 : decode cX0_init 63 = .ok (.newarray .long, 2) := dk_188_11 (dk_at dksX0_init_2 18 rfl rfl)
theorem dX0_init_65 : decode cX0_init 65 = .ok (.putfield 43, 3) := dk_181 0 43 (dk_at dksX0_init_2 20 rfl rfl)
theorem dX0_init_68 : decode cX0_init 68 = .ok (.aload_n 0, 1) := dk_42 (dk_at dksX0_init_2 23 rfl rfl)
theorem dX0_init_69 : decode cX0_init 69 = .ok (.bipush 7, 2) := dk_16 7 (dk_at dksX0_init_3 0 rfl rfl)
theorem dX0_init_71 : decode cX0_init 71 = .ok (.newarray .long, 2) := dk_188_11 (dk_at dksX0_init_3 2 rfl rfl)
theorem dX0_init_73 : decode cX0_init 73 = .ok (.putfield 47, 3) := dk_181 0 47 (dk_at dksX0_init_3 4 rfl rfl)
theorem dX0_init_76 : decode cX0_init 76 = .ok (.aload_n 0, 1) := dk_42 (dk_at dksX0_init_3 7 rfl rfl)
theorem dX0_init_77 : decode cX0_init 77 = .ok (.bipush 6, 2) := dk_16 6 (dk_at dksX0_init_3 8 rfl rfl)
theorem dX0_init_79 : decode cX0_init 79 = .ok (.newarray .int, 2) := dk_188_10 (dk_at dksX0_init_3 10 rfl rfl)
theorem dX0_init_81 : decode cX0_init 81 = .ok (.putfield 50, 3) := dk_181 0 50 (dk_at dksX0_init_3 12 rfl rfl)
theorem dX0_init_84 : decode cX0_init 84 = .ok (.aload_n 0, 1) := dk_42 (dk_at dksX0_init_3 15 rfl rfl)
theorem dX0_init_85 : decode cX0_init 85 = .ok (.iconst (-1), 1) := dk_2 (dk_at dksX0_init_3 16 rfl rfl)
theorem dX0_init_86 : decode cX0_init 86 = .ok (.putfield 53, 3) := dk_181 0 53 (dk_at dksX0_init_3 17 rfl rfl)
theorem dX0_init_89 : decode cX0_init 89 = .ok (.aload_n 0, 1) := dk_42 (dk_at dksX0_init_3 20 rfl rfl)
theorem dX0_init_90 : decode cX0_init 90 = .ok (.bipush 6, 2) := dk_16 6 (dk_at dksX0_init_3 21 rfl rfl)
theorem dX0_init_92 : decode cX0_init 92 = .ok (.newarray .int, 2) := dk_188_10 (dk_at dksX0_init_4 0 rfl rfl)
theorem dX0_init_94 : decode cX0_init 94 = .ok (.putfield 57, 3) := dk_181 0 57 (dk_at dksX0_init_4 2 rfl rfl)
theorem dX0_init_97 : decode cX0_init 97 = .ok (.aload_n 0, 1) := dk_42 (dk_at dksX0_init_4 5 rfl rfl)
theorem dX0_init_98 : decode cX0_init 98 = .ok (.bipush 15, 2) := dk_16 15 (dk_at dksX0_init_4 6 rfl rfl)
theorem dX0_init_100 : decode cX0_init 100 = .ok (.newarray .int, 2) := dk_188_10 (dk_at dksX0_init_4 8 rfl rfl)
theorem dX0_init_102 : decode cX0_init 102 = .ok (.putfield 60, 3) := dk_181 0 60 (dk_at dksX0_init_4 10 rfl rfl)
theorem dX0_init_105 : decode cX0_init 105 = .ok (.aload_n 0, 1) := dk_42 (dk_at dksX0_init_4 13 rfl rfl)
theorem dX0_init_106 : decode cX0_init 106 = .ok (.bipush 15, 2) := dk_16 15 (dk_at dksX0_init_4 14 rfl rfl)
theorem dX0_init_108 : decode cX0_init 108 = .ok (.newarray .int, 2) := dk_188_10 (dk_at dksX0_init_4 16 rfl rfl)
theorem dX0_init_110 : decode cX0_init 110 = .ok (.putfield 63, 3) := dk_181 0 63 (dk_at dksX0_init_4 18 rfl rfl)
theorem dX0_init_113 : decode cX0_init 113 = .ok (.aload_n 0, 1) := dk_42 (dk_at dksX0_init_4 21 rfl rfl)
theorem dX0_init_114 : decode cX0_init 114 = .ok (.bipush 6, 2) := dk_16 6 (dk_at dksX0_init_4 22 rfl rfl)
theorem dX0_init_116 : decode cX0_init 116 = .ok (.newarray .int, 2) := dk_188_10 (dk_at dksX0_init_5 0 rfl rfl)
theorem dX0_init_118 : decode cX0_init 118 = .ok (.putfield 66, 3) := dk_181 0 66 (dk_at dksX0_init_5 2 rfl rfl)
theorem dX0_init_121 : decode cX0_init 121 = .ok (.aload_n 0, 1) := dk_42 (dk_at dksX0_init_5 5 rfl rfl)
theorem dX0_init_122 : decode cX0_init 122 = .ok (.bipush 6, 2) := dk_16 6 (dk_at dksX0_init_5 6 rfl rfl)
theorem dX0_init_124 : decode cX0_init 124 = .ok (.newarray .int, 2) := dk_188_10 (dk_at dksX0_init_5 8 rfl rfl)
theorem dX0_init_126 : decode cX0_init 126 = .ok (.putfield 69, 3) := dk_181 0 69 (dk_at dksX0_init_5 10 rfl rfl)
theorem dX0_init_129 : decode cX0_init 129 = .ok (.aload_n 0, 1) := dk_42 (dk_at dksX0_init_5 13 rfl rfl)
theorem dX0_init_130 : decode cX0_init 130 = .ok (.bipush 6, 2) := dk_16 6 (dk_at dksX0_init_5 14 rfl rfl)
theorem dX0_init_132 : decode cX0_init 132 = .ok (.newarray .int, 2) := dk_188_10 (dk_at dksX0_init_5 16 rfl rfl)
theorem dX0_init_134 : decode cX0_init 134 = .ok (.putfield 72, 3) := dk_181 0 72 (dk_at dksX0_init_5 18 rfl rfl)
theorem dX0_init_137 : decode cX0_init 137 = .ok (.aload_n 0, 1) := dk_42 (dk_at dksX0_init_5 21 rfl rfl)
theorem dX0_init_138 : decode cX0_init 138 = .ok (.bipush 6, 2) := dk_16 6 (dk_at dksX0_init_5 22 rfl rfl)
theorem dX0_init_140 : decode cX0_init 140 = .ok (.newarray .int, 2) := dk_188_10 (dk_at dksX0_init_6 0 rfl rfl)
theorem dX0_init_142 : decode cX0_init 142 = .ok (.putfield 75, 3) := dk_181 0 75 (dk_at dksX0_init_6 2 rfl rfl)
theorem dX0_init_145 : decode cX0_init 145 = .ok (.aload_n 0, 1) := dk_42 (dk_at dksX0_init_6 5 rfl rfl)
theorem dX0_init_146 : decode cX0_init 146 = .ok (.bipush 6, 2) := dk_16 6 (dk_at dksX0_init_6 6 rfl rfl)
theorem dX0_init_148 : decode cX0_init 148 = .ok (.newarray .int, 2) := dk_188_10 (dk_at dksX0_init_6 8 rfl rfl)
theorem dX0_init_150 : decode cX0_init 150 = .ok (.putfield 78, 3) := dk_181 0 78 (dk_at dksX0_init_6 10 rfl rfl)
theorem dX0_init_153 : decode cX0_init 153 = .ok (.aload_n 0, 1) := dk_42 (dk_at dksX0_init_6 13 rfl rfl)
theorem dX0_init_154 : decode cX0_init 154 = .ok (.bipush 6, 2) := dk_16 6 (dk_at dksX0_init_6 14 rfl rfl)
theorem dX0_init_156 : decode cX0_init 156 = .ok (.newarray .int, 2) := dk_188_10 (dk_at dksX0_init_6 16 rfl rfl)
theorem dX0_init_158 : decode cX0_init 158 = .ok (.putfield 81, 3) := dk_181 0 81 (dk_at dksX0_init_6 18 rfl rfl)
theorem dX0_init_161 : decode cX0_init 161 = .ok (.aload_n 0, 1) := dk_42 (dk_at dksX0_init_6 21 rfl rfl)
theorem dX0_init_162 : decode cX0_init 162 = .ok (.bipush 6, 2) := dk_16 6 (dk_at dksX0_init_6 22 rfl rfl)
theorem dX0_init_164 : decode cX0_init 164 = .ok (.newarray .int, 2) := dk_188_10 (dk_at dksX0_init_7 0 rfl rfl)
theorem dX0_init_166 : decode cX0_init 166 = .ok (.putfield 84, 3) := dk_181 0 84 (dk_at dksX0_init_7 2 rfl rfl)
theorem dX0_init_169 : decode cX0_init 169 = .ok (.aload_n 0, 1) := dk_42 (dk_at dksX0_init_7 5 rfl rfl)
theorem dX0_init_170 : decode cX0_init 170 = .ok (.bipush 6, 2) := dk_16 6 (dk_at dksX0_init_7 6 rfl rfl)
theorem dX0_init_172 : decode cX0_init 172 = .ok (.newarray .int, 2) := dk_188_10 (dk_at dksX0_init_7 8 rfl rfl)
theorem dX0_init_174 : decode cX0_init 174 = .ok (.putfield 87, 3) := dk_181 0 87 (dk_at dksX0_init_7 10 rfl rfl)
theorem dX0_init_177 : decode cX0_init 177 = .ok (.aload_n 0, 1) := dk_42 (dk_at dksX0_init_7 13 rfl rfl)
theorem dX0_init_178 : decode cX0_init 178 = .ok (.bipush 6, 2) := dk_16 6 (dk_at dksX0_init_7 14 rfl rfl)
theorem dX0_init_180 : decode cX0_init 180 = .ok (.newarray .int, 2) := dk_188_10 (dk_at dksX0_init_7 16 rfl rfl)
theorem dX0_init_182 : decode cX0_init 182 = .ok (.putfield 90, 3) := dk_181 0 90 (dk_at dksX0_init_7 18 rfl rfl)
theorem dX0_init_185 : decode cX0_init 185 = .ok (.aload_n 0, 1) := dk_42 (dk_at dksX0_init_7 21 rfl rfl)
theorem dX0_init_186 : decode cX0_init 186 = .ok (.bipush 6, 2) := dk_16 6 (dk_at dksX0_init_7 22 rfl rfl)
theorem dX0_init_188 : decode cX0_init 188 = .ok (.newarray .int, 2) := dk_188_10 (dk_at dksX0_init_8 0 rfl rfl)
theorem dX0_init_190 : decode cX0_init 190 = .ok (.putfield 93, 3) := dk_181 0 93 (dk_at dksX0_init_8 2 rfl rfl)
theorem dX0_init_193 : decode cX0_init 193 = .ok (.aload_n 0, 1) := dk_42 (dk_at dksX0_init_8 5 rfl rfl)
theorem dX0_init_194 : decode cX0_init 194 = .ok (.bipush 6, 2) := dk_16 6 (dk_at dksX0_init_8 6 rfl rfl)
theorem dX0_init_196 : decode cX0_init 196 = .ok (.newarray .int, 2) := dk_188_10 (dk_at dksX0_init_8 8 rfl rfl)
theorem dX0_init_198 : decode cX0_init 198 = .ok (.putfield 96, 3) := dk_181 0 96 (dk_at dksX0_init_8 10 rfl rfl)
theorem dX0_init_201 : decode cX0_init 201 = .ok (.aload_n 0, 1) := dk_42 (dk_at dksX0_init_8 13 rfl rfl)
theorem dX0_init_202 : decode cX0_init 202 = .ok (.sipush 816, 3) := dk_17 3 48 (dk_at dksX0_init_8 14 rfl rfl)
theorem dX0_init_205 : decode cX0_init 205 = .ok (.newarray .int, 2) := dk_188_10 (dk_at dksX0_init_8 17 rfl rfl)
theorem dX0_init_207 : decode cX0_init 207 = .ok (.putfield 99, 3) := dk_181 0 99 (dk_at dksX0_init_8 19 rfl rfl)
theorem dX0_init_210 : decode cX0_init 210 = .ok (.aload_n 0, 1) := dk_42 (dk_at dksX0_init_8 22 rfl rfl)
theorem dX0_init_211 : decode cX0_init 211 = .ok (.iconst 4, 1) := dk_7 (dk_at dksX0_init_8 23 rfl rfl)
theorem dX0_init_212 : decode cX0_init 212 = .ok (.newarray .int, 2) := dk_188_10 (dk_at dksX0_init_9 0 rfl rfl)
theorem dX0_init_214 : decode cX0_init 214 = .ok (.dup, 1) := dk_89 (dk_at dksX0_init_9 2 rfl rfl)
theorem dX0_init_215 : decode cX0_init 215 = .ok (.iconst 0, 1) := dk_3 (dk_at dksX0_init_9 3 rfl rfl)
theorem dX0_init_216 : decode cX0_init 216 = .ok (.iconst (-1), 1) := dk_2 (dk_at dksX0_init_9 4 rfl rfl)
theorem dX0_init_217 : decode cX0_init 217 = .ok (.iastore, 1) := dk_79 (dk_at dksX0_init_9 5 rfl rfl)
theorem dX0_init_218 : decode cX0_init 218 = .ok (.dup, 1) := dk_89 (dk_at dksX0_init_9 6 rfl rfl)
theorem dX0_init_219 : decode cX0_init 219 = .ok (.iconst 1, 1) := dk_4 (dk_at dksX0_init_9 7 rfl rfl)
theorem dX0_init_220 : decode cX0_init 220 = .ok (.iconst (-1), 1) := dk_2 (dk_at dksX0_init_9 8 rfl rfl)
theorem dX0_init_221 : decode cX0_init 221 = .ok (.iastore, 1) := dk_79 (dk_at dksX0_init_9 9 rfl rfl)
theorem dX0_init_222 : decode cX0_init 222 = .ok (.dup, 1) := dk_89 (dk_at dksX0_init_9 10 rfl rfl)
theorem dX0_init_223 : decode cX0_init 223 = .ok (.iconst 2, 1) := dk_5 (dk_at dksX0_init_9 11 rfl rfl)
theorem dX0_init_224 : decode cX0_init 224 = .ok (.iconst (-1), 1) := dk_2 (dk_at dksX0_init_9 12 rfl rfl)
theorem dX0_init_225 : decode cX0_init 225 = .ok (.iastore, 1) := dk_79 (dk_at dksX0_init_9 13 rfl rfl)
theorem dX0_init_226 : decode cX0_init 226 = .ok (.dup, 1) := dk_89 (dk_at dksX0_init_9 14 rfl rfl)
theorem dX0_init_227 : decode cX0_init 227 = .ok (.iconst 3, 1) := dk_6 (dk_at dksX0_init_9 15 rfl rfl)
theorem dX0_init_228 : decode cX0_init 228 = .ok (.iconst (-1), 1) := dk_2 (dk_at dksX0_init_9 16 rfl rfl)
theorem dX0_init_229 : decode cX0_init 229 = .ok (.iastore, 1) := dk_79 (dk_at dksX0_init_9 17 rfl rfl)
theorem dX0_init_230 : decode cX0_init 230 = .ok (.putfield 102, 3) := dk_181 0 102 (dk_at dksX0_init_9 18 rfl rfl)
theorem dX0_init_233 : decode cX0_init 233 = .ok (.aload_n 0, 1) := dk_42 (dk_at dksX0_init_9 21 rfl rfl)
theorem dX0_init_234 : decode cX0_init 234 = .ok (.iconst 4, 1) := dk_7 (dk_at dksX0_init_9 22 rfl rfl)
theorem dX0_init_235 : decode cX0_init 235 = .ok (.newarray .int, 2) := dk_188_10 (dk_at dksX0_init_10 0 rfl rfl)
theorem dX0_init_237 : decode cX0_init 237 = .ok (.dup, 1) := dk_89 (dk_at dksX0_init_10 2 rfl rfl)
theorem dX0_init_238 : decode cX0_init 238 = .ok (.iconst 0, 1) := dk_3 (dk_at dksX0_init_10 3 rfl rfl)
theorem dX0_init_239 : decode cX0_init 239 = .ok (.iconst (-1), 1) := dk_2 (dk_at dksX0_init_10 4 rfl rfl)
theorem dX0_init_240 : decode cX0_init 240 = .ok (.iastore, 1) := dk_79 (dk_at dksX0_init_10 5 rfl rfl)
theorem dX0_init_241 : decode cX0_init 241 = .ok (.dup, 1) := dk_89 (dk_at dksX0_init_10 6 rfl rfl)
theorem dX0_init_242 : decode cX0_init 242 = .ok (.iconst 1, 1) := dk_4 (dk_at dksX0_init_10 7 rfl rfl)
theorem dX0_init_243 : decode cX0_init 243 = .ok (.iconst (-1), 1) := dk_2 (dk_at dksX0_init_10 8 rfl rfl)
theorem dX0_init_244 : decode cX0_init 244 = .ok (.iastore, 1) := dk_79 (dk_at dksX0_init_10 9 rfl rfl)
theorem dX0_init_245 : decode cX0_init 245 = .ok (.dup, 1) := dk_89 (dk_at dksX0_init_10 10 rfl rfl)
theorem dX0_init_246 : decode cX0_init 246 = .ok (.iconst 2, 1) := dk_5 (dk_at dksX0_init_10 11 rfl rfl)
theorem dX0_init_247 : decode cX0_init 247 = .ok (.iconst (-1), 1) := dk_2 (dk_at dksX0_init_10 12 rfl rfl)
theorem dX0_init_248 : decode cX0_init 248 = .ok (.iastore, 1) := dk_79 (dk_at dksX0_init_10 13 rfl rfl)
theorem dX0_init_249 : decode cX0_init 249 = .ok (.dup, 1) := dk_89 (dk_at dksX0_init_10 14 rfl rfl)
theorem dX0_init_250 : decode cX0_init 250 = .ok (.iconst 3, 1) := dk_6 (dk_at dksX0_init_10 15 rfl rfl)
theorem dX0_init_251 : decode cX0_init 251 = .ok (.iconst (-1), 1) := dk_2 (dk_at dksX0_init_10 16 rfl rfl)
theorem dX0_init_252 : decode cX0_init 252 = .ok (.iastore, 1) := dk_79 (dk_at dksX0_init_10 17 rfl rfl)
theorem dX0_init_253 : decode cX0_init 253 = .ok (.putfield 105, 3) := dk_181 0 105 (dk_at dksX0_init_10 18 rfl rfl)
theorem dX0_init_256 : decode cX0_init 256 = .ok (.aload_n 0, 1) := dk_42 (dk_at dksX0_init_10 21 rfl rfl)
theorem dX0_init_257 : decode cX0_init 257 = .ok (.sipush 800, 3) := dk_17 3 32 (dk_at dksX0_init_11 0 rfl rfl)
theorem dX0_init_260 : decode cX0_init 260 = .ok (.newarray .int, 2) := dk_188_10 (dk_at dksX0_init_11 3 rfl rfl)
theorem dX0_init_262 : decode cX0_init 262 = .ok (.putfield 108, 3) := dk_181 0 108 (dk_at dksX0_init_11 5 rfl rfl)
theorem dX0_init_265 : decode cX0_init 265 = .ok (.aload_n 0, 1) := dk_42 (dk_at dksX0_init_11 8 rfl rfl)
theorem dX0_init_266 : decode cX0_init 266 = .ok (.bipush 6, 2) := dk_16 6 (dk_at dksX0_init_11 9 rfl rfl)
theorem dX0_init_268 : decode cX0_init 268 = .ok (.newarray .int, 2) := dk_188_10 (dk_at dksX0_init_11 11 rfl rfl)
theorem dX0_init_270 : decode cX0_init 270 = .ok (.putfield 111, 3) := dk_181 0 111 (dk_at dksX0_init_11 13 rfl rfl)
theorem dX0_init_273 : decode cX0_init 273 = .ok (.aload_n 0, 1) := dk_42 (dk_at dksX0_init_11 16 rfl rfl)
theorem dX0_init_274 : decode cX0_init 274 = .ok (.bipush 6, 2) := dk_16 6 (dk_at dksX0_init_11 17 rfl rfl)
theorem dX0_init_276 : decode cX0_init 276 = .ok (.newarray .int, 2) := dk_188_10 (dk_at dksX0_init_11 19 rfl rfl)
theorem dX0_init_278 : decode cX0_init 278 = .ok (.putfield 114, 3) := dk_181 0 114 (dk_at dksX0_init_11 21 rfl rfl)
theorem dX0_init_281 : decode cX0_init 281 = .ok (.aload_n 0, 1) := dk_42 (dk_at dksX0_init_12 0 rfl rfl)
theorem dX0_init_282 : decode cX0_init 282 = .ok (.bipush 6, 2) := dk_16 6 (dk_at dksX0_init_12 1 rfl rfl)
theorem dX0_init_284 : decode cX0_init 284 = .ok (.newarray .int, 2) := dk_188_10 (dk_at dksX0_init_12 3 rfl rfl)
theorem dX0_init_286 : decode cX0_init 286 = .ok (.putfield 117, 3) := dk_181 0 117 (dk_at dksX0_init_12 5 rfl rfl)
theorem dX0_init_289 : decode cX0_init 289 = .ok (.aload_n 0, 1) := dk_42 (dk_at dksX0_init_12 8 rfl rfl)
theorem dX0_init_290 : decode cX0_init 290 = .ok (.bipush 6, 2) := dk_16 6 (dk_at dksX0_init_12 9 rfl rfl)
theorem dX0_init_292 : decode cX0_init 292 = .ok (.newarray .int, 2) := dk_188_10 (dk_at dksX0_init_12 11 rfl rfl)
theorem dX0_init_294 : decode cX0_init 294 = .ok (.putfield 120, 3) := dk_181 0 120 (dk_at dksX0_init_12 13 rfl rfl)
theorem dX0_init_297 : decode cX0_init 297 = .ok (.aload_n 0, 1) := dk_42 (dk_at dksX0_init_12 16 rfl rfl)
theorem dX0_init_298 : decode cX0_init 298 = .ok (.bipush 6, 2) := dk_16 6 (dk_at dksX0_init_12 17 rfl rfl)
theorem dX0_init_300 : decode cX0_init 300 = .ok (.newarray .int, 2) := dk_188_10 (dk_at dksX0_init_12 19 rfl rfl)
theorem dX0_init_302 : decode cX0_init 302 = .ok (.putfield 123, 3) := dk_181 0 123 (dk_at dksX0_init_12 21 rfl rfl)
theorem dX0_init_305 : decode cX0_init 305 = .ok (.aload_n 0, 1) := dk_42 (dk_at dksX0_init_13 0 rfl rfl)
theorem dX0_init_306 : decode cX0_init 306 = .ok (.bipush 6, 2) := dk_16 6 (dk_at dksX0_init_13 1 rfl rfl)
theorem dX0_init_308 : decode cX0_init 308 = .ok (.newarray .int, 2) := dk_188_10 (dk_at dksX0_init_13 3 rfl rfl)
theorem dX0_init_310 : decode cX0_init 310 = .ok (.putfield 126, 3) := dk_181 0 126 (dk_at dksX0_init_13 5 rfl rfl)
theorem dX0_init_313 : decode cX0_init 313 = .ok (.aload_n 0, 1) := dk_42 (dk_at dksX0_init_13 8 rfl rfl)
theorem dX0_init_314 : decode cX0_init 314 = .ok (.bipush 60, 2) := dk_16 60 (dk_at dksX0_init_13 9 rfl rfl)
theorem dX0_init_316 : decode cX0_init 316 = .ok (.newarray .int, 2) := dk_188_10 (dk_at dksX0_init_13 11 rfl rfl)
theorem dX0_init_318 : decode cX0_init 318 = .ok (.putfield 129, 3) := dk_181 0 129 (dk_at dksX0_init_13 13 rfl rfl)
theorem dX0_init_321 : decode cX0_init 321 = .ok (.aload_n 0, 1) := dk_42 (dk_at dksX0_init_13 16 rfl rfl)
theorem dX0_init_322 : decode cX0_init 322 = .ok (.bipush 6, 2) := dk_16 6 (dk_at dksX0_init_13 17 rfl rfl)
theorem dX0_init_324 : decode cX0_init 324 = .ok (.newarray .int, 2) := dk_188_10 (dk_at dksX0_init_13 19 rfl rfl)
theorem dX0_init_326 : decode cX0_init 326 = .ok (.putfield 132, 3) := dk_181 0 132 (dk_at dksX0_init_13 21 rfl rfl)
theorem dX0_init_329 : decode cX0_init 329 = .ok (.aload_n 0, 1) := dk_42 (dk_at dksX0_init_14 0 rfl rfl)
theorem dX0_init_330 : decode cX0_init 330 = .ok (.bipush 6, 2) := dk_16 6 (dk_at dksX0_init_14 1 rfl rfl)
theorem dX0_init_332 : decode cX0_init 332 = .ok (.newarray .int, 2) := dk_188_10 (dk_at dksX0_init_14 3 rfl rfl)
theorem dX0_init_334 : decode cX0_init 334 = .ok (.putfield 135, 3) := dk_181 0 135 (dk_at dksX0_init_14 5 rfl rfl)
theorem dX0_init_337 : decode cX0_init 337 = .ok (.aload_n 0, 1) := dk_42 (dk_at dksX0_init_14 8 rfl rfl)
theorem dX0_init_338 : decode cX0_init 338 = .ok (.bipush 7, 2) := dk_16 7 (dk_at dksX0_init_14 9 rfl rfl)
theorem dX0_init_340 : decode cX0_init 340 = .ok (.newarray .int, 2) := dk_188_10 (dk_at dksX0_init_14 11 rfl rfl)
theorem dX0_init_342 : decode cX0_init 342 = .ok (.putfield 138, 3) := dk_181 0 138 (dk_at dksX0_init_14 13 rfl rfl)
theorem dX0_init_345 : decode cX0_init 345 = .ok (.aload_n 0, 1) := dk_42 (dk_at dksX0_init_14 16 rfl rfl)
theorem dX0_init_346 : decode cX0_init 346 = .ok (.bipush 6, 2) := dk_16 6 (dk_at dksX0_init_14 17 rfl rfl)
theorem dX0_init_348 : decode cX0_init 348 = .ok (.anewarray 4, 3) := dk_189 0 4 (dk_at dksX0_init_14 19 rfl rfl)
theorem dX0_init_351 : decode cX0_init 351 = .ok (.putfield 141, 3) := dk_181 0 141 (dk_at dksX0_init_15 0 rfl rfl)
theorem dX0_init_354 : decode cX0_init 354 = .ok (.iconst 0, 1) := dk_3 (dk_at dksX0_init_15 3 rfl rfl)
theorem dX0_init_355 : decode cX0_init 355 = .ok (.istore_n 1, 1) := dk_60 (dk_at dksX0_init_15 4 rfl rfl)
theorem dX0_init_356 : decode cX0_init 356 = .ok (.iload_n 1, 1) := dk_27 (dk_at dksX0_init_15 5 rfl rfl)
theorem dX0_init_357 : decode cX0_init 357 = .ok (.bipush 40, 2) := dk_16 40 (dk_at dksX0_init_15 6 rfl rfl)
theorem dX0_init_359 : decode cX0_init 359 = .ok (.if_icmp .ge 22, 3) := dk_162 0 22 (dk_at dksX0_init_15 8 rfl rfl)
theorem dX0_init_362 : decode cX0_init 362 = .ok (.aload_n 0, 1) := dk_42 (dk_at dksX0_init_15 11 rfl rfl)
theorem dX0_init_363 : decode cX0_init 363 = .ok (.getfield 39, 3) := dk_180 0 39 (dk_at dksX0_init_15 12 rfl rfl)
theorem dX0_init_366 : decode cX0_init 366 = .ok (.iload_n 1, 1) := dk_27 (dk_at dksX0_init_15 15 rfl rfl)
theorem dX0_init_367 : decode cX0_init 367 = .ok (.new 37, 3) := dk_187 0 37 (dk_at dksX0_init_15 16 rfl rfl)
theorem dX0_init_370 : decode cX0_init 370 = .ok (.dup, 1) := dk_89 (dk_at dksX0_init_15 19 rfl rfl)
theorem dX0_init_371 : decode cX0_init 371 = .ok (.invokespecial 145, 3) := dk_183 0 145 (dk_at dksX0_init_15 20 rfl rfl)
theorem dX0_init_374 : decode cX0_init 374 = .ok (.aastore, 1) := dk_83 (dk_at dksX0_init_15 23 rfl rfl)
theorem dX0_init_375 : decode cX0_init 375 = .ok (.iinc 1 1, 3) := dk_132 1 1 (dk_at dksX0_init_16 0 rfl rfl)
theorem dX0_init_378 : decode cX0_init 378 = .ok (.goto (-22), 3) := dk_167 255 234 (dk_at dksX0_init_16 3 rfl rfl)
theorem dX0_init_381 : decode cX0_init 381 = .ok (.return_, 1) := dk_177 (dk_at dksX0_init_16 6 rfl rfl)
abbrev cX0_body : ByteArray := prog_1_method_7_code
def yX0_body : MethodName := ⟨RX0, "body", "(I)I"⟩
def dkwX0_body_2 : List UInt8 := [180, 0, 149, 90, 4, 96, 181, 0, 149, 172]
abbrev dktX0_body_2 : List UInt8 := dkwX0_body_2 ++ []
def dkwX0_body_1 : List UInt8 := [16, 253, 172, 42, 180, 0, 11, 42, 180, 0, 149, 42, 27, 42, 180, 0, 149, 182, 0, 176, 83, 42, 89]
abbrev dktX0_body_1 : List UInt8 := dkwX0_body_1 ++ dktX0_body_2
def dkwX0_body_0 : List UInt8 := [27, 133, 9, 20, 0, 174, 184, 0, 152, 154, 0, 5, 2, 172, 42, 180, 0, 149, 17, 0, 200, 160, 0, 6]
abbrev dktX0_body_0 : List UInt8 := dkwX0_body_0 ++ dktX0_body_1
theorem dksX0_body_0 : cX0_body.data.toList.drop 0 = dktX0_body_0 := by decide +kernel
theorem dksX0_body_1 : cX0_body.data.toList.drop 24 = dktX0_body_1 := dk_seg dksX0_body_0 24 rfl rfl
theorem dksX0_body_2 : cX0_body.data.toList.drop 47 = dktX0_body_2 := dk_seg dksX0_body_1 23 rfl rfl
theorem dX0_body_0 : decode cX0_body 0 = .ok (.iload_n 1, 1) := dk_27 (dk_at dksX0_body_0 0 rfl rfl)
theorem dX0_body_1 : decode cX0_body 1 = .ok (.i2l, 1) := dk_133 (dk_at dksX0_body_0 1 rfl rfl)
theorem dX0_body_2 : decode cX0_body 2 = .ok (.lconst 0, 1) := dk_9 (dk_at dksX0_body_0 2 rfl rfl)
theorem dX0_body_3 : decode cX0_body 3 = .ok (.ldc2_w 174, 3) := dk_20 0 174 (dk_at dksX0_body_0 3 rfl rfl)
theorem dX0_body_6 : decode cX0_body 6 = .ok (.invokestatic 152, 3) := dk_184 0 152 (dk_at dksX0_body_0 6 rfl rfl)
theorem dX0_body_9 : decode cX0_body 9 = .ok (.ifCond .ne 5, 3) := dk_154 0 5 (dk_at dksX0_body_0 9 rfl rfl)
theorem dX0_body_12 : decode cX0_body 12 = .ok (.iconst (-1), 1) := dk_2 (dk_at dksX0_body_0 12 rfl rfl)
theorem dX0_body_13 : decode cX0_body 13 = .ok (.ireturn, 1) := dk_172 (dk_at dksX0_body_0 13 rfl rfl)
theorem dX0_body_14 : decode cX0_body 14 = .ok (.aload_n 0, 1) := dk_42 (dk_at dksX0_body_0 14 rfl rfl)
theorem dX0_body_15 : decode cX0_body 15 = .ok (.getfield 149, 3) := dk_180 0 149 (dk_at dksX0_body_0 15 rfl rfl)
theorem dX0_body_18 : decode cX0_body 18 = .ok (.sipush 200, 3) := dk_17 0 200 (dk_at dksX0_body_0 18 rfl rfl)
theorem dX0_body_21 : decode cX0_body 21 = .ok (.if_icmp .ne 6, 3) := dk_160 0 6 (dk_at dksX0_body_0 21 rfl rfl)
theorem dX0_body_24 : decode cX0_body 24 = .ok (.bipush (-3), 2) := dk_16 253 (dk_at dksX0_body_1 0 rfl rfl)
theorem dX0_body_26 : decode cX0_body 26 = .ok (.ireturn, 1) := dk_172 (dk_at dksX0_body_1 2 rfl rfl)
theorem dX0_body_27 : decode cX0_body 27 = .ok (.aload_n 0, 1) := dk_42 (dk_at dksX0_body_1 3 rfl rfl)
theorem dX0_body_28 : decode cX0_body 28 = .ok (.getfield 11, 3) := dk_180 0 11 (dk_at dksX0_body_1 4 rfl rfl)
theorem dX0_body_31 : decode cX0_body 31 = .ok (.aload_n 0, 1) := dk_42 (dk_at dksX0_body_1 7 rfl rfl)
theorem dX0_body_32 : decode cX0_body 32 = .ok (.getfield 149, 3) := dk_180 0 149 (dk_at dksX0_body_1 8 rfl rfl)
theorem dX0_body_35 : decode cX0_body 35 = .ok (.aload_n 0, 1) := dk_42 (dk_at dksX0_body_1 11 rfl rfl)
theorem dX0_body_36 : decode cX0_body 36 = .ok (.iload_n 1, 1) := dk_27 (dk_at dksX0_body_1 12 rfl rfl)
theorem dX0_body_37 : decode cX0_body 37 = .ok (.aload_n 0, 1) := dk_42 (dk_at dksX0_body_1 13 rfl rfl)
theorem dX0_body_38 : decode cX0_body 38 = .ok (.getfield 149, 3) := dk_180 0 149 (dk_at dksX0_body_1 14 rfl rfl)
theorem dX0_body_41 : decode cX0_body 41 = .ok (.invokevirtual 176, 3) := dk_182 0 176 (dk_at dksX0_body_1 17 rfl rfl)
theorem dX0_body_44 : decode cX0_body 44 = .ok (.aastore, 1) := dk_83 (dk_at dksX0_body_1 20 rfl rfl)
theorem dX0_body_45 : decode cX0_body 45 = .ok (.aload_n 0, 1) := dk_42 (dk_at dksX0_body_1 21 rfl rfl)
theorem dX0_body_46 : decode cX0_body 46 = .ok (.dup, 1) := dk_89 (dk_at dksX0_body_1 22 rfl rfl)
theorem dX0_body_47 : decode cX0_body 47 = .ok (.getfield 149, 3) := dk_180 0 149 (dk_at dksX0_body_2 0 rfl rfl)
theorem dX0_body_50 : decode cX0_body 50 = .ok (.dup_x1, 1) := dk_90 (dk_at dksX0_body_2 3 rfl rfl)
theorem dX0_body_51 : decode cX0_body 51 = .ok (.iconst 1, 1) := dk_4 (dk_at dksX0_body_2 4 rfl rfl)
theorem dX0_body_52 : decode cX0_body 52 = .ok (.iadd, 1) := dk_96 (dk_at dksX0_body_2 5 rfl rfl)
theorem dX0_body_53 : decode cX0_body 53 = .ok (.putfield 149, 3) := dk_181 0 149 (dk_at dksX0_body_2 6 rfl rfl)
theorem dX0_body_56 : decode cX0_body 56 = .ok (.ireturn, 1) := dk_172 (dk_at dksX0_body_2 9 rfl rfl)
abbrev cX0_within : ByteArray := prog_1_method_1_code
def yX0_within : MethodName := ⟨RX0, "within", "(JJJ)Z"⟩
def dkwX0_within_0 : List UInt8 := [30, 32, 148, 155, 0, 14, 30, 22, 4, 148, 157, 0, 7, 4, 167, 0, 4, 3, 172]
abbrev dktX0_within_0 : List UInt8 := dkwX0_within_0 ++ []
theorem dksX0_within_0 : cX0_within.data.toList.drop 0 = dktX0_within_0 := by decide +kernel
theorem dX0_within_0 : decode cX0_within 0 = .ok (.lload_n 0, 1) := dk_30 (dk_at dksX0_within_0 0 rfl rfl)
theorem dX0_within_1 : decode cX0_within 1 = .ok (.lload_n 2, 1) := dk_32 (dk_at dksX0_within_0 1 rfl rfl)
theorem dX0_within_2 : decode cX0_within 2 = .ok (.lcmp, 1) := dk_148 (dk_at dksX0_within_0 2 rfl rfl)
theorem dX0_within_3 : decode cX0_within 3 = .ok (.ifCond .lt 14, 3) := dk_155 0 14 (dk_at dksX0_within_0 3 rfl rfl)
theorem dX0_within_6 : decode cX0_within 6 = .ok (.lload_n 0, 1) := dk_30 (dk_at dksX0_within_0 6 rfl rfl)
theorem dX0_within_7 : decode cX0_within 7 = .ok (.lload 4, 2) := dk_22 4 (dk_at dksX0_within_0 7 rfl rfl)
theorem dX0_within_9 : decode cX0_within 9 = .ok (.lcmp, 1) := dk_148 (dk_at dksX0_within_0 9 rfl rfl)
theorem dX0_within_10 : decode cX0_within 10 = .ok (.ifCond .gt 7, 3) := dk_157 0 7 (dk_at dksX0_within_0 10 rfl rfl)
theorem dX0_within_13 : decode cX0_within 13 = .ok (.iconst 1, 1) := dk_4 (dk_at dksX0_within_0 13 rfl rfl)
theorem dX0_within_14 : decode cX0_within 14 = .ok (.goto 4, 3) := dk_167 0 4 (dk_at dksX0_within_0 14 rfl rfl)
theorem dX0_within_17 : decode cX0_within 17 = .ok (.iconst 0, 1) := dk_3 (dk_at dksX0_within_0 17 rfl rfl)
theorem dX0_within_18 : decode cX0_within 18 = .ok (.ireturn, 1) := dk_172 (dk_at dksX0_within_0 18 rfl rfl)
abbrev cX0_made : ByteArray := prog_1_method_6_code
def yX0_made : MethodName := ⟨RX0, "made", "(II)LPlatesSing$Part;"⟩
def dkwX0_made_4 : List UInt8 := [183, 0, 170, 176, 187, 0, 171, 89, 42, 28, 183, 0, 173, 176]
abbrev dktX0_made_4 : List UInt8 := dkwX0_made_4 ++ []
def dkwX0_made_3 : List UInt8 := [42, 28, 183, 0, 164, 176, 187, 0, 165, 89, 42, 28, 183, 0, 167, 176, 187, 0, 168, 89, 42, 28]
abbrev dktX0_made_3 : List UInt8 := dkwX0_made_3 ++ dktX0_made_4
def dkwX0_made_2 : List UInt8 := [187, 0, 9, 89, 42, 28, 183, 0, 156, 176, 187, 0, 159, 89, 42, 28, 183, 0, 161, 176, 187, 0, 162, 89]
abbrev dktX0_made_2 : List UInt8 := dkwX0_made_2 ++ dktX0_made_3
def dkwX0_made_1 : List UInt8 := [170, 0, 0, 0, 0, 0, 85, 0, 0, 0, 0, 0, 0, 0, 4, 0, 0, 0, 35, 0, 0, 0, 45, 0, 0, 0, 55, 0, 0, 0, 65, 0, 0, 0, 75]
abbrev dktX0_made_1 : List UInt8 := dkwX0_made_1 ++ dktX0_made_2
def dkwX0_made_0 : List UInt8 := [27]
abbrev dktX0_made_0 : List UInt8 := dkwX0_made_0 ++ dktX0_made_1
theorem dksX0_made_0 : cX0_made.data.toList.drop 0 = dktX0_made_0 := by decide +kernel
theorem dksX0_made_1 : cX0_made.data.toList.drop 1 = dktX0_made_1 := dk_seg dksX0_made_0 1 rfl rfl
theorem dksX0_made_2 : cX0_made.data.toList.drop 36 = dktX0_made_2 := dk_seg dksX0_made_1 35 rfl rfl
theorem dksX0_made_3 : cX0_made.data.toList.drop 60 = dktX0_made_3 := dk_seg dksX0_made_2 24 rfl rfl
theorem dksX0_made_4 : cX0_made.data.toList.drop 82 = dktX0_made_4 := dk_seg dksX0_made_3 22 rfl rfl
theorem dX0_made_0 : decode cX0_made 0 = .ok (.iload_n 1, 1) := dk_27 (dk_at dksX0_made_0 0 rfl rfl)
theorem dX0_made_1 : decode cX0_made 1 = .ok (.tableswitch 85 0 4 #[35, 45, 55, 65, 75], 35) := by decide +kernel
theorem dX0_made_36 : decode cX0_made 36 = .ok (.new 9, 3) := dk_187 0 9 (dk_at dksX0_made_2 0 rfl rfl)
theorem dX0_made_39 : decode cX0_made 39 = .ok (.dup, 1) := dk_89 (dk_at dksX0_made_2 3 rfl rfl)
theorem dX0_made_40 : decode cX0_made 40 = .ok (.aload_n 0, 1) := dk_42 (dk_at dksX0_made_2 4 rfl rfl)
theorem dX0_made_41 : decode cX0_made 41 = .ok (.iload_n 2, 1) := dk_28 (dk_at dksX0_made_2 5 rfl rfl)
theorem dX0_made_42 : decode cX0_made 42 = .ok (.invokespecial 156, 3) := dk_183 0 156 (dk_at dksX0_made_2 6 rfl rfl)
theorem dX0_made_45 : decode cX0_made 45 = .ok (.areturn, 1) := dk_176 (dk_at dksX0_made_2 9 rfl rfl)
theorem dX0_made_46 : decode cX0_made 46 = .ok (.new 159, 3) := dk_187 0 159 (dk_at dksX0_made_2 10 rfl rfl)
theorem dX0_made_49 : decode cX0_made 49 = .ok (.dup, 1) := dk_89 (dk_at dksX0_made_2 13 rfl rfl)
theorem dX0_made_50 : decode cX0_made 50 = .ok (.aload_n 0, 1) := dk_42 (dk_at dksX0_made_2 14 rfl rfl)
theorem dX0_made_51 : decode cX0_made 51 = .ok (.iload_n 2, 1) := dk_28 (dk_at dksX0_made_2 15 rfl rfl)
theorem dX0_made_52 : decode cX0_made 52 = .ok (.invokespecial 161, 3) := dk_183 0 161 (dk_at dksX0_made_2 16 rfl rfl)
theorem dX0_made_55 : decode cX0_made 55 = .ok (.areturn, 1) := dk_176 (dk_at dksX0_made_2 19 rfl rfl)
theorem dX0_made_56 : decode cX0_made 56 = .ok (.new 162, 3) := dk_187 0 162 (dk_at dksX0_made_2 20 rfl rfl)
theorem dX0_made_59 : decode cX0_made 59 = .ok (.dup, 1) := dk_89 (dk_at dksX0_made_2 23 rfl rfl)
theorem dX0_made_60 : decode cX0_made 60 = .ok (.aload_n 0, 1) := dk_42 (dk_at dksX0_made_3 0 rfl rfl)
theorem dX0_made_61 : decode cX0_made 61 = .ok (.iload_n 2, 1) := dk_28 (dk_at dksX0_made_3 1 rfl rfl)
theorem dX0_made_62 : decode cX0_made 62 = .ok (.invokespecial 164, 3) := dk_183 0 164 (dk_at dksX0_made_3 2 rfl rfl)
theorem dX0_made_65 : decode cX0_made 65 = .ok (.areturn, 1) := dk_176 (dk_at dksX0_made_3 5 rfl rfl)
theorem dX0_made_66 : decode cX0_made 66 = .ok (.new 165, 3) := dk_187 0 165 (dk_at dksX0_made_3 6 rfl rfl)
theorem dX0_made_69 : decode cX0_made 69 = .ok (.dup, 1) := dk_89 (dk_at dksX0_made_3 9 rfl rfl)
theorem dX0_made_70 : decode cX0_made 70 = .ok (.aload_n 0, 1) := dk_42 (dk_at dksX0_made_3 10 rfl rfl)
theorem dX0_made_71 : decode cX0_made 71 = .ok (.iload_n 2, 1) := dk_28 (dk_at dksX0_made_3 11 rfl rfl)
theorem dX0_made_72 : decode cX0_made 72 = .ok (.invokespecial 167, 3) := dk_183 0 167 (dk_at dksX0_made_3 12 rfl rfl)
theorem dX0_made_75 : decode cX0_made 75 = .ok (.areturn, 1) := dk_176 (dk_at dksX0_made_3 15 rfl rfl)
theorem dX0_made_76 : decode cX0_made 76 = .ok (.new 168, 3) := dk_187 0 168 (dk_at dksX0_made_3 16 rfl rfl)
theorem dX0_made_79 : decode cX0_made 79 = .ok (.dup, 1) := dk_89 (dk_at dksX0_made_3 19 rfl rfl)
theorem dX0_made_80 : decode cX0_made 80 = .ok (.aload_n 0, 1) := dk_42 (dk_at dksX0_made_3 20 rfl rfl)
theorem dX0_made_81 : decode cX0_made 81 = .ok (.iload_n 2, 1) := dk_28 (dk_at dksX0_made_3 21 rfl rfl)
theorem dX0_made_82 : decode cX0_made 82 = .ok (.invokespecial 170, 3) := dk_183 0 170 (dk_at dksX0_made_4 0 rfl rfl)
theorem dX0_made_85 : decode cX0_made 85 = .ok (.areturn, 1) := dk_176 (dk_at dksX0_made_4 3 rfl rfl)
theorem dX0_made_86 : decode cX0_made 86 = .ok (.new 171, 3) := dk_187 0 171 (dk_at dksX0_made_4 4 rfl rfl)
theorem dX0_made_89 : decode cX0_made 89 = .ok (.dup, 1) := dk_89 (dk_at dksX0_made_4 7 rfl rfl)
theorem dX0_made_90 : decode cX0_made 90 = .ok (.aload_n 0, 1) := dk_42 (dk_at dksX0_made_4 8 rfl rfl)
theorem dX0_made_91 : decode cX0_made 91 = .ok (.iload_n 2, 1) := dk_28 (dk_at dksX0_made_4 9 rfl rfl)
theorem dX0_made_92 : decode cX0_made 92 = .ok (.invokespecial 173, 3) := dk_183 0 173 (dk_at dksX0_made_4 10 rfl rfl)
theorem dX0_made_95 : decode cX0_made 95 = .ok (.areturn, 1) := dk_176 (dk_at dksX0_made_4 13 rfl rfl)
abbrev cX0_feed : ByteArray := prog_1_method_11_code
def yX0_feed : MethodName := ⟨RX0, "feed", "(II)I"⟩
def dkwX0_feed_3 : List UInt8 := [180, 0, 211, 172]
abbrev dktX0_feed_3 : List UInt8 := dkwX0_feed_3 ++ []
def dkwX0_feed_2 : List UInt8 := [96, 181, 0, 211, 28, 16, 8, 29, 104, 122, 17, 0, 255, 126, 79, 132, 3, 1, 167, 255, 222, 42]
abbrev dktX0_feed_2 : List UInt8 := dkwX0_feed_2 ++ dktX0_feed_3
def dkwX0_feed_1 : List UInt8 := [164, 0, 6, 16, 253, 172, 3, 62, 29, 27, 162, 0, 35, 42, 180, 0, 25, 42, 89, 180, 0, 211, 90, 4]
abbrev dktX0_feed_1 : List UInt8 := dkwX0_feed_1 ++ dktX0_feed_2
def dkwX0_feed_0 : List UInt8 := [27, 133, 10, 20, 0, 209, 184, 0, 152, 154, 0, 5, 2, 172, 42, 180, 0, 211, 27, 96, 16, 120]
abbrev dktX0_feed_0 : List UInt8 := dkwX0_feed_0 ++ dktX0_feed_1
theorem dksX0_feed_0 : cX0_feed.data.toList.drop 0 = dktX0_feed_0 := by decide +kernel
theorem dksX0_feed_1 : cX0_feed.data.toList.drop 22 = dktX0_feed_1 := dk_seg dksX0_feed_0 22 rfl rfl
theorem dksX0_feed_2 : cX0_feed.data.toList.drop 46 = dktX0_feed_2 := dk_seg dksX0_feed_1 24 rfl rfl
theorem dksX0_feed_3 : cX0_feed.data.toList.drop 68 = dktX0_feed_3 := dk_seg dksX0_feed_2 22 rfl rfl
theorem dX0_feed_0 : decode cX0_feed 0 = .ok (.iload_n 1, 1) := dk_27 (dk_at dksX0_feed_0 0 rfl rfl)
theorem dX0_feed_1 : decode cX0_feed 1 = .ok (.i2l, 1) := dk_133 (dk_at dksX0_feed_0 1 rfl rfl)
theorem dX0_feed_2 : decode cX0_feed 2 = .ok (.lconst 1, 1) := dk_10 (dk_at dksX0_feed_0 2 rfl rfl)
theorem dX0_feed_3 : decode cX0_feed 3 = .ok (.ldc2_w 209, 3) := dk_20 0 209 (dk_at dksX0_feed_0 3 rfl rfl)
theorem dX0_feed_6 : decode cX0_feed 6 = .ok (.invokestatic 152, 3) := dk_184 0 152 (dk_at dksX0_feed_0 6 rfl rfl)
theorem dX0_feed_9 : decode cX0_feed 9 = .ok (.ifCond .ne 5, 3) := dk_154 0 5 (dk_at dksX0_feed_0 9 rfl rfl)
theorem dX0_feed_12 : decode cX0_feed 12 = .ok (.iconst (-1), 1) := dk_2 (dk_at dksX0_feed_0 12 rfl rfl)
theorem dX0_feed_13 : decode cX0_feed 13 = .ok (.ireturn, 1) := dk_172 (dk_at dksX0_feed_0 13 rfl rfl)
theorem dX0_feed_14 : decode cX0_feed 14 = .ok (.aload_n 0, 1) := dk_42 (dk_at dksX0_feed_0 14 rfl rfl)
theorem dX0_feed_15 : decode cX0_feed 15 = .ok (.getfield 211, 3) := dk_180 0 211 (dk_at dksX0_feed_0 15 rfl rfl)
theorem dX0_feed_18 : decode cX0_feed 18 = .ok (.iload_n 1, 1) := dk_27 (dk_at dksX0_feed_0 18 rfl rfl)
theorem dX0_feed_19 : decode cX0_feed 19 = .ok (.iadd, 1) := dk_96 (dk_at dksX0_feed_0 19 rfl rfl)
theorem dX0_feed_20 : decode cX0_feed 20 = .ok (.bipush 120, 2) := dk_16 120 (dk_at dksX0_feed_0 20 rfl rfl)
theorem dX0_feed_22 : decode cX0_feed 22 = .ok (.if_icmp .le 6, 3) := dk_164 0 6 (dk_at dksX0_feed_1 0 rfl rfl)
theorem dX0_feed_25 : decode cX0_feed 25 = .ok (.bipush (-3), 2) := dk_16 253 (dk_at dksX0_feed_1 3 rfl rfl)
theorem dX0_feed_27 : decode cX0_feed 27 = .ok (.ireturn, 1) := dk_172 (dk_at dksX0_feed_1 5 rfl rfl)
theorem dX0_feed_28 : decode cX0_feed 28 = .ok (.iconst 0, 1) := dk_3 (dk_at dksX0_feed_1 6 rfl rfl)
theorem dX0_feed_29 : decode cX0_feed 29 = .ok (.istore_n 3, 1) := dk_62 (dk_at dksX0_feed_1 7 rfl rfl)
theorem dX0_feed_30 : decode cX0_feed 30 = .ok (.iload_n 3, 1) := dk_29 (dk_at dksX0_feed_1 8 rfl rfl)
theorem dX0_feed_31 : decode cX0_feed 31 = .ok (.iload_n 1, 1) := dk_27 (dk_at dksX0_feed_1 9 rfl rfl)
theorem dX0_feed_32 : decode cX0_feed 32 = .ok (.if_icmp .ge 35, 3) := dk_162 0 35 (dk_at dksX0_feed_1 10 rfl rfl)
theorem dX0_feed_35 : decode cX0_feed 35 = .ok (.aload_n 0, 1) := dk_42 (dk_at dksX0_feed_1 13 rfl rfl)
theorem dX0_feed_36 : decode cX0_feed 36 = .ok (.getfield 25, 3) := dk_180 0 25 (dk_at dksX0_feed_1 14 rfl rfl)
theorem dX0_feed_39 : decode cX0_feed 39 = .ok (.aload_n 0, 1) := dk_42 (dk_at dksX0_feed_1 17 rfl rfl)
theorem dX0_feed_40 : decode cX0_feed 40 = .ok (.dup, 1) := dk_89 (dk_at dksX0_feed_1 18 rfl rfl)
theorem dX0_feed_41 : decode cX0_feed 41 = .ok (.getfield 211, 3) := dk_180 0 211 (dk_at dksX0_feed_1 19 rfl rfl)
theorem dX0_feed_44 : decode cX0_feed 44 = .ok (.dup_x1, 1) := dk_90 (dk_at dksX0_feed_1 22 rfl rfl)
theorem dX0_feed_45 : decode cX0_feed 45 = .ok (.iconst 1, 1) := dk_4 (dk_at dksX0_feed_1 23 rfl rfl)
theorem dX0_feed_46 : decode cX0_feed 46 = .ok (.iadd, 1) := dk_96 (dk_at dksX0_feed_2 0 rfl rfl)
theorem dX0_feed_47 : decode cX0_feed 47 = .ok (.putfield 211, 3) := dk_181 0 211 (dk_at dksX0_feed_2 1 rfl rfl)
theorem dX0_feed_50 : decode cX0_feed 50 = .ok (.iload_n 2, 1) := dk_28 (dk_at dksX0_feed_2 4 rfl rfl)
theorem dX0_feed_51 : decode cX0_feed 51 = .ok (.bipush 8, 2) := dk_16 8 (dk_at dksX0_feed_2 5 rfl rfl)
theorem dX0_feed_53 : decode cX0_feed 53 = .ok (.iload_n 3, 1) := dk_29 (dk_at dksX0_feed_2 7 rfl rfl)
theorem dX0_feed_54 : decode cX0_feed 54 = .ok (.imul, 1) := dk_104 (dk_at dksX0_feed_2 8 rfl rfl)
theorem dX0_feed_55 : decode cX0_feed 55 = .ok (.ishr, 1) := dk_122 (dk_at dksX0_feed_2 9 rfl rfl)
theorem dX0_feed_56 : decode cX0_feed 56 = .ok (.sipush 255, 3) := dk_17 0 255 (dk_at dksX0_feed_2 10 rfl rfl)
theorem dX0_feed_59 : decode cX0_feed 59 = .ok (.iand, 1) := dk_126 (dk_at dksX0_feed_2 13 rfl rfl)
theorem dX0_feed_60 : decode cX0_feed 60 = .ok (.iastore, 1) := dk_79 (dk_at dksX0_feed_2 14 rfl rfl)
theorem dX0_feed_61 : decode cX0_feed 61 = .ok (.iinc 3 1, 3) := dk_132 3 1 (dk_at dksX0_feed_2 15 rfl rfl)
theorem dX0_feed_64 : decode cX0_feed 64 = .ok (.goto (-34), 3) := dk_167 255 222 (dk_at dksX0_feed_2 18 rfl rfl)
theorem dX0_feed_67 : decode cX0_feed 67 = .ok (.aload_n 0, 1) := dk_42 (dk_at dksX0_feed_2 21 rfl rfl)
theorem dX0_feed_68 : decode cX0_feed 68 = .ok (.getfield 211, 3) := dk_180 0 211 (dk_at dksX0_feed_3 0 rfl rfl)
theorem dX0_feed_71 : decode cX0_feed 71 = .ok (.ireturn, 1) := dk_172 (dk_at dksX0_feed_3 3 rfl rfl)
abbrev cX0_shape : ByteArray := prog_1_method_12_code
def yX0_shape : MethodName := ⟨RX0, "shape", "()I"⟩
def dkwX0_shape_3 : List UInt8 := [180, 0, 33, 182, 0, 221, 83, 42, 89, 180, 0, 198, 90, 4, 96, 181, 0, 198, 172]
abbrev dktX0_shape_3 : List UInt8 := dkwX0_shape_3 ++ []
def dkwX0_shape_2 : List UInt8 := [42, 3, 181, 0, 211, 27, 2, 159, 0, 8, 16, 156, 27, 100, 172, 42, 180, 0, 21, 42, 180, 0, 198, 42]
abbrev dktX0_shape_2 : List UInt8 := dkwX0_shape_2 ++ dktX0_shape_3
def dkwX0_shape_1 : List UInt8 := [160, 0, 24, 42, 180, 0, 149, 42, 180, 0, 33, 180, 0, 218, 96, 17, 0, 200, 164, 0, 6, 16, 253, 172]
abbrev dktX0_shape_1 : List UInt8 := dkwX0_shape_1 ++ dktX0_shape_2
def dkwX0_shape_0 : List UInt8 := [42, 180, 0, 198, 16, 12, 160, 0, 6, 16, 253, 172, 42, 180, 0, 33, 182, 0, 214, 60, 27, 2]
abbrev dktX0_shape_0 : List UInt8 := dkwX0_shape_0 ++ dktX0_shape_1
theorem dksX0_shape_0 : cX0_shape.data.toList.drop 0 = dktX0_shape_0 := by decide +kernel
theorem dksX0_shape_1 : cX0_shape.data.toList.drop 22 = dktX0_shape_1 := dk_seg dksX0_shape_0 22 rfl rfl
theorem dksX0_shape_2 : cX0_shape.data.toList.drop 46 = dktX0_shape_2 := dk_seg dksX0_shape_1 24 rfl rfl
theorem dksX0_shape_3 : cX0_shape.data.toList.drop 70 = dktX0_shape_3 := dk_seg dksX0_shape_2 24 rfl rfl
theorem dX0_shape_0 : decode cX0_shape 0 = .ok (.aload_n 0, 1) := dk_42 (dk_at dksX0_shape_0 0 rfl rfl)
theorem dX0_shape_1 : decode cX0_shape 1 = .ok (.getfield 198, 3) := dk_180 0 198 (dk_at dksX0_shape_0 1 rfl rfl)
theorem dX0_shape_4 : decode cX0_shape 4 = .ok (.bipush 12, 2) := dk_16 12 (dk_at dksX0_shape_0 4 rfl rfl)
theorem dX0_shape_6 : decode cX0_shape 6 = .ok (.if_icmp .ne 6, 3) := dk_160 0 6 (dk_at dksX0_shape_0 6 rfl rfl)
theorem dX0_shape_9 : decode cX0_shape 9 = .ok (.bipush (-3), 2) := dk_16 253 (dk_at dksX0_shape_0 9 rfl rfl)
theorem dX0_shape_11 : decode cX0_shape 11 = .ok (.ireturn, 1) := dk_172 (dk_at dksX0_shape_0 11 rfl rfl)
theorem dX0_shape_12 : decode cX0_shape 12 = .ok (.aload_n 0, 1) := dk_42 (dk_at dksX0_shape_0 12 rfl rfl)
theorem dX0_shape_13 : decode cX0_shape 13 = .ok (.getfield 33, 3) := dk_180 0 33 (dk_at dksX0_shape_0 13 rfl rfl)
theorem dX0_shape_16 : decode cX0_shape 16 = .ok (.invokevirtual 214, 3) := dk_182 0 214 (dk_at dksX0_shape_0 16 rfl rfl)
theorem dX0_shape_19 : decode cX0_shape 19 = .ok (.istore_n 1, 1) := dk_60 (dk_at dksX0_shape_0 19 rfl rfl)
theorem dX0_shape_20 : decode cX0_shape 20 = .ok (.iload_n 1, 1) := dk_27 (dk_at dksX0_shape_0 20 rfl rfl)
theorem dX0_shape_21 : decode cX0_shape 21 = .ok (.iconst (-1), 1) := dk_2 (dk_at dksX0_shape_0 21 rfl rfl)
theorem dX0_shape_22 : decode cX0_shape 22 = .ok (.if_icmp .ne 24, 3) := dk_160 0 24 (dk_at dksX0_shape_1 0 rfl rfl)
theorem dX0_shape_25 : decode cX0_shape 25 = .ok (.aload_n 0, 1) := dk_42 (dk_at dksX0_shape_1 3 rfl rfl)
theorem dX0_shape_26 : decode cX0_shape 26 = .ok (.getfield 149, 3) := dk_180 0 149 (dk_at dksX0_shape_1 4 rfl rfl)
theorem dX0_shape_29 : decode cX0_shape 29 = .ok (.aload_n 0, 1) := dk_42 (dk_at dksX0_shape_1 7 rfl rfl)
theorem dX0_shape_30 : decode cX0_shape 30 = .ok (.getfield 33, 3) := dk_180 0 33 (dk_at dksX0_shape_1 8 rfl rfl)
theorem dX0_shape_33 : decode cX0_shape 33 = .ok (.getfield 218, 3) := dk_180 0 218 (dk_at dksX0_shape_1 11 rfl rfl)
theorem dX0_shape_36 : decode cX0_shape 36 = .ok (.iadd, 1) := dk_96 (dk_at dksX0_shape_1 14 rfl rfl)
theorem dX0_shape_37 : decode cX0_shape 37 = .ok (.sipush 200, 3) := dk_17 0 200 (dk_at dksX0_shape_1 15 rfl rfl)
theorem dX0_shape_40 : decode cX0_shape 40 = .ok (.if_icmp .le 6, 3) := dk_164 0 6 (dk_at dksX0_shape_1 18 rfl rfl)
theorem dX0_shape_43 : decode cX0_shape 43 = .ok (.bipush (-3), 2) := dk_16 253 (dk_at dksX0_shape_1 21 rfl rfl)
theorem dX0_shape_45 : decode cX0_shape 45 = .ok (.ireturn, 1) := dk_172 (dk_at dksX0_shape_1 23 rfl rfl)
theorem dX0_shape_46 : decode cX0_shape 46 = .ok (.aload_n 0, 1) := dk_42 (dk_at dksX0_shape_2 0 rfl rfl)
theorem dX0_shape_47 : decode cX0_shape 47 = .ok (.iconst 0, 1) := dk_3 (dk_at dksX0_shape_2 1 rfl rfl)
theorem dX0_shape_48 : decode cX0_shape 48 = .ok (.putfield 211, 3) := dk_181 0 211 (dk_at dksX0_shape_2 2 rfl rfl)
theorem dX0_shape_51 : decode cX0_shape 51 = .ok (.iload_n 1, 1) := dk_27 (dk_at dksX0_shape_2 5 rfl rfl)
theorem dX0_shape_52 : decode cX0_shape 52 = .ok (.iconst (-1), 1) := dk_2 (dk_at dksX0_shape_2 6 rfl rfl)
theorem dX0_shape_53 : decode cX0_shape 53 = .ok (.if_icmp .eq 8, 3) := dk_159 0 8 (dk_at dksX0_shape_2 7 rfl rfl)
theorem dX0_shape_56 : decode cX0_shape 56 = .ok (.bipush (-100), 2) := dk_16 156 (dk_at dksX0_shape_2 10 rfl rfl)
theorem dX0_shape_58 : decode cX0_shape 58 = .ok (.iload_n 1, 1) := dk_27 (dk_at dksX0_shape_2 12 rfl rfl)
theorem dX0_shape_59 : decode cX0_shape 59 = .ok (.isub, 1) := dk_100 (dk_at dksX0_shape_2 13 rfl rfl)
theorem dX0_shape_60 : decode cX0_shape 60 = .ok (.ireturn, 1) := dk_172 (dk_at dksX0_shape_2 14 rfl rfl)
theorem dX0_shape_61 : decode cX0_shape 61 = .ok (.aload_n 0, 1) := dk_42 (dk_at dksX0_shape_2 15 rfl rfl)
theorem dX0_shape_62 : decode cX0_shape 62 = .ok (.getfield 21, 3) := dk_180 0 21 (dk_at dksX0_shape_2 16 rfl rfl)
theorem dX0_shape_65 : decode cX0_shape 65 = .ok (.aload_n 0, 1) := dk_42 (dk_at dksX0_shape_2 19 rfl rfl)
theorem dX0_shape_66 : decode cX0_shape 66 = .ok (.getfield 198, 3) := dk_180 0 198 (dk_at dksX0_shape_2 20 rfl rfl)
theorem dX0_shape_69 : decode cX0_shape 69 = .ok (.aload_n 0, 1) := dk_42 (dk_at dksX0_shape_2 23 rfl rfl)
theorem dX0_shape_70 : decode cX0_shape 70 = .ok (.getfield 33, 3) := dk_180 0 33 (dk_at dksX0_shape_3 0 rfl rfl)
theorem dX0_shape_73 : decode cX0_shape 73 = .ok (.invokevirtual 221, 3) := dk_182 0 221 (dk_at dksX0_shape_3 3 rfl rfl)
theorem dX0_shape_76 : decode cX0_shape 76 = .ok (.aastore, 1) := dk_83 (dk_at dksX0_shape_3 6 rfl rfl)
theorem dX0_shape_77 : decode cX0_shape 77 = .ok (.aload_n 0, 1) := dk_42 (dk_at dksX0_shape_3 7 rfl rfl)
theorem dX0_shape_78 : decode cX0_shape 78 = .ok (.dup, 1) := dk_89 (dk_at dksX0_shape_3 8 rfl rfl)
theorem dX0_shape_79 : decode cX0_shape 79 = .ok (.getfield 198, 3) := dk_180 0 198 (dk_at dksX0_shape_3 9 rfl rfl)
theorem dX0_shape_82 : decode cX0_shape 82 = .ok (.dup_x1, 1) := dk_90 (dk_at dksX0_shape_3 12 rfl rfl)
theorem dX0_shape_83 : decode cX0_shape 83 = .ok (.iconst 1, 1) := dk_4 (dk_at dksX0_shape_3 13 rfl rfl)
theorem dX0_shape_84 : decode cX0_shape 84 = .ok (.iadd, 1) := dk_96 (dk_at dksX0_shape_3 14 rfl rfl)
theorem dX0_shape_85 : decode cX0_shape 85 = .ok (.putfield 198, 3) := dk_181 0 198 (dk_at dksX0_shape_3 15 rfl rfl)
theorem dX0_shape_88 : decode cX0_shape 88 = .ok (.ireturn, 1) := dk_172 (dk_at dksX0_shape_3 18 rfl rfl)
abbrev cX0_newPiece : ByteArray := prog_1_method_8_code
def yX0_newPiece : MethodName := ⟨RX0, "newPiece", "(III)LPlatesSing$Piece;"⟩
def dkwX0_newPiece_2 : List UInt8 := [180, 0, 149, 90, 4, 96, 181, 0, 149, 25, 4, 83, 25, 4, 176]
abbrev dktX0_newPiece_2 : List UInt8 := dkwX0_newPiece_2 ++ []
def dkwX0_newPiece_1 : List UInt8 := [25, 4, 27, 28, 184, 0, 189, 181, 0, 192, 25, 4, 29, 181, 0, 195, 42, 180, 0, 11, 42, 89]
abbrev dktX0_newPiece_1 : List UInt8 := dkwX0_newPiece_1 ++ dktX0_newPiece_2
def dkwX0_newPiece_0 : List UInt8 := [187, 0, 159, 89, 42, 42, 180, 0, 149, 183, 0, 161, 58, 4, 25, 4, 27, 28, 184, 0, 180, 181, 0, 186]
abbrev dktX0_newPiece_0 : List UInt8 := dkwX0_newPiece_0 ++ dktX0_newPiece_1
theorem dksX0_newPiece_0 : cX0_newPiece.data.toList.drop 0 = dktX0_newPiece_0 := by decide +kernel
theorem dksX0_newPiece_1 : cX0_newPiece.data.toList.drop 24 = dktX0_newPiece_1 := dk_seg dksX0_newPiece_0 24 rfl rfl
theorem dksX0_newPiece_2 : cX0_newPiece.data.toList.drop 46 = dktX0_newPiece_2 := dk_seg dksX0_newPiece_1 22 rfl rfl
theorem dX0_newPiece_0 : decode cX0_newPiece 0 = .ok (.new 159, 3) := dk_187 0 159 (dk_at dksX0_newPiece_0 0 rfl rfl)
theorem dX0_newPiece_3 : decode cX0_newPiece 3 = .ok (.dup, 1) := dk_89 (dk_at dksX0_newPiece_0 3 rfl rfl)
theorem dX0_newPiece_4 : decode cX0_newPiece 4 = .ok (.aload_n 0, 1) := dk_42 (dk_at dksX0_newPiece_0 4 rfl rfl)
theorem dX0_newPiece_5 : decode cX0_newPiece 5 = .ok (.aload_n 0, 1) := dk_42 (dk_at dksX0_newPiece_0 5 rfl rfl)
theorem dX0_newPiece_6 : decode cX0_newPiece 6 = .ok (.getfield 149, 3) := dk_180 0 149 (dk_at dksX0_newPiece_0 6 rfl rfl)
theorem dX0_newPiece_9 : decode cX0_newPiece 9 = .ok (.invokespecial 161, 3) := dk_183 0 161 (dk_at dksX0_newPiece_0 9 rfl rfl)
theorem dX0_newPiece_12 : decode cX0_newPiece 12 = .ok (.astore 4, 2) := dk_58 4 (dk_at dksX0_newPiece_0 12 rfl rfl)
theorem dX0_newPiece_14 : decode cX0_newPiece 14 = .ok (.aload 4, 2) := dk_25 4 (dk_at dksX0_newPiece_0 14 rfl rfl)
theorem dX0_newPiece_16 : decode cX0_newPiece 16 = .ok (.iload_n 1, 1) := dk_27 (dk_at dksX0_newPiece_0 16 rfl rfl)
theorem dX0_newPiece_17 : decode cX0_newPiece 17 = .ok (.iload_n 2, 1) := dk_28 (dk_at dksX0_newPiece_0 17 rfl rfl)
theorem dX0_newPiece_18 : decode cX0_newPiece 18 = .ok (.invokestatic 180, 3) := dk_184 0 180 (dk_at dksX0_newPiece_0 18 rfl rfl)
theorem dX0_newPiece_21 : decode cX0_newPiece 21 = .ok (.putfield 186, 3) := dk_181 0 186 (dk_at dksX0_newPiece_0 21 rfl rfl)
theorem dX0_newPiece_24 : decode cX0_newPiece 24 = .ok (.aload 4, 2) := dk_25 4 (dk_at dksX0_newPiece_1 0 rfl rfl)
theorem dX0_newPiece_26 : decode cX0_newPiece 26 = .ok (.iload_n 1, 1) := dk_27 (dk_at dksX0_newPiece_1 2 rfl rfl)
theorem dX0_newPiece_27 : decode cX0_newPiece 27 = .ok (.iload_n 2, 1) := dk_28 (dk_at dksX0_newPiece_1 3 rfl rfl)
theorem dX0_newPiece_28 : decode cX0_newPiece 28 = .ok (.invokestatic 189, 3) := dk_184 0 189 (dk_at dksX0_newPiece_1 4 rfl rfl)
theorem dX0_newPiece_31 : decode cX0_newPiece 31 = .ok (.putfield 192, 3) := dk_181 0 192 (dk_at dksX0_newPiece_1 7 rfl rfl)
theorem dX0_newPiece_34 : decode cX0_newPiece 34 = .ok (.aload 4, 2) := dk_25 4 (dk_at dksX0_newPiece_1 10 rfl rfl)
theorem dX0_newPiece_36 : decode cX0_newPiece 36 = .ok (.iload_n 3, 1) := dk_29 (dk_at dksX0_newPiece_1 12 rfl rfl)
theorem dX0_newPiece_37 : decode cX0_newPiece 37 = .ok (.putfield 195, 3) := dk_181 0 195 (dk_at dksX0_newPiece_1 13 rfl rfl)
theorem dX0_newPiece_40 : decode cX0_newPiece 40 = .ok (.aload_n 0, 1) := dk_42 (dk_at dksX0_newPiece_1 16 rfl rfl)
theorem dX0_newPiece_41 : decode cX0_newPiece 41 = .ok (.getfield 11, 3) := dk_180 0 11 (dk_at dksX0_newPiece_1 17 rfl rfl)
theorem dX0_newPiece_44 : decode cX0_newPiece 44 = .ok (.aload_n 0, 1) := dk_42 (dk_at dksX0_newPiece_1 20 rfl rfl)
theorem dX0_newPiece_45 : decode cX0_newPiece 45 = .ok (.dup, 1) := dk_89 (dk_at dksX0_newPiece_1 21 rfl rfl)
theorem dX0_newPiece_46 : decode cX0_newPiece 46 = .ok (.getfield 149, 3) := dk_180 0 149 (dk_at dksX0_newPiece_2 0 rfl rfl)
theorem dX0_newPiece_49 : decode cX0_newPiece 49 = .ok (.dup_x1, 1) := dk_90 (dk_at dksX0_newPiece_2 3 rfl rfl)
theorem dX0_newPiece_50 : decode cX0_newPiece 50 = .ok (.iconst 1, 1) := dk_4 (dk_at dksX0_newPiece_2 4 rfl rfl)
theorem dX0_newPiece_51 : decode cX0_newPiece 51 = .ok (.iadd, 1) := dk_96 (dk_at dksX0_newPiece_2 5 rfl rfl)
theorem dX0_newPiece_52 : decode cX0_newPiece 52 = .ok (.putfield 149, 3) := dk_181 0 149 (dk_at dksX0_newPiece_2 6 rfl rfl)
theorem dX0_newPiece_55 : decode cX0_newPiece 55 = .ok (.aload 4, 2) := dk_25 4 (dk_at dksX0_newPiece_2 9 rfl rfl)
theorem dX0_newPiece_57 : decode cX0_newPiece 57 = .ok (.aastore, 1) := dk_83 (dk_at dksX0_newPiece_2 11 rfl rfl)
theorem dX0_newPiece_58 : decode cX0_newPiece 58 = .ok (.aload 4, 2) := dk_25 4 (dk_at dksX0_newPiece_2 12 rfl rfl)
theorem dX0_newPiece_60 : decode cX0_newPiece 60 = .ok (.areturn, 1) := dk_176 (dk_at dksX0_newPiece_2 14 rfl rfl)
abbrev cX0_of : ByteArray := prog_1_method_13_code
def yX0_of : MethodName := ⟨RX0, "of", "(II)I"⟩
def dkwX0_of_6 : List UInt8 := [45, 180, 0, 242, 21, 4, 51, 184, 0, 246, 172, 18, 225, 172]
abbrev dktX0_of_6 : List UInt8 := dkwX0_of_6 ++ []
def dkwX0_of_5 : List UInt8 := [45, 180, 0, 233, 21, 4, 46, 172, 45, 180, 0, 236, 21, 4, 46, 172, 45, 180, 0, 239, 21, 4, 46, 172]
abbrev dktX0_of_5 : List UInt8 := dkwX0_of_5 ++ dktX0_of_6
def dkwX0_of_4 : List UInt8 := [170, 0, 0, 0, 0, 0, 0, 67, 0, 0, 0, 1, 0, 0, 0, 4, 0, 0, 0, 32, 0, 0, 0, 40, 0, 0, 0, 48, 0, 0, 0, 56]
abbrev dktX0_of_4 : List UInt8 := dkwX0_of_4 ++ dktX0_of_5
def dkwX0_of_3 : List UInt8 := [16, 10, 108]
abbrev dktX0_of_3 : List UInt8 := dkwX0_of_3 ++ dktX0_of_4
def dkwX0_of_2 : List UInt8 := [182, 0, 230, 172, 28, 16, 10, 112, 54, 4, 45, 21, 4, 182, 0, 205, 154, 0, 6, 18, 225, 172, 28]
abbrev dktX0_of_2 : List UInt8 := dkwX0_of_2 ++ dktX0_of_3
def dkwX0_of_1 : List UInt8 := [154, 0, 10, 45, 180, 0, 226, 167, 0, 19, 28, 4, 160, 0, 10, 45, 180, 0, 229, 167, 0, 7, 45]
abbrev dktX0_of_1 : List UInt8 := dkwX0_of_1 ++ dktX0_of_2
def dkwX0_of_0 : List UInt8 := [42, 27, 182, 0, 201, 78, 45, 198, 0, 7, 28, 156, 0, 6, 18, 225, 172, 28, 6, 162, 0, 31, 28]
abbrev dktX0_of_0 : List UInt8 := dkwX0_of_0 ++ dktX0_of_1
theorem dksX0_of_0 : cX0_of.data.toList.drop 0 = dktX0_of_0 := by decide +kernel
theorem dksX0_of_1 : cX0_of.data.toList.drop 23 = dktX0_of_1 := dk_seg dksX0_of_0 23 rfl rfl
theorem dksX0_of_2 : cX0_of.data.toList.drop 46 = dktX0_of_2 := dk_seg dksX0_of_1 23 rfl rfl
theorem dksX0_of_3 : cX0_of.data.toList.drop 69 = dktX0_of_3 := dk_seg dksX0_of_2 23 rfl rfl
theorem dksX0_of_4 : cX0_of.data.toList.drop 72 = dktX0_of_4 := dk_seg dksX0_of_3 3 rfl rfl
theorem dksX0_of_5 : cX0_of.data.toList.drop 104 = dktX0_of_5 := dk_seg dksX0_of_4 32 rfl rfl
theorem dksX0_of_6 : cX0_of.data.toList.drop 128 = dktX0_of_6 := dk_seg dksX0_of_5 24 rfl rfl
theorem dX0_of_0 : decode cX0_of 0 = .ok (.aload_n 0, 1) := dk_42 (dk_at dksX0_of_0 0 rfl rfl)
theorem dX0_of_1 : decode cX0_of 1 = .ok (.iload_n 1, 1) := dk_27 (dk_at dksX0_of_0 1 rfl rfl)
theorem dX0_of_2 : decode cX0_of 2 = .ok (.invokevirtual 201, 3) := dk_182 0 201 (dk_at dksX0_of_0 2 rfl rfl)
theorem dX0_of_5 : decode cX0_of 5 = .ok (.astore_n 3, 1) := dk_78 (dk_at dksX0_of_0 5 rfl rfl)
theorem dX0_of_6 : decode cX0_of 6 = .ok (.aload_n 3, 1) := dk_45 (dk_at dksX0_of_0 6 rfl rfl)
theorem dX0_of_7 : decode cX0_of 7 = .ok (.ifnull 7, 3) := dk_198 0 7 (dk_at dksX0_of_0 7 rfl rfl)
theorem dX0_of_10 : decode cX0_of 10 = .ok (.iload_n 2, 1) := dk_28 (dk_at dksX0_of_0 10 rfl rfl)
theorem dX0_of_11 : decode cX0_of 11 = .ok (.ifCond .ge 6, 3) := dk_156 0 6 (dk_at dksX0_of_0 11 rfl rfl)
theorem dX0_of_14 : decode cX0_of 14 = .ok (.ldc 225, 2) := dk_18 225 (dk_at dksX0_of_0 14 rfl rfl)
theorem dX0_of_16 : decode cX0_of 16 = .ok (.ireturn, 1) := dk_172 (dk_at dksX0_of_0 16 rfl rfl)
theorem dX0_of_17 : decode cX0_of 17 = .ok (.iload_n 2, 1) := dk_28 (dk_at dksX0_of_0 17 rfl rfl)
theorem dX0_of_18 : decode cX0_of 18 = .ok (.iconst 3, 1) := dk_6 (dk_at dksX0_of_0 18 rfl rfl)
theorem dX0_of_19 : decode cX0_of 19 = .ok (.if_icmp .ge 31, 3) := dk_162 0 31 (dk_at dksX0_of_0 19 rfl rfl)
theorem dX0_of_22 : decode cX0_of 22 = .ok (.iload_n 2, 1) := dk_28 (dk_at dksX0_of_0 22 rfl rfl)
theorem dX0_of_23 : decode cX0_of 23 = .ok (.ifCond .ne 10, 3) := dk_154 0 10 (dk_at dksX0_of_1 0 rfl rfl)
theorem dX0_of_26 : decode cX0_of 26 = .ok (.aload_n 3, 1) := dk_45 (dk_at dksX0_of_1 3 rfl rfl)
theorem dX0_of_27 : decode cX0_of 27 = .ok (.getfield 226, 3) := dk_180 0 226 (dk_at dksX0_of_1 4 rfl rfl)
theorem dX0_of_30 : decode cX0_of 30 = .ok (.goto 19, 3) := dk_167 0 19 (dk_at dksX0_of_1 7 rfl rfl)
theorem dX0_of_33 : decode cX0_of 33 = .ok (.iload_n 2, 1) := dk_28 (dk_at dksX0_of_1 10 rfl rfl)
theorem dX0_of_34 : decode cX0_of 34 = .ok (.iconst 1, 1) := dk_4 (dk_at dksX0_of_1 11 rfl rfl)
theorem dX0_of_35 : decode cX0_of 35 = .ok (.if_icmp .ne 10, 3) := dk_160 0 10 (dk_at dksX0_of_1 12 rfl rfl)
theorem dX0_of_38 : decode cX0_of 38 = .ok (.aload_n 3, 1) := dk_45 (dk_at dksX0_of_1 15 rfl rfl)
theorem dX0_of_39 : decode cX0_of 39 = .ok (.getfield 229, 3) := dk_180 0 229 (dk_at dksX0_of_1 16 rfl rfl)
theorem dX0_of_42 : decode cX0_of 42 = .ok (.goto 7, 3) := dk_167 0 7 (dk_at dksX0_of_1 19 rfl rfl)
theorem dX0_of_45 : decode cX0_of 45 = .ok (.aload_n 3, 1) := dk_45 (dk_at dksX0_of_1 22 rfl rfl)
theorem dX0_of_46 : decode cX0_of 46 = .ok (.invokevirtual 230, 3) := dk_182 0 230 (dk_at dksX0_of_2 0 rfl rfl)
theorem dX0_of_49 : decode cX0_of 49 = .ok (.ireturn, 1) := dk_172 (dk_at dksX0_of_2 3 rfl rfl)
theorem dX0_of_50 : decode cX0_of 50 = .ok (.iload_n 2, 1) := dk_28 (dk_at dksX0_of_2 4 rfl rfl)
theorem dX0_of_51 : decode cX0_of 51 = .ok (.bipush 10, 2) := dk_16 10 (dk_at dksX0_of_2 5 rfl rfl)
theorem dX0_of_53 : decode cX0_of 53 = .ok (.irem, 1) := dk_112 (dk_at dksX0_of_2 7 rfl rfl)
theorem dX0_of_54 : decode cX0_of 54 = .ok (.istore 4, 2) := dk_54 4 (dk_at dksX0_of_2 8 rfl rfl)
theorem dX0_of_56 : decode cX0_of 56 = .ok (.aload_n 3, 1) := dk_45 (dk_at dksX0_of_2 10 rfl rfl)
theorem dX0_of_57 : decode cX0_of 57 = .ok (.iload 4, 2) := dk_21 4 (dk_at dksX0_of_2 11 rfl rfl)
theorem dX0_of_59 : decode cX0_of 59 = .ok (.invokevirtual 205, 3) := dk_182 0 205 (dk_at dksX0_of_2 13 rfl rfl)
theorem dX0_of_62 : decode cX0_of 62 = .ok (.ifCond .ne 6, 3) := dk_154 0 6 (dk_at dksX0_of_2 16 rfl rfl)
theorem dX0_of_65 : decode cX0_of 65 = .ok (.ldc 225, 2) := dk_18 225 (dk_at dksX0_of_2 19 rfl rfl)
theorem dX0_of_67 : decode cX0_of 67 = .ok (.ireturn, 1) := dk_172 (dk_at dksX0_of_2 21 rfl rfl)
theorem dX0_of_68 : decode cX0_of 68 = .ok (.iload_n 2, 1) := dk_28 (dk_at dksX0_of_2 22 rfl rfl)
theorem dX0_of_69 : decode cX0_of 69 = .ok (.bipush 10, 2) := dk_16 10 (dk_at dksX0_of_3 0 rfl rfl)
theorem dX0_of_71 : decode cX0_of 71 = .ok (.idiv, 1) := dk_108 (dk_at dksX0_of_3 2 rfl rfl)
theorem dX0_of_72 : decode cX0_of 72 = .ok (.tableswitch 67 1 4 #[32, 40, 48, 56], 32) := by decide +kernel
theorem dX0_of_104 : decode cX0_of 104 = .ok (.aload_n 3, 1) := dk_45 (dk_at dksX0_of_5 0 rfl rfl)
theorem dX0_of_105 : decode cX0_of 105 = .ok (.getfield 233, 3) := dk_180 0 233 (dk_at dksX0_of_5 1 rfl rfl)
theorem dX0_of_108 : decode cX0_of 108 = .ok (.iload 4, 2) := dk_21 4 (dk_at dksX0_of_5 4 rfl rfl)
theorem dX0_of_110 : decode cX0_of 110 = .ok (.iaload, 1) := dk_46 (dk_at dksX0_of_5 6 rfl rfl)
theorem dX0_of_111 : decode cX0_of 111 = .ok (.ireturn, 1) := dk_172 (dk_at dksX0_of_5 7 rfl rfl)
theorem dX0_of_112 : decode cX0_of 112 = .ok (.aload_n 3, 1) := dk_45 (dk_at dksX0_of_5 8 rfl rfl)
theorem dX0_of_113 : decode cX0_of 113 = .ok (.getfield 236, 3) := dk_180 0 236 (dk_at dksX0_of_5 9 rfl rfl)
theorem dX0_of_116 : decode cX0_of 116 = .ok (.iload 4, 2) := dk_21 4 (dk_at dksX0_of_5 12 rfl rfl)
theorem dX0_of_118 : decode cX0_of 118 = .ok (.iaload, 1) := dk_46 (dk_at dksX0_of_5 14 rfl rfl)
theorem dX0_of_119 : decode cX0_of 119 = .ok (.ireturn, 1) := dk_172 (dk_at dksX0_of_5 15 rfl rfl)
theorem dX0_of_120 : decode cX0_of 120 = .ok (.aload_n 3, 1) := dk_45 (dk_at dksX0_of_5 16 rfl rfl)
theorem dX0_of_121 : decode cX0_of 121 = .ok (.getfield 239, 3) := dk_180 0 239 (dk_at dksX0_of_5 17 rfl rfl)
theorem dX0_of_124 : decode cX0_of 124 = .ok (.iload 4, 2) := dk_21 4 (dk_at dksX0_of_5 20 rfl rfl)
theorem dX0_of_126 : decode cX0_of 126 = .ok (.iaload, 1) := dk_46 (dk_at dksX0_of_5 22 rfl rfl)
theorem dX0_of_127 : decode cX0_of 127 = .ok (.ireturn, 1) := dk_172 (dk_at dksX0_of_5 23 rfl rfl)
theorem dX0_of_128 : decode cX0_of 128 = .ok (.aload_n 3, 1) := dk_45 (dk_at dksX0_of_6 0 rfl rfl)
theorem dX0_of_129 : decode cX0_of 129 = .ok (.getfield 242, 3) := dk_180 0 242 (dk_at dksX0_of_6 1 rfl rfl)
theorem dX0_of_132 : decode cX0_of 132 = .ok (.iload 4, 2) := dk_21 4 (dk_at dksX0_of_6 4 rfl rfl)
theorem dX0_of_134 : decode cX0_of 134 = .ok (.baload, 1) := dk_51 (dk_at dksX0_of_6 6 rfl rfl)
theorem dX0_of_135 : decode cX0_of 135 = .ok (.invokestatic 246, 3) := dk_184 0 246 (dk_at dksX0_of_6 7 rfl rfl)
theorem dX0_of_138 : decode cX0_of 138 = .ok (.ireturn, 1) := dk_172 (dk_at dksX0_of_6 10 rfl rfl)
theorem dX0_of_139 : decode cX0_of 139 = .ok (.ldc 225, 2) := dk_18 225 (dk_at dksX0_of_6 11 rfl rfl)
theorem dX0_of_141 : decode cX0_of 141 = .ok (.ireturn, 1) := dk_172 (dk_at dksX0_of_6 13 rfl rfl)
abbrev cX0_shapeOf : ByteArray := prog_1_method_9_code
def yX0_shapeOf : MethodName := ⟨RX0, "shapeOf", "(I)LPlatesSing$Shape;"⟩
def dkwX0_shapeOf_1 : List UInt8 := [167, 0, 4, 1, 176]
abbrev dktX0_shapeOf_1 : List UInt8 := dkwX0_shapeOf_1 ++ []
def dkwX0_shapeOf_0 : List UInt8 := [27, 133, 9, 42, 180, 0, 198, 4, 100, 133, 184, 0, 152, 153, 0, 12, 42, 180, 0, 21, 27, 50]
abbrev dktX0_shapeOf_0 : List UInt8 := dkwX0_shapeOf_0 ++ dktX0_shapeOf_1
theorem dksX0_shapeOf_0 : cX0_shapeOf.data.toList.drop 0 = dktX0_shapeOf_0 := by decide +kernel
theorem dksX0_shapeOf_1 : cX0_shapeOf.data.toList.drop 22 = dktX0_shapeOf_1 := dk_seg dksX0_shapeOf_0 22 rfl rfl
theorem dX0_shapeOf_0 : decode cX0_shapeOf 0 = .ok (.iload_n 1, 1) := dk_27 (dk_at dksX0_shapeOf_0 0 rfl rfl)
theorem dX0_shapeOf_1 : decode cX0_shapeOf 1 = .ok (.i2l, 1) := dk_133 (dk_at dksX0_shapeOf_0 1 rfl rfl)
theorem dX0_shapeOf_2 : decode cX0_shapeOf 2 = .ok (.lconst 0, 1) := dk_9 (dk_at dksX0_shapeOf_0 2 rfl rfl)
theorem dX0_shapeOf_3 : decode cX0_shapeOf 3 = .ok (.aload_n 0, 1) := dk_42 (dk_at dksX0_shapeOf_0 3 rfl rfl)
theorem dX0_shapeOf_4 : decode cX0_shapeOf 4 = .ok (.getfield 198, 3) := dk_180 0 198 (dk_at dksX0_shapeOf_0 4 rfl rfl)
theorem dX0_shapeOf_7 : decode cX0_shapeOf 7 = .ok (.iconst 1, 1) := dk_4 (dk_at dksX0_shapeOf_0 7 rfl rfl)
theorem dX0_shapeOf_8 : decode cX0_shapeOf 8 = .ok (.isub, 1) := dk_100 (dk_at dksX0_shapeOf_0 8 rfl rfl)
theorem dX0_shapeOf_9 : decode cX0_shapeOf 9 = .ok (.i2l, 1) := dk_133 (dk_at dksX0_shapeOf_0 9 rfl rfl)
theorem dX0_shapeOf_10 : decode cX0_shapeOf 10 = .ok (.invokestatic 152, 3) := dk_184 0 152 (dk_at dksX0_shapeOf_0 10 rfl rfl)
theorem dX0_shapeOf_13 : decode cX0_shapeOf 13 = .ok (.ifCond .eq 12, 3) := dk_153 0 12 (dk_at dksX0_shapeOf_0 13 rfl rfl)
theorem dX0_shapeOf_16 : decode cX0_shapeOf 16 = .ok (.aload_n 0, 1) := dk_42 (dk_at dksX0_shapeOf_0 16 rfl rfl)
theorem dX0_shapeOf_17 : decode cX0_shapeOf 17 = .ok (.getfield 21, 3) := dk_180 0 21 (dk_at dksX0_shapeOf_0 17 rfl rfl)
theorem dX0_shapeOf_20 : decode cX0_shapeOf 20 = .ok (.iload_n 1, 1) := dk_27 (dk_at dksX0_shapeOf_0 20 rfl rfl)
theorem dX0_shapeOf_21 : decode cX0_shapeOf 21 = .ok (.aaload, 1) := dk_50 (dk_at dksX0_shapeOf_0 21 rfl rfl)
theorem dX0_shapeOf_22 : decode cX0_shapeOf 22 = .ok (.goto 4, 3) := dk_167 0 4 (dk_at dksX0_shapeOf_1 0 rfl rfl)
theorem dX0_shapeOf_25 : decode cX0_shapeOf 25 = .ok (.aconst_null, 1) := dk_1 (dk_at dksX0_shapeOf_1 3 rfl rfl)
theorem dX0_shapeOf_26 : decode cX0_shapeOf 26 = .ok (.areturn, 1) := dk_176 (dk_at dksX0_shapeOf_1 4 rfl rfl)
abbrev cX0_bit : ByteArray := prog_1_method_2_code
def yX0_bit : MethodName := ⟨RX0, "bit", "(Z)I"⟩
def dkwX0_bit_0 : List UInt8 := [26, 153, 0, 7, 4, 167, 0, 4, 3, 172]
abbrev dktX0_bit_0 : List UInt8 := dkwX0_bit_0 ++ []
theorem dksX0_bit_0 : cX0_bit.data.toList.drop 0 = dktX0_bit_0 := by decide +kernel
theorem dX0_bit_0 : decode cX0_bit 0 = .ok (.iload_n 0, 1) := dk_26 (dk_at dksX0_bit_0 0 rfl rfl)
theorem dX0_bit_1 : decode cX0_bit 1 = .ok (.ifCond .eq 7, 3) := dk_153 0 7 (dk_at dksX0_bit_0 1 rfl rfl)
theorem dX0_bit_4 : decode cX0_bit 4 = .ok (.iconst 1, 1) := dk_4 (dk_at dksX0_bit_0 4 rfl rfl)
theorem dX0_bit_5 : decode cX0_bit 5 = .ok (.goto 4, 3) := dk_167 0 4 (dk_at dksX0_bit_0 5 rfl rfl)
theorem dX0_bit_8 : decode cX0_bit 8 = .ok (.iconst 0, 1) := dk_3 (dk_at dksX0_bit_0 8 rfl rfl)
theorem dX0_bit_9 : decode cX0_bit 9 = .ok (.ireturn, 1) := dk_172 (dk_at dksX0_bit_0 9 rfl rfl)
abbrev cX0_piece : ByteArray := prog_1_method_14_code
def yX0_piece : MethodName := ⟨RX0, "piece", "(IIII)I"⟩
def dkwX0_piece_3 : List UInt8 := [160, 0, 11, 25, 6, 180, 0, 195, 167, 0, 8, 25, 6, 180, 1, 8, 172]
abbrev dktX0_piece_3 : List UInt8 := dkwX0_piece_3 ++ []
def dkwX0_piece_2 : List UInt8 := [199, 0, 6, 16, 254, 172, 21, 4, 154, 0, 11, 25, 6, 184, 1, 4, 167, 0, 22, 21, 4, 4]
abbrev dktX0_piece_2 : List UInt8 := dkwX0_piece_2 ++ dktX0_piece_3
def dkwX0_piece_1 : List UInt8 := [133, 9, 20, 0, 254, 184, 0, 152, 154, 0, 5, 2, 172, 25, 5, 28, 29, 182, 1, 0, 58, 6, 25, 6]
abbrev dktX0_piece_1 : List UInt8 := dkwX0_piece_1 ++ dktX0_piece_2
def dkwX0_piece_0 : List UInt8 := [42, 27, 28, 182, 0, 250, 58, 5, 25, 5, 198, 0, 25, 25, 5, 29, 182, 0, 205, 153, 0, 16, 21, 4]
abbrev dktX0_piece_0 : List UInt8 := dkwX0_piece_0 ++ dktX0_piece_1
theorem dksX0_piece_0 : cX0_piece.data.toList.drop 0 = dktX0_piece_0 := by decide +kernel
theorem dksX0_piece_1 : cX0_piece.data.toList.drop 24 = dktX0_piece_1 := dk_seg dksX0_piece_0 24 rfl rfl
theorem dksX0_piece_2 : cX0_piece.data.toList.drop 48 = dktX0_piece_2 := dk_seg dksX0_piece_1 24 rfl rfl
theorem dksX0_piece_3 : cX0_piece.data.toList.drop 70 = dktX0_piece_3 := dk_seg dksX0_piece_2 22 rfl rfl
theorem dX0_piece_0 : decode cX0_piece 0 = .ok (.aload_n 0, 1) := dk_42 (dk_at dksX0_piece_0 0 rfl rfl)
theorem dX0_piece_1 : decode cX0_piece 1 = .ok (.iload_n 1, 1) := dk_27 (dk_at dksX0_piece_0 1 rfl rfl)
theorem dX0_piece_2 : decode cX0_piece 2 = .ok (.iload_n 2, 1) := dk_28 (dk_at dksX0_piece_0 2 rfl rfl)
theorem dX0_piece_3 : decode cX0_piece 3 = .ok (.invokevirtual 250, 3) := dk_182 0 250 (dk_at dksX0_piece_0 3 rfl rfl)
theorem dX0_piece_6 : decode cX0_piece 6 = .ok (.astore 5, 2) := dk_58 5 (dk_at dksX0_piece_0 6 rfl rfl)
theorem dX0_piece_8 : decode cX0_piece 8 = .ok (.aload 5, 2) := dk_25 5 (dk_at dksX0_piece_0 8 rfl rfl)
theorem dX0_piece_10 : decode cX0_piece 10 = .ok (.ifnull 25, 3) := dk_198 0 25 (dk_at dksX0_piece_0 10 rfl rfl)
theorem dX0_piece_13 : decode cX0_piece 13 = .ok (.aload 5, 2) := dk_25 5 (dk_at dksX0_piece_0 13 rfl rfl)
theorem dX0_piece_15 : decode cX0_piece 15 = .ok (.iload_n 3, 1) := dk_29 (dk_at dksX0_piece_0 15 rfl rfl)
theorem dX0_piece_16 : decode cX0_piece 16 = .ok (.invokevirtual 205, 3) := dk_182 0 205 (dk_at dksX0_piece_0 16 rfl rfl)
theorem dX0_piece_19 : decode cX0_piece 19 = .ok (.ifCond .eq 16, 3) := dk_153 0 16 (dk_at dksX0_piece_0 19 rfl rfl)
theorem dX0_piece_22 : decode cX0_piece 22 = .ok (.iload 4, 2) := dk_21 4 (dk_at dksX0_piece_0 22 rfl rfl)
theorem dX0_piece_24 : decode cX0_piece 24 = .ok (.i2l, 1) := dk_133 (dk_at dksX0_piece_1 0 rfl rfl)
theorem dX0_piece_25 : decode cX0_piece 25 = .ok (.lconst 0, 1) := dk_9 (dk_at dksX0_piece_1 1 rfl rfl)
theorem dX0_piece_26 : decode cX0_piece 26 = .ok (.ldc2_w 254, 3) := dk_20 0 254 (dk_at dksX0_piece_1 2 rfl rfl)
theorem dX0_piece_29 : decode cX0_piece 29 = .ok (.invokestatic 152, 3) := dk_184 0 152 (dk_at dksX0_piece_1 5 rfl rfl)
theorem dX0_piece_32 : decode cX0_piece 32 = .ok (.ifCond .ne 5, 3) := dk_154 0 5 (dk_at dksX0_piece_1 8 rfl rfl)
theorem dX0_piece_35 : decode cX0_piece 35 = .ok (.iconst (-1), 1) := dk_2 (dk_at dksX0_piece_1 11 rfl rfl)
theorem dX0_piece_36 : decode cX0_piece 36 = .ok (.ireturn, 1) := dk_172 (dk_at dksX0_piece_1 12 rfl rfl)
theorem dX0_piece_37 : decode cX0_piece 37 = .ok (.aload 5, 2) := dk_25 5 (dk_at dksX0_piece_1 13 rfl rfl)
theorem dX0_piece_39 : decode cX0_piece 39 = .ok (.iload_n 2, 1) := dk_28 (dk_at dksX0_piece_1 15 rfl rfl)
theorem dX0_piece_40 : decode cX0_piece 40 = .ok (.iload_n 3, 1) := dk_29 (dk_at dksX0_piece_1 16 rfl rfl)
theorem dX0_piece_41 : decode cX0_piece 41 = .ok (.invokevirtual 256, 3) := dk_182 1 0 (dk_at dksX0_piece_1 17 rfl rfl)
theorem dX0_piece_44 : decode cX0_piece 44 = .ok (.astore 6, 2) := dk_58 6 (dk_at dksX0_piece_1 20 rfl rfl)
theorem dX0_piece_46 : decode cX0_piece 46 = .ok (.aload 6, 2) := dk_25 6 (dk_at dksX0_piece_1 22 rfl rfl)
theorem dX0_piece_48 : decode cX0_piece 48 = .ok (.ifnonnull 6, 3) := dk_199 0 6 (dk_at dksX0_piece_2 0 rfl rfl)
theorem dX0_piece_51 : decode cX0_piece 51 = .ok (.bipush (-2), 2) := dk_16 254 (dk_at dksX0_piece_2 3 rfl rfl)
theorem dX0_piece_53 : decode cX0_piece 53 = .ok (.ireturn, 1) := dk_172 (dk_at dksX0_piece_2 5 rfl rfl)
theorem dX0_piece_54 : decode cX0_piece 54 = .ok (.iload 4, 2) := dk_21 4 (dk_at dksX0_piece_2 6 rfl rfl)
theorem dX0_piece_56 : decode cX0_piece 56 = .ok (.ifCond .ne 11, 3) := dk_154 0 11 (dk_at dksX0_piece_2 8 rfl rfl)
theorem dX0_piece_59 : decode cX0_piece 59 = .ok (.aload 6, 2) := dk_25 6 (dk_at dksX0_piece_2 11 rfl rfl)
theorem dX0_piece_61 : decode cX0_piece 61 = .ok (.invokestatic 260, 3) := dk_184 1 4 (dk_at dksX0_piece_2 13 rfl rfl)
theorem dX0_piece_64 : decode cX0_piece 64 = .ok (.goto 22, 3) := dk_167 0 22 (dk_at dksX0_piece_2 16 rfl rfl)
theorem dX0_piece_67 : decode cX0_piece 67 = .ok (.iload 4, 2) := dk_21 4 (dk_at dksX0_piece_2 19 rfl rfl)
theorem dX0_piece_69 : decode cX0_piece 69 = .ok (.iconst 1, 1) := dk_4 (dk_at dksX0_piece_2 21 rfl rfl)
theorem dX0_piece_70 : decode cX0_piece 70 = .ok (.if_icmp .ne 11, 3) := dk_160 0 11 (dk_at dksX0_piece_3 0 rfl rfl)
theorem dX0_piece_73 : decode cX0_piece 73 = .ok (.aload 6, 2) := dk_25 6 (dk_at dksX0_piece_3 3 rfl rfl)
theorem dX0_piece_75 : decode cX0_piece 75 = .ok (.getfield 195, 3) := dk_180 0 195 (dk_at dksX0_piece_3 5 rfl rfl)
theorem dX0_piece_78 : decode cX0_piece 78 = .ok (.goto 8, 3) := dk_167 0 8 (dk_at dksX0_piece_3 8 rfl rfl)
theorem dX0_piece_81 : decode cX0_piece 81 = .ok (.aload 6, 2) := dk_25 6 (dk_at dksX0_piece_3 11 rfl rfl)
theorem dX0_piece_83 : decode cX0_piece 83 = .ok (.getfield 264, 3) := dk_180 1 8 (dk_at dksX0_piece_3 13 rfl rfl)
theorem dX0_piece_86 : decode cX0_piece 86 = .ok (.ireturn, 1) := dk_172 (dk_at dksX0_piece_3 16 rfl rfl)
abbrev cX0_cornerOf : ByteArray := prog_1_method_10_code
def yX0_cornerOf : MethodName := ⟨RX0, "cornerOf", "(II)LPlatesSing$Shape;"⟩
def dkwX0_cornerOf_0 : List UInt8 := [42, 27, 182, 0, 201, 78, 45, 198, 0, 15, 45, 28, 182, 0, 205, 153, 0, 7, 45, 167, 0, 4, 1, 176]
abbrev dktX0_cornerOf_0 : List UInt8 := dkwX0_cornerOf_0 ++ []
theorem dksX0_cornerOf_0 : cX0_cornerOf.data.toList.drop 0 = dktX0_cornerOf_0 := by decide +kernel
theorem dX0_cornerOf_0 : decode cX0_cornerOf 0 = .ok (.aload_n 0, 1) := dk_42 (dk_at dksX0_cornerOf_0 0 rfl rfl)
theorem dX0_cornerOf_1 : decode cX0_cornerOf 1 = .ok (.iload_n 1, 1) := dk_27 (dk_at dksX0_cornerOf_0 1 rfl rfl)
theorem dX0_cornerOf_2 : decode cX0_cornerOf 2 = .ok (.invokevirtual 201, 3) := dk_182 0 201 (dk_at dksX0_cornerOf_0 2 rfl rfl)
theorem dX0_cornerOf_5 : decode cX0_cornerOf 5 = .ok (.astore_n 3, 1) := dk_78 (dk_at dksX0_cornerOf_0 5 rfl rfl)
theorem dX0_cornerOf_6 : decode cX0_cornerOf 6 = .ok (.aload_n 3, 1) := dk_45 (dk_at dksX0_cornerOf_0 6 rfl rfl)
theorem dX0_cornerOf_7 : decode cX0_cornerOf 7 = .ok (.ifnull 15, 3) := dk_198 0 15 (dk_at dksX0_cornerOf_0 7 rfl rfl)
theorem dX0_cornerOf_10 : decode cX0_cornerOf 10 = .ok (.aload_n 3, 1) := dk_45 (dk_at dksX0_cornerOf_0 10 rfl rfl)
theorem dX0_cornerOf_11 : decode cX0_cornerOf 11 = .ok (.iload_n 2, 1) := dk_28 (dk_at dksX0_cornerOf_0 11 rfl rfl)
theorem dX0_cornerOf_12 : decode cX0_cornerOf 12 = .ok (.invokevirtual 205, 3) := dk_182 0 205 (dk_at dksX0_cornerOf_0 12 rfl rfl)
theorem dX0_cornerOf_15 : decode cX0_cornerOf 15 = .ok (.ifCond .eq 7, 3) := dk_153 0 7 (dk_at dksX0_cornerOf_0 15 rfl rfl)
theorem dX0_cornerOf_18 : decode cX0_cornerOf 18 = .ok (.aload_n 3, 1) := dk_45 (dk_at dksX0_cornerOf_0 18 rfl rfl)
theorem dX0_cornerOf_19 : decode cX0_cornerOf 19 = .ok (.goto 4, 3) := dk_167 0 4 (dk_at dksX0_cornerOf_0 19 rfl rfl)
theorem dX0_cornerOf_22 : decode cX0_cornerOf 22 = .ok (.aconst_null, 1) := dk_1 (dk_at dksX0_cornerOf_0 22 rfl rfl)
theorem dX0_cornerOf_23 : decode cX0_cornerOf 23 = .ok (.areturn, 1) := dk_176 (dk_at dksX0_cornerOf_0 23 rfl rfl)
abbrev cX0_numberOf : ByteArray := prog_1_method_4_code
def yX0_numberOf : MethodName := ⟨RX0, "numberOf", "(LPlatesSing$Part;)I"⟩
theorem dX0_numberOf_0 : decode cX0_numberOf 0 = .ok (.aload_n 0, 1) := by decide +kernel
theorem dX0_numberOf_1 : decode cX0_numberOf 1 = .ok (.getfield 146, 3) := by decide +kernel
theorem dX0_numberOf_4 : decode cX0_numberOf 4 = .ok (.ireturn, 1) := by decide +kernel
abbrev cX0_put : ByteArray := prog_1_method_19_code
def yX0_put : MethodName := ⟨RX0, "put", "(IIII)I"⟩
def dkwX0_put_4 : List UInt8 := [21, 4, 159, 0, 15, 42, 29, 25, 5, 28, 21, 6, 21, 4, 182, 1, 53, 21, 6, 172]
abbrev dktX0_put_4 : List UInt8 := dkwX0_put_4 ++ []
def dkwX0_put_3 : List UInt8 := [25, 5, 180, 0, 239, 28, 46, 167, 0, 13, 25, 5, 180, 0, 242, 28, 51, 184, 0, 246, 54, 6, 21, 6]
abbrev dktX0_put_3 : List UInt8 := dkwX0_put_3 ++ dktX0_put_4
def dkwX0_put_2 : List UInt8 := [154, 0, 5, 2, 172, 29, 154, 0, 13, 25, 5, 180, 0, 236, 28, 46, 167, 0, 28, 29, 4, 160, 0, 13]
abbrev dktX0_put_2 : List UInt8 := dkwX0_put_2 ++ dktX0_put_3
def dkwX0_put_1 : List UInt8 := [153, 0, 25, 21, 4, 133, 9, 29, 5, 160, 0, 7, 10, 167, 0, 6, 20, 1, 51, 184, 0, 152]
abbrev dktX0_put_1 : List UInt8 := dkwX0_put_1 ++ dktX0_put_2
def dkwX0_put_0 : List UInt8 := [42, 27, 28, 182, 0, 250, 58, 5, 25, 5, 198, 0, 37, 29, 133, 9, 20, 0, 254, 184, 0, 152]
abbrev dktX0_put_0 : List UInt8 := dkwX0_put_0 ++ dktX0_put_1
theorem dksX0_put_0 : cX0_put.data.toList.drop 0 = dktX0_put_0 := by decide +kernel
theorem dksX0_put_1 : cX0_put.data.toList.drop 22 = dktX0_put_1 := dk_seg dksX0_put_0 22 rfl rfl
theorem dksX0_put_2 : cX0_put.data.toList.drop 44 = dktX0_put_2 := dk_seg dksX0_put_1 22 rfl rfl
theorem dksX0_put_3 : cX0_put.data.toList.drop 68 = dktX0_put_3 := dk_seg dksX0_put_2 24 rfl rfl
theorem dksX0_put_4 : cX0_put.data.toList.drop 92 = dktX0_put_4 := dk_seg dksX0_put_3 24 rfl rfl
theorem dX0_put_0 : decode cX0_put 0 = .ok (.aload_n 0, 1) := dk_42 (dk_at dksX0_put_0 0 rfl rfl)
theorem dX0_put_1 : decode cX0_put 1 = .ok (.iload_n 1, 1) := dk_27 (dk_at dksX0_put_0 1 rfl rfl)
theorem dX0_put_2 : decode cX0_put 2 = .ok (.iload_n 2, 1) := dk_28 (dk_at dksX0_put_0 2 rfl rfl)
theorem dX0_put_3 : decode cX0_put 3 = .ok (.invokevirtual 250, 3) := dk_182 0 250 (dk_at dksX0_put_0 3 rfl rfl)
theorem dX0_put_6 : decode cX0_put 6 = .ok (.astore 5, 2) := dk_58 5 (dk_at dksX0_put_0 6 rfl rfl)
theorem dX0_put_8 : decode cX0_put 8 = .ok (.aload 5, 2) := dk_25 5 (dk_at dksX0_put_0 8 rfl rfl)
theorem dX0_put_10 : decode cX0_put 10 = .ok (.ifnull 37, 3) := dk_198 0 37 (dk_at dksX0_put_0 10 rfl rfl)
theorem dX0_put_13 : decode cX0_put 13 = .ok (.iload_n 3, 1) := dk_29 (dk_at dksX0_put_0 13 rfl rfl)
theorem dX0_put_14 : decode cX0_put 14 = .ok (.i2l, 1) := dk_133 (dk_at dksX0_put_0 14 rfl rfl)
theorem dX0_put_15 : decode cX0_put 15 = .ok (.lconst 0, 1) := dk_9 (dk_at dksX0_put_0 15 rfl rfl)
theorem dX0_put_16 : decode cX0_put 16 = .ok (.ldc2_w 254, 3) := dk_20 0 254 (dk_at dksX0_put_0 16 rfl rfl)
theorem dX0_put_19 : decode cX0_put 19 = .ok (.invokestatic 152, 3) := dk_184 0 152 (dk_at dksX0_put_0 19 rfl rfl)
theorem dX0_put_22 : decode cX0_put 22 = .ok (.ifCond .eq 25, 3) := dk_153 0 25 (dk_at dksX0_put_1 0 rfl rfl)
theorem dX0_put_25 : decode cX0_put 25 = .ok (.iload 4, 2) := dk_21 4 (dk_at dksX0_put_1 3 rfl rfl)
theorem dX0_put_27 : decode cX0_put 27 = .ok (.i2l, 1) := dk_133 (dk_at dksX0_put_1 5 rfl rfl)
theorem dX0_put_28 : decode cX0_put 28 = .ok (.lconst 0, 1) := dk_9 (dk_at dksX0_put_1 6 rfl rfl)
theorem dX0_put_29 : decode cX0_put 29 = .ok (.iload_n 3, 1) := dk_29 (dk_at dksX0_put_1 7 rfl rfl)
theorem dX0_put_30 : decode cX0_put 30 = .ok (.iconst 2, 1) := dk_5 (dk_at dksX0_put_1 8 rfl rfl)
theorem dX0_put_31 : decode cX0_put 31 = .ok (.if_icmp .ne 7, 3) := dk_160 0 7 (dk_at dksX0_put_1 9 rfl rfl)
theorem dX0_put_34 : decode cX0_put 34 = .ok (.lconst 1, 1) := dk_10 (dk_at dksX0_put_1 12 rfl rfl)
theorem dX0_put_35 : decode cX0_put 35 = .ok (.goto 6, 3) := dk_167 0 6 (dk_at dksX0_put_1 13 rfl rfl)
theorem dX0_put_38 : decode cX0_put 38 = .ok (.ldc2_w 307, 3) := dk_20 1 51 (dk_at dksX0_put_1 16 rfl rfl)
theorem dX0_put_41 : decode cX0_put 41 = .ok (.invokestatic 152, 3) := dk_184 0 152 (dk_at dksX0_put_1 19 rfl rfl)
theorem dX0_put_44 : decode cX0_put 44 = .ok (.ifCond .ne 5, 3) := dk_154 0 5 (dk_at dksX0_put_2 0 rfl rfl)
theorem dX0_put_47 : decode cX0_put 47 = .ok (.iconst (-1), 1) := dk_2 (dk_at dksX0_put_2 3 rfl rfl)
theorem dX0_put_48 : decode cX0_put 48 = .ok (.ireturn, 1) := dk_172 (dk_at dksX0_put_2 4 rfl rfl)
theorem dX0_put_49 : decode cX0_put 49 = .ok (.iload_n 3, 1) := dk_29 (dk_at dksX0_put_2 5 rfl rfl)
theorem dX0_put_50 : decode cX0_put 50 = .ok (.ifCond .ne 13, 3) := dk_154 0 13 (dk_at dksX0_put_2 6 rfl rfl)
theorem dX0_put_53 : decode cX0_put 53 = .ok (.aload 5, 2) := dk_25 5 (dk_at dksX0_put_2 9 rfl rfl)
theorem dX0_put_55 : decode cX0_put 55 = .ok (.getfield 236, 3) := dk_180 0 236 (dk_at dksX0_put_2 11 rfl rfl)
theorem dX0_put_58 : decode cX0_put 58 = .ok (.iload_n 2, 1) := dk_28 (dk_at dksX0_put_2 14 rfl rfl)
theorem dX0_put_59 : decode cX0_put 59 = .ok (.iaload, 1) := dk_46 (dk_at dksX0_put_2 15 rfl rfl)
theorem dX0_put_60 : decode cX0_put 60 = .ok (.goto 28, 3) := dk_167 0 28 (dk_at dksX0_put_2 16 rfl rfl)
theorem dX0_put_63 : decode cX0_put 63 = .ok (.iload_n 3, 1) := dk_29 (dk_at dksX0_put_2 19 rfl rfl)
theorem dX0_put_64 : decode cX0_put 64 = .ok (.iconst 1, 1) := dk_4 (dk_at dksX0_put_2 20 rfl rfl)
theorem dX0_put_65 : decode cX0_put 65 = .ok (.if_icmp .ne 13, 3) := dk_160 0 13 (dk_at dksX0_put_2 21 rfl rfl)
theorem dX0_put_68 : decode cX0_put 68 = .ok (.aload 5, 2) := dk_25 5 (dk_at dksX0_put_3 0 rfl rfl)
theorem dX0_put_70 : decode cX0_put 70 = .ok (.getfield 239, 3) := dk_180 0 239 (dk_at dksX0_put_3 2 rfl rfl)
theorem dX0_put_73 : decode cX0_put 73 = .ok (.iload_n 2, 1) := dk_28 (dk_at dksX0_put_3 5 rfl rfl)
theorem dX0_put_74 : decode cX0_put 74 = .ok (.iaload, 1) := dk_46 (dk_at dksX0_put_3 6 rfl rfl)
theorem dX0_put_75 : decode cX0_put 75 = .ok (.goto 13, 3) := dk_167 0 13 (dk_at dksX0_put_3 7 rfl rfl)
theorem dX0_put_78 : decode cX0_put 78 = .ok (.aload 5, 2) := dk_25 5 (dk_at dksX0_put_3 10 rfl rfl)
theorem dX0_put_80 : decode cX0_put 80 = .ok (.getfield 242, 3) := dk_180 0 242 (dk_at dksX0_put_3 12 rfl rfl)
theorem dX0_put_83 : decode cX0_put 83 = .ok (.iload_n 2, 1) := dk_28 (dk_at dksX0_put_3 15 rfl rfl)
theorem dX0_put_84 : decode cX0_put 84 = .ok (.baload, 1) := dk_51 (dk_at dksX0_put_3 16 rfl rfl)
theorem dX0_put_85 : decode cX0_put 85 = .ok (.invokestatic 246, 3) := dk_184 0 246 (dk_at dksX0_put_3 17 rfl rfl)
theorem dX0_put_88 : decode cX0_put 88 = .ok (.istore 6, 2) := dk_54 6 (dk_at dksX0_put_3 20 rfl rfl)
theorem dX0_put_90 : decode cX0_put 90 = .ok (.iload 6, 2) := dk_21 6 (dk_at dksX0_put_3 22 rfl rfl)
theorem dX0_put_92 : decode cX0_put 92 = .ok (.iload 4, 2) := dk_21 4 (dk_at dksX0_put_4 0 rfl rfl)
theorem dX0_put_94 : decode cX0_put 94 = .ok (.if_icmp .eq 15, 3) := dk_159 0 15 (dk_at dksX0_put_4 2 rfl rfl)
theorem dX0_put_97 : decode cX0_put 97 = .ok (.aload_n 0, 1) := dk_42 (dk_at dksX0_put_4 5 rfl rfl)
theorem dX0_put_98 : decode cX0_put 98 = .ok (.iload_n 3, 1) := dk_29 (dk_at dksX0_put_4 6 rfl rfl)
theorem dX0_put_99 : decode cX0_put 99 = .ok (.aload 5, 2) := dk_25 5 (dk_at dksX0_put_4 7 rfl rfl)
theorem dX0_put_101 : decode cX0_put 101 = .ok (.iload_n 2, 1) := dk_28 (dk_at dksX0_put_4 9 rfl rfl)
theorem dX0_put_102 : decode cX0_put 102 = .ok (.iload 6, 2) := dk_21 6 (dk_at dksX0_put_4 10 rfl rfl)
theorem dX0_put_104 : decode cX0_put 104 = .ok (.iload 4, 2) := dk_21 4 (dk_at dksX0_put_4 12 rfl rfl)
theorem dX0_put_106 : decode cX0_put 106 = .ok (.invokevirtual 309, 3) := dk_182 1 53 (dk_at dksX0_put_4 14 rfl rfl)
theorem dX0_put_109 : decode cX0_put 109 = .ok (.iload 6, 2) := dk_21 6 (dk_at dksX0_put_4 17 rfl rfl)
theorem dX0_put_111 : decode cX0_put 111 = .ok (.ireturn, 1) := dk_172 (dk_at dksX0_put_4 19 rfl rfl)
abbrev cX0_tellCorner : ByteArray := prog_1_method_17_code
def yX0_tellCorner : MethodName := ⟨RX0, "tellCorner", "(ILPlatesSing$Shape;III)V"⟩
def dkwX0_tellCorner_1 : List UInt8 := [181, 1, 11, 25, 6, 21, 5, 181, 1, 14, 42, 25, 6, 3, 182, 1, 47, 177]
abbrev dktX0_tellCorner_1 : List UInt8 := dkwX0_tellCorner_1 ++ []
def dkwX0_tellCorner_0 : List UInt8 := [42, 27, 182, 1, 43, 58, 6, 25, 6, 44, 181, 1, 20, 25, 6, 29, 181, 1, 24, 25, 6, 21, 4]
abbrev dktX0_tellCorner_0 : List UInt8 := dkwX0_tellCorner_0 ++ dktX0_tellCorner_1
theorem dksX0_tellCorner_0 : cX0_tellCorner.data.toList.drop 0 = dktX0_tellCorner_0 := by decide +kernel
theorem dksX0_tellCorner_1 : cX0_tellCorner.data.toList.drop 23 = dktX0_tellCorner_1 := dk_seg dksX0_tellCorner_0 23 rfl rfl
theorem dX0_tellCorner_0 : decode cX0_tellCorner 0 = .ok (.aload_n 0, 1) := dk_42 (dk_at dksX0_tellCorner_0 0 rfl rfl)
theorem dX0_tellCorner_1 : decode cX0_tellCorner 1 = .ok (.iload_n 1, 1) := dk_27 (dk_at dksX0_tellCorner_0 1 rfl rfl)
theorem dX0_tellCorner_2 : decode cX0_tellCorner 2 = .ok (.invokevirtual 299, 3) := dk_182 1 43 (dk_at dksX0_tellCorner_0 2 rfl rfl)
theorem dX0_tellCorner_5 : decode cX0_tellCorner 5 = .ok (.astore 6, 2) := dk_58 6 (dk_at dksX0_tellCorner_0 5 rfl rfl)
theorem dX0_tellCorner_7 : decode cX0_tellCorner 7 = .ok (.aload 6, 2) := dk_25 6 (dk_at dksX0_tellCorner_0 7 rfl rfl)
theorem dX0_tellCorner_9 : decode cX0_tellCorner 9 = .ok (.aload_n 2, 1) := dk_44 (dk_at dksX0_tellCorner_0 9 rfl rfl)
theorem dX0_tellCorner_10 : decode cX0_tellCorner 10 = .ok (.putfield 276, 3) := dk_181 1 20 (dk_at dksX0_tellCorner_0 10 rfl rfl)
theorem dX0_tellCorner_13 : decode cX0_tellCorner 13 = .ok (.aload 6, 2) := dk_25 6 (dk_at dksX0_tellCorner_0 13 rfl rfl)
theorem dX0_tellCorner_15 : decode cX0_tellCorner 15 = .ok (.iload_n 3, 1) := dk_29 (dk_at dksX0_tellCorner_0 15 rfl rfl)
theorem dX0_tellCorner_16 : decode cX0_tellCorner 16 = .ok (.putfield 280, 3) := dk_181 1 24 (dk_at dksX0_tellCorner_0 16 rfl rfl)
theorem dX0_tellCorner_19 : decode cX0_tellCorner 19 = .ok (.aload 6, 2) := dk_25 6 (dk_at dksX0_tellCorner_0 19 rfl rfl)
theorem dX0_tellCorner_21 : decode cX0_tellCorner 21 = .ok (.iload 4, 2) := dk_21 4 (dk_at dksX0_tellCorner_0 21 rfl rfl)
theorem dX0_tellCorner_23 : decode cX0_tellCorner 23 = .ok (.putfield 267, 3) := dk_181 1 11 (dk_at dksX0_tellCorner_1 0 rfl rfl)
theorem dX0_tellCorner_26 : decode cX0_tellCorner 26 = .ok (.aload 6, 2) := dk_25 6 (dk_at dksX0_tellCorner_1 3 rfl rfl)
theorem dX0_tellCorner_28 : decode cX0_tellCorner 28 = .ok (.iload 5, 2) := dk_21 5 (dk_at dksX0_tellCorner_1 5 rfl rfl)
theorem dX0_tellCorner_30 : decode cX0_tellCorner 30 = .ok (.putfield 270, 3) := dk_181 1 14 (dk_at dksX0_tellCorner_1 7 rfl rfl)
theorem dX0_tellCorner_33 : decode cX0_tellCorner 33 = .ok (.aload_n 0, 1) := dk_42 (dk_at dksX0_tellCorner_1 10 rfl rfl)
theorem dX0_tellCorner_34 : decode cX0_tellCorner 34 = .ok (.aload 6, 2) := dk_25 6 (dk_at dksX0_tellCorner_1 11 rfl rfl)
theorem dX0_tellCorner_36 : decode cX0_tellCorner 36 = .ok (.iconst 0, 1) := dk_3 (dk_at dksX0_tellCorner_1 13 rfl rfl)
theorem dX0_tellCorner_37 : decode cX0_tellCorner 37 = .ok (.invokevirtual 303, 3) := dk_182 1 47 (dk_at dksX0_tellCorner_1 14 rfl rfl)
theorem dX0_tellCorner_40 : decode cX0_tellCorner 40 = .ok (.return_, 1) := dk_177 (dk_at dksX0_tellCorner_1 17 rfl rfl)
abbrev cX0_newAct : ByteArray := prog_1_method_16_code
def yX0_newAct : MethodName := ⟨RX0, "newAct", "(I)LPlatesSing$Act;"⟩
def dkwX0_newAct_4 : List UInt8 := [181, 1, 20, 44, 1, 181, 1, 27, 44, 176]
abbrev dktX0_newAct_4 : List UInt8 := dkwX0_newAct_4 ++ []
def dkwX0_newAct_3 : List UInt8 := [4, 96, 181, 1, 37, 50, 77, 42, 42, 180, 1, 37, 181, 1, 40, 44, 27, 181, 1, 17, 44, 1]
abbrev dktX0_newAct_3 : List UInt8 := dkwX0_newAct_3 ++ dktX0_newAct_4
def dkwX0_newAct_2 : List UInt8 := [16, 39, 44, 83, 42, 89, 180, 1, 37, 4, 100, 181, 1, 37, 42, 180, 0, 39, 42, 89, 180, 1, 37, 90]
abbrev dktX0_newAct_2 : List UInt8 := dkwX0_newAct_2 ++ dktX0_newAct_3
def dkwX0_newAct_1 : List UInt8 := [42, 180, 0, 39, 29, 4, 100, 42, 180, 0, 39, 29, 50, 83, 132, 3, 1, 167, 255, 233, 42, 180, 0, 39]
abbrev dktX0_newAct_1 : List UInt8 := dkwX0_newAct_1 ++ dktX0_newAct_2
def dkwX0_newAct_0 : List UInt8 := [42, 180, 1, 37, 16, 40, 160, 0, 56, 42, 180, 0, 39, 3, 50, 77, 4, 62, 29, 16, 40, 162, 0, 23]
abbrev dktX0_newAct_0 : List UInt8 := dkwX0_newAct_0 ++ dktX0_newAct_1
theorem dksX0_newAct_0 : cX0_newAct.data.toList.drop 0 = dktX0_newAct_0 := by decide +kernel
theorem dksX0_newAct_1 : cX0_newAct.data.toList.drop 24 = dktX0_newAct_1 := dk_seg dksX0_newAct_0 24 rfl rfl
theorem dksX0_newAct_2 : cX0_newAct.data.toList.drop 48 = dktX0_newAct_2 := dk_seg dksX0_newAct_1 24 rfl rfl
theorem dksX0_newAct_3 : cX0_newAct.data.toList.drop 72 = dktX0_newAct_3 := dk_seg dksX0_newAct_2 24 rfl rfl
theorem dksX0_newAct_4 : cX0_newAct.data.toList.drop 94 = dktX0_newAct_4 := dk_seg dksX0_newAct_3 22 rfl rfl
theorem dX0_newAct_0 : decode cX0_newAct 0 = .ok (.aload_n 0, 1) := dk_42 (dk_at dksX0_newAct_0 0 rfl rfl)
theorem dX0_newAct_1 : decode cX0_newAct 1 = .ok (.getfield 293, 3) := dk_180 1 37 (dk_at dksX0_newAct_0 1 rfl rfl)
theorem dX0_newAct_4 : decode cX0_newAct 4 = .ok (.bipush 40, 2) := dk_16 40 (dk_at dksX0_newAct_0 4 rfl rfl)
theorem dX0_newAct_6 : decode cX0_newAct 6 = .ok (.if_icmp .ne 56, 3) := dk_160 0 56 (dk_at dksX0_newAct_0 6 rfl rfl)
theorem dX0_newAct_9 : decode cX0_newAct 9 = .ok (.aload_n 0, 1) := dk_42 (dk_at dksX0_newAct_0 9 rfl rfl)
theorem dX0_newAct_10 : decode cX0_newAct 10 = .ok (.getfield 39, 3) := dk_180 0 39 (dk_at dksX0_newAct_0 10 rfl rfl)
theorem dX0_newAct_13 : decode cX0_newAct 13 = .ok (.iconst 0, 1) := dk_3 (dk_at dksX0_newAct_0 13 rfl rfl)
theorem dX0_newAct_14 : decode cX0_newAct 14 = .ok (.aaload, 1) := dk_50 (dk_at dksX0_newAct_0 14 rfl rfl)
theorem dX0_newAct_15 : decode cX0_newAct 15 = .ok (.astore_n 2, 1) := dk_77 (dk_at dksX0_newAct_0 15 rfl rfl)
theorem dX0_newAct_16 : decode cX0_newAct 16 = .ok (.iconst 1, 1) := dk_4 (dk_at dksX0_newAct_0 16 rfl rfl)
theorem dX0_newAct_17 : decode cX0_newAct 17 = .ok (.istore_n 3, 1) := dk_62 (dk_at dksX0_newAct_0 17 rfl rfl)
theorem dX0_newAct_18 : decode cX0_newAct 18 = .ok (.iload_n 3, 1) := dk_29 (dk_at dksX0_newAct_0 18 rfl rfl)
theorem dX0_newAct_19 : decode cX0_newAct 19 = .ok (.bipush 40, 2) := dk_16 40 (dk_at dksX0_newAct_0 19 rfl rfl)
theorem dX0_newAct_21 : decode cX0_newAct 21 = .ok (.if_icmp .ge 23, 3) := dk_162 0 23 (dk_at dksX0_newAct_0 21 rfl rfl)
theorem dX0_newAct_24 : decode cX0_newAct 24 = .ok (.aload_n 0, 1) := dk_42 (dk_at dksX0_newAct_1 0 rfl rfl)
theorem dX0_newAct_25 : decode cX0_newAct 25 = .ok (.getfield 39, 3) := dk_180 0 39 (dk_at dksX0_newAct_1 1 rfl rfl)
theorem dX0_newAct_28 : decode cX0_newAct 28 = .ok (.iload_n 3, 1) := dk_29 (dk_at dksX0_newAct_1 4 rfl rfl)
theorem dX0_newAct_29 : decode cX0_newAct 29 = .ok (.iconst 1, 1) := dk_4 (dk_at dksX0_newAct_1 5 rfl rfl)
theorem dX0_newAct_30 : decode cX0_newAct 30 = .ok (.isub, 1) := dk_100 (dk_at dksX0_newAct_1 6 rfl rfl)
theorem dX0_newAct_31 : decode cX0_newAct 31 = .ok (.aload_n 0, 1) := dk_42 (dk_at dksX0_newAct_1 7 rfl rfl)
theorem dX0_newAct_32 : decode cX0_newAct 32 = .ok (.getfield 39, 3) := dk_180 0 39 (dk_at dksX0_newAct_1 8 rfl rfl)
theorem dX0_newAct_35 : decode cX0_newAct 35 = .ok (.iload_n 3, 1) := dk_29 (dk_at dksX0_newAct_1 11 rfl rfl)
theorem dX0_newAct_36 : decode cX0_newAct 36 = .ok (.aaload, 1) := dk_50 (dk_at dksX0_newAct_1 12 rfl rfl)
theorem dX0_newAct_37 : decode cX0_newAct 37 = .ok (.aastore, 1) := dk_83 (dk_at dksX0_newAct_1 13 rfl rfl)
theorem dX0_newAct_38 : decode cX0_newAct 38 = .ok (.iinc 3 1, 3) := dk_132 3 1 (dk_at dksX0_newAct_1 14 rfl rfl)
theorem dX0_newAct_41 : decode cX0_newAct 41 = .ok (.goto (-23), 3) := dk_167 255 233 (dk_at dksX0_newAct_1 17 rfl rfl)
theorem dX0_newAct_44 : decode cX0_newAct 44 = .ok (.aload_n 0, 1) := dk_42 (dk_at dksX0_newAct_1 20 rfl rfl)
theorem dX0_newAct_45 : decode cX0_newAct 45 = .ok (.getfield 39, 3) := dk_180 0 39 (dk_at dksX0_newAct_1 21 rfl rfl)
theorem dX0_newAct_48 : decode cX0_newAct 48 = .ok (.bipush 39, 2) := dk_16 39 (dk_at dksX0_newAct_2 0 rfl rfl)
theorem dX0_newAct_50 : decode cX0_newAct 50 = .ok (.aload_n 2, 1) := dk_44 (dk_at dksX0_newAct_2 2 rfl rfl)
theorem dX0_newAct_51 : decode cX0_newAct 51 = .ok (.aastore, 1) := dk_83 (dk_at dksX0_newAct_2 3 rfl rfl)
theorem dX0_newAct_52 : decode cX0_newAct 52 = .ok (.aload_n 0, 1) := dk_42 (dk_at dksX0_newAct_2 4 rfl rfl)
theorem dX0_newAct_53 : decode cX0_newAct 53 = .ok (.dup, 1) := dk_89 (dk_at dksX0_newAct_2 5 rfl rfl)
theorem dX0_newAct_54 : decode cX0_newAct 54 = .ok (.getfield 293, 3) := dk_180 1 37 (dk_at dksX0_newAct_2 6 rfl rfl)
theorem dX0_newAct_57 : decode cX0_newAct 57 = .ok (.iconst 1, 1) := dk_4 (dk_at dksX0_newAct_2 9 rfl rfl)
theorem dX0_newAct_58 : decode cX0_newAct 58 = .ok (.isub, 1) := dk_100 (dk_at dksX0_newAct_2 10 rfl rfl)
theorem dX0_newAct_59 : decode cX0_newAct 59 = .ok (.putfield 293, 3) := dk_181 1 37 (dk_at dksX0_newAct_2 11 rfl rfl)
theorem dX0_newAct_62 : decode cX0_newAct 62 = .ok (.aload_n 0, 1) := dk_42 (dk_at dksX0_newAct_2 14 rfl rfl)
theorem dX0_newAct_63 : decode cX0_newAct 63 = .ok (.getfield 39, 3) := dk_180 0 39 (dk_at dksX0_newAct_2 15 rfl rfl)
theorem dX0_newAct_66 : decode cX0_newAct 66 = .ok (.aload_n 0, 1) := dk_42 (dk_at dksX0_newAct_2 18 rfl rfl)
theorem dX0_newAct_67 : decode cX0_newAct 67 = .ok (.dup, 1) := dk_89 (dk_at dksX0_newAct_2 19 rfl rfl)
theorem dX0_newAct_68 : decode cX0_newAct 68 = .ok (.getfield 293, 3) := dk_180 1 37 (dk_at dksX0_newAct_2 20 rfl rfl)
theorem dX0_newAct_71 : decode cX0_newAct 71 = .ok (.dup_x1, 1) := dk_90 (dk_at dksX0_newAct_2 23 rfl rfl)
theorem dX0_newAct_72 : decode cX0_newAct 72 = .ok (.iconst 1, 1) := dk_4 (dk_at dksX0_newAct_3 0 rfl rfl)
theorem dX0_newAct_73 : decode cX0_newAct 73 = .ok (.iadd, 1) := dk_96 (dk_at dksX0_newAct_3 1 rfl rfl)
theorem dX0_newAct_74 : decode cX0_newAct 74 = .ok (.putfield 293, 3) := dk_181 1 37 (dk_at dksX0_newAct_3 2 rfl rfl)
theorem dX0_newAct_77 : decode cX0_newAct 77 = .ok (.aaload, 1) := dk_50 (dk_at dksX0_newAct_3 5 rfl rfl)
theorem dX0_newAct_78 : decode cX0_newAct 78 = .ok (.astore_n 2, 1) := dk_77 (dk_at dksX0_newAct_3 6 rfl rfl)
theorem dX0_newAct_79 : decode cX0_newAct 79 = .ok (.aload_n 0, 1) := dk_42 (dk_at dksX0_newAct_3 7 rfl rfl)
theorem dX0_newAct_80 : decode cX0_newAct 80 = .ok (.aload_n 0, 1) := dk_42 (dk_at dksX0_newAct_3 8 rfl rfl)
theorem dX0_newAct_81 : decode cX0_newAct 81 = .ok (.getfield 293, 3) := dk_180 1 37 (dk_at dksX0_newAct_3 9 rfl rfl)
theorem dX0_newAct_84 : decode cX0_newAct 84 = .ok (.putfield 296, 3) := dk_181 1 40 (dk_at dksX0_newAct_3 12 rfl rfl)
theorem dX0_newAct_87 : decode cX0_newAct 87 = .ok (.aload_n 2, 1) := dk_44 (dk_at dksX0_newAct_3 15 rfl rfl)
theorem dX0_newAct_88 : decode cX0_newAct 88 = .ok (.iload_n 1, 1) := dk_27 (dk_at dksX0_newAct_3 16 rfl rfl)
theorem dX0_newAct_89 : decode cX0_newAct 89 = .ok (.putfield 273, 3) := dk_181 1 17 (dk_at dksX0_newAct_3 17 rfl rfl)
theorem dX0_newAct_92 : decode cX0_newAct 92 = .ok (.aload_n 2, 1) := dk_44 (dk_at dksX0_newAct_3 20 rfl rfl)
theorem dX0_newAct_93 : decode cX0_newAct 93 = .ok (.aconst_null, 1) := dk_1 (dk_at dksX0_newAct_3 21 rfl rfl)
theorem dX0_newAct_94 : decode cX0_newAct 94 = .ok (.putfield 276, 3) := dk_181 1 20 (dk_at dksX0_newAct_4 0 rfl rfl)
theorem dX0_newAct_97 : decode cX0_newAct 97 = .ok (.aload_n 2, 1) := dk_44 (dk_at dksX0_newAct_4 3 rfl rfl)
theorem dX0_newAct_98 : decode cX0_newAct 98 = .ok (.aconst_null, 1) := dk_1 (dk_at dksX0_newAct_4 4 rfl rfl)
theorem dX0_newAct_99 : decode cX0_newAct 99 = .ok (.putfield 283, 3) := dk_181 1 27 (dk_at dksX0_newAct_4 5 rfl rfl)
theorem dX0_newAct_102 : decode cX0_newAct 102 = .ok (.aload_n 2, 1) := dk_44 (dk_at dksX0_newAct_4 8 rfl rfl)
theorem dX0_newAct_103 : decode cX0_newAct 103 = .ok (.areturn, 1) := dk_176 (dk_at dksX0_newAct_4 9 rfl rfl)
abbrev cX0_become : ByteArray := prog_1_method_15_code
def yX0_become : MethodName := ⟨RX0, "become", "(LPlatesSing$Act;Z)V"⟩
def dkwX0_become_6 : List UInt8 := [180, 0, 233, 43, 180, 1, 24, 29, 79, 177]
abbrev dktX0_become_6 : List UInt8 := dkwX0_become_6 ++ []
def dkwX0_become_5 : List UInt8 := [153, 0, 10, 43, 180, 1, 31, 167, 0, 7, 43, 180, 1, 34, 181, 1, 8, 167, 0, 16, 43, 180, 1, 20]
abbrev dktX0_become_5 : List UInt8 := dkwX0_become_5 ++ dktX0_become_6
def dkwX0_become_4 : List UInt8 := [4, 167, 0, 4, 3, 84, 167, 0, 49, 43, 180, 1, 27, 29, 181, 0, 195, 43, 180, 1, 27, 28]
abbrev dktX0_become_4 : List UInt8 := dkwX0_become_4 ++ dktX0_become_5
def dkwX0_become_3 : List UInt8 := [180, 1, 24, 29, 79, 167, 0, 74, 43, 180, 1, 20, 180, 0, 242, 43, 180, 1, 24, 29, 4, 160, 0, 7]
abbrev dktX0_become_3 : List UInt8 := dkwX0_become_3 ++ dktX0_become_4
def dkwX0_become_2 : List UInt8 := [43, 180, 1, 20, 180, 0, 236, 43, 180, 1, 24, 29, 79, 167, 0, 90, 43, 180, 1, 20, 180, 0, 239, 43]
abbrev dktX0_become_2 : List UInt8 := dkwX0_become_2 ++ dktX0_become_3
def dkwX0_become_1 : List UInt8 := [170, 0, 0, 0, 0, 0, 0, 122, 0, 0, 0, 0, 0, 0, 0, 3, 0, 0, 0, 32, 0, 0, 0, 48, 0, 0, 0, 64, 0, 0, 0, 89]
abbrev dktX0_become_1 : List UInt8 := dkwX0_become_1 ++ dktX0_become_2
def dkwX0_become_0 : List UInt8 := [28, 153, 0, 10, 43, 180, 1, 11, 167, 0, 7, 43, 180, 1, 14, 62, 43, 180, 1, 17]
abbrev dktX0_become_0 : List UInt8 := dkwX0_become_0 ++ dktX0_become_1
theorem dksX0_become_0 : cX0_become.data.toList.drop 0 = dktX0_become_0 := by decide +kernel
theorem dksX0_become_1 : cX0_become.data.toList.drop 20 = dktX0_become_1 := dk_seg dksX0_become_0 20 rfl rfl
theorem dksX0_become_2 : cX0_become.data.toList.drop 52 = dktX0_become_2 := dk_seg dksX0_become_1 32 rfl rfl
theorem dksX0_become_3 : cX0_become.data.toList.drop 76 = dktX0_become_3 := dk_seg dksX0_become_2 24 rfl rfl
theorem dksX0_become_4 : cX0_become.data.toList.drop 100 = dktX0_become_4 := dk_seg dksX0_become_3 24 rfl rfl
theorem dksX0_become_5 : cX0_become.data.toList.drop 122 = dktX0_become_5 := dk_seg dksX0_become_4 22 rfl rfl
theorem dksX0_become_6 : cX0_become.data.toList.drop 146 = dktX0_become_6 := dk_seg dksX0_become_5 24 rfl rfl
theorem dX0_become_0 : decode cX0_become 0 = .ok (.iload_n 2, 1) := dk_28 (dk_at dksX0_become_0 0 rfl rfl)
theorem dX0_become_1 : decode cX0_become 1 = .ok (.ifCond .eq 10, 3) := dk_153 0 10 (dk_at dksX0_become_0 1 rfl rfl)
theorem dX0_become_4 : decode cX0_become 4 = .ok (.aload_n 1, 1) := dk_43 (dk_at dksX0_become_0 4 rfl rfl)
theorem dX0_become_5 : decode cX0_become 5 = .ok (.getfield 267, 3) := dk_180 1 11 (dk_at dksX0_become_0 5 rfl rfl)
theorem dX0_become_8 : decode cX0_become 8 = .ok (.goto 7, 3) := dk_167 0 7 (dk_at dksX0_become_0 8 rfl rfl)
theorem dX0_become_11 : decode cX0_become 11 = .ok (.aload_n 1, 1) := dk_43 (dk_at dksX0_become_0 11 rfl rfl)
theorem dX0_become_12 : decode cX0_become 12 = .ok (.getfield 270, 3) := dk_180 1 14 (dk_at dksX0_become_0 12 rfl rfl)
theorem dX0_become_15 : decode cX0_become 15 = .ok (.istore_n 3, 1) := dk_62 (dk_at dksX0_become_0 15 rfl rfl)
theorem dX0_become_16 : decode cX0_become 16 = .ok (.aload_n 1, 1) := dk_43 (dk_at dksX0_become_0 16 rfl rfl)
theorem dX0_become_17 : decode cX0_become 17 = .ok (.getfield 273, 3) := dk_180 1 17 (dk_at dksX0_become_0 17 rfl rfl)
theorem dX0_become_20 : decode cX0_become 20 = .ok (.tableswitch 122 0 3 #[32, 48, 64, 89], 32) := by decide +kernel
theorem dX0_become_52 : decode cX0_become 52 = .ok (.aload_n 1, 1) := dk_43 (dk_at dksX0_become_2 0 rfl rfl)
theorem dX0_become_53 : decode cX0_become 53 = .ok (.getfield 276, 3) := dk_180 1 20 (dk_at dksX0_become_2 1 rfl rfl)
theorem dX0_become_56 : decode cX0_become 56 = .ok (.getfield 236, 3) := dk_180 0 236 (dk_at dksX0_become_2 4 rfl rfl)
theorem dX0_become_59 : decode cX0_become 59 = .ok (.aload_n 1, 1) := dk_43 (dk_at dksX0_become_2 7 rfl rfl)
theorem dX0_become_60 : decode cX0_become 60 = .ok (.getfield 280, 3) := dk_180 1 24 (dk_at dksX0_become_2 8 rfl rfl)
theorem dX0_become_63 : decode cX0_become 63 = .ok (.iload_n 3, 1) := dk_29 (dk_at dksX0_become_2 11 rfl rfl)
theorem dX0_become_64 : decode cX0_become 64 = .ok (.iastore, 1) := dk_79 (dk_at dksX0_become_2 12 rfl rfl)
theorem dX0_become_65 : decode cX0_become 65 = .ok (.goto 90, 3) := dk_167 0 90 (dk_at dksX0_become_2 13 rfl rfl)
theorem dX0_become_68 : decode cX0_become 68 = .ok (.aload_n 1, 1) := dk_43 (dk_at dksX0_become_2 16 rfl rfl)
theorem dX0_become_69 : decode cX0_become 69 = .ok (.getfield 276, 3) := dk_180 1 20 (dk_at dksX0_become_2 17 rfl rfl)
theorem dX0_become_72 : decode cX0_become 72 = .ok (.getfield 239, 3) := dk_180 0 239 (dk_at dksX0_become_2 20 rfl rfl)
theorem dX0_become_75 : decode cX0_become 75 = .ok (.aload_n 1, 1) := dk_43 (dk_at dksX0_become_2 23 rfl rfl)
theorem dX0_become_76 : decode cX0_become 76 = .ok (.getfield 280, 3) := dk_180 1 24 (dk_at dksX0_become_3 0 rfl rfl)
theorem dX0_become_79 : decode cX0_become 79 = .ok (.iload_n 3, 1) := dk_29 (dk_at dksX0_become_3 3 rfl rfl)
theorem dX0_become_80 : decode cX0_become 80 = .ok (.iastore, 1) := dk_79 (dk_at dksX0_become_3 4 rfl rfl)
theorem dX0_become_81 : decode cX0_become 81 = .ok (.goto 74, 3) := dk_167 0 74 (dk_at dksX0_become_3 5 rfl rfl)
theorem dX0_become_84 : decode cX0_become 84 = .ok (.aload_n 1, 1) := dk_43 (dk_at dksX0_become_3 8 rfl rfl)
theorem dX0_become_85 : decode cX0_become 85 = .ok (.getfield 276, 3) := dk_180 1 20 (dk_at dksX0_become_3 9 rfl rfl)
theorem dX0_become_88 : decode cX0_become 88 = .ok (.getfield 242, 3) := dk_180 0 242 (dk_at dksX0_become_3 12 rfl rfl)
theorem dX0_become_91 : decode cX0_become 91 = .ok (.aload_n 1, 1) := dk_43 (dk_at dksX0_become_3 15 rfl rfl)
theorem dX0_become_92 : decode cX0_become 92 = .ok (.getfield 280, 3) := dk_180 1 24 (dk_at dksX0_become_3 16 rfl rfl)
theorem dX0_become_95 : decode cX0_become 95 = .ok (.iload_n 3, 1) := dk_29 (dk_at dksX0_become_3 19 rfl rfl)
theorem dX0_become_96 : decode cX0_become 96 = .ok (.iconst 1, 1) := dk_4 (dk_at dksX0_become_3 20 rfl rfl)
theorem dX0_become_97 : decode cX0_become 97 = .ok (.if_icmp .ne 7, 3) := dk_160 0 7 (dk_at dksX0_become_3 21 rfl rfl)
theorem dX0_become_100 : decode cX0_become 100 = .ok (.iconst 1, 1) := dk_4 (dk_at dksX0_become_4 0 rfl rfl)
theorem dX0_become_101 : decode cX0_become 101 = .ok (.goto 4, 3) := dk_167 0 4 (dk_at dksX0_become_4 1 rfl rfl)
theorem dX0_become_104 : decode cX0_become 104 = .ok (.iconst 0, 1) := dk_3 (dk_at dksX0_become_4 4 rfl rfl)
theorem dX0_become_105 : decode cX0_become 105 = .ok (.bastore, 1) := dk_84 (dk_at dksX0_become_4 5 rfl rfl)
theorem dX0_become_106 : decode cX0_become 106 = .ok (.goto 49, 3) := dk_167 0 49 (dk_at dksX0_become_4 6 rfl rfl)
theorem dX0_become_109 : decode cX0_become 109 = .ok (.aload_n 1, 1) := dk_43 (dk_at dksX0_become_4 9 rfl rfl)
theorem dX0_become_110 : decode cX0_become 110 = .ok (.getfield 283, 3) := dk_180 1 27 (dk_at dksX0_become_4 10 rfl rfl)
theorem dX0_become_113 : decode cX0_become 113 = .ok (.iload_n 3, 1) := dk_29 (dk_at dksX0_become_4 13 rfl rfl)
theorem dX0_become_114 : decode cX0_become 114 = .ok (.putfield 195, 3) := dk_181 0 195 (dk_at dksX0_become_4 14 rfl rfl)
theorem dX0_become_117 : decode cX0_become 117 = .ok (.aload_n 1, 1) := dk_43 (dk_at dksX0_become_4 17 rfl rfl)
theorem dX0_become_118 : decode cX0_become 118 = .ok (.getfield 283, 3) := dk_180 1 27 (dk_at dksX0_become_4 18 rfl rfl)
theorem dX0_become_121 : decode cX0_become 121 = .ok (.iload_n 2, 1) := dk_28 (dk_at dksX0_become_4 21 rfl rfl)
theorem dX0_become_122 : decode cX0_become 122 = .ok (.ifCond .eq 10, 3) := dk_153 0 10 (dk_at dksX0_become_5 0 rfl rfl)
theorem dX0_become_125 : decode cX0_become 125 = .ok (.aload_n 1, 1) := dk_43 (dk_at dksX0_become_5 3 rfl rfl)
theorem dX0_become_126 : decode cX0_become 126 = .ok (.getfield 287, 3) := dk_180 1 31 (dk_at dksX0_become_5 4 rfl rfl)
theorem dX0_become_129 : decode cX0_become 129 = .ok (.goto 7, 3) := dk_167 0 7 (dk_at dksX0_become_5 7 rfl rfl)
theorem dX0_become_132 : decode cX0_become 132 = .ok (.aload_n 1, 1) := dk_43 (dk_at dksX0_become_5 10 rfl rfl)
theorem dX0_become_133 : decode cX0_become 133 = .ok (.getfield 290, 3) := dk_180 1 34 (dk_at dksX0_become_5 11 rfl rfl)
theorem dX0_become_136 : decode cX0_become 136 = .ok (.putfield 264, 3) := dk_181 1 8 (dk_at dksX0_become_5 14 rfl rfl)
theorem dX0_become_139 : decode cX0_become 139 = .ok (.goto 16, 3) := dk_167 0 16 (dk_at dksX0_become_5 17 rfl rfl)
theorem dX0_become_142 : decode cX0_become 142 = .ok (.aload_n 1, 1) := dk_43 (dk_at dksX0_become_5 20 rfl rfl)
theorem dX0_become_143 : decode cX0_become 143 = .ok (.getfield 276, 3) := dk_180 1 20 (dk_at dksX0_become_5 21 rfl rfl)
theorem dX0_become_146 : decode cX0_become 146 = .ok (.getfield 233, 3) := dk_180 0 233 (dk_at dksX0_become_6 0 rfl rfl)
theorem dX0_become_149 : decode cX0_become 149 = .ok (.aload_n 1, 1) := dk_43 (dk_at dksX0_become_6 3 rfl rfl)
theorem dX0_become_150 : decode cX0_become 150 = .ok (.getfield 280, 3) := dk_180 1 24 (dk_at dksX0_become_6 4 rfl rfl)
theorem dX0_become_153 : decode cX0_become 153 = .ok (.iload_n 3, 1) := dk_29 (dk_at dksX0_become_6 7 rfl rfl)
theorem dX0_become_154 : decode cX0_become 154 = .ok (.iastore, 1) := dk_79 (dk_at dksX0_become_6 8 rfl rfl)
theorem dX0_become_155 : decode cX0_become 155 = .ok (.return_, 1) := dk_177 (dk_at dksX0_become_6 9 rfl rfl)
abbrev cX0_crack : ByteArray := prog_1_method_20_code
def yX0_crack : MethodName := ⟨RX0, "crack", "(IIII)I"⟩
def dkwX0_crack_4 : List UInt8 := [172]
abbrev dktX0_crack_4 : List UInt8 := dkwX0_crack_4 ++ []
def dkwX0_crack_3 : List UInt8 := [54, 7, 21, 7, 21, 4, 159, 0, 16, 42, 25, 6, 25, 6, 180, 0, 195, 21, 4, 182, 1, 57, 21, 7]
abbrev dktX0_crack_3 : List UInt8 := dkwX0_crack_3 ++ dktX0_crack_4
def dkwX0_crack_2 : List UInt8 := [199, 0, 6, 16, 254, 172, 21, 4, 25, 6, 180, 0, 195, 164, 0, 5, 2, 172, 25, 6, 180, 1, 8]
abbrev dktX0_crack_2 : List UInt8 := dkwX0_crack_2 ++ dktX0_crack_3
def dkwX0_crack_1 : List UInt8 := [133, 9, 20, 1, 51, 184, 0, 152, 154, 0, 5, 2, 172, 25, 5, 28, 29, 182, 1, 0, 58, 6, 25, 6]
abbrev dktX0_crack_1 : List UInt8 := dkwX0_crack_1 ++ dktX0_crack_2
def dkwX0_crack_0 : List UInt8 := [42, 27, 28, 182, 0, 250, 58, 5, 25, 5, 198, 0, 25, 25, 5, 29, 182, 0, 205, 153, 0, 16, 21, 4]
abbrev dktX0_crack_0 : List UInt8 := dkwX0_crack_0 ++ dktX0_crack_1
theorem dksX0_crack_0 : cX0_crack.data.toList.drop 0 = dktX0_crack_0 := by decide +kernel
theorem dksX0_crack_1 : cX0_crack.data.toList.drop 24 = dktX0_crack_1 := dk_seg dksX0_crack_0 24 rfl rfl
theorem dksX0_crack_2 : cX0_crack.data.toList.drop 48 = dktX0_crack_2 := dk_seg dksX0_crack_1 24 rfl rfl
theorem dksX0_crack_3 : cX0_crack.data.toList.drop 71 = dktX0_crack_3 := dk_seg dksX0_crack_2 23 rfl rfl
theorem dksX0_crack_4 : cX0_crack.data.toList.drop 95 = dktX0_crack_4 := dk_seg dksX0_crack_3 24 rfl rfl
theorem dX0_crack_0 : decode cX0_crack 0 = .ok (.aload_n 0, 1) := dk_42 (dk_at dksX0_crack_0 0 rfl rfl)
theorem dX0_crack_1 : decode cX0_crack 1 = .ok (.iload_n 1, 1) := dk_27 (dk_at dksX0_crack_0 1 rfl rfl)
theorem dX0_crack_2 : decode cX0_crack 2 = .ok (.iload_n 2, 1) := dk_28 (dk_at dksX0_crack_0 2 rfl rfl)
theorem dX0_crack_3 : decode cX0_crack 3 = .ok (.invokevirtual 250, 3) := dk_182 0 250 (dk_at dksX0_crack_0 3 rfl rfl)
theorem dX0_crack_6 : decode cX0_crack 6 = .ok (.astore 5, 2) := dk_58 5 (dk_at dksX0_crack_0 6 rfl rfl)
theorem dX0_crack_8 : decode cX0_crack 8 = .ok (.aload 5, 2) := dk_25 5 (dk_at dksX0_crack_0 8 rfl rfl)
theorem dX0_crack_10 : decode cX0_crack 10 = .ok (.ifnull 25, 3) := dk_198 0 25 (dk_at dksX0_crack_0 10 rfl rfl)
theorem dX0_crack_13 : decode cX0_crack 13 = .ok (.aload 5, 2) := dk_25 5 (dk_at dksX0_crack_0 13 rfl rfl)
theorem dX0_crack_15 : decode cX0_crack 15 = .ok (.iload_n 3, 1) := dk_29 (dk_at dksX0_crack_0 15 rfl rfl)
theorem dX0_crack_16 : decode cX0_crack 16 = .ok (.invokevirtual 205, 3) := dk_182 0 205 (dk_at dksX0_crack_0 16 rfl rfl)
theorem dX0_crack_19 : decode cX0_crack 19 = .ok (.ifCond .eq 16, 3) := dk_153 0 16 (dk_at dksX0_crack_0 19 rfl rfl)
theorem dX0_crack_22 : decode cX0_crack 22 = .ok (.iload 4, 2) := dk_21 4 (dk_at dksX0_crack_0 22 rfl rfl)
theorem dX0_crack_24 : decode cX0_crack 24 = .ok (.i2l, 1) := dk_133 (dk_at dksX0_crack_1 0 rfl rfl)
theorem dX0_crack_25 : decode cX0_crack 25 = .ok (.lconst 0, 1) := dk_9 (dk_at dksX0_crack_1 1 rfl rfl)
theorem dX0_crack_26 : decode cX0_crack 26 = .ok (.ldc2_w 307, 3) := dk_20 1 51 (dk_at dksX0_crack_1 2 rfl rfl)
theorem dX0_crack_29 : decode cX0_crack 29 = .ok (.invokestatic 152, 3) := dk_184 0 152 (dk_at dksX0_crack_1 5 rfl rfl)
theorem dX0_crack_32 : decode cX0_crack 32 = .ok (.ifCond .ne 5, 3) := dk_154 0 5 (dk_at dksX0_crack_1 8 rfl rfl)
theorem dX0_crack_35 : decode cX0_crack 35 = .ok (.iconst (-1), 1) := dk_2 (dk_at dksX0_crack_1 11 rfl rfl)
theorem dX0_crack_36 : decode cX0_crack 36 = .ok (.ireturn, 1) := dk_172 (dk_at dksX0_crack_1 12 rfl rfl)
theorem dX0_crack_37 : decode cX0_crack 37 = .ok (.aload 5, 2) := dk_25 5 (dk_at dksX0_crack_1 13 rfl rfl)
theorem dX0_crack_39 : decode cX0_crack 39 = .ok (.iload_n 2, 1) := dk_28 (dk_at dksX0_crack_1 15 rfl rfl)
theorem dX0_crack_40 : decode cX0_crack 40 = .ok (.iload_n 3, 1) := dk_29 (dk_at dksX0_crack_1 16 rfl rfl)
theorem dX0_crack_41 : decode cX0_crack 41 = .ok (.invokevirtual 256, 3) := dk_182 1 0 (dk_at dksX0_crack_1 17 rfl rfl)
theorem dX0_crack_44 : decode cX0_crack 44 = .ok (.astore 6, 2) := dk_58 6 (dk_at dksX0_crack_1 20 rfl rfl)
theorem dX0_crack_46 : decode cX0_crack 46 = .ok (.aload 6, 2) := dk_25 6 (dk_at dksX0_crack_1 22 rfl rfl)
theorem dX0_crack_48 : decode cX0_crack 48 = .ok (.ifnonnull 6, 3) := dk_199 0 6 (dk_at dksX0_crack_2 0 rfl rfl)
theorem dX0_crack_51 : decode cX0_crack 51 = .ok (.bipush (-2), 2) := dk_16 254 (dk_at dksX0_crack_2 3 rfl rfl)
theorem dX0_crack_53 : decode cX0_crack 53 = .ok (.ireturn, 1) := dk_172 (dk_at dksX0_crack_2 5 rfl rfl)
theorem dX0_crack_54 : decode cX0_crack 54 = .ok (.iload 4, 2) := dk_21 4 (dk_at dksX0_crack_2 6 rfl rfl)
theorem dX0_crack_56 : decode cX0_crack 56 = .ok (.aload 6, 2) := dk_25 6 (dk_at dksX0_crack_2 8 rfl rfl)
theorem dX0_crack_58 : decode cX0_crack 58 = .ok (.getfield 195, 3) := dk_180 0 195 (dk_at dksX0_crack_2 10 rfl rfl)
theorem dX0_crack_61 : decode cX0_crack 61 = .ok (.if_icmp .le 5, 3) := dk_164 0 5 (dk_at dksX0_crack_2 13 rfl rfl)
theorem dX0_crack_64 : decode cX0_crack 64 = .ok (.iconst (-1), 1) := dk_2 (dk_at dksX0_crack_2 16 rfl rfl)
theorem dX0_crack_65 : decode cX0_crack 65 = .ok (.ireturn, 1) := dk_172 (dk_at dksX0_crack_2 17 rfl rfl)
theorem dX0_crack_66 : decode cX0_crack 66 = .ok (.aload 6, 2) := dk_25 6 (dk_at dksX0_crack_2 18 rfl rfl)
theorem dX0_crack_68 : decode cX0_crack 68 = .ok (.getfield 264, 3) := dk_180 1 8 (dk_at dksX0_crack_2 20 rfl rfl)
theorem dX0_crack_71 : decode cX0_crack 71 = .ok (.istore 7, 2) := dk_54 7 (dk_at dksX0_crack_3 0 rfl rfl)
theorem dX0_crack_73 : decode cX0_crack 73 = .ok (.iload 7, 2) := dk_21 7 (dk_at dksX0_crack_3 2 rfl rfl)
theorem dX0_crack_75 : decode cX0_crack 75 = .ok (.iload 4, 2) := dk_21 4 (dk_at dksX0_crack_3 4 rfl rfl)
theorem dX0_crack_77 : decode cX0_crack 77 = .ok (.if_icmp .eq 16, 3) := dk_159 0 16 (dk_at dksX0_crack_3 6 rfl rfl)
theorem dX0_crack_80 : decode cX0_crack 80 = .ok (.aload_n 0, 1) := dk_42 (dk_at dksX0_crack_3 9 rfl rfl)
theorem dX0_crack_81 : decode cX0_crack 81 = .ok (.aload 6, 2) := dk_25 6 (dk_at dksX0_crack_3 10 rfl rfl)
theorem dX0_crack_83 : decode cX0_crack 83 = .ok (.aload 6, 2) := dk_25 6 (dk_at dksX0_crack_3 12 rfl rfl)
theorem dX0_crack_85 : decode cX0_crack 85 = .ok (.getfield 195, 3) := dk_180 0 195 (dk_at dksX0_crack_3 14 rfl rfl)
theorem dX0_crack_88 : decode cX0_crack 88 = .ok (.iload 4, 2) := dk_21 4 (dk_at dksX0_crack_3 17 rfl rfl)
theorem dX0_crack_90 : decode cX0_crack 90 = .ok (.invokevirtual 313, 3) := dk_182 1 57 (dk_at dksX0_crack_3 19 rfl rfl)
theorem dX0_crack_93 : decode cX0_crack 93 = .ok (.iload 7, 2) := dk_21 7 (dk_at dksX0_crack_3 22 rfl rfl)
theorem dX0_crack_95 : decode cX0_crack 95 = .ok (.ireturn, 1) := dk_172 (dk_at dksX0_crack_4 0 rfl rfl)
abbrev cX0_tellPiece : ByteArray := prog_1_method_18_code
def yX0_tellPiece : MethodName := ⟨RX0, "tellPiece", "(LPlatesSing$Piece;II)V"⟩
def dkwX0_tellPiece_2 : List UInt8 := [182, 1, 47, 177]
abbrev dktX0_tellPiece_2 : List UInt8 := dkwX0_tellPiece_2 ++ []
def dkwX0_tellPiece_1 : List UInt8 := [43, 180, 1, 8, 181, 1, 31, 25, 4, 28, 181, 1, 14, 25, 4, 29, 181, 1, 34, 42, 25, 4, 3]
abbrev dktX0_tellPiece_1 : List UInt8 := dkwX0_tellPiece_1 ++ dktX0_tellPiece_2
def dkwX0_tellPiece_0 : List UInt8 := [42, 6, 182, 1, 43, 58, 4, 25, 4, 43, 181, 1, 27, 25, 4, 43, 180, 0, 195, 181, 1, 11, 25, 4]
abbrev dktX0_tellPiece_0 : List UInt8 := dkwX0_tellPiece_0 ++ dktX0_tellPiece_1
theorem dksX0_tellPiece_0 : cX0_tellPiece.data.toList.drop 0 = dktX0_tellPiece_0 := by decide +kernel
theorem dksX0_tellPiece_1 : cX0_tellPiece.data.toList.drop 24 = dktX0_tellPiece_1 := dk_seg dksX0_tellPiece_0 24 rfl rfl
theorem dksX0_tellPiece_2 : cX0_tellPiece.data.toList.drop 47 = dktX0_tellPiece_2 := dk_seg dksX0_tellPiece_1 23 rfl rfl
theorem dX0_tellPiece_0 : decode cX0_tellPiece 0 = .ok (.aload_n 0, 1) := dk_42 (dk_at dksX0_tellPiece_0 0 rfl rfl)
theorem dX0_tellPiece_1 : decode cX0_tellPiece 1 = .ok (.iconst 3, 1) := dk_6 (dk_at dksX0_tellPiece_0 1 rfl rfl)
theorem dX0_tellPiece_2 : decode cX0_tellPiece 2 = .ok (.invokevirtual 299, 3) := dk_182 1 43 (dk_at dksX0_tellPiece_0 2 rfl rfl)
theorem dX0_tellPiece_5 : decode cX0_tellPiece 5 = .ok (.astore 4, 2) := dk_58 4 (dk_at dksX0_tellPiece_0 5 rfl rfl)
theorem dX0_tellPiece_7 : decode cX0_tellPiece 7 = .ok (.aload 4, 2) := dk_25 4 (dk_at dksX0_tellPiece_0 7 rfl rfl)
theorem dX0_tellPiece_9 : decode cX0_tellPiece 9 = .ok (.aload_n 1, 1) := dk_43 (dk_at dksX0_tellPiece_0 9 rfl rfl)
theorem dX0_tellPiece_10 : decode cX0_tellPiece 10 = .ok (.putfield 283, 3) := dk_181 1 27 (dk_at dksX0_tellPiece_0 10 rfl rfl)
theorem dX0_tellPiece_13 : decode cX0_tellPiece 13 = .ok (.aload 4, 2) := dk_25 4 (dk_at dksX0_tellPiece_0 13 rfl rfl)
theorem dX0_tellPiece_15 : decode cX0_tellPiece 15 = .ok (.aload_n 1, 1) := dk_43 (dk_at dksX0_tellPiece_0 15 rfl rfl)
theorem dX0_tellPiece_16 : decode cX0_tellPiece 16 = .ok (.getfield 195, 3) := dk_180 0 195 (dk_at dksX0_tellPiece_0 16 rfl rfl)
theorem dX0_tellPiece_19 : decode cX0_tellPiece 19 = .ok (.putfield 267, 3) := dk_181 1 11 (dk_at dksX0_tellPiece_0 19 rfl rfl)
theorem dX0_tellPiece_22 : decode cX0_tellPiece 22 = .ok (.aload 4, 2) := dk_25 4 (dk_at dksX0_tellPiece_0 22 rfl rfl)
theorem dX0_tellPiece_24 : decode cX0_tellPiece 24 = .ok (.aload_n 1, 1) := dk_43 (dk_at dksX0_tellPiece_1 0 rfl rfl)
theorem dX0_tellPiece_25 : decode cX0_tellPiece 25 = .ok (.getfield 264, 3) := dk_180 1 8 (dk_at dksX0_tellPiece_1 1 rfl rfl)
theorem dX0_tellPiece_28 : decode cX0_tellPiece 28 = .ok (.putfield 287, 3) := dk_181 1 31 (dk_at dksX0_tellPiece_1 4 rfl rfl)
theorem dX0_tellPiece_31 : decode cX0_tellPiece 31 = .ok (.aload 4, 2) := dk_25 4 (dk_at dksX0_tellPiece_1 7 rfl rfl)
theorem dX0_tellPiece_33 : decode cX0_tellPiece 33 = .ok (.iload_n 2, 1) := dk_28 (dk_at dksX0_tellPiece_1 9 rfl rfl)
theorem dX0_tellPiece_34 : decode cX0_tellPiece 34 = .ok (.putfield 270, 3) := dk_181 1 14 (dk_at dksX0_tellPiece_1 10 rfl rfl)
theorem dX0_tellPiece_37 : decode cX0_tellPiece 37 = .ok (.aload 4, 2) := dk_25 4 (dk_at dksX0_tellPiece_1 13 rfl rfl)
theorem dX0_tellPiece_39 : decode cX0_tellPiece 39 = .ok (.iload_n 3, 1) := dk_29 (dk_at dksX0_tellPiece_1 15 rfl rfl)
theorem dX0_tellPiece_40 : decode cX0_tellPiece 40 = .ok (.putfield 290, 3) := dk_181 1 34 (dk_at dksX0_tellPiece_1 16 rfl rfl)
theorem dX0_tellPiece_43 : decode cX0_tellPiece 43 = .ok (.aload_n 0, 1) := dk_42 (dk_at dksX0_tellPiece_1 19 rfl rfl)
theorem dX0_tellPiece_44 : decode cX0_tellPiece 44 = .ok (.aload 4, 2) := dk_25 4 (dk_at dksX0_tellPiece_1 20 rfl rfl)
theorem dX0_tellPiece_46 : decode cX0_tellPiece 46 = .ok (.iconst 0, 1) := dk_3 (dk_at dksX0_tellPiece_1 22 rfl rfl)
theorem dX0_tellPiece_47 : decode cX0_tellPiece 47 = .ok (.invokevirtual 303, 3) := dk_182 1 47 (dk_at dksX0_tellPiece_2 0 rfl rfl)
theorem dX0_tellPiece_50 : decode cX0_tellPiece 50 = .ok (.return_, 1) := dk_177 (dk_at dksX0_tellPiece_2 3 rfl rfl)
abbrev cX0_stroke : ByteArray := prog_1_method_21_code
def yX0_stroke : MethodName := ⟨RX0, "stroke", "(III)I"⟩
def dkwX0_stroke_5 : List UInt8 := [25, 5, 180, 1, 8, 25, 5, 180, 0, 195, 4, 100, 184, 0, 180, 182, 1, 57, 25, 5, 180, 0, 195, 172]
abbrev dktX0_stroke_5 : List UInt8 := dkwX0_stroke_5 ++ []
def dkwX0_stroke_4 : List UInt8 := [172, 25, 5, 180, 0, 195, 4, 160, 0, 6, 16, 252, 172, 42, 25, 5, 25, 5, 180, 0, 195, 4, 100]
abbrev dktX0_stroke_4 : List UInt8 := dkwX0_stroke_4 ++ dktX0_stroke_5
def dkwX0_stroke_3 : List UInt8 := [25, 4, 180, 0, 233, 28, 46, 172, 25, 4, 28, 29, 182, 1, 0, 58, 5, 25, 5, 199, 0, 6, 16, 254]
abbrev dktX0_stroke_3 : List UInt8 := dkwX0_stroke_3 ++ dktX0_stroke_4
def dkwX0_stroke_2 : List UInt8 := [42, 7, 25, 4, 28, 25, 4, 180, 0, 233, 28, 46, 25, 4, 180, 0, 233, 28, 46, 4, 100, 182, 1, 53]
abbrev dktX0_stroke_2 : List UInt8 := dkwX0_stroke_2 ++ dktX0_stroke_3
def dkwX0_stroke_1 : List UInt8 := [154, 0, 5, 2, 172, 29, 2, 160, 0, 49, 25, 4, 180, 0, 233, 28, 46, 4, 160, 0, 6, 16, 252, 172]
abbrev dktX0_stroke_1 : List UInt8 := dkwX0_stroke_1 ++ dktX0_stroke_2
def dkwX0_stroke_0 : List UInt8 := [42, 27, 28, 182, 0, 250, 58, 4, 25, 4, 198, 0, 17, 29, 2, 159, 0, 14, 25, 4, 29, 182, 0, 205]
abbrev dktX0_stroke_0 : List UInt8 := dkwX0_stroke_0 ++ dktX0_stroke_1
theorem dksX0_stroke_0 : cX0_stroke.data.toList.drop 0 = dktX0_stroke_0 := by decide +kernel
theorem dksX0_stroke_1 : cX0_stroke.data.toList.drop 24 = dktX0_stroke_1 := dk_seg dksX0_stroke_0 24 rfl rfl
theorem dksX0_stroke_2 : cX0_stroke.data.toList.drop 48 = dktX0_stroke_2 := dk_seg dksX0_stroke_1 24 rfl rfl
theorem dksX0_stroke_3 : cX0_stroke.data.toList.drop 72 = dktX0_stroke_3 := dk_seg dksX0_stroke_2 24 rfl rfl
theorem dksX0_stroke_4 : cX0_stroke.data.toList.drop 96 = dktX0_stroke_4 := dk_seg dksX0_stroke_3 24 rfl rfl
theorem dksX0_stroke_5 : cX0_stroke.data.toList.drop 119 = dktX0_stroke_5 := dk_seg dksX0_stroke_4 23 rfl rfl
theorem dX0_stroke_0 : decode cX0_stroke 0 = .ok (.aload_n 0, 1) := dk_42 (dk_at dksX0_stroke_0 0 rfl rfl)
theorem dX0_stroke_1 : decode cX0_stroke 1 = .ok (.iload_n 1, 1) := dk_27 (dk_at dksX0_stroke_0 1 rfl rfl)
theorem dX0_stroke_2 : decode cX0_stroke 2 = .ok (.iload_n 2, 1) := dk_28 (dk_at dksX0_stroke_0 2 rfl rfl)
theorem dX0_stroke_3 : decode cX0_stroke 3 = .ok (.invokevirtual 250, 3) := dk_182 0 250 (dk_at dksX0_stroke_0 3 rfl rfl)
theorem dX0_stroke_6 : decode cX0_stroke 6 = .ok (.astore 4, 2) := dk_58 4 (dk_at dksX0_stroke_0 6 rfl rfl)
theorem dX0_stroke_8 : decode cX0_stroke 8 = .ok (.aload 4, 2) := dk_25 4 (dk_at dksX0_stroke_0 8 rfl rfl)
theorem dX0_stroke_10 : decode cX0_stroke 10 = .ok (.ifnull 17, 3) := dk_198 0 17 (dk_at dksX0_stroke_0 10 rfl rfl)
theorem dX0_stroke_13 : decode cX0_stroke 13 = .ok (.iload_n 3, 1) := dk_29 (dk_at dksX0_stroke_0 13 rfl rfl)
theorem dX0_stroke_14 : decode cX0_stroke 14 = .ok (.iconst (-1), 1) := dk_2 (dk_at dksX0_stroke_0 14 rfl rfl)
theorem dX0_stroke_15 : decode cX0_stroke 15 = .ok (.if_icmp .eq 14, 3) := dk_159 0 14 (dk_at dksX0_stroke_0 15 rfl rfl)
theorem dX0_stroke_18 : decode cX0_stroke 18 = .ok (.aload 4, 2) := dk_25 4 (dk_at dksX0_stroke_0 18 rfl rfl)
theorem dX0_stroke_20 : decode cX0_stroke 20 = .ok (.iload_n 3, 1) := dk_29 (dk_at dksX0_stroke_0 20 rfl rfl)
theorem dX0_stroke_21 : decode cX0_stroke 21 = .ok (.invokevirtual 205, 3) := dk_182 0 205 (dk_at dksX0_stroke_0 21 rfl rfl)
theorem dX0_stroke_24 : decode cX0_stroke 24 = .ok (.ifCond .ne 5, 3) := dk_154 0 5 (dk_at dksX0_stroke_1 0 rfl rfl)
theorem dX0_stroke_27 : decode cX0_stroke 27 = .ok (.iconst (-1), 1) := dk_2 (dk_at dksX0_stroke_1 3 rfl rfl)
theorem dX0_stroke_28 : decode cX0_stroke 28 = .ok (.ireturn, 1) := dk_172 (dk_at dksX0_stroke_1 4 rfl rfl)
theorem dX0_stroke_29 : decode cX0_stroke 29 = .ok (.iload_n 3, 1) := dk_29 (dk_at dksX0_stroke_1 5 rfl rfl)
theorem dX0_stroke_30 : decode cX0_stroke 30 = .ok (.iconst (-1), 1) := dk_2 (dk_at dksX0_stroke_1 6 rfl rfl)
theorem dX0_stroke_31 : decode cX0_stroke 31 = .ok (.if_icmp .ne 49, 3) := dk_160 0 49 (dk_at dksX0_stroke_1 7 rfl rfl)
theorem dX0_stroke_34 : decode cX0_stroke 34 = .ok (.aload 4, 2) := dk_25 4 (dk_at dksX0_stroke_1 10 rfl rfl)
theorem dX0_stroke_36 : decode cX0_stroke 36 = .ok (.getfield 233, 3) := dk_180 0 233 (dk_at dksX0_stroke_1 12 rfl rfl)
theorem dX0_stroke_39 : decode cX0_stroke 39 = .ok (.iload_n 2, 1) := dk_28 (dk_at dksX0_stroke_1 15 rfl rfl)
theorem dX0_stroke_40 : decode cX0_stroke 40 = .ok (.iaload, 1) := dk_46 (dk_at dksX0_stroke_1 16 rfl rfl)
theorem dX0_stroke_41 : decode cX0_stroke 41 = .ok (.iconst 1, 1) := dk_4 (dk_at dksX0_stroke_1 17 rfl rfl)
theorem dX0_stroke_42 : decode cX0_stroke 42 = .ok (.if_icmp .ne 6, 3) := dk_160 0 6 (dk_at dksX0_stroke_1 18 rfl rfl)
theorem dX0_stroke_45 : decode cX0_stroke 45 = .ok (.bipush (-4), 2) := dk_16 252 (dk_at dksX0_stroke_1 21 rfl rfl)
theorem dX0_stroke_47 : decode cX0_stroke 47 = .ok (.ireturn, 1) := dk_172 (dk_at dksX0_stroke_1 23 rfl rfl)
theorem dX0_stroke_48 : decode cX0_stroke 48 = .ok (.aload_n 0, 1) := dk_42 (dk_at dksX0_stroke_2 0 rfl rfl)
theorem dX0_stroke_49 : decode cX0_stroke 49 = .ok (.iconst 4, 1) := dk_7 (dk_at dksX0_stroke_2 1 rfl rfl)
theorem dX0_stroke_50 : decode cX0_stroke 50 = .ok (.aload 4, 2) := dk_25 4 (dk_at dksX0_stroke_2 2 rfl rfl)
theorem dX0_stroke_52 : decode cX0_stroke 52 = .ok (.iload_n 2, 1) := dk_28 (dk_at dksX0_stroke_2 4 rfl rfl)
theorem dX0_stroke_53 : decode cX0_stroke 53 = .ok (.aload 4, 2) := dk_25 4 (dk_at dksX0_stroke_2 5 rfl rfl)
theorem dX0_stroke_55 : decode cX0_stroke 55 = .ok (.getfield 233, 3) := dk_180 0 233 (dk_at dksX0_stroke_2 7 rfl rfl)
theorem dX0_stroke_58 : decode cX0_stroke 58 = .ok (.iload_n 2, 1) := dk_28 (dk_at dksX0_stroke_2 10 rfl rfl)
theorem dX0_stroke_59 : decode cX0_stroke 59 = .ok (.iaload, 1) := dk_46 (dk_at dksX0_stroke_2 11 rfl rfl)
theorem dX0_stroke_60 : decode cX0_stroke 60 = .ok (.aload 4, 2) := dk_25 4 (dk_at dksX0_stroke_2 12 rfl rfl)
theorem dX0_stroke_62 : decode cX0_stroke 62 = .ok (.getfield 233, 3) := dk_180 0 233 (dk_at dksX0_stroke_2 14 rfl rfl)
theorem dX0_stroke_65 : decode cX0_stroke 65 = .ok (.iload_n 2, 1) := dk_28 (dk_at dksX0_stroke_2 17 rfl rfl)
theorem dX0_stroke_66 : decode cX0_stroke 66 = .ok (.iaload, 1) := dk_46 (dk_at dksX0_stroke_2 18 rfl rfl)
theorem dX0_stroke_67 : decode cX0_stroke 67 = .ok (.iconst 1, 1) := dk_4 (dk_at dksX0_stroke_2 19 rfl rfl)
theorem dX0_stroke_68 : decode cX0_stroke 68 = .ok (.isub, 1) := dk_100 (dk_at dksX0_stroke_2 20 rfl rfl)
theorem dX0_stroke_69 : decode cX0_stroke 69 = .ok (.invokevirtual 309, 3) := dk_182 1 53 (dk_at dksX0_stroke_2 21 rfl rfl)
theorem dX0_stroke_72 : decode cX0_stroke 72 = .ok (.aload 4, 2) := dk_25 4 (dk_at dksX0_stroke_3 0 rfl rfl)
theorem dX0_stroke_74 : decode cX0_stroke 74 = .ok (.getfield 233, 3) := dk_180 0 233 (dk_at dksX0_stroke_3 2 rfl rfl)
theorem dX0_stroke_77 : decode cX0_stroke 77 = .ok (.iload_n 2, 1) := dk_28 (dk_at dksX0_stroke_3 5 rfl rfl)
theorem dX0_stroke_78 : decode cX0_stroke 78 = .ok (.iaload, 1) := dk_46 (dk_at dksX0_stroke_3 6 rfl rfl)
theorem dX0_stroke_79 : decode cX0_stroke 79 = .ok (.ireturn, 1) := dk_172 (dk_at dksX0_stroke_3 7 rfl rfl)
theorem dX0_stroke_80 : decode cX0_stroke 80 = .ok (.aload 4, 2) := dk_25 4 (dk_at dksX0_stroke_3 8 rfl rfl)
theorem dX0_stroke_82 : decode cX0_stroke 82 = .ok (.iload_n 2, 1) := dk_28 (dk_at dksX0_stroke_3 10 rfl rfl)
theorem dX0_stroke_83 : decode cX0_stroke 83 = .ok (.iload_n 3, 1) := dk_29 (dk_at dksX0_stroke_3 11 rfl rfl)
theorem dX0_stroke_84 : decode cX0_stroke 84 = .ok (.invokevirtual 256, 3) := dk_182 1 0 (dk_at dksX0_stroke_3 12 rfl rfl)
theorem dX0_stroke_87 : decode cX0_stroke 87 = .ok (.astore 5, 2) := dk_58 5 (dk_at dksX0_stroke_3 15 rfl rfl)
theorem dX0_stroke_89 : decode cX0_stroke 89 = .ok (.aload 5, 2) := dk_25 5 (dk_at dksX0_stroke_3 17 rfl rfl)
theorem dX0_stroke_91 : decode cX0_stroke 91 = .ok (.ifnonnull 6, 3) := dk_199 0 6 (dk_at dksX0_stroke_3 19 rfl rfl)
theorem dX0_stroke_94 : decode cX0_stroke 94 = .ok (.bipush (-2), 2) := dk_16 254 (dk_at dksX0_stroke_3 22 rfl rfl)
theorem dX0_stroke_96 : decode cX0_stroke 96 = .ok (.ireturn, 1) := dk_172 (dk_at dksX0_stroke_4 0 rfl rfl)
theorem dX0_stroke_97 : decode cX0_stroke 97 = .ok (.aload 5, 2) := dk_25 5 (dk_at dksX0_stroke_4 1 rfl rfl)
theorem dX0_stroke_99 : decode cX0_stroke 99 = .ok (.getfield 195, 3) := dk_180 0 195 (dk_at dksX0_stroke_4 3 rfl rfl)
theorem dX0_stroke_102 : decode cX0_stroke 102 = .ok (.iconst 1, 1) := dk_4 (dk_at dksX0_stroke_4 6 rfl rfl)
theorem dX0_stroke_103 : decode cX0_stroke 103 = .ok (.if_icmp .ne 6, 3) := dk_160 0 6 (dk_at dksX0_stroke_4 7 rfl rfl)
theorem dX0_stroke_106 : decode cX0_stroke 106 = .ok (.bipush (-4), 2) := dk_16 252 (dk_at dksX0_stroke_4 10 rfl rfl)
theorem dX0_stroke_108 : decode cX0_stroke 108 = .ok (.ireturn, 1) := dk_172 (dk_at dksX0_stroke_4 12 rfl rfl)
theorem dX0_stroke_109 : decode cX0_stroke 109 = .ok (.aload_n 0, 1) := dk_42 (dk_at dksX0_stroke_4 13 rfl rfl)
theorem dX0_stroke_110 : decode cX0_stroke 110 = .ok (.aload 5, 2) := dk_25 5 (dk_at dksX0_stroke_4 14 rfl rfl)
theorem dX0_stroke_112 : decode cX0_stroke 112 = .ok (.aload 5, 2) := dk_25 5 (dk_at dksX0_stroke_4 16 rfl rfl)
theorem dX0_stroke_114 : decode cX0_stroke 114 = .ok (.getfield 195, 3) := dk_180 0 195 (dk_at dksX0_stroke_4 18 rfl rfl)
theorem dX0_stroke_117 : decode cX0_stroke 117 = .ok (.iconst 1, 1) := dk_4 (dk_at dksX0_stroke_4 21 rfl rfl)
theorem dX0_stroke_118 : decode cX0_stroke 118 = .ok (.isub, 1) := dk_100 (dk_at dksX0_stroke_4 22 rfl rfl)
theorem dX0_stroke_119 : decode cX0_stroke 119 = .ok (.aload 5, 2) := dk_25 5 (dk_at dksX0_stroke_5 0 rfl rfl)
theorem dX0_stroke_121 : decode cX0_stroke 121 = .ok (.getfield 264, 3) := dk_180 1 8 (dk_at dksX0_stroke_5 2 rfl rfl)
theorem dX0_stroke_124 : decode cX0_stroke 124 = .ok (.aload 5, 2) := dk_25 5 (dk_at dksX0_stroke_5 5 rfl rfl)
theorem dX0_stroke_126 : decode cX0_stroke 126 = .ok (.getfield 195, 3) := dk_180 0 195 (dk_at dksX0_stroke_5 7 rfl rfl)
theorem dX0_stroke_129 : decode cX0_stroke 129 = .ok (.iconst 1, 1) := dk_4 (dk_at dksX0_stroke_5 10 rfl rfl)
theorem dX0_stroke_130 : decode cX0_stroke 130 = .ok (.isub, 1) := dk_100 (dk_at dksX0_stroke_5 11 rfl rfl)
theorem dX0_stroke_131 : decode cX0_stroke 131 = .ok (.invokestatic 180, 3) := dk_184 0 180 (dk_at dksX0_stroke_5 12 rfl rfl)
theorem dX0_stroke_134 : decode cX0_stroke 134 = .ok (.invokevirtual 313, 3) := dk_182 1 57 (dk_at dksX0_stroke_5 15 rfl rfl)
theorem dX0_stroke_137 : decode cX0_stroke 137 = .ok (.aload 5, 2) := dk_25 5 (dk_at dksX0_stroke_5 18 rfl rfl)
theorem dX0_stroke_139 : decode cX0_stroke 139 = .ok (.getfield 195, 3) := dk_180 0 195 (dk_at dksX0_stroke_5 20 rfl rfl)
theorem dX0_stroke_142 : decode cX0_stroke 142 = .ok (.ireturn, 1) := dk_172 (dk_at dksX0_stroke_5 23 rfl rfl)
abbrev cX0_undo : ByteArray := prog_1_method_22_code
def yX0_undo : MethodName := ⟨RX0, "undo", "()I"⟩
def dkwX0_undo_1 : List UInt8 := [181, 1, 37, 50, 4, 182, 1, 47, 42, 180, 1, 37, 172]
abbrev dktX0_undo_1 : List UInt8 := dkwX0_undo_1 ++ []
def dkwX0_undo_0 : List UInt8 := [42, 180, 1, 37, 154, 0, 6, 16, 252, 172, 42, 42, 180, 0, 39, 42, 89, 180, 1, 37, 4, 100, 90]
abbrev dktX0_undo_0 : List UInt8 := dkwX0_undo_0 ++ dktX0_undo_1
theorem dksX0_undo_0 : cX0_undo.data.toList.drop 0 = dktX0_undo_0 := by decide +kernel
theorem dksX0_undo_1 : cX0_undo.data.toList.drop 23 = dktX0_undo_1 := dk_seg dksX0_undo_0 23 rfl rfl
theorem dX0_undo_0 : decode cX0_undo 0 = .ok (.aload_n 0, 1) := dk_42 (dk_at dksX0_undo_0 0 rfl rfl)
theorem dX0_undo_1 : decode cX0_undo 1 = .ok (.getfield 293, 3) := dk_180 1 37 (dk_at dksX0_undo_0 1 rfl rfl)
theorem dX0_undo_4 : decode cX0_undo 4 = .ok (.ifCond .ne 6, 3) := dk_154 0 6 (dk_at dksX0_undo_0 4 rfl rfl)
theorem dX0_undo_7 : decode cX0_undo 7 = .ok (.bipush (-4), 2) := dk_16 252 (dk_at dksX0_undo_0 7 rfl rfl)
theorem dX0_undo_9 : decode cX0_undo 9 = .ok (.ireturn, 1) := dk_172 (dk_at dksX0_undo_0 9 rfl rfl)
theorem dX0_undo_10 : decode cX0_undo 10 = .ok (.aload_n 0, 1) := dk_42 (dk_at dksX0_undo_0 10 rfl rfl)
theorem dX0_undo_11 : decode cX0_undo 11 = .ok (.aload_n 0, 1) := dk_42 (dk_at dksX0_undo_0 11 rfl rfl)
theorem dX0_undo_12 : decode cX0_undo 12 = .ok (.getfield 39, 3) := dk_180 0 39 (dk_at dksX0_undo_0 12 rfl rfl)
theorem dX0_undo_15 : decode cX0_undo 15 = .ok (.aload_n 0, 1) := dk_42 (dk_at dksX0_undo_0 15 rfl rfl)
theorem dX0_undo_16 : decode cX0_undo 16 = .ok (.dup, 1) := dk_89 (dk_at dksX0_undo_0 16 rfl rfl)
theorem dX0_undo_17 : decode cX0_undo 17 = .ok (.getfield 293, 3) := dk_180 1 37 (dk_at dksX0_undo_0 17 rfl rfl)
theorem dX0_undo_20 : decode cX0_undo 20 = .ok (.iconst 1, 1) := dk_4 (dk_at dksX0_undo_0 20 rfl rfl)
theorem dX0_undo_21 : decode cX0_undo 21 = .ok (.isub, 1) := dk_100 (dk_at dksX0_undo_0 21 rfl rfl)
theorem dX0_undo_22 : decode cX0_undo 22 = .ok (.dup_x1, 1) := dk_90 (dk_at dksX0_undo_0 22 rfl rfl)
theorem dX0_undo_23 : decode cX0_undo 23 = .ok (.putfield 293, 3) := dk_181 1 37 (dk_at dksX0_undo_1 0 rfl rfl)
theorem dX0_undo_26 : decode cX0_undo 26 = .ok (.aaload, 1) := dk_50 (dk_at dksX0_undo_1 3 rfl rfl)
theorem dX0_undo_27 : decode cX0_undo 27 = .ok (.iconst 1, 1) := dk_4 (dk_at dksX0_undo_1 4 rfl rfl)
theorem dX0_undo_28 : decode cX0_undo 28 = .ok (.invokevirtual 303, 3) := dk_182 1 47 (dk_at dksX0_undo_1 5 rfl rfl)
theorem dX0_undo_31 : decode cX0_undo 31 = .ok (.aload_n 0, 1) := dk_42 (dk_at dksX0_undo_1 8 rfl rfl)
theorem dX0_undo_32 : decode cX0_undo 32 = .ok (.getfield 293, 3) := dk_180 1 37 (dk_at dksX0_undo_1 9 rfl rfl)
theorem dX0_undo_35 : decode cX0_undo 35 = .ok (.ireturn, 1) := dk_172 (dk_at dksX0_undo_1 12 rfl rfl)
abbrev cX0_redo : ByteArray := prog_1_method_23_code
def yX0_redo : MethodName := ⟨RX0, "redo", "()I"⟩
def dkwX0_redo_1 : List UInt8 := [90, 4, 96, 181, 1, 37, 50, 3, 182, 1, 47, 42, 180, 1, 40, 42, 180, 1, 37, 100, 172]
abbrev dktX0_redo_1 : List UInt8 := dkwX0_redo_1 ++ []
def dkwX0_redo_0 : List UInt8 := [42, 180, 1, 37, 42, 180, 1, 40, 160, 0, 6, 16, 252, 172, 42, 42, 180, 0, 39, 42, 89, 180, 1, 37]
abbrev dktX0_redo_0 : List UInt8 := dkwX0_redo_0 ++ dktX0_redo_1
theorem dksX0_redo_0 : cX0_redo.data.toList.drop 0 = dktX0_redo_0 := by decide +kernel
theorem dksX0_redo_1 : cX0_redo.data.toList.drop 24 = dktX0_redo_1 := dk_seg dksX0_redo_0 24 rfl rfl
theorem dX0_redo_0 : decode cX0_redo 0 = .ok (.aload_n 0, 1) := dk_42 (dk_at dksX0_redo_0 0 rfl rfl)
theorem dX0_redo_1 : decode cX0_redo 1 = .ok (.getfield 293, 3) := dk_180 1 37 (dk_at dksX0_redo_0 1 rfl rfl)
theorem dX0_redo_4 : decode cX0_redo 4 = .ok (.aload_n 0, 1) := dk_42 (dk_at dksX0_redo_0 4 rfl rfl)
theorem dX0_redo_5 : decode cX0_redo 5 = .ok (.getfield 296, 3) := dk_180 1 40 (dk_at dksX0_redo_0 5 rfl rfl)
theorem dX0_redo_8 : decode cX0_redo 8 = .ok (.if_icmp .ne 6, 3) := dk_160 0 6 (dk_at dksX0_redo_0 8 rfl rfl)
theorem dX0_redo_11 : decode cX0_redo 11 = .ok (.bipush (-4), 2) := dk_16 252 (dk_at dksX0_redo_0 11 rfl rfl)
theorem dX0_redo_13 : decode cX0_redo 13 = .ok (.ireturn, 1) := dk_172 (dk_at dksX0_redo_0 13 rfl rfl)
theorem dX0_redo_14 : decode cX0_redo 14 = .ok (.aload_n 0, 1) := dk_42 (dk_at dksX0_redo_0 14 rfl rfl)
theorem dX0_redo_15 : decode cX0_redo 15 = .ok (.aload_n 0, 1) := dk_42 (dk_at dksX0_redo_0 15 rfl rfl)
theorem dX0_redo_16 : decode cX0_redo 16 = .ok (.getfield 39, 3) := dk_180 0 39 (dk_at dksX0_redo_0 16 rfl rfl)
theorem dX0_redo_19 : decode cX0_redo 19 = .ok (.aload_n 0, 1) := dk_42 (dk_at dksX0_redo_0 19 rfl rfl)
theorem dX0_redo_20 : decode cX0_redo 20 = .ok (.dup, 1) := dk_89 (dk_at dksX0_redo_0 20 rfl rfl)
theorem dX0_redo_21 : decode cX0_redo 21 = .ok (.getfield 293, 3) := dk_180 1 37 (dk_at dksX0_redo_0 21 rfl rfl)
theorem dX0_redo_24 : decode cX0_redo 24 = .ok (.dup_x1, 1) := dk_90 (dk_at dksX0_redo_1 0 rfl rfl)
theorem dX0_redo_25 : decode cX0_redo 25 = .ok (.iconst 1, 1) := dk_4 (dk_at dksX0_redo_1 1 rfl rfl)
theorem dX0_redo_26 : decode cX0_redo 26 = .ok (.iadd, 1) := dk_96 (dk_at dksX0_redo_1 2 rfl rfl)
theorem dX0_redo_27 : decode cX0_redo 27 = .ok (.putfield 293, 3) := dk_181 1 37 (dk_at dksX0_redo_1 3 rfl rfl)
theorem dX0_redo_30 : decode cX0_redo 30 = .ok (.aaload, 1) := dk_50 (dk_at dksX0_redo_1 6 rfl rfl)
theorem dX0_redo_31 : decode cX0_redo 31 = .ok (.iconst 0, 1) := dk_3 (dk_at dksX0_redo_1 7 rfl rfl)
theorem dX0_redo_32 : decode cX0_redo 32 = .ok (.invokevirtual 303, 3) := dk_182 1 47 (dk_at dksX0_redo_1 8 rfl rfl)
theorem dX0_redo_35 : decode cX0_redo 35 = .ok (.aload_n 0, 1) := dk_42 (dk_at dksX0_redo_1 11 rfl rfl)
theorem dX0_redo_36 : decode cX0_redo 36 = .ok (.getfield 296, 3) := dk_180 1 40 (dk_at dksX0_redo_1 12 rfl rfl)
theorem dX0_redo_39 : decode cX0_redo 39 = .ok (.aload_n 0, 1) := dk_42 (dk_at dksX0_redo_1 15 rfl rfl)
theorem dX0_redo_40 : decode cX0_redo 40 = .ok (.getfield 293, 3) := dk_180 1 37 (dk_at dksX0_redo_1 16 rfl rfl)
theorem dX0_redo_43 : decode cX0_redo 43 = .ok (.isub, 1) := dk_100 (dk_at dksX0_redo_1 19 rfl rfl)
theorem dX0_redo_44 : decode cX0_redo 44 = .ok (.ireturn, 1) := dk_172 (dk_at dksX0_redo_1 20 rfl rfl)
abbrev cX0_digest : ByteArray := prog_1_method_24_code
def yX0_digest : MethodName := ⟨RX0, "digest", "()I"⟩
def dkwX0_digest_6 : List UInt8 := [180, 1, 8, 96, 60, 132, 4, 1, 167, 255, 197, 132, 2, 1, 167, 255, 106, 27, 172]
abbrev dktX0_digest_6 : List UInt8 := dkwX0_digest_6 ++ []
def dkwX0_digest_5 : List UInt8 := [96, 16, 31, 104, 25, 5, 180, 0, 192, 96, 16, 31, 104, 25, 5, 180, 0, 195, 96, 16, 31, 104, 25, 5]
abbrev dktX0_digest_5 : List UInt8 := dkwX0_digest_5 ++ dktX0_digest_6
def dkwX0_digest_4 : List UInt8 := [180, 0, 229, 162, 0, 56, 45, 180, 1, 61, 21, 4, 50, 58, 5, 27, 16, 31, 104, 25, 5, 180, 0, 186]
abbrev dktX0_digest_4 : List UInt8 := dkwX0_digest_4 ++ dktX0_digest_5
def dkwX0_digest_3 : List UInt8 := [180, 0, 242, 21, 4, 51, 184, 0, 246, 96, 60, 132, 4, 1, 167, 255, 195, 3, 54, 4, 21, 4, 45]
abbrev dktX0_digest_3 : List UInt8 := dkwX0_digest_3 ++ dktX0_digest_4
def dkwX0_digest_2 : List UInt8 := [45, 180, 0, 236, 21, 4, 46, 96, 16, 31, 104, 45, 180, 0, 239, 21, 4, 46, 96, 16, 31, 104, 45]
abbrev dktX0_digest_2 : List UInt8 := dkwX0_digest_2 ++ dktX0_digest_3
def dkwX0_digest_1 : List UInt8 := [21, 4, 45, 180, 0, 226, 162, 0, 58, 27, 16, 31, 104, 45, 180, 0, 233, 21, 4, 46, 96, 16, 31, 104]
abbrev dktX0_digest_1 : List UInt8 := dkwX0_digest_1 ++ dktX0_digest_2
def dkwX0_digest_0 : List UInt8 := [16, 7, 60, 3, 61, 28, 42, 180, 0, 198, 162, 0, 148, 42, 180, 0, 21, 28, 50, 78, 3, 54, 4]
abbrev dktX0_digest_0 : List UInt8 := dkwX0_digest_0 ++ dktX0_digest_1
theorem dksX0_digest_0 : cX0_digest.data.toList.drop 0 = dktX0_digest_0 := by decide +kernel
theorem dksX0_digest_1 : cX0_digest.data.toList.drop 23 = dktX0_digest_1 := dk_seg dksX0_digest_0 23 rfl rfl
theorem dksX0_digest_2 : cX0_digest.data.toList.drop 47 = dktX0_digest_2 := dk_seg dksX0_digest_1 24 rfl rfl
theorem dksX0_digest_3 : cX0_digest.data.toList.drop 70 = dktX0_digest_3 := dk_seg dksX0_digest_2 23 rfl rfl
theorem dksX0_digest_4 : cX0_digest.data.toList.drop 93 = dktX0_digest_4 := dk_seg dksX0_digest_3 23 rfl rfl
theorem dksX0_digest_5 : cX0_digest.data.toList.drop 117 = dktX0_digest_5 := dk_seg dksX0_digest_4 24 rfl rfl
theorem dksX0_digest_6 : cX0_digest.data.toList.drop 141 = dktX0_digest_6 := dk_seg dksX0_digest_5 24 rfl rfl
theorem dX0_digest_0 : decode cX0_digest 0 = .ok (.bipush 7, 2) := dk_16 7 (dk_at dksX0_digest_0 0 rfl rfl)
theorem dX0_digest_2 : decode cX0_digest 2 = .ok (.istore_n 1, 1) := dk_60 (dk_at dksX0_digest_0 2 rfl rfl)
theorem dX0_digest_3 : decode cX0_digest 3 = .ok (.iconst 0, 1) := dk_3 (dk_at dksX0_digest_0 3 rfl rfl)
theorem dX0_digest_4 : decode cX0_digest 4 = .ok (.istore_n 2, 1) := dk_61 (dk_at dksX0_digest_0 4 rfl rfl)
theorem dX0_digest_5 : decode cX0_digest 5 = .ok (.iload_n 2, 1) := dk_28 (dk_at dksX0_digest_0 5 rfl rfl)
theorem dX0_digest_6 : decode cX0_digest 6 = .ok (.aload_n 0, 1) := dk_42 (dk_at dksX0_digest_0 6 rfl rfl)
theorem dX0_digest_7 : decode cX0_digest 7 = .ok (.getfield 198, 3) := dk_180 0 198 (dk_at dksX0_digest_0 7 rfl rfl)
theorem dX0_digest_10 : decode cX0_digest 10 = .ok (.if_icmp .ge 148, 3) := dk_162 0 148 (dk_at dksX0_digest_0 10 rfl rfl)
theorem dX0_digest_13 : decode cX0_digest 13 = .ok (.aload_n 0, 1) := dk_42 (dk_at dksX0_digest_0 13 rfl rfl)
theorem dX0_digest_14 : decode cX0_digest 14 = .ok (.getfield 21, 3) := dk_180 0 21 (dk_at dksX0_digest_0 14 rfl rfl)
theorem dX0_digest_17 : decode cX0_digest 17 = .ok (.iload_n 2, 1) := dk_28 (dk_at dksX0_digest_0 17 rfl rfl)
theorem dX0_digest_18 : decode cX0_digest 18 = .ok (.aaload, 1) := dk_50 (dk_at dksX0_digest_0 18 rfl rfl)
theorem dX0_digest_19 : decode cX0_digest 19 = .ok (.astore_n 3, 1) := dk_78 (dk_at dksX0_digest_0 19 rfl rfl)
theorem dX0_digest_20 : decode cX0_digest 20 = .ok (.iconst 0, 1) := dk_3 (dk_at dksX0_digest_0 20 rfl rfl)
theorem dX0_digest_21 : decode cX0_digest 21 = .ok (.istore 4, 2) := dk_54 4 (dk_at dksX0_digest_0 21 rfl rfl)
theorem dX0_digest_23 : decode cX0_digest 23 = .ok (.iload 4, 2) := dk_21 4 (dk_at dksX0_digest_1 0 rfl rfl)
theorem dX0_digest_25 : decode cX0_digest 25 = .ok (.aload_n 3, 1) := dk_45 (dk_at dksX0_digest_1 2 rfl rfl)
theorem dX0_digest_26 : decode cX0_digest 26 = .ok (.getfield 226, 3) := dk_180 0 226 (dk_at dksX0_digest_1 3 rfl rfl)
theorem dX0_digest_29 : decode cX0_digest 29 = .ok (.if_icmp .ge 58, 3) := dk_162 0 58 (dk_at dksX0_digest_1 6 rfl rfl)
theorem dX0_digest_32 : decode cX0_digest 32 = .ok (.iload_n 1, 1) := dk_27 (dk_at dksX0_digest_1 9 rfl rfl)
theorem dX0_digest_33 : decode cX0_digest 33 = .ok (.bipush 31, 2) := dk_16 31 (dk_at dksX0_digest_1 10 rfl rfl)
theorem dX0_digest_35 : decode cX0_digest 35 = .ok (.imul, 1) := dk_104 (dk_at dksX0_digest_1 12 rfl rfl)
theorem dX0_digest_36 : decode cX0_digest 36 = .ok (.aload_n 3, 1) := dk_45 (dk_at dksX0_digest_1 13 rfl rfl)
theorem dX0_digest_37 : decode cX0_digest 37 = .ok (.getfield 233, 3) := dk_180 0 233 (dk_at dksX0_digest_1 14 rfl rfl)
theorem dX0_digest_40 : decode cX0_digest 40 = .ok (.iload 4, 2) := dk_21 4 (dk_at dksX0_digest_1 17 rfl rfl)
theorem dX0_digest_42 : decode cX0_digest 42 = .ok (.iaload, 1) := dk_46 (dk_at dksX0_digest_1 19 rfl rfl)
theorem dX0_digest_43 : decode cX0_digest 43 = .ok (.iadd, 1) := dk_96 (dk_at dksX0_digest_1 20 rfl rfl)
theorem dX0_digest_44 : decode cX0_digest 44 = .ok (.bipush 31, 2) := dk_16 31 (dk_at dksX0_digest_1 21 rfl rfl)
theorem dX0_digest_46 : decode cX0_digest 46 = .ok (.imul, 1) := dk_104 (dk_at dksX0_digest_1 23 rfl rfl)
theorem dX0_digest_47 : decode cX0_digest 47 = .ok (.aload_n 3, 1) := dk_45 (dk_at dksX0_digest_2 0 rfl rfl)
theorem dX0_digest_48 : decode cX0_digest 48 = .ok (.getfield 236, 3) := dk_180 0 236 (dk_at dksX0_digest_2 1 rfl rfl)
theorem dX0_digest_51 : decode cX0_digest 51 = .ok (.iload 4, 2) := dk_21 4 (dk_at dksX0_digest_2 4 rfl rfl)
theorem dX0_digest_53 : decode cX0_digest 53 = .ok (.iaload, 1) := dk_46 (dk_at dksX0_digest_2 6 rfl rfl)
theorem dX0_digest_54 : decode cX0_digest 54 = .ok (.iadd, 1) := dk_96 (dk_at dksX0_digest_2 7 rfl rfl)
theorem dX0_digest_55 : decode cX0_digest 55 = .ok (.bipush 31, 2) := dk_16 31 (dk_at dksX0_digest_2 8 rfl rfl)
theorem dX0_digest_57 : decode cX0_digest 57 = .ok (.imul, 1) := dk_104 (dk_at dksX0_digest_2 10 rfl rfl)
theorem dX0_digest_58 : decode cX0_digest 58 = .ok (.aload_n 3, 1) := dk_45 (dk_at dksX0_digest_2 11 rfl rfl)
theorem dX0_digest_59 : decode cX0_digest 59 = .ok (.getfield 239, 3) := dk_180 0 239 (dk_at dksX0_digest_2 12 rfl rfl)
theorem dX0_digest_62 : decode cX0_digest 62 = .ok (.iload 4, 2) := dk_21 4 (dk_at dksX0_digest_2 15 rfl rfl)
theorem dX0_digest_64 : decode cX0_digest 64 = .ok (.iaload, 1) := dk_46 (dk_at dksX0_digest_2 17 rfl rfl)
theorem dX0_digest_65 : decode cX0_digest 65 = .ok (.iadd, 1) := dk_96 (dk_at dksX0_digest_2 18 rfl rfl)
theorem dX0_digest_66 : decode cX0_digest 66 = .ok (.bipush 31, 2) := dk_16 31 (dk_at dksX0_digest_2 19 rfl rfl)
theorem dX0_digest_68 : decode cX0_digest 68 = .ok (.imul, 1) := dk_104 (dk_at dksX0_digest_2 21 rfl rfl)
theorem dX0_digest_69 : decode cX0_digest 69 = .ok (.aload_n 3, 1) := dk_45 (dk_at dksX0_digest_2 22 rfl rfl)
theorem dX0_digest_70 : decode cX0_digest 70 = .ok (.getfield 242, 3) := dk_180 0 242 (dk_at dksX0_digest_3 0 rfl rfl)
theorem dX0_digest_73 : decode cX0_digest 73 = .ok (.iload 4, 2) := dk_21 4 (dk_at dksX0_digest_3 3 rfl rfl)
theorem dX0_digest_75 : decode cX0_digest 75 = .ok (.baload, 1) := dk_51 (dk_at dksX0_digest_3 5 rfl rfl)
theorem dX0_digest_76 : decode cX0_digest 76 = .ok (.invokestatic 246, 3) := dk_184 0 246 (dk_at dksX0_digest_3 6 rfl rfl)
theorem dX0_digest_79 : decode cX0_digest 79 = .ok (.iadd, 1) := dk_96 (dk_at dksX0_digest_3 9 rfl rfl)
theorem dX0_digest_80 : decode cX0_digest 80 = .ok (.istore_n 1, 1) := dk_60 (dk_at dksX0_digest_3 10 rfl rfl)
theorem dX0_digest_81 : decode cX0_digest 81 = .ok (.iinc 4 1, 3) := dk_132 4 1 (dk_at dksX0_digest_3 11 rfl rfl)
theorem dX0_digest_84 : decode cX0_digest 84 = .ok (.goto (-61), 3) := dk_167 255 195 (dk_at dksX0_digest_3 14 rfl rfl)
theorem dX0_digest_87 : decode cX0_digest 87 = .ok (.iconst 0, 1) := dk_3 (dk_at dksX0_digest_3 17 rfl rfl)
theorem dX0_digest_88 : decode cX0_digest 88 = .ok (.istore 4, 2) := dk_54 4 (dk_at dksX0_digest_3 18 rfl rfl)
theorem dX0_digest_90 : decode cX0_digest 90 = .ok (.iload 4, 2) := dk_21 4 (dk_at dksX0_digest_3 20 rfl rfl)
theorem dX0_digest_92 : decode cX0_digest 92 = .ok (.aload_n 3, 1) := dk_45 (dk_at dksX0_digest_3 22 rfl rfl)
theorem dX0_digest_93 : decode cX0_digest 93 = .ok (.getfield 229, 3) := dk_180 0 229 (dk_at dksX0_digest_4 0 rfl rfl)
theorem dX0_digest_96 : decode cX0_digest 96 = .ok (.if_icmp .ge 56, 3) := dk_162 0 56 (dk_at dksX0_digest_4 3 rfl rfl)
theorem dX0_digest_99 : decode cX0_digest 99 = .ok (.aload_n 3, 1) := dk_45 (dk_at dksX0_digest_4 6 rfl rfl)
theorem dX0_digest_100 : decode cX0_digest 100 = .ok (.getfield 317, 3) := dk_180 1 61 (dk_at dksX0_digest_4 7 rfl rfl)
theorem dX0_digest_103 : decode cX0_digest 103 = .ok (.iload 4, 2) := dk_21 4 (dk_at dksX0_digest_4 10 rfl rfl)
theorem dX0_digest_105 : decode cX0_digest 105 = .ok (.aaload, 1) := dk_50 (dk_at dksX0_digest_4 12 rfl rfl)
theorem dX0_digest_106 : decode cX0_digest 106 = .ok (.astore 5, 2) := dk_58 5 (dk_at dksX0_digest_4 13 rfl rfl)
theorem dX0_digest_108 : decode cX0_digest 108 = .ok (.iload_n 1, 1) := dk_27 (dk_at dksX0_digest_4 15 rfl rfl)
theorem dX0_digest_109 : decode cX0_digest 109 = .ok (.bipush 31, 2) := dk_16 31 (dk_at dksX0_digest_4 16 rfl rfl)
theorem dX0_digest_111 : decode cX0_digest 111 = .ok (.imul, 1) := dk_104 (dk_at dksX0_digest_4 18 rfl rfl)
theorem dX0_digest_112 : decode cX0_digest 112 = .ok (.aload 5, 2) := dk_25 5 (dk_at dksX0_digest_4 19 rfl rfl)
theorem dX0_digest_114 : decode cX0_digest 114 = .ok (.getfield 186, 3) := dk_180 0 186 (dk_at dksX0_digest_4 21 rfl rfl)
theorem dX0_digest_117 : decode cX0_digest 117 = .ok (.iadd, 1) := dk_96 (dk_at dksX0_digest_5 0 rfl rfl)
theorem dX0_digest_118 : decode cX0_digest 118 = .ok (.bipush 31, 2) := dk_16 31 (dk_at dksX0_digest_5 1 rfl rfl)
theorem dX0_digest_120 : decode cX0_digest 120 = .ok (.imul, 1) := dk_104 (dk_at dksX0_digest_5 3 rfl rfl)
theorem dX0_digest_121 : decode cX0_digest 121 = .ok (.aload 5, 2) := dk_25 5 (dk_at dksX0_digest_5 4 rfl rfl)
theorem dX0_digest_123 : decode cX0_digest 123 = .ok (.getfield 192, 3) := dk_180 0 192 (dk_at dksX0_digest_5 6 rfl rfl)
theorem dX0_digest_126 : decode cX0_digest 126 = .ok (.iadd, 1) := dk_96 (dk_at dksX0_digest_5 9 rfl rfl)
theorem dX0_digest_127 : decode cX0_digest 127 = .ok (.bipush 31, 2) := dk_16 31 (dk_at dksX0_digest_5 10 rfl rfl)
theorem dX0_digest_129 : decode cX0_digest 129 = .ok (.imul, 1) := dk_104 (dk_at dksX0_digest_5 12 rfl rfl)
theorem dX0_digest_130 : decode cX0_digest 130 = .ok (.aload 5, 2) := dk_25 5 (dk_at dksX0_digest_5 13 rfl rfl)
theorem dX0_digest_132 : decode cX0_digest 132 = .ok (.getfield 195, 3) := dk_180 0 195 (dk_at dksX0_digest_5 15 rfl rfl)
theorem dX0_digest_135 : decode cX0_digest 135 = .ok (.iadd, 1) := dk_96 (dk_at dksX0_digest_5 18 rfl rfl)
theorem dX0_digest_136 : decode cX0_digest 136 = .ok (.bipush 31, 2) := dk_16 31 (dk_at dksX0_digest_5 19 rfl rfl)
theorem dX0_digest_138 : decode cX0_digest 138 = .ok (.imul, 1) := dk_104 (dk_at dksX0_digest_5 21 rfl rfl)
theorem dX0_digest_139 : decode cX0_digest 139 = .ok (.aload 5, 2) := dk_25 5 (dk_at dksX0_digest_5 22 rfl rfl)
theorem dX0_digest_141 : decode cX0_digest 141 = .ok (.getfield 264, 3) := dk_180 1 8 (dk_at dksX0_digest_6 0 rfl rfl)
theorem dX0_digest_144 : decode cX0_digest 144 = .ok (.iadd, 1) := dk_96 (dk_at dksX0_digest_6 3 rfl rfl)
theorem dX0_digest_145 : decode cX0_digest 145 = .ok (.istore_n 1, 1) := dk_60 (dk_at dksX0_digest_6 4 rfl rfl)
theorem dX0_digest_146 : decode cX0_digest 146 = .ok (.iinc 4 1, 3) := dk_132 4 1 (dk_at dksX0_digest_6 5 rfl rfl)
theorem dX0_digest_149 : decode cX0_digest 149 = .ok (.goto (-59), 3) := dk_167 255 197 (dk_at dksX0_digest_6 8 rfl rfl)
theorem dX0_digest_152 : decode cX0_digest 152 = .ok (.iinc 2 1, 3) := dk_132 2 1 (dk_at dksX0_digest_6 11 rfl rfl)
theorem dX0_digest_155 : decode cX0_digest 155 = .ok (.goto (-150), 3) := dk_167 255 106 (dk_at dksX0_digest_6 14 rfl rfl)
theorem dX0_digest_158 : decode cX0_digest 158 = .ok (.iload_n 1, 1) := dk_27 (dk_at dksX0_digest_6 17 rfl rfl)
theorem dX0_digest_159 : decode cX0_digest 159 = .ok (.ireturn, 1) := dk_172 (dk_at dksX0_digest_6 18 rfl rfl)
abbrev cX0_below : ByteArray := prog_1_method_32_code
def yX0_below : MethodName := ⟨RX0, "below", "(III)I"⟩
def dkwX0_below_2 : List UInt8 := [182, 1, 105, 167, 0, 17, 42, 25, 4, 28, 16, 10, 108, 28, 16, 10, 112, 182, 1, 109, 172]
abbrev dktX0_below_2 : List UInt8 := dkwX0_below_2 ++ []
def dkwX0_below_1 : List UInt8 := [184, 0, 152, 154, 0, 5, 2, 172, 29, 154, 0, 20, 42, 25, 4, 28, 16, 10, 108, 28, 16, 10, 112]
abbrev dktX0_below_1 : List UInt8 := dkwX0_below_1 ++ dktX0_below_2
def dkwX0_below_0 : List UInt8 := [42, 27, 182, 0, 201, 58, 4, 25, 4, 198, 0, 20, 28, 184, 1, 102, 153, 0, 13, 29, 133, 9, 10]
abbrev dktX0_below_0 : List UInt8 := dkwX0_below_0 ++ dktX0_below_1
theorem dksX0_below_0 : cX0_below.data.toList.drop 0 = dktX0_below_0 := by decide +kernel
theorem dksX0_below_1 : cX0_below.data.toList.drop 23 = dktX0_below_1 := dk_seg dksX0_below_0 23 rfl rfl
theorem dksX0_below_2 : cX0_below.data.toList.drop 46 = dktX0_below_2 := dk_seg dksX0_below_1 23 rfl rfl
theorem dX0_below_0 : decode cX0_below 0 = .ok (.aload_n 0, 1) := dk_42 (dk_at dksX0_below_0 0 rfl rfl)
theorem dX0_below_1 : decode cX0_below 1 = .ok (.iload_n 1, 1) := dk_27 (dk_at dksX0_below_0 1 rfl rfl)
theorem dX0_below_2 : decode cX0_below 2 = .ok (.invokevirtual 201, 3) := dk_182 0 201 (dk_at dksX0_below_0 2 rfl rfl)
theorem dX0_below_5 : decode cX0_below 5 = .ok (.astore 4, 2) := dk_58 4 (dk_at dksX0_below_0 5 rfl rfl)
theorem dX0_below_7 : decode cX0_below 7 = .ok (.aload 4, 2) := dk_25 4 (dk_at dksX0_below_0 7 rfl rfl)
theorem dX0_below_9 : decode cX0_below 9 = .ok (.ifnull 20, 3) := dk_198 0 20 (dk_at dksX0_below_0 9 rfl rfl)
theorem dX0_below_12 : decode cX0_below 12 = .ok (.iload_n 2, 1) := dk_28 (dk_at dksX0_below_0 12 rfl rfl)
theorem dX0_below_13 : decode cX0_below 13 = .ok (.invokestatic 358, 3) := dk_184 1 102 (dk_at dksX0_below_0 13 rfl rfl)
theorem dX0_below_16 : decode cX0_below 16 = .ok (.ifCond .eq 13, 3) := dk_153 0 13 (dk_at dksX0_below_0 16 rfl rfl)
theorem dX0_below_19 : decode cX0_below 19 = .ok (.iload_n 3, 1) := dk_29 (dk_at dksX0_below_0 19 rfl rfl)
theorem dX0_below_20 : decode cX0_below 20 = .ok (.i2l, 1) := dk_133 (dk_at dksX0_below_0 20 rfl rfl)
theorem dX0_below_21 : decode cX0_below 21 = .ok (.lconst 0, 1) := dk_9 (dk_at dksX0_below_0 21 rfl rfl)
theorem dX0_below_22 : decode cX0_below 22 = .ok (.lconst 1, 1) := dk_10 (dk_at dksX0_below_0 22 rfl rfl)
theorem dX0_below_23 : decode cX0_below 23 = .ok (.invokestatic 152, 3) := dk_184 0 152 (dk_at dksX0_below_1 0 rfl rfl)
theorem dX0_below_26 : decode cX0_below 26 = .ok (.ifCond .ne 5, 3) := dk_154 0 5 (dk_at dksX0_below_1 3 rfl rfl)
theorem dX0_below_29 : decode cX0_below 29 = .ok (.iconst (-1), 1) := dk_2 (dk_at dksX0_below_1 6 rfl rfl)
theorem dX0_below_30 : decode cX0_below 30 = .ok (.ireturn, 1) := dk_172 (dk_at dksX0_below_1 7 rfl rfl)
theorem dX0_below_31 : decode cX0_below 31 = .ok (.iload_n 3, 1) := dk_29 (dk_at dksX0_below_1 8 rfl rfl)
theorem dX0_below_32 : decode cX0_below 32 = .ok (.ifCond .ne 20, 3) := dk_154 0 20 (dk_at dksX0_below_1 9 rfl rfl)
theorem dX0_below_35 : decode cX0_below 35 = .ok (.aload_n 0, 1) := dk_42 (dk_at dksX0_below_1 12 rfl rfl)
theorem dX0_below_36 : decode cX0_below 36 = .ok (.aload 4, 2) := dk_25 4 (dk_at dksX0_below_1 13 rfl rfl)
theorem dX0_below_38 : decode cX0_below 38 = .ok (.iload_n 2, 1) := dk_28 (dk_at dksX0_below_1 15 rfl rfl)
theorem dX0_below_39 : decode cX0_below 39 = .ok (.bipush 10, 2) := dk_16 10 (dk_at dksX0_below_1 16 rfl rfl)
theorem dX0_below_41 : decode cX0_below 41 = .ok (.idiv, 1) := dk_108 (dk_at dksX0_below_1 18 rfl rfl)
theorem dX0_below_42 : decode cX0_below 42 = .ok (.iload_n 2, 1) := dk_28 (dk_at dksX0_below_1 19 rfl rfl)
theorem dX0_below_43 : decode cX0_below 43 = .ok (.bipush 10, 2) := dk_16 10 (dk_at dksX0_below_1 20 rfl rfl)
theorem dX0_below_45 : decode cX0_below 45 = .ok (.irem, 1) := dk_112 (dk_at dksX0_below_1 22 rfl rfl)
theorem dX0_below_46 : decode cX0_below 46 = .ok (.invokevirtual 361, 3) := dk_182 1 105 (dk_at dksX0_below_2 0 rfl rfl)
theorem dX0_below_49 : decode cX0_below 49 = .ok (.goto 17, 3) := dk_167 0 17 (dk_at dksX0_below_2 3 rfl rfl)
theorem dX0_below_52 : decode cX0_below 52 = .ok (.aload_n 0, 1) := dk_42 (dk_at dksX0_below_2 6 rfl rfl)
theorem dX0_below_53 : decode cX0_below 53 = .ok (.aload 4, 2) := dk_25 4 (dk_at dksX0_below_2 7 rfl rfl)
theorem dX0_below_55 : decode cX0_below 55 = .ok (.iload_n 2, 1) := dk_28 (dk_at dksX0_below_2 9 rfl rfl)
theorem dX0_below_56 : decode cX0_below 56 = .ok (.bipush 10, 2) := dk_16 10 (dk_at dksX0_below_2 10 rfl rfl)
theorem dX0_below_58 : decode cX0_below 58 = .ok (.idiv, 1) := dk_108 (dk_at dksX0_below_2 12 rfl rfl)
theorem dX0_below_59 : decode cX0_below 59 = .ok (.iload_n 2, 1) := dk_28 (dk_at dksX0_below_2 13 rfl rfl)
theorem dX0_below_60 : decode cX0_below 60 = .ok (.bipush 10, 2) := dk_16 10 (dk_at dksX0_below_2 14 rfl rfl)
theorem dX0_below_62 : decode cX0_below 62 = .ok (.irem, 1) := dk_112 (dk_at dksX0_below_2 16 rfl rfl)
theorem dX0_below_63 : decode cX0_below 63 = .ok (.invokevirtual 365, 3) := dk_182 1 109 (dk_at dksX0_below_2 17 rfl rfl)
theorem dX0_below_66 : decode cX0_below 66 = .ok (.ireturn, 1) := dk_172 (dk_at dksX0_below_2 20 rfl rfl)
abbrev cX0_isMark : ByteArray := prog_1_method_30_code
def yX0_isMark : MethodName := ⟨RX0, "isMark", "(I)Z"⟩
def dkwX0_isMark_1 : List UInt8 := [161, 0, 7, 4, 167, 0, 4, 3, 172]
abbrev dktX0_isMark_1 : List UInt8 := dkwX0_isMark_1 ++ []
def dkwX0_isMark_0 : List UInt8 := [26, 155, 0, 30, 26, 16, 10, 108, 133, 9, 20, 1, 100, 184, 0, 152, 153, 0, 15, 26, 16, 10, 112, 4]
abbrev dktX0_isMark_0 : List UInt8 := dkwX0_isMark_0 ++ dktX0_isMark_1
theorem dksX0_isMark_0 : cX0_isMark.data.toList.drop 0 = dktX0_isMark_0 := by decide +kernel
theorem dksX0_isMark_1 : cX0_isMark.data.toList.drop 24 = dktX0_isMark_1 := dk_seg dksX0_isMark_0 24 rfl rfl
theorem dX0_isMark_0 : decode cX0_isMark 0 = .ok (.iload_n 0, 1) := dk_26 (dk_at dksX0_isMark_0 0 rfl rfl)
theorem dX0_isMark_1 : decode cX0_isMark 1 = .ok (.ifCond .lt 30, 3) := dk_155 0 30 (dk_at dksX0_isMark_0 1 rfl rfl)
theorem dX0_isMark_4 : decode cX0_isMark 4 = .ok (.iload_n 0, 1) := dk_26 (dk_at dksX0_isMark_0 4 rfl rfl)
theorem dX0_isMark_5 : decode cX0_isMark 5 = .ok (.bipush 10, 2) := dk_16 10 (dk_at dksX0_isMark_0 5 rfl rfl)
theorem dX0_isMark_7 : decode cX0_isMark 7 = .ok (.idiv, 1) := dk_108 (dk_at dksX0_isMark_0 7 rfl rfl)
theorem dX0_isMark_8 : decode cX0_isMark 8 = .ok (.i2l, 1) := dk_133 (dk_at dksX0_isMark_0 8 rfl rfl)
theorem dX0_isMark_9 : decode cX0_isMark 9 = .ok (.lconst 0, 1) := dk_9 (dk_at dksX0_isMark_0 9 rfl rfl)
theorem dX0_isMark_10 : decode cX0_isMark 10 = .ok (.ldc2_w 356, 3) := dk_20 1 100 (dk_at dksX0_isMark_0 10 rfl rfl)
theorem dX0_isMark_13 : decode cX0_isMark 13 = .ok (.invokestatic 152, 3) := dk_184 0 152 (dk_at dksX0_isMark_0 13 rfl rfl)
theorem dX0_isMark_16 : decode cX0_isMark 16 = .ok (.ifCond .eq 15, 3) := dk_153 0 15 (dk_at dksX0_isMark_0 16 rfl rfl)
theorem dX0_isMark_19 : decode cX0_isMark 19 = .ok (.iload_n 0, 1) := dk_26 (dk_at dksX0_isMark_0 19 rfl rfl)
theorem dX0_isMark_20 : decode cX0_isMark 20 = .ok (.bipush 10, 2) := dk_16 10 (dk_at dksX0_isMark_0 20 rfl rfl)
theorem dX0_isMark_22 : decode cX0_isMark 22 = .ok (.irem, 1) := dk_112 (dk_at dksX0_isMark_0 22 rfl rfl)
theorem dX0_isMark_23 : decode cX0_isMark 23 = .ok (.iconst 1, 1) := dk_4 (dk_at dksX0_isMark_0 23 rfl rfl)
theorem dX0_isMark_24 : decode cX0_isMark 24 = .ok (.if_icmp .lt 7, 3) := dk_161 0 7 (dk_at dksX0_isMark_1 0 rfl rfl)
theorem dX0_isMark_27 : decode cX0_isMark 27 = .ok (.iconst 1, 1) := dk_4 (dk_at dksX0_isMark_1 3 rfl rfl)
theorem dX0_isMark_28 : decode cX0_isMark 28 = .ok (.goto 4, 3) := dk_167 0 4 (dk_at dksX0_isMark_1 4 rfl rfl)
theorem dX0_isMark_31 : decode cX0_isMark 31 = .ok (.iconst 0, 1) := dk_3 (dk_at dksX0_isMark_1 7 rfl rfl)
theorem dX0_isMark_32 : decode cX0_isMark 32 = .ok (.ireturn, 1) := dk_172 (dk_at dksX0_isMark_1 8 rfl rfl)
abbrev cX0_belowOf : ByteArray := prog_1_method_28_code
def yX0_belowOf : MethodName := ⟨RX0, "belowOf", "(LPlatesSing$Shape;II)I"⟩
def dkwX0_belowOf_3 : List UInt8 := [4, 167, 0, 4, 3, 54, 5, 132, 6, 1, 167, 255, 192, 21, 4, 172]
abbrev dktX0_belowOf_3 : List UInt8 := dkwX0_belowOf_3 ++ []
def dkwX0_belowOf_2 : List UInt8 := [156, 0, 7, 4, 167, 0, 4, 3, 21, 5, 160, 0, 6, 167, 0, 18, 132, 4, 1, 21, 5, 154, 0, 7]
abbrev dktX0_belowOf_2 : List UInt8 := dkwX0_belowOf_2 ++ dktX0_belowOf_3
def dkwX0_belowOf_1 : List UInt8 := [163, 0, 61, 42, 180, 0, 47, 21, 6, 47, 9, 148, 153, 0, 43, 42, 180, 0, 47, 21, 6, 47, 9, 148]
abbrev dktX0_belowOf_1 : List UInt8 := dkwX0_belowOf_1 ++ dktX0_belowOf_2
def dkwX0_belowOf_0 : List UInt8 := [42, 43, 28, 29, 182, 1, 97, 3, 54, 4, 3, 54, 5, 4, 54, 6, 21, 6, 42, 180, 1, 65]
abbrev dktX0_belowOf_0 : List UInt8 := dkwX0_belowOf_0 ++ dktX0_belowOf_1
theorem dksX0_belowOf_0 : cX0_belowOf.data.toList.drop 0 = dktX0_belowOf_0 := by decide +kernel
theorem dksX0_belowOf_1 : cX0_belowOf.data.toList.drop 22 = dktX0_belowOf_1 := dk_seg dksX0_belowOf_0 22 rfl rfl
theorem dksX0_belowOf_2 : cX0_belowOf.data.toList.drop 46 = dktX0_belowOf_2 := dk_seg dksX0_belowOf_1 24 rfl rfl
theorem dksX0_belowOf_3 : cX0_belowOf.data.toList.drop 70 = dktX0_belowOf_3 := dk_seg dksX0_belowOf_2 24 rfl rfl
theorem dX0_belowOf_0 : decode cX0_belowOf 0 = .ok (.aload_n 0, 1) := dk_42 (dk_at dksX0_belowOf_0 0 rfl rfl)
theorem dX0_belowOf_1 : decode cX0_belowOf 1 = .ok (.aload_n 1, 1) := dk_43 (dk_at dksX0_belowOf_0 1 rfl rfl)
theorem dX0_belowOf_2 : decode cX0_belowOf 2 = .ok (.iload_n 2, 1) := dk_28 (dk_at dksX0_belowOf_0 2 rfl rfl)
theorem dX0_belowOf_3 : decode cX0_belowOf 3 = .ok (.iload_n 3, 1) := dk_29 (dk_at dksX0_belowOf_0 3 rfl rfl)
theorem dX0_belowOf_4 : decode cX0_belowOf 4 = .ok (.invokevirtual 353, 3) := dk_182 1 97 (dk_at dksX0_belowOf_0 4 rfl rfl)
theorem dX0_belowOf_7 : decode cX0_belowOf 7 = .ok (.iconst 0, 1) := dk_3 (dk_at dksX0_belowOf_0 7 rfl rfl)
theorem dX0_belowOf_8 : decode cX0_belowOf 8 = .ok (.istore 4, 2) := dk_54 4 (dk_at dksX0_belowOf_0 8 rfl rfl)
theorem dX0_belowOf_10 : decode cX0_belowOf 10 = .ok (.iconst 0, 1) := dk_3 (dk_at dksX0_belowOf_0 10 rfl rfl)
theorem dX0_belowOf_11 : decode cX0_belowOf 11 = .ok (.istore 5, 2) := dk_54 5 (dk_at dksX0_belowOf_0 11 rfl rfl)
theorem dX0_belowOf_13 : decode cX0_belowOf 13 = .ok (.iconst 1, 1) := dk_4 (dk_at dksX0_belowOf_0 13 rfl rfl)
theorem dX0_belowOf_14 : decode cX0_belowOf 14 = .ok (.istore 6, 2) := dk_54 6 (dk_at dksX0_belowOf_0 14 rfl rfl)
theorem dX0_belowOf_16 : decode cX0_belowOf 16 = .ok (.iload 6, 2) := dk_21 6 (dk_at dksX0_belowOf_0 16 rfl rfl)
theorem dX0_belowOf_18 : decode cX0_belowOf 18 = .ok (.aload_n 0, 1) := dk_42 (dk_at dksX0_belowOf_0 18 rfl rfl)
theorem dX0_belowOf_19 : decode cX0_belowOf 19 = .ok (.getfield 321, 3) := dk_180 1 65 (dk_at dksX0_belowOf_0 19 rfl rfl)
theorem dX0_belowOf_22 : decode cX0_belowOf 22 = .ok (.if_icmp .gt 61, 3) := dk_163 0 61 (dk_at dksX0_belowOf_1 0 rfl rfl)
theorem dX0_belowOf_25 : decode cX0_belowOf 25 = .ok (.aload_n 0, 1) := dk_42 (dk_at dksX0_belowOf_1 3 rfl rfl)
theorem dX0_belowOf_26 : decode cX0_belowOf 26 = .ok (.getfield 47, 3) := dk_180 0 47 (dk_at dksX0_belowOf_1 4 rfl rfl)
theorem dX0_belowOf_29 : decode cX0_belowOf 29 = .ok (.iload 6, 2) := dk_21 6 (dk_at dksX0_belowOf_1 7 rfl rfl)
theorem dX0_belowOf_31 : decode cX0_belowOf 31 = .ok (.laload, 1) := dk_47 (dk_at dksX0_belowOf_1 9 rfl rfl)
theorem dX0_belowOf_32 : decode cX0_belowOf 32 = .ok (.lconst 0, 1) := dk_9 (dk_at dksX0_belowOf_1 10 rfl rfl)
theorem dX0_belowOf_33 : decode cX0_belowOf 33 = .ok (.lcmp, 1) := dk_148 (dk_at dksX0_belowOf_1 11 rfl rfl)
theorem dX0_belowOf_34 : decode cX0_belowOf 34 = .ok (.ifCond .eq 43, 3) := dk_153 0 43 (dk_at dksX0_belowOf_1 12 rfl rfl)
theorem dX0_belowOf_37 : decode cX0_belowOf 37 = .ok (.aload_n 0, 1) := dk_42 (dk_at dksX0_belowOf_1 15 rfl rfl)
theorem dX0_belowOf_38 : decode cX0_belowOf 38 = .ok (.getfield 47, 3) := dk_180 0 47 (dk_at dksX0_belowOf_1 16 rfl rfl)
theorem dX0_belowOf_41 : decode cX0_belowOf 41 = .ok (.iload 6, 2) := dk_21 6 (dk_at dksX0_belowOf_1 19 rfl rfl)
theorem dX0_belowOf_43 : decode cX0_belowOf 43 = .ok (.laload, 1) := dk_47 (dk_at dksX0_belowOf_1 21 rfl rfl)
theorem dX0_belowOf_44 : decode cX0_belowOf 44 = .ok (.lconst 0, 1) := dk_9 (dk_at dksX0_belowOf_1 22 rfl rfl)
theorem dX0_belowOf_45 : decode cX0_belowOf 45 = .ok (.lcmp, 1) := dk_148 (dk_at dksX0_belowOf_1 23 rfl rfl)
theorem dX0_belowOf_46 : decode cX0_belowOf 46 = .ok (.ifCond .ge 7, 3) := dk_156 0 7 (dk_at dksX0_belowOf_2 0 rfl rfl)
theorem dX0_belowOf_49 : decode cX0_belowOf 49 = .ok (.iconst 1, 1) := dk_4 (dk_at dksX0_belowOf_2 3 rfl rfl)
theorem dX0_belowOf_50 : decode cX0_belowOf 50 = .ok (.goto 4, 3) := dk_167 0 4 (dk_at dksX0_belowOf_2 4 rfl rfl)
theorem dX0_belowOf_53 : decode cX0_belowOf 53 = .ok (.iconst 0, 1) := dk_3 (dk_at dksX0_belowOf_2 7 rfl rfl)
theorem dX0_belowOf_54 : decode cX0_belowOf 54 = .ok (.iload 5, 2) := dk_21 5 (dk_at dksX0_belowOf_2 8 rfl rfl)
theorem dX0_belowOf_56 : decode cX0_belowOf 56 = .ok (.if_icmp .ne 6, 3) := dk_160 0 6 (dk_at dksX0_belowOf_2 10 rfl rfl)
theorem dX0_belowOf_59 : decode cX0_belowOf 59 = .ok (.goto 18, 3) := dk_167 0 18 (dk_at dksX0_belowOf_2 13 rfl rfl)
theorem dX0_belowOf_62 : decode cX0_belowOf 62 = .ok (.iinc 4 1, 3) := dk_132 4 1 (dk_at dksX0_belowOf_2 16 rfl rfl)
theorem dX0_belowOf_65 : decode cX0_belowOf 65 = .ok (.iload 5, 2) := dk_21 5 (dk_at dksX0_belowOf_2 19 rfl rfl)
theorem dX0_belowOf_67 : decode cX0_belowOf 67 = .ok (.ifCond .ne 7, 3) := dk_154 0 7 (dk_at dksX0_belowOf_2 21 rfl rfl)
theorem dX0_belowOf_70 : decode cX0_belowOf 70 = .ok (.iconst 1, 1) := dk_4 (dk_at dksX0_belowOf_3 0 rfl rfl)
theorem dX0_belowOf_71 : decode cX0_belowOf 71 = .ok (.goto 4, 3) := dk_167 0 4 (dk_at dksX0_belowOf_3 1 rfl rfl)
theorem dX0_belowOf_74 : decode cX0_belowOf 74 = .ok (.iconst 0, 1) := dk_3 (dk_at dksX0_belowOf_3 4 rfl rfl)
theorem dX0_belowOf_75 : decode cX0_belowOf 75 = .ok (.istore 5, 2) := dk_54 5 (dk_at dksX0_belowOf_3 5 rfl rfl)
theorem dX0_belowOf_77 : decode cX0_belowOf 77 = .ok (.iinc 6 1, 3) := dk_132 6 1 (dk_at dksX0_belowOf_3 7 rfl rfl)
theorem dX0_belowOf_80 : decode cX0_belowOf 80 = .ok (.goto (-64), 3) := dk_167 255 192 (dk_at dksX0_belowOf_3 10 rfl rfl)
theorem dX0_belowOf_83 : decode cX0_belowOf 83 = .ok (.iload 4, 2) := dk_21 4 (dk_at dksX0_belowOf_3 13 rfl rfl)
theorem dX0_belowOf_85 : decode cX0_belowOf 85 = .ok (.ireturn, 1) := dk_172 (dk_at dksX0_belowOf_3 15 rfl rfl)
abbrev cX0_findSums : ByteArray := prog_1_method_27_code
def yX0_findSums : MethodName := ⟨RX0, "findSums", "(LPlatesSing$Shape;II)V"⟩
def dkwX0_findSums_3 : List UInt8 := [167, 255, 221, 177]
abbrev dktX0_findSums_3 : List UInt8 := dkwX0_findSums_3 ++ []
def dkwX0_findSums_2 : List UInt8 := [42, 180, 0, 47, 21, 4, 184, 1, 94, 92, 47, 42, 21, 4, 21, 4, 182, 1, 86, 97, 80, 132, 4, 1]
abbrev dktX0_findSums_2 : List UInt8 := dkwX0_findSums_2 ++ dktX0_findSums_3
def dkwX0_findSums_1 : List UInt8 := [21, 4, 9, 80, 132, 4, 1, 167, 255, 236, 3, 54, 4, 21, 4, 4, 42, 180, 1, 65, 120, 162, 0, 30]
abbrev dktX0_findSums_1 : List UInt8 := dkwX0_findSums_1 ++ dktX0_findSums_2
def dkwX0_findSums_0 : List UInt8 := [42, 43, 28, 29, 182, 1, 90, 3, 54, 4, 21, 4, 42, 180, 1, 65, 163, 0, 17, 42, 180, 0, 47]
abbrev dktX0_findSums_0 : List UInt8 := dkwX0_findSums_0 ++ dktX0_findSums_1
theorem dksX0_findSums_0 : cX0_findSums.data.toList.drop 0 = dktX0_findSums_0 := by decide +kernel
theorem dksX0_findSums_1 : cX0_findSums.data.toList.drop 23 = dktX0_findSums_1 := dk_seg dksX0_findSums_0 23 rfl rfl
theorem dksX0_findSums_2 : cX0_findSums.data.toList.drop 47 = dktX0_findSums_2 := dk_seg dksX0_findSums_1 24 rfl rfl
theorem dksX0_findSums_3 : cX0_findSums.data.toList.drop 71 = dktX0_findSums_3 := dk_seg dksX0_findSums_2 24 rfl rfl
theorem dX0_findSums_0 : decode cX0_findSums 0 = .ok (.aload_n 0, 1) := dk_42 (dk_at dksX0_findSums_0 0 rfl rfl)
theorem dX0_findSums_1 : decode cX0_findSums 1 = .ok (.aload_n 1, 1) := dk_43 (dk_at dksX0_findSums_0 1 rfl rfl)
theorem dX0_findSums_2 : decode cX0_findSums 2 = .ok (.iload_n 2, 1) := dk_28 (dk_at dksX0_findSums_0 2 rfl rfl)
theorem dX0_findSums_3 : decode cX0_findSums 3 = .ok (.iload_n 3, 1) := dk_29 (dk_at dksX0_findSums_0 3 rfl rfl)
theorem dX0_findSums_4 : decode cX0_findSums 4 = .ok (.invokevirtual 346, 3) := dk_182 1 90 (dk_at dksX0_findSums_0 4 rfl rfl)
theorem dX0_findSums_7 : decode cX0_findSums 7 = .ok (.iconst 0, 1) := dk_3 (dk_at dksX0_findSums_0 7 rfl rfl)
theorem dX0_findSums_8 : decode cX0_findSums 8 = .ok (.istore 4, 2) := dk_54 4 (dk_at dksX0_findSums_0 8 rfl rfl)
theorem dX0_findSums_10 : decode cX0_findSums 10 = .ok (.iload 4, 2) := dk_21 4 (dk_at dksX0_findSums_0 10 rfl rfl)
theorem dX0_findSums_12 : decode cX0_findSums 12 = .ok (.aload_n 0, 1) := dk_42 (dk_at dksX0_findSums_0 12 rfl rfl)
theorem dX0_findSums_13 : decode cX0_findSums 13 = .ok (.getfield 321, 3) := dk_180 1 65 (dk_at dksX0_findSums_0 13 rfl rfl)
theorem dX0_findSums_16 : decode cX0_findSums 16 = .ok (.if_icmp .gt 17, 3) := dk_163 0 17 (dk_at dksX0_findSums_0 16 rfl rfl)
theorem dX0_findSums_19 : decode cX0_findSums 19 = .ok (.aload_n 0, 1) := dk_42 (dk_at dksX0_findSums_0 19 rfl rfl)
theorem dX0_findSums_20 : decode cX0_findSums 20 = .ok (.getfield 47, 3) := dk_180 0 47 (dk_at dksX0_findSums_0 20 rfl rfl)
theorem dX0_findSums_23 : decode cX0_findSums 23 = .ok (.iload 4, 2) := dk_21 4 (dk_at dksX0_findSums_1 0 rfl rfl)
theorem dX0_findSums_25 : decode cX0_findSums 25 = .ok (.lconst 0, 1) := dk_9 (dk_at dksX0_findSums_1 2 rfl rfl)
theorem dX0_findSums_26 : decode cX0_findSums 26 = .ok (.lastore, 1) := dk_80 (dk_at dksX0_findSums_1 3 rfl rfl)
theorem dX0_findSums_27 : decode cX0_findSums 27 = .ok (.iinc 4 1, 3) := dk_132 4 1 (dk_at dksX0_findSums_1 4 rfl rfl)
theorem dX0_findSums_30 : decode cX0_findSums 30 = .ok (.goto (-20), 3) := dk_167 255 236 (dk_at dksX0_findSums_1 7 rfl rfl)
theorem dX0_findSums_33 : decode cX0_findSums 33 = .ok (.iconst 0, 1) := dk_3 (dk_at dksX0_findSums_1 10 rfl rfl)
theorem dX0_findSums_34 : decode cX0_findSums 34 = .ok (.istore 4, 2) := dk_54 4 (dk_at dksX0_findSums_1 11 rfl rfl)
theorem dX0_findSums_36 : decode cX0_findSums 36 = .ok (.iload 4, 2) := dk_21 4 (dk_at dksX0_findSums_1 13 rfl rfl)
theorem dX0_findSums_38 : decode cX0_findSums 38 = .ok (.iconst 1, 1) := dk_4 (dk_at dksX0_findSums_1 15 rfl rfl)
theorem dX0_findSums_39 : decode cX0_findSums 39 = .ok (.aload_n 0, 1) := dk_42 (dk_at dksX0_findSums_1 16 rfl rfl)
theorem dX0_findSums_40 : decode cX0_findSums 40 = .ok (.getfield 321, 3) := dk_180 1 65 (dk_at dksX0_findSums_1 17 rfl rfl)
theorem dX0_findSums_43 : decode cX0_findSums 43 = .ok (.ishl, 1) := dk_120 (dk_at dksX0_findSums_1 20 rfl rfl)
theorem dX0_findSums_44 : decode cX0_findSums 44 = .ok (.if_icmp .ge 30, 3) := dk_162 0 30 (dk_at dksX0_findSums_1 21 rfl rfl)
theorem dX0_findSums_47 : decode cX0_findSums 47 = .ok (.aload_n 0, 1) := dk_42 (dk_at dksX0_findSums_2 0 rfl rfl)
theorem dX0_findSums_48 : decode cX0_findSums 48 = .ok (.getfield 47, 3) := dk_180 0 47 (dk_at dksX0_findSums_2 1 rfl rfl)
theorem dX0_findSums_51 : decode cX0_findSums 51 = .ok (.iload 4, 2) := dk_21 4 (dk_at dksX0_findSums_2 4 rfl rfl)
theorem dX0_findSums_53 : decode cX0_findSums 53 = .ok (.invokestatic 350, 3) := dk_184 1 94 (dk_at dksX0_findSums_2 6 rfl rfl)
theorem dX0_findSums_56 : decode cX0_findSums 56 = .ok (.dup2, 1) := dk_92 (dk_at dksX0_findSums_2 9 rfl rfl)
theorem dX0_findSums_57 : decode cX0_findSums 57 = .ok (.laload, 1) := dk_47 (dk_at dksX0_findSums_2 10 rfl rfl)
theorem dX0_findSums_58 : decode cX0_findSums 58 = .ok (.aload_n 0, 1) := dk_42 (dk_at dksX0_findSums_2 11 rfl rfl)
theorem dX0_findSums_59 : decode cX0_findSums 59 = .ok (.iload 4, 2) := dk_21 4 (dk_at dksX0_findSums_2 12 rfl rfl)
theorem dX0_findSums_61 : decode cX0_findSums 61 = .ok (.iload 4, 2) := dk_21 4 (dk_at dksX0_findSums_2 14 rfl rfl)
theorem dX0_findSums_63 : decode cX0_findSums 63 = .ok (.invokevirtual 342, 3) := dk_182 1 86 (dk_at dksX0_findSums_2 16 rfl rfl)
theorem dX0_findSums_66 : decode cX0_findSums 66 = .ok (.ladd, 1) := dk_97 (dk_at dksX0_findSums_2 19 rfl rfl)
theorem dX0_findSums_67 : decode cX0_findSums 67 = .ok (.lastore, 1) := dk_80 (dk_at dksX0_findSums_2 20 rfl rfl)
theorem dX0_findSums_68 : decode cX0_findSums 68 = .ok (.iinc 4 1, 3) := dk_132 4 1 (dk_at dksX0_findSums_2 21 rfl rfl)
theorem dX0_findSums_71 : decode cX0_findSums 71 = .ok (.goto (-35), 3) := dk_167 255 221 (dk_at dksX0_findSums_3 0 rfl rfl)
theorem dX0_findSums_74 : decode cX0_findSums 74 = .ok (.return_, 1) := dk_177 (dk_at dksX0_findSums_3 3 rfl rfl)
abbrev cX0_findMatrix : ByteArray := prog_1_method_25_code
def yX0_findMatrix : MethodName := ⟨RX0, "findMatrix", "(LPlatesSing$Shape;II)V"⟩
def dkwX0_findMatrix_9 : List UInt8 := [21, 7, 46, 182, 1, 78, 133, 105, 80, 132, 7, 1, 167, 255, 178, 132, 5, 1, 167, 255, 91, 177]
abbrev dktX0_findMatrix_9 : List UInt8 := dkwX0_findMatrix_9 ++ []
def dkwX0_findMatrix_8 : List UInt8 := [182, 1, 74, 133, 105, 101, 167, 0, 26, 29, 133, 117, 43, 42, 180, 0, 50, 21, 5, 46, 42, 180, 0, 50]
abbrev dktX0_findMatrix_8 : List UInt8 := dkwX0_findMatrix_8 ++ dktX0_findMatrix_9
def dkwX0_findMatrix_7 : List UInt8 := [96, 21, 5, 21, 7, 160, 0, 28, 29, 133, 21, 6, 133, 105, 28, 133, 43, 42, 180, 0, 50, 21, 5, 46]
abbrev dktX0_findMatrix_7 : List UInt8 := dkwX0_findMatrix_7 ++ dktX0_findMatrix_8
def dkwX0_findMatrix_6 : List UInt8 := [167, 255, 205, 3, 54, 7, 21, 7, 21, 4, 162, 0, 77, 42, 180, 0, 43, 16, 6, 21, 5, 104, 21, 7]
abbrev dktX0_findMatrix_6 : List UInt8 := dkwX0_findMatrix_6 ++ dktX0_findMatrix_7
def dkwX0_findMatrix_5 : List UInt8 := [153, 0, 16, 43, 180, 1, 61, 21, 7, 50, 182, 1, 71, 167, 0, 4, 3, 96, 54, 6, 132, 7, 1]
abbrev dktX0_findMatrix_5 : List UInt8 := dkwX0_findMatrix_5 ++ dktX0_findMatrix_6
def dkwX0_findMatrix_4 : List UInt8 := [162, 0, 48, 21, 6, 43, 180, 1, 61, 21, 7, 50, 42, 180, 0, 50, 21, 5, 46, 182, 1, 68]
abbrev dktX0_findMatrix_4 : List UInt8 := dkwX0_findMatrix_4 ++ dktX0_findMatrix_5
def dkwX0_findMatrix_3 : List UInt8 := [180, 0, 236, 42, 180, 0, 50, 21, 5, 46, 46, 54, 6, 3, 54, 7, 21, 7, 43, 180, 0, 229]
abbrev dktX0_findMatrix_3 : List UInt8 := dkwX0_findMatrix_3 ++ dktX0_findMatrix_4
def dkwX0_findMatrix_2 : List UInt8 := [132, 5, 1, 167, 255, 213, 42, 21, 4, 181, 1, 65, 3, 54, 5, 21, 5, 21, 4, 162, 0, 164, 43]
abbrev dktX0_findMatrix_2 : List UInt8 := dkwX0_findMatrix_2 ++ dktX0_findMatrix_3
def dkwX0_findMatrix_1 : List UInt8 := [154, 0, 24, 21, 5, 42, 180, 0, 53, 159, 0, 15, 42, 180, 0, 50, 21, 4, 132, 4, 1, 21, 5, 79]
abbrev dktX0_findMatrix_1 : List UInt8 := dkwX0_findMatrix_1 ++ dktX0_findMatrix_2
def dkwX0_findMatrix_0 : List UInt8 := [3, 54, 4, 3, 54, 5, 21, 5, 43, 180, 0, 226, 162, 0, 40, 43, 180, 0, 242, 21, 5, 51]
abbrev dktX0_findMatrix_0 : List UInt8 := dkwX0_findMatrix_0 ++ dktX0_findMatrix_1
theorem dksX0_findMatrix_0 : cX0_findMatrix.data.toList.drop 0 = dktX0_findMatrix_0 := by decide +kernel
theorem dksX0_findMatrix_1 : cX0_findMatrix.data.toList.drop 22 = dktX0_findMatrix_1 := dk_seg dksX0_findMatrix_0 22 rfl rfl
theorem dksX0_findMatrix_2 : cX0_findMatrix.data.toList.drop 46 = dktX0_findMatrix_2 := dk_seg dksX0_findMatrix_1 24 rfl rfl
theorem dksX0_findMatrix_3 : cX0_findMatrix.data.toList.drop 69 = dktX0_findMatrix_3 := dk_seg dksX0_findMatrix_2 23 rfl rfl
theorem dksX0_findMatrix_4 : cX0_findMatrix.data.toList.drop 91 = dktX0_findMatrix_4 := dk_seg dksX0_findMatrix_3 22 rfl rfl
theorem dksX0_findMatrix_5 : cX0_findMatrix.data.toList.drop 113 = dktX0_findMatrix_5 := dk_seg dksX0_findMatrix_4 22 rfl rfl
theorem dksX0_findMatrix_6 : cX0_findMatrix.data.toList.drop 136 = dktX0_findMatrix_6 := dk_seg dksX0_findMatrix_5 23 rfl rfl
theorem dksX0_findMatrix_7 : cX0_findMatrix.data.toList.drop 160 = dktX0_findMatrix_7 := dk_seg dksX0_findMatrix_6 24 rfl rfl
theorem dksX0_findMatrix_8 : cX0_findMatrix.data.toList.drop 184 = dktX0_findMatrix_8 := dk_seg dksX0_findMatrix_7 24 rfl rfl
theorem dksX0_findMatrix_9 : cX0_findMatrix.data.toList.drop 208 = dktX0_findMatrix_9 := dk_seg dksX0_findMatrix_8 24 rfl rfl
theorem dX0_findMatrix_0 : decode cX0_findMatrix 0 = .ok (.iconst 0, 1) := dk_3 (dk_at dksX0_findMatrix_0 0 rfl rfl)
theorem dX0_findMatrix_1 : decode cX0_findMatrix 1 = .ok (.istore 4, 2) := dk_54 4 (dk_at dksX0_findMatrix_0 1 rfl rfl)
theorem dX0_findMatrix_3 : decode cX0_findMatrix 3 = .ok (.iconst 0, 1) := dk_3 (dk_at dksX0_findMatrix_0 3 rfl rfl)
theorem dX0_findMatrix_4 : decode cX0_findMatrix 4 = .ok (.istore 5, 2) := dk_54 5 (dk_at dksX0_findMatrix_0 4 rfl rfl)
theorem dX0_findMatrix_6 : decode cX0_findMatrix 6 = .ok (.iload 5, 2) := dk_21 5 (dk_at dksX0_findMatrix_0 6 rfl rfl)
theorem dX0_findMatrix_8 : decode cX0_findMatrix 8 = .ok (.aload_n 1, 1) := dk_43 (dk_at dksX0_findMatrix_0 8 rfl rfl)
theorem dX0_findMatrix_9 : decode cX0_findMatrix 9 = .ok (.getfield 226, 3) := dk_180 0 226 (dk_at dksX0_findMatrix_0 9 rfl rfl)
theorem dX0_findMatrix_12 : decode cX0_findMatrix 12 = .ok (.if_icmp .ge 40, 3) := dk_162 0 40 (dk_at dksX0_findMatrix_0 12 rfl rfl)
theorem dX0_findMatrix_15 : decode cX0_findMatrix 15 = .ok (.aload_n 1, 1) := dk_43 (dk_at dksX0_findMatrix_0 15 rfl rfl)
theorem dX0_findMatrix_16 : decode cX0_findMatrix 16 = .ok (.getfield 242, 3) := dk_180 0 242 (dk_at dksX0_findMatrix_0 16 rfl rfl)
theorem dX0_findMatrix_19 : decode cX0_findMatrix 19 = .ok (.iload 5, 2) := dk_21 5 (dk_at dksX0_findMatrix_0 19 rfl rfl)
theorem dX0_findMatrix_21 : decode cX0_findMatrix 21 = .ok (.baload, 1) := dk_51 (dk_at dksX0_findMatrix_0 21 rfl rfl)
theorem dX0_findMatrix_22 : decode cX0_findMatrix 22 = .ok (.ifCond .ne 24, 3) := dk_154 0 24 (dk_at dksX0_findMatrix_1 0 rfl rfl)
theorem dX0_findMatrix_25 : decode cX0_findMatrix 25 = .ok (.iload 5, 2) := dk_21 5 (dk_at dksX0_findMatrix_1 3 rfl rfl)
theorem dX0_findMatrix_27 : decode cX0_findMatrix 27 = .ok (.aload_n 0, 1) := dk_42 (dk_at dksX0_findMatrix_1 5 rfl rfl)
theorem dX0_findMatrix_28 : decode cX0_findMatrix 28 = .ok (.getfield 53, 3) := dk_180 0 53 (dk_at dksX0_findMatrix_1 6 rfl rfl)
theorem dX0_findMatrix_31 : decode cX0_findMatrix 31 = .ok (.if_icmp .eq 15, 3) := dk_159 0 15 (dk_at dksX0_findMatrix_1 9 rfl rfl)
theorem dX0_findMatrix_34 : decode cX0_findMatrix 34 = .ok (.aload_n 0, 1) := dk_42 (dk_at dksX0_findMatrix_1 12 rfl rfl)
theorem dX0_findMatrix_35 : decode cX0_findMatrix 35 = .ok (.getfield 50, 3) := dk_180 0 50 (dk_at dksX0_findMatrix_1 13 rfl rfl)
theorem dX0_findMatrix_38 : decode cX0_findMatrix 38 = .ok (.iload 4, 2) := dk_21 4 (dk_at dksX0_findMatrix_1 16 rfl rfl)
theorem dX0_findMatrix_40 : decode cX0_findMatrix 40 = .ok (.iinc 4 1, 3) := dk_132 4 1 (dk_at dksX0_findMatrix_1 18 rfl rfl)
theorem dX0_findMatrix_43 : decode cX0_findMatrix 43 = .ok (.iload 5, 2) := dk_21 5 (dk_at dksX0_findMatrix_1 21 rfl rfl)
theorem dX0_findMatrix_45 : decode cX0_findMatrix 45 = .ok (.iastore, 1) := dk_79 (dk_at dksX0_findMatrix_1 23 rfl rfl)
theorem dX0_findMatrix_46 : decode cX0_findMatrix 46 = .ok (.iinc 5 1, 3) := dk_132 5 1 (dk_at dksX0_findMatrix_2 0 rfl rfl)
theorem dX0_findMatrix_49 : decode cX0_findMatrix 49 = .ok (.goto (-43), 3) := dk_167 255 213 (dk_at dksX0_findMatrix_2 3 rfl rfl)
theorem dX0_findMatrix_52 : decode cX0_findMatrix 52 = .ok (.aload_n 0, 1) := dk_42 (dk_at dksX0_findMatrix_2 6 rfl rfl)
theorem dX0_findMatrix_53 : decode cX0_findMatrix 53 = .ok (.iload 4, 2) := dk_21 4 (dk_at dksX0_findMatrix_2 7 rfl rfl)
theorem dX0_findMatrix_55 : decode cX0_findMatrix 55 = .ok (.putfield 321, 3) := dk_181 1 65 (dk_at dksX0_findMatrix_2 9 rfl rfl)
theorem dX0_findMatrix_58 : decode cX0_findMatrix 58 = .ok (.iconst 0, 1) := dk_3 (dk_at dksX0_findMatrix_2 12 rfl rfl)
theorem dX0_findMatrix_59 : decode cX0_findMatrix 59 = .ok (.istore 5, 2) := dk_54 5 (dk_at dksX0_findMatrix_2 13 rfl rfl)
theorem dX0_findMatrix_61 : decode cX0_findMatrix 61 = .ok (.iload 5, 2) := dk_21 5 (dk_at dksX0_findMatrix_2 15 rfl rfl)
theorem dX0_findMatrix_63 : decode cX0_findMatrix 63 = .ok (.iload 4, 2) := dk_21 4 (dk_at dksX0_findMatrix_2 17 rfl rfl)
theorem dX0_findMatrix_65 : decode cX0_findMatrix 65 = .ok (.if_icmp .ge 164, 3) := dk_162 0 164 (dk_at dksX0_findMatrix_2 19 rfl rfl)
theorem dX0_findMatrix_68 : decode cX0_findMatrix 68 = .ok (.aload_n 1, 1) := dk_43 (dk_at dksX0_findMatrix_2 22 rfl rfl)
theorem dX0_findMatrix_69 : decode cX0_findMatrix 69 = .ok (.getfield 236, 3) := dk_180 0 236 (dk_at dksX0_findMatrix_3 0 rfl rfl)
theorem dX0_findMatrix_72 : decode cX0_findMatrix 72 = .ok (.aload_n 0, 1) := dk_42 (dk_at dksX0_findMatrix_3 3 rfl rfl)
theorem dX0_findMatrix_73 : decode cX0_findMatrix 73 = .ok (.getfield 50, 3) := dk_180 0 50 (dk_at dksX0_findMatrix_3 4 rfl rfl)
theorem dX0_findMatrix_76 : decode cX0_findMatrix 76 = .ok (.iload 5, 2) := dk_21 5 (dk_at dksX0_findMatrix_3 7 rfl rfl)
theorem dX0_findMatrix_78 : decode cX0_findMatrix 78 = .ok (.iaload, 1) := dk_46 (dk_at dksX0_findMatrix_3 9 rfl rfl)
theorem dX0_findMatrix_79 : decode cX0_findMatrix 79 = .ok (.iaload, 1) := dk_46 (dk_at dksX0_findMatrix_3 10 rfl rfl)
theorem dX0_findMatrix_80 : decode cX0_findMatrix 80 = .ok (.istore 6, 2) := dk_54 6 (dk_at dksX0_findMatrix_3 11 rfl rfl)
theorem dX0_findMatrix_82 : decode cX0_findMatrix 82 = .ok (.iconst 0, 1) := dk_3 (dk_at dksX0_findMatrix_3 13 rfl rfl)
theorem dX0_findMatrix_83 : decode cX0_findMatrix 83 = .ok (.istore 7, 2) := dk_54 7 (dk_at dksX0_findMatrix_3 14 rfl rfl)
theorem dX0_findMatrix_85 : decode cX0_findMatrix 85 = .ok (.iload 7, 2) := dk_21 7 (dk_at dksX0_findMatrix_3 16 rfl rfl)
theorem dX0_findMatrix_87 : decode cX0_findMatrix 87 = .ok (.aload_n 1, 1) := dk_43 (dk_at dksX0_findMatrix_3 18 rfl rfl)
theorem dX0_findMatrix_88 : decode cX0_findMatrix 88 = .ok (.getfield 229, 3) := dk_180 0 229 (dk_at dksX0_findMatrix_3 19 rfl rfl)
theorem dX0_findMatrix_91 : decode cX0_findMatrix 91 = .ok (.if_icmp .ge 48, 3) := dk_162 0 48 (dk_at dksX0_findMatrix_4 0 rfl rfl)
theorem dX0_findMatrix_94 : decode cX0_findMatrix 94 = .ok (.iload 6, 2) := dk_21 6 (dk_at dksX0_findMatrix_4 3 rfl rfl)
theorem dX0_findMatrix_96 : decode cX0_findMatrix 96 = .ok (.aload_n 1, 1) := dk_43 (dk_at dksX0_findMatrix_4 5 rfl rfl)
theorem dX0_findMatrix_97 : decode cX0_findMatrix 97 = .ok (.getfield 317, 3) := dk_180 1 61 (dk_at dksX0_findMatrix_4 6 rfl rfl)
theorem dX0_findMatrix_100 : decode cX0_findMatrix 100 = .ok (.iload 7, 2) := dk_21 7 (dk_at dksX0_findMatrix_4 9 rfl rfl)
theorem dX0_findMatrix_102 : decode cX0_findMatrix 102 = .ok (.aaload, 1) := dk_50 (dk_at dksX0_findMatrix_4 11 rfl rfl)
theorem dX0_findMatrix_103 : decode cX0_findMatrix 103 = .ok (.aload_n 0, 1) := dk_42 (dk_at dksX0_findMatrix_4 12 rfl rfl)
theorem dX0_findMatrix_104 : decode cX0_findMatrix 104 = .ok (.getfield 50, 3) := dk_180 0 50 (dk_at dksX0_findMatrix_4 13 rfl rfl)
theorem dX0_findMatrix_107 : decode cX0_findMatrix 107 = .ok (.iload 5, 2) := dk_21 5 (dk_at dksX0_findMatrix_4 16 rfl rfl)
theorem dX0_findMatrix_109 : decode cX0_findMatrix 109 = .ok (.iaload, 1) := dk_46 (dk_at dksX0_findMatrix_4 18 rfl rfl)
theorem dX0_findMatrix_110 : decode cX0_findMatrix 110 = .ok (.invokevirtual 324, 3) := dk_182 1 68 (dk_at dksX0_findMatrix_4 19 rfl rfl)
theorem dX0_findMatrix_113 : decode cX0_findMatrix 113 = .ok (.ifCond .eq 16, 3) := dk_153 0 16 (dk_at dksX0_findMatrix_5 0 rfl rfl)
theorem dX0_findMatrix_116 : decode cX0_findMatrix 116 = .ok (.aload_n 1, 1) := dk_43 (dk_at dksX0_findMatrix_5 3 rfl rfl)
theorem dX0_findMatrix_117 : decode cX0_findMatrix 117 = .ok (.getfield 317, 3) := dk_180 1 61 (dk_at dksX0_findMatrix_5 4 rfl rfl)
theorem dX0_findMatrix_120 : decode cX0_findMatrix 120 = .ok (.iload 7, 2) := dk_21 7 (dk_at dksX0_findMatrix_5 7 rfl rfl)
theorem dX0_findMatrix_122 : decode cX0_findMatrix 122 = .ok (.aaload, 1) := dk_50 (dk_at dksX0_findMatrix_5 9 rfl rfl)
theorem dX0_findMatrix_123 : decode cX0_findMatrix 123 = .ok (.invokevirtual 327, 3) := dk_182 1 71 (dk_at dksX0_findMatrix_5 10 rfl rfl)
theorem dX0_findMatrix_126 : decode cX0_findMatrix 126 = .ok (.goto 4, 3) := dk_167 0 4 (dk_at dksX0_findMatrix_5 13 rfl rfl)
theorem dX0_findMatrix_129 : decode cX0_findMatrix 129 = .ok (.iconst 0, 1) := dk_3 (dk_at dksX0_findMatrix_5 16 rfl rfl)
theorem dX0_findMatrix_130 : decode cX0_findMatrix 130 = .ok (.iadd, 1) := dk_96 (dk_at dksX0_findMatrix_5 17 rfl rfl)
theorem dX0_findMatrix_131 : decode cX0_findMatrix 131 = .ok (.istore 6, 2) := dk_54 6 (dk_at dksX0_findMatrix_5 18 rfl rfl)
theorem dX0_findMatrix_133 : decode cX0_findMatrix 133 = .ok (.iinc 7 1, 3) := dk_132 7 1 (dk_at dksX0_findMatrix_5 20 rfl rfl)
theorem dX0_findMatrix_136 : decode cX0_findMatrix 136 = .ok (.goto (-51), 3) := dk_167 255 205 (dk_at dksX0_findMatrix_6 0 rfl rfl)
theorem dX0_findMatrix_139 : decode cX0_findMatrix 139 = .ok (.iconst 0, 1) := dk_3 (dk_at dksX0_findMatrix_6 3 rfl rfl)
theorem dX0_findMatrix_140 : decode cX0_findMatrix 140 = .ok (.istore 7, 2) := dk_54 7 (dk_at dksX0_findMatrix_6 4 rfl rfl)
theorem dX0_findMatrix_142 : decode cX0_findMatrix 142 = .ok (.iload 7, 2) := dk_21 7 (dk_at dksX0_findMatrix_6 6 rfl rfl)
theorem dX0_findMatrix_144 : decode cX0_findMatrix 144 = .ok (.iload 4, 2) := dk_21 4 (dk_at dksX0_findMatrix_6 8 rfl rfl)
theorem dX0_findMatrix_146 : decode cX0_findMatrix 146 = .ok (.if_icmp .ge 77, 3) := dk_162 0 77 (dk_at dksX0_findMatrix_6 10 rfl rfl)
theorem dX0_findMatrix_149 : decode cX0_findMatrix 149 = .ok (.aload_n 0, 1) := dk_42 (dk_at dksX0_findMatrix_6 13 rfl rfl)
theorem dX0_findMatrix_150 : decode cX0_findMatrix 150 = .ok (.getfield 43, 3) := dk_180 0 43 (dk_at dksX0_findMatrix_6 14 rfl rfl)
theorem dX0_findMatrix_153 : decode cX0_findMatrix 153 = .ok (.bipush 6, 2) := dk_16 6 (dk_at dksX0_findMatrix_6 17 rfl rfl)
theorem dX0_findMatrix_155 : decode cX0_findMatrix 155 = .ok (.iload 5, 2) := dk_21 5 (dk_at dksX0_findMatrix_6 19 rfl rfl)
theorem dX0_findMatrix_157 : decode cX0_findMatrix 157 = .ok (.imul, 1) := dk_104 (dk_at dksX0_findMatrix_6 21 rfl rfl)
theorem dX0_findMatrix_158 : decode cX0_findMatrix 158 = .ok (.iload 7, 2) := dk_21 7 (dk_at dksX0_findMatrix_6 22 rfl rfl)
theorem dX0_findMatrix_160 : decode cX0_findMatrix 160 = .ok (.iadd, 1) := dk_96 (dk_at dksX0_findMatrix_7 0 rfl rfl)
theorem dX0_findMatrix_161 : decode cX0_findMatrix 161 = .ok (.iload 5, 2) := dk_21 5 (dk_at dksX0_findMatrix_7 1 rfl rfl)
theorem dX0_findMatrix_163 : decode cX0_findMatrix 163 = .ok (.iload 7, 2) := dk_21 7 (dk_at dksX0_findMatrix_7 3 rfl rfl)
theorem dX0_findMatrix_165 : decode cX0_findMatrix 165 = .ok (.if_icmp .ne 28, 3) := dk_160 0 28 (dk_at dksX0_findMatrix_7 5 rfl rfl)
theorem dX0_findMatrix_168 : decode cX0_findMatrix 168 = .ok (.iload_n 3, 1) := dk_29 (dk_at dksX0_findMatrix_7 8 rfl rfl)
theorem dX0_findMatrix_169 : decode cX0_findMatrix 169 = .ok (.i2l, 1) := dk_133 (dk_at dksX0_findMatrix_7 9 rfl rfl)
theorem dX0_findMatrix_170 : decode cX0_findMatrix 170 = .ok (.iload 6, 2) := dk_21 6 (dk_at dksX0_findMatrix_7 10 rfl rfl)
theorem dX0_findMatrix_172 : decode cX0_findMatrix 172 = .ok (.i2l, 1) := dk_133 (dk_at dksX0_findMatrix_7 12 rfl rfl)
theorem dX0_findMatrix_173 : decode cX0_findMatrix 173 = .ok (.lmul, 1) := dk_105 (dk_at dksX0_findMatrix_7 13 rfl rfl)
theorem dX0_findMatrix_174 : decode cX0_findMatrix 174 = .ok (.iload_n 2, 1) := dk_28 (dk_at dksX0_findMatrix_7 14 rfl rfl)
theorem dX0_findMatrix_175 : decode cX0_findMatrix 175 = .ok (.i2l, 1) := dk_133 (dk_at dksX0_findMatrix_7 15 rfl rfl)
theorem dX0_findMatrix_176 : decode cX0_findMatrix 176 = .ok (.aload_n 1, 1) := dk_43 (dk_at dksX0_findMatrix_7 16 rfl rfl)
theorem dX0_findMatrix_177 : decode cX0_findMatrix 177 = .ok (.aload_n 0, 1) := dk_42 (dk_at dksX0_findMatrix_7 17 rfl rfl)
theorem dX0_findMatrix_178 : decode cX0_findMatrix 178 = .ok (.getfield 50, 3) := dk_180 0 50 (dk_at dksX0_findMatrix_7 18 rfl rfl)
theorem dX0_findMatrix_181 : decode cX0_findMatrix 181 = .ok (.iload 5, 2) := dk_21 5 (dk_at dksX0_findMatrix_7 21 rfl rfl)
theorem dX0_findMatrix_183 : decode cX0_findMatrix 183 = .ok (.iaload, 1) := dk_46 (dk_at dksX0_findMatrix_7 23 rfl rfl)
theorem dX0_findMatrix_184 : decode cX0_findMatrix 184 = .ok (.invokevirtual 330, 3) := dk_182 1 74 (dk_at dksX0_findMatrix_8 0 rfl rfl)
theorem dX0_findMatrix_187 : decode cX0_findMatrix 187 = .ok (.i2l, 1) := dk_133 (dk_at dksX0_findMatrix_8 3 rfl rfl)
theorem dX0_findMatrix_188 : decode cX0_findMatrix 188 = .ok (.lmul, 1) := dk_105 (dk_at dksX0_findMatrix_8 4 rfl rfl)
theorem dX0_findMatrix_189 : decode cX0_findMatrix 189 = .ok (.lsub, 1) := dk_101 (dk_at dksX0_findMatrix_8 5 rfl rfl)
theorem dX0_findMatrix_190 : decode cX0_findMatrix 190 = .ok (.goto 26, 3) := dk_167 0 26 (dk_at dksX0_findMatrix_8 6 rfl rfl)
theorem dX0_findMatrix_193 : decode cX0_findMatrix 193 = .ok (.iload_n 3, 1) := dk_29 (dk_at dksX0_findMatrix_8 9 rfl rfl)
theorem dX0_findMatrix_194 : decode cX0_findMatrix 194 = .ok (.i2l, 1) := dk_133 (dk_at dksX0_findMatrix_8 10 rfl rfl)
theorem dX0_findMatrix_195 : decode cX0_findMatrix 195 = .ok (.lneg, 1) := dk_117 (dk_at dksX0_findMatrix_8 11 rfl rfl)
theorem dX0_findMatrix_196 : decode cX0_findMatrix 196 = .ok (.aload_n 1, 1) := dk_43 (dk_at dksX0_findMatrix_8 12 rfl rfl)
theorem dX0_findMatrix_197 : decode cX0_findMatrix 197 = .ok (.aload_n 0, 1) := dk_42 (dk_at dksX0_findMatrix_8 13 rfl rfl)
theorem dX0_findMatrix_198 : decode cX0_findMatrix 198 = .ok (.getfield 50, 3) := dk_180 0 50 (dk_at dksX0_findMatrix_8 14 rfl rfl)
theorem dX0_findMatrix_201 : decode cX0_findMatrix 201 = .ok (.iload 5, 2) := dk_21 5 (dk_at dksX0_findMatrix_8 17 rfl rfl)
theorem dX0_findMatrix_203 : decode cX0_findMatrix 203 = .ok (.iaload, 1) := dk_46 (dk_at dksX0_findMatrix_8 19 rfl rfl)
theorem dX0_findMatrix_204 : decode cX0_findMatrix 204 = .ok (.aload_n 0, 1) := dk_42 (dk_at dksX0_findMatrix_8 20 rfl rfl)
theorem dX0_findMatrix_205 : decode cX0_findMatrix 205 = .ok (.getfield 50, 3) := dk_180 0 50 (dk_at dksX0_findMatrix_8 21 rfl rfl)
theorem dX0_findMatrix_208 : decode cX0_findMatrix 208 = .ok (.iload 7, 2) := dk_21 7 (dk_at dksX0_findMatrix_9 0 rfl rfl)
theorem dX0_findMatrix_210 : decode cX0_findMatrix 210 = .ok (.iaload, 1) := dk_46 (dk_at dksX0_findMatrix_9 2 rfl rfl)
theorem dX0_findMatrix_211 : decode cX0_findMatrix 211 = .ok (.invokevirtual 334, 3) := dk_182 1 78 (dk_at dksX0_findMatrix_9 3 rfl rfl)
theorem dX0_findMatrix_214 : decode cX0_findMatrix 214 = .ok (.i2l, 1) := dk_133 (dk_at dksX0_findMatrix_9 6 rfl rfl)
theorem dX0_findMatrix_215 : decode cX0_findMatrix 215 = .ok (.lmul, 1) := dk_105 (dk_at dksX0_findMatrix_9 7 rfl rfl)
theorem dX0_findMatrix_216 : decode cX0_findMatrix 216 = .ok (.lastore, 1) := dk_80 (dk_at dksX0_findMatrix_9 8 rfl rfl)
theorem dX0_findMatrix_217 : decode cX0_findMatrix 217 = .ok (.iinc 7 1, 3) := dk_132 7 1 (dk_at dksX0_findMatrix_9 9 rfl rfl)
theorem dX0_findMatrix_220 : decode cX0_findMatrix 220 = .ok (.goto (-78), 3) := dk_167 255 178 (dk_at dksX0_findMatrix_9 12 rfl rfl)
theorem dX0_findMatrix_223 : decode cX0_findMatrix 223 = .ok (.iinc 5 1, 3) := dk_132 5 1 (dk_at dksX0_findMatrix_9 15 rfl rfl)
theorem dX0_findMatrix_226 : decode cX0_findMatrix 226 = .ok (.goto (-165), 3) := dk_167 255 91 (dk_at dksX0_findMatrix_9 18 rfl rfl)
theorem dX0_findMatrix_229 : decode cX0_findMatrix 229 = .ok (.return_, 1) := dk_177 (dk_at dksX0_findMatrix_9 21 rfl rfl)
abbrev cX0_minor : ByteArray := prog_1_method_26_code
def yX0_minor : MethodName := ⟨RX0, "minor", "(II)J"⟩
def dkwX0_minor_5 : List UInt8 := [167, 255, 157, 22, 4, 173]
abbrev dktX0_minor_5 : List UInt8 := dkwX0_minor_5 ++ []
def dkwX0_minor_4 : List UInt8 := [117, 167, 0, 5, 22, 10, 97, 55, 4, 21, 6, 154, 0, 7, 4, 167, 0, 4, 3, 54, 6, 132, 7, 1]
abbrev dktX0_minor_4 : List UInt8 := dkwX0_minor_4 ++ dktX0_minor_5
def dkwX0_minor_3 : List UInt8 := [126, 28, 4, 21, 7, 120, 2, 130, 126, 182, 1, 86, 105, 55, 10, 22, 4, 21, 6, 153, 0, 9, 22, 10]
abbrev dktX0_minor_3 : List UInt8 := dkwX0_minor_3 ++ dktX0_minor_4
def dkwX0_minor_2 : List UInt8 := [29, 104, 21, 7, 96, 47, 55, 8, 22, 8, 9, 148, 153, 0, 45, 22, 8, 42, 27, 4, 29, 120, 2, 130]
abbrev dktX0_minor_2 : List UInt8 := dkwX0_minor_2 ++ dktX0_minor_3
def dkwX0_minor_1 : List UInt8 := [180, 1, 65, 162, 0, 96, 28, 21, 7, 122, 4, 126, 154, 0, 6, 167, 0, 78, 42, 180, 0, 43, 16, 6]
abbrev dktX0_minor_1 : List UInt8 := dkwX0_minor_1 ++ dktX0_minor_2
def dkwX0_minor_0 : List UInt8 := [27, 154, 0, 5, 10, 173, 27, 184, 1, 81, 62, 9, 55, 4, 3, 54, 6, 3, 54, 7, 21, 7, 42]
abbrev dktX0_minor_0 : List UInt8 := dkwX0_minor_0 ++ dktX0_minor_1
theorem dksX0_minor_0 : cX0_minor.data.toList.drop 0 = dktX0_minor_0 := by decide +kernel
theorem dksX0_minor_1 : cX0_minor.data.toList.drop 23 = dktX0_minor_1 := dk_seg dksX0_minor_0 23 rfl rfl
theorem dksX0_minor_2 : cX0_minor.data.toList.drop 47 = dktX0_minor_2 := dk_seg dksX0_minor_1 24 rfl rfl
theorem dksX0_minor_3 : cX0_minor.data.toList.drop 71 = dktX0_minor_3 := dk_seg dksX0_minor_2 24 rfl rfl
theorem dksX0_minor_4 : cX0_minor.data.toList.drop 95 = dktX0_minor_4 := dk_seg dksX0_minor_3 24 rfl rfl
theorem dksX0_minor_5 : cX0_minor.data.toList.drop 119 = dktX0_minor_5 := dk_seg dksX0_minor_4 24 rfl rfl
theorem dX0_minor_0 : decode cX0_minor 0 = .ok (.iload_n 1, 1) := dk_27 (dk_at dksX0_minor_0 0 rfl rfl)
theorem dX0_minor_1 : decode cX0_minor 1 = .ok (.ifCond .ne 5, 3) := dk_154 0 5 (dk_at dksX0_minor_0 1 rfl rfl)
theorem dX0_minor_4 : decode cX0_minor 4 = .ok (.lconst 1, 1) := dk_10 (dk_at dksX0_minor_0 4 rfl rfl)
theorem dX0_minor_5 : decode cX0_minor 5 = .ok (.lreturn, 1) := dk_173 (dk_at dksX0_minor_0 5 rfl rfl)
theorem dX0_minor_6 : decode cX0_minor 6 = .ok (.iload_n 1, 1) := dk_27 (dk_at dksX0_minor_0 6 rfl rfl)
theorem dX0_minor_7 : decode cX0_minor 7 = .ok (.invokestatic 337, 3) := dk_184 1 81 (dk_at dksX0_minor_0 7 rfl rfl)
theorem dX0_minor_10 : decode cX0_minor 10 = .ok (.istore_n 3, 1) := dk_62 (dk_at dksX0_minor_0 10 rfl rfl)
theorem dX0_minor_11 : decode cX0_minor 11 = .ok (.lconst 0, 1) := dk_9 (dk_at dksX0_minor_0 11 rfl rfl)
theorem dX0_minor_12 : decode cX0_minor 12 = .ok (.lstore 4, 2) := dk_55 4 (dk_at dksX0_minor_0 12 rfl rfl)
theorem dX0_minor_14 : decode cX0_minor 14 = .ok (.iconst 0, 1) := dk_3 (dk_at dksX0_minor_0 14 rfl rfl)
theorem dX0_minor_15 : decode cX0_minor 15 = .ok (.istore 6, 2) := dk_54 6 (dk_at dksX0_minor_0 15 rfl rfl)
theorem dX0_minor_17 : decode cX0_minor 17 = .ok (.iconst 0, 1) := dk_3 (dk_at dksX0_minor_0 17 rfl rfl)
theorem dX0_minor_18 : decode cX0_minor 18 = .ok (.istore 7, 2) := dk_54 7 (dk_at dksX0_minor_0 18 rfl rfl)
theorem dX0_minor_20 : decode cX0_minor 20 = .ok (.iload 7, 2) := dk_21 7 (dk_at dksX0_minor_0 20 rfl rfl)
theorem dX0_minor_22 : decode cX0_minor 22 = .ok (.aload_n 0, 1) := dk_42 (dk_at dksX0_minor_0 22 rfl rfl)
theorem dX0_minor_23 : decode cX0_minor 23 = .ok (.getfield 321, 3) := dk_180 1 65 (dk_at dksX0_minor_1 0 rfl rfl)
theorem dX0_minor_26 : decode cX0_minor 26 = .ok (.if_icmp .ge 96, 3) := dk_162 0 96 (dk_at dksX0_minor_1 3 rfl rfl)
theorem dX0_minor_29 : decode cX0_minor 29 = .ok (.iload_n 2, 1) := dk_28 (dk_at dksX0_minor_1 6 rfl rfl)
theorem dX0_minor_30 : decode cX0_minor 30 = .ok (.iload 7, 2) := dk_21 7 (dk_at dksX0_minor_1 7 rfl rfl)
theorem dX0_minor_32 : decode cX0_minor 32 = .ok (.ishr, 1) := dk_122 (dk_at dksX0_minor_1 9 rfl rfl)
theorem dX0_minor_33 : decode cX0_minor 33 = .ok (.iconst 1, 1) := dk_4 (dk_at dksX0_minor_1 10 rfl rfl)
theorem dX0_minor_34 : decode cX0_minor 34 = .ok (.iand, 1) := dk_126 (dk_at dksX0_minor_1 11 rfl rfl)
theorem dX0_minor_35 : decode cX0_minor 35 = .ok (.ifCond .ne 6, 3) := dk_154 0 6 (dk_at dksX0_minor_1 12 rfl rfl)
theorem dX0_minor_38 : decode cX0_minor 38 = .ok (.goto 78, 3) := dk_167 0 78 (dk_at dksX0_minor_1 15 rfl rfl)
theorem dX0_minor_41 : decode cX0_minor 41 = .ok (.aload_n 0, 1) := dk_42 (dk_at dksX0_minor_1 18 rfl rfl)
theorem dX0_minor_42 : decode cX0_minor 42 = .ok (.getfield 43, 3) := dk_180 0 43 (dk_at dksX0_minor_1 19 rfl rfl)
theorem dX0_minor_45 : decode cX0_minor 45 = .ok (.bipush 6, 2) := dk_16 6 (dk_at dksX0_minor_1 22 rfl rfl)
theorem dX0_minor_47 : decode cX0_minor 47 = .ok (.iload_n 3, 1) := dk_29 (dk_at dksX0_minor_2 0 rfl rfl)
theorem dX0_minor_48 : decode cX0_minor 48 = .ok (.imul, 1) := dk_104 (dk_at dksX0_minor_2 1 rfl rfl)
theorem dX0_minor_49 : decode cX0_minor 49 = .ok (.iload 7, 2) := dk_21 7 (dk_at dksX0_minor_2 2 rfl rfl)
theorem dX0_minor_51 : decode cX0_minor 51 = .ok (.iadd, 1) := dk_96 (dk_at dksX0_minor_2 4 rfl rfl)
theorem dX0_minor_52 : decode cX0_minor 52 = .ok (.laload, 1) := dk_47 (dk_at dksX0_minor_2 5 rfl rfl)
theorem dX0_minor_53 : decode cX0_minor 53 = .ok (.lstore 8, 2) := dk_55 8 (dk_at dksX0_minor_2 6 rfl rfl)
theorem dX0_minor_55 : decode cX0_minor 55 = .ok (.lload 8, 2) := dk_22 8 (dk_at dksX0_minor_2 8 rfl rfl)
theorem dX0_minor_57 : decode cX0_minor 57 = .ok (.lconst 0, 1) := dk_9 (dk_at dksX0_minor_2 10 rfl rfl)
theorem dX0_minor_58 : decode cX0_minor 58 = .ok (.lcmp, 1) := dk_148 (dk_at dksX0_minor_2 11 rfl rfl)
theorem dX0_minor_59 : decode cX0_minor 59 = .ok (.ifCond .eq 45, 3) := dk_153 0 45 (dk_at dksX0_minor_2 12 rfl rfl)
theorem dX0_minor_62 : decode cX0_minor 62 = .ok (.lload 8, 2) := dk_22 8 (dk_at dksX0_minor_2 15 rfl rfl)
theorem dX0_minor_64 : decode cX0_minor 64 = .ok (.aload_n 0, 1) := dk_42 (dk_at dksX0_minor_2 17 rfl rfl)
theorem dX0_minor_65 : decode cX0_minor 65 = .ok (.iload_n 1, 1) := dk_27 (dk_at dksX0_minor_2 18 rfl rfl)
theorem dX0_minor_66 : decode cX0_minor 66 = .ok (.iconst 1, 1) := dk_4 (dk_at dksX0_minor_2 19 rfl rfl)
theorem dX0_minor_67 : decode cX0_minor 67 = .ok (.iload_n 3, 1) := dk_29 (dk_at dksX0_minor_2 20 rfl rfl)
theorem dX0_minor_68 : decode cX0_minor 68 = .ok (.ishl, 1) := dk_120 (dk_at dksX0_minor_2 21 rfl rfl)
theorem dX0_minor_69 : decode cX0_minor 69 = .ok (.iconst (-1), 1) := dk_2 (dk_at dksX0_minor_2 22 rfl rfl)
theorem dX0_minor_70 : decode cX0_minor 70 = .ok (.ixor, 1) := dk_130 (dk_at dksX0_minor_2 23 rfl rfl)
theorem dX0_minor_71 : decode cX0_minor 71 = .ok (.iand, 1) := dk_126 (dk_at dksX0_minor_3 0 rfl rfl)
theorem dX0_minor_72 : decode cX0_minor 72 = .ok (.iload_n 2, 1) := dk_28 (dk_at dksX0_minor_3 1 rfl rfl)
theorem dX0_minor_73 : decode cX0_minor 73 = .ok (.iconst 1, 1) := dk_4 (dk_at dksX0_minor_3 2 rfl rfl)
theorem dX0_minor_74 : decode cX0_minor 74 = .ok (.iload 7, 2) := dk_21 7 (dk_at dksX0_minor_3 3 rfl rfl)
theorem dX0_minor_76 : decode cX0_minor 76 = .ok (.ishl, 1) := dk_120 (dk_at dksX0_minor_3 5 rfl rfl)
theorem dX0_minor_77 : decode cX0_minor 77 = .ok (.iconst (-1), 1) := dk_2 (dk_at dksX0_minor_3 6 rfl rfl)
theorem dX0_minor_78 : decode cX0_minor 78 = .ok (.ixor, 1) := dk_130 (dk_at dksX0_minor_3 7 rfl rfl)
theorem dX0_minor_79 : decode cX0_minor 79 = .ok (.iand, 1) := dk_126 (dk_at dksX0_minor_3 8 rfl rfl)
theorem dX0_minor_80 : decode cX0_minor 80 = .ok (.invokevirtual 342, 3) := dk_182 1 86 (dk_at dksX0_minor_3 9 rfl rfl)
theorem dX0_minor_83 : decode cX0_minor 83 = .ok (.lmul, 1) := dk_105 (dk_at dksX0_minor_3 12 rfl rfl)
theorem dX0_minor_84 : decode cX0_minor 84 = .ok (.lstore 10, 2) := dk_55 10 (dk_at dksX0_minor_3 13 rfl rfl)
theorem dX0_minor_86 : decode cX0_minor 86 = .ok (.lload 4, 2) := dk_22 4 (dk_at dksX0_minor_3 15 rfl rfl)
theorem dX0_minor_88 : decode cX0_minor 88 = .ok (.iload 6, 2) := dk_21 6 (dk_at dksX0_minor_3 17 rfl rfl)
theorem dX0_minor_90 : decode cX0_minor 90 = .ok (.ifCond .eq 9, 3) := dk_153 0 9 (dk_at dksX0_minor_3 19 rfl rfl)
theorem dX0_minor_93 : decode cX0_minor 93 = .ok (.lload 10, 2) := dk_22 10 (dk_at dksX0_minor_3 22 rfl rfl)
theorem dX0_minor_95 : decode cX0_minor 95 = .ok (.lneg, 1) := dk_117 (dk_at dksX0_minor_4 0 rfl rfl)
theorem dX0_minor_96 : decode cX0_minor 96 = .ok (.goto 5, 3) := dk_167 0 5 (dk_at dksX0_minor_4 1 rfl rfl)
theorem dX0_minor_99 : decode cX0_minor 99 = .ok (.lload 10, 2) := dk_22 10 (dk_at dksX0_minor_4 4 rfl rfl)
theorem dX0_minor_101 : decode cX0_minor 101 = .ok (.ladd, 1) := dk_97 (dk_at dksX0_minor_4 6 rfl rfl)
theorem dX0_minor_102 : decode cX0_minor 102 = .ok (.lstore 4, 2) := dk_55 4 (dk_at dksX0_minor_4 7 rfl rfl)
theorem dX0_minor_104 : decode cX0_minor 104 = .ok (.iload 6, 2) := dk_21 6 (dk_at dksX0_minor_4 9 rfl rfl)
theorem dX0_minor_106 : decode cX0_minor 106 = .ok (.ifCond .ne 7, 3) := dk_154 0 7 (dk_at dksX0_minor_4 11 rfl rfl)
theorem dX0_minor_109 : decode cX0_minor 109 = .ok (.iconst 1, 1) := dk_4 (dk_at dksX0_minor_4 14 rfl rfl)
theorem dX0_minor_110 : decode cX0_minor 110 = .ok (.goto 4, 3) := dk_167 0 4 (dk_at dksX0_minor_4 15 rfl rfl)
theorem dX0_minor_113 : decode cX0_minor 113 = .ok (.iconst 0, 1) := dk_3 (dk_at dksX0_minor_4 18 rfl rfl)
theorem dX0_minor_114 : decode cX0_minor 114 = .ok (.istore 6, 2) := dk_54 6 (dk_at dksX0_minor_4 19 rfl rfl)
theorem dX0_minor_116 : decode cX0_minor 116 = .ok (.iinc 7 1, 3) := dk_132 7 1 (dk_at dksX0_minor_4 21 rfl rfl)
theorem dX0_minor_119 : decode cX0_minor 119 = .ok (.goto (-99), 3) := dk_167 255 157 (dk_at dksX0_minor_5 0 rfl rfl)
theorem dX0_minor_122 : decode cX0_minor 122 = .ok (.lload 4, 2) := dk_22 4 (dk_at dksX0_minor_5 3 rfl rfl)
theorem dX0_minor_124 : decode cX0_minor 124 = .ok (.lreturn, 1) := dk_173 (dk_at dksX0_minor_5 5 rfl rfl)
abbrev cX0_atOf : ByteArray := prog_1_method_29_code
def yX0_atOf : MethodName := ⟨RX0, "atOf", "(LPlatesSing$Shape;II)I"⟩
def dkwX0_atOf_1 : List UInt8 := [180, 1, 65, 21, 4, 100, 47, 9, 148, 154, 0, 9, 132, 4, 1, 167, 255, 227, 21, 4, 172]
abbrev dktX0_atOf_1 : List UInt8 := dkwX0_atOf_1 ++ []
def dkwX0_atOf_0 : List UInt8 := [42, 43, 28, 29, 182, 1, 97, 3, 54, 4, 21, 4, 42, 180, 1, 65, 162, 0, 26, 42, 180, 0, 47, 42]
abbrev dktX0_atOf_0 : List UInt8 := dkwX0_atOf_0 ++ dktX0_atOf_1
theorem dksX0_atOf_0 : cX0_atOf.data.toList.drop 0 = dktX0_atOf_0 := by decide +kernel
theorem dksX0_atOf_1 : cX0_atOf.data.toList.drop 24 = dktX0_atOf_1 := dk_seg dksX0_atOf_0 24 rfl rfl
theorem dX0_atOf_0 : decode cX0_atOf 0 = .ok (.aload_n 0, 1) := dk_42 (dk_at dksX0_atOf_0 0 rfl rfl)
theorem dX0_atOf_1 : decode cX0_atOf 1 = .ok (.aload_n 1, 1) := dk_43 (dk_at dksX0_atOf_0 1 rfl rfl)
theorem dX0_atOf_2 : decode cX0_atOf 2 = .ok (.iload_n 2, 1) := dk_28 (dk_at dksX0_atOf_0 2 rfl rfl)
theorem dX0_atOf_3 : decode cX0_atOf 3 = .ok (.iload_n 3, 1) := dk_29 (dk_at dksX0_atOf_0 3 rfl rfl)
theorem dX0_atOf_4 : decode cX0_atOf 4 = .ok (.invokevirtual 353, 3) := dk_182 1 97 (dk_at dksX0_atOf_0 4 rfl rfl)
theorem dX0_atOf_7 : decode cX0_atOf 7 = .ok (.iconst 0, 1) := dk_3 (dk_at dksX0_atOf_0 7 rfl rfl)
theorem dX0_atOf_8 : decode cX0_atOf 8 = .ok (.istore 4, 2) := dk_54 4 (dk_at dksX0_atOf_0 8 rfl rfl)
theorem dX0_atOf_10 : decode cX0_atOf 10 = .ok (.iload 4, 2) := dk_21 4 (dk_at dksX0_atOf_0 10 rfl rfl)
theorem dX0_atOf_12 : decode cX0_atOf 12 = .ok (.aload_n 0, 1) := dk_42 (dk_at dksX0_atOf_0 12 rfl rfl)
theorem dX0_atOf_13 : decode cX0_atOf 13 = .ok (.getfield 321, 3) := dk_180 1 65 (dk_at dksX0_atOf_0 13 rfl rfl)
theorem dX0_atOf_16 : decode cX0_atOf 16 = .ok (.if_icmp .ge 26, 3) := dk_162 0 26 (dk_at dksX0_atOf_0 16 rfl rfl)
theorem dX0_atOf_19 : decode cX0_atOf 19 = .ok (.aload_n 0, 1) := dk_42 (dk_at dksX0_atOf_0 19 rfl rfl)
theorem dX0_atOf_20 : decode cX0_atOf 20 = .ok (.getfield 47, 3) := dk_180 0 47 (dk_at dksX0_atOf_0 20 rfl rfl)
theorem dX0_atOf_23 : decode cX0_atOf 23 = .ok (.aload_n 0, 1) := dk_42 (dk_at dksX0_atOf_0 23 rfl rfl)
theorem dX0_atOf_24 : decode cX0_atOf 24 = .ok (.getfield 321, 3) := dk_180 1 65 (dk_at dksX0_atOf_1 0 rfl rfl)
theorem dX0_atOf_27 : decode cX0_atOf 27 = .ok (.iload 4, 2) := dk_21 4 (dk_at dksX0_atOf_1 3 rfl rfl)
theorem dX0_atOf_29 : decode cX0_atOf 29 = .ok (.isub, 1) := dk_100 (dk_at dksX0_atOf_1 5 rfl rfl)
theorem dX0_atOf_30 : decode cX0_atOf 30 = .ok (.laload, 1) := dk_47 (dk_at dksX0_atOf_1 6 rfl rfl)
theorem dX0_atOf_31 : decode cX0_atOf 31 = .ok (.lconst 0, 1) := dk_9 (dk_at dksX0_atOf_1 7 rfl rfl)
theorem dX0_atOf_32 : decode cX0_atOf 32 = .ok (.lcmp, 1) := dk_148 (dk_at dksX0_atOf_1 8 rfl rfl)
theorem dX0_atOf_33 : decode cX0_atOf 33 = .ok (.ifCond .ne 9, 3) := dk_154 0 9 (dk_at dksX0_atOf_1 9 rfl rfl)
theorem dX0_atOf_36 : decode cX0_atOf 36 = .ok (.iinc 4 1, 3) := dk_132 4 1 (dk_at dksX0_atOf_1 12 rfl rfl)
theorem dX0_atOf_39 : decode cX0_atOf 39 = .ok (.goto (-29), 3) := dk_167 255 227 (dk_at dksX0_atOf_1 15 rfl rfl)
theorem dX0_atOf_42 : decode cX0_atOf 42 = .ok (.iload 4, 2) := dk_21 4 (dk_at dksX0_atOf_1 18 rfl rfl)
theorem dX0_atOf_44 : decode cX0_atOf 44 = .ok (.ireturn, 1) := dk_172 (dk_at dksX0_atOf_1 20 rfl rfl)
abbrev cX0_sums : ByteArray := prog_1_method_33_code
def yX0_sums : MethodName := ⟨RX0, "sums", "(III)J"⟩
def dkwX0_sums_2 : List UInt8 := [112, 182, 1, 97, 42, 180, 0, 47, 29, 47, 173]
abbrev dktX0_sums_2 : List UInt8 := dkwX0_sums_2 ++ []
def dkwX0_sums_1 : List UInt8 := [182, 0, 230, 133, 184, 0, 152, 154, 0, 7, 20, 1, 114, 173, 42, 25, 4, 28, 16, 10, 108, 28, 16, 10]
abbrev dktX0_sums_1 : List UInt8 := dkwX0_sums_1 ++ dktX0_sums_2
def dkwX0_sums_0 : List UInt8 := [42, 27, 182, 0, 201, 58, 4, 25, 4, 198, 0, 25, 28, 184, 1, 102, 153, 0, 18, 29, 133, 9, 25, 4]
abbrev dktX0_sums_0 : List UInt8 := dkwX0_sums_0 ++ dktX0_sums_1
theorem dksX0_sums_0 : cX0_sums.data.toList.drop 0 = dktX0_sums_0 := by decide +kernel
theorem dksX0_sums_1 : cX0_sums.data.toList.drop 24 = dktX0_sums_1 := dk_seg dksX0_sums_0 24 rfl rfl
theorem dksX0_sums_2 : cX0_sums.data.toList.drop 48 = dktX0_sums_2 := dk_seg dksX0_sums_1 24 rfl rfl
theorem dX0_sums_0 : decode cX0_sums 0 = .ok (.aload_n 0, 1) := dk_42 (dk_at dksX0_sums_0 0 rfl rfl)
theorem dX0_sums_1 : decode cX0_sums 1 = .ok (.iload_n 1, 1) := dk_27 (dk_at dksX0_sums_0 1 rfl rfl)
theorem dX0_sums_2 : decode cX0_sums 2 = .ok (.invokevirtual 201, 3) := dk_182 0 201 (dk_at dksX0_sums_0 2 rfl rfl)
theorem dX0_sums_5 : decode cX0_sums 5 = .ok (.astore 4, 2) := dk_58 4 (dk_at dksX0_sums_0 5 rfl rfl)
theorem dX0_sums_7 : decode cX0_sums 7 = .ok (.aload 4, 2) := dk_25 4 (dk_at dksX0_sums_0 7 rfl rfl)
theorem dX0_sums_9 : decode cX0_sums 9 = .ok (.ifnull 25, 3) := dk_198 0 25 (dk_at dksX0_sums_0 9 rfl rfl)
theorem dX0_sums_12 : decode cX0_sums 12 = .ok (.iload_n 2, 1) := dk_28 (dk_at dksX0_sums_0 12 rfl rfl)
theorem dX0_sums_13 : decode cX0_sums 13 = .ok (.invokestatic 358, 3) := dk_184 1 102 (dk_at dksX0_sums_0 13 rfl rfl)
theorem dX0_sums_16 : decode cX0_sums 16 = .ok (.ifCond .eq 18, 3) := dk_153 0 18 (dk_at dksX0_sums_0 16 rfl rfl)
theorem dX0_sums_19 : decode cX0_sums 19 = .ok (.iload_n 3, 1) := dk_29 (dk_at dksX0_sums_0 19 rfl rfl)
theorem dX0_sums_20 : decode cX0_sums 20 = .ok (.i2l, 1) := dk_133 (dk_at dksX0_sums_0 20 rfl rfl)
theorem dX0_sums_21 : decode cX0_sums 21 = .ok (.lconst 0, 1) := dk_9 (dk_at dksX0_sums_0 21 rfl rfl)
theorem dX0_sums_22 : decode cX0_sums 22 = .ok (.aload 4, 2) := dk_25 4 (dk_at dksX0_sums_0 22 rfl rfl)
theorem dX0_sums_24 : decode cX0_sums 24 = .ok (.invokevirtual 230, 3) := dk_182 0 230 (dk_at dksX0_sums_1 0 rfl rfl)
theorem dX0_sums_27 : decode cX0_sums 27 = .ok (.i2l, 1) := dk_133 (dk_at dksX0_sums_1 3 rfl rfl)
theorem dX0_sums_28 : decode cX0_sums 28 = .ok (.invokestatic 152, 3) := dk_184 0 152 (dk_at dksX0_sums_1 4 rfl rfl)
theorem dX0_sums_31 : decode cX0_sums 31 = .ok (.ifCond .ne 7, 3) := dk_154 0 7 (dk_at dksX0_sums_1 7 rfl rfl)
theorem dX0_sums_34 : decode cX0_sums 34 = .ok (.ldc2_w 370, 3) := dk_20 1 114 (dk_at dksX0_sums_1 10 rfl rfl)
theorem dX0_sums_37 : decode cX0_sums 37 = .ok (.lreturn, 1) := dk_173 (dk_at dksX0_sums_1 13 rfl rfl)
theorem dX0_sums_38 : decode cX0_sums 38 = .ok (.aload_n 0, 1) := dk_42 (dk_at dksX0_sums_1 14 rfl rfl)
theorem dX0_sums_39 : decode cX0_sums 39 = .ok (.aload 4, 2) := dk_25 4 (dk_at dksX0_sums_1 15 rfl rfl)
theorem dX0_sums_41 : decode cX0_sums 41 = .ok (.iload_n 2, 1) := dk_28 (dk_at dksX0_sums_1 17 rfl rfl)
theorem dX0_sums_42 : decode cX0_sums 42 = .ok (.bipush 10, 2) := dk_16 10 (dk_at dksX0_sums_1 18 rfl rfl)
theorem dX0_sums_44 : decode cX0_sums 44 = .ok (.idiv, 1) := dk_108 (dk_at dksX0_sums_1 20 rfl rfl)
theorem dX0_sums_45 : decode cX0_sums 45 = .ok (.iload_n 2, 1) := dk_28 (dk_at dksX0_sums_1 21 rfl rfl)
theorem dX0_sums_46 : decode cX0_sums 46 = .ok (.bipush 10, 2) := dk_16 10 (dk_at dksX0_sums_1 22 rfl rfl)
theorem dX0_sums_48 : decode cX0_sums 48 = .ok (.irem, 1) := dk_112 (dk_at dksX0_sums_2 0 rfl rfl)
theorem dX0_sums_49 : decode cX0_sums 49 = .ok (.invokevirtual 353, 3) := dk_182 1 97 (dk_at dksX0_sums_2 1 rfl rfl)
theorem dX0_sums_52 : decode cX0_sums 52 = .ok (.aload_n 0, 1) := dk_42 (dk_at dksX0_sums_2 4 rfl rfl)
theorem dX0_sums_53 : decode cX0_sums 53 = .ok (.getfield 47, 3) := dk_180 0 47 (dk_at dksX0_sums_2 5 rfl rfl)
theorem dX0_sums_56 : decode cX0_sums 56 = .ok (.iload_n 3, 1) := dk_29 (dk_at dksX0_sums_2 8 rfl rfl)
theorem dX0_sums_57 : decode cX0_sums 57 = .ok (.laload, 1) := dk_47 (dk_at dksX0_sums_2 9 rfl rfl)
theorem dX0_sums_58 : decode cX0_sums 58 = .ok (.lreturn, 1) := dk_173 (dk_at dksX0_sums_2 10 rfl rfl)
abbrev cX0_shut : ByteArray := prog_1_method_36_code
def yX0_shut : MethodName := ⟨RX0, "shut", "(III)I"⟩
def dkwX0_shut_1 : List UInt8 := [184, 1, 119, 154, 0, 7, 2, 167, 0, 11, 42, 25, 4, 28, 29, 182, 1, 123, 172]
abbrev dktX0_shut_1 : List UInt8 := dkwX0_shut_1 ++ []
def dkwX0_shut_0 : List UInt8 := [42, 27, 182, 0, 201, 58, 4, 25, 4, 198, 0, 19, 29, 184, 1, 116, 153, 0, 12, 25, 4, 28]
abbrev dktX0_shut_0 : List UInt8 := dkwX0_shut_0 ++ dktX0_shut_1
theorem dksX0_shut_0 : cX0_shut.data.toList.drop 0 = dktX0_shut_0 := by decide +kernel
theorem dksX0_shut_1 : cX0_shut.data.toList.drop 22 = dktX0_shut_1 := dk_seg dksX0_shut_0 22 rfl rfl
theorem dX0_shut_0 : decode cX0_shut 0 = .ok (.aload_n 0, 1) := dk_42 (dk_at dksX0_shut_0 0 rfl rfl)
theorem dX0_shut_1 : decode cX0_shut 1 = .ok (.iload_n 1, 1) := dk_27 (dk_at dksX0_shut_0 1 rfl rfl)
theorem dX0_shut_2 : decode cX0_shut 2 = .ok (.invokevirtual 201, 3) := dk_182 0 201 (dk_at dksX0_shut_0 2 rfl rfl)
theorem dX0_shut_5 : decode cX0_shut 5 = .ok (.astore 4, 2) := dk_58 4 (dk_at dksX0_shut_0 5 rfl rfl)
theorem dX0_shut_7 : decode cX0_shut 7 = .ok (.aload 4, 2) := dk_25 4 (dk_at dksX0_shut_0 7 rfl rfl)
theorem dX0_shut_9 : decode cX0_shut 9 = .ok (.ifnull 19, 3) := dk_198 0 19 (dk_at dksX0_shut_0 9 rfl rfl)
theorem dX0_shut_12 : decode cX0_shut 12 = .ok (.iload_n 3, 1) := dk_29 (dk_at dksX0_shut_0 12 rfl rfl)
theorem dX0_shut_13 : decode cX0_shut 13 = .ok (.invokestatic 372, 3) := dk_184 1 116 (dk_at dksX0_shut_0 13 rfl rfl)
theorem dX0_shut_16 : decode cX0_shut 16 = .ok (.ifCond .eq 12, 3) := dk_153 0 12 (dk_at dksX0_shut_0 16 rfl rfl)
theorem dX0_shut_19 : decode cX0_shut 19 = .ok (.aload 4, 2) := dk_25 4 (dk_at dksX0_shut_0 19 rfl rfl)
theorem dX0_shut_21 : decode cX0_shut 21 = .ok (.iload_n 2, 1) := dk_28 (dk_at dksX0_shut_0 21 rfl rfl)
theorem dX0_shut_22 : decode cX0_shut 22 = .ok (.invokestatic 375, 3) := dk_184 1 119 (dk_at dksX0_shut_1 0 rfl rfl)
theorem dX0_shut_25 : decode cX0_shut 25 = .ok (.ifCond .ne 7, 3) := dk_154 0 7 (dk_at dksX0_shut_1 3 rfl rfl)
theorem dX0_shut_28 : decode cX0_shut 28 = .ok (.iconst (-1), 1) := dk_2 (dk_at dksX0_shut_1 6 rfl rfl)
theorem dX0_shut_29 : decode cX0_shut 29 = .ok (.goto 11, 3) := dk_167 0 11 (dk_at dksX0_shut_1 7 rfl rfl)
theorem dX0_shut_32 : decode cX0_shut 32 = .ok (.aload_n 0, 1) := dk_42 (dk_at dksX0_shut_1 10 rfl rfl)
theorem dX0_shut_33 : decode cX0_shut 33 = .ok (.aload 4, 2) := dk_25 4 (dk_at dksX0_shut_1 11 rfl rfl)
theorem dX0_shut_35 : decode cX0_shut 35 = .ok (.iload_n 2, 1) := dk_28 (dk_at dksX0_shut_1 13 rfl rfl)
theorem dX0_shut_36 : decode cX0_shut 36 = .ok (.iload_n 3, 1) := dk_29 (dk_at dksX0_shut_1 14 rfl rfl)
theorem dX0_shut_37 : decode cX0_shut 37 = .ok (.invokevirtual 379, 3) := dk_182 1 123 (dk_at dksX0_shut_1 15 rfl rfl)
theorem dX0_shut_40 : decode cX0_shut 40 = .ok (.ireturn, 1) := dk_172 (dk_at dksX0_shut_1 18 rfl rfl)
abbrev cX0_isPart : ByteArray := prog_1_method_31_code
def yX0_isPart : MethodName := ⟨RX0, "isPart", "(I)Z"⟩
def dkwX0_isPart_0 : List UInt8 := [26, 133, 10, 20, 1, 51, 184, 0, 152, 172]
abbrev dktX0_isPart_0 : List UInt8 := dkwX0_isPart_0 ++ []
theorem dksX0_isPart_0 : cX0_isPart.data.toList.drop 0 = dktX0_isPart_0 := by decide +kernel
theorem dX0_isPart_0 : decode cX0_isPart 0 = .ok (.iload_n 0, 1) := dk_26 (dk_at dksX0_isPart_0 0 rfl rfl)
theorem dX0_isPart_1 : decode cX0_isPart 1 = .ok (.i2l, 1) := dk_133 (dk_at dksX0_isPart_0 1 rfl rfl)
theorem dX0_isPart_2 : decode cX0_isPart 2 = .ok (.lconst 1, 1) := dk_10 (dk_at dksX0_isPart_0 2 rfl rfl)
theorem dX0_isPart_3 : decode cX0_isPart 3 = .ok (.ldc2_w 307, 3) := dk_20 1 51 (dk_at dksX0_isPart_0 3 rfl rfl)
theorem dX0_isPart_6 : decode cX0_isPart 6 = .ok (.invokestatic 152, 3) := dk_184 0 152 (dk_at dksX0_isPart_0 6 rfl rfl)
theorem dX0_isPart_9 : decode cX0_isPart 9 = .ok (.ireturn, 1) := dk_172 (dk_at dksX0_isPart_0 9 rfl rfl)
abbrev cX0_hasTone : ByteArray := prog_1_method_35_code
def yX0_hasTone : MethodName := ⟨RX0, "hasTone", "(LPlatesSing$Shape;I)Z"⟩
def dkwX0_hasTone_0 : List UInt8 := [27, 133, 9, 42, 182, 0, 230, 4, 100, 133, 184, 0, 152, 172]
abbrev dktX0_hasTone_0 : List UInt8 := dkwX0_hasTone_0 ++ []
theorem dksX0_hasTone_0 : cX0_hasTone.data.toList.drop 0 = dktX0_hasTone_0 := by decide +kernel
theorem dX0_hasTone_0 : decode cX0_hasTone 0 = .ok (.iload_n 1, 1) := dk_27 (dk_at dksX0_hasTone_0 0 rfl rfl)
theorem dX0_hasTone_1 : decode cX0_hasTone 1 = .ok (.i2l, 1) := dk_133 (dk_at dksX0_hasTone_0 1 rfl rfl)
theorem dX0_hasTone_2 : decode cX0_hasTone 2 = .ok (.lconst 0, 1) := dk_9 (dk_at dksX0_hasTone_0 2 rfl rfl)
theorem dX0_hasTone_3 : decode cX0_hasTone 3 = .ok (.aload_n 0, 1) := dk_42 (dk_at dksX0_hasTone_0 3 rfl rfl)
theorem dX0_hasTone_4 : decode cX0_hasTone 4 = .ok (.invokevirtual 230, 3) := dk_182 0 230 (dk_at dksX0_hasTone_0 4 rfl rfl)
theorem dX0_hasTone_7 : decode cX0_hasTone 7 = .ok (.iconst 1, 1) := dk_4 (dk_at dksX0_hasTone_0 7 rfl rfl)
theorem dX0_hasTone_8 : decode cX0_hasTone 8 = .ok (.isub, 1) := dk_100 (dk_at dksX0_hasTone_0 8 rfl rfl)
theorem dX0_hasTone_9 : decode cX0_hasTone 9 = .ok (.i2l, 1) := dk_133 (dk_at dksX0_hasTone_0 9 rfl rfl)
theorem dX0_hasTone_10 : decode cX0_hasTone 10 = .ok (.invokestatic 152, 3) := dk_184 0 152 (dk_at dksX0_hasTone_0 10 rfl rfl)
theorem dX0_hasTone_13 : decode cX0_hasTone 13 = .ok (.ireturn, 1) := dk_172 (dk_at dksX0_hasTone_0 13 rfl rfl)
abbrev cX0_shutOf : ByteArray := prog_1_method_34_code
def yX0_shutOf : MethodName := ⟨RX0, "shutOf", "(LPlatesSing$Shape;II)I"⟩
def dkwX0_shutOf_2 : List UInt8 := [100, 54, 5, 167, 255, 213, 21, 4, 172]
abbrev dktX0_shutOf_2 : List UInt8 := dkwX0_shutOf_2 ++ []
def dkwX0_shutOf_1 : List UInt8 := [54, 6, 42, 43, 21, 6, 29, 182, 1, 105, 28, 163, 0, 10, 21, 6, 54, 4, 167, 0, 9, 21, 6, 4]
abbrev dktX0_shutOf_1 : List UInt8 := dkwX0_shutOf_1 ++ dktX0_shutOf_2
def dkwX0_shutOf_0 : List UInt8 := [3, 54, 4, 16, 99, 54, 5, 21, 4, 21, 5, 162, 0, 42, 21, 4, 21, 5, 96, 4, 96, 5, 108]
abbrev dktX0_shutOf_0 : List UInt8 := dkwX0_shutOf_0 ++ dktX0_shutOf_1
theorem dksX0_shutOf_0 : cX0_shutOf.data.toList.drop 0 = dktX0_shutOf_0 := by decide +kernel
theorem dksX0_shutOf_1 : cX0_shutOf.data.toList.drop 23 = dktX0_shutOf_1 := dk_seg dksX0_shutOf_0 23 rfl rfl
theorem dksX0_shutOf_2 : cX0_shutOf.data.toList.drop 47 = dktX0_shutOf_2 := dk_seg dksX0_shutOf_1 24 rfl rfl
theorem dX0_shutOf_0 : decode cX0_shutOf 0 = .ok (.iconst 0, 1) := dk_3 (dk_at dksX0_shutOf_0 0 rfl rfl)
theorem dX0_shutOf_1 : decode cX0_shutOf 1 = .ok (.istore 4, 2) := dk_54 4 (dk_at dksX0_shutOf_0 1 rfl rfl)
theorem dX0_shutOf_3 : decode cX0_shutOf 3 = .ok (.bipush 99, 2) := dk_16 99 (dk_at dksX0_shutOf_0 3 rfl rfl)
theorem dX0_shutOf_5 : decode cX0_shutOf 5 = .ok (.istore 5, 2) := dk_54 5 (dk_at dksX0_shutOf_0 5 rfl rfl)
theorem dX0_shutOf_7 : decode cX0_shutOf 7 = .ok (.iload 4, 2) := dk_21 4 (dk_at dksX0_shutOf_0 7 rfl rfl)
theorem dX0_shutOf_9 : decode cX0_shutOf 9 = .ok (.iload 5, 2) := dk_21 5 (dk_at dksX0_shutOf_0 9 rfl rfl)
theorem dX0_shutOf_11 : decode cX0_shutOf 11 = .ok (.if_icmp .ge 42, 3) := dk_162 0 42 (dk_at dksX0_shutOf_0 11 rfl rfl)
theorem dX0_shutOf_14 : decode cX0_shutOf 14 = .ok (.iload 4, 2) := dk_21 4 (dk_at dksX0_shutOf_0 14 rfl rfl)
theorem dX0_shutOf_16 : decode cX0_shutOf 16 = .ok (.iload 5, 2) := dk_21 5 (dk_at dksX0_shutOf_0 16 rfl rfl)
theorem dX0_shutOf_18 : decode cX0_shutOf 18 = .ok (.iadd, 1) := dk_96 (dk_at dksX0_shutOf_0 18 rfl rfl)
theorem dX0_shutOf_19 : decode cX0_shutOf 19 = .ok (.iconst 1, 1) := dk_4 (dk_at dksX0_shutOf_0 19 rfl rfl)
theorem dX0_shutOf_20 : decode cX0_shutOf 20 = .ok (.iadd, 1) := dk_96 (dk_at dksX0_shutOf_0 20 rfl rfl)
theorem dX0_shutOf_21 : decode cX0_shutOf 21 = .ok (.iconst 2, 1) := dk_5 (dk_at dksX0_shutOf_0 21 rfl rfl)
theorem dX0_shutOf_22 : decode cX0_shutOf 22 = .ok (.idiv, 1) := dk_108 (dk_at dksX0_shutOf_0 22 rfl rfl)
theorem dX0_shutOf_23 : decode cX0_shutOf 23 = .ok (.istore 6, 2) := dk_54 6 (dk_at dksX0_shutOf_1 0 rfl rfl)
theorem dX0_shutOf_25 : decode cX0_shutOf 25 = .ok (.aload_n 0, 1) := dk_42 (dk_at dksX0_shutOf_1 2 rfl rfl)
theorem dX0_shutOf_26 : decode cX0_shutOf 26 = .ok (.aload_n 1, 1) := dk_43 (dk_at dksX0_shutOf_1 3 rfl rfl)
theorem dX0_shutOf_27 : decode cX0_shutOf 27 = .ok (.iload 6, 2) := dk_21 6 (dk_at dksX0_shutOf_1 4 rfl rfl)
theorem dX0_shutOf_29 : decode cX0_shutOf 29 = .ok (.iload_n 3, 1) := dk_29 (dk_at dksX0_shutOf_1 6 rfl rfl)
theorem dX0_shutOf_30 : decode cX0_shutOf 30 = .ok (.invokevirtual 361, 3) := dk_182 1 105 (dk_at dksX0_shutOf_1 7 rfl rfl)
theorem dX0_shutOf_33 : decode cX0_shutOf 33 = .ok (.iload_n 2, 1) := dk_28 (dk_at dksX0_shutOf_1 10 rfl rfl)
theorem dX0_shutOf_34 : decode cX0_shutOf 34 = .ok (.if_icmp .gt 10, 3) := dk_163 0 10 (dk_at dksX0_shutOf_1 11 rfl rfl)
theorem dX0_shutOf_37 : decode cX0_shutOf 37 = .ok (.iload 6, 2) := dk_21 6 (dk_at dksX0_shutOf_1 14 rfl rfl)
theorem dX0_shutOf_39 : decode cX0_shutOf 39 = .ok (.istore 4, 2) := dk_54 4 (dk_at dksX0_shutOf_1 16 rfl rfl)
theorem dX0_shutOf_41 : decode cX0_shutOf 41 = .ok (.goto 9, 3) := dk_167 0 9 (dk_at dksX0_shutOf_1 18 rfl rfl)
theorem dX0_shutOf_44 : decode cX0_shutOf 44 = .ok (.iload 6, 2) := dk_21 6 (dk_at dksX0_shutOf_1 21 rfl rfl)
theorem dX0_shutOf_46 : decode cX0_shutOf 46 = .ok (.iconst 1, 1) := dk_4 (dk_at dksX0_shutOf_1 23 rfl rfl)
theorem dX0_shutOf_47 : decode cX0_shutOf 47 = .ok (.isub, 1) := dk_100 (dk_at dksX0_shutOf_2 0 rfl rfl)
theorem dX0_shutOf_48 : decode cX0_shutOf 48 = .ok (.istore 5, 2) := dk_54 5 (dk_at dksX0_shutOf_2 1 rfl rfl)
theorem dX0_shutOf_50 : decode cX0_shutOf 50 = .ok (.goto (-43), 3) := dk_167 255 213 (dk_at dksX0_shutOf_2 3 rfl rfl)
theorem dX0_shutOf_53 : decode cX0_shutOf 53 = .ok (.iload 4, 2) := dk_21 4 (dk_at dksX0_shutOf_2 6 rfl rfl)
theorem dX0_shutOf_55 : decode cX0_shutOf 55 = .ok (.ireturn, 1) := dk_172 (dk_at dksX0_shutOf_2 8 rfl rfl)
abbrev cX0_still : ByteArray := prog_1_method_37_code
def yX0_still : MethodName := ⟨RX0, "still", "(III)I"⟩
def dkwX0_still_3 : List UInt8 := [181, 0, 53, 21, 5, 158, 0, 14, 21, 6, 21, 5, 161, 0, 7, 4, 167, 0, 4, 3, 184, 0, 246, 172]
abbrev dktX0_still_3 : List UInt8 := dkwX0_still_3 ++ []
def dkwX0_still_2 : List UInt8 := [42, 28, 181, 0, 53, 42, 25, 4, 29, 16, 10, 108, 29, 16, 10, 112, 182, 1, 109, 54, 6, 42, 2]
abbrev dktX0_still_2 : List UInt8 := dkwX0_still_2 ++ dktX0_still_3
def dkwX0_still_1 : List UInt8 := [184, 1, 102, 154, 0, 5, 2, 172, 42, 25, 4, 29, 16, 10, 108, 29, 16, 10, 112, 182, 1, 109, 54, 5]
abbrev dktX0_still_1 : List UInt8 := dkwX0_still_1 ++ dktX0_still_2
def dkwX0_still_0 : List UInt8 := [42, 27, 28, 182, 0, 250, 58, 4, 25, 4, 198, 0, 20, 25, 4, 180, 0, 242, 28, 51, 154, 0, 10, 29]
abbrev dktX0_still_0 : List UInt8 := dkwX0_still_0 ++ dktX0_still_1
theorem dksX0_still_0 : cX0_still.data.toList.drop 0 = dktX0_still_0 := by decide +kernel
theorem dksX0_still_1 : cX0_still.data.toList.drop 24 = dktX0_still_1 := dk_seg dksX0_still_0 24 rfl rfl
theorem dksX0_still_2 : cX0_still.data.toList.drop 48 = dktX0_still_2 := dk_seg dksX0_still_1 24 rfl rfl
theorem dksX0_still_3 : cX0_still.data.toList.drop 71 = dktX0_still_3 := dk_seg dksX0_still_2 23 rfl rfl
theorem dX0_still_0 : decode cX0_still 0 = .ok (.aload_n 0, 1) := dk_42 (dk_at dksX0_still_0 0 rfl rfl)
theorem dX0_still_1 : decode cX0_still 1 = .ok (.iload_n 1, 1) := dk_27 (dk_at dksX0_still_0 1 rfl rfl)
theorem dX0_still_2 : decode cX0_still 2 = .ok (.iload_n 2, 1) := dk_28 (dk_at dksX0_still_0 2 rfl rfl)
theorem dX0_still_3 : decode cX0_still 3 = .ok (.invokevirtual 250, 3) := dk_182 0 250 (dk_at dksX0_still_0 3 rfl rfl)
theorem dX0_still_6 : decode cX0_still 6 = .ok (.astore 4, 2) := dk_58 4 (dk_at dksX0_still_0 6 rfl rfl)
theorem dX0_still_8 : decode cX0_still 8 = .ok (.aload 4, 2) := dk_25 4 (dk_at dksX0_still_0 8 rfl rfl)
theorem dX0_still_10 : decode cX0_still 10 = .ok (.ifnull 20, 3) := dk_198 0 20 (dk_at dksX0_still_0 10 rfl rfl)
theorem dX0_still_13 : decode cX0_still 13 = .ok (.aload 4, 2) := dk_25 4 (dk_at dksX0_still_0 13 rfl rfl)
theorem dX0_still_15 : decode cX0_still 15 = .ok (.getfield 242, 3) := dk_180 0 242 (dk_at dksX0_still_0 15 rfl rfl)
theorem dX0_still_18 : decode cX0_still 18 = .ok (.iload_n 2, 1) := dk_28 (dk_at dksX0_still_0 18 rfl rfl)
theorem dX0_still_19 : decode cX0_still 19 = .ok (.baload, 1) := dk_51 (dk_at dksX0_still_0 19 rfl rfl)
theorem dX0_still_20 : decode cX0_still 20 = .ok (.ifCond .ne 10, 3) := dk_154 0 10 (dk_at dksX0_still_0 20 rfl rfl)
theorem dX0_still_23 : decode cX0_still 23 = .ok (.iload_n 3, 1) := dk_29 (dk_at dksX0_still_0 23 rfl rfl)
theorem dX0_still_24 : decode cX0_still 24 = .ok (.invokestatic 358, 3) := dk_184 1 102 (dk_at dksX0_still_1 0 rfl rfl)
theorem dX0_still_27 : decode cX0_still 27 = .ok (.ifCond .ne 5, 3) := dk_154 0 5 (dk_at dksX0_still_1 3 rfl rfl)
theorem dX0_still_30 : decode cX0_still 30 = .ok (.iconst (-1), 1) := dk_2 (dk_at dksX0_still_1 6 rfl rfl)
theorem dX0_still_31 : decode cX0_still 31 = .ok (.ireturn, 1) := dk_172 (dk_at dksX0_still_1 7 rfl rfl)
theorem dX0_still_32 : decode cX0_still 32 = .ok (.aload_n 0, 1) := dk_42 (dk_at dksX0_still_1 8 rfl rfl)
theorem dX0_still_33 : decode cX0_still 33 = .ok (.aload 4, 2) := dk_25 4 (dk_at dksX0_still_1 9 rfl rfl)
theorem dX0_still_35 : decode cX0_still 35 = .ok (.iload_n 3, 1) := dk_29 (dk_at dksX0_still_1 11 rfl rfl)
theorem dX0_still_36 : decode cX0_still 36 = .ok (.bipush 10, 2) := dk_16 10 (dk_at dksX0_still_1 12 rfl rfl)
theorem dX0_still_38 : decode cX0_still 38 = .ok (.idiv, 1) := dk_108 (dk_at dksX0_still_1 14 rfl rfl)
theorem dX0_still_39 : decode cX0_still 39 = .ok (.iload_n 3, 1) := dk_29 (dk_at dksX0_still_1 15 rfl rfl)
theorem dX0_still_40 : decode cX0_still 40 = .ok (.bipush 10, 2) := dk_16 10 (dk_at dksX0_still_1 16 rfl rfl)
theorem dX0_still_42 : decode cX0_still 42 = .ok (.irem, 1) := dk_112 (dk_at dksX0_still_1 18 rfl rfl)
theorem dX0_still_43 : decode cX0_still 43 = .ok (.invokevirtual 365, 3) := dk_182 1 109 (dk_at dksX0_still_1 19 rfl rfl)
theorem dX0_still_46 : decode cX0_still 46 = .ok (.istore 5, 2) := dk_54 5 (dk_at dksX0_still_1 22 rfl rfl)
theorem dX0_still_48 : decode cX0_still 48 = .ok (.aload_n 0, 1) := dk_42 (dk_at dksX0_still_2 0 rfl rfl)
theorem dX0_still_49 : decode cX0_still 49 = .ok (.iload_n 2, 1) := dk_28 (dk_at dksX0_still_2 1 rfl rfl)
theorem dX0_still_50 : decode cX0_still 50 = .ok (.putfield 53, 3) := dk_181 0 53 (dk_at dksX0_still_2 2 rfl rfl)
theorem dX0_still_53 : decode cX0_still 53 = .ok (.aload_n 0, 1) := dk_42 (dk_at dksX0_still_2 5 rfl rfl)
theorem dX0_still_54 : decode cX0_still 54 = .ok (.aload 4, 2) := dk_25 4 (dk_at dksX0_still_2 6 rfl rfl)
theorem dX0_still_56 : decode cX0_still 56 = .ok (.iload_n 3, 1) := dk_29 (dk_at dksX0_still_2 8 rfl rfl)
theorem dX0_still_57 : decode cX0_still 57 = .ok (.bipush 10, 2) := dk_16 10 (dk_at dksX0_still_2 9 rfl rfl)
theorem dX0_still_59 : decode cX0_still 59 = .ok (.idiv, 1) := dk_108 (dk_at dksX0_still_2 11 rfl rfl)
theorem dX0_still_60 : decode cX0_still 60 = .ok (.iload_n 3, 1) := dk_29 (dk_at dksX0_still_2 12 rfl rfl)
theorem dX0_still_61 : decode cX0_still 61 = .ok (.bipush 10, 2) := dk_16 10 (dk_at dksX0_still_2 13 rfl rfl)
theorem dX0_still_63 : decode cX0_still 63 = .ok (.irem, 1) := dk_112 (dk_at dksX0_still_2 15 rfl rfl)
theorem dX0_still_64 : decode cX0_still 64 = .ok (.invokevirtual 365, 3) := dk_182 1 109 (dk_at dksX0_still_2 16 rfl rfl)
theorem dX0_still_67 : decode cX0_still 67 = .ok (.istore 6, 2) := dk_54 6 (dk_at dksX0_still_2 19 rfl rfl)
theorem dX0_still_69 : decode cX0_still 69 = .ok (.aload_n 0, 1) := dk_42 (dk_at dksX0_still_2 21 rfl rfl)
theorem dX0_still_70 : decode cX0_still 70 = .ok (.iconst (-1), 1) := dk_2 (dk_at dksX0_still_2 22 rfl rfl)
theorem dX0_still_71 : decode cX0_still 71 = .ok (.putfield 53, 3) := dk_181 0 53 (dk_at dksX0_still_3 0 rfl rfl)
theorem dX0_still_74 : decode cX0_still 74 = .ok (.iload 5, 2) := dk_21 5 (dk_at dksX0_still_3 3 rfl rfl)
theorem dX0_still_76 : decode cX0_still 76 = .ok (.ifCond .le 14, 3) := dk_158 0 14 (dk_at dksX0_still_3 5 rfl rfl)
theorem dX0_still_79 : decode cX0_still 79 = .ok (.iload 6, 2) := dk_21 6 (dk_at dksX0_still_3 8 rfl rfl)
theorem dX0_still_81 : decode cX0_still 81 = .ok (.iload 5, 2) := dk_21 5 (dk_at dksX0_still_3 10 rfl rfl)
theorem dX0_still_83 : decode cX0_still 83 = .ok (.if_icmp .lt 7, 3) := dk_161 0 7 (dk_at dksX0_still_3 12 rfl rfl)
theorem dX0_still_86 : decode cX0_still 86 = .ok (.iconst 1, 1) := dk_4 (dk_at dksX0_still_3 15 rfl rfl)
theorem dX0_still_87 : decode cX0_still 87 = .ok (.goto 4, 3) := dk_167 0 4 (dk_at dksX0_still_3 16 rfl rfl)
theorem dX0_still_90 : decode cX0_still 90 = .ok (.iconst 0, 1) := dk_3 (dk_at dksX0_still_3 19 rfl rfl)
theorem dX0_still_91 : decode cX0_still 91 = .ok (.invokestatic 246, 3) := dk_184 0 246 (dk_at dksX0_still_3 20 rfl rfl)
theorem dX0_still_94 : decode cX0_still 94 = .ok (.ireturn, 1) := dk_172 (dk_at dksX0_still_3 23 rfl rfl)
abbrev cX0_split : ByteArray := prog_1_method_38_code
def yX0_split : MethodName := ⟨RX0, "split", "(IIII)I"⟩
def dkwX0_split_9 : List UInt8 := [79, 21, 8, 172]
abbrev dktX0_split_9 : List UInt8 := dkwX0_split_9 ++ []
def dkwX0_split_8 : List UInt8 := [167, 0, 4, 3, 184, 0, 246, 96, 54, 8, 132, 9, 1, 167, 255, 198, 25, 5, 180, 0, 239, 21, 6, 3]
abbrev dktX0_split_8 : List UInt8 := dkwX0_split_8 ++ dktX0_split_9
def dkwX0_split_7 : List UInt8 := [160, 0, 26, 42, 25, 5, 21, 9, 29, 182, 1, 123, 42, 180, 0, 57, 21, 9, 46, 159, 0, 7, 4]
abbrev dktX0_split_7 : List UInt8 := dkwX0_split_7 ++ dktX0_split_8
def dkwX0_split_6 : List UInt8 := [54, 9, 21, 9, 21, 7, 162, 0, 57, 21, 8, 42, 180, 0, 57, 21, 9, 46, 42, 180, 0, 57, 28, 46]
abbrev dktX0_split_6 : List UInt8 := dkwX0_split_6 ++ dktX0_split_7
def dkwX0_split_5 : List UInt8 := [132, 8, 1, 167, 255, 230, 25, 5, 180, 0, 239, 21, 6, 21, 4, 16, 10, 112, 79, 3, 54, 8, 3]
abbrev dktX0_split_5 : List UInt8 := dkwX0_split_5 ++ dktX0_split_6
def dkwX0_split_4 : List UInt8 := [21, 8, 21, 7, 162, 0, 25, 42, 180, 0, 57, 21, 8, 42, 25, 5, 21, 8, 29, 182, 1, 123, 79]
abbrev dktX0_split_4 : List UInt8 := dkwX0_split_4 ++ dktX0_split_5
def dkwX0_split_3 : List UInt8 := [25, 5, 180, 0, 239, 21, 6, 46, 158, 0, 6, 16, 252, 172, 25, 5, 182, 0, 230, 54, 7, 3, 54, 8]
abbrev dktX0_split_3 : List UInt8 := dkwX0_split_3 ++ dktX0_split_4
def dkwX0_split_2 : List UInt8 := [154, 0, 5, 2, 172, 21, 4, 16, 10, 108, 54, 6, 25, 5, 180, 0, 242, 21, 6, 51, 154, 0, 14]
abbrev dktX0_split_2 : List UInt8 := dkwX0_split_2 ++ dktX0_split_3
def dkwX0_split_1 : List UInt8 := [198, 0, 27, 29, 184, 1, 116, 153, 0, 20, 25, 5, 28, 184, 1, 119, 153, 0, 11, 21, 4, 16, 10, 112]
abbrev dktX0_split_1 : List UInt8 := dkwX0_split_1 ++ dktX0_split_2
def dkwX0_split_0 : List UInt8 := [21, 4, 156, 0, 7, 1, 167, 0, 13, 42, 27, 21, 4, 16, 10, 108, 182, 0, 250, 58, 5, 25, 5]
abbrev dktX0_split_0 : List UInt8 := dkwX0_split_0 ++ dktX0_split_1
theorem dksX0_split_0 : cX0_split.data.toList.drop 0 = dktX0_split_0 := by decide +kernel
theorem dksX0_split_1 : cX0_split.data.toList.drop 23 = dktX0_split_1 := dk_seg dksX0_split_0 23 rfl rfl
theorem dksX0_split_2 : cX0_split.data.toList.drop 47 = dktX0_split_2 := dk_seg dksX0_split_1 24 rfl rfl
theorem dksX0_split_3 : cX0_split.data.toList.drop 70 = dktX0_split_3 := dk_seg dksX0_split_2 23 rfl rfl
theorem dksX0_split_4 : cX0_split.data.toList.drop 94 = dktX0_split_4 := dk_seg dksX0_split_3 24 rfl rfl
theorem dksX0_split_5 : cX0_split.data.toList.drop 117 = dktX0_split_5 := dk_seg dksX0_split_4 23 rfl rfl
theorem dksX0_split_6 : cX0_split.data.toList.drop 140 = dktX0_split_6 := dk_seg dksX0_split_5 23 rfl rfl
theorem dksX0_split_7 : cX0_split.data.toList.drop 164 = dktX0_split_7 := dk_seg dksX0_split_6 24 rfl rfl
theorem dksX0_split_8 : cX0_split.data.toList.drop 187 = dktX0_split_8 := dk_seg dksX0_split_7 23 rfl rfl
theorem dksX0_split_9 : cX0_split.data.toList.drop 211 = dktX0_split_9 := dk_seg dksX0_split_8 24 rfl rfl
theorem dX0_split_0 : decode cX0_split 0 = .ok (.iload 4, 2) := dk_21 4 (dk_at dksX0_split_0 0 rfl rfl)
theorem dX0_split_2 : decode cX0_split 2 = .ok (.ifCond .ge 7, 3) := dk_156 0 7 (dk_at dksX0_split_0 2 rfl rfl)
theorem dX0_split_5 : decode cX0_split 5 = .ok (.aconst_null, 1) := dk_1 (dk_at dksX0_split_0 5 rfl rfl)
theorem dX0_split_6 : decode cX0_split 6 = .ok (.goto 13, 3) := dk_167 0 13 (dk_at dksX0_split_0 6 rfl rfl)
theorem dX0_split_9 : decode cX0_split 9 = .ok (.aload_n 0, 1) := dk_42 (dk_at dksX0_split_0 9 rfl rfl)
theorem dX0_split_10 : decode cX0_split 10 = .ok (.iload_n 1, 1) := dk_27 (dk_at dksX0_split_0 10 rfl rfl)
theorem dX0_split_11 : decode cX0_split 11 = .ok (.iload 4, 2) := dk_21 4 (dk_at dksX0_split_0 11 rfl rfl)
theorem dX0_split_13 : decode cX0_split 13 = .ok (.bipush 10, 2) := dk_16 10 (dk_at dksX0_split_0 13 rfl rfl)
theorem dX0_split_15 : decode cX0_split 15 = .ok (.idiv, 1) := dk_108 (dk_at dksX0_split_0 15 rfl rfl)
theorem dX0_split_16 : decode cX0_split 16 = .ok (.invokevirtual 250, 3) := dk_182 0 250 (dk_at dksX0_split_0 16 rfl rfl)
theorem dX0_split_19 : decode cX0_split 19 = .ok (.astore 5, 2) := dk_58 5 (dk_at dksX0_split_0 19 rfl rfl)
theorem dX0_split_21 : decode cX0_split 21 = .ok (.aload 5, 2) := dk_25 5 (dk_at dksX0_split_0 21 rfl rfl)
theorem dX0_split_23 : decode cX0_split 23 = .ok (.ifnull 27, 3) := dk_198 0 27 (dk_at dksX0_split_1 0 rfl rfl)
theorem dX0_split_26 : decode cX0_split 26 = .ok (.iload_n 3, 1) := dk_29 (dk_at dksX0_split_1 3 rfl rfl)
theorem dX0_split_27 : decode cX0_split 27 = .ok (.invokestatic 372, 3) := dk_184 1 116 (dk_at dksX0_split_1 4 rfl rfl)
theorem dX0_split_30 : decode cX0_split 30 = .ok (.ifCond .eq 20, 3) := dk_153 0 20 (dk_at dksX0_split_1 7 rfl rfl)
theorem dX0_split_33 : decode cX0_split 33 = .ok (.aload 5, 2) := dk_25 5 (dk_at dksX0_split_1 10 rfl rfl)
theorem dX0_split_35 : decode cX0_split 35 = .ok (.iload_n 2, 1) := dk_28 (dk_at dksX0_split_1 12 rfl rfl)
theorem dX0_split_36 : decode cX0_split 36 = .ok (.invokestatic 375, 3) := dk_184 1 119 (dk_at dksX0_split_1 13 rfl rfl)
theorem dX0_split_39 : decode cX0_split 39 = .ok (.ifCond .eq 11, 3) := dk_153 0 11 (dk_at dksX0_split_1 16 rfl rfl)
theorem dX0_split_42 : decode cX0_split 42 = .ok (.iload 4, 2) := dk_21 4 (dk_at dksX0_split_1 19 rfl rfl)
theorem dX0_split_44 : decode cX0_split 44 = .ok (.bipush 10, 2) := dk_16 10 (dk_at dksX0_split_1 21 rfl rfl)
theorem dX0_split_46 : decode cX0_split 46 = .ok (.irem, 1) := dk_112 (dk_at dksX0_split_1 23 rfl rfl)
theorem dX0_split_47 : decode cX0_split 47 = .ok (.ifCond .ne 5, 3) := dk_154 0 5 (dk_at dksX0_split_2 0 rfl rfl)
theorem dX0_split_50 : decode cX0_split 50 = .ok (.iconst (-1), 1) := dk_2 (dk_at dksX0_split_2 3 rfl rfl)
theorem dX0_split_51 : decode cX0_split 51 = .ok (.ireturn, 1) := dk_172 (dk_at dksX0_split_2 4 rfl rfl)
theorem dX0_split_52 : decode cX0_split 52 = .ok (.iload 4, 2) := dk_21 4 (dk_at dksX0_split_2 5 rfl rfl)
theorem dX0_split_54 : decode cX0_split 54 = .ok (.bipush 10, 2) := dk_16 10 (dk_at dksX0_split_2 7 rfl rfl)
theorem dX0_split_56 : decode cX0_split 56 = .ok (.idiv, 1) := dk_108 (dk_at dksX0_split_2 9 rfl rfl)
theorem dX0_split_57 : decode cX0_split 57 = .ok (.istore 6, 2) := dk_54 6 (dk_at dksX0_split_2 10 rfl rfl)
theorem dX0_split_59 : decode cX0_split 59 = .ok (.aload 5, 2) := dk_25 5 (dk_at dksX0_split_2 12 rfl rfl)
theorem dX0_split_61 : decode cX0_split 61 = .ok (.getfield 242, 3) := dk_180 0 242 (dk_at dksX0_split_2 14 rfl rfl)
theorem dX0_split_64 : decode cX0_split 64 = .ok (.iload 6, 2) := dk_21 6 (dk_at dksX0_split_2 17 rfl rfl)
theorem dX0_split_66 : decode cX0_split 66 = .ok (.baload, 1) := dk_51 (dk_at dksX0_split_2 19 rfl rfl)
theorem dX0_split_67 : decode cX0_split 67 = .ok (.ifCond .ne 14, 3) := dk_154 0 14 (dk_at dksX0_split_2 20 rfl rfl)
theorem dX0_split_70 : decode cX0_split 70 = .ok (.aload 5, 2) := dk_25 5 (dk_at dksX0_split_3 0 rfl rfl)
theorem dX0_split_72 : decode cX0_split 72 = .ok (.getfield 239, 3) := dk_180 0 239 (dk_at dksX0_split_3 2 rfl rfl)
theorem dX0_split_75 : decode cX0_split 75 = .ok (.iload 6, 2) := dk_21 6 (dk_at dksX0_split_3 5 rfl rfl)
theorem dX0_split_77 : decode cX0_split 77 = .ok (.iaload, 1) := dk_46 (dk_at dksX0_split_3 7 rfl rfl)
theorem dX0_split_78 : decode cX0_split 78 = .ok (.ifCond .le 6, 3) := dk_158 0 6 (dk_at dksX0_split_3 8 rfl rfl)
theorem dX0_split_81 : decode cX0_split 81 = .ok (.bipush (-4), 2) := dk_16 252 (dk_at dksX0_split_3 11 rfl rfl)
theorem dX0_split_83 : decode cX0_split 83 = .ok (.ireturn, 1) := dk_172 (dk_at dksX0_split_3 13 rfl rfl)
theorem dX0_split_84 : decode cX0_split 84 = .ok (.aload 5, 2) := dk_25 5 (dk_at dksX0_split_3 14 rfl rfl)
theorem dX0_split_86 : decode cX0_split 86 = .ok (.invokevirtual 230, 3) := dk_182 0 230 (dk_at dksX0_split_3 16 rfl rfl)
theorem dX0_split_89 : decode cX0_split 89 = .ok (.istore 7, 2) := dk_54 7 (dk_at dksX0_split_3 19 rfl rfl)
theorem dX0_split_91 : decode cX0_split 91 = .ok (.iconst 0, 1) := dk_3 (dk_at dksX0_split_3 21 rfl rfl)
theorem dX0_split_92 : decode cX0_split 92 = .ok (.istore 8, 2) := dk_54 8 (dk_at dksX0_split_3 22 rfl rfl)
theorem dX0_split_94 : decode cX0_split 94 = .ok (.iload 8, 2) := dk_21 8 (dk_at dksX0_split_4 0 rfl rfl)
theorem dX0_split_96 : decode cX0_split 96 = .ok (.iload 7, 2) := dk_21 7 (dk_at dksX0_split_4 2 rfl rfl)
theorem dX0_split_98 : decode cX0_split 98 = .ok (.if_icmp .ge 25, 3) := dk_162 0 25 (dk_at dksX0_split_4 4 rfl rfl)
theorem dX0_split_101 : decode cX0_split 101 = .ok (.aload_n 0, 1) := dk_42 (dk_at dksX0_split_4 7 rfl rfl)
theorem dX0_split_102 : decode cX0_split 102 = .ok (.getfield 57, 3) := dk_180 0 57 (dk_at dksX0_split_4 8 rfl rfl)
theorem dX0_split_105 : decode cX0_split 105 = .ok (.iload 8, 2) := dk_21 8 (dk_at dksX0_split_4 11 rfl rfl)
theorem dX0_split_107 : decode cX0_split 107 = .ok (.aload_n 0, 1) := dk_42 (dk_at dksX0_split_4 13 rfl rfl)
theorem dX0_split_108 : decode cX0_split 108 = .ok (.aload 5, 2) := dk_25 5 (dk_at dksX0_split_4 14 rfl rfl)
theorem dX0_split_110 : decode cX0_split 110 = .ok (.iload 8, 2) := dk_21 8 (dk_at dksX0_split_4 16 rfl rfl)
theorem dX0_split_112 : decode cX0_split 112 = .ok (.iload_n 3, 1) := dk_29 (dk_at dksX0_split_4 18 rfl rfl)
theorem dX0_split_113 : decode cX0_split 113 = .ok (.invokevirtual 379, 3) := dk_182 1 123 (dk_at dksX0_split_4 19 rfl rfl)
theorem dX0_split_116 : decode cX0_split 116 = .ok (.iastore, 1) := dk_79 (dk_at dksX0_split_4 22 rfl rfl)
theorem dX0_split_117 : decode cX0_split 117 = .ok (.iinc 8 1, 3) := dk_132 8 1 (dk_at dksX0_split_5 0 rfl rfl)
theorem dX0_split_120 : decode cX0_split 120 = .ok (.goto (-26), 3) := dk_167 255 230 (dk_at dksX0_split_5 3 rfl rfl)
theorem dX0_split_123 : decode cX0_split 123 = .ok (.aload 5, 2) := dk_25 5 (dk_at dksX0_split_5 6 rfl rfl)
theorem dX0_split_125 : decode cX0_split 125 = .ok (.getfield 239, 3) := dk_180 0 239 (dk_at dksX0_split_5 8 rfl rfl)
theorem dX0_split_128 : decode cX0_split 128 = .ok (.iload 6, 2) := dk_21 6 (dk_at dksX0_split_5 11 rfl rfl)
theorem dX0_split_130 : decode cX0_split 130 = .ok (.iload 4, 2) := dk_21 4 (dk_at dksX0_split_5 13 rfl rfl)
theorem dX0_split_132 : decode cX0_split 132 = .ok (.bipush 10, 2) := dk_16 10 (dk_at dksX0_split_5 15 rfl rfl)
theorem dX0_split_134 : decode cX0_split 134 = .ok (.irem, 1) := dk_112 (dk_at dksX0_split_5 17 rfl rfl)
theorem dX0_split_135 : decode cX0_split 135 = .ok (.iastore, 1) := dk_79 (dk_at dksX0_split_5 18 rfl rfl)
theorem dX0_split_136 : decode cX0_split 136 = .ok (.iconst 0, 1) := dk_3 (dk_at dksX0_split_5 19 rfl rfl)
theorem dX0_split_137 : decode cX0_split 137 = .ok (.istore 8, 2) := dk_54 8 (dk_at dksX0_split_5 20 rfl rfl)
theorem dX0_split_139 : decode cX0_split 139 = .ok (.iconst 0, 1) := dk_3 (dk_at dksX0_split_5 22 rfl rfl)
theorem dX0_split_140 : decode cX0_split 140 = .ok (.istore 9, 2) := dk_54 9 (dk_at dksX0_split_6 0 rfl rfl)
theorem dX0_split_142 : decode cX0_split 142 = .ok (.iload 9, 2) := dk_21 9 (dk_at dksX0_split_6 2 rfl rfl)
theorem dX0_split_144 : decode cX0_split 144 = .ok (.iload 7, 2) := dk_21 7 (dk_at dksX0_split_6 4 rfl rfl)
theorem dX0_split_146 : decode cX0_split 146 = .ok (.if_icmp .ge 57, 3) := dk_162 0 57 (dk_at dksX0_split_6 6 rfl rfl)
theorem dX0_split_149 : decode cX0_split 149 = .ok (.iload 8, 2) := dk_21 8 (dk_at dksX0_split_6 9 rfl rfl)
theorem dX0_split_151 : decode cX0_split 151 = .ok (.aload_n 0, 1) := dk_42 (dk_at dksX0_split_6 11 rfl rfl)
theorem dX0_split_152 : decode cX0_split 152 = .ok (.getfield 57, 3) := dk_180 0 57 (dk_at dksX0_split_6 12 rfl rfl)
theorem dX0_split_155 : decode cX0_split 155 = .ok (.iload 9, 2) := dk_21 9 (dk_at dksX0_split_6 15 rfl rfl)
theorem dX0_split_157 : decode cX0_split 157 = .ok (.iaload, 1) := dk_46 (dk_at dksX0_split_6 17 rfl rfl)
theorem dX0_split_158 : decode cX0_split 158 = .ok (.aload_n 0, 1) := dk_42 (dk_at dksX0_split_6 18 rfl rfl)
theorem dX0_split_159 : decode cX0_split 159 = .ok (.getfield 57, 3) := dk_180 0 57 (dk_at dksX0_split_6 19 rfl rfl)
theorem dX0_split_162 : decode cX0_split 162 = .ok (.iload_n 2, 1) := dk_28 (dk_at dksX0_split_6 22 rfl rfl)
theorem dX0_split_163 : decode cX0_split 163 = .ok (.iaload, 1) := dk_46 (dk_at dksX0_split_6 23 rfl rfl)
theorem dX0_split_164 : decode cX0_split 164 = .ok (.if_icmp .ne 26, 3) := dk_160 0 26 (dk_at dksX0_split_7 0 rfl rfl)
theorem dX0_split_167 : decode cX0_split 167 = .ok (.aload_n 0, 1) := dk_42 (dk_at dksX0_split_7 3 rfl rfl)
theorem dX0_split_168 : decode cX0_split 168 = .ok (.aload 5, 2) := dk_25 5 (dk_at dksX0_split_7 4 rfl rfl)
theorem dX0_split_170 : decode cX0_split 170 = .ok (.iload 9, 2) := dk_21 9 (dk_at dksX0_split_7 6 rfl rfl)
theorem dX0_split_172 : decode cX0_split 172 = .ok (.iload_n 3, 1) := dk_29 (dk_at dksX0_split_7 8 rfl rfl)
theorem dX0_split_173 : decode cX0_split 173 = .ok (.invokevirtual 379, 3) := dk_182 1 123 (dk_at dksX0_split_7 9 rfl rfl)
theorem dX0_split_176 : decode cX0_split 176 = .ok (.aload_n 0, 1) := dk_42 (dk_at dksX0_split_7 12 rfl rfl)
theorem dX0_split_177 : decode cX0_split 177 = .ok (.getfield 57, 3) := dk_180 0 57 (dk_at dksX0_split_7 13 rfl rfl)
theorem dX0_split_180 : decode cX0_split 180 = .ok (.iload 9, 2) := dk_21 9 (dk_at dksX0_split_7 16 rfl rfl)
theorem dX0_split_182 : decode cX0_split 182 = .ok (.iaload, 1) := dk_46 (dk_at dksX0_split_7 18 rfl rfl)
theorem dX0_split_183 : decode cX0_split 183 = .ok (.if_icmp .eq 7, 3) := dk_159 0 7 (dk_at dksX0_split_7 19 rfl rfl)
theorem dX0_split_186 : decode cX0_split 186 = .ok (.iconst 1, 1) := dk_4 (dk_at dksX0_split_7 22 rfl rfl)
theorem dX0_split_187 : decode cX0_split 187 = .ok (.goto 4, 3) := dk_167 0 4 (dk_at dksX0_split_8 0 rfl rfl)
theorem dX0_split_190 : decode cX0_split 190 = .ok (.iconst 0, 1) := dk_3 (dk_at dksX0_split_8 3 rfl rfl)
theorem dX0_split_191 : decode cX0_split 191 = .ok (.invokestatic 246, 3) := dk_184 0 246 (dk_at dksX0_split_8 4 rfl rfl)
theorem dX0_split_194 : decode cX0_split 194 = .ok (.iadd, 1) := dk_96 (dk_at dksX0_split_8 7 rfl rfl)
theorem dX0_split_195 : decode cX0_split 195 = .ok (.istore 8, 2) := dk_54 8 (dk_at dksX0_split_8 8 rfl rfl)
theorem dX0_split_197 : decode cX0_split 197 = .ok (.iinc 9 1, 3) := dk_132 9 1 (dk_at dksX0_split_8 10 rfl rfl)
theorem dX0_split_200 : decode cX0_split 200 = .ok (.goto (-58), 3) := dk_167 255 198 (dk_at dksX0_split_8 13 rfl rfl)
theorem dX0_split_203 : decode cX0_split 203 = .ok (.aload 5, 2) := dk_25 5 (dk_at dksX0_split_8 16 rfl rfl)
theorem dX0_split_205 : decode cX0_split 205 = .ok (.getfield 239, 3) := dk_180 0 239 (dk_at dksX0_split_8 18 rfl rfl)
theorem dX0_split_208 : decode cX0_split 208 = .ok (.iload 6, 2) := dk_21 6 (dk_at dksX0_split_8 21 rfl rfl)
theorem dX0_split_210 : decode cX0_split 210 = .ok (.iconst 0, 1) := dk_3 (dk_at dksX0_split_8 23 rfl rfl)
theorem dX0_split_211 : decode cX0_split 211 = .ok (.iastore, 1) := dk_79 (dk_at dksX0_split_9 0 rfl rfl)
theorem dX0_split_212 : decode cX0_split 212 = .ok (.iload 8, 2) := dk_21 8 (dk_at dksX0_split_9 1 rfl rfl)
theorem dX0_split_214 : decode cX0_split 214 = .ok (.ireturn, 1) := dk_172 (dk_at dksX0_split_9 3 rfl rfl)
abbrev cX0_bounds : ByteArray := prog_1_method_42_code
def yX0_bounds : MethodName := ⟨RX0, "bounds", "(IIIII)I"⟩
def dkwX0_bounds_8 : List UInt8 := [25, 6, 28, 29, 182, 1, 123, 54, 8, 42, 25, 6, 182, 1, 136, 21, 8, 172]
abbrev dktX0_bounds_8 : List UInt8 := dkwX0_bounds_8 ++ []
def dkwX0_bounds_7 : List UInt8 := [180, 0, 233, 21, 8, 46, 21, 7, 100, 4, 16, 9, 184, 1, 132, 79, 132, 8, 1, 167, 255, 218, 42]
abbrev dktX0_bounds_7 : List UInt8 := dkwX0_bounds_7 ++ dktX0_bounds_8
def dkwX0_bounds_6 : List UInt8 := [3, 54, 8, 21, 8, 25, 6, 180, 0, 226, 162, 0, 34, 25, 6, 180, 0, 233, 21, 8, 25, 6]
abbrev dktX0_bounds_6 : List UInt8 := dkwX0_bounds_6 ++ dktX0_bounds_7
def dkwX0_bounds_5 : List UInt8 := [25, 9, 25, 9, 180, 1, 8, 25, 9, 180, 0, 195, 184, 0, 180, 181, 1, 8, 132, 8, 1, 167, 255, 196]
abbrev dktX0_bounds_5 : List UInt8 := dkwX0_bounds_5 ++ dktX0_bounds_6
def dkwX0_bounds_4 : List UInt8 := [21, 8, 50, 58, 9, 25, 9, 25, 9, 180, 0, 195, 21, 7, 96, 4, 16, 9, 184, 1, 132, 181, 0, 195]
abbrev dktX0_bounds_4 : List UInt8 := dkwX0_bounds_4 ++ dktX0_bounds_5
def dkwX0_bounds_3 : List UInt8 := [25, 6, 182, 1, 128, 3, 54, 8, 21, 8, 25, 6, 180, 0, 229, 162, 0, 56, 25, 6, 180, 1, 61]
abbrev dktX0_bounds_3 : List UInt8 := dkwX0_bounds_3 ++ dktX0_bounds_4
def dkwX0_bounds_2 : List UInt8 := [184, 0, 152, 154, 0, 5, 2, 172, 21, 5, 154, 0, 9, 21, 4, 116, 167, 0, 5, 21, 4, 54, 7, 42]
abbrev dktX0_bounds_2 : List UInt8 := dkwX0_bounds_2 ++ dktX0_bounds_3
def dkwX0_bounds_1 : List UInt8 := [184, 1, 119, 153, 0, 27, 21, 4, 133, 9, 20, 1, 126, 184, 0, 152, 153, 0, 14, 21, 5, 133, 9, 10]
abbrev dktX0_bounds_1 : List UInt8 := dkwX0_bounds_1 ++ dktX0_bounds_2
def dkwX0_bounds_0 : List UInt8 := [42, 27, 182, 0, 201, 58, 6, 25, 6, 198, 0, 43, 29, 184, 1, 116, 153, 0, 36, 25, 6, 28]
abbrev dktX0_bounds_0 : List UInt8 := dkwX0_bounds_0 ++ dktX0_bounds_1
theorem dksX0_bounds_0 : cX0_bounds.data.toList.drop 0 = dktX0_bounds_0 := by decide +kernel
theorem dksX0_bounds_1 : cX0_bounds.data.toList.drop 22 = dktX0_bounds_1 := dk_seg dksX0_bounds_0 22 rfl rfl
theorem dksX0_bounds_2 : cX0_bounds.data.toList.drop 46 = dktX0_bounds_2 := dk_seg dksX0_bounds_1 24 rfl rfl
theorem dksX0_bounds_3 : cX0_bounds.data.toList.drop 70 = dktX0_bounds_3 := dk_seg dksX0_bounds_2 24 rfl rfl
theorem dksX0_bounds_4 : cX0_bounds.data.toList.drop 93 = dktX0_bounds_4 := dk_seg dksX0_bounds_3 23 rfl rfl
theorem dksX0_bounds_5 : cX0_bounds.data.toList.drop 117 = dktX0_bounds_5 := dk_seg dksX0_bounds_4 24 rfl rfl
theorem dksX0_bounds_6 : cX0_bounds.data.toList.drop 141 = dktX0_bounds_6 := dk_seg dksX0_bounds_5 24 rfl rfl
theorem dksX0_bounds_7 : cX0_bounds.data.toList.drop 163 = dktX0_bounds_7 := dk_seg dksX0_bounds_6 22 rfl rfl
theorem dksX0_bounds_8 : cX0_bounds.data.toList.drop 186 = dktX0_bounds_8 := dk_seg dksX0_bounds_7 23 rfl rfl
theorem dX0_bounds_0 : decode cX0_bounds 0 = .ok (.aload_n 0, 1) := dk_42 (dk_at dksX0_bounds_0 0 rfl rfl)
theorem dX0_bounds_1 : decode cX0_bounds 1 = .ok (.iload_n 1, 1) := dk_27 (dk_at dksX0_bounds_0 1 rfl rfl)
theorem dX0_bounds_2 : decode cX0_bounds 2 = .ok (.invokevirtual 201, 3) := dk_182 0 201 (dk_at dksX0_bounds_0 2 rfl rfl)
theorem dX0_bounds_5 : decode cX0_bounds 5 = .ok (.astore 6, 2) := dk_58 6 (dk_at dksX0_bounds_0 5 rfl rfl)
theorem dX0_bounds_7 : decode cX0_bounds 7 = .ok (.aload 6, 2) := dk_25 6 (dk_at dksX0_bounds_0 7 rfl rfl)
theorem dX0_bounds_9 : decode cX0_bounds 9 = .ok (.ifnull 43, 3) := dk_198 0 43 (dk_at dksX0_bounds_0 9 rfl rfl)
theorem dX0_bounds_12 : decode cX0_bounds 12 = .ok (.iload_n 3, 1) := dk_29 (dk_at dksX0_bounds_0 12 rfl rfl)
theorem dX0_bounds_13 : decode cX0_bounds 13 = .ok (.invokestatic 372, 3) := dk_184 1 116 (dk_at dksX0_bounds_0 13 rfl rfl)
theorem dX0_bounds_16 : decode cX0_bounds 16 = .ok (.ifCond .eq 36, 3) := dk_153 0 36 (dk_at dksX0_bounds_0 16 rfl rfl)
theorem dX0_bounds_19 : decode cX0_bounds 19 = .ok (.aload 6, 2) := dk_25 6 (dk_at dksX0_bounds_0 19 rfl rfl)
theorem dX0_bounds_21 : decode cX0_bounds 21 = .ok (.iload_n 2, 1) := dk_28 (dk_at dksX0_bounds_0 21 rfl rfl)
theorem dX0_bounds_22 : decode cX0_bounds 22 = .ok (.invokestatic 375, 3) := dk_184 1 119 (dk_at dksX0_bounds_1 0 rfl rfl)
theorem dX0_bounds_25 : decode cX0_bounds 25 = .ok (.ifCond .eq 27, 3) := dk_153 0 27 (dk_at dksX0_bounds_1 3 rfl rfl)
theorem dX0_bounds_28 : decode cX0_bounds 28 = .ok (.iload 4, 2) := dk_21 4 (dk_at dksX0_bounds_1 6 rfl rfl)
theorem dX0_bounds_30 : decode cX0_bounds 30 = .ok (.i2l, 1) := dk_133 (dk_at dksX0_bounds_1 8 rfl rfl)
theorem dX0_bounds_31 : decode cX0_bounds 31 = .ok (.lconst 0, 1) := dk_9 (dk_at dksX0_bounds_1 9 rfl rfl)
theorem dX0_bounds_32 : decode cX0_bounds 32 = .ok (.ldc2_w 382, 3) := dk_20 1 126 (dk_at dksX0_bounds_1 10 rfl rfl)
theorem dX0_bounds_35 : decode cX0_bounds 35 = .ok (.invokestatic 152, 3) := dk_184 0 152 (dk_at dksX0_bounds_1 13 rfl rfl)
theorem dX0_bounds_38 : decode cX0_bounds 38 = .ok (.ifCond .eq 14, 3) := dk_153 0 14 (dk_at dksX0_bounds_1 16 rfl rfl)
theorem dX0_bounds_41 : decode cX0_bounds 41 = .ok (.iload 5, 2) := dk_21 5 (dk_at dksX0_bounds_1 19 rfl rfl)
theorem dX0_bounds_43 : decode cX0_bounds 43 = .ok (.i2l, 1) := dk_133 (dk_at dksX0_bounds_1 21 rfl rfl)
theorem dX0_bounds_44 : decode cX0_bounds 44 = .ok (.lconst 0, 1) := dk_9 (dk_at dksX0_bounds_1 22 rfl rfl)
theorem dX0_bounds_45 : decode cX0_bounds 45 = .ok (.lconst 1, 1) := dk_10 (dk_at dksX0_bounds_1 23 rfl rfl)
theorem dX0_bounds_46 : decode cX0_bounds 46 = .ok (.invokestatic 152, 3) := dk_184 0 152 (dk_at dksX0_bounds_2 0 rfl rfl)
theorem dX0_bounds_49 : decode cX0_bounds 49 = .ok (.ifCond .ne 5, 3) := dk_154 0 5 (dk_at dksX0_bounds_2 3 rfl rfl)
theorem dX0_bounds_52 : decode cX0_bounds 52 = .ok (.iconst (-1), 1) := dk_2 (dk_at dksX0_bounds_2 6 rfl rfl)
theorem dX0_bounds_53 : decode cX0_bounds 53 = .ok (.ireturn, 1) := dk_172 (dk_at dksX0_bounds_2 7 rfl rfl)
theorem dX0_bounds_54 : decode cX0_bounds 54 = .ok (.iload 5, 2) := dk_21 5 (dk_at dksX0_bounds_2 8 rfl rfl)
theorem dX0_bounds_56 : decode cX0_bounds 56 = .ok (.ifCond .ne 9, 3) := dk_154 0 9 (dk_at dksX0_bounds_2 10 rfl rfl)
theorem dX0_bounds_59 : decode cX0_bounds 59 = .ok (.iload 4, 2) := dk_21 4 (dk_at dksX0_bounds_2 13 rfl rfl)
theorem dX0_bounds_61 : decode cX0_bounds 61 = .ok (.ineg, 1) := dk_116 (dk_at dksX0_bounds_2 15 rfl rfl)
theorem dX0_bounds_62 : decode cX0_bounds 62 = .ok (.goto 5, 3) := dk_167 0 5 (dk_at dksX0_bounds_2 16 rfl rfl)
theorem dX0_bounds_65 : decode cX0_bounds 65 = .ok (.iload 4, 2) := dk_21 4 (dk_at dksX0_bounds_2 19 rfl rfl)
theorem dX0_bounds_67 : decode cX0_bounds 67 = .ok (.istore 7, 2) := dk_54 7 (dk_at dksX0_bounds_2 21 rfl rfl)
theorem dX0_bounds_69 : decode cX0_bounds 69 = .ok (.aload_n 0, 1) := dk_42 (dk_at dksX0_bounds_2 23 rfl rfl)
theorem dX0_bounds_70 : decode cX0_bounds 70 = .ok (.aload 6, 2) := dk_25 6 (dk_at dksX0_bounds_3 0 rfl rfl)
theorem dX0_bounds_72 : decode cX0_bounds 72 = .ok (.invokevirtual 384, 3) := dk_182 1 128 (dk_at dksX0_bounds_3 2 rfl rfl)
theorem dX0_bounds_75 : decode cX0_bounds 75 = .ok (.iconst 0, 1) := dk_3 (dk_at dksX0_bounds_3 5 rfl rfl)
theorem dX0_bounds_76 : decode cX0_bounds 76 = .ok (.istore 8, 2) := dk_54 8 (dk_at dksX0_bounds_3 6 rfl rfl)
theorem dX0_bounds_78 : decode cX0_bounds 78 = .ok (.iload 8, 2) := dk_21 8 (dk_at dksX0_bounds_3 8 rfl rfl)
theorem dX0_bounds_80 : decode cX0_bounds 80 = .ok (.aload 6, 2) := dk_25 6 (dk_at dksX0_bounds_3 10 rfl rfl)
theorem dX0_bounds_82 : decode cX0_bounds 82 = .ok (.getfield 229, 3) := dk_180 0 229 (dk_at dksX0_bounds_3 12 rfl rfl)
theorem dX0_bounds_85 : decode cX0_bounds 85 = .ok (.if_icmp .ge 56, 3) := dk_162 0 56 (dk_at dksX0_bounds_3 15 rfl rfl)
theorem dX0_bounds_88 : decode cX0_bounds 88 = .ok (.aload 6, 2) := dk_25 6 (dk_at dksX0_bounds_3 18 rfl rfl)
theorem dX0_bounds_90 : decode cX0_bounds 90 = .ok (.getfield 317, 3) := dk_180 1 61 (dk_at dksX0_bounds_3 20 rfl rfl)
theorem dX0_bounds_93 : decode cX0_bounds 93 = .ok (.iload 8, 2) := dk_21 8 (dk_at dksX0_bounds_4 0 rfl rfl)
theorem dX0_bounds_95 : decode cX0_bounds 95 = .ok (.aaload, 1) := dk_50 (dk_at dksX0_bounds_4 2 rfl rfl)
theorem dX0_bounds_96 : decode cX0_bounds 96 = .ok (.astore 9, 2) := dk_58 9 (dk_at dksX0_bounds_4 3 rfl rfl)
theorem dX0_bounds_98 : decode cX0_bounds 98 = .ok (.aload 9, 2) := dk_25 9 (dk_at dksX0_bounds_4 5 rfl rfl)
theorem dX0_bounds_100 : decode cX0_bounds 100 = .ok (.aload 9, 2) := dk_25 9 (dk_at dksX0_bounds_4 7 rfl rfl)
theorem dX0_bounds_102 : decode cX0_bounds 102 = .ok (.getfield 195, 3) := dk_180 0 195 (dk_at dksX0_bounds_4 9 rfl rfl)
theorem dX0_bounds_105 : decode cX0_bounds 105 = .ok (.iload 7, 2) := dk_21 7 (dk_at dksX0_bounds_4 12 rfl rfl)
theorem dX0_bounds_107 : decode cX0_bounds 107 = .ok (.iadd, 1) := dk_96 (dk_at dksX0_bounds_4 14 rfl rfl)
theorem dX0_bounds_108 : decode cX0_bounds 108 = .ok (.iconst 1, 1) := dk_4 (dk_at dksX0_bounds_4 15 rfl rfl)
theorem dX0_bounds_109 : decode cX0_bounds 109 = .ok (.bipush 9, 2) := dk_16 9 (dk_at dksX0_bounds_4 16 rfl rfl)
theorem dX0_bounds_111 : decode cX0_bounds 111 = .ok (.invokestatic 388, 3) := dk_184 1 132 (dk_at dksX0_bounds_4 18 rfl rfl)
theorem dX0_bounds_114 : decode cX0_bounds 114 = .ok (.putfield 195, 3) := dk_181 0 195 (dk_at dksX0_bounds_4 21 rfl rfl)
theorem dX0_bounds_117 : decode cX0_bounds 117 = .ok (.aload 9, 2) := dk_25 9 (dk_at dksX0_bounds_5 0 rfl rfl)
theorem dX0_bounds_119 : decode cX0_bounds 119 = .ok (.aload 9, 2) := dk_25 9 (dk_at dksX0_bounds_5 2 rfl rfl)
theorem dX0_bounds_121 : decode cX0_bounds 121 = .ok (.getfield 264, 3) := dk_180 1 8 (dk_at dksX0_bounds_5 4 rfl rfl)
theorem dX0_bounds_124 : decode cX0_bounds 124 = .ok (.aload 9, 2) := dk_25 9 (dk_at dksX0_bounds_5 7 rfl rfl)
theorem dX0_bounds_126 : decode cX0_bounds 126 = .ok (.getfield 195, 3) := dk_180 0 195 (dk_at dksX0_bounds_5 9 rfl rfl)
theorem dX0_bounds_129 : decode cX0_bounds 129 = .ok (.invokestatic 180, 3) := dk_184 0 180 (dk_at dksX0_bounds_5 12 rfl rfl)
theorem dX0_bounds_132 : decode cX0_bounds 132 = .ok (.putfield 264, 3) := dk_181 1 8 (dk_at dksX0_bounds_5 15 rfl rfl)
theorem dX0_bounds_135 : decode cX0_bounds 135 = .ok (.iinc 8 1, 3) := dk_132 8 1 (dk_at dksX0_bounds_5 18 rfl rfl)
theorem dX0_bounds_138 : decode cX0_bounds 138 = .ok (.goto (-60), 3) := dk_167 255 196 (dk_at dksX0_bounds_5 21 rfl rfl)
theorem dX0_bounds_141 : decode cX0_bounds 141 = .ok (.iconst 0, 1) := dk_3 (dk_at dksX0_bounds_6 0 rfl rfl)
theorem dX0_bounds_142 : decode cX0_bounds 142 = .ok (.istore 8, 2) := dk_54 8 (dk_at dksX0_bounds_6 1 rfl rfl)
theorem dX0_bounds_144 : decode cX0_bounds 144 = .ok (.iload 8, 2) := dk_21 8 (dk_at dksX0_bounds_6 3 rfl rfl)
theorem dX0_bounds_146 : decode cX0_bounds 146 = .ok (.aload 6, 2) := dk_25 6 (dk_at dksX0_bounds_6 5 rfl rfl)
theorem dX0_bounds_148 : decode cX0_bounds 148 = .ok (.getfield 226, 3) := dk_180 0 226 (dk_at dksX0_bounds_6 7 rfl rfl)
theorem dX0_bounds_151 : decode cX0_bounds 151 = .ok (.if_icmp .ge 34, 3) := dk_162 0 34 (dk_at dksX0_bounds_6 10 rfl rfl)
theorem dX0_bounds_154 : decode cX0_bounds 154 = .ok (.aload 6, 2) := dk_25 6 (dk_at dksX0_bounds_6 13 rfl rfl)
theorem dX0_bounds_156 : decode cX0_bounds 156 = .ok (.getfield 233, 3) := dk_180 0 233 (dk_at dksX0_bounds_6 15 rfl rfl)
theorem dX0_bounds_159 : decode cX0_bounds 159 = .ok (.iload 8, 2) := dk_21 8 (dk_at dksX0_bounds_6 18 rfl rfl)
theorem dX0_bounds_161 : decode cX0_bounds 161 = .ok (.aload 6, 2) := dk_25 6 (dk_at dksX0_bounds_6 20 rfl rfl)
theorem dX0_bounds_163 : decode cX0_bounds 163 = .ok (.getfield 233, 3) := dk_180 0 233 (dk_at dksX0_bounds_7 0 rfl rfl)
theorem dX0_bounds_166 : decode cX0_bounds 166 = .ok (.iload 8, 2) := dk_21 8 (dk_at dksX0_bounds_7 3 rfl rfl)
theorem dX0_bounds_168 : decode cX0_bounds 168 = .ok (.iaload, 1) := dk_46 (dk_at dksX0_bounds_7 5 rfl rfl)
theorem dX0_bounds_169 : decode cX0_bounds 169 = .ok (.iload 7, 2) := dk_21 7 (dk_at dksX0_bounds_7 6 rfl rfl)
theorem dX0_bounds_171 : decode cX0_bounds 171 = .ok (.isub, 1) := dk_100 (dk_at dksX0_bounds_7 8 rfl rfl)
theorem dX0_bounds_172 : decode cX0_bounds 172 = .ok (.iconst 1, 1) := dk_4 (dk_at dksX0_bounds_7 9 rfl rfl)
theorem dX0_bounds_173 : decode cX0_bounds 173 = .ok (.bipush 9, 2) := dk_16 9 (dk_at dksX0_bounds_7 10 rfl rfl)
theorem dX0_bounds_175 : decode cX0_bounds 175 = .ok (.invokestatic 388, 3) := dk_184 1 132 (dk_at dksX0_bounds_7 12 rfl rfl)
theorem dX0_bounds_178 : decode cX0_bounds 178 = .ok (.iastore, 1) := dk_79 (dk_at dksX0_bounds_7 15 rfl rfl)
theorem dX0_bounds_179 : decode cX0_bounds 179 = .ok (.iinc 8 1, 3) := dk_132 8 1 (dk_at dksX0_bounds_7 16 rfl rfl)
theorem dX0_bounds_182 : decode cX0_bounds 182 = .ok (.goto (-38), 3) := dk_167 255 218 (dk_at dksX0_bounds_7 19 rfl rfl)
theorem dX0_bounds_185 : decode cX0_bounds 185 = .ok (.aload_n 0, 1) := dk_42 (dk_at dksX0_bounds_7 22 rfl rfl)
theorem dX0_bounds_186 : decode cX0_bounds 186 = .ok (.aload 6, 2) := dk_25 6 (dk_at dksX0_bounds_8 0 rfl rfl)
theorem dX0_bounds_188 : decode cX0_bounds 188 = .ok (.iload_n 2, 1) := dk_28 (dk_at dksX0_bounds_8 2 rfl rfl)
theorem dX0_bounds_189 : decode cX0_bounds 189 = .ok (.iload_n 3, 1) := dk_29 (dk_at dksX0_bounds_8 3 rfl rfl)
theorem dX0_bounds_190 : decode cX0_bounds 190 = .ok (.invokevirtual 379, 3) := dk_182 1 123 (dk_at dksX0_bounds_8 4 rfl rfl)
theorem dX0_bounds_193 : decode cX0_bounds 193 = .ok (.istore 8, 2) := dk_54 8 (dk_at dksX0_bounds_8 7 rfl rfl)
theorem dX0_bounds_195 : decode cX0_bounds 195 = .ok (.aload_n 0, 1) := dk_42 (dk_at dksX0_bounds_8 9 rfl rfl)
theorem dX0_bounds_196 : decode cX0_bounds 196 = .ok (.aload 6, 2) := dk_25 6 (dk_at dksX0_bounds_8 10 rfl rfl)
theorem dX0_bounds_198 : decode cX0_bounds 198 = .ok (.invokevirtual 392, 3) := dk_182 1 136 (dk_at dksX0_bounds_8 12 rfl rfl)
theorem dX0_bounds_201 : decode cX0_bounds 201 = .ok (.iload 8, 2) := dk_21 8 (dk_at dksX0_bounds_8 15 rfl rfl)
theorem dX0_bounds_203 : decode cX0_bounds 203 = .ok (.ireturn, 1) := dk_172 (dk_at dksX0_bounds_8 17 rfl rfl)
abbrev cX0_save : ByteArray := prog_1_method_39_code
def yX0_save : MethodName := ⟨RX0, "save", "(LPlatesSing$Shape;)V"⟩
def dkwX0_save_3 : List UInt8 := [167, 255, 233, 177]
abbrev dktX0_save_3 : List UInt8 := dkwX0_save_3 ++ []
def dkwX0_save_2 : List UInt8 := [28, 43, 180, 0, 226, 162, 0, 21, 42, 180, 0, 66, 28, 43, 180, 0, 233, 28, 46, 79, 132, 2, 1]
abbrev dktX0_save_2 : List UInt8 := dkwX0_save_2 ++ dktX0_save_3
def dkwX0_save_1 : List UInt8 := [79, 42, 180, 0, 63, 28, 43, 180, 1, 61, 28, 50, 180, 1, 8, 79, 132, 2, 1, 167, 255, 215, 3, 61]
abbrev dktX0_save_1 : List UInt8 := dkwX0_save_1 ++ dktX0_save_2
def dkwX0_save_0 : List UInt8 := [3, 61, 28, 43, 180, 0, 229, 162, 0, 39, 42, 180, 0, 60, 28, 43, 180, 1, 61, 28, 50, 180, 0, 195]
abbrev dktX0_save_0 : List UInt8 := dkwX0_save_0 ++ dktX0_save_1
theorem dksX0_save_0 : cX0_save.data.toList.drop 0 = dktX0_save_0 := by decide +kernel
theorem dksX0_save_1 : cX0_save.data.toList.drop 24 = dktX0_save_1 := dk_seg dksX0_save_0 24 rfl rfl
theorem dksX0_save_2 : cX0_save.data.toList.drop 48 = dktX0_save_2 := dk_seg dksX0_save_1 24 rfl rfl
theorem dksX0_save_3 : cX0_save.data.toList.drop 71 = dktX0_save_3 := dk_seg dksX0_save_2 23 rfl rfl
theorem dX0_save_0 : decode cX0_save 0 = .ok (.iconst 0, 1) := dk_3 (dk_at dksX0_save_0 0 rfl rfl)
theorem dX0_save_1 : decode cX0_save 1 = .ok (.istore_n 2, 1) := dk_61 (dk_at dksX0_save_0 1 rfl rfl)
theorem dX0_save_2 : decode cX0_save 2 = .ok (.iload_n 2, 1) := dk_28 (dk_at dksX0_save_0 2 rfl rfl)
theorem dX0_save_3 : decode cX0_save 3 = .ok (.aload_n 1, 1) := dk_43 (dk_at dksX0_save_0 3 rfl rfl)
theorem dX0_save_4 : decode cX0_save 4 = .ok (.getfield 229, 3) := dk_180 0 229 (dk_at dksX0_save_0 4 rfl rfl)
theorem dX0_save_7 : decode cX0_save 7 = .ok (.if_icmp .ge 39, 3) := dk_162 0 39 (dk_at dksX0_save_0 7 rfl rfl)
theorem dX0_save_10 : decode cX0_save 10 = .ok (.aload_n 0, 1) := dk_42 (dk_at dksX0_save_0 10 rfl rfl)
theorem dX0_save_11 : decode cX0_save 11 = .ok (.getfield 60, 3) := dk_180 0 60 (dk_at dksX0_save_0 11 rfl rfl)
theorem dX0_save_14 : decode cX0_save 14 = .ok (.iload_n 2, 1) := dk_28 (dk_at dksX0_save_0 14 rfl rfl)
theorem dX0_save_15 : decode cX0_save 15 = .ok (.aload_n 1, 1) := dk_43 (dk_at dksX0_save_0 15 rfl rfl)
theorem dX0_save_16 : decode cX0_save 16 = .ok (.getfield 317, 3) := dk_180 1 61 (dk_at dksX0_save_0 16 rfl rfl)
theorem dX0_save_19 : decode cX0_save 19 = .ok (.iload_n 2, 1) := dk_28 (dk_at dksX0_save_0 19 rfl rfl)
theorem dX0_save_20 : decode cX0_save 20 = .ok (.aaload, 1) := dk_50 (dk_at dksX0_save_0 20 rfl rfl)
theorem dX0_save_21 : decode cX0_save 21 = .ok (.getfield 195, 3) := dk_180 0 195 (dk_at dksX0_save_0 21 rfl rfl)
theorem dX0_save_24 : decode cX0_save 24 = .ok (.iastore, 1) := dk_79 (dk_at dksX0_save_1 0 rfl rfl)
theorem dX0_save_25 : decode cX0_save 25 = .ok (.aload_n 0, 1) := dk_42 (dk_at dksX0_save_1 1 rfl rfl)
theorem dX0_save_26 : decode cX0_save 26 = .ok (.getfield 63, 3) := dk_180 0 63 (dk_at dksX0_save_1 2 rfl rfl)
theorem dX0_save_29 : decode cX0_save 29 = .ok (.iload_n 2, 1) := dk_28 (dk_at dksX0_save_1 5 rfl rfl)
theorem dX0_save_30 : decode cX0_save 30 = .ok (.aload_n 1, 1) := dk_43 (dk_at dksX0_save_1 6 rfl rfl)
theorem dX0_save_31 : decode cX0_save 31 = .ok (.getfield 317, 3) := dk_180 1 61 (dk_at dksX0_save_1 7 rfl rfl)
theorem dX0_save_34 : decode cX0_save 34 = .ok (.iload_n 2, 1) := dk_28 (dk_at dksX0_save_1 10 rfl rfl)
theorem dX0_save_35 : decode cX0_save 35 = .ok (.aaload, 1) := dk_50 (dk_at dksX0_save_1 11 rfl rfl)
theorem dX0_save_36 : decode cX0_save 36 = .ok (.getfield 264, 3) := dk_180 1 8 (dk_at dksX0_save_1 12 rfl rfl)
theorem dX0_save_39 : decode cX0_save 39 = .ok (.iastore, 1) := dk_79 (dk_at dksX0_save_1 15 rfl rfl)
theorem dX0_save_40 : decode cX0_save 40 = .ok (.iinc 2 1, 3) := dk_132 2 1 (dk_at dksX0_save_1 16 rfl rfl)
theorem dX0_save_43 : decode cX0_save 43 = .ok (.goto (-41), 3) := dk_167 255 215 (dk_at dksX0_save_1 19 rfl rfl)
theorem dX0_save_46 : decode cX0_save 46 = .ok (.iconst 0, 1) := dk_3 (dk_at dksX0_save_1 22 rfl rfl)
theorem dX0_save_47 : decode cX0_save 47 = .ok (.istore_n 2, 1) := dk_61 (dk_at dksX0_save_1 23 rfl rfl)
theorem dX0_save_48 : decode cX0_save 48 = .ok (.iload_n 2, 1) := dk_28 (dk_at dksX0_save_2 0 rfl rfl)
theorem dX0_save_49 : decode cX0_save 49 = .ok (.aload_n 1, 1) := dk_43 (dk_at dksX0_save_2 1 rfl rfl)
theorem dX0_save_50 : decode cX0_save 50 = .ok (.getfield 226, 3) := dk_180 0 226 (dk_at dksX0_save_2 2 rfl rfl)
theorem dX0_save_53 : decode cX0_save 53 = .ok (.if_icmp .ge 21, 3) := dk_162 0 21 (dk_at dksX0_save_2 5 rfl rfl)
theorem dX0_save_56 : decode cX0_save 56 = .ok (.aload_n 0, 1) := dk_42 (dk_at dksX0_save_2 8 rfl rfl)
theorem dX0_save_57 : decode cX0_save 57 = .ok (.getfield 66, 3) := dk_180 0 66 (dk_at dksX0_save_2 9 rfl rfl)
theorem dX0_save_60 : decode cX0_save 60 = .ok (.iload_n 2, 1) := dk_28 (dk_at dksX0_save_2 12 rfl rfl)
theorem dX0_save_61 : decode cX0_save 61 = .ok (.aload_n 1, 1) := dk_43 (dk_at dksX0_save_2 13 rfl rfl)
theorem dX0_save_62 : decode cX0_save 62 = .ok (.getfield 233, 3) := dk_180 0 233 (dk_at dksX0_save_2 14 rfl rfl)
theorem dX0_save_65 : decode cX0_save 65 = .ok (.iload_n 2, 1) := dk_28 (dk_at dksX0_save_2 17 rfl rfl)
theorem dX0_save_66 : decode cX0_save 66 = .ok (.iaload, 1) := dk_46 (dk_at dksX0_save_2 18 rfl rfl)
theorem dX0_save_67 : decode cX0_save 67 = .ok (.iastore, 1) := dk_79 (dk_at dksX0_save_2 19 rfl rfl)
theorem dX0_save_68 : decode cX0_save 68 = .ok (.iinc 2 1, 3) := dk_132 2 1 (dk_at dksX0_save_2 20 rfl rfl)
theorem dX0_save_71 : decode cX0_save 71 = .ok (.goto (-23), 3) := dk_167 255 233 (dk_at dksX0_save_3 0 rfl rfl)
theorem dX0_save_74 : decode cX0_save 74 = .ok (.return_, 1) := dk_177 (dk_at dksX0_save_3 3 rfl rfl)
abbrev cX0_held : ByteArray := prog_1_method_41_code
def yX0_held : MethodName := ⟨RX0, "held", "(III)I"⟩
def dkwX0_held_0 : List UInt8 := [27, 28, 26, 184, 0, 180, 184, 0, 189, 172]
abbrev dktX0_held_0 : List UInt8 := dkwX0_held_0 ++ []
theorem dksX0_held_0 : cX0_held.data.toList.drop 0 = dktX0_held_0 := by decide +kernel
theorem dX0_held_0 : decode cX0_held 0 = .ok (.iload_n 1, 1) := dk_27 (dk_at dksX0_held_0 0 rfl rfl)
theorem dX0_held_1 : decode cX0_held 1 = .ok (.iload_n 2, 1) := dk_28 (dk_at dksX0_held_0 1 rfl rfl)
theorem dX0_held_2 : decode cX0_held 2 = .ok (.iload_n 0, 1) := dk_26 (dk_at dksX0_held_0 2 rfl rfl)
theorem dX0_held_3 : decode cX0_held 3 = .ok (.invokestatic 180, 3) := dk_184 0 180 (dk_at dksX0_held_0 3 rfl rfl)
theorem dX0_held_6 : decode cX0_held 6 = .ok (.invokestatic 189, 3) := dk_184 0 189 (dk_at dksX0_held_0 6 rfl rfl)
theorem dX0_held_9 : decode cX0_held 9 = .ok (.ireturn, 1) := dk_172 (dk_at dksX0_held_0 9 rfl rfl)
abbrev cX0_putBack : ByteArray := prog_1_method_40_code
def yX0_putBack : MethodName := ⟨RX0, "putBack", "(LPlatesSing$Shape;)V"⟩
def dkwX0_putBack_3 : List UInt8 := [132, 2, 1, 167, 255, 233, 177]
abbrev dktX0_putBack_3 : List UInt8 := dkwX0_putBack_3 ++ []
def dkwX0_putBack_2 : List UInt8 := [3, 61, 28, 43, 180, 0, 226, 162, 0, 21, 43, 180, 0, 233, 28, 42, 180, 0, 66, 28, 46, 79]
abbrev dktX0_putBack_2 : List UInt8 := dkwX0_putBack_2 ++ dktX0_putBack_3
def dkwX0_putBack_1 : List UInt8 := [181, 0, 195, 43, 180, 1, 61, 28, 50, 42, 180, 0, 63, 28, 46, 181, 1, 8, 132, 2, 1, 167, 255, 215]
abbrev dktX0_putBack_1 : List UInt8 := dkwX0_putBack_1 ++ dktX0_putBack_2
def dkwX0_putBack_0 : List UInt8 := [3, 61, 28, 43, 180, 0, 229, 162, 0, 39, 43, 180, 1, 61, 28, 50, 42, 180, 0, 60, 28, 46]
abbrev dktX0_putBack_0 : List UInt8 := dkwX0_putBack_0 ++ dktX0_putBack_1
theorem dksX0_putBack_0 : cX0_putBack.data.toList.drop 0 = dktX0_putBack_0 := by decide +kernel
theorem dksX0_putBack_1 : cX0_putBack.data.toList.drop 22 = dktX0_putBack_1 := dk_seg dksX0_putBack_0 22 rfl rfl
theorem dksX0_putBack_2 : cX0_putBack.data.toList.drop 46 = dktX0_putBack_2 := dk_seg dksX0_putBack_1 24 rfl rfl
theorem dksX0_putBack_3 : cX0_putBack.data.toList.drop 68 = dktX0_putBack_3 := dk_seg dksX0_putBack_2 22 rfl rfl
theorem dX0_putBack_0 : decode cX0_putBack 0 = .ok (.iconst 0, 1) := dk_3 (dk_at dksX0_putBack_0 0 rfl rfl)
theorem dX0_putBack_1 : decode cX0_putBack 1 = .ok (.istore_n 2, 1) := dk_61 (dk_at dksX0_putBack_0 1 rfl rfl)
theorem dX0_putBack_2 : decode cX0_putBack 2 = .ok (.iload_n 2, 1) := dk_28 (dk_at dksX0_putBack_0 2 rfl rfl)
theorem dX0_putBack_3 : decode cX0_putBack 3 = .ok (.aload_n 1, 1) := dk_43 (dk_at dksX0_putBack_0 3 rfl rfl)
theorem dX0_putBack_4 : decode cX0_putBack 4 = .ok (.getfield 229, 3) := dk_180 0 229 (dk_at dksX0_putBack_0 4 rfl rfl)
theorem dX0_putBack_7 : decode cX0_putBack 7 = .ok (.if_icmp .ge 39, 3) := dk_162 0 39 (dk_at dksX0_putBack_0 7 rfl rfl)
theorem dX0_putBack_10 : decode cX0_putBack 10 = .ok (.aload_n 1, 1) := dk_43 (dk_at dksX0_putBack_0 10 rfl rfl)
theorem dX0_putBack_11 : decode cX0_putBack 11 = .ok (.getfield 317, 3) := dk_180 1 61 (dk_at dksX0_putBack_0 11 rfl rfl)
theorem dX0_putBack_14 : decode cX0_putBack 14 = .ok (.iload_n 2, 1) := dk_28 (dk_at dksX0_putBack_0 14 rfl rfl)
theorem dX0_putBack_15 : decode cX0_putBack 15 = .ok (.aaload, 1) := dk_50 (dk_at dksX0_putBack_0 15 rfl rfl)
theorem dX0_putBack_16 : decode cX0_putBack 16 = .ok (.aload_n 0, 1) := dk_42 (dk_at dksX0_putBack_0 16 rfl rfl)
theorem dX0_putBack_17 : decode cX0_putBack 17 = .ok (.getfield 60, 3) := dk_180 0 60 (dk_at dksX0_putBack_0 17 rfl rfl)
theorem dX0_putBack_20 : decode cX0_putBack 20 = .ok (.iload_n 2, 1) := dk_28 (dk_at dksX0_putBack_0 20 rfl rfl)
theorem dX0_putBack_21 : decode cX0_putBack 21 = .ok (.iaload, 1) := dk_46 (dk_at dksX0_putBack_0 21 rfl rfl)
theorem dX0_putBack_22 : decode cX0_putBack 22 = .ok (.putfield 195, 3) := dk_181 0 195 (dk_at dksX0_putBack_1 0 rfl rfl)
theorem dX0_putBack_25 : decode cX0_putBack 25 = .ok (.aload_n 1, 1) := dk_43 (dk_at dksX0_putBack_1 3 rfl rfl)
theorem dX0_putBack_26 : decode cX0_putBack 26 = .ok (.getfield 317, 3) := dk_180 1 61 (dk_at dksX0_putBack_1 4 rfl rfl)
theorem dX0_putBack_29 : decode cX0_putBack 29 = .ok (.iload_n 2, 1) := dk_28 (dk_at dksX0_putBack_1 7 rfl rfl)
theorem dX0_putBack_30 : decode cX0_putBack 30 = .ok (.aaload, 1) := dk_50 (dk_at dksX0_putBack_1 8 rfl rfl)
theorem dX0_putBack_31 : decode cX0_putBack 31 = .ok (.aload_n 0, 1) := dk_42 (dk_at dksX0_putBack_1 9 rfl rfl)
theorem dX0_putBack_32 : decode cX0_putBack 32 = .ok (.getfield 63, 3) := dk_180 0 63 (dk_at dksX0_putBack_1 10 rfl rfl)
theorem dX0_putBack_35 : decode cX0_putBack 35 = .ok (.iload_n 2, 1) := dk_28 (dk_at dksX0_putBack_1 13 rfl rfl)
theorem dX0_putBack_36 : decode cX0_putBack 36 = .ok (.iaload, 1) := dk_46 (dk_at dksX0_putBack_1 14 rfl rfl)
theorem dX0_putBack_37 : decode cX0_putBack 37 = .ok (.putfield 264, 3) := dk_181 1 8 (dk_at dksX0_putBack_1 15 rfl rfl)
theorem dX0_putBack_40 : decode cX0_putBack 40 = .ok (.iinc 2 1, 3) := dk_132 2 1 (dk_at dksX0_putBack_1 18 rfl rfl)
theorem dX0_putBack_43 : decode cX0_putBack 43 = .ok (.goto (-41), 3) := dk_167 255 215 (dk_at dksX0_putBack_1 21 rfl rfl)
theorem dX0_putBack_46 : decode cX0_putBack 46 = .ok (.iconst 0, 1) := dk_3 (dk_at dksX0_putBack_2 0 rfl rfl)
theorem dX0_putBack_47 : decode cX0_putBack 47 = .ok (.istore_n 2, 1) := dk_61 (dk_at dksX0_putBack_2 1 rfl rfl)
theorem dX0_putBack_48 : decode cX0_putBack 48 = .ok (.iload_n 2, 1) := dk_28 (dk_at dksX0_putBack_2 2 rfl rfl)
theorem dX0_putBack_49 : decode cX0_putBack 49 = .ok (.aload_n 1, 1) := dk_43 (dk_at dksX0_putBack_2 3 rfl rfl)
theorem dX0_putBack_50 : decode cX0_putBack 50 = .ok (.getfield 226, 3) := dk_180 0 226 (dk_at dksX0_putBack_2 4 rfl rfl)
theorem dX0_putBack_53 : decode cX0_putBack 53 = .ok (.if_icmp .ge 21, 3) := dk_162 0 21 (dk_at dksX0_putBack_2 7 rfl rfl)
theorem dX0_putBack_56 : decode cX0_putBack 56 = .ok (.aload_n 1, 1) := dk_43 (dk_at dksX0_putBack_2 10 rfl rfl)
theorem dX0_putBack_57 : decode cX0_putBack 57 = .ok (.getfield 233, 3) := dk_180 0 233 (dk_at dksX0_putBack_2 11 rfl rfl)
theorem dX0_putBack_60 : decode cX0_putBack 60 = .ok (.iload_n 2, 1) := dk_28 (dk_at dksX0_putBack_2 14 rfl rfl)
theorem dX0_putBack_61 : decode cX0_putBack 61 = .ok (.aload_n 0, 1) := dk_42 (dk_at dksX0_putBack_2 15 rfl rfl)
theorem dX0_putBack_62 : decode cX0_putBack 62 = .ok (.getfield 66, 3) := dk_180 0 66 (dk_at dksX0_putBack_2 16 rfl rfl)
theorem dX0_putBack_65 : decode cX0_putBack 65 = .ok (.iload_n 2, 1) := dk_28 (dk_at dksX0_putBack_2 19 rfl rfl)
theorem dX0_putBack_66 : decode cX0_putBack 66 = .ok (.iaload, 1) := dk_46 (dk_at dksX0_putBack_2 20 rfl rfl)
theorem dX0_putBack_67 : decode cX0_putBack 67 = .ok (.iastore, 1) := dk_79 (dk_at dksX0_putBack_2 21 rfl rfl)
theorem dX0_putBack_68 : decode cX0_putBack 68 = .ok (.iinc 2 1, 3) := dk_132 2 1 (dk_at dksX0_putBack_3 0 rfl rfl)
theorem dX0_putBack_71 : decode cX0_putBack 71 = .ok (.goto (-23), 3) := dk_167 255 233 (dk_at dksX0_putBack_3 3 rfl rfl)
theorem dX0_putBack_74 : decode cX0_putBack 74 = .ok (.return_, 1) := dk_177 (dk_at dksX0_putBack_3 6 rfl rfl)
abbrev cX0_led : ByteArray := prog_1_method_43_code
def yX0_led : MethodName := ⟨RX0, "led", "(IIII)I"⟩
def dkwX0_led_7 : List UInt8 := [167, 0, 5, 21, 8, 172]
abbrev dktX0_led_7 : List UInt8 := dkwX0_led_7 ++ []
def dkwX0_led_6 : List UInt8 := [184, 1, 4, 54, 7, 21, 12, 54, 8, 132, 9, 1, 167, 255, 168, 21, 4, 154, 0, 8, 21, 7]
abbrev dktX0_led_6 : List UInt8 := dkwX0_led_6 ++ dktX0_led_7
def dkwX0_led_5 : List UInt8 := [181, 1, 8, 21, 7, 16, 254, 159, 0, 13, 21, 12, 21, 8, 163, 0, 6, 167, 0, 14, 25, 10]
abbrev dktX0_led_5 : List UInt8 := dkwX0_led_5 ++ dktX0_led_6
def dkwX0_led_4 : List UInt8 := [180, 0, 195, 181, 1, 8, 21, 6, 42, 25, 5, 28, 29, 182, 1, 123, 100, 54, 12, 25, 10, 21, 11]
abbrev dktX0_led_4 : List UInt8 := dkwX0_led_4 ++ dktX0_led_5
def dkwX0_led_3 : List UInt8 := [162, 0, 84, 25, 5, 180, 1, 61, 21, 9, 50, 58, 10, 25, 10, 180, 1, 8, 54, 11, 25, 10, 25, 10]
abbrev dktX0_led_3 : List UInt8 := dkwX0_led_3 ++ dktX0_led_4
def dkwX0_led_2 : List UInt8 := [182, 1, 123, 54, 6, 16, 254, 54, 7, 3, 54, 8, 3, 54, 9, 21, 9, 25, 5, 180, 0, 229]
abbrev dktX0_led_2 : List UInt8 := dkwX0_led_2 ++ dktX0_led_3
def dkwX0_led_1 : List UInt8 := [184, 1, 119, 153, 0, 14, 21, 4, 133, 9, 10, 184, 0, 152, 154, 0, 5, 2, 172, 42, 25, 5, 28, 29]
abbrev dktX0_led_1 : List UInt8 := dkwX0_led_1 ++ dktX0_led_2
def dkwX0_led_0 : List UInt8 := [42, 27, 182, 0, 201, 58, 5, 25, 5, 198, 0, 30, 29, 184, 1, 116, 153, 0, 23, 25, 5, 28]
abbrev dktX0_led_0 : List UInt8 := dkwX0_led_0 ++ dktX0_led_1
theorem dksX0_led_0 : cX0_led.data.toList.drop 0 = dktX0_led_0 := by decide +kernel
theorem dksX0_led_1 : cX0_led.data.toList.drop 22 = dktX0_led_1 := dk_seg dksX0_led_0 22 rfl rfl
theorem dksX0_led_2 : cX0_led.data.toList.drop 46 = dktX0_led_2 := dk_seg dksX0_led_1 24 rfl rfl
theorem dksX0_led_3 : cX0_led.data.toList.drop 68 = dktX0_led_3 := dk_seg dksX0_led_2 22 rfl rfl
theorem dksX0_led_4 : cX0_led.data.toList.drop 92 = dktX0_led_4 := dk_seg dksX0_led_3 24 rfl rfl
theorem dksX0_led_5 : cX0_led.data.toList.drop 115 = dktX0_led_5 := dk_seg dksX0_led_4 23 rfl rfl
theorem dksX0_led_6 : cX0_led.data.toList.drop 137 = dktX0_led_6 := dk_seg dksX0_led_5 22 rfl rfl
theorem dksX0_led_7 : cX0_led.data.toList.drop 159 = dktX0_led_7 := dk_seg dksX0_led_6 22 rfl rfl
theorem dX0_led_0 : decode cX0_led 0 = .ok (.aload_n 0, 1) := dk_42 (dk_at dksX0_led_0 0 rfl rfl)
theorem dX0_led_1 : decode cX0_led 1 = .ok (.iload_n 1, 1) := dk_27 (dk_at dksX0_led_0 1 rfl rfl)
theorem dX0_led_2 : decode cX0_led 2 = .ok (.invokevirtual 201, 3) := dk_182 0 201 (dk_at dksX0_led_0 2 rfl rfl)
theorem dX0_led_5 : decode cX0_led 5 = .ok (.astore 5, 2) := dk_58 5 (dk_at dksX0_led_0 5 rfl rfl)
theorem dX0_led_7 : decode cX0_led 7 = .ok (.aload 5, 2) := dk_25 5 (dk_at dksX0_led_0 7 rfl rfl)
theorem dX0_led_9 : decode cX0_led 9 = .ok (.ifnull 30, 3) := dk_198 0 30 (dk_at dksX0_led_0 9 rfl rfl)
theorem dX0_led_12 : decode cX0_led 12 = .ok (.iload_n 3, 1) := dk_29 (dk_at dksX0_led_0 12 rfl rfl)
theorem dX0_led_13 : decode cX0_led 13 = .ok (.invokestatic 372, 3) := dk_184 1 116 (dk_at dksX0_led_0 13 rfl rfl)
theorem dX0_led_16 : decode cX0_led 16 = .ok (.ifCond .eq 23, 3) := dk_153 0 23 (dk_at dksX0_led_0 16 rfl rfl)
theorem dX0_led_19 : decode cX0_led 19 = .ok (.aload 5, 2) := dk_25 5 (dk_at dksX0_led_0 19 rfl rfl)
theorem dX0_led_21 : decode cX0_led 21 = .ok (.iload_n 2, 1) := dk_28 (dk_at dksX0_led_0 21 rfl rfl)
theorem dX0_led_22 : decode cX0_led 22 = .ok (.invokestatic 375, 3) := dk_184 1 119 (dk_at dksX0_led_1 0 rfl rfl)
theorem dX0_led_25 : decode cX0_led 25 = .ok (.ifCond .eq 14, 3) := dk_153 0 14 (dk_at dksX0_led_1 3 rfl rfl)
theorem dX0_led_28 : decode cX0_led 28 = .ok (.iload 4, 2) := dk_21 4 (dk_at dksX0_led_1 6 rfl rfl)
theorem dX0_led_30 : decode cX0_led 30 = .ok (.i2l, 1) := dk_133 (dk_at dksX0_led_1 8 rfl rfl)
theorem dX0_led_31 : decode cX0_led 31 = .ok (.lconst 0, 1) := dk_9 (dk_at dksX0_led_1 9 rfl rfl)
theorem dX0_led_32 : decode cX0_led 32 = .ok (.lconst 1, 1) := dk_10 (dk_at dksX0_led_1 10 rfl rfl)
theorem dX0_led_33 : decode cX0_led 33 = .ok (.invokestatic 152, 3) := dk_184 0 152 (dk_at dksX0_led_1 11 rfl rfl)
theorem dX0_led_36 : decode cX0_led 36 = .ok (.ifCond .ne 5, 3) := dk_154 0 5 (dk_at dksX0_led_1 14 rfl rfl)
theorem dX0_led_39 : decode cX0_led 39 = .ok (.iconst (-1), 1) := dk_2 (dk_at dksX0_led_1 17 rfl rfl)
theorem dX0_led_40 : decode cX0_led 40 = .ok (.ireturn, 1) := dk_172 (dk_at dksX0_led_1 18 rfl rfl)
theorem dX0_led_41 : decode cX0_led 41 = .ok (.aload_n 0, 1) := dk_42 (dk_at dksX0_led_1 19 rfl rfl)
theorem dX0_led_42 : decode cX0_led 42 = .ok (.aload 5, 2) := dk_25 5 (dk_at dksX0_led_1 20 rfl rfl)
theorem dX0_led_44 : decode cX0_led 44 = .ok (.iload_n 2, 1) := dk_28 (dk_at dksX0_led_1 22 rfl rfl)
theorem dX0_led_45 : decode cX0_led 45 = .ok (.iload_n 3, 1) := dk_29 (dk_at dksX0_led_1 23 rfl rfl)
theorem dX0_led_46 : decode cX0_led 46 = .ok (.invokevirtual 379, 3) := dk_182 1 123 (dk_at dksX0_led_2 0 rfl rfl)
theorem dX0_led_49 : decode cX0_led 49 = .ok (.istore 6, 2) := dk_54 6 (dk_at dksX0_led_2 3 rfl rfl)
theorem dX0_led_51 : decode cX0_led 51 = .ok (.bipush (-2), 2) := dk_16 254 (dk_at dksX0_led_2 5 rfl rfl)
theorem dX0_led_53 : decode cX0_led 53 = .ok (.istore 7, 2) := dk_54 7 (dk_at dksX0_led_2 7 rfl rfl)
theorem dX0_led_55 : decode cX0_led 55 = .ok (.iconst 0, 1) := dk_3 (dk_at dksX0_led_2 9 rfl rfl)
theorem dX0_led_56 : decode cX0_led 56 = .ok (.istore 8, 2) := dk_54 8 (dk_at dksX0_led_2 10 rfl rfl)
theorem dX0_led_58 : decode cX0_led 58 = .ok (.iconst 0, 1) := dk_3 (dk_at dksX0_led_2 12 rfl rfl)
theorem dX0_led_59 : decode cX0_led 59 = .ok (.istore 9, 2) := dk_54 9 (dk_at dksX0_led_2 13 rfl rfl)
theorem dX0_led_61 : decode cX0_led 61 = .ok (.iload 9, 2) := dk_21 9 (dk_at dksX0_led_2 15 rfl rfl)
theorem dX0_led_63 : decode cX0_led 63 = .ok (.aload 5, 2) := dk_25 5 (dk_at dksX0_led_2 17 rfl rfl)
theorem dX0_led_65 : decode cX0_led 65 = .ok (.getfield 229, 3) := dk_180 0 229 (dk_at dksX0_led_2 19 rfl rfl)
theorem dX0_led_68 : decode cX0_led 68 = .ok (.if_icmp .ge 84, 3) := dk_162 0 84 (dk_at dksX0_led_3 0 rfl rfl)
theorem dX0_led_71 : decode cX0_led 71 = .ok (.aload 5, 2) := dk_25 5 (dk_at dksX0_led_3 3 rfl rfl)
theorem dX0_led_73 : decode cX0_led 73 = .ok (.getfield 317, 3) := dk_180 1 61 (dk_at dksX0_led_3 5 rfl rfl)
theorem dX0_led_76 : decode cX0_led 76 = .ok (.iload 9, 2) := dk_21 9 (dk_at dksX0_led_3 8 rfl rfl)
theorem dX0_led_78 : decode cX0_led 78 = .ok (.aaload, 1) := dk_50 (dk_at dksX0_led_3 10 rfl rfl)
theorem dX0_led_79 : decode cX0_led 79 = .ok (.astore 10, 2) := dk_58 10 (dk_at dksX0_led_3 11 rfl rfl)
theorem dX0_led_81 : decode cX0_led 81 = .ok (.aload 10, 2) := dk_25 10 (dk_at dksX0_led_3 13 rfl rfl)
theorem dX0_led_83 : decode cX0_led 83 = .ok (.getfield 264, 3) := dk_180 1 8 (dk_at dksX0_led_3 15 rfl rfl)
theorem dX0_led_86 : decode cX0_led 86 = .ok (.istore 11, 2) := dk_54 11 (dk_at dksX0_led_3 18 rfl rfl)
theorem dX0_led_88 : decode cX0_led 88 = .ok (.aload 10, 2) := dk_25 10 (dk_at dksX0_led_3 20 rfl rfl)
theorem dX0_led_90 : decode cX0_led 90 = .ok (.aload 10, 2) := dk_25 10 (dk_at dksX0_led_3 22 rfl rfl)
theorem dX0_led_92 : decode cX0_led 92 = .ok (.getfield 195, 3) := dk_180 0 195 (dk_at dksX0_led_4 0 rfl rfl)
theorem dX0_led_95 : decode cX0_led 95 = .ok (.putfield 264, 3) := dk_181 1 8 (dk_at dksX0_led_4 3 rfl rfl)
theorem dX0_led_98 : decode cX0_led 98 = .ok (.iload 6, 2) := dk_21 6 (dk_at dksX0_led_4 6 rfl rfl)
theorem dX0_led_100 : decode cX0_led 100 = .ok (.aload_n 0, 1) := dk_42 (dk_at dksX0_led_4 8 rfl rfl)
theorem dX0_led_101 : decode cX0_led 101 = .ok (.aload 5, 2) := dk_25 5 (dk_at dksX0_led_4 9 rfl rfl)
theorem dX0_led_103 : decode cX0_led 103 = .ok (.iload_n 2, 1) := dk_28 (dk_at dksX0_led_4 11 rfl rfl)
theorem dX0_led_104 : decode cX0_led 104 = .ok (.iload_n 3, 1) := dk_29 (dk_at dksX0_led_4 12 rfl rfl)
theorem dX0_led_105 : decode cX0_led 105 = .ok (.invokevirtual 379, 3) := dk_182 1 123 (dk_at dksX0_led_4 13 rfl rfl)
theorem dX0_led_108 : decode cX0_led 108 = .ok (.isub, 1) := dk_100 (dk_at dksX0_led_4 16 rfl rfl)
theorem dX0_led_109 : decode cX0_led 109 = .ok (.istore 12, 2) := dk_54 12 (dk_at dksX0_led_4 17 rfl rfl)
theorem dX0_led_111 : decode cX0_led 111 = .ok (.aload 10, 2) := dk_25 10 (dk_at dksX0_led_4 19 rfl rfl)
theorem dX0_led_113 : decode cX0_led 113 = .ok (.iload 11, 2) := dk_21 11 (dk_at dksX0_led_4 21 rfl rfl)
theorem dX0_led_115 : decode cX0_led 115 = .ok (.putfield 264, 3) := dk_181 1 8 (dk_at dksX0_led_5 0 rfl rfl)
theorem dX0_led_118 : decode cX0_led 118 = .ok (.iload 7, 2) := dk_21 7 (dk_at dksX0_led_5 3 rfl rfl)
theorem dX0_led_120 : decode cX0_led 120 = .ok (.bipush (-2), 2) := dk_16 254 (dk_at dksX0_led_5 5 rfl rfl)
theorem dX0_led_122 : decode cX0_led 122 = .ok (.if_icmp .eq 13, 3) := dk_159 0 13 (dk_at dksX0_led_5 7 rfl rfl)
theorem dX0_led_125 : decode cX0_led 125 = .ok (.iload 12, 2) := dk_21 12 (dk_at dksX0_led_5 10 rfl rfl)
theorem dX0_led_127 : decode cX0_led 127 = .ok (.iload 8, 2) := dk_21 8 (dk_at dksX0_led_5 12 rfl rfl)
theorem dX0_led_129 : decode cX0_led 129 = .ok (.if_icmp .gt 6, 3) := dk_163 0 6 (dk_at dksX0_led_5 14 rfl rfl)
theorem dX0_led_132 : decode cX0_led 132 = .ok (.goto 14, 3) := dk_167 0 14 (dk_at dksX0_led_5 17 rfl rfl)
theorem dX0_led_135 : decode cX0_led 135 = .ok (.aload 10, 2) := dk_25 10 (dk_at dksX0_led_5 20 rfl rfl)
theorem dX0_led_137 : decode cX0_led 137 = .ok (.invokestatic 260, 3) := dk_184 1 4 (dk_at dksX0_led_6 0 rfl rfl)
theorem dX0_led_140 : decode cX0_led 140 = .ok (.istore 7, 2) := dk_54 7 (dk_at dksX0_led_6 3 rfl rfl)
theorem dX0_led_142 : decode cX0_led 142 = .ok (.iload 12, 2) := dk_21 12 (dk_at dksX0_led_6 5 rfl rfl)
theorem dX0_led_144 : decode cX0_led 144 = .ok (.istore 8, 2) := dk_54 8 (dk_at dksX0_led_6 7 rfl rfl)
theorem dX0_led_146 : decode cX0_led 146 = .ok (.iinc 9 1, 3) := dk_132 9 1 (dk_at dksX0_led_6 9 rfl rfl)
theorem dX0_led_149 : decode cX0_led 149 = .ok (.goto (-88), 3) := dk_167 255 168 (dk_at dksX0_led_6 12 rfl rfl)
theorem dX0_led_152 : decode cX0_led 152 = .ok (.iload 4, 2) := dk_21 4 (dk_at dksX0_led_6 15 rfl rfl)
theorem dX0_led_154 : decode cX0_led 154 = .ok (.ifCond .ne 8, 3) := dk_154 0 8 (dk_at dksX0_led_6 17 rfl rfl)
theorem dX0_led_157 : decode cX0_led 157 = .ok (.iload 7, 2) := dk_21 7 (dk_at dksX0_led_6 20 rfl rfl)
theorem dX0_led_159 : decode cX0_led 159 = .ok (.goto 5, 3) := dk_167 0 5 (dk_at dksX0_led_7 0 rfl rfl)
theorem dX0_led_162 : decode cX0_led 162 = .ok (.iload 8, 2) := dk_21 8 (dk_at dksX0_led_7 3 rfl rfl)
theorem dX0_led_164 : decode cX0_led 164 = .ok (.ireturn, 1) := dk_172 (dk_at dksX0_led_7 5 rfl rfl)
abbrev cX0_turnsOf : ByteArray := prog_1_method_47_code
def yX0_turnsOf : MethodName := ⟨RX0, "turnsOf", "(I)I"⟩
def dkwX0_turnsOf_0 : List UInt8 := [42, 27, 182, 0, 201, 77, 44, 199, 0, 5, 2, 172, 42, 44, 44, 182, 1, 156, 42, 180, 1, 139, 172]
abbrev dktX0_turnsOf_0 : List UInt8 := dkwX0_turnsOf_0 ++ []
theorem dksX0_turnsOf_0 : cX0_turnsOf.data.toList.drop 0 = dktX0_turnsOf_0 := by decide +kernel
theorem dX0_turnsOf_0 : decode cX0_turnsOf 0 = .ok (.aload_n 0, 1) := dk_42 (dk_at dksX0_turnsOf_0 0 rfl rfl)
theorem dX0_turnsOf_1 : decode cX0_turnsOf 1 = .ok (.iload_n 1, 1) := dk_27 (dk_at dksX0_turnsOf_0 1 rfl rfl)
theorem dX0_turnsOf_2 : decode cX0_turnsOf 2 = .ok (.invokevirtual 201, 3) := dk_182 0 201 (dk_at dksX0_turnsOf_0 2 rfl rfl)
theorem dX0_turnsOf_5 : decode cX0_turnsOf 5 = .ok (.astore_n 2, 1) := dk_77 (dk_at dksX0_turnsOf_0 5 rfl rfl)
theorem dX0_turnsOf_6 : decode cX0_turnsOf 6 = .ok (.aload_n 2, 1) := dk_44 (dk_at dksX0_turnsOf_0 6 rfl rfl)
theorem dX0_turnsOf_7 : decode cX0_turnsOf 7 = .ok (.ifnonnull 5, 3) := dk_199 0 5 (dk_at dksX0_turnsOf_0 7 rfl rfl)
theorem dX0_turnsOf_10 : decode cX0_turnsOf 10 = .ok (.iconst (-1), 1) := dk_2 (dk_at dksX0_turnsOf_0 10 rfl rfl)
theorem dX0_turnsOf_11 : decode cX0_turnsOf 11 = .ok (.ireturn, 1) := dk_172 (dk_at dksX0_turnsOf_0 11 rfl rfl)
theorem dX0_turnsOf_12 : decode cX0_turnsOf 12 = .ok (.aload_n 0, 1) := dk_42 (dk_at dksX0_turnsOf_0 12 rfl rfl)
theorem dX0_turnsOf_13 : decode cX0_turnsOf 13 = .ok (.aload_n 2, 1) := dk_44 (dk_at dksX0_turnsOf_0 13 rfl rfl)
theorem dX0_turnsOf_14 : decode cX0_turnsOf 14 = .ok (.aload_n 2, 1) := dk_44 (dk_at dksX0_turnsOf_0 14 rfl rfl)
theorem dX0_turnsOf_15 : decode cX0_turnsOf 15 = .ok (.invokevirtual 412, 3) := dk_182 1 156 (dk_at dksX0_turnsOf_0 15 rfl rfl)
theorem dX0_turnsOf_18 : decode cX0_turnsOf 18 = .ok (.aload_n 0, 1) := dk_42 (dk_at dksX0_turnsOf_0 18 rfl rfl)
theorem dX0_turnsOf_19 : decode cX0_turnsOf 19 = .ok (.getfield 395, 3) := dk_180 1 139 (dk_at dksX0_turnsOf_0 19 rfl rfl)
theorem dX0_turnsOf_22 : decode cX0_turnsOf 22 = .ok (.ireturn, 1) := dk_172 (dk_at dksX0_turnsOf_0 22 rfl rfl)
abbrev cX0_findTurns : ByteArray := prog_1_method_46_code
def yX0_findTurns : MethodName := ⟨RX0, "findTurns", "(LPlatesSing$Shape;LPlatesSing$Shape;)V"⟩
def dkwX0_findTurns_2 : List UInt8 := [4, 100, 182, 1, 152, 177]
abbrev dktX0_findTurns_2 : List UInt8 := dkwX0_findTurns_2 ++ []
def dkwX0_findTurns_1 : List UInt8 := [167, 255, 240, 43, 180, 0, 226, 44, 180, 0, 226, 160, 0, 18, 42, 43, 44, 3, 4, 43, 180, 0, 226, 120]
abbrev dktX0_findTurns_1 : List UInt8 := dkwX0_findTurns_1 ++ dktX0_findTurns_2
def dkwX0_findTurns_0 : List UInt8 := [42, 3, 181, 1, 139, 3, 62, 29, 16, 6, 162, 0, 16, 42, 180, 0, 75, 29, 3, 79, 132, 3, 1]
abbrev dktX0_findTurns_0 : List UInt8 := dkwX0_findTurns_0 ++ dktX0_findTurns_1
theorem dksX0_findTurns_0 : cX0_findTurns.data.toList.drop 0 = dktX0_findTurns_0 := by decide +kernel
theorem dksX0_findTurns_1 : cX0_findTurns.data.toList.drop 23 = dktX0_findTurns_1 := dk_seg dksX0_findTurns_0 23 rfl rfl
theorem dksX0_findTurns_2 : cX0_findTurns.data.toList.drop 47 = dktX0_findTurns_2 := dk_seg dksX0_findTurns_1 24 rfl rfl
theorem dX0_findTurns_0 : decode cX0_findTurns 0 = .ok (.aload_n 0, 1) := dk_42 (dk_at dksX0_findTurns_0 0 rfl rfl)
theorem dX0_findTurns_1 : decode cX0_findTurns 1 = .ok (.iconst 0, 1) := dk_3 (dk_at dksX0_findTurns_0 1 rfl rfl)
theorem dX0_findTurns_2 : decode cX0_findTurns 2 = .ok (.putfield 395, 3) := dk_181 1 139 (dk_at dksX0_findTurns_0 2 rfl rfl)
theorem dX0_findTurns_5 : decode cX0_findTurns 5 = .ok (.iconst 0, 1) := dk_3 (dk_at dksX0_findTurns_0 5 rfl rfl)
theorem dX0_findTurns_6 : decode cX0_findTurns 6 = .ok (.istore_n 3, 1) := dk_62 (dk_at dksX0_findTurns_0 6 rfl rfl)
theorem dX0_findTurns_7 : decode cX0_findTurns 7 = .ok (.iload_n 3, 1) := dk_29 (dk_at dksX0_findTurns_0 7 rfl rfl)
theorem dX0_findTurns_8 : decode cX0_findTurns 8 = .ok (.bipush 6, 2) := dk_16 6 (dk_at dksX0_findTurns_0 8 rfl rfl)
theorem dX0_findTurns_10 : decode cX0_findTurns 10 = .ok (.if_icmp .ge 16, 3) := dk_162 0 16 (dk_at dksX0_findTurns_0 10 rfl rfl)
theorem dX0_findTurns_13 : decode cX0_findTurns 13 = .ok (.aload_n 0, 1) := dk_42 (dk_at dksX0_findTurns_0 13 rfl rfl)
theorem dX0_findTurns_14 : decode cX0_findTurns 14 = .ok (.getfield 75, 3) := dk_180 0 75 (dk_at dksX0_findTurns_0 14 rfl rfl)
theorem dX0_findTurns_17 : decode cX0_findTurns 17 = .ok (.iload_n 3, 1) := dk_29 (dk_at dksX0_findTurns_0 17 rfl rfl)
theorem dX0_findTurns_18 : decode cX0_findTurns 18 = .ok (.iconst 0, 1) := dk_3 (dk_at dksX0_findTurns_0 18 rfl rfl)
theorem dX0_findTurns_19 : decode cX0_findTurns 19 = .ok (.iastore, 1) := dk_79 (dk_at dksX0_findTurns_0 19 rfl rfl)
theorem dX0_findTurns_20 : decode cX0_findTurns 20 = .ok (.iinc 3 1, 3) := dk_132 3 1 (dk_at dksX0_findTurns_0 20 rfl rfl)
theorem dX0_findTurns_23 : decode cX0_findTurns 23 = .ok (.goto (-16), 3) := dk_167 255 240 (dk_at dksX0_findTurns_1 0 rfl rfl)
theorem dX0_findTurns_26 : decode cX0_findTurns 26 = .ok (.aload_n 1, 1) := dk_43 (dk_at dksX0_findTurns_1 3 rfl rfl)
theorem dX0_findTurns_27 : decode cX0_findTurns 27 = .ok (.getfield 226, 3) := dk_180 0 226 (dk_at dksX0_findTurns_1 4 rfl rfl)
theorem dX0_findTurns_30 : decode cX0_findTurns 30 = .ok (.aload_n 2, 1) := dk_44 (dk_at dksX0_findTurns_1 7 rfl rfl)
theorem dX0_findTurns_31 : decode cX0_findTurns 31 = .ok (.getfield 226, 3) := dk_180 0 226 (dk_at dksX0_findTurns_1 8 rfl rfl)
theorem dX0_findTurns_34 : decode cX0_findTurns 34 = .ok (.if_icmp .ne 18, 3) := dk_160 0 18 (dk_at dksX0_findTurns_1 11 rfl rfl)
theorem dX0_findTurns_37 : decode cX0_findTurns 37 = .ok (.aload_n 0, 1) := dk_42 (dk_at dksX0_findTurns_1 14 rfl rfl)
theorem dX0_findTurns_38 : decode cX0_findTurns 38 = .ok (.aload_n 1, 1) := dk_43 (dk_at dksX0_findTurns_1 15 rfl rfl)
theorem dX0_findTurns_39 : decode cX0_findTurns 39 = .ok (.aload_n 2, 1) := dk_44 (dk_at dksX0_findTurns_1 16 rfl rfl)
theorem dX0_findTurns_40 : decode cX0_findTurns 40 = .ok (.iconst 0, 1) := dk_3 (dk_at dksX0_findTurns_1 17 rfl rfl)
theorem dX0_findTurns_41 : decode cX0_findTurns 41 = .ok (.iconst 1, 1) := dk_4 (dk_at dksX0_findTurns_1 18 rfl rfl)
theorem dX0_findTurns_42 : decode cX0_findTurns 42 = .ok (.aload_n 1, 1) := dk_43 (dk_at dksX0_findTurns_1 19 rfl rfl)
theorem dX0_findTurns_43 : decode cX0_findTurns 43 = .ok (.getfield 226, 3) := dk_180 0 226 (dk_at dksX0_findTurns_1 20 rfl rfl)
theorem dX0_findTurns_46 : decode cX0_findTurns 46 = .ok (.ishl, 1) := dk_120 (dk_at dksX0_findTurns_1 23 rfl rfl)
theorem dX0_findTurns_47 : decode cX0_findTurns 47 = .ok (.iconst 1, 1) := dk_4 (dk_at dksX0_findTurns_2 0 rfl rfl)
theorem dX0_findTurns_48 : decode cX0_findTurns 48 = .ok (.isub, 1) := dk_100 (dk_at dksX0_findTurns_2 1 rfl rfl)
theorem dX0_findTurns_49 : decode cX0_findTurns 49 = .ok (.invokevirtual 408, 3) := dk_182 1 152 (dk_at dksX0_findTurns_2 2 rfl rfl)
theorem dX0_findTurns_52 : decode cX0_findTurns 52 = .ok (.return_, 1) := dk_177 (dk_at dksX0_findTurns_2 5 rfl rfl)
abbrev cX0_turnFrom : ByteArray := prog_1_method_45_code
def yX0_turnFrom : MethodName := ⟨RX0, "turnFrom", "(LPlatesSing$Shape;LPlatesSing$Shape;II)V"⟩
def dkwX0_turnFrom_5 : List UInt8 := [44, 29, 4, 96, 21, 4, 4, 21, 5, 120, 2, 130, 126, 182, 1, 152, 132, 5, 1, 167, 255, 193, 177]
abbrev dktX0_turnFrom_5 : List UInt8 := dkwX0_turnFrom_5 ++ []
def dkwX0_turnFrom_4 : List UInt8 := [43, 44, 29, 21, 5, 182, 1, 148, 154, 0, 6, 167, 0, 29, 42, 180, 0, 69, 29, 21, 5, 79, 42, 43]
abbrev dktX0_turnFrom_4 : List UInt8 := dkwX0_turnFrom_4 ++ dktX0_turnFrom_5
def dkwX0_turnFrom_3 : List UInt8 := [177, 3, 54, 5, 21, 5, 43, 180, 0, 226, 162, 0, 60, 21, 4, 21, 5, 122, 4, 126, 153, 0, 44, 42]
abbrev dktX0_turnFrom_3 : List UInt8 := dkwX0_turnFrom_3 ++ dktX0_turnFrom_4
def dkwX0_turnFrom_2 : List UInt8 := [180, 0, 75, 21, 5, 92, 46, 4, 42, 180, 0, 69, 21, 5, 46, 120, 128, 79, 132, 5, 1, 167, 255, 228]
abbrev dktX0_turnFrom_2 : List UInt8 := dkwX0_turnFrom_2 ++ dktX0_turnFrom_3
def dkwX0_turnFrom_1 : List UInt8 := [180, 0, 69, 3, 42, 180, 0, 72, 3, 29, 184, 1, 142, 3, 54, 5, 21, 5, 29, 162, 0, 28, 42]
abbrev dktX0_turnFrom_1 : List UInt8 := dkwX0_turnFrom_1 ++ dktX0_turnFrom_2
def dkwX0_turnFrom_0 : List UInt8 := [29, 43, 180, 0, 226, 160, 0, 66, 42, 89, 180, 1, 139, 90, 4, 96, 181, 1, 139, 154, 0, 17, 42]
abbrev dktX0_turnFrom_0 : List UInt8 := dkwX0_turnFrom_0 ++ dktX0_turnFrom_1
theorem dksX0_turnFrom_0 : cX0_turnFrom.data.toList.drop 0 = dktX0_turnFrom_0 := by decide +kernel
theorem dksX0_turnFrom_1 : cX0_turnFrom.data.toList.drop 23 = dktX0_turnFrom_1 := dk_seg dksX0_turnFrom_0 23 rfl rfl
theorem dksX0_turnFrom_2 : cX0_turnFrom.data.toList.drop 46 = dktX0_turnFrom_2 := dk_seg dksX0_turnFrom_1 23 rfl rfl
theorem dksX0_turnFrom_3 : cX0_turnFrom.data.toList.drop 70 = dktX0_turnFrom_3 := dk_seg dksX0_turnFrom_2 24 rfl rfl
theorem dksX0_turnFrom_4 : cX0_turnFrom.data.toList.drop 94 = dktX0_turnFrom_4 := dk_seg dksX0_turnFrom_3 24 rfl rfl
theorem dksX0_turnFrom_5 : cX0_turnFrom.data.toList.drop 118 = dktX0_turnFrom_5 := dk_seg dksX0_turnFrom_4 24 rfl rfl
theorem dX0_turnFrom_0 : decode cX0_turnFrom 0 = .ok (.iload_n 3, 1) := dk_29 (dk_at dksX0_turnFrom_0 0 rfl rfl)
theorem dX0_turnFrom_1 : decode cX0_turnFrom 1 = .ok (.aload_n 1, 1) := dk_43 (dk_at dksX0_turnFrom_0 1 rfl rfl)
theorem dX0_turnFrom_2 : decode cX0_turnFrom 2 = .ok (.getfield 226, 3) := dk_180 0 226 (dk_at dksX0_turnFrom_0 2 rfl rfl)
theorem dX0_turnFrom_5 : decode cX0_turnFrom 5 = .ok (.if_icmp .ne 66, 3) := dk_160 0 66 (dk_at dksX0_turnFrom_0 5 rfl rfl)
theorem dX0_turnFrom_8 : decode cX0_turnFrom 8 = .ok (.aload_n 0, 1) := dk_42 (dk_at dksX0_turnFrom_0 8 rfl rfl)
theorem dX0_turnFrom_9 : decode cX0_turnFrom 9 = .ok (.dup, 1) := dk_89 (dk_at dksX0_turnFrom_0 9 rfl rfl)
theorem dX0_turnFrom_10 : decode cX0_turnFrom 10 = .ok (.getfield 395, 3) := dk_180 1 139 (dk_at dksX0_turnFrom_0 10 rfl rfl)
theorem dX0_turnFrom_13 : decode cX0_turnFrom 13 = .ok (.dup_x1, 1) := dk_90 (dk_at dksX0_turnFrom_0 13 rfl rfl)
theorem dX0_turnFrom_14 : decode cX0_turnFrom 14 = .ok (.iconst 1, 1) := dk_4 (dk_at dksX0_turnFrom_0 14 rfl rfl)
theorem dX0_turnFrom_15 : decode cX0_turnFrom 15 = .ok (.iadd, 1) := dk_96 (dk_at dksX0_turnFrom_0 15 rfl rfl)
theorem dX0_turnFrom_16 : decode cX0_turnFrom 16 = .ok (.putfield 395, 3) := dk_181 1 139 (dk_at dksX0_turnFrom_0 16 rfl rfl)
theorem dX0_turnFrom_19 : decode cX0_turnFrom 19 = .ok (.ifCond .ne 17, 3) := dk_154 0 17 (dk_at dksX0_turnFrom_0 19 rfl rfl)
theorem dX0_turnFrom_22 : decode cX0_turnFrom 22 = .ok (.aload_n 0, 1) := dk_42 (dk_at dksX0_turnFrom_0 22 rfl rfl)
theorem dX0_turnFrom_23 : decode cX0_turnFrom 23 = .ok (.getfield 69, 3) := dk_180 0 69 (dk_at dksX0_turnFrom_1 0 rfl rfl)
theorem dX0_turnFrom_26 : decode cX0_turnFrom 26 = .ok (.iconst 0, 1) := dk_3 (dk_at dksX0_turnFrom_1 3 rfl rfl)
theorem dX0_turnFrom_27 : decode cX0_turnFrom 27 = .ok (.aload_n 0, 1) := dk_42 (dk_at dksX0_turnFrom_1 4 rfl rfl)
theorem dX0_turnFrom_28 : decode cX0_turnFrom 28 = .ok (.getfield 72, 3) := dk_180 0 72 (dk_at dksX0_turnFrom_1 5 rfl rfl)
theorem dX0_turnFrom_31 : decode cX0_turnFrom 31 = .ok (.iconst 0, 1) := dk_3 (dk_at dksX0_turnFrom_1 8 rfl rfl)
theorem dX0_turnFrom_32 : decode cX0_turnFrom 32 = .ok (.iload_n 3, 1) := dk_29 (dk_at dksX0_turnFrom_1 9 rfl rfl)
theorem dX0_turnFrom_33 : decode cX0_turnFrom 33 = .ok (.invokestatic 398, 3) := dk_184 1 142 (dk_at dksX0_turnFrom_1 10 rfl rfl)
theorem dX0_turnFrom_36 : decode cX0_turnFrom 36 = .ok (.iconst 0, 1) := dk_3 (dk_at dksX0_turnFrom_1 13 rfl rfl)
theorem dX0_turnFrom_37 : decode cX0_turnFrom 37 = .ok (.istore 5, 2) := dk_54 5 (dk_at dksX0_turnFrom_1 14 rfl rfl)
theorem dX0_turnFrom_39 : decode cX0_turnFrom 39 = .ok (.iload 5, 2) := dk_21 5 (dk_at dksX0_turnFrom_1 16 rfl rfl)
theorem dX0_turnFrom_41 : decode cX0_turnFrom 41 = .ok (.iload_n 3, 1) := dk_29 (dk_at dksX0_turnFrom_1 18 rfl rfl)
theorem dX0_turnFrom_42 : decode cX0_turnFrom 42 = .ok (.if_icmp .ge 28, 3) := dk_162 0 28 (dk_at dksX0_turnFrom_1 19 rfl rfl)
theorem dX0_turnFrom_45 : decode cX0_turnFrom 45 = .ok (.aload_n 0, 1) := dk_42 (dk_at dksX0_turnFrom_1 22 rfl rfl)
theorem dX0_turnFrom_46 : decode cX0_turnFrom 46 = .ok (.getfield 75, 3) := dk_180 0 75 (dk_at dksX0_turnFrom_2 0 rfl rfl)
theorem dX0_turnFrom_49 : decode cX0_turnFrom 49 = .ok (.iload 5, 2) := dk_21 5 (dk_at dksX0_turnFrom_2 3 rfl rfl)
theorem dX0_turnFrom_51 : decode cX0_turnFrom 51 = .ok (.dup2, 1) := dk_92 (dk_at dksX0_turnFrom_2 5 rfl rfl)
theorem dX0_turnFrom_52 : decode cX0_turnFrom 52 = .ok (.iaload, 1) := dk_46 (dk_at dksX0_turnFrom_2 6 rfl rfl)
theorem dX0_turnFrom_53 : decode cX0_turnFrom 53 = .ok (.iconst 1, 1) := dk_4 (dk_at dksX0_turnFrom_2 7 rfl rfl)
theorem dX0_turnFrom_54 : decode cX0_turnFrom 54 = .ok (.aload_n 0, 1) := dk_42 (dk_at dksX0_turnFrom_2 8 rfl rfl)
theorem dX0_turnFrom_55 : decode cX0_turnFrom 55 = .ok (.getfield 69, 3) := dk_180 0 69 (dk_at dksX0_turnFrom_2 9 rfl rfl)
theorem dX0_turnFrom_58 : decode cX0_turnFrom 58 = .ok (.iload 5, 2) := dk_21 5 (dk_at dksX0_turnFrom_2 12 rfl rfl)
theorem dX0_turnFrom_60 : decode cX0_turnFrom 60 = .ok (.iaload, 1) := dk_46 (dk_at dksX0_turnFrom_2 14 rfl rfl)
theorem dX0_turnFrom_61 : decode cX0_turnFrom 61 = .ok (.ishl, 1) := dk_120 (dk_at dksX0_turnFrom_2 15 rfl rfl)
theorem dX0_turnFrom_62 : decode cX0_turnFrom 62 = .ok (.ior, 1) := dk_128 (dk_at dksX0_turnFrom_2 16 rfl rfl)
theorem dX0_turnFrom_63 : decode cX0_turnFrom 63 = .ok (.iastore, 1) := dk_79 (dk_at dksX0_turnFrom_2 17 rfl rfl)
theorem dX0_turnFrom_64 : decode cX0_turnFrom 64 = .ok (.iinc 5 1, 3) := dk_132 5 1 (dk_at dksX0_turnFrom_2 18 rfl rfl)
theorem dX0_turnFrom_67 : decode cX0_turnFrom 67 = .ok (.goto (-28), 3) := dk_167 255 228 (dk_at dksX0_turnFrom_2 21 rfl rfl)
theorem dX0_turnFrom_70 : decode cX0_turnFrom 70 = .ok (.return_, 1) := dk_177 (dk_at dksX0_turnFrom_3 0 rfl rfl)
theorem dX0_turnFrom_71 : decode cX0_turnFrom 71 = .ok (.iconst 0, 1) := dk_3 (dk_at dksX0_turnFrom_3 1 rfl rfl)
theorem dX0_turnFrom_72 : decode cX0_turnFrom 72 = .ok (.istore 5, 2) := dk_54 5 (dk_at dksX0_turnFrom_3 2 rfl rfl)
theorem dX0_turnFrom_74 : decode cX0_turnFrom 74 = .ok (.iload 5, 2) := dk_21 5 (dk_at dksX0_turnFrom_3 4 rfl rfl)
theorem dX0_turnFrom_76 : decode cX0_turnFrom 76 = .ok (.aload_n 1, 1) := dk_43 (dk_at dksX0_turnFrom_3 6 rfl rfl)
theorem dX0_turnFrom_77 : decode cX0_turnFrom 77 = .ok (.getfield 226, 3) := dk_180 0 226 (dk_at dksX0_turnFrom_3 7 rfl rfl)
theorem dX0_turnFrom_80 : decode cX0_turnFrom 80 = .ok (.if_icmp .ge 60, 3) := dk_162 0 60 (dk_at dksX0_turnFrom_3 10 rfl rfl)
theorem dX0_turnFrom_83 : decode cX0_turnFrom 83 = .ok (.iload 4, 2) := dk_21 4 (dk_at dksX0_turnFrom_3 13 rfl rfl)
theorem dX0_turnFrom_85 : decode cX0_turnFrom 85 = .ok (.iload 5, 2) := dk_21 5 (dk_at dksX0_turnFrom_3 15 rfl rfl)
theorem dX0_turnFrom_87 : decode cX0_turnFrom 87 = .ok (.ishr, 1) := dk_122 (dk_at dksX0_turnFrom_3 17 rfl rfl)
theorem dX0_turnFrom_88 : decode cX0_turnFrom 88 = .ok (.iconst 1, 1) := dk_4 (dk_at dksX0_turnFrom_3 18 rfl rfl)
theorem dX0_turnFrom_89 : decode cX0_turnFrom 89 = .ok (.iand, 1) := dk_126 (dk_at dksX0_turnFrom_3 19 rfl rfl)
theorem dX0_turnFrom_90 : decode cX0_turnFrom 90 = .ok (.ifCond .eq 44, 3) := dk_153 0 44 (dk_at dksX0_turnFrom_3 20 rfl rfl)
theorem dX0_turnFrom_93 : decode cX0_turnFrom 93 = .ok (.aload_n 0, 1) := dk_42 (dk_at dksX0_turnFrom_3 23 rfl rfl)
theorem dX0_turnFrom_94 : decode cX0_turnFrom 94 = .ok (.aload_n 1, 1) := dk_43 (dk_at dksX0_turnFrom_4 0 rfl rfl)
theorem dX0_turnFrom_95 : decode cX0_turnFrom 95 = .ok (.aload_n 2, 1) := dk_44 (dk_at dksX0_turnFrom_4 1 rfl rfl)
theorem dX0_turnFrom_96 : decode cX0_turnFrom 96 = .ok (.iload_n 3, 1) := dk_29 (dk_at dksX0_turnFrom_4 2 rfl rfl)
theorem dX0_turnFrom_97 : decode cX0_turnFrom 97 = .ok (.iload 5, 2) := dk_21 5 (dk_at dksX0_turnFrom_4 3 rfl rfl)
theorem dX0_turnFrom_99 : decode cX0_turnFrom 99 = .ok (.invokevirtual 404, 3) := dk_182 1 148 (dk_at dksX0_turnFrom_4 5 rfl rfl)
theorem dX0_turnFrom_102 : decode cX0_turnFrom 102 = .ok (.ifCond .ne 6, 3) := dk_154 0 6 (dk_at dksX0_turnFrom_4 8 rfl rfl)
theorem dX0_turnFrom_105 : decode cX0_turnFrom 105 = .ok (.goto 29, 3) := dk_167 0 29 (dk_at dksX0_turnFrom_4 11 rfl rfl)
theorem dX0_turnFrom_108 : decode cX0_turnFrom 108 = .ok (.aload_n 0, 1) := dk_42 (dk_at dksX0_turnFrom_4 14 rfl rfl)
theorem dX0_turnFrom_109 : decode cX0_turnFrom 109 = .ok (.getfield 69, 3) := dk_180 0 69 (dk_at dksX0_turnFrom_4 15 rfl rfl)
theorem dX0_turnFrom_112 : decode cX0_turnFrom 112 = .ok (.iload_n 3, 1) := dk_29 (dk_at dksX0_turnFrom_4 18 rfl rfl)
theorem dX0_turnFrom_113 : decode cX0_turnFrom 113 = .ok (.iload 5, 2) := dk_21 5 (dk_at dksX0_turnFrom_4 19 rfl rfl)
theorem dX0_turnFrom_115 : decode cX0_turnFrom 115 = .ok (.iastore, 1) := dk_79 (dk_at dksX0_turnFrom_4 21 rfl rfl)
theorem dX0_turnFrom_116 : decode cX0_turnFrom 116 = .ok (.aload_n 0, 1) := dk_42 (dk_at dksX0_turnFrom_4 22 rfl rfl)
theorem dX0_turnFrom_117 : decode cX0_turnFrom 117 = .ok (.aload_n 1, 1) := dk_43 (dk_at dksX0_turnFrom_4 23 rfl rfl)
theorem dX0_turnFrom_118 : decode cX0_turnFrom 118 = .ok (.aload_n 2, 1) := dk_44 (dk_at dksX0_turnFrom_5 0 rfl rfl)
theorem dX0_turnFrom_119 : decode cX0_turnFrom 119 = .ok (.iload_n 3, 1) := dk_29 (dk_at dksX0_turnFrom_5 1 rfl rfl)
theorem dX0_turnFrom_120 : decode cX0_turnFrom 120 = .ok (.iconst 1, 1) := dk_4 (dk_at dksX0_turnFrom_5 2 rfl rfl)
theorem dX0_turnFrom_121 : decode cX0_turnFrom 121 = .ok (.iadd, 1) := dk_96 (dk_at dksX0_turnFrom_5 3 rfl rfl)
theorem dX0_turnFrom_122 : decode cX0_turnFrom 122 = .ok (.iload 4, 2) := dk_21 4 (dk_at dksX0_turnFrom_5 4 rfl rfl)
theorem dX0_turnFrom_124 : decode cX0_turnFrom 124 = .ok (.iconst 1, 1) := dk_4 (dk_at dksX0_turnFrom_5 6 rfl rfl)
theorem dX0_turnFrom_125 : decode cX0_turnFrom 125 = .ok (.iload 5, 2) := dk_21 5 (dk_at dksX0_turnFrom_5 7 rfl rfl)
theorem dX0_turnFrom_127 : decode cX0_turnFrom 127 = .ok (.ishl, 1) := dk_120 (dk_at dksX0_turnFrom_5 9 rfl rfl)
theorem dX0_turnFrom_128 : decode cX0_turnFrom 128 = .ok (.iconst (-1), 1) := dk_2 (dk_at dksX0_turnFrom_5 10 rfl rfl)
theorem dX0_turnFrom_129 : decode cX0_turnFrom 129 = .ok (.ixor, 1) := dk_130 (dk_at dksX0_turnFrom_5 11 rfl rfl)
theorem dX0_turnFrom_130 : decode cX0_turnFrom 130 = .ok (.iand, 1) := dk_126 (dk_at dksX0_turnFrom_5 12 rfl rfl)
theorem dX0_turnFrom_131 : decode cX0_turnFrom 131 = .ok (.invokevirtual 408, 3) := dk_182 1 152 (dk_at dksX0_turnFrom_5 13 rfl rfl)
theorem dX0_turnFrom_134 : decode cX0_turnFrom 134 = .ok (.iinc 5 1, 3) := dk_132 5 1 (dk_at dksX0_turnFrom_5 16 rfl rfl)
theorem dX0_turnFrom_137 : decode cX0_turnFrom 137 = .ok (.goto (-63), 3) := dk_167 255 193 (dk_at dksX0_turnFrom_5 19 rfl rfl)
theorem dX0_turnFrom_140 : decode cX0_turnFrom 140 = .ok (.return_, 1) := dk_177 (dk_at dksX0_turnFrom_5 22 rfl rfl)
abbrev cX0_mayCome : ByteArray := prog_1_method_44_code
def yX0_mayCome : MethodName := ⟨RX0, "mayCome", "(LPlatesSing$Shape;LPlatesSing$Shape;II)Z"⟩
def dkwX0_mayCome_4 : List UInt8 := [182, 1, 78, 159, 0, 5, 3, 172, 132, 5, 1, 167, 255, 222, 4, 172]
abbrev dktX0_mayCome_4 : List UInt8 := dkwX0_mayCome_4 ++ []
def dkwX0_mayCome_3 : List UInt8 := [21, 5, 29, 162, 0, 34, 43, 21, 5, 29, 182, 1, 78, 44, 42, 180, 0, 69, 21, 5, 46, 21, 4]
abbrev dktX0_mayCome_3 : List UInt8 := dkwX0_mayCome_3 ++ dktX0_mayCome_4
def dkwX0_mayCome_2 : List UInt8 := [160, 0, 19, 43, 180, 0, 242, 29, 51, 44, 180, 0, 242, 21, 4, 51, 159, 0, 5, 3, 172, 3, 54, 5]
abbrev dktX0_mayCome_2 : List UInt8 := dkwX0_mayCome_2 ++ dktX0_mayCome_3
def dkwX0_mayCome_1 : List UInt8 := [180, 0, 236, 21, 4, 46, 160, 0, 35, 43, 180, 0, 239, 29, 46, 44, 180, 0, 239, 21, 4, 46]
abbrev dktX0_mayCome_1 : List UInt8 := dkwX0_mayCome_1 ++ dktX0_mayCome_2
def dkwX0_mayCome_0 : List UInt8 := [43, 180, 0, 233, 29, 46, 44, 180, 0, 233, 21, 4, 46, 160, 0, 51, 43, 180, 0, 236, 29, 46, 44]
abbrev dktX0_mayCome_0 : List UInt8 := dkwX0_mayCome_0 ++ dktX0_mayCome_1
theorem dksX0_mayCome_0 : cX0_mayCome.data.toList.drop 0 = dktX0_mayCome_0 := by decide +kernel
theorem dksX0_mayCome_1 : cX0_mayCome.data.toList.drop 23 = dktX0_mayCome_1 := dk_seg dksX0_mayCome_0 23 rfl rfl
theorem dksX0_mayCome_2 : cX0_mayCome.data.toList.drop 45 = dktX0_mayCome_2 := dk_seg dksX0_mayCome_1 22 rfl rfl
theorem dksX0_mayCome_3 : cX0_mayCome.data.toList.drop 69 = dktX0_mayCome_3 := dk_seg dksX0_mayCome_2 24 rfl rfl
theorem dksX0_mayCome_4 : cX0_mayCome.data.toList.drop 92 = dktX0_mayCome_4 := dk_seg dksX0_mayCome_3 23 rfl rfl
theorem dX0_mayCome_0 : decode cX0_mayCome 0 = .ok (.aload_n 1, 1) := dk_43 (dk_at dksX0_mayCome_0 0 rfl rfl)
theorem dX0_mayCome_1 : decode cX0_mayCome 1 = .ok (.getfield 233, 3) := dk_180 0 233 (dk_at dksX0_mayCome_0 1 rfl rfl)
theorem dX0_mayCome_4 : decode cX0_mayCome 4 = .ok (.iload_n 3, 1) := dk_29 (dk_at dksX0_mayCome_0 4 rfl rfl)
theorem dX0_mayCome_5 : decode cX0_mayCome 5 = .ok (.iaload, 1) := dk_46 (dk_at dksX0_mayCome_0 5 rfl rfl)
theorem dX0_mayCome_6 : decode cX0_mayCome 6 = .ok (.aload_n 2, 1) := dk_44 (dk_at dksX0_mayCome_0 6 rfl rfl)
theorem dX0_mayCome_7 : decode cX0_mayCome 7 = .ok (.getfield 233, 3) := dk_180 0 233 (dk_at dksX0_mayCome_0 7 rfl rfl)
theorem dX0_mayCome_10 : decode cX0_mayCome 10 = .ok (.iload 4, 2) := dk_21 4 (dk_at dksX0_mayCome_0 10 rfl rfl)
theorem dX0_mayCome_12 : decode cX0_mayCome 12 = .ok (.iaload, 1) := dk_46 (dk_at dksX0_mayCome_0 12 rfl rfl)
theorem dX0_mayCome_13 : decode cX0_mayCome 13 = .ok (.if_icmp .ne 51, 3) := dk_160 0 51 (dk_at dksX0_mayCome_0 13 rfl rfl)
theorem dX0_mayCome_16 : decode cX0_mayCome 16 = .ok (.aload_n 1, 1) := dk_43 (dk_at dksX0_mayCome_0 16 rfl rfl)
theorem dX0_mayCome_17 : decode cX0_mayCome 17 = .ok (.getfield 236, 3) := dk_180 0 236 (dk_at dksX0_mayCome_0 17 rfl rfl)
theorem dX0_mayCome_20 : decode cX0_mayCome 20 = .ok (.iload_n 3, 1) := dk_29 (dk_at dksX0_mayCome_0 20 rfl rfl)
theorem dX0_mayCome_21 : decode cX0_mayCome 21 = .ok (.iaload, 1) := dk_46 (dk_at dksX0_mayCome_0 21 rfl rfl)
theorem dX0_mayCome_22 : decode cX0_mayCome 22 = .ok (.aload_n 2, 1) := dk_44 (dk_at dksX0_mayCome_0 22 rfl rfl)
theorem dX0_mayCome_23 : decode cX0_mayCome 23 = .ok (.getfield 236, 3) := dk_180 0 236 (dk_at dksX0_mayCome_1 0 rfl rfl)
theorem dX0_mayCome_26 : decode cX0_mayCome 26 = .ok (.iload 4, 2) := dk_21 4 (dk_at dksX0_mayCome_1 3 rfl rfl)
theorem dX0_mayCome_28 : decode cX0_mayCome 28 = .ok (.iaload, 1) := dk_46 (dk_at dksX0_mayCome_1 5 rfl rfl)
theorem dX0_mayCome_29 : decode cX0_mayCome 29 = .ok (.if_icmp .ne 35, 3) := dk_160 0 35 (dk_at dksX0_mayCome_1 6 rfl rfl)
theorem dX0_mayCome_32 : decode cX0_mayCome 32 = .ok (.aload_n 1, 1) := dk_43 (dk_at dksX0_mayCome_1 9 rfl rfl)
theorem dX0_mayCome_33 : decode cX0_mayCome 33 = .ok (.getfield 239, 3) := dk_180 0 239 (dk_at dksX0_mayCome_1 10 rfl rfl)
theorem dX0_mayCome_36 : decode cX0_mayCome 36 = .ok (.iload_n 3, 1) := dk_29 (dk_at dksX0_mayCome_1 13 rfl rfl)
theorem dX0_mayCome_37 : decode cX0_mayCome 37 = .ok (.iaload, 1) := dk_46 (dk_at dksX0_mayCome_1 14 rfl rfl)
theorem dX0_mayCome_38 : decode cX0_mayCome 38 = .ok (.aload_n 2, 1) := dk_44 (dk_at dksX0_mayCome_1 15 rfl rfl)
theorem dX0_mayCome_39 : decode cX0_mayCome 39 = .ok (.getfield 239, 3) := dk_180 0 239 (dk_at dksX0_mayCome_1 16 rfl rfl)
theorem dX0_mayCome_42 : decode cX0_mayCome 42 = .ok (.iload 4, 2) := dk_21 4 (dk_at dksX0_mayCome_1 19 rfl rfl)
theorem dX0_mayCome_44 : decode cX0_mayCome 44 = .ok (.iaload, 1) := dk_46 (dk_at dksX0_mayCome_1 21 rfl rfl)
theorem dX0_mayCome_45 : decode cX0_mayCome 45 = .ok (.if_icmp .ne 19, 3) := dk_160 0 19 (dk_at dksX0_mayCome_2 0 rfl rfl)
theorem dX0_mayCome_48 : decode cX0_mayCome 48 = .ok (.aload_n 1, 1) := dk_43 (dk_at dksX0_mayCome_2 3 rfl rfl)
theorem dX0_mayCome_49 : decode cX0_mayCome 49 = .ok (.getfield 242, 3) := dk_180 0 242 (dk_at dksX0_mayCome_2 4 rfl rfl)
theorem dX0_mayCome_52 : decode cX0_mayCome 52 = .ok (.iload_n 3, 1) := dk_29 (dk_at dksX0_mayCome_2 7 rfl rfl)
theorem dX0_mayCome_53 : decode cX0_mayCome 53 = .ok (.baload, 1) := dk_51 (dk_at dksX0_mayCome_2 8 rfl rfl)
theorem dX0_mayCome_54 : decode cX0_mayCome 54 = .ok (.aload_n 2, 1) := dk_44 (dk_at dksX0_mayCome_2 9 rfl rfl)
theorem dX0_mayCome_55 : decode cX0_mayCome 55 = .ok (.getfield 242, 3) := dk_180 0 242 (dk_at dksX0_mayCome_2 10 rfl rfl)
theorem dX0_mayCome_58 : decode cX0_mayCome 58 = .ok (.iload 4, 2) := dk_21 4 (dk_at dksX0_mayCome_2 13 rfl rfl)
theorem dX0_mayCome_60 : decode cX0_mayCome 60 = .ok (.baload, 1) := dk_51 (dk_at dksX0_mayCome_2 15 rfl rfl)
theorem dX0_mayCome_61 : decode cX0_mayCome 61 = .ok (.if_icmp .eq 5, 3) := dk_159 0 5 (dk_at dksX0_mayCome_2 16 rfl rfl)
theorem dX0_mayCome_64 : decode cX0_mayCome 64 = .ok (.iconst 0, 1) := dk_3 (dk_at dksX0_mayCome_2 19 rfl rfl)
theorem dX0_mayCome_65 : decode cX0_mayCome 65 = .ok (.ireturn, 1) := dk_172 (dk_at dksX0_mayCome_2 20 rfl rfl)
theorem dX0_mayCome_66 : decode cX0_mayCome 66 = .ok (.iconst 0, 1) := dk_3 (dk_at dksX0_mayCome_2 21 rfl rfl)
theorem dX0_mayCome_67 : decode cX0_mayCome 67 = .ok (.istore 5, 2) := dk_54 5 (dk_at dksX0_mayCome_2 22 rfl rfl)
theorem dX0_mayCome_69 : decode cX0_mayCome 69 = .ok (.iload 5, 2) := dk_21 5 (dk_at dksX0_mayCome_3 0 rfl rfl)
theorem dX0_mayCome_71 : decode cX0_mayCome 71 = .ok (.iload_n 3, 1) := dk_29 (dk_at dksX0_mayCome_3 2 rfl rfl)
theorem dX0_mayCome_72 : decode cX0_mayCome 72 = .ok (.if_icmp .ge 34, 3) := dk_162 0 34 (dk_at dksX0_mayCome_3 3 rfl rfl)
theorem dX0_mayCome_75 : decode cX0_mayCome 75 = .ok (.aload_n 1, 1) := dk_43 (dk_at dksX0_mayCome_3 6 rfl rfl)
theorem dX0_mayCome_76 : decode cX0_mayCome 76 = .ok (.iload 5, 2) := dk_21 5 (dk_at dksX0_mayCome_3 7 rfl rfl)
theorem dX0_mayCome_78 : decode cX0_mayCome 78 = .ok (.iload_n 3, 1) := dk_29 (dk_at dksX0_mayCome_3 9 rfl rfl)
theorem dX0_mayCome_79 : decode cX0_mayCome 79 = .ok (.invokevirtual 334, 3) := dk_182 1 78 (dk_at dksX0_mayCome_3 10 rfl rfl)
theorem dX0_mayCome_82 : decode cX0_mayCome 82 = .ok (.aload_n 2, 1) := dk_44 (dk_at dksX0_mayCome_3 13 rfl rfl)
theorem dX0_mayCome_83 : decode cX0_mayCome 83 = .ok (.aload_n 0, 1) := dk_42 (dk_at dksX0_mayCome_3 14 rfl rfl)
theorem dX0_mayCome_84 : decode cX0_mayCome 84 = .ok (.getfield 69, 3) := dk_180 0 69 (dk_at dksX0_mayCome_3 15 rfl rfl)
theorem dX0_mayCome_87 : decode cX0_mayCome 87 = .ok (.iload 5, 2) := dk_21 5 (dk_at dksX0_mayCome_3 18 rfl rfl)
theorem dX0_mayCome_89 : decode cX0_mayCome 89 = .ok (.iaload, 1) := dk_46 (dk_at dksX0_mayCome_3 20 rfl rfl)
theorem dX0_mayCome_90 : decode cX0_mayCome 90 = .ok (.iload 4, 2) := dk_21 4 (dk_at dksX0_mayCome_3 21 rfl rfl)
theorem dX0_mayCome_92 : decode cX0_mayCome 92 = .ok (.invokevirtual 334, 3) := dk_182 1 78 (dk_at dksX0_mayCome_4 0 rfl rfl)
theorem dX0_mayCome_95 : decode cX0_mayCome 95 = .ok (.if_icmp .eq 5, 3) := dk_159 0 5 (dk_at dksX0_mayCome_4 3 rfl rfl)
theorem dX0_mayCome_98 : decode cX0_mayCome 98 = .ok (.iconst 0, 1) := dk_3 (dk_at dksX0_mayCome_4 6 rfl rfl)
theorem dX0_mayCome_99 : decode cX0_mayCome 99 = .ok (.ireturn, 1) := dk_172 (dk_at dksX0_mayCome_4 7 rfl rfl)
theorem dX0_mayCome_100 : decode cX0_mayCome 100 = .ok (.iinc 5 1, 3) := dk_132 5 1 (dk_at dksX0_mayCome_4 8 rfl rfl)
theorem dX0_mayCome_103 : decode cX0_mayCome 103 = .ok (.goto (-34), 3) := dk_167 255 222 (dk_at dksX0_mayCome_4 11 rfl rfl)
theorem dX0_mayCome_106 : decode cX0_mayCome 106 = .ok (.iconst 1, 1) := dk_4 (dk_at dksX0_mayCome_4 14 rfl rfl)
theorem dX0_mayCome_107 : decode cX0_mayCome 107 = .ok (.ireturn, 1) := dk_172 (dk_at dksX0_mayCome_4 15 rfl rfl)
abbrev cX0_orbit : ByteArray := prog_1_method_48_code
def yX0_orbit : MethodName := ⟨RX0, "orbit", "(II)I"⟩
def dkwX0_orbit_1 : List UInt8 := [46, 172]
abbrev dktX0_orbit_1 : List UInt8 := dkwX0_orbit_1 ++ []
def dkwX0_orbit_0 : List UInt8 := [42, 27, 28, 182, 0, 250, 78, 45, 199, 0, 5, 2, 172, 42, 45, 45, 182, 1, 156, 42, 180, 0, 75, 28]
abbrev dktX0_orbit_0 : List UInt8 := dkwX0_orbit_0 ++ dktX0_orbit_1
theorem dksX0_orbit_0 : cX0_orbit.data.toList.drop 0 = dktX0_orbit_0 := by decide +kernel
theorem dksX0_orbit_1 : cX0_orbit.data.toList.drop 24 = dktX0_orbit_1 := dk_seg dksX0_orbit_0 24 rfl rfl
theorem dX0_orbit_0 : decode cX0_orbit 0 = .ok (.aload_n 0, 1) := dk_42 (dk_at dksX0_orbit_0 0 rfl rfl)
theorem dX0_orbit_1 : decode cX0_orbit 1 = .ok (.iload_n 1, 1) := dk_27 (dk_at dksX0_orbit_0 1 rfl rfl)
theorem dX0_orbit_2 : decode cX0_orbit 2 = .ok (.iload_n 2, 1) := dk_28 (dk_at dksX0_orbit_0 2 rfl rfl)
theorem dX0_orbit_3 : decode cX0_orbit 3 = .ok (.invokevirtual 250, 3) := dk_182 0 250 (dk_at dksX0_orbit_0 3 rfl rfl)
theorem dX0_orbit_6 : decode cX0_orbit 6 = .ok (.astore_n 3, 1) := dk_78 (dk_at dksX0_orbit_0 6 rfl rfl)
theorem dX0_orbit_7 : decode cX0_orbit 7 = .ok (.aload_n 3, 1) := dk_45 (dk_at dksX0_orbit_0 7 rfl rfl)
theorem dX0_orbit_8 : decode cX0_orbit 8 = .ok (.ifnonnull 5, 3) := dk_199 0 5 (dk_at dksX0_orbit_0 8 rfl rfl)
theorem dX0_orbit_11 : decode cX0_orbit 11 = .ok (.iconst (-1), 1) := dk_2 (dk_at dksX0_orbit_0 11 rfl rfl)
theorem dX0_orbit_12 : decode cX0_orbit 12 = .ok (.ireturn, 1) := dk_172 (dk_at dksX0_orbit_0 12 rfl rfl)
theorem dX0_orbit_13 : decode cX0_orbit 13 = .ok (.aload_n 0, 1) := dk_42 (dk_at dksX0_orbit_0 13 rfl rfl)
theorem dX0_orbit_14 : decode cX0_orbit 14 = .ok (.aload_n 3, 1) := dk_45 (dk_at dksX0_orbit_0 14 rfl rfl)
theorem dX0_orbit_15 : decode cX0_orbit 15 = .ok (.aload_n 3, 1) := dk_45 (dk_at dksX0_orbit_0 15 rfl rfl)
theorem dX0_orbit_16 : decode cX0_orbit 16 = .ok (.invokevirtual 412, 3) := dk_182 1 156 (dk_at dksX0_orbit_0 16 rfl rfl)
theorem dX0_orbit_19 : decode cX0_orbit 19 = .ok (.aload_n 0, 1) := dk_42 (dk_at dksX0_orbit_0 19 rfl rfl)
theorem dX0_orbit_20 : decode cX0_orbit 20 = .ok (.getfield 75, 3) := dk_180 0 75 (dk_at dksX0_orbit_0 20 rfl rfl)
theorem dX0_orbit_23 : decode cX0_orbit 23 = .ok (.iload_n 2, 1) := dk_28 (dk_at dksX0_orbit_0 23 rfl rfl)
theorem dX0_orbit_24 : decode cX0_orbit 24 = .ok (.iaload, 1) := dk_46 (dk_at dksX0_orbit_1 0 rfl rfl)
theorem dX0_orbit_25 : decode cX0_orbit 25 = .ok (.ireturn, 1) := dk_172 (dk_at dksX0_orbit_1 1 rfl rfl)
abbrev cX0_table : ByteArray := prog_1_method_49_code
def yX0_table : MethodName := ⟨RX0, "table", "(II)I"⟩
def dkwX0_table_3 : List UInt8 := [132, 6, 1, 167, 255, 229, 21, 5, 172]
abbrev dktX0_table_3 : List UInt8 := dkwX0_table_3 ++ []
def dkwX0_table_2 : List UInt8 := [21, 6, 45, 180, 0, 226, 162, 0, 24, 16, 10, 21, 5, 104, 42, 180, 0, 72, 21, 6, 46, 96, 54, 5]
abbrev dktX0_table_2 : List UInt8 := dkwX0_table_2 ++ dktX0_table_3
def dkwX0_table_1 : List UInt8 := [42, 45, 25, 4, 182, 1, 156, 42, 180, 1, 139, 154, 0, 6, 16, 254, 172, 3, 54, 5, 3, 54, 6]
abbrev dktX0_table_1 : List UInt8 := dkwX0_table_1 ++ dktX0_table_2
def dkwX0_table_0 : List UInt8 := [42, 27, 182, 0, 201, 78, 42, 28, 182, 0, 201, 58, 4, 45, 198, 0, 8, 25, 4, 199, 0, 5, 2, 172]
abbrev dktX0_table_0 : List UInt8 := dkwX0_table_0 ++ dktX0_table_1
theorem dksX0_table_0 : cX0_table.data.toList.drop 0 = dktX0_table_0 := by decide +kernel
theorem dksX0_table_1 : cX0_table.data.toList.drop 24 = dktX0_table_1 := dk_seg dksX0_table_0 24 rfl rfl
theorem dksX0_table_2 : cX0_table.data.toList.drop 47 = dktX0_table_2 := dk_seg dksX0_table_1 23 rfl rfl
theorem dksX0_table_3 : cX0_table.data.toList.drop 71 = dktX0_table_3 := dk_seg dksX0_table_2 24 rfl rfl
theorem dX0_table_0 : decode cX0_table 0 = .ok (.aload_n 0, 1) := dk_42 (dk_at dksX0_table_0 0 rfl rfl)
theorem dX0_table_1 : decode cX0_table 1 = .ok (.iload_n 1, 1) := dk_27 (dk_at dksX0_table_0 1 rfl rfl)
theorem dX0_table_2 : decode cX0_table 2 = .ok (.invokevirtual 201, 3) := dk_182 0 201 (dk_at dksX0_table_0 2 rfl rfl)
theorem dX0_table_5 : decode cX0_table 5 = .ok (.astore_n 3, 1) := dk_78 (dk_at dksX0_table_0 5 rfl rfl)
theorem dX0_table_6 : decode cX0_table 6 = .ok (.aload_n 0, 1) := dk_42 (dk_at dksX0_table_0 6 rfl rfl)
theorem dX0_table_7 : decode cX0_table 7 = .ok (.iload_n 2, 1) := dk_28 (dk_at dksX0_table_0 7 rfl rfl)
theorem dX0_table_8 : decode cX0_table 8 = .ok (.invokevirtual 201, 3) := dk_182 0 201 (dk_at dksX0_table_0 8 rfl rfl)
theorem dX0_table_11 : decode cX0_table 11 = .ok (.astore 4, 2) := dk_58 4 (dk_at dksX0_table_0 11 rfl rfl)
theorem dX0_table_13 : decode cX0_table 13 = .ok (.aload_n 3, 1) := dk_45 (dk_at dksX0_table_0 13 rfl rfl)
theorem dX0_table_14 : decode cX0_table 14 = .ok (.ifnull 8, 3) := dk_198 0 8 (dk_at dksX0_table_0 14 rfl rfl)
theorem dX0_table_17 : decode cX0_table 17 = .ok (.aload 4, 2) := dk_25 4 (dk_at dksX0_table_0 17 rfl rfl)
theorem dX0_table_19 : decode cX0_table 19 = .ok (.ifnonnull 5, 3) := dk_199 0 5 (dk_at dksX0_table_0 19 rfl rfl)
theorem dX0_table_22 : decode cX0_table 22 = .ok (.iconst (-1), 1) := dk_2 (dk_at dksX0_table_0 22 rfl rfl)
theorem dX0_table_23 : decode cX0_table 23 = .ok (.ireturn, 1) := dk_172 (dk_at dksX0_table_0 23 rfl rfl)
theorem dX0_table_24 : decode cX0_table 24 = .ok (.aload_n 0, 1) := dk_42 (dk_at dksX0_table_1 0 rfl rfl)
theorem dX0_table_25 : decode cX0_table 25 = .ok (.aload_n 3, 1) := dk_45 (dk_at dksX0_table_1 1 rfl rfl)
theorem dX0_table_26 : decode cX0_table 26 = .ok (.aload 4, 2) := dk_25 4 (dk_at dksX0_table_1 2 rfl rfl)
theorem dX0_table_28 : decode cX0_table 28 = .ok (.invokevirtual 412, 3) := dk_182 1 156 (dk_at dksX0_table_1 4 rfl rfl)
theorem dX0_table_31 : decode cX0_table 31 = .ok (.aload_n 0, 1) := dk_42 (dk_at dksX0_table_1 7 rfl rfl)
theorem dX0_table_32 : decode cX0_table 32 = .ok (.getfield 395, 3) := dk_180 1 139 (dk_at dksX0_table_1 8 rfl rfl)
theorem dX0_table_35 : decode cX0_table 35 = .ok (.ifCond .ne 6, 3) := dk_154 0 6 (dk_at dksX0_table_1 11 rfl rfl)
theorem dX0_table_38 : decode cX0_table 38 = .ok (.bipush (-2), 2) := dk_16 254 (dk_at dksX0_table_1 14 rfl rfl)
theorem dX0_table_40 : decode cX0_table 40 = .ok (.ireturn, 1) := dk_172 (dk_at dksX0_table_1 16 rfl rfl)
theorem dX0_table_41 : decode cX0_table 41 = .ok (.iconst 0, 1) := dk_3 (dk_at dksX0_table_1 17 rfl rfl)
theorem dX0_table_42 : decode cX0_table 42 = .ok (.istore 5, 2) := dk_54 5 (dk_at dksX0_table_1 18 rfl rfl)
theorem dX0_table_44 : decode cX0_table 44 = .ok (.iconst 0, 1) := dk_3 (dk_at dksX0_table_1 20 rfl rfl)
theorem dX0_table_45 : decode cX0_table 45 = .ok (.istore 6, 2) := dk_54 6 (dk_at dksX0_table_1 21 rfl rfl)
theorem dX0_table_47 : decode cX0_table 47 = .ok (.iload 6, 2) := dk_21 6 (dk_at dksX0_table_2 0 rfl rfl)
theorem dX0_table_49 : decode cX0_table 49 = .ok (.aload_n 3, 1) := dk_45 (dk_at dksX0_table_2 2 rfl rfl)
theorem dX0_table_50 : decode cX0_table 50 = .ok (.getfield 226, 3) := dk_180 0 226 (dk_at dksX0_table_2 3 rfl rfl)
theorem dX0_table_53 : decode cX0_table 53 = .ok (.if_icmp .ge 24, 3) := dk_162 0 24 (dk_at dksX0_table_2 6 rfl rfl)
theorem dX0_table_56 : decode cX0_table 56 = .ok (.bipush 10, 2) := dk_16 10 (dk_at dksX0_table_2 9 rfl rfl)
theorem dX0_table_58 : decode cX0_table 58 = .ok (.iload 5, 2) := dk_21 5 (dk_at dksX0_table_2 11 rfl rfl)
theorem dX0_table_60 : decode cX0_table 60 = .ok (.imul, 1) := dk_104 (dk_at dksX0_table_2 13 rfl rfl)
theorem dX0_table_61 : decode cX0_table 61 = .ok (.aload_n 0, 1) := dk_42 (dk_at dksX0_table_2 14 rfl rfl)
theorem dX0_table_62 : decode cX0_table 62 = .ok (.getfield 72, 3) := dk_180 0 72 (dk_at dksX0_table_2 15 rfl rfl)
theorem dX0_table_65 : decode cX0_table 65 = .ok (.iload 6, 2) := dk_21 6 (dk_at dksX0_table_2 18 rfl rfl)
theorem dX0_table_67 : decode cX0_table 67 = .ok (.iaload, 1) := dk_46 (dk_at dksX0_table_2 20 rfl rfl)
theorem dX0_table_68 : decode cX0_table 68 = .ok (.iadd, 1) := dk_96 (dk_at dksX0_table_2 21 rfl rfl)
theorem dX0_table_69 : decode cX0_table 69 = .ok (.istore 5, 2) := dk_54 5 (dk_at dksX0_table_2 22 rfl rfl)
theorem dX0_table_71 : decode cX0_table 71 = .ok (.iinc 6 1, 3) := dk_132 6 1 (dk_at dksX0_table_3 0 rfl rfl)
theorem dX0_table_74 : decode cX0_table 74 = .ok (.goto (-27), 3) := dk_167 255 229 (dk_at dksX0_table_3 3 rfl rfl)
theorem dX0_table_77 : decode cX0_table 77 = .ok (.iload 5, 2) := dk_21 5 (dk_at dksX0_table_3 6 rfl rfl)
theorem dX0_table_79 : decode cX0_table 79 = .ok (.ireturn, 1) := dk_172 (dk_at dksX0_table_3 8 rfl rfl)
abbrev cX0_alike : ByteArray := prog_1_method_52_code
def yX0_alike : MethodName := ⟨RX0, "alike", "(III)I"⟩
def dkwX0_alike_3 : List UInt8 := [180, 1, 139, 154, 0, 7, 4, 167, 0, 4, 3, 184, 0, 246, 172]
abbrev dktX0_alike_3 : List UInt8 := dkwX0_alike_3 ++ []
def dkwX0_alike_2 : List UInt8 := [154, 0, 9, 21, 6, 184, 0, 246, 172, 42, 25, 4, 25, 5, 182, 1, 156, 21, 6, 153, 0, 14, 42]
abbrev dktX0_alike_2 : List UInt8 := dkwX0_alike_2 ++ dktX0_alike_3
def dkwX0_alike_1 : List UInt8 := [29, 133, 9, 10, 184, 0, 152, 154, 0, 5, 2, 172, 42, 25, 4, 25, 5, 182, 1, 164, 54, 6, 29]
abbrev dktX0_alike_1 : List UInt8 := dkwX0_alike_1 ++ dktX0_alike_2
def dkwX0_alike_0 : List UInt8 := [42, 27, 182, 0, 201, 58, 4, 42, 28, 182, 0, 201, 58, 5, 25, 4, 198, 0, 18, 25, 5, 198, 0, 13]
abbrev dktX0_alike_0 : List UInt8 := dkwX0_alike_0 ++ dktX0_alike_1
theorem dksX0_alike_0 : cX0_alike.data.toList.drop 0 = dktX0_alike_0 := by decide +kernel
theorem dksX0_alike_1 : cX0_alike.data.toList.drop 24 = dktX0_alike_1 := dk_seg dksX0_alike_0 24 rfl rfl
theorem dksX0_alike_2 : cX0_alike.data.toList.drop 47 = dktX0_alike_2 := dk_seg dksX0_alike_1 23 rfl rfl
theorem dksX0_alike_3 : cX0_alike.data.toList.drop 70 = dktX0_alike_3 := dk_seg dksX0_alike_2 23 rfl rfl
theorem dX0_alike_0 : decode cX0_alike 0 = .ok (.aload_n 0, 1) := dk_42 (dk_at dksX0_alike_0 0 rfl rfl)
theorem dX0_alike_1 : decode cX0_alike 1 = .ok (.iload_n 1, 1) := dk_27 (dk_at dksX0_alike_0 1 rfl rfl)
theorem dX0_alike_2 : decode cX0_alike 2 = .ok (.invokevirtual 201, 3) := dk_182 0 201 (dk_at dksX0_alike_0 2 rfl rfl)
theorem dX0_alike_5 : decode cX0_alike 5 = .ok (.astore 4, 2) := dk_58 4 (dk_at dksX0_alike_0 5 rfl rfl)
theorem dX0_alike_7 : decode cX0_alike 7 = .ok (.aload_n 0, 1) := dk_42 (dk_at dksX0_alike_0 7 rfl rfl)
theorem dX0_alike_8 : decode cX0_alike 8 = .ok (.iload_n 2, 1) := dk_28 (dk_at dksX0_alike_0 8 rfl rfl)
theorem dX0_alike_9 : decode cX0_alike 9 = .ok (.invokevirtual 201, 3) := dk_182 0 201 (dk_at dksX0_alike_0 9 rfl rfl)
theorem dX0_alike_12 : decode cX0_alike 12 = .ok (.astore 5, 2) := dk_58 5 (dk_at dksX0_alike_0 12 rfl rfl)
theorem dX0_alike_14 : decode cX0_alike 14 = .ok (.aload 4, 2) := dk_25 4 (dk_at dksX0_alike_0 14 rfl rfl)
theorem dX0_alike_16 : decode cX0_alike 16 = .ok (.ifnull 18, 3) := dk_198 0 18 (dk_at dksX0_alike_0 16 rfl rfl)
theorem dX0_alike_19 : decode cX0_alike 19 = .ok (.aload 5, 2) := dk_25 5 (dk_at dksX0_alike_0 19 rfl rfl)
theorem dX0_alike_21 : decode cX0_alike 21 = .ok (.ifnull 13, 3) := dk_198 0 13 (dk_at dksX0_alike_0 21 rfl rfl)
theorem dX0_alike_24 : decode cX0_alike 24 = .ok (.iload_n 3, 1) := dk_29 (dk_at dksX0_alike_1 0 rfl rfl)
theorem dX0_alike_25 : decode cX0_alike 25 = .ok (.i2l, 1) := dk_133 (dk_at dksX0_alike_1 1 rfl rfl)
theorem dX0_alike_26 : decode cX0_alike 26 = .ok (.lconst 0, 1) := dk_9 (dk_at dksX0_alike_1 2 rfl rfl)
theorem dX0_alike_27 : decode cX0_alike 27 = .ok (.lconst 1, 1) := dk_10 (dk_at dksX0_alike_1 3 rfl rfl)
theorem dX0_alike_28 : decode cX0_alike 28 = .ok (.invokestatic 152, 3) := dk_184 0 152 (dk_at dksX0_alike_1 4 rfl rfl)
theorem dX0_alike_31 : decode cX0_alike 31 = .ok (.ifCond .ne 5, 3) := dk_154 0 5 (dk_at dksX0_alike_1 7 rfl rfl)
theorem dX0_alike_34 : decode cX0_alike 34 = .ok (.iconst (-1), 1) := dk_2 (dk_at dksX0_alike_1 10 rfl rfl)
theorem dX0_alike_35 : decode cX0_alike 35 = .ok (.ireturn, 1) := dk_172 (dk_at dksX0_alike_1 11 rfl rfl)
theorem dX0_alike_36 : decode cX0_alike 36 = .ok (.aload_n 0, 1) := dk_42 (dk_at dksX0_alike_1 12 rfl rfl)
theorem dX0_alike_37 : decode cX0_alike 37 = .ok (.aload 4, 2) := dk_25 4 (dk_at dksX0_alike_1 13 rfl rfl)
theorem dX0_alike_39 : decode cX0_alike 39 = .ok (.aload 5, 2) := dk_25 5 (dk_at dksX0_alike_1 15 rfl rfl)
theorem dX0_alike_41 : decode cX0_alike 41 = .ok (.invokevirtual 420, 3) := dk_182 1 164 (dk_at dksX0_alike_1 17 rfl rfl)
theorem dX0_alike_44 : decode cX0_alike 44 = .ok (.istore 6, 2) := dk_54 6 (dk_at dksX0_alike_1 20 rfl rfl)
theorem dX0_alike_46 : decode cX0_alike 46 = .ok (.iload_n 3, 1) := dk_29 (dk_at dksX0_alike_1 22 rfl rfl)
theorem dX0_alike_47 : decode cX0_alike 47 = .ok (.ifCond .ne 9, 3) := dk_154 0 9 (dk_at dksX0_alike_2 0 rfl rfl)
theorem dX0_alike_50 : decode cX0_alike 50 = .ok (.iload 6, 2) := dk_21 6 (dk_at dksX0_alike_2 3 rfl rfl)
theorem dX0_alike_52 : decode cX0_alike 52 = .ok (.invokestatic 246, 3) := dk_184 0 246 (dk_at dksX0_alike_2 5 rfl rfl)
theorem dX0_alike_55 : decode cX0_alike 55 = .ok (.ireturn, 1) := dk_172 (dk_at dksX0_alike_2 8 rfl rfl)
theorem dX0_alike_56 : decode cX0_alike 56 = .ok (.aload_n 0, 1) := dk_42 (dk_at dksX0_alike_2 9 rfl rfl)
theorem dX0_alike_57 : decode cX0_alike 57 = .ok (.aload 4, 2) := dk_25 4 (dk_at dksX0_alike_2 10 rfl rfl)
theorem dX0_alike_59 : decode cX0_alike 59 = .ok (.aload 5, 2) := dk_25 5 (dk_at dksX0_alike_2 12 rfl rfl)
theorem dX0_alike_61 : decode cX0_alike 61 = .ok (.invokevirtual 412, 3) := dk_182 1 156 (dk_at dksX0_alike_2 14 rfl rfl)
theorem dX0_alike_64 : decode cX0_alike 64 = .ok (.iload 6, 2) := dk_21 6 (dk_at dksX0_alike_2 17 rfl rfl)
theorem dX0_alike_66 : decode cX0_alike 66 = .ok (.ifCond .eq 14, 3) := dk_153 0 14 (dk_at dksX0_alike_2 19 rfl rfl)
theorem dX0_alike_69 : decode cX0_alike 69 = .ok (.aload_n 0, 1) := dk_42 (dk_at dksX0_alike_2 22 rfl rfl)
theorem dX0_alike_70 : decode cX0_alike 70 = .ok (.getfield 395, 3) := dk_180 1 139 (dk_at dksX0_alike_3 0 rfl rfl)
theorem dX0_alike_73 : decode cX0_alike 73 = .ok (.ifCond .ne 7, 3) := dk_154 0 7 (dk_at dksX0_alike_3 3 rfl rfl)
theorem dX0_alike_76 : decode cX0_alike 76 = .ok (.iconst 1, 1) := dk_4 (dk_at dksX0_alike_3 6 rfl rfl)
theorem dX0_alike_77 : decode cX0_alike 77 = .ok (.goto 4, 3) := dk_167 0 4 (dk_at dksX0_alike_3 7 rfl rfl)
theorem dX0_alike_80 : decode cX0_alike 80 = .ok (.iconst 0, 1) := dk_3 (dk_at dksX0_alike_3 10 rfl rfl)
theorem dX0_alike_81 : decode cX0_alike 81 = .ok (.invokestatic 246, 3) := dk_184 0 246 (dk_at dksX0_alike_3 11 rfl rfl)
theorem dX0_alike_84 : decode cX0_alike 84 = .ok (.ireturn, 1) := dk_172 (dk_at dksX0_alike_3 14 rfl rfl)
abbrev cX0_soundAlike : ByteArray := prog_1_method_51_code
def yX0_soundAlike : MethodName := ⟨RX0, "soundAlike", "(LPlatesSing$Shape;LPlatesSing$Shape;)Z"⟩
def dkwX0_soundAlike_3 : List UInt8 := [172, 132, 3, 1, 167, 255, 195, 4, 172]
abbrev dktX0_soundAlike_3 : List UInt8 := dkwX0_soundAlike_3 ++ []
def dkwX0_soundAlike_2 : List UInt8 := [182, 1, 97, 22, 4, 42, 180, 0, 47, 42, 180, 1, 65, 47, 43, 184, 1, 160, 105, 148, 153, 0, 5, 3]
abbrev dktX0_soundAlike_2 : List UInt8 := dkwX0_soundAlike_2 ++ dktX0_soundAlike_3
def dkwX0_soundAlike_1 : List UInt8 := [4, 182, 1, 97, 42, 180, 0, 47, 42, 180, 1, 65, 47, 44, 184, 1, 160, 105, 55, 4, 42, 44, 29, 4]
abbrev dktX0_soundAlike_1 : List UInt8 := dkwX0_soundAlike_1 ++ dktX0_soundAlike_2
def dkwX0_soundAlike_0 : List UInt8 := [43, 182, 0, 230, 44, 182, 0, 230, 159, 0, 5, 3, 172, 3, 62, 29, 16, 6, 163, 0, 61, 42, 43, 29]
abbrev dktX0_soundAlike_0 : List UInt8 := dkwX0_soundAlike_0 ++ dktX0_soundAlike_1
theorem dksX0_soundAlike_0 : cX0_soundAlike.data.toList.drop 0 = dktX0_soundAlike_0 := by decide +kernel
theorem dksX0_soundAlike_1 : cX0_soundAlike.data.toList.drop 24 = dktX0_soundAlike_1 := dk_seg dksX0_soundAlike_0 24 rfl rfl
theorem dksX0_soundAlike_2 : cX0_soundAlike.data.toList.drop 48 = dktX0_soundAlike_2 := dk_seg dksX0_soundAlike_1 24 rfl rfl
theorem dksX0_soundAlike_3 : cX0_soundAlike.data.toList.drop 72 = dktX0_soundAlike_3 := dk_seg dksX0_soundAlike_2 24 rfl rfl
theorem dX0_soundAlike_0 : decode cX0_soundAlike 0 = .ok (.aload_n 1, 1) := dk_43 (dk_at dksX0_soundAlike_0 0 rfl rfl)
theorem dX0_soundAlike_1 : decode cX0_soundAlike 1 = .ok (.invokevirtual 230, 3) := dk_182 0 230 (dk_at dksX0_soundAlike_0 1 rfl rfl)
theorem dX0_soundAlike_4 : decode cX0_soundAlike 4 = .ok (.aload_n 2, 1) := dk_44 (dk_at dksX0_soundAlike_0 4 rfl rfl)
theorem dX0_soundAlike_5 : decode cX0_soundAlike 5 = .ok (.invokevirtual 230, 3) := dk_182 0 230 (dk_at dksX0_soundAlike_0 5 rfl rfl)
theorem dX0_soundAlike_8 : decode cX0_soundAlike 8 = .ok (.if_icmp .eq 5, 3) := dk_159 0 5 (dk_at dksX0_soundAlike_0 8 rfl rfl)
theorem dX0_soundAlike_11 : decode cX0_soundAlike 11 = .ok (.iconst 0, 1) := dk_3 (dk_at dksX0_soundAlike_0 11 rfl rfl)
theorem dX0_soundAlike_12 : decode cX0_soundAlike 12 = .ok (.ireturn, 1) := dk_172 (dk_at dksX0_soundAlike_0 12 rfl rfl)
theorem dX0_soundAlike_13 : decode cX0_soundAlike 13 = .ok (.iconst 0, 1) := dk_3 (dk_at dksX0_soundAlike_0 13 rfl rfl)
theorem dX0_soundAlike_14 : decode cX0_soundAlike 14 = .ok (.istore_n 3, 1) := dk_62 (dk_at dksX0_soundAlike_0 14 rfl rfl)
theorem dX0_soundAlike_15 : decode cX0_soundAlike 15 = .ok (.iload_n 3, 1) := dk_29 (dk_at dksX0_soundAlike_0 15 rfl rfl)
theorem dX0_soundAlike_16 : decode cX0_soundAlike 16 = .ok (.bipush 6, 2) := dk_16 6 (dk_at dksX0_soundAlike_0 16 rfl rfl)
theorem dX0_soundAlike_18 : decode cX0_soundAlike 18 = .ok (.if_icmp .gt 61, 3) := dk_163 0 61 (dk_at dksX0_soundAlike_0 18 rfl rfl)
theorem dX0_soundAlike_21 : decode cX0_soundAlike 21 = .ok (.aload_n 0, 1) := dk_42 (dk_at dksX0_soundAlike_0 21 rfl rfl)
theorem dX0_soundAlike_22 : decode cX0_soundAlike 22 = .ok (.aload_n 1, 1) := dk_43 (dk_at dksX0_soundAlike_0 22 rfl rfl)
theorem dX0_soundAlike_23 : decode cX0_soundAlike 23 = .ok (.iload_n 3, 1) := dk_29 (dk_at dksX0_soundAlike_0 23 rfl rfl)
theorem dX0_soundAlike_24 : decode cX0_soundAlike 24 = .ok (.iconst 1, 1) := dk_4 (dk_at dksX0_soundAlike_1 0 rfl rfl)
theorem dX0_soundAlike_25 : decode cX0_soundAlike 25 = .ok (.invokevirtual 353, 3) := dk_182 1 97 (dk_at dksX0_soundAlike_1 1 rfl rfl)
theorem dX0_soundAlike_28 : decode cX0_soundAlike 28 = .ok (.aload_n 0, 1) := dk_42 (dk_at dksX0_soundAlike_1 4 rfl rfl)
theorem dX0_soundAlike_29 : decode cX0_soundAlike 29 = .ok (.getfield 47, 3) := dk_180 0 47 (dk_at dksX0_soundAlike_1 5 rfl rfl)
theorem dX0_soundAlike_32 : decode cX0_soundAlike 32 = .ok (.aload_n 0, 1) := dk_42 (dk_at dksX0_soundAlike_1 8 rfl rfl)
theorem dX0_soundAlike_33 : decode cX0_soundAlike 33 = .ok (.getfield 321, 3) := dk_180 1 65 (dk_at dksX0_soundAlike_1 9 rfl rfl)
theorem dX0_soundAlike_36 : decode cX0_soundAlike 36 = .ok (.laload, 1) := dk_47 (dk_at dksX0_soundAlike_1 12 rfl rfl)
theorem dX0_soundAlike_37 : decode cX0_soundAlike 37 = .ok (.aload_n 2, 1) := dk_44 (dk_at dksX0_soundAlike_1 13 rfl rfl)
theorem dX0_soundAlike_38 : decode cX0_soundAlike 38 = .ok (.invokestatic 416, 3) := dk_184 1 160 (dk_at dksX0_soundAlike_1 14 rfl rfl)
theorem dX0_soundAlike_41 : decode cX0_soundAlike 41 = .ok (.lmul, 1) := dk_105 (dk_at dksX0_soundAlike_1 17 rfl rfl)
theorem dX0_soundAlike_42 : decode cX0_soundAlike 42 = .ok (.lstore 4, 2) := dk_55 4 (dk_at dksX0_soundAlike_1 18 rfl rfl)
theorem dX0_soundAlike_44 : decode cX0_soundAlike 44 = .ok (.aload_n 0, 1) := dk_42 (dk_at dksX0_soundAlike_1 20 rfl rfl)
theorem dX0_soundAlike_45 : decode cX0_soundAlike 45 = .ok (.aload_n 2, 1) := dk_44 (dk_at dksX0_soundAlike_1 21 rfl rfl)
theorem dX0_soundAlike_46 : decode cX0_soundAlike 46 = .ok (.iload_n 3, 1) := dk_29 (dk_at dksX0_soundAlike_1 22 rfl rfl)
theorem dX0_soundAlike_47 : decode cX0_soundAlike 47 = .ok (.iconst 1, 1) := dk_4 (dk_at dksX0_soundAlike_1 23 rfl rfl)
theorem dX0_soundAlike_48 : decode cX0_soundAlike 48 = .ok (.invokevirtual 353, 3) := dk_182 1 97 (dk_at dksX0_soundAlike_2 0 rfl rfl)
theorem dX0_soundAlike_51 : decode cX0_soundAlike 51 = .ok (.lload 4, 2) := dk_22 4 (dk_at dksX0_soundAlike_2 3 rfl rfl)
theorem dX0_soundAlike_53 : decode cX0_soundAlike 53 = .ok (.aload_n 0, 1) := dk_42 (dk_at dksX0_soundAlike_2 5 rfl rfl)
theorem dX0_soundAlike_54 : decode cX0_soundAlike 54 = .ok (.getfield 47, 3) := dk_180 0 47 (dk_at dksX0_soundAlike_2 6 rfl rfl)
theorem dX0_soundAlike_57 : decode cX0_soundAlike 57 = .ok (.aload_n 0, 1) := dk_42 (dk_at dksX0_soundAlike_2 9 rfl rfl)
theorem dX0_soundAlike_58 : decode cX0_soundAlike 58 = .ok (.getfield 321, 3) := dk_180 1 65 (dk_at dksX0_soundAlike_2 10 rfl rfl)
theorem dX0_soundAlike_61 : decode cX0_soundAlike 61 = .ok (.laload, 1) := dk_47 (dk_at dksX0_soundAlike_2 13 rfl rfl)
theorem dX0_soundAlike_62 : decode cX0_soundAlike 62 = .ok (.aload_n 1, 1) := dk_43 (dk_at dksX0_soundAlike_2 14 rfl rfl)
theorem dX0_soundAlike_63 : decode cX0_soundAlike 63 = .ok (.invokestatic 416, 3) := dk_184 1 160 (dk_at dksX0_soundAlike_2 15 rfl rfl)
theorem dX0_soundAlike_66 : decode cX0_soundAlike 66 = .ok (.lmul, 1) := dk_105 (dk_at dksX0_soundAlike_2 18 rfl rfl)
theorem dX0_soundAlike_67 : decode cX0_soundAlike 67 = .ok (.lcmp, 1) := dk_148 (dk_at dksX0_soundAlike_2 19 rfl rfl)
theorem dX0_soundAlike_68 : decode cX0_soundAlike 68 = .ok (.ifCond .eq 5, 3) := dk_153 0 5 (dk_at dksX0_soundAlike_2 20 rfl rfl)
theorem dX0_soundAlike_71 : decode cX0_soundAlike 71 = .ok (.iconst 0, 1) := dk_3 (dk_at dksX0_soundAlike_2 23 rfl rfl)
theorem dX0_soundAlike_72 : decode cX0_soundAlike 72 = .ok (.ireturn, 1) := dk_172 (dk_at dksX0_soundAlike_3 0 rfl rfl)
theorem dX0_soundAlike_73 : decode cX0_soundAlike 73 = .ok (.iinc 3 1, 3) := dk_132 3 1 (dk_at dksX0_soundAlike_3 1 rfl rfl)
theorem dX0_soundAlike_76 : decode cX0_soundAlike 76 = .ok (.goto (-61), 3) := dk_167 255 195 (dk_at dksX0_soundAlike_3 4 rfl rfl)
theorem dX0_soundAlike_79 : decode cX0_soundAlike 79 = .ok (.iconst 1, 1) := dk_4 (dk_at dksX0_soundAlike_3 7 rfl rfl)
theorem dX0_soundAlike_80 : decode cX0_soundAlike 80 = .ok (.ireturn, 1) := dk_172 (dk_at dksX0_soundAlike_3 8 rfl rfl)
abbrev cX0_divisor : ByteArray := prog_1_method_50_code
def yX0_divisor : MethodName := ⟨RX0, "divisor", "(LPlatesSing$Shape;)J"⟩
def dkwX0_divisor_1 : List UInt8 := [167, 0, 9, 42, 29, 182, 1, 74, 133, 105, 64, 132, 3, 1, 167, 255, 223, 31, 173]
abbrev dktX0_divisor_1 : List UInt8 := dkwX0_divisor_1 ++ []
def dkwX0_divisor_0 : List UInt8 := [10, 64, 3, 62, 29, 42, 180, 0, 226, 162, 0, 31, 31, 42, 180, 0, 242, 29, 51, 153, 0, 7, 10]
abbrev dktX0_divisor_0 : List UInt8 := dkwX0_divisor_0 ++ dktX0_divisor_1
theorem dksX0_divisor_0 : cX0_divisor.data.toList.drop 0 = dktX0_divisor_0 := by decide +kernel
theorem dksX0_divisor_1 : cX0_divisor.data.toList.drop 23 = dktX0_divisor_1 := dk_seg dksX0_divisor_0 23 rfl rfl
theorem dX0_divisor_0 : decode cX0_divisor 0 = .ok (.lconst 1, 1) := dk_10 (dk_at dksX0_divisor_0 0 rfl rfl)
theorem dX0_divisor_1 : decode cX0_divisor 1 = .ok (.lstore_n 1, 1) := dk_64 (dk_at dksX0_divisor_0 1 rfl rfl)
theorem dX0_divisor_2 : decode cX0_divisor 2 = .ok (.iconst 0, 1) := dk_3 (dk_at dksX0_divisor_0 2 rfl rfl)
theorem dX0_divisor_3 : decode cX0_divisor 3 = .ok (.istore_n 3, 1) := dk_62 (dk_at dksX0_divisor_0 3 rfl rfl)
theorem dX0_divisor_4 : decode cX0_divisor 4 = .ok (.iload_n 3, 1) := dk_29 (dk_at dksX0_divisor_0 4 rfl rfl)
theorem dX0_divisor_5 : decode cX0_divisor 5 = .ok (.aload_n 0, 1) := dk_42 (dk_at dksX0_divisor_0 5 rfl rfl)
theorem dX0_divisor_6 : decode cX0_divisor 6 = .ok (.getfield 226, 3) := dk_180 0 226 (dk_at dksX0_divisor_0 6 rfl rfl)
theorem dX0_divisor_9 : decode cX0_divisor 9 = .ok (.if_icmp .ge 31, 3) := dk_162 0 31 (dk_at dksX0_divisor_0 9 rfl rfl)
theorem dX0_divisor_12 : decode cX0_divisor 12 = .ok (.lload_n 1, 1) := dk_31 (dk_at dksX0_divisor_0 12 rfl rfl)
theorem dX0_divisor_13 : decode cX0_divisor 13 = .ok (.aload_n 0, 1) := dk_42 (dk_at dksX0_divisor_0 13 rfl rfl)
theorem dX0_divisor_14 : decode cX0_divisor 14 = .ok (.getfield 242, 3) := dk_180 0 242 (dk_at dksX0_divisor_0 14 rfl rfl)
theorem dX0_divisor_17 : decode cX0_divisor 17 = .ok (.iload_n 3, 1) := dk_29 (dk_at dksX0_divisor_0 17 rfl rfl)
theorem dX0_divisor_18 : decode cX0_divisor 18 = .ok (.baload, 1) := dk_51 (dk_at dksX0_divisor_0 18 rfl rfl)
theorem dX0_divisor_19 : decode cX0_divisor 19 = .ok (.ifCond .eq 7, 3) := dk_153 0 7 (dk_at dksX0_divisor_0 19 rfl rfl)
theorem dX0_divisor_22 : decode cX0_divisor 22 = .ok (.lconst 1, 1) := dk_10 (dk_at dksX0_divisor_0 22 rfl rfl)
theorem dX0_divisor_23 : decode cX0_divisor 23 = .ok (.goto 9, 3) := dk_167 0 9 (dk_at dksX0_divisor_1 0 rfl rfl)
theorem dX0_divisor_26 : decode cX0_divisor 26 = .ok (.aload_n 0, 1) := dk_42 (dk_at dksX0_divisor_1 3 rfl rfl)
theorem dX0_divisor_27 : decode cX0_divisor 27 = .ok (.iload_n 3, 1) := dk_29 (dk_at dksX0_divisor_1 4 rfl rfl)
theorem dX0_divisor_28 : decode cX0_divisor 28 = .ok (.invokevirtual 330, 3) := dk_182 1 74 (dk_at dksX0_divisor_1 5 rfl rfl)
theorem dX0_divisor_31 : decode cX0_divisor 31 = .ok (.i2l, 1) := dk_133 (dk_at dksX0_divisor_1 8 rfl rfl)
theorem dX0_divisor_32 : decode cX0_divisor 32 = .ok (.lmul, 1) := dk_105 (dk_at dksX0_divisor_1 9 rfl rfl)
theorem dX0_divisor_33 : decode cX0_divisor 33 = .ok (.lstore_n 1, 1) := dk_64 (dk_at dksX0_divisor_1 10 rfl rfl)
theorem dX0_divisor_34 : decode cX0_divisor 34 = .ok (.iinc 3 1, 3) := dk_132 3 1 (dk_at dksX0_divisor_1 11 rfl rfl)
theorem dX0_divisor_37 : decode cX0_divisor 37 = .ok (.goto (-33), 3) := dk_167 255 223 (dk_at dksX0_divisor_1 14 rfl rfl)
theorem dX0_divisor_40 : decode cX0_divisor 40 = .ok (.lload_n 1, 1) := dk_31 (dk_at dksX0_divisor_1 17 rfl rfl)
theorem dX0_divisor_41 : decode cX0_divisor 41 = .ok (.lreturn, 1) := dk_173 (dk_at dksX0_divisor_1 18 rfl rfl)
abbrev cX0_plan : ByteArray := prog_1_method_53_code
def yX0_plan : MethodName := ⟨RX0, "plan", "(IIII)I"⟩
def dkwX0_plan_10 : List UInt8 := [180, 1, 170, 4, 96, 90, 181, 1, 170, 172]
abbrev dktX0_plan_10 : List UInt8 := dkwX0_plan_10 ++ []
def dkwX0_plan_9 : List UInt8 := [42, 180, 0, 81, 42, 180, 1, 170, 29, 79, 42, 180, 0, 84, 42, 180, 1, 170, 21, 4, 79, 42, 89]
abbrev dktX0_plan_9 : List UInt8 := dkwX0_plan_9 ++ dktX0_plan_10
def dkwX0_plan_8 : List UInt8 := [16, 6, 160, 0, 6, 16, 253, 172, 42, 25, 5, 181, 1, 173, 42, 180, 0, 78, 42, 180, 1, 170, 28, 79]
abbrev dktX0_plan_8 : List UInt8 := dkwX0_plan_8 ++ dktX0_plan_9
def dkwX0_plan_7 : List UInt8 := [167, 0, 4, 3, 54, 7, 21, 7, 153, 0, 5, 2, 172, 132, 6, 1, 167, 255, 155, 42, 180, 1, 170]
abbrev dktX0_plan_7 : List UInt8 := dkwX0_plan_7 ++ dktX0_plan_8
def dkwX0_plan_6 : List UInt8 := [21, 6, 46, 42, 180, 0, 81, 21, 6, 46, 182, 1, 0, 25, 5, 28, 29, 182, 1, 0, 166, 0, 7, 4]
abbrev dktX0_plan_6 : List UInt8 := dkwX0_plan_6 ++ dktX0_plan_7
def dkwX0_plan_5 : List UInt8 := [167, 0, 52, 3, 167, 0, 48, 42, 180, 0, 81, 21, 6, 46, 2, 159, 0, 36, 25, 5, 42, 180, 0, 78]
abbrev dktX0_plan_5 : List UInt8 := dkwX0_plan_5 ++ dktX0_plan_6
def dkwX0_plan_4 : List UInt8 := [180, 0, 81, 21, 6, 46, 2, 160, 0, 18, 42, 180, 0, 78, 21, 6, 46, 28, 160, 0, 7, 4]
abbrev dktX0_plan_4 : List UInt8 := dkwX0_plan_4 ++ dktX0_plan_5
def dkwX0_plan_3 : List UInt8 := [199, 0, 6, 16, 254, 172, 3, 54, 6, 21, 6, 42, 180, 1, 170, 162, 0, 98, 29, 2, 160, 0, 33, 42]
abbrev dktX0_plan_3 : List UInt8 := dkwX0_plan_3 ++ dktX0_plan_4
def dkwX0_plan_2 : List UInt8 := [25, 5, 42, 180, 1, 173, 165, 0, 5, 2, 172, 29, 2, 159, 0, 16, 25, 5, 28, 29, 182, 1, 0]
abbrev dktX0_plan_2 : List UInt8 := dkwX0_plan_2 ++ dktX0_plan_3
def dkwX0_plan_1 : List UInt8 := [153, 0, 32, 21, 4, 133, 10, 20, 1, 168, 184, 0, 152, 153, 0, 19, 42, 180, 1, 170, 158, 0, 14]
abbrev dktX0_plan_1 : List UInt8 := dkwX0_plan_1 ++ dktX0_plan_2
def dkwX0_plan_0 : List UInt8 := [42, 27, 28, 182, 0, 250, 58, 5, 25, 5, 198, 0, 46, 29, 2, 159, 0, 12, 25, 5, 29, 182, 0, 205]
abbrev dktX0_plan_0 : List UInt8 := dkwX0_plan_0 ++ dktX0_plan_1
theorem dksX0_plan_0 : cX0_plan.data.toList.drop 0 = dktX0_plan_0 := by decide +kernel
theorem dksX0_plan_1 : cX0_plan.data.toList.drop 24 = dktX0_plan_1 := dk_seg dksX0_plan_0 24 rfl rfl
theorem dksX0_plan_2 : cX0_plan.data.toList.drop 47 = dktX0_plan_2 := dk_seg dksX0_plan_1 23 rfl rfl
theorem dksX0_plan_3 : cX0_plan.data.toList.drop 70 = dktX0_plan_3 := dk_seg dksX0_plan_2 23 rfl rfl
theorem dksX0_plan_4 : cX0_plan.data.toList.drop 94 = dktX0_plan_4 := dk_seg dksX0_plan_3 24 rfl rfl
theorem dksX0_plan_5 : cX0_plan.data.toList.drop 116 = dktX0_plan_5 := dk_seg dksX0_plan_4 22 rfl rfl
theorem dksX0_plan_6 : cX0_plan.data.toList.drop 140 = dktX0_plan_6 := dk_seg dksX0_plan_5 24 rfl rfl
theorem dksX0_plan_7 : cX0_plan.data.toList.drop 164 = dktX0_plan_7 := dk_seg dksX0_plan_6 24 rfl rfl
theorem dksX0_plan_8 : cX0_plan.data.toList.drop 187 = dktX0_plan_8 := dk_seg dksX0_plan_7 23 rfl rfl
theorem dksX0_plan_9 : cX0_plan.data.toList.drop 211 = dktX0_plan_9 := dk_seg dksX0_plan_8 24 rfl rfl
theorem dksX0_plan_10 : cX0_plan.data.toList.drop 234 = dktX0_plan_10 := dk_seg dksX0_plan_9 23 rfl rfl
theorem dX0_plan_0 : decode cX0_plan 0 = .ok (.aload_n 0, 1) := dk_42 (dk_at dksX0_plan_0 0 rfl rfl)
theorem dX0_plan_1 : decode cX0_plan 1 = .ok (.iload_n 1, 1) := dk_27 (dk_at dksX0_plan_0 1 rfl rfl)
theorem dX0_plan_2 : decode cX0_plan 2 = .ok (.iload_n 2, 1) := dk_28 (dk_at dksX0_plan_0 2 rfl rfl)
theorem dX0_plan_3 : decode cX0_plan 3 = .ok (.invokevirtual 250, 3) := dk_182 0 250 (dk_at dksX0_plan_0 3 rfl rfl)
theorem dX0_plan_6 : decode cX0_plan 6 = .ok (.astore 5, 2) := dk_58 5 (dk_at dksX0_plan_0 6 rfl rfl)
theorem dX0_plan_8 : decode cX0_plan 8 = .ok (.aload 5, 2) := dk_25 5 (dk_at dksX0_plan_0 8 rfl rfl)
theorem dX0_plan_10 : decode cX0_plan 10 = .ok (.ifnull 46, 3) := dk_198 0 46 (dk_at dksX0_plan_0 10 rfl rfl)
theorem dX0_plan_13 : decode cX0_plan 13 = .ok (.iload_n 3, 1) := dk_29 (dk_at dksX0_plan_0 13 rfl rfl)
theorem dX0_plan_14 : decode cX0_plan 14 = .ok (.iconst (-1), 1) := dk_2 (dk_at dksX0_plan_0 14 rfl rfl)
theorem dX0_plan_15 : decode cX0_plan 15 = .ok (.if_icmp .eq 12, 3) := dk_159 0 12 (dk_at dksX0_plan_0 15 rfl rfl)
theorem dX0_plan_18 : decode cX0_plan 18 = .ok (.aload 5, 2) := dk_25 5 (dk_at dksX0_plan_0 18 rfl rfl)
theorem dX0_plan_20 : decode cX0_plan 20 = .ok (.iload_n 3, 1) := dk_29 (dk_at dksX0_plan_0 20 rfl rfl)
theorem dX0_plan_21 : decode cX0_plan 21 = .ok (.invokevirtual 205, 3) := dk_182 0 205 (dk_at dksX0_plan_0 21 rfl rfl)
theorem dX0_plan_24 : decode cX0_plan 24 = .ok (.ifCond .eq 32, 3) := dk_153 0 32 (dk_at dksX0_plan_1 0 rfl rfl)
theorem dX0_plan_27 : decode cX0_plan 27 = .ok (.iload 4, 2) := dk_21 4 (dk_at dksX0_plan_1 3 rfl rfl)
theorem dX0_plan_29 : decode cX0_plan 29 = .ok (.i2l, 1) := dk_133 (dk_at dksX0_plan_1 5 rfl rfl)
theorem dX0_plan_30 : decode cX0_plan 30 = .ok (.lconst 1, 1) := dk_10 (dk_at dksX0_plan_1 6 rfl rfl)
theorem dX0_plan_31 : decode cX0_plan 31 = .ok (.ldc2_w 424, 3) := dk_20 1 168 (dk_at dksX0_plan_1 7 rfl rfl)
theorem dX0_plan_34 : decode cX0_plan 34 = .ok (.invokestatic 152, 3) := dk_184 0 152 (dk_at dksX0_plan_1 10 rfl rfl)
theorem dX0_plan_37 : decode cX0_plan 37 = .ok (.ifCond .eq 19, 3) := dk_153 0 19 (dk_at dksX0_plan_1 13 rfl rfl)
theorem dX0_plan_40 : decode cX0_plan 40 = .ok (.aload_n 0, 1) := dk_42 (dk_at dksX0_plan_1 16 rfl rfl)
theorem dX0_plan_41 : decode cX0_plan 41 = .ok (.getfield 426, 3) := dk_180 1 170 (dk_at dksX0_plan_1 17 rfl rfl)
theorem dX0_plan_44 : decode cX0_plan 44 = .ok (.ifCond .le 14, 3) := dk_158 0 14 (dk_at dksX0_plan_1 20 rfl rfl)
theorem dX0_plan_47 : decode cX0_plan 47 = .ok (.aload 5, 2) := dk_25 5 (dk_at dksX0_plan_2 0 rfl rfl)
theorem dX0_plan_49 : decode cX0_plan 49 = .ok (.aload_n 0, 1) := dk_42 (dk_at dksX0_plan_2 2 rfl rfl)
theorem dX0_plan_50 : decode cX0_plan 50 = .ok (.getfield 429, 3) := dk_180 1 173 (dk_at dksX0_plan_2 3 rfl rfl)
theorem dX0_plan_53 : decode cX0_plan 53 = .ok (.if_acmp .eq 5, 3) := dk_165 0 5 (dk_at dksX0_plan_2 6 rfl rfl)
theorem dX0_plan_56 : decode cX0_plan 56 = .ok (.iconst (-1), 1) := dk_2 (dk_at dksX0_plan_2 9 rfl rfl)
theorem dX0_plan_57 : decode cX0_plan 57 = .ok (.ireturn, 1) := dk_172 (dk_at dksX0_plan_2 10 rfl rfl)
theorem dX0_plan_58 : decode cX0_plan 58 = .ok (.iload_n 3, 1) := dk_29 (dk_at dksX0_plan_2 11 rfl rfl)
theorem dX0_plan_59 : decode cX0_plan 59 = .ok (.iconst (-1), 1) := dk_2 (dk_at dksX0_plan_2 12 rfl rfl)
theorem dX0_plan_60 : decode cX0_plan 60 = .ok (.if_icmp .eq 16, 3) := dk_159 0 16 (dk_at dksX0_plan_2 13 rfl rfl)
theorem dX0_plan_63 : decode cX0_plan 63 = .ok (.aload 5, 2) := dk_25 5 (dk_at dksX0_plan_2 16 rfl rfl)
theorem dX0_plan_65 : decode cX0_plan 65 = .ok (.iload_n 2, 1) := dk_28 (dk_at dksX0_plan_2 18 rfl rfl)
theorem dX0_plan_66 : decode cX0_plan 66 = .ok (.iload_n 3, 1) := dk_29 (dk_at dksX0_plan_2 19 rfl rfl)
theorem dX0_plan_67 : decode cX0_plan 67 = .ok (.invokevirtual 256, 3) := dk_182 1 0 (dk_at dksX0_plan_2 20 rfl rfl)
theorem dX0_plan_70 : decode cX0_plan 70 = .ok (.ifnonnull 6, 3) := dk_199 0 6 (dk_at dksX0_plan_3 0 rfl rfl)
theorem dX0_plan_73 : decode cX0_plan 73 = .ok (.bipush (-2), 2) := dk_16 254 (dk_at dksX0_plan_3 3 rfl rfl)
theorem dX0_plan_75 : decode cX0_plan 75 = .ok (.ireturn, 1) := dk_172 (dk_at dksX0_plan_3 5 rfl rfl)
theorem dX0_plan_76 : decode cX0_plan 76 = .ok (.iconst 0, 1) := dk_3 (dk_at dksX0_plan_3 6 rfl rfl)
theorem dX0_plan_77 : decode cX0_plan 77 = .ok (.istore 6, 2) := dk_54 6 (dk_at dksX0_plan_3 7 rfl rfl)
theorem dX0_plan_79 : decode cX0_plan 79 = .ok (.iload 6, 2) := dk_21 6 (dk_at dksX0_plan_3 9 rfl rfl)
theorem dX0_plan_81 : decode cX0_plan 81 = .ok (.aload_n 0, 1) := dk_42 (dk_at dksX0_plan_3 11 rfl rfl)
theorem dX0_plan_82 : decode cX0_plan 82 = .ok (.getfield 426, 3) := dk_180 1 170 (dk_at dksX0_plan_3 12 rfl rfl)
theorem dX0_plan_85 : decode cX0_plan 85 = .ok (.if_icmp .ge 98, 3) := dk_162 0 98 (dk_at dksX0_plan_3 15 rfl rfl)
theorem dX0_plan_88 : decode cX0_plan 88 = .ok (.iload_n 3, 1) := dk_29 (dk_at dksX0_plan_3 18 rfl rfl)
theorem dX0_plan_89 : decode cX0_plan 89 = .ok (.iconst (-1), 1) := dk_2 (dk_at dksX0_plan_3 19 rfl rfl)
theorem dX0_plan_90 : decode cX0_plan 90 = .ok (.if_icmp .ne 33, 3) := dk_160 0 33 (dk_at dksX0_plan_3 20 rfl rfl)
theorem dX0_plan_93 : decode cX0_plan 93 = .ok (.aload_n 0, 1) := dk_42 (dk_at dksX0_plan_3 23 rfl rfl)
theorem dX0_plan_94 : decode cX0_plan 94 = .ok (.getfield 81, 3) := dk_180 0 81 (dk_at dksX0_plan_4 0 rfl rfl)
theorem dX0_plan_97 : decode cX0_plan 97 = .ok (.iload 6, 2) := dk_21 6 (dk_at dksX0_plan_4 3 rfl rfl)
theorem dX0_plan_99 : decode cX0_plan 99 = .ok (.iaload, 1) := dk_46 (dk_at dksX0_plan_4 5 rfl rfl)
theorem dX0_plan_100 : decode cX0_plan 100 = .ok (.iconst (-1), 1) := dk_2 (dk_at dksX0_plan_4 6 rfl rfl)
theorem dX0_plan_101 : decode cX0_plan 101 = .ok (.if_icmp .ne 18, 3) := dk_160 0 18 (dk_at dksX0_plan_4 7 rfl rfl)
theorem dX0_plan_104 : decode cX0_plan 104 = .ok (.aload_n 0, 1) := dk_42 (dk_at dksX0_plan_4 10 rfl rfl)
theorem dX0_plan_105 : decode cX0_plan 105 = .ok (.getfield 78, 3) := dk_180 0 78 (dk_at dksX0_plan_4 11 rfl rfl)
theorem dX0_plan_108 : decode cX0_plan 108 = .ok (.iload 6, 2) := dk_21 6 (dk_at dksX0_plan_4 14 rfl rfl)
theorem dX0_plan_110 : decode cX0_plan 110 = .ok (.iaload, 1) := dk_46 (dk_at dksX0_plan_4 16 rfl rfl)
theorem dX0_plan_111 : decode cX0_plan 111 = .ok (.iload_n 2, 1) := dk_28 (dk_at dksX0_plan_4 17 rfl rfl)
theorem dX0_plan_112 : decode cX0_plan 112 = .ok (.if_icmp .ne 7, 3) := dk_160 0 7 (dk_at dksX0_plan_4 18 rfl rfl)
theorem dX0_plan_115 : decode cX0_plan 115 = .ok (.iconst 1, 1) := dk_4 (dk_at dksX0_plan_4 21 rfl rfl)
theorem dX0_plan_116 : decode cX0_plan 116 = .ok (.goto 52, 3) := dk_167 0 52 (dk_at dksX0_plan_5 0 rfl rfl)
theorem dX0_plan_119 : decode cX0_plan 119 = .ok (.iconst 0, 1) := dk_3 (dk_at dksX0_plan_5 3 rfl rfl)
theorem dX0_plan_120 : decode cX0_plan 120 = .ok (.goto 48, 3) := dk_167 0 48 (dk_at dksX0_plan_5 4 rfl rfl)
theorem dX0_plan_123 : decode cX0_plan 123 = .ok (.aload_n 0, 1) := dk_42 (dk_at dksX0_plan_5 7 rfl rfl)
theorem dX0_plan_124 : decode cX0_plan 124 = .ok (.getfield 81, 3) := dk_180 0 81 (dk_at dksX0_plan_5 8 rfl rfl)
theorem dX0_plan_127 : decode cX0_plan 127 = .ok (.iload 6, 2) := dk_21 6 (dk_at dksX0_plan_5 11 rfl rfl)
theorem dX0_plan_129 : decode cX0_plan 129 = .ok (.iaload, 1) := dk_46 (dk_at dksX0_plan_5 13 rfl rfl)
theorem dX0_plan_130 : decode cX0_plan 130 = .ok (.iconst (-1), 1) := dk_2 (dk_at dksX0_plan_5 14 rfl rfl)
theorem dX0_plan_131 : decode cX0_plan 131 = .ok (.if_icmp .eq 36, 3) := dk_159 0 36 (dk_at dksX0_plan_5 15 rfl rfl)
theorem dX0_plan_134 : decode cX0_plan 134 = .ok (.aload 5, 2) := dk_25 5 (dk_at dksX0_plan_5 18 rfl rfl)
theorem dX0_plan_136 : decode cX0_plan 136 = .ok (.aload_n 0, 1) := dk_42 (dk_at dksX0_plan_5 20 rfl rfl)
theorem dX0_plan_137 : decode cX0_plan 137 = .ok (.getfield 78, 3) := dk_180 0 78 (dk_at dksX0_plan_5 21 rfl rfl)
theorem dX0_plan_140 : decode cX0_plan 140 = .ok (.iload 6, 2) := dk_21 6 (dk_at dksX0_plan_6 0 rfl rfl)
theorem dX0_plan_142 : decode cX0_plan 142 = .ok (.iaload, 1) := dk_46 (dk_at dksX0_plan_6 2 rfl rfl)
theorem dX0_plan_143 : decode cX0_plan 143 = .ok (.aload_n 0, 1) := dk_42 (dk_at dksX0_plan_6 3 rfl rfl)
theorem dX0_plan_144 : decode cX0_plan 144 = .ok (.getfield 81, 3) := dk_180 0 81 (dk_at dksX0_plan_6 4 rfl rfl)
theorem dX0_plan_147 : decode cX0_plan 147 = .ok (.iload 6, 2) := dk_21 6 (dk_at dksX0_plan_6 7 rfl rfl)
theorem dX0_plan_149 : decode cX0_plan 149 = .ok (.iaload, 1) := dk_46 (dk_at dksX0_plan_6 9 rfl rfl)
theorem dX0_plan_150 : decode cX0_plan 150 = .ok (.invokevirtual 256, 3) := dk_182 1 0 (dk_at dksX0_plan_6 10 rfl rfl)
theorem dX0_plan_153 : decode cX0_plan 153 = .ok (.aload 5, 2) := dk_25 5 (dk_at dksX0_plan_6 13 rfl rfl)
theorem dX0_plan_155 : decode cX0_plan 155 = .ok (.iload_n 2, 1) := dk_28 (dk_at dksX0_plan_6 15 rfl rfl)
theorem dX0_plan_156 : decode cX0_plan 156 = .ok (.iload_n 3, 1) := dk_29 (dk_at dksX0_plan_6 16 rfl rfl)
theorem dX0_plan_157 : decode cX0_plan 157 = .ok (.invokevirtual 256, 3) := dk_182 1 0 (dk_at dksX0_plan_6 17 rfl rfl)
theorem dX0_plan_160 : decode cX0_plan 160 = .ok (.if_acmp .ne 7, 3) := dk_166 0 7 (dk_at dksX0_plan_6 20 rfl rfl)
theorem dX0_plan_163 : decode cX0_plan 163 = .ok (.iconst 1, 1) := dk_4 (dk_at dksX0_plan_6 23 rfl rfl)
theorem dX0_plan_164 : decode cX0_plan 164 = .ok (.goto 4, 3) := dk_167 0 4 (dk_at dksX0_plan_7 0 rfl rfl)
theorem dX0_plan_167 : decode cX0_plan 167 = .ok (.iconst 0, 1) := dk_3 (dk_at dksX0_plan_7 3 rfl rfl)
theorem dX0_plan_168 : decode cX0_plan 168 = .ok (.istore 7, 2) := dk_54 7 (dk_at dksX0_plan_7 4 rfl rfl)
theorem dX0_plan_170 : decode cX0_plan 170 = .ok (.iload 7, 2) := dk_21 7 (dk_at dksX0_plan_7 6 rfl rfl)
theorem dX0_plan_172 : decode cX0_plan 172 = .ok (.ifCond .eq 5, 3) := dk_153 0 5 (dk_at dksX0_plan_7 8 rfl rfl)
theorem dX0_plan_175 : decode cX0_plan 175 = .ok (.iconst (-1), 1) := dk_2 (dk_at dksX0_plan_7 11 rfl rfl)
theorem dX0_plan_176 : decode cX0_plan 176 = .ok (.ireturn, 1) := dk_172 (dk_at dksX0_plan_7 12 rfl rfl)
theorem dX0_plan_177 : decode cX0_plan 177 = .ok (.iinc 6 1, 3) := dk_132 6 1 (dk_at dksX0_plan_7 13 rfl rfl)
theorem dX0_plan_180 : decode cX0_plan 180 = .ok (.goto (-101), 3) := dk_167 255 155 (dk_at dksX0_plan_7 16 rfl rfl)
theorem dX0_plan_183 : decode cX0_plan 183 = .ok (.aload_n 0, 1) := dk_42 (dk_at dksX0_plan_7 19 rfl rfl)
theorem dX0_plan_184 : decode cX0_plan 184 = .ok (.getfield 426, 3) := dk_180 1 170 (dk_at dksX0_plan_7 20 rfl rfl)
theorem dX0_plan_187 : decode cX0_plan 187 = .ok (.bipush 6, 2) := dk_16 6 (dk_at dksX0_plan_8 0 rfl rfl)
theorem dX0_plan_189 : decode cX0_plan 189 = .ok (.if_icmp .ne 6, 3) := dk_160 0 6 (dk_at dksX0_plan_8 2 rfl rfl)
theorem dX0_plan_192 : decode cX0_plan 192 = .ok (.bipush (-3), 2) := dk_16 253 (dk_at dksX0_plan_8 5 rfl rfl)
theorem dX0_plan_194 : decode cX0_plan 194 = .ok (.ireturn, 1) := dk_172 (dk_at dksX0_plan_8 7 rfl rfl)
theorem dX0_plan_195 : decode cX0_plan 195 = .ok (.aload_n 0, 1) := dk_42 (dk_at dksX0_plan_8 8 rfl rfl)
theorem dX0_plan_196 : decode cX0_plan 196 = .ok (.aload 5, 2) := dk_25 5 (dk_at dksX0_plan_8 9 rfl rfl)
theorem dX0_plan_198 : decode cX0_plan 198 = .ok (.putfield 429, 3) := dk_181 1 173 (dk_at dksX0_plan_8 11 rfl rfl)
theorem dX0_plan_201 : decode cX0_plan 201 = .ok (.aload_n 0, 1) := dk_42 (dk_at dksX0_plan_8 14 rfl rfl)
theorem dX0_plan_202 : decode cX0_plan 202 = .ok (.getfield 78, 3) := dk_180 0 78 (dk_at dksX0_plan_8 15 rfl rfl)
theorem dX0_plan_205 : decode cX0_plan 205 = .ok (.aload_n 0, 1) := dk_42 (dk_at dksX0_plan_8 18 rfl rfl)
theorem dX0_plan_206 : decode cX0_plan 206 = .ok (.getfield 426, 3) := dk_180 1 170 (dk_at dksX0_plan_8 19 rfl rfl)
theorem dX0_plan_209 : decode cX0_plan 209 = .ok (.iload_n 2, 1) := dk_28 (dk_at dksX0_plan_8 22 rfl rfl)
theorem dX0_plan_210 : decode cX0_plan 210 = .ok (.iastore, 1) := dk_79 (dk_at dksX0_plan_8 23 rfl rfl)
theorem dX0_plan_211 : decode cX0_plan 211 = .ok (.aload_n 0, 1) := dk_42 (dk_at dksX0_plan_9 0 rfl rfl)
theorem dX0_plan_212 : decode cX0_plan 212 = .ok (.getfield 81, 3) := dk_180 0 81 (dk_at dksX0_plan_9 1 rfl rfl)
theorem dX0_plan_215 : decode cX0_plan 215 = .ok (.aload_n 0, 1) := dk_42 (dk_at dksX0_plan_9 4 rfl rfl)
theorem dX0_plan_216 : decode cX0_plan 216 = .ok (.getfield 426, 3) := dk_180 1 170 (dk_at dksX0_plan_9 5 rfl rfl)
theorem dX0_plan_219 : decode cX0_plan 219 = .ok (.iload_n 3, 1) := dk_29 (dk_at dksX0_plan_9 8 rfl rfl)
theorem dX0_plan_220 : decode cX0_plan 220 = .ok (.iastore, 1) := dk_79 (dk_at dksX0_plan_9 9 rfl rfl)
theorem dX0_plan_221 : decode cX0_plan 221 = .ok (.aload_n 0, 1) := dk_42 (dk_at dksX0_plan_9 10 rfl rfl)
theorem dX0_plan_222 : decode cX0_plan 222 = .ok (.getfield 84, 3) := dk_180 0 84 (dk_at dksX0_plan_9 11 rfl rfl)
theorem dX0_plan_225 : decode cX0_plan 225 = .ok (.aload_n 0, 1) := dk_42 (dk_at dksX0_plan_9 14 rfl rfl)
theorem dX0_plan_226 : decode cX0_plan 226 = .ok (.getfield 426, 3) := dk_180 1 170 (dk_at dksX0_plan_9 15 rfl rfl)
theorem dX0_plan_229 : decode cX0_plan 229 = .ok (.iload 4, 2) := dk_21 4 (dk_at dksX0_plan_9 18 rfl rfl)
theorem dX0_plan_231 : decode cX0_plan 231 = .ok (.iastore, 1) := dk_79 (dk_at dksX0_plan_9 20 rfl rfl)
theorem dX0_plan_232 : decode cX0_plan 232 = .ok (.aload_n 0, 1) := dk_42 (dk_at dksX0_plan_9 21 rfl rfl)
theorem dX0_plan_233 : decode cX0_plan 233 = .ok (.dup, 1) := dk_89 (dk_at dksX0_plan_9 22 rfl rfl)
theorem dX0_plan_234 : decode cX0_plan 234 = .ok (.getfield 426, 3) := dk_180 1 170 (dk_at dksX0_plan_10 0 rfl rfl)
theorem dX0_plan_237 : decode cX0_plan 237 = .ok (.iconst 1, 1) := dk_4 (dk_at dksX0_plan_10 3 rfl rfl)
theorem dX0_plan_238 : decode cX0_plan 238 = .ok (.iadd, 1) := dk_96 (dk_at dksX0_plan_10 4 rfl rfl)
theorem dX0_plan_239 : decode cX0_plan 239 = .ok (.dup_x1, 1) := dk_90 (dk_at dksX0_plan_10 5 rfl rfl)
theorem dX0_plan_240 : decode cX0_plan 240 = .ok (.putfield 426, 3) := dk_181 1 170 (dk_at dksX0_plan_10 6 rfl rfl)
theorem dX0_plan_243 : decode cX0_plan 243 = .ok (.ireturn, 1) := dk_172 (dk_at dksX0_plan_10 9 rfl rfl)
abbrev cX0_wish : ByteArray := prog_1_method_54_code
def yX0_wish : MethodName := ⟨RX0, "wish", "(III)I"⟩
def dkwX0_wish_6 : List UInt8 := [42, 180, 1, 176, 29, 79, 42, 89, 180, 1, 176, 4, 96, 90, 181, 1, 176, 172]
abbrev dktX0_wish_6 : List UInt8 := dkwX0_wish_6 ++ []
def dkwX0_wish_5 : List UInt8 := [42, 180, 0, 87, 42, 180, 1, 176, 27, 79, 42, 180, 0, 90, 42, 180, 1, 176, 28, 79, 42, 180, 0, 93]
abbrev dktX0_wish_5 : List UInt8 := dkwX0_wish_5 ++ dktX0_wish_6
def dkwX0_wish_4 : List UInt8 := [28, 160, 0, 5, 2, 172, 132, 4, 1, 167, 255, 220, 42, 180, 1, 176, 16, 6, 160, 0, 6, 16, 253, 172]
abbrev dktX0_wish_4 : List UInt8 := dkwX0_wish_4 ++ dktX0_wish_5
def dkwX0_wish_3 : List UInt8 := [180, 1, 176, 162, 0, 33, 42, 180, 0, 87, 21, 4, 46, 27, 160, 0, 16, 42, 180, 0, 90, 21, 4, 46]
abbrev dktX0_wish_3 : List UInt8 := dkwX0_wish_3 ++ dktX0_wish_4
def dkwX0_wish_2 : List UInt8 := [133, 9, 20, 0, 174, 184, 0, 152, 153, 0, 8, 16, 252, 167, 0, 4, 2, 172, 3, 54, 4, 21, 4, 42]
abbrev dktX0_wish_2 : List UInt8 := dkwX0_wish_2 ++ dktX0_wish_3
def dkwX0_wish_1 : List UInt8 := [158, 0, 16, 42, 180, 1, 173, 27, 184, 1, 119, 154, 0, 5, 2, 172, 42, 180, 1, 170, 154, 0, 22, 27]
abbrev dktX0_wish_1 : List UInt8 := dkwX0_wish_1 ++ dktX0_wish_2
def dkwX0_wish_0 : List UInt8 := [28, 184, 1, 116, 153, 0, 33, 29, 133, 9, 20, 1, 100, 184, 0, 152, 153, 0, 21, 42, 180, 1, 170]
abbrev dktX0_wish_0 : List UInt8 := dkwX0_wish_0 ++ dktX0_wish_1
theorem dksX0_wish_0 : cX0_wish.data.toList.drop 0 = dktX0_wish_0 := by decide +kernel
theorem dksX0_wish_1 : cX0_wish.data.toList.drop 23 = dktX0_wish_1 := dk_seg dksX0_wish_0 23 rfl rfl
theorem dksX0_wish_2 : cX0_wish.data.toList.drop 47 = dktX0_wish_2 := dk_seg dksX0_wish_1 24 rfl rfl
theorem dksX0_wish_3 : cX0_wish.data.toList.drop 71 = dktX0_wish_3 := dk_seg dksX0_wish_2 24 rfl rfl
theorem dksX0_wish_4 : cX0_wish.data.toList.drop 95 = dktX0_wish_4 := dk_seg dksX0_wish_3 24 rfl rfl
theorem dksX0_wish_5 : cX0_wish.data.toList.drop 119 = dktX0_wish_5 := dk_seg dksX0_wish_4 24 rfl rfl
theorem dksX0_wish_6 : cX0_wish.data.toList.drop 143 = dktX0_wish_6 := dk_seg dksX0_wish_5 24 rfl rfl
theorem dX0_wish_0 : decode cX0_wish 0 = .ok (.iload_n 2, 1) := dk_28 (dk_at dksX0_wish_0 0 rfl rfl)
theorem dX0_wish_1 : decode cX0_wish 1 = .ok (.invokestatic 372, 3) := dk_184 1 116 (dk_at dksX0_wish_0 1 rfl rfl)
theorem dX0_wish_4 : decode cX0_wish 4 = .ok (.ifCond .eq 33, 3) := dk_153 0 33 (dk_at dksX0_wish_0 4 rfl rfl)
theorem dX0_wish_7 : decode cX0_wish 7 = .ok (.iload_n 3, 1) := dk_29 (dk_at dksX0_wish_0 7 rfl rfl)
theorem dX0_wish_8 : decode cX0_wish 8 = .ok (.i2l, 1) := dk_133 (dk_at dksX0_wish_0 8 rfl rfl)
theorem dX0_wish_9 : decode cX0_wish 9 = .ok (.lconst 0, 1) := dk_9 (dk_at dksX0_wish_0 9 rfl rfl)
theorem dX0_wish_10 : decode cX0_wish 10 = .ok (.ldc2_w 356, 3) := dk_20 1 100 (dk_at dksX0_wish_0 10 rfl rfl)
theorem dX0_wish_13 : decode cX0_wish 13 = .ok (.invokestatic 152, 3) := dk_184 0 152 (dk_at dksX0_wish_0 13 rfl rfl)
theorem dX0_wish_16 : decode cX0_wish 16 = .ok (.ifCond .eq 21, 3) := dk_153 0 21 (dk_at dksX0_wish_0 16 rfl rfl)
theorem dX0_wish_19 : decode cX0_wish 19 = .ok (.aload_n 0, 1) := dk_42 (dk_at dksX0_wish_0 19 rfl rfl)
theorem dX0_wish_20 : decode cX0_wish 20 = .ok (.getfield 426, 3) := dk_180 1 170 (dk_at dksX0_wish_0 20 rfl rfl)
theorem dX0_wish_23 : decode cX0_wish 23 = .ok (.ifCond .le 16, 3) := dk_158 0 16 (dk_at dksX0_wish_1 0 rfl rfl)
theorem dX0_wish_26 : decode cX0_wish 26 = .ok (.aload_n 0, 1) := dk_42 (dk_at dksX0_wish_1 3 rfl rfl)
theorem dX0_wish_27 : decode cX0_wish 27 = .ok (.getfield 429, 3) := dk_180 1 173 (dk_at dksX0_wish_1 4 rfl rfl)
theorem dX0_wish_30 : decode cX0_wish 30 = .ok (.iload_n 1, 1) := dk_27 (dk_at dksX0_wish_1 7 rfl rfl)
theorem dX0_wish_31 : decode cX0_wish 31 = .ok (.invokestatic 375, 3) := dk_184 1 119 (dk_at dksX0_wish_1 8 rfl rfl)
theorem dX0_wish_34 : decode cX0_wish 34 = .ok (.ifCond .ne 5, 3) := dk_154 0 5 (dk_at dksX0_wish_1 11 rfl rfl)
theorem dX0_wish_37 : decode cX0_wish 37 = .ok (.iconst (-1), 1) := dk_2 (dk_at dksX0_wish_1 14 rfl rfl)
theorem dX0_wish_38 : decode cX0_wish 38 = .ok (.ireturn, 1) := dk_172 (dk_at dksX0_wish_1 15 rfl rfl)
theorem dX0_wish_39 : decode cX0_wish 39 = .ok (.aload_n 0, 1) := dk_42 (dk_at dksX0_wish_1 16 rfl rfl)
theorem dX0_wish_40 : decode cX0_wish 40 = .ok (.getfield 426, 3) := dk_180 1 170 (dk_at dksX0_wish_1 17 rfl rfl)
theorem dX0_wish_43 : decode cX0_wish 43 = .ok (.ifCond .ne 22, 3) := dk_154 0 22 (dk_at dksX0_wish_1 20 rfl rfl)
theorem dX0_wish_46 : decode cX0_wish 46 = .ok (.iload_n 1, 1) := dk_27 (dk_at dksX0_wish_1 23 rfl rfl)
theorem dX0_wish_47 : decode cX0_wish 47 = .ok (.i2l, 1) := dk_133 (dk_at dksX0_wish_2 0 rfl rfl)
theorem dX0_wish_48 : decode cX0_wish 48 = .ok (.lconst 0, 1) := dk_9 (dk_at dksX0_wish_2 1 rfl rfl)
theorem dX0_wish_49 : decode cX0_wish 49 = .ok (.ldc2_w 174, 3) := dk_20 0 174 (dk_at dksX0_wish_2 2 rfl rfl)
theorem dX0_wish_52 : decode cX0_wish 52 = .ok (.invokestatic 152, 3) := dk_184 0 152 (dk_at dksX0_wish_2 5 rfl rfl)
theorem dX0_wish_55 : decode cX0_wish 55 = .ok (.ifCond .eq 8, 3) := dk_153 0 8 (dk_at dksX0_wish_2 8 rfl rfl)
theorem dX0_wish_58 : decode cX0_wish 58 = .ok (.bipush (-4), 2) := dk_16 252 (dk_at dksX0_wish_2 11 rfl rfl)
theorem dX0_wish_60 : decode cX0_wish 60 = .ok (.goto 4, 3) := dk_167 0 4 (dk_at dksX0_wish_2 13 rfl rfl)
theorem dX0_wish_63 : decode cX0_wish 63 = .ok (.iconst (-1), 1) := dk_2 (dk_at dksX0_wish_2 16 rfl rfl)
theorem dX0_wish_64 : decode cX0_wish 64 = .ok (.ireturn, 1) := dk_172 (dk_at dksX0_wish_2 17 rfl rfl)
theorem dX0_wish_65 : decode cX0_wish 65 = .ok (.iconst 0, 1) := dk_3 (dk_at dksX0_wish_2 18 rfl rfl)
theorem dX0_wish_66 : decode cX0_wish 66 = .ok (.istore 4, 2) := dk_54 4 (dk_at dksX0_wish_2 19 rfl rfl)
theorem dX0_wish_68 : decode cX0_wish 68 = .ok (.iload 4, 2) := dk_21 4 (dk_at dksX0_wish_2 21 rfl rfl)
theorem dX0_wish_70 : decode cX0_wish 70 = .ok (.aload_n 0, 1) := dk_42 (dk_at dksX0_wish_2 23 rfl rfl)
theorem dX0_wish_71 : decode cX0_wish 71 = .ok (.getfield 432, 3) := dk_180 1 176 (dk_at dksX0_wish_3 0 rfl rfl)
theorem dX0_wish_74 : decode cX0_wish 74 = .ok (.if_icmp .ge 33, 3) := dk_162 0 33 (dk_at dksX0_wish_3 3 rfl rfl)
theorem dX0_wish_77 : decode cX0_wish 77 = .ok (.aload_n 0, 1) := dk_42 (dk_at dksX0_wish_3 6 rfl rfl)
theorem dX0_wish_78 : decode cX0_wish 78 = .ok (.getfield 87, 3) := dk_180 0 87 (dk_at dksX0_wish_3 7 rfl rfl)
theorem dX0_wish_81 : decode cX0_wish 81 = .ok (.iload 4, 2) := dk_21 4 (dk_at dksX0_wish_3 10 rfl rfl)
theorem dX0_wish_83 : decode cX0_wish 83 = .ok (.iaload, 1) := dk_46 (dk_at dksX0_wish_3 12 rfl rfl)
theorem dX0_wish_84 : decode cX0_wish 84 = .ok (.iload_n 1, 1) := dk_27 (dk_at dksX0_wish_3 13 rfl rfl)
theorem dX0_wish_85 : decode cX0_wish 85 = .ok (.if_icmp .ne 16, 3) := dk_160 0 16 (dk_at dksX0_wish_3 14 rfl rfl)
theorem dX0_wish_88 : decode cX0_wish 88 = .ok (.aload_n 0, 1) := dk_42 (dk_at dksX0_wish_3 17 rfl rfl)
theorem dX0_wish_89 : decode cX0_wish 89 = .ok (.getfield 90, 3) := dk_180 0 90 (dk_at dksX0_wish_3 18 rfl rfl)
theorem dX0_wish_92 : decode cX0_wish 92 = .ok (.iload 4, 2) := dk_21 4 (dk_at dksX0_wish_3 21 rfl rfl)
theorem dX0_wish_94 : decode cX0_wish 94 = .ok (.iaload, 1) := dk_46 (dk_at dksX0_wish_3 23 rfl rfl)
theorem dX0_wish_95 : decode cX0_wish 95 = .ok (.iload_n 2, 1) := dk_28 (dk_at dksX0_wish_4 0 rfl rfl)
theorem dX0_wish_96 : decode cX0_wish 96 = .ok (.if_icmp .ne 5, 3) := dk_160 0 5 (dk_at dksX0_wish_4 1 rfl rfl)
theorem dX0_wish_99 : decode cX0_wish 99 = .ok (.iconst (-1), 1) := dk_2 (dk_at dksX0_wish_4 4 rfl rfl)
theorem dX0_wish_100 : decode cX0_wish 100 = .ok (.ireturn, 1) := dk_172 (dk_at dksX0_wish_4 5 rfl rfl)
theorem dX0_wish_101 : decode cX0_wish 101 = .ok (.iinc 4 1, 3) := dk_132 4 1 (dk_at dksX0_wish_4 6 rfl rfl)
theorem dX0_wish_104 : decode cX0_wish 104 = .ok (.goto (-36), 3) := dk_167 255 220 (dk_at dksX0_wish_4 9 rfl rfl)
theorem dX0_wish_107 : decode cX0_wish 107 = .ok (.aload_n 0, 1) := dk_42 (dk_at dksX0_wish_4 12 rfl rfl)
theorem dX0_wish_108 : decode cX0_wish 108 = .ok (.getfield 432, 3) := dk_180 1 176 (dk_at dksX0_wish_4 13 rfl rfl)
theorem dX0_wish_111 : decode cX0_wish 111 = .ok (.bipush 6, 2) := dk_16 6 (dk_at dksX0_wish_4 16 rfl rfl)
theorem dX0_wish_113 : decode cX0_wish 113 = .ok (.if_icmp .ne 6, 3) := dk_160 0 6 (dk_at dksX0_wish_4 18 rfl rfl)
theorem dX0_wish_116 : decode cX0_wish 116 = .ok (.bipush (-3), 2) := dk_16 253 (dk_at dksX0_wish_4 21 rfl rfl)
theorem dX0_wish_118 : decode cX0_wish 118 = .ok (.ireturn, 1) := dk_172 (dk_at dksX0_wish_4 23 rfl rfl)
theorem dX0_wish_119 : decode cX0_wish 119 = .ok (.aload_n 0, 1) := dk_42 (dk_at dksX0_wish_5 0 rfl rfl)
theorem dX0_wish_120 : decode cX0_wish 120 = .ok (.getfield 87, 3) := dk_180 0 87 (dk_at dksX0_wish_5 1 rfl rfl)
theorem dX0_wish_123 : decode cX0_wish 123 = .ok (.aload_n 0, 1) := dk_42 (dk_at dksX0_wish_5 4 rfl rfl)
theorem dX0_wish_124 : decode cX0_wish 124 = .ok (.getfield 432, 3) := dk_180 1 176 (dk_at dksX0_wish_5 5 rfl rfl)
theorem dX0_wish_127 : decode cX0_wish 127 = .ok (.iload_n 1, 1) := dk_27 (dk_at dksX0_wish_5 8 rfl rfl)
theorem dX0_wish_128 : decode cX0_wish 128 = .ok (.iastore, 1) := dk_79 (dk_at dksX0_wish_5 9 rfl rfl)
theorem dX0_wish_129 : decode cX0_wish 129 = .ok (.aload_n 0, 1) := dk_42 (dk_at dksX0_wish_5 10 rfl rfl)
theorem dX0_wish_130 : decode cX0_wish 130 = .ok (.getfield 90, 3) := dk_180 0 90 (dk_at dksX0_wish_5 11 rfl rfl)
theorem dX0_wish_133 : decode cX0_wish 133 = .ok (.aload_n 0, 1) := dk_42 (dk_at dksX0_wish_5 14 rfl rfl)
theorem dX0_wish_134 : decode cX0_wish 134 = .ok (.getfield 432, 3) := dk_180 1 176 (dk_at dksX0_wish_5 15 rfl rfl)
theorem dX0_wish_137 : decode cX0_wish 137 = .ok (.iload_n 2, 1) := dk_28 (dk_at dksX0_wish_5 18 rfl rfl)
theorem dX0_wish_138 : decode cX0_wish 138 = .ok (.iastore, 1) := dk_79 (dk_at dksX0_wish_5 19 rfl rfl)
theorem dX0_wish_139 : decode cX0_wish 139 = .ok (.aload_n 0, 1) := dk_42 (dk_at dksX0_wish_5 20 rfl rfl)
theorem dX0_wish_140 : decode cX0_wish 140 = .ok (.getfield 93, 3) := dk_180 0 93 (dk_at dksX0_wish_5 21 rfl rfl)
theorem dX0_wish_143 : decode cX0_wish 143 = .ok (.aload_n 0, 1) := dk_42 (dk_at dksX0_wish_6 0 rfl rfl)
theorem dX0_wish_144 : decode cX0_wish 144 = .ok (.getfield 432, 3) := dk_180 1 176 (dk_at dksX0_wish_6 1 rfl rfl)
theorem dX0_wish_147 : decode cX0_wish 147 = .ok (.iload_n 3, 1) := dk_29 (dk_at dksX0_wish_6 4 rfl rfl)
theorem dX0_wish_148 : decode cX0_wish 148 = .ok (.iastore, 1) := dk_79 (dk_at dksX0_wish_6 5 rfl rfl)
theorem dX0_wish_149 : decode cX0_wish 149 = .ok (.aload_n 0, 1) := dk_42 (dk_at dksX0_wish_6 6 rfl rfl)
theorem dX0_wish_150 : decode cX0_wish 150 = .ok (.dup, 1) := dk_89 (dk_at dksX0_wish_6 7 rfl rfl)
theorem dX0_wish_151 : decode cX0_wish 151 = .ok (.getfield 432, 3) := dk_180 1 176 (dk_at dksX0_wish_6 8 rfl rfl)
theorem dX0_wish_154 : decode cX0_wish 154 = .ok (.iconst 1, 1) := dk_4 (dk_at dksX0_wish_6 11 rfl rfl)
theorem dX0_wish_155 : decode cX0_wish 155 = .ok (.iadd, 1) := dk_96 (dk_at dksX0_wish_6 12 rfl rfl)
theorem dX0_wish_156 : decode cX0_wish 156 = .ok (.dup_x1, 1) := dk_90 (dk_at dksX0_wish_6 13 rfl rfl)
theorem dX0_wish_157 : decode cX0_wish 157 = .ok (.putfield 432, 3) := dk_181 1 176 (dk_at dksX0_wish_6 14 rfl rfl)
theorem dX0_wish_160 : decode cX0_wish 160 = .ok (.ireturn, 1) := dk_172 (dk_at dksX0_wish_6 17 rfl rfl)
abbrev cX0_moved : ByteArray := prog_1_method_56_code
def yX0_moved : MethodName := ⟨RX0, "moved", "(III)I"⟩
def dkwX0_moved_3 : List UInt8 := [16, 252, 54, 5, 42, 42, 180, 1, 173, 182, 1, 136, 21, 5, 172]
abbrev dktX0_moved_3 : List UInt8 := dkwX0_moved_3 ++ []
def dkwX0_moved_2 : List UInt8 := [182, 1, 179, 54, 4, 21, 4, 153, 0, 16, 42, 42, 180, 1, 173, 28, 29, 182, 1, 123, 167, 0, 5]
abbrev dktX0_moved_2 : List UInt8 := dkwX0_moved_2 ++ dktX0_moved_3
def dkwX0_moved_1 : List UInt8 := [180, 1, 173, 28, 184, 1, 119, 154, 0, 5, 2, 172, 42, 42, 180, 1, 173, 182, 1, 128, 42, 27, 4]
abbrev dktX0_moved_1 : List UInt8 := dkwX0_moved_1 ++ dktX0_moved_2
def dkwX0_moved_0 : List UInt8 := [27, 133, 9, 42, 180, 1, 170, 4, 100, 133, 184, 0, 152, 153, 0, 21, 29, 184, 1, 116, 153, 0, 14, 42]
abbrev dktX0_moved_0 : List UInt8 := dkwX0_moved_0 ++ dktX0_moved_1
theorem dksX0_moved_0 : cX0_moved.data.toList.drop 0 = dktX0_moved_0 := by decide +kernel
theorem dksX0_moved_1 : cX0_moved.data.toList.drop 24 = dktX0_moved_1 := dk_seg dksX0_moved_0 24 rfl rfl
theorem dksX0_moved_2 : cX0_moved.data.toList.drop 47 = dktX0_moved_2 := dk_seg dksX0_moved_1 23 rfl rfl
theorem dksX0_moved_3 : cX0_moved.data.toList.drop 70 = dktX0_moved_3 := dk_seg dksX0_moved_2 23 rfl rfl
theorem dX0_moved_0 : decode cX0_moved 0 = .ok (.iload_n 1, 1) := dk_27 (dk_at dksX0_moved_0 0 rfl rfl)
theorem dX0_moved_1 : decode cX0_moved 1 = .ok (.i2l, 1) := dk_133 (dk_at dksX0_moved_0 1 rfl rfl)
theorem dX0_moved_2 : decode cX0_moved 2 = .ok (.lconst 0, 1) := dk_9 (dk_at dksX0_moved_0 2 rfl rfl)
theorem dX0_moved_3 : decode cX0_moved 3 = .ok (.aload_n 0, 1) := dk_42 (dk_at dksX0_moved_0 3 rfl rfl)
theorem dX0_moved_4 : decode cX0_moved 4 = .ok (.getfield 426, 3) := dk_180 1 170 (dk_at dksX0_moved_0 4 rfl rfl)
theorem dX0_moved_7 : decode cX0_moved 7 = .ok (.iconst 1, 1) := dk_4 (dk_at dksX0_moved_0 7 rfl rfl)
theorem dX0_moved_8 : decode cX0_moved 8 = .ok (.isub, 1) := dk_100 (dk_at dksX0_moved_0 8 rfl rfl)
theorem dX0_moved_9 : decode cX0_moved 9 = .ok (.i2l, 1) := dk_133 (dk_at dksX0_moved_0 9 rfl rfl)
theorem dX0_moved_10 : decode cX0_moved 10 = .ok (.invokestatic 152, 3) := dk_184 0 152 (dk_at dksX0_moved_0 10 rfl rfl)
theorem dX0_moved_13 : decode cX0_moved 13 = .ok (.ifCond .eq 21, 3) := dk_153 0 21 (dk_at dksX0_moved_0 13 rfl rfl)
theorem dX0_moved_16 : decode cX0_moved 16 = .ok (.iload_n 3, 1) := dk_29 (dk_at dksX0_moved_0 16 rfl rfl)
theorem dX0_moved_17 : decode cX0_moved 17 = .ok (.invokestatic 372, 3) := dk_184 1 116 (dk_at dksX0_moved_0 17 rfl rfl)
theorem dX0_moved_20 : decode cX0_moved 20 = .ok (.ifCond .eq 14, 3) := dk_153 0 14 (dk_at dksX0_moved_0 20 rfl rfl)
theorem dX0_moved_23 : decode cX0_moved 23 = .ok (.aload_n 0, 1) := dk_42 (dk_at dksX0_moved_0 23 rfl rfl)
theorem dX0_moved_24 : decode cX0_moved 24 = .ok (.getfield 429, 3) := dk_180 1 173 (dk_at dksX0_moved_1 0 rfl rfl)
theorem dX0_moved_27 : decode cX0_moved 27 = .ok (.iload_n 2, 1) := dk_28 (dk_at dksX0_moved_1 3 rfl rfl)
theorem dX0_moved_28 : decode cX0_moved 28 = .ok (.invokestatic 375, 3) := dk_184 1 119 (dk_at dksX0_moved_1 4 rfl rfl)
theorem dX0_moved_31 : decode cX0_moved 31 = .ok (.ifCond .ne 5, 3) := dk_154 0 5 (dk_at dksX0_moved_1 7 rfl rfl)
theorem dX0_moved_34 : decode cX0_moved 34 = .ok (.iconst (-1), 1) := dk_2 (dk_at dksX0_moved_1 10 rfl rfl)
theorem dX0_moved_35 : decode cX0_moved 35 = .ok (.ireturn, 1) := dk_172 (dk_at dksX0_moved_1 11 rfl rfl)
theorem dX0_moved_36 : decode cX0_moved 36 = .ok (.aload_n 0, 1) := dk_42 (dk_at dksX0_moved_1 12 rfl rfl)
theorem dX0_moved_37 : decode cX0_moved 37 = .ok (.aload_n 0, 1) := dk_42 (dk_at dksX0_moved_1 13 rfl rfl)
theorem dX0_moved_38 : decode cX0_moved 38 = .ok (.getfield 429, 3) := dk_180 1 173 (dk_at dksX0_moved_1 14 rfl rfl)
theorem dX0_moved_41 : decode cX0_moved 41 = .ok (.invokevirtual 384, 3) := dk_182 1 128 (dk_at dksX0_moved_1 17 rfl rfl)
theorem dX0_moved_44 : decode cX0_moved 44 = .ok (.aload_n 0, 1) := dk_42 (dk_at dksX0_moved_1 20 rfl rfl)
theorem dX0_moved_45 : decode cX0_moved 45 = .ok (.iload_n 1, 1) := dk_27 (dk_at dksX0_moved_1 21 rfl rfl)
theorem dX0_moved_46 : decode cX0_moved 46 = .ok (.iconst 1, 1) := dk_4 (dk_at dksX0_moved_1 22 rfl rfl)
theorem dX0_moved_47 : decode cX0_moved 47 = .ok (.invokevirtual 435, 3) := dk_182 1 179 (dk_at dksX0_moved_2 0 rfl rfl)
theorem dX0_moved_50 : decode cX0_moved 50 = .ok (.istore 4, 2) := dk_54 4 (dk_at dksX0_moved_2 3 rfl rfl)
theorem dX0_moved_52 : decode cX0_moved 52 = .ok (.iload 4, 2) := dk_21 4 (dk_at dksX0_moved_2 5 rfl rfl)
theorem dX0_moved_54 : decode cX0_moved 54 = .ok (.ifCond .eq 16, 3) := dk_153 0 16 (dk_at dksX0_moved_2 7 rfl rfl)
theorem dX0_moved_57 : decode cX0_moved 57 = .ok (.aload_n 0, 1) := dk_42 (dk_at dksX0_moved_2 10 rfl rfl)
theorem dX0_moved_58 : decode cX0_moved 58 = .ok (.aload_n 0, 1) := dk_42 (dk_at dksX0_moved_2 11 rfl rfl)
theorem dX0_moved_59 : decode cX0_moved 59 = .ok (.getfield 429, 3) := dk_180 1 173 (dk_at dksX0_moved_2 12 rfl rfl)
theorem dX0_moved_62 : decode cX0_moved 62 = .ok (.iload_n 2, 1) := dk_28 (dk_at dksX0_moved_2 15 rfl rfl)
theorem dX0_moved_63 : decode cX0_moved 63 = .ok (.iload_n 3, 1) := dk_29 (dk_at dksX0_moved_2 16 rfl rfl)
theorem dX0_moved_64 : decode cX0_moved 64 = .ok (.invokevirtual 379, 3) := dk_182 1 123 (dk_at dksX0_moved_2 17 rfl rfl)
theorem dX0_moved_67 : decode cX0_moved 67 = .ok (.goto 5, 3) := dk_167 0 5 (dk_at dksX0_moved_2 20 rfl rfl)
theorem dX0_moved_70 : decode cX0_moved 70 = .ok (.bipush (-4), 2) := dk_16 252 (dk_at dksX0_moved_3 0 rfl rfl)
theorem dX0_moved_72 : decode cX0_moved 72 = .ok (.istore 5, 2) := dk_54 5 (dk_at dksX0_moved_3 2 rfl rfl)
theorem dX0_moved_74 : decode cX0_moved 74 = .ok (.aload_n 0, 1) := dk_42 (dk_at dksX0_moved_3 4 rfl rfl)
theorem dX0_moved_75 : decode cX0_moved 75 = .ok (.aload_n 0, 1) := dk_42 (dk_at dksX0_moved_3 5 rfl rfl)
theorem dX0_moved_76 : decode cX0_moved 76 = .ok (.getfield 429, 3) := dk_180 1 173 (dk_at dksX0_moved_3 6 rfl rfl)
theorem dX0_moved_79 : decode cX0_moved 79 = .ok (.invokevirtual 392, 3) := dk_182 1 136 (dk_at dksX0_moved_3 9 rfl rfl)
theorem dX0_moved_82 : decode cX0_moved 82 = .ok (.iload 5, 2) := dk_21 5 (dk_at dksX0_moved_3 12 rfl rfl)
theorem dX0_moved_84 : decode cX0_moved 84 = .ok (.ireturn, 1) := dk_172 (dk_at dksX0_moved_3 14 rfl rfl)
abbrev cX0_strokes : ByteArray := prog_1_method_55_code
def yX0_strokes : MethodName := ⟨RX0, "strokes", "(II)Z"⟩
def dkwX0_strokes_4 : List UInt8 := [25, 4, 180, 0, 195, 184, 0, 180, 181, 1, 8, 4, 172]
abbrev dktX0_strokes_4 : List UInt8 := dkwX0_strokes_4 ++ []
def dkwX0_strokes_3 : List UInt8 := [28, 163, 0, 5, 3, 172, 25, 4, 89, 180, 0, 195, 28, 100, 181, 0, 195, 25, 4, 25, 4, 180, 1, 8]
abbrev dktX0_strokes_3 : List UInt8 := dkwX0_strokes_3 ++ dktX0_strokes_4
def dkwX0_strokes_2 : List UInt8 := [172, 45, 42, 180, 0, 78, 27, 46, 42, 180, 0, 81, 27, 46, 182, 1, 0, 58, 4, 25, 4, 180, 0, 195]
abbrev dktX0_strokes_2 : List UInt8 := dkwX0_strokes_2 ++ dktX0_strokes_3
def dkwX0_strokes_1 : List UInt8 := [46, 46, 28, 163, 0, 5, 3, 172, 45, 180, 0, 233, 42, 180, 0, 78, 27, 46, 92, 46, 28, 100, 79, 4]
abbrev dktX0_strokes_1 : List UInt8 := dkwX0_strokes_1 ++ dktX0_strokes_2
def dkwX0_strokes_0 : List UInt8 := [42, 180, 1, 173, 78, 42, 180, 0, 81, 27, 46, 2, 160, 0, 37, 45, 180, 0, 233, 42, 180, 0, 78, 27]
abbrev dktX0_strokes_0 : List UInt8 := dkwX0_strokes_0 ++ dktX0_strokes_1
theorem dksX0_strokes_0 : cX0_strokes.data.toList.drop 0 = dktX0_strokes_0 := by decide +kernel
theorem dksX0_strokes_1 : cX0_strokes.data.toList.drop 24 = dktX0_strokes_1 := dk_seg dksX0_strokes_0 24 rfl rfl
theorem dksX0_strokes_2 : cX0_strokes.data.toList.drop 48 = dktX0_strokes_2 := dk_seg dksX0_strokes_1 24 rfl rfl
theorem dksX0_strokes_3 : cX0_strokes.data.toList.drop 72 = dktX0_strokes_3 := dk_seg dksX0_strokes_2 24 rfl rfl
theorem dksX0_strokes_4 : cX0_strokes.data.toList.drop 96 = dktX0_strokes_4 := dk_seg dksX0_strokes_3 24 rfl rfl
theorem dX0_strokes_0 : decode cX0_strokes 0 = .ok (.aload_n 0, 1) := dk_42 (dk_at dksX0_strokes_0 0 rfl rfl)
theorem dX0_strokes_1 : decode cX0_strokes 1 = .ok (.getfield 429, 3) := dk_180 1 173 (dk_at dksX0_strokes_0 1 rfl rfl)
theorem dX0_strokes_4 : decode cX0_strokes 4 = .ok (.astore_n 3, 1) := dk_78 (dk_at dksX0_strokes_0 4 rfl rfl)
theorem dX0_strokes_5 : decode cX0_strokes 5 = .ok (.aload_n 0, 1) := dk_42 (dk_at dksX0_strokes_0 5 rfl rfl)
theorem dX0_strokes_6 : decode cX0_strokes 6 = .ok (.getfield 81, 3) := dk_180 0 81 (dk_at dksX0_strokes_0 6 rfl rfl)
theorem dX0_strokes_9 : decode cX0_strokes 9 = .ok (.iload_n 1, 1) := dk_27 (dk_at dksX0_strokes_0 9 rfl rfl)
theorem dX0_strokes_10 : decode cX0_strokes 10 = .ok (.iaload, 1) := dk_46 (dk_at dksX0_strokes_0 10 rfl rfl)
theorem dX0_strokes_11 : decode cX0_strokes 11 = .ok (.iconst (-1), 1) := dk_2 (dk_at dksX0_strokes_0 11 rfl rfl)
theorem dX0_strokes_12 : decode cX0_strokes 12 = .ok (.if_icmp .ne 37, 3) := dk_160 0 37 (dk_at dksX0_strokes_0 12 rfl rfl)
theorem dX0_strokes_15 : decode cX0_strokes 15 = .ok (.aload_n 3, 1) := dk_45 (dk_at dksX0_strokes_0 15 rfl rfl)
theorem dX0_strokes_16 : decode cX0_strokes 16 = .ok (.getfield 233, 3) := dk_180 0 233 (dk_at dksX0_strokes_0 16 rfl rfl)
theorem dX0_strokes_19 : decode cX0_strokes 19 = .ok (.aload_n 0, 1) := dk_42 (dk_at dksX0_strokes_0 19 rfl rfl)
theorem dX0_strokes_20 : decode cX0_strokes 20 = .ok (.getfield 78, 3) := dk_180 0 78 (dk_at dksX0_strokes_0 20 rfl rfl)
theorem dX0_strokes_23 : decode cX0_strokes 23 = .ok (.iload_n 1, 1) := dk_27 (dk_at dksX0_strokes_0 23 rfl rfl)
theorem dX0_strokes_24 : decode cX0_strokes 24 = .ok (.iaload, 1) := dk_46 (dk_at dksX0_strokes_1 0 rfl rfl)
theorem dX0_strokes_25 : decode cX0_strokes 25 = .ok (.iaload, 1) := dk_46 (dk_at dksX0_strokes_1 1 rfl rfl)
theorem dX0_strokes_26 : decode cX0_strokes 26 = .ok (.iload_n 2, 1) := dk_28 (dk_at dksX0_strokes_1 2 rfl rfl)
theorem dX0_strokes_27 : decode cX0_strokes 27 = .ok (.if_icmp .gt 5, 3) := dk_163 0 5 (dk_at dksX0_strokes_1 3 rfl rfl)
theorem dX0_strokes_30 : decode cX0_strokes 30 = .ok (.iconst 0, 1) := dk_3 (dk_at dksX0_strokes_1 6 rfl rfl)
theorem dX0_strokes_31 : decode cX0_strokes 31 = .ok (.ireturn, 1) := dk_172 (dk_at dksX0_strokes_1 7 rfl rfl)
theorem dX0_strokes_32 : decode cX0_strokes 32 = .ok (.aload_n 3, 1) := dk_45 (dk_at dksX0_strokes_1 8 rfl rfl)
theorem dX0_strokes_33 : decode cX0_strokes 33 = .ok (.getfield 233, 3) := dk_180 0 233 (dk_at dksX0_strokes_1 9 rfl rfl)
theorem dX0_strokes_36 : decode cX0_strokes 36 = .ok (.aload_n 0, 1) := dk_42 (dk_at dksX0_strokes_1 12 rfl rfl)
theorem dX0_strokes_37 : decode cX0_strokes 37 = .ok (.getfield 78, 3) := dk_180 0 78 (dk_at dksX0_strokes_1 13 rfl rfl)
theorem dX0_strokes_40 : decode cX0_strokes 40 = .ok (.iload_n 1, 1) := dk_27 (dk_at dksX0_strokes_1 16 rfl rfl)
theorem dX0_strokes_41 : decode cX0_strokes 41 = .ok (.iaload, 1) := dk_46 (dk_at dksX0_strokes_1 17 rfl rfl)
theorem dX0_strokes_42 : decode cX0_strokes 42 = .ok (.dup2, 1) := dk_92 (dk_at dksX0_strokes_1 18 rfl rfl)
theorem dX0_strokes_43 : decode cX0_strokes 43 = .ok (.iaload, 1) := dk_46 (dk_at dksX0_strokes_1 19 rfl rfl)
theorem dX0_strokes_44 : decode cX0_strokes 44 = .ok (.iload_n 2, 1) := dk_28 (dk_at dksX0_strokes_1 20 rfl rfl)
theorem dX0_strokes_45 : decode cX0_strokes 45 = .ok (.isub, 1) := dk_100 (dk_at dksX0_strokes_1 21 rfl rfl)
theorem dX0_strokes_46 : decode cX0_strokes 46 = .ok (.iastore, 1) := dk_79 (dk_at dksX0_strokes_1 22 rfl rfl)
theorem dX0_strokes_47 : decode cX0_strokes 47 = .ok (.iconst 1, 1) := dk_4 (dk_at dksX0_strokes_1 23 rfl rfl)
theorem dX0_strokes_48 : decode cX0_strokes 48 = .ok (.ireturn, 1) := dk_172 (dk_at dksX0_strokes_2 0 rfl rfl)
theorem dX0_strokes_49 : decode cX0_strokes 49 = .ok (.aload_n 3, 1) := dk_45 (dk_at dksX0_strokes_2 1 rfl rfl)
theorem dX0_strokes_50 : decode cX0_strokes 50 = .ok (.aload_n 0, 1) := dk_42 (dk_at dksX0_strokes_2 2 rfl rfl)
theorem dX0_strokes_51 : decode cX0_strokes 51 = .ok (.getfield 78, 3) := dk_180 0 78 (dk_at dksX0_strokes_2 3 rfl rfl)
theorem dX0_strokes_54 : decode cX0_strokes 54 = .ok (.iload_n 1, 1) := dk_27 (dk_at dksX0_strokes_2 6 rfl rfl)
theorem dX0_strokes_55 : decode cX0_strokes 55 = .ok (.iaload, 1) := dk_46 (dk_at dksX0_strokes_2 7 rfl rfl)
theorem dX0_strokes_56 : decode cX0_strokes 56 = .ok (.aload_n 0, 1) := dk_42 (dk_at dksX0_strokes_2 8 rfl rfl)
theorem dX0_strokes_57 : decode cX0_strokes 57 = .ok (.getfield 81, 3) := dk_180 0 81 (dk_at dksX0_strokes_2 9 rfl rfl)
theorem dX0_strokes_60 : decode cX0_strokes 60 = .ok (.iload_n 1, 1) := dk_27 (dk_at dksX0_strokes_2 12 rfl rfl)
theorem dX0_strokes_61 : decode cX0_strokes 61 = .ok (.iaload, 1) := dk_46 (dk_at dksX0_strokes_2 13 rfl rfl)
theorem dX0_strokes_62 : decode cX0_strokes 62 = .ok (.invokevirtual 256, 3) := dk_182 1 0 (dk_at dksX0_strokes_2 14 rfl rfl)
theorem dX0_strokes_65 : decode cX0_strokes 65 = .ok (.astore 4, 2) := dk_58 4 (dk_at dksX0_strokes_2 17 rfl rfl)
theorem dX0_strokes_67 : decode cX0_strokes 67 = .ok (.aload 4, 2) := dk_25 4 (dk_at dksX0_strokes_2 19 rfl rfl)
theorem dX0_strokes_69 : decode cX0_strokes 69 = .ok (.getfield 195, 3) := dk_180 0 195 (dk_at dksX0_strokes_2 21 rfl rfl)
theorem dX0_strokes_72 : decode cX0_strokes 72 = .ok (.iload_n 2, 1) := dk_28 (dk_at dksX0_strokes_3 0 rfl rfl)
theorem dX0_strokes_73 : decode cX0_strokes 73 = .ok (.if_icmp .gt 5, 3) := dk_163 0 5 (dk_at dksX0_strokes_3 1 rfl rfl)
theorem dX0_strokes_76 : decode cX0_strokes 76 = .ok (.iconst 0, 1) := dk_3 (dk_at dksX0_strokes_3 4 rfl rfl)
theorem dX0_strokes_77 : decode cX0_strokes 77 = .ok (.ireturn, 1) := dk_172 (dk_at dksX0_strokes_3 5 rfl rfl)
theorem dX0_strokes_78 : decode cX0_strokes 78 = .ok (.aload 4, 2) := dk_25 4 (dk_at dksX0_strokes_3 6 rfl rfl)
theorem dX0_strokes_80 : decode cX0_strokes 80 = .ok (.dup, 1) := dk_89 (dk_at dksX0_strokes_3 8 rfl rfl)
theorem dX0_strokes_81 : decode cX0_strokes 81 = .ok (.getfield 195, 3) := dk_180 0 195 (dk_at dksX0_strokes_3 9 rfl rfl)
theorem dX0_strokes_84 : decode cX0_strokes 84 = .ok (.iload_n 2, 1) := dk_28 (dk_at dksX0_strokes_3 12 rfl rfl)
theorem dX0_strokes_85 : decode cX0_strokes 85 = .ok (.isub, 1) := dk_100 (dk_at dksX0_strokes_3 13 rfl rfl)
theorem dX0_strokes_86 : decode cX0_strokes 86 = .ok (.putfield 195, 3) := dk_181 0 195 (dk_at dksX0_strokes_3 14 rfl rfl)
theorem dX0_strokes_89 : decode cX0_strokes 89 = .ok (.aload 4, 2) := dk_25 4 (dk_at dksX0_strokes_3 17 rfl rfl)
theorem dX0_strokes_91 : decode cX0_strokes 91 = .ok (.aload 4, 2) := dk_25 4 (dk_at dksX0_strokes_3 19 rfl rfl)
theorem dX0_strokes_93 : decode cX0_strokes 93 = .ok (.getfield 264, 3) := dk_180 1 8 (dk_at dksX0_strokes_3 21 rfl rfl)
theorem dX0_strokes_96 : decode cX0_strokes 96 = .ok (.aload 4, 2) := dk_25 4 (dk_at dksX0_strokes_4 0 rfl rfl)
theorem dX0_strokes_98 : decode cX0_strokes 98 = .ok (.getfield 195, 3) := dk_180 0 195 (dk_at dksX0_strokes_4 2 rfl rfl)
theorem dX0_strokes_101 : decode cX0_strokes 101 = .ok (.invokestatic 180, 3) := dk_184 0 180 (dk_at dksX0_strokes_4 5 rfl rfl)
theorem dX0_strokes_104 : decode cX0_strokes 104 = .ok (.putfield 264, 3) := dk_181 1 8 (dk_at dksX0_strokes_4 8 rfl rfl)
theorem dX0_strokes_107 : decode cX0_strokes 107 = .ok (.iconst 1, 1) := dk_4 (dk_at dksX0_strokes_4 11 rfl rfl)
theorem dX0_strokes_108 : decode cX0_strokes 108 = .ok (.ireturn, 1) := dk_172 (dk_at dksX0_strokes_4 12 rfl rfl)
abbrev cX0_tune : ByteArray := prog_1_method_59_code
def yX0_tune : MethodName := ⟨RX0, "tune", "(I)I"⟩
def dkwX0_tune_6 : List UInt8 := [42, 180, 1, 198, 172]
abbrev dktX0_tune_6 : List UInt8 := dkwX0_tune_6 ++ []
def dkwX0_tune_5 : List UInt8 := [27, 4, 160, 0, 10, 42, 180, 1, 192, 167, 0, 19, 27, 5, 160, 0, 10, 42, 180, 1, 195, 167, 0, 7]
abbrev dktX0_tune_5 : List UInt8 := dkwX0_tune_5 ++ dktX0_tune_6
def dkwX0_tune_4 : List UInt8 := [42, 16, 254, 181, 1, 198, 42, 3, 3, 3, 182, 1, 201, 27, 154, 0, 10, 42, 180, 1, 189, 167, 0, 31]
abbrev dktX0_tune_4 : List UInt8 := dkwX0_tune_4 ++ dktX0_tune_5
def dkwX0_tune_3 : List UInt8 := [154, 0, 6, 16, 252, 172, 42, 16, 254, 181, 1, 189, 42, 16, 254, 181, 1, 192, 42, 16, 254, 181, 1, 195]
abbrev dktX0_tune_3 : List UInt8 := dkwX0_tune_3 ++ dktX0_tune_4
def dkwX0_tune_2 : List UInt8 := [153, 0, 23, 42, 180, 1, 173, 42, 180, 0, 87, 29, 46, 184, 1, 119, 61, 132, 3, 1, 167, 255, 227, 28]
abbrev dktX0_tune_2 : List UInt8 := dkwX0_tune_2 ++ dktX0_tune_3
def dkwX0_tune_1 : List UInt8 := [180, 1, 176, 158, 0, 7, 4, 167, 0, 4, 3, 61, 3, 62, 29, 42, 180, 1, 176, 162, 0, 27, 28]
abbrev dktX0_tune_1 : List UInt8 := dkwX0_tune_1 ++ dktX0_tune_2
def dkwX0_tune_0 : List UInt8 := [27, 133, 9, 20, 1, 168, 184, 0, 152, 154, 0, 5, 2, 172, 42, 180, 1, 170, 158, 0, 14, 42]
abbrev dktX0_tune_0 : List UInt8 := dkwX0_tune_0 ++ dktX0_tune_1
theorem dksX0_tune_0 : cX0_tune.data.toList.drop 0 = dktX0_tune_0 := by decide +kernel
theorem dksX0_tune_1 : cX0_tune.data.toList.drop 22 = dktX0_tune_1 := dk_seg dksX0_tune_0 22 rfl rfl
theorem dksX0_tune_2 : cX0_tune.data.toList.drop 45 = dktX0_tune_2 := dk_seg dksX0_tune_1 23 rfl rfl
theorem dksX0_tune_3 : cX0_tune.data.toList.drop 69 = dktX0_tune_3 := dk_seg dksX0_tune_2 24 rfl rfl
theorem dksX0_tune_4 : cX0_tune.data.toList.drop 93 = dktX0_tune_4 := dk_seg dksX0_tune_3 24 rfl rfl
theorem dksX0_tune_5 : cX0_tune.data.toList.drop 117 = dktX0_tune_5 := dk_seg dksX0_tune_4 24 rfl rfl
theorem dksX0_tune_6 : cX0_tune.data.toList.drop 141 = dktX0_tune_6 := dk_seg dksX0_tune_5 24 rfl rfl
theorem dX0_tune_0 : decode cX0_tune 0 = .ok (.iload_n 1, 1) := dk_27 (dk_at dksX0_tune_0 0 rfl rfl)
theorem dX0_tune_1 : decode cX0_tune 1 = .ok (.i2l, 1) := dk_133 (dk_at dksX0_tune_0 1 rfl rfl)
theorem dX0_tune_2 : decode cX0_tune 2 = .ok (.lconst 0, 1) := dk_9 (dk_at dksX0_tune_0 2 rfl rfl)
theorem dX0_tune_3 : decode cX0_tune 3 = .ok (.ldc2_w 424, 3) := dk_20 1 168 (dk_at dksX0_tune_0 3 rfl rfl)
theorem dX0_tune_6 : decode cX0_tune 6 = .ok (.invokestatic 152, 3) := dk_184 0 152 (dk_at dksX0_tune_0 6 rfl rfl)
theorem dX0_tune_9 : decode cX0_tune 9 = .ok (.ifCond .ne 5, 3) := dk_154 0 5 (dk_at dksX0_tune_0 9 rfl rfl)
theorem dX0_tune_12 : decode cX0_tune 12 = .ok (.iconst (-1), 1) := dk_2 (dk_at dksX0_tune_0 12 rfl rfl)
theorem dX0_tune_13 : decode cX0_tune 13 = .ok (.ireturn, 1) := dk_172 (dk_at dksX0_tune_0 13 rfl rfl)
theorem dX0_tune_14 : decode cX0_tune 14 = .ok (.aload_n 0, 1) := dk_42 (dk_at dksX0_tune_0 14 rfl rfl)
theorem dX0_tune_15 : decode cX0_tune 15 = .ok (.getfield 426, 3) := dk_180 1 170 (dk_at dksX0_tune_0 15 rfl rfl)
theorem dX0_tune_18 : decode cX0_tune 18 = .ok (.ifCond .le 14, 3) := dk_158 0 14 (dk_at dksX0_tune_0 18 rfl rfl)
theorem dX0_tune_21 : decode cX0_tune 21 = .ok (.aload_n 0, 1) := dk_42 (dk_at dksX0_tune_0 21 rfl rfl)
theorem dX0_tune_22 : decode cX0_tune 22 = .ok (.getfield 432, 3) := dk_180 1 176 (dk_at dksX0_tune_1 0 rfl rfl)
theorem dX0_tune_25 : decode cX0_tune 25 = .ok (.ifCond .le 7, 3) := dk_158 0 7 (dk_at dksX0_tune_1 3 rfl rfl)
theorem dX0_tune_28 : decode cX0_tune 28 = .ok (.iconst 1, 1) := dk_4 (dk_at dksX0_tune_1 6 rfl rfl)
theorem dX0_tune_29 : decode cX0_tune 29 = .ok (.goto 4, 3) := dk_167 0 4 (dk_at dksX0_tune_1 7 rfl rfl)
theorem dX0_tune_32 : decode cX0_tune 32 = .ok (.iconst 0, 1) := dk_3 (dk_at dksX0_tune_1 10 rfl rfl)
theorem dX0_tune_33 : decode cX0_tune 33 = .ok (.istore_n 2, 1) := dk_61 (dk_at dksX0_tune_1 11 rfl rfl)
theorem dX0_tune_34 : decode cX0_tune 34 = .ok (.iconst 0, 1) := dk_3 (dk_at dksX0_tune_1 12 rfl rfl)
theorem dX0_tune_35 : decode cX0_tune 35 = .ok (.istore_n 3, 1) := dk_62 (dk_at dksX0_tune_1 13 rfl rfl)
theorem dX0_tune_36 : decode cX0_tune 36 = .ok (.iload_n 3, 1) := dk_29 (dk_at dksX0_tune_1 14 rfl rfl)
theorem dX0_tune_37 : decode cX0_tune 37 = .ok (.aload_n 0, 1) := dk_42 (dk_at dksX0_tune_1 15 rfl rfl)
theorem dX0_tune_38 : decode cX0_tune 38 = .ok (.getfield 432, 3) := dk_180 1 176 (dk_at dksX0_tune_1 16 rfl rfl)
theorem dX0_tune_41 : decode cX0_tune 41 = .ok (.if_icmp .ge 27, 3) := dk_162 0 27 (dk_at dksX0_tune_1 19 rfl rfl)
theorem dX0_tune_44 : decode cX0_tune 44 = .ok (.iload_n 2, 1) := dk_28 (dk_at dksX0_tune_1 22 rfl rfl)
theorem dX0_tune_45 : decode cX0_tune 45 = .ok (.ifCond .eq 23, 3) := dk_153 0 23 (dk_at dksX0_tune_2 0 rfl rfl)
theorem dX0_tune_48 : decode cX0_tune 48 = .ok (.aload_n 0, 1) := dk_42 (dk_at dksX0_tune_2 3 rfl rfl)
theorem dX0_tune_49 : decode cX0_tune 49 = .ok (.getfield 429, 3) := dk_180 1 173 (dk_at dksX0_tune_2 4 rfl rfl)
theorem dX0_tune_52 : decode cX0_tune 52 = .ok (.aload_n 0, 1) := dk_42 (dk_at dksX0_tune_2 7 rfl rfl)
theorem dX0_tune_53 : decode cX0_tune 53 = .ok (.getfield 87, 3) := dk_180 0 87 (dk_at dksX0_tune_2 8 rfl rfl)
theorem dX0_tune_56 : decode cX0_tune 56 = .ok (.iload_n 3, 1) := dk_29 (dk_at dksX0_tune_2 11 rfl rfl)
theorem dX0_tune_57 : decode cX0_tune 57 = .ok (.iaload, 1) := dk_46 (dk_at dksX0_tune_2 12 rfl rfl)
theorem dX0_tune_58 : decode cX0_tune 58 = .ok (.invokestatic 375, 3) := dk_184 1 119 (dk_at dksX0_tune_2 13 rfl rfl)
theorem dX0_tune_61 : decode cX0_tune 61 = .ok (.istore_n 2, 1) := dk_61 (dk_at dksX0_tune_2 16 rfl rfl)
theorem dX0_tune_62 : decode cX0_tune 62 = .ok (.iinc 3 1, 3) := dk_132 3 1 (dk_at dksX0_tune_2 17 rfl rfl)
theorem dX0_tune_65 : decode cX0_tune 65 = .ok (.goto (-29), 3) := dk_167 255 227 (dk_at dksX0_tune_2 20 rfl rfl)
theorem dX0_tune_68 : decode cX0_tune 68 = .ok (.iload_n 2, 1) := dk_28 (dk_at dksX0_tune_2 23 rfl rfl)
theorem dX0_tune_69 : decode cX0_tune 69 = .ok (.ifCond .ne 6, 3) := dk_154 0 6 (dk_at dksX0_tune_3 0 rfl rfl)
theorem dX0_tune_72 : decode cX0_tune 72 = .ok (.bipush (-4), 2) := dk_16 252 (dk_at dksX0_tune_3 3 rfl rfl)
theorem dX0_tune_74 : decode cX0_tune 74 = .ok (.ireturn, 1) := dk_172 (dk_at dksX0_tune_3 5 rfl rfl)
theorem dX0_tune_75 : decode cX0_tune 75 = .ok (.aload_n 0, 1) := dk_42 (dk_at dksX0_tune_3 6 rfl rfl)
theorem dX0_tune_76 : decode cX0_tune 76 = .ok (.bipush (-2), 2) := dk_16 254 (dk_at dksX0_tune_3 7 rfl rfl)
theorem dX0_tune_78 : decode cX0_tune 78 = .ok (.putfield 445, 3) := dk_181 1 189 (dk_at dksX0_tune_3 9 rfl rfl)
theorem dX0_tune_81 : decode cX0_tune 81 = .ok (.aload_n 0, 1) := dk_42 (dk_at dksX0_tune_3 12 rfl rfl)
theorem dX0_tune_82 : decode cX0_tune 82 = .ok (.bipush (-2), 2) := dk_16 254 (dk_at dksX0_tune_3 13 rfl rfl)
theorem dX0_tune_84 : decode cX0_tune 84 = .ok (.putfield 448, 3) := dk_181 1 192 (dk_at dksX0_tune_3 15 rfl rfl)
theorem dX0_tune_87 : decode cX0_tune 87 = .ok (.aload_n 0, 1) := dk_42 (dk_at dksX0_tune_3 18 rfl rfl)
theorem dX0_tune_88 : decode cX0_tune 88 = .ok (.bipush (-2), 2) := dk_16 254 (dk_at dksX0_tune_3 19 rfl rfl)
theorem dX0_tune_90 : decode cX0_tune 90 = .ok (.putfield 451, 3) := dk_181 1 195 (dk_at dksX0_tune_3 21 rfl rfl)
theorem dX0_tune_93 : decode cX0_tune 93 = .ok (.aload_n 0, 1) := dk_42 (dk_at dksX0_tune_4 0 rfl rfl)
theorem dX0_tune_94 : decode cX0_tune 94 = .ok (.bipush (-2), 2) := dk_16 254 (dk_at dksX0_tune_4 1 rfl rfl)
theorem dX0_tune_96 : decode cX0_tune 96 = .ok (.putfield 454, 3) := dk_181 1 198 (dk_at dksX0_tune_4 3 rfl rfl)
theorem dX0_tune_99 : decode cX0_tune 99 = .ok (.aload_n 0, 1) := dk_42 (dk_at dksX0_tune_4 6 rfl rfl)
theorem dX0_tune_100 : decode cX0_tune 100 = .ok (.iconst 0, 1) := dk_3 (dk_at dksX0_tune_4 7 rfl rfl)
theorem dX0_tune_101 : decode cX0_tune 101 = .ok (.iconst 0, 1) := dk_3 (dk_at dksX0_tune_4 8 rfl rfl)
theorem dX0_tune_102 : decode cX0_tune 102 = .ok (.iconst 0, 1) := dk_3 (dk_at dksX0_tune_4 9 rfl rfl)
theorem dX0_tune_103 : decode cX0_tune 103 = .ok (.invokevirtual 457, 3) := dk_182 1 201 (dk_at dksX0_tune_4 10 rfl rfl)
theorem dX0_tune_106 : decode cX0_tune 106 = .ok (.iload_n 1, 1) := dk_27 (dk_at dksX0_tune_4 13 rfl rfl)
theorem dX0_tune_107 : decode cX0_tune 107 = .ok (.ifCond .ne 10, 3) := dk_154 0 10 (dk_at dksX0_tune_4 14 rfl rfl)
theorem dX0_tune_110 : decode cX0_tune 110 = .ok (.aload_n 0, 1) := dk_42 (dk_at dksX0_tune_4 17 rfl rfl)
theorem dX0_tune_111 : decode cX0_tune 111 = .ok (.getfield 445, 3) := dk_180 1 189 (dk_at dksX0_tune_4 18 rfl rfl)
theorem dX0_tune_114 : decode cX0_tune 114 = .ok (.goto 31, 3) := dk_167 0 31 (dk_at dksX0_tune_4 21 rfl rfl)
theorem dX0_tune_117 : decode cX0_tune 117 = .ok (.iload_n 1, 1) := dk_27 (dk_at dksX0_tune_5 0 rfl rfl)
theorem dX0_tune_118 : decode cX0_tune 118 = .ok (.iconst 1, 1) := dk_4 (dk_at dksX0_tune_5 1 rfl rfl)
theorem dX0_tune_119 : decode cX0_tune 119 = .ok (.if_icmp .ne 10, 3) := dk_160 0 10 (dk_at dksX0_tune_5 2 rfl rfl)
theorem dX0_tune_122 : decode cX0_tune 122 = .ok (.aload_n 0, 1) := dk_42 (dk_at dksX0_tune_5 5 rfl rfl)
theorem dX0_tune_123 : decode cX0_tune 123 = .ok (.getfield 448, 3) := dk_180 1 192 (dk_at dksX0_tune_5 6 rfl rfl)
theorem dX0_tune_126 : decode cX0_tune 126 = .ok (.goto 19, 3) := dk_167 0 19 (dk_at dksX0_tune_5 9 rfl rfl)
theorem dX0_tune_129 : decode cX0_tune 129 = .ok (.iload_n 1, 1) := dk_27 (dk_at dksX0_tune_5 12 rfl rfl)
theorem dX0_tune_130 : decode cX0_tune 130 = .ok (.iconst 2, 1) := dk_5 (dk_at dksX0_tune_5 13 rfl rfl)
theorem dX0_tune_131 : decode cX0_tune 131 = .ok (.if_icmp .ne 10, 3) := dk_160 0 10 (dk_at dksX0_tune_5 14 rfl rfl)
theorem dX0_tune_134 : decode cX0_tune 134 = .ok (.aload_n 0, 1) := dk_42 (dk_at dksX0_tune_5 17 rfl rfl)
theorem dX0_tune_135 : decode cX0_tune 135 = .ok (.getfield 451, 3) := dk_180 1 195 (dk_at dksX0_tune_5 18 rfl rfl)
theorem dX0_tune_138 : decode cX0_tune 138 = .ok (.goto 7, 3) := dk_167 0 7 (dk_at dksX0_tune_5 21 rfl rfl)
theorem dX0_tune_141 : decode cX0_tune 141 = .ok (.aload_n 0, 1) := dk_42 (dk_at dksX0_tune_6 0 rfl rfl)
theorem dX0_tune_142 : decode cX0_tune 142 = .ok (.getfield 454, 3) := dk_180 1 198 (dk_at dksX0_tune_6 1 rfl rfl)
theorem dX0_tune_145 : decode cX0_tune 145 = .ok (.ireturn, 1) := dk_172 (dk_at dksX0_tune_6 4 rfl rfl)
abbrev cX0_tuneFrom : ByteArray := prog_1_method_58_code
def yX0_tuneFrom : MethodName := ⟨RX0, "tuneFrom", "(III)V"⟩
def dkwX0_tuneFrom_13 : List UInt8 := [181, 1, 8, 177]
abbrev dktX0_tuneFrom_13 : List UInt8 := dkwX0_tuneFrom_13 ++ []
def dkwX0_tuneFrom_12 : List UInt8 := [180, 0, 78, 27, 46, 21, 6, 79, 167, 0, 17, 25, 5, 21, 7, 181, 0, 195, 25, 5, 21, 8]
abbrev dktX0_tuneFrom_12 : List UInt8 := dkwX0_tuneFrom_12 ++ dktX0_tuneFrom_13
def dkwX0_tuneFrom_11 : List UInt8 := [96, 21, 9, 182, 1, 201, 132, 10, 1, 167, 255, 193, 25, 5, 199, 0, 20, 25, 4, 180, 0, 233, 42]
abbrev dktX0_tuneFrom_11 : List UInt8 := dkwX0_tuneFrom_11 ++ dktX0_tuneFrom_12
def dkwX0_tuneFrom_10 : List UInt8 := [154, 0, 6, 167, 0, 33, 16, 10, 21, 9, 104, 27, 96, 4, 96, 54, 9, 42, 27, 4, 96, 28, 21, 10]
abbrev dktX0_tuneFrom_10 : List UInt8 := dkwX0_tuneFrom_10 ++ dktX0_tuneFrom_11
def dkwX0_tuneFrom_9 : List UInt8 := [163, 0, 58, 28, 21, 10, 96, 7, 163, 0, 50, 21, 10, 158, 0, 26, 42, 27, 4, 182, 1, 179]
abbrev dktX0_tuneFrom_9 : List UInt8 := dkwX0_tuneFrom_9 ++ dktX0_tuneFrom_10
def dkwX0_tuneFrom_8 : List UInt8 := [167, 0, 8, 25, 5, 180, 1, 8, 54, 8, 29, 54, 9, 3, 54, 10, 21, 10, 42, 180, 0, 84, 27, 46]
abbrev dktX0_tuneFrom_8 : List UInt8 := dkwX0_tuneFrom_8 ++ dktX0_tuneFrom_9
def dkwX0_tuneFrom_7 : List UInt8 := [25, 5, 199, 0, 7, 3, 167, 0, 8, 25, 5, 180, 0, 195, 54, 7, 25, 5, 199, 0, 7, 3]
abbrev dktX0_tuneFrom_7 : List UInt8 := dkwX0_tuneFrom_7 ++ dktX0_tuneFrom_8
def dkwX0_tuneFrom_6 : List UInt8 := [180, 0, 81, 27, 46, 182, 1, 0, 58, 5, 25, 4, 180, 0, 233, 42, 180, 0, 78, 27, 46, 46, 54, 6]
abbrev dktX0_tuneFrom_6 : List UInt8 := dkwX0_tuneFrom_6 ++ dktX0_tuneFrom_7
def dkwX0_tuneFrom_5 : List UInt8 := [42, 180, 0, 81, 27, 46, 2, 160, 0, 7, 1, 167, 0, 20, 25, 4, 42, 180, 0, 78, 27, 46, 42]
abbrev dktX0_tuneFrom_5 : List UInt8 := dkwX0_tuneFrom_5 ++ dktX0_tuneFrom_6
def dkwX0_tuneFrom_4 : List UInt8 := [180, 1, 198, 162, 0, 14, 42, 21, 4, 181, 1, 195, 42, 28, 181, 1, 198, 177, 42, 180, 1, 173, 58, 4]
abbrev dktX0_tuneFrom_4 : List UInt8 := dkwX0_tuneFrom_4 ++ dktX0_tuneFrom_5
def dkwX0_tuneFrom_3 : List UInt8 := [159, 0, 29, 21, 4, 42, 180, 1, 195, 161, 0, 20, 21, 4, 42, 180, 1, 195, 160, 0, 22, 28, 42]
abbrev dktX0_tuneFrom_3 : List UInt8 := dkwX0_tuneFrom_3 ++ dktX0_tuneFrom_4
def dkwX0_tuneFrom_2 : List UInt8 := [180, 1, 192, 162, 0, 13, 42, 28, 181, 1, 189, 42, 29, 181, 1, 192, 42, 180, 1, 195, 16, 254]
abbrev dktX0_tuneFrom_2 : List UInt8 := dkwX0_tuneFrom_2 ++ dktX0_tuneFrom_3
def dkwX0_tuneFrom_1 : List UInt8 := [16, 254, 159, 0, 27, 28, 42, 180, 1, 189, 161, 0, 19, 28, 42, 180, 1, 189, 160, 0, 21, 29, 42]
abbrev dktX0_tuneFrom_1 : List UInt8 := dkwX0_tuneFrom_1 ++ dktX0_tuneFrom_2
def dkwX0_tuneFrom_0 : List UInt8 := [27, 42, 180, 1, 170, 160, 0, 104, 42, 182, 1, 186, 54, 4, 21, 4, 154, 0, 46, 42, 180, 1, 189]
abbrev dktX0_tuneFrom_0 : List UInt8 := dkwX0_tuneFrom_0 ++ dktX0_tuneFrom_1
theorem dksX0_tuneFrom_0 : cX0_tuneFrom.data.toList.drop 0 = dktX0_tuneFrom_0 := by decide +kernel
theorem dksX0_tuneFrom_1 : cX0_tuneFrom.data.toList.drop 23 = dktX0_tuneFrom_1 := dk_seg dksX0_tuneFrom_0 23 rfl rfl
theorem dksX0_tuneFrom_2 : cX0_tuneFrom.data.toList.drop 46 = dktX0_tuneFrom_2 := dk_seg dksX0_tuneFrom_1 23 rfl rfl
theorem dksX0_tuneFrom_3 : cX0_tuneFrom.data.toList.drop 68 = dktX0_tuneFrom_3 := dk_seg dksX0_tuneFrom_2 22 rfl rfl
theorem dksX0_tuneFrom_4 : cX0_tuneFrom.data.toList.drop 91 = dktX0_tuneFrom_4 := dk_seg dksX0_tuneFrom_3 23 rfl rfl
theorem dksX0_tuneFrom_5 : cX0_tuneFrom.data.toList.drop 115 = dktX0_tuneFrom_5 := dk_seg dksX0_tuneFrom_4 24 rfl rfl
theorem dksX0_tuneFrom_6 : cX0_tuneFrom.data.toList.drop 138 = dktX0_tuneFrom_6 := dk_seg dksX0_tuneFrom_5 23 rfl rfl
theorem dksX0_tuneFrom_7 : cX0_tuneFrom.data.toList.drop 162 = dktX0_tuneFrom_7 := dk_seg dksX0_tuneFrom_6 24 rfl rfl
theorem dksX0_tuneFrom_8 : cX0_tuneFrom.data.toList.drop 184 = dktX0_tuneFrom_8 := dk_seg dksX0_tuneFrom_7 22 rfl rfl
theorem dksX0_tuneFrom_9 : cX0_tuneFrom.data.toList.drop 208 = dktX0_tuneFrom_9 := dk_seg dksX0_tuneFrom_8 24 rfl rfl
theorem dksX0_tuneFrom_10 : cX0_tuneFrom.data.toList.drop 230 = dktX0_tuneFrom_10 := dk_seg dksX0_tuneFrom_9 22 rfl rfl
theorem dksX0_tuneFrom_11 : cX0_tuneFrom.data.toList.drop 254 = dktX0_tuneFrom_11 := dk_seg dksX0_tuneFrom_10 24 rfl rfl
theorem dksX0_tuneFrom_12 : cX0_tuneFrom.data.toList.drop 277 = dktX0_tuneFrom_12 := dk_seg dksX0_tuneFrom_11 23 rfl rfl
theorem dksX0_tuneFrom_13 : cX0_tuneFrom.data.toList.drop 299 = dktX0_tuneFrom_13 := dk_seg dksX0_tuneFrom_12 22 rfl rfl
theorem dX0_tuneFrom_0 : decode cX0_tuneFrom 0 = .ok (.iload_n 1, 1) := dk_27 (dk_at dksX0_tuneFrom_0 0 rfl rfl)
theorem dX0_tuneFrom_1 : decode cX0_tuneFrom 1 = .ok (.aload_n 0, 1) := dk_42 (dk_at dksX0_tuneFrom_0 1 rfl rfl)
theorem dX0_tuneFrom_2 : decode cX0_tuneFrom 2 = .ok (.getfield 426, 3) := dk_180 1 170 (dk_at dksX0_tuneFrom_0 2 rfl rfl)
theorem dX0_tuneFrom_5 : decode cX0_tuneFrom 5 = .ok (.if_icmp .ne 104, 3) := dk_160 0 104 (dk_at dksX0_tuneFrom_0 5 rfl rfl)
theorem dX0_tuneFrom_8 : decode cX0_tuneFrom 8 = .ok (.aload_n 0, 1) := dk_42 (dk_at dksX0_tuneFrom_0 8 rfl rfl)
theorem dX0_tuneFrom_9 : decode cX0_tuneFrom 9 = .ok (.invokevirtual 442, 3) := dk_182 1 186 (dk_at dksX0_tuneFrom_0 9 rfl rfl)
theorem dX0_tuneFrom_12 : decode cX0_tuneFrom 12 = .ok (.istore 4, 2) := dk_54 4 (dk_at dksX0_tuneFrom_0 12 rfl rfl)
theorem dX0_tuneFrom_14 : decode cX0_tuneFrom 14 = .ok (.iload 4, 2) := dk_21 4 (dk_at dksX0_tuneFrom_0 14 rfl rfl)
theorem dX0_tuneFrom_16 : decode cX0_tuneFrom 16 = .ok (.ifCond .ne 46, 3) := dk_154 0 46 (dk_at dksX0_tuneFrom_0 16 rfl rfl)
theorem dX0_tuneFrom_19 : decode cX0_tuneFrom 19 = .ok (.aload_n 0, 1) := dk_42 (dk_at dksX0_tuneFrom_0 19 rfl rfl)
theorem dX0_tuneFrom_20 : decode cX0_tuneFrom 20 = .ok (.getfield 445, 3) := dk_180 1 189 (dk_at dksX0_tuneFrom_0 20 rfl rfl)
theorem dX0_tuneFrom_23 : decode cX0_tuneFrom 23 = .ok (.bipush (-2), 2) := dk_16 254 (dk_at dksX0_tuneFrom_1 0 rfl rfl)
theorem dX0_tuneFrom_25 : decode cX0_tuneFrom 25 = .ok (.if_icmp .eq 27, 3) := dk_159 0 27 (dk_at dksX0_tuneFrom_1 2 rfl rfl)
theorem dX0_tuneFrom_28 : decode cX0_tuneFrom 28 = .ok (.iload_n 2, 1) := dk_28 (dk_at dksX0_tuneFrom_1 5 rfl rfl)
theorem dX0_tuneFrom_29 : decode cX0_tuneFrom 29 = .ok (.aload_n 0, 1) := dk_42 (dk_at dksX0_tuneFrom_1 6 rfl rfl)
theorem dX0_tuneFrom_30 : decode cX0_tuneFrom 30 = .ok (.getfield 445, 3) := dk_180 1 189 (dk_at dksX0_tuneFrom_1 7 rfl rfl)
theorem dX0_tuneFrom_33 : decode cX0_tuneFrom 33 = .ok (.if_icmp .lt 19, 3) := dk_161 0 19 (dk_at dksX0_tuneFrom_1 10 rfl rfl)
theorem dX0_tuneFrom_36 : decode cX0_tuneFrom 36 = .ok (.iload_n 2, 1) := dk_28 (dk_at dksX0_tuneFrom_1 13 rfl rfl)
theorem dX0_tuneFrom_37 : decode cX0_tuneFrom 37 = .ok (.aload_n 0, 1) := dk_42 (dk_at dksX0_tuneFrom_1 14 rfl rfl)
theorem dX0_tuneFrom_38 : decode cX0_tuneFrom 38 = .ok (.getfield 445, 3) := dk_180 1 189 (dk_at dksX0_tuneFrom_1 15 rfl rfl)
theorem dX0_tuneFrom_41 : decode cX0_tuneFrom 41 = .ok (.if_icmp .ne 21, 3) := dk_160 0 21 (dk_at dksX0_tuneFrom_1 18 rfl rfl)
theorem dX0_tuneFrom_44 : decode cX0_tuneFrom 44 = .ok (.iload_n 3, 1) := dk_29 (dk_at dksX0_tuneFrom_1 21 rfl rfl)
theorem dX0_tuneFrom_45 : decode cX0_tuneFrom 45 = .ok (.aload_n 0, 1) := dk_42 (dk_at dksX0_tuneFrom_1 22 rfl rfl)
theorem dX0_tuneFrom_46 : decode cX0_tuneFrom 46 = .ok (.getfield 448, 3) := dk_180 1 192 (dk_at dksX0_tuneFrom_2 0 rfl rfl)
theorem dX0_tuneFrom_49 : decode cX0_tuneFrom 49 = .ok (.if_icmp .ge 13, 3) := dk_162 0 13 (dk_at dksX0_tuneFrom_2 3 rfl rfl)
theorem dX0_tuneFrom_52 : decode cX0_tuneFrom 52 = .ok (.aload_n 0, 1) := dk_42 (dk_at dksX0_tuneFrom_2 6 rfl rfl)
theorem dX0_tuneFrom_53 : decode cX0_tuneFrom 53 = .ok (.iload_n 2, 1) := dk_28 (dk_at dksX0_tuneFrom_2 7 rfl rfl)
theorem dX0_tuneFrom_54 : decode cX0_tuneFrom 54 = .ok (.putfield 445, 3) := dk_181 1 189 (dk_at dksX0_tuneFrom_2 8 rfl rfl)
theorem dX0_tuneFrom_57 : decode cX0_tuneFrom 57 = .ok (.aload_n 0, 1) := dk_42 (dk_at dksX0_tuneFrom_2 11 rfl rfl)
theorem dX0_tuneFrom_58 : decode cX0_tuneFrom 58 = .ok (.iload_n 3, 1) := dk_29 (dk_at dksX0_tuneFrom_2 12 rfl rfl)
theorem dX0_tuneFrom_59 : decode cX0_tuneFrom 59 = .ok (.putfield 448, 3) := dk_181 1 192 (dk_at dksX0_tuneFrom_2 13 rfl rfl)
theorem dX0_tuneFrom_62 : decode cX0_tuneFrom 62 = .ok (.aload_n 0, 1) := dk_42 (dk_at dksX0_tuneFrom_2 16 rfl rfl)
theorem dX0_tuneFrom_63 : decode cX0_tuneFrom 63 = .ok (.getfield 451, 3) := dk_180 1 195 (dk_at dksX0_tuneFrom_2 17 rfl rfl)
theorem dX0_tuneFrom_66 : decode cX0_tuneFrom 66 = .ok (.bipush (-2), 2) := dk_16 254 (dk_at dksX0_tuneFrom_2 20 rfl rfl)
theorem dX0_tuneFrom_68 : decode cX0_tuneFrom 68 = .ok (.if_icmp .eq 29, 3) := dk_159 0 29 (dk_at dksX0_tuneFrom_3 0 rfl rfl)
theorem dX0_tuneFrom_71 : decode cX0_tuneFrom 71 = .ok (.iload 4, 2) := dk_21 4 (dk_at dksX0_tuneFrom_3 3 rfl rfl)
theorem dX0_tuneFrom_73 : decode cX0_tuneFrom 73 = .ok (.aload_n 0, 1) := dk_42 (dk_at dksX0_tuneFrom_3 5 rfl rfl)
theorem dX0_tuneFrom_74 : decode cX0_tuneFrom 74 = .ok (.getfield 451, 3) := dk_180 1 195 (dk_at dksX0_tuneFrom_3 6 rfl rfl)
theorem dX0_tuneFrom_77 : decode cX0_tuneFrom 77 = .ok (.if_icmp .lt 20, 3) := dk_161 0 20 (dk_at dksX0_tuneFrom_3 9 rfl rfl)
theorem dX0_tuneFrom_80 : decode cX0_tuneFrom 80 = .ok (.iload 4, 2) := dk_21 4 (dk_at dksX0_tuneFrom_3 12 rfl rfl)
theorem dX0_tuneFrom_82 : decode cX0_tuneFrom 82 = .ok (.aload_n 0, 1) := dk_42 (dk_at dksX0_tuneFrom_3 14 rfl rfl)
theorem dX0_tuneFrom_83 : decode cX0_tuneFrom 83 = .ok (.getfield 451, 3) := dk_180 1 195 (dk_at dksX0_tuneFrom_3 15 rfl rfl)
theorem dX0_tuneFrom_86 : decode cX0_tuneFrom 86 = .ok (.if_icmp .ne 22, 3) := dk_160 0 22 (dk_at dksX0_tuneFrom_3 18 rfl rfl)
theorem dX0_tuneFrom_89 : decode cX0_tuneFrom 89 = .ok (.iload_n 2, 1) := dk_28 (dk_at dksX0_tuneFrom_3 21 rfl rfl)
theorem dX0_tuneFrom_90 : decode cX0_tuneFrom 90 = .ok (.aload_n 0, 1) := dk_42 (dk_at dksX0_tuneFrom_3 22 rfl rfl)
theorem dX0_tuneFrom_91 : decode cX0_tuneFrom 91 = .ok (.getfield 454, 3) := dk_180 1 198 (dk_at dksX0_tuneFrom_4 0 rfl rfl)
theorem dX0_tuneFrom_94 : decode cX0_tuneFrom 94 = .ok (.if_icmp .ge 14, 3) := dk_162 0 14 (dk_at dksX0_tuneFrom_4 3 rfl rfl)
theorem dX0_tuneFrom_97 : decode cX0_tuneFrom 97 = .ok (.aload_n 0, 1) := dk_42 (dk_at dksX0_tuneFrom_4 6 rfl rfl)
theorem dX0_tuneFrom_98 : decode cX0_tuneFrom 98 = .ok (.iload 4, 2) := dk_21 4 (dk_at dksX0_tuneFrom_4 7 rfl rfl)
theorem dX0_tuneFrom_100 : decode cX0_tuneFrom 100 = .ok (.putfield 451, 3) := dk_181 1 195 (dk_at dksX0_tuneFrom_4 9 rfl rfl)
theorem dX0_tuneFrom_103 : decode cX0_tuneFrom 103 = .ok (.aload_n 0, 1) := dk_42 (dk_at dksX0_tuneFrom_4 12 rfl rfl)
theorem dX0_tuneFrom_104 : decode cX0_tuneFrom 104 = .ok (.iload_n 2, 1) := dk_28 (dk_at dksX0_tuneFrom_4 13 rfl rfl)
theorem dX0_tuneFrom_105 : decode cX0_tuneFrom 105 = .ok (.putfield 454, 3) := dk_181 1 198 (dk_at dksX0_tuneFrom_4 14 rfl rfl)
theorem dX0_tuneFrom_108 : decode cX0_tuneFrom 108 = .ok (.return_, 1) := dk_177 (dk_at dksX0_tuneFrom_4 17 rfl rfl)
theorem dX0_tuneFrom_109 : decode cX0_tuneFrom 109 = .ok (.aload_n 0, 1) := dk_42 (dk_at dksX0_tuneFrom_4 18 rfl rfl)
theorem dX0_tuneFrom_110 : decode cX0_tuneFrom 110 = .ok (.getfield 429, 3) := dk_180 1 173 (dk_at dksX0_tuneFrom_4 19 rfl rfl)
theorem dX0_tuneFrom_113 : decode cX0_tuneFrom 113 = .ok (.astore 4, 2) := dk_58 4 (dk_at dksX0_tuneFrom_4 22 rfl rfl)
theorem dX0_tuneFrom_115 : decode cX0_tuneFrom 115 = .ok (.aload_n 0, 1) := dk_42 (dk_at dksX0_tuneFrom_5 0 rfl rfl)
theorem dX0_tuneFrom_116 : decode cX0_tuneFrom 116 = .ok (.getfield 81, 3) := dk_180 0 81 (dk_at dksX0_tuneFrom_5 1 rfl rfl)
theorem dX0_tuneFrom_119 : decode cX0_tuneFrom 119 = .ok (.iload_n 1, 1) := dk_27 (dk_at dksX0_tuneFrom_5 4 rfl rfl)
theorem dX0_tuneFrom_120 : decode cX0_tuneFrom 120 = .ok (.iaload, 1) := dk_46 (dk_at dksX0_tuneFrom_5 5 rfl rfl)
theorem dX0_tuneFrom_121 : decode cX0_tuneFrom 121 = .ok (.iconst (-1), 1) := dk_2 (dk_at dksX0_tuneFrom_5 6 rfl rfl)
theorem dX0_tuneFrom_122 : decode cX0_tuneFrom 122 = .ok (.if_icmp .ne 7, 3) := dk_160 0 7 (dk_at dksX0_tuneFrom_5 7 rfl rfl)
theorem dX0_tuneFrom_125 : decode cX0_tuneFrom 125 = .ok (.aconst_null, 1) := dk_1 (dk_at dksX0_tuneFrom_5 10 rfl rfl)
theorem dX0_tuneFrom_126 : decode cX0_tuneFrom 126 = .ok (.goto 20, 3) := dk_167 0 20 (dk_at dksX0_tuneFrom_5 11 rfl rfl)
theorem dX0_tuneFrom_129 : decode cX0_tuneFrom 129 = .ok (.aload 4, 2) := dk_25 4 (dk_at dksX0_tuneFrom_5 14 rfl rfl)
theorem dX0_tuneFrom_131 : decode cX0_tuneFrom 131 = .ok (.aload_n 0, 1) := dk_42 (dk_at dksX0_tuneFrom_5 16 rfl rfl)
theorem dX0_tuneFrom_132 : decode cX0_tuneFrom 132 = .ok (.getfield 78, 3) := dk_180 0 78 (dk_at dksX0_tuneFrom_5 17 rfl rfl)
theorem dX0_tuneFrom_135 : decode cX0_tuneFrom 135 = .ok (.iload_n 1, 1) := dk_27 (dk_at dksX0_tuneFrom_5 20 rfl rfl)
theorem dX0_tuneFrom_136 : decode cX0_tuneFrom 136 = .ok (.iaload, 1) := dk_46 (dk_at dksX0_tuneFrom_5 21 rfl rfl)
theorem dX0_tuneFrom_137 : decode cX0_tuneFrom 137 = .ok (.aload_n 0, 1) := dk_42 (dk_at dksX0_tuneFrom_5 22 rfl rfl)
theorem dX0_tuneFrom_138 : decode cX0_tuneFrom 138 = .ok (.getfield 81, 3) := dk_180 0 81 (dk_at dksX0_tuneFrom_6 0 rfl rfl)
theorem dX0_tuneFrom_141 : decode cX0_tuneFrom 141 = .ok (.iload_n 1, 1) := dk_27 (dk_at dksX0_tuneFrom_6 3 rfl rfl)
theorem dX0_tuneFrom_142 : decode cX0_tuneFrom 142 = .ok (.iaload, 1) := dk_46 (dk_at dksX0_tuneFrom_6 4 rfl rfl)
theorem dX0_tuneFrom_143 : decode cX0_tuneFrom 143 = .ok (.invokevirtual 256, 3) := dk_182 1 0 (dk_at dksX0_tuneFrom_6 5 rfl rfl)
theorem dX0_tuneFrom_146 : decode cX0_tuneFrom 146 = .ok (.astore 5, 2) := dk_58 5 (dk_at dksX0_tuneFrom_6 8 rfl rfl)
theorem dX0_tuneFrom_148 : decode cX0_tuneFrom 148 = .ok (.aload 4, 2) := dk_25 4 (dk_at dksX0_tuneFrom_6 10 rfl rfl)
theorem dX0_tuneFrom_150 : decode cX0_tuneFrom 150 = .ok (.getfield 233, 3) := dk_180 0 233 (dk_at dksX0_tuneFrom_6 12 rfl rfl)
theorem dX0_tuneFrom_153 : decode cX0_tuneFrom 153 = .ok (.aload_n 0, 1) := dk_42 (dk_at dksX0_tuneFrom_6 15 rfl rfl)
theorem dX0_tuneFrom_154 : decode cX0_tuneFrom 154 = .ok (.getfield 78, 3) := dk_180 0 78 (dk_at dksX0_tuneFrom_6 16 rfl rfl)
theorem dX0_tuneFrom_157 : decode cX0_tuneFrom 157 = .ok (.iload_n 1, 1) := dk_27 (dk_at dksX0_tuneFrom_6 19 rfl rfl)
theorem dX0_tuneFrom_158 : decode cX0_tuneFrom 158 = .ok (.iaload, 1) := dk_46 (dk_at dksX0_tuneFrom_6 20 rfl rfl)
theorem dX0_tuneFrom_159 : decode cX0_tuneFrom 159 = .ok (.iaload, 1) := dk_46 (dk_at dksX0_tuneFrom_6 21 rfl rfl)
theorem dX0_tuneFrom_160 : decode cX0_tuneFrom 160 = .ok (.istore 6, 2) := dk_54 6 (dk_at dksX0_tuneFrom_6 22 rfl rfl)
theorem dX0_tuneFrom_162 : decode cX0_tuneFrom 162 = .ok (.aload 5, 2) := dk_25 5 (dk_at dksX0_tuneFrom_7 0 rfl rfl)
theorem dX0_tuneFrom_164 : decode cX0_tuneFrom 164 = .ok (.ifnonnull 7, 3) := dk_199 0 7 (dk_at dksX0_tuneFrom_7 2 rfl rfl)
theorem dX0_tuneFrom_167 : decode cX0_tuneFrom 167 = .ok (.iconst 0, 1) := dk_3 (dk_at dksX0_tuneFrom_7 5 rfl rfl)
theorem dX0_tuneFrom_168 : decode cX0_tuneFrom 168 = .ok (.goto 8, 3) := dk_167 0 8 (dk_at dksX0_tuneFrom_7 6 rfl rfl)
theorem dX0_tuneFrom_171 : decode cX0_tuneFrom 171 = .ok (.aload 5, 2) := dk_25 5 (dk_at dksX0_tuneFrom_7 9 rfl rfl)
theorem dX0_tuneFrom_173 : decode cX0_tuneFrom 173 = .ok (.getfield 195, 3) := dk_180 0 195 (dk_at dksX0_tuneFrom_7 11 rfl rfl)
theorem dX0_tuneFrom_176 : decode cX0_tuneFrom 176 = .ok (.istore 7, 2) := dk_54 7 (dk_at dksX0_tuneFrom_7 14 rfl rfl)
theorem dX0_tuneFrom_178 : decode cX0_tuneFrom 178 = .ok (.aload 5, 2) := dk_25 5 (dk_at dksX0_tuneFrom_7 16 rfl rfl)
theorem dX0_tuneFrom_180 : decode cX0_tuneFrom 180 = .ok (.ifnonnull 7, 3) := dk_199 0 7 (dk_at dksX0_tuneFrom_7 18 rfl rfl)
theorem dX0_tuneFrom_183 : decode cX0_tuneFrom 183 = .ok (.iconst 0, 1) := dk_3 (dk_at dksX0_tuneFrom_7 21 rfl rfl)
theorem dX0_tuneFrom_184 : decode cX0_tuneFrom 184 = .ok (.goto 8, 3) := dk_167 0 8 (dk_at dksX0_tuneFrom_8 0 rfl rfl)
theorem dX0_tuneFrom_187 : decode cX0_tuneFrom 187 = .ok (.aload 5, 2) := dk_25 5 (dk_at dksX0_tuneFrom_8 3 rfl rfl)
theorem dX0_tuneFrom_189 : decode cX0_tuneFrom 189 = .ok (.getfield 264, 3) := dk_180 1 8 (dk_at dksX0_tuneFrom_8 5 rfl rfl)
theorem dX0_tuneFrom_192 : decode cX0_tuneFrom 192 = .ok (.istore 8, 2) := dk_54 8 (dk_at dksX0_tuneFrom_8 8 rfl rfl)
theorem dX0_tuneFrom_194 : decode cX0_tuneFrom 194 = .ok (.iload_n 3, 1) := dk_29 (dk_at dksX0_tuneFrom_8 10 rfl rfl)
theorem dX0_tuneFrom_195 : decode cX0_tuneFrom 195 = .ok (.istore 9, 2) := dk_54 9 (dk_at dksX0_tuneFrom_8 11 rfl rfl)
theorem dX0_tuneFrom_197 : decode cX0_tuneFrom 197 = .ok (.iconst 0, 1) := dk_3 (dk_at dksX0_tuneFrom_8 13 rfl rfl)
theorem dX0_tuneFrom_198 : decode cX0_tuneFrom 198 = .ok (.istore 10, 2) := dk_54 10 (dk_at dksX0_tuneFrom_8 14 rfl rfl)
theorem dX0_tuneFrom_200 : decode cX0_tuneFrom 200 = .ok (.iload 10, 2) := dk_21 10 (dk_at dksX0_tuneFrom_8 16 rfl rfl)
theorem dX0_tuneFrom_202 : decode cX0_tuneFrom 202 = .ok (.aload_n 0, 1) := dk_42 (dk_at dksX0_tuneFrom_8 18 rfl rfl)
theorem dX0_tuneFrom_203 : decode cX0_tuneFrom 203 = .ok (.getfield 84, 3) := dk_180 0 84 (dk_at dksX0_tuneFrom_8 19 rfl rfl)
theorem dX0_tuneFrom_206 : decode cX0_tuneFrom 206 = .ok (.iload_n 1, 1) := dk_27 (dk_at dksX0_tuneFrom_8 22 rfl rfl)
theorem dX0_tuneFrom_207 : decode cX0_tuneFrom 207 = .ok (.iaload, 1) := dk_46 (dk_at dksX0_tuneFrom_8 23 rfl rfl)
theorem dX0_tuneFrom_208 : decode cX0_tuneFrom 208 = .ok (.if_icmp .gt 58, 3) := dk_163 0 58 (dk_at dksX0_tuneFrom_9 0 rfl rfl)
theorem dX0_tuneFrom_211 : decode cX0_tuneFrom 211 = .ok (.iload_n 2, 1) := dk_28 (dk_at dksX0_tuneFrom_9 3 rfl rfl)
theorem dX0_tuneFrom_212 : decode cX0_tuneFrom 212 = .ok (.iload 10, 2) := dk_21 10 (dk_at dksX0_tuneFrom_9 4 rfl rfl)
theorem dX0_tuneFrom_214 : decode cX0_tuneFrom 214 = .ok (.iadd, 1) := dk_96 (dk_at dksX0_tuneFrom_9 6 rfl rfl)
theorem dX0_tuneFrom_215 : decode cX0_tuneFrom 215 = .ok (.iconst 4, 1) := dk_7 (dk_at dksX0_tuneFrom_9 7 rfl rfl)
theorem dX0_tuneFrom_216 : decode cX0_tuneFrom 216 = .ok (.if_icmp .gt 50, 3) := dk_163 0 50 (dk_at dksX0_tuneFrom_9 8 rfl rfl)
theorem dX0_tuneFrom_219 : decode cX0_tuneFrom 219 = .ok (.iload 10, 2) := dk_21 10 (dk_at dksX0_tuneFrom_9 11 rfl rfl)
theorem dX0_tuneFrom_221 : decode cX0_tuneFrom 221 = .ok (.ifCond .le 26, 3) := dk_158 0 26 (dk_at dksX0_tuneFrom_9 13 rfl rfl)
theorem dX0_tuneFrom_224 : decode cX0_tuneFrom 224 = .ok (.aload_n 0, 1) := dk_42 (dk_at dksX0_tuneFrom_9 16 rfl rfl)
theorem dX0_tuneFrom_225 : decode cX0_tuneFrom 225 = .ok (.iload_n 1, 1) := dk_27 (dk_at dksX0_tuneFrom_9 17 rfl rfl)
theorem dX0_tuneFrom_226 : decode cX0_tuneFrom 226 = .ok (.iconst 1, 1) := dk_4 (dk_at dksX0_tuneFrom_9 18 rfl rfl)
theorem dX0_tuneFrom_227 : decode cX0_tuneFrom 227 = .ok (.invokevirtual 435, 3) := dk_182 1 179 (dk_at dksX0_tuneFrom_9 19 rfl rfl)
theorem dX0_tuneFrom_230 : decode cX0_tuneFrom 230 = .ok (.ifCond .ne 6, 3) := dk_154 0 6 (dk_at dksX0_tuneFrom_10 0 rfl rfl)
theorem dX0_tuneFrom_233 : decode cX0_tuneFrom 233 = .ok (.goto 33, 3) := dk_167 0 33 (dk_at dksX0_tuneFrom_10 3 rfl rfl)
theorem dX0_tuneFrom_236 : decode cX0_tuneFrom 236 = .ok (.bipush 10, 2) := dk_16 10 (dk_at dksX0_tuneFrom_10 6 rfl rfl)
theorem dX0_tuneFrom_238 : decode cX0_tuneFrom 238 = .ok (.iload 9, 2) := dk_21 9 (dk_at dksX0_tuneFrom_10 8 rfl rfl)
theorem dX0_tuneFrom_240 : decode cX0_tuneFrom 240 = .ok (.imul, 1) := dk_104 (dk_at dksX0_tuneFrom_10 10 rfl rfl)
theorem dX0_tuneFrom_241 : decode cX0_tuneFrom 241 = .ok (.iload_n 1, 1) := dk_27 (dk_at dksX0_tuneFrom_10 11 rfl rfl)
theorem dX0_tuneFrom_242 : decode cX0_tuneFrom 242 = .ok (.iadd, 1) := dk_96 (dk_at dksX0_tuneFrom_10 12 rfl rfl)
theorem dX0_tuneFrom_243 : decode cX0_tuneFrom 243 = .ok (.iconst 1, 1) := dk_4 (dk_at dksX0_tuneFrom_10 13 rfl rfl)
theorem dX0_tuneFrom_244 : decode cX0_tuneFrom 244 = .ok (.iadd, 1) := dk_96 (dk_at dksX0_tuneFrom_10 14 rfl rfl)
theorem dX0_tuneFrom_245 : decode cX0_tuneFrom 245 = .ok (.istore 9, 2) := dk_54 9 (dk_at dksX0_tuneFrom_10 15 rfl rfl)
theorem dX0_tuneFrom_247 : decode cX0_tuneFrom 247 = .ok (.aload_n 0, 1) := dk_42 (dk_at dksX0_tuneFrom_10 17 rfl rfl)
theorem dX0_tuneFrom_248 : decode cX0_tuneFrom 248 = .ok (.iload_n 1, 1) := dk_27 (dk_at dksX0_tuneFrom_10 18 rfl rfl)
theorem dX0_tuneFrom_249 : decode cX0_tuneFrom 249 = .ok (.iconst 1, 1) := dk_4 (dk_at dksX0_tuneFrom_10 19 rfl rfl)
theorem dX0_tuneFrom_250 : decode cX0_tuneFrom 250 = .ok (.iadd, 1) := dk_96 (dk_at dksX0_tuneFrom_10 20 rfl rfl)
theorem dX0_tuneFrom_251 : decode cX0_tuneFrom 251 = .ok (.iload_n 2, 1) := dk_28 (dk_at dksX0_tuneFrom_10 21 rfl rfl)
theorem dX0_tuneFrom_252 : decode cX0_tuneFrom 252 = .ok (.iload 10, 2) := dk_21 10 (dk_at dksX0_tuneFrom_10 22 rfl rfl)
theorem dX0_tuneFrom_254 : decode cX0_tuneFrom 254 = .ok (.iadd, 1) := dk_96 (dk_at dksX0_tuneFrom_11 0 rfl rfl)
theorem dX0_tuneFrom_255 : decode cX0_tuneFrom 255 = .ok (.iload 9, 2) := dk_21 9 (dk_at dksX0_tuneFrom_11 1 rfl rfl)
theorem dX0_tuneFrom_257 : decode cX0_tuneFrom 257 = .ok (.invokevirtual 457, 3) := dk_182 1 201 (dk_at dksX0_tuneFrom_11 3 rfl rfl)
theorem dX0_tuneFrom_260 : decode cX0_tuneFrom 260 = .ok (.iinc 10 1, 3) := dk_132 10 1 (dk_at dksX0_tuneFrom_11 6 rfl rfl)
theorem dX0_tuneFrom_263 : decode cX0_tuneFrom 263 = .ok (.goto (-63), 3) := dk_167 255 193 (dk_at dksX0_tuneFrom_11 9 rfl rfl)
theorem dX0_tuneFrom_266 : decode cX0_tuneFrom 266 = .ok (.aload 5, 2) := dk_25 5 (dk_at dksX0_tuneFrom_11 12 rfl rfl)
theorem dX0_tuneFrom_268 : decode cX0_tuneFrom 268 = .ok (.ifnonnull 20, 3) := dk_199 0 20 (dk_at dksX0_tuneFrom_11 14 rfl rfl)
theorem dX0_tuneFrom_271 : decode cX0_tuneFrom 271 = .ok (.aload 4, 2) := dk_25 4 (dk_at dksX0_tuneFrom_11 17 rfl rfl)
theorem dX0_tuneFrom_273 : decode cX0_tuneFrom 273 = .ok (.getfield 233, 3) := dk_180 0 233 (dk_at dksX0_tuneFrom_11 19 rfl rfl)
theorem dX0_tuneFrom_276 : decode cX0_tuneFrom 276 = .ok (.aload_n 0, 1) := dk_42 (dk_at dksX0_tuneFrom_11 22 rfl rfl)
theorem dX0_tuneFrom_277 : decode cX0_tuneFrom 277 = .ok (.getfield 78, 3) := dk_180 0 78 (dk_at dksX0_tuneFrom_12 0 rfl rfl)
theorem dX0_tuneFrom_280 : decode cX0_tuneFrom 280 = .ok (.iload_n 1, 1) := dk_27 (dk_at dksX0_tuneFrom_12 3 rfl rfl)
theorem dX0_tuneFrom_281 : decode cX0_tuneFrom 281 = .ok (.iaload, 1) := dk_46 (dk_at dksX0_tuneFrom_12 4 rfl rfl)
theorem dX0_tuneFrom_282 : decode cX0_tuneFrom 282 = .ok (.iload 6, 2) := dk_21 6 (dk_at dksX0_tuneFrom_12 5 rfl rfl)
theorem dX0_tuneFrom_284 : decode cX0_tuneFrom 284 = .ok (.iastore, 1) := dk_79 (dk_at dksX0_tuneFrom_12 7 rfl rfl)
theorem dX0_tuneFrom_285 : decode cX0_tuneFrom 285 = .ok (.goto 17, 3) := dk_167 0 17 (dk_at dksX0_tuneFrom_12 8 rfl rfl)
theorem dX0_tuneFrom_288 : decode cX0_tuneFrom 288 = .ok (.aload 5, 2) := dk_25 5 (dk_at dksX0_tuneFrom_12 11 rfl rfl)
theorem dX0_tuneFrom_290 : decode cX0_tuneFrom 290 = .ok (.iload 7, 2) := dk_21 7 (dk_at dksX0_tuneFrom_12 13 rfl rfl)
theorem dX0_tuneFrom_292 : decode cX0_tuneFrom 292 = .ok (.putfield 195, 3) := dk_181 0 195 (dk_at dksX0_tuneFrom_12 15 rfl rfl)
theorem dX0_tuneFrom_295 : decode cX0_tuneFrom 295 = .ok (.aload 5, 2) := dk_25 5 (dk_at dksX0_tuneFrom_12 18 rfl rfl)
theorem dX0_tuneFrom_297 : decode cX0_tuneFrom 297 = .ok (.iload 8, 2) := dk_21 8 (dk_at dksX0_tuneFrom_12 20 rfl rfl)
theorem dX0_tuneFrom_299 : decode cX0_tuneFrom 299 = .ok (.putfield 264, 3) := dk_181 1 8 (dk_at dksX0_tuneFrom_13 0 rfl rfl)
theorem dX0_tuneFrom_302 : decode cX0_tuneFrom 302 = .ok (.return_, 1) := dk_177 (dk_at dksX0_tuneFrom_13 3 rfl rfl)
abbrev cX0_apart : ByteArray := prog_1_method_57_code
def yX0_apart : MethodName := ⟨RX0, "apart", "()I"⟩
def dkwX0_apart_2 : List UInt8 := [167, 255, 212, 27, 172]
abbrev dktX0_apart_2 : List UInt8 := dkwX0_apart_2 ++ []
def dkwX0_apart_1 : List UInt8 := [42, 180, 0, 90, 28, 46, 182, 1, 123, 42, 180, 0, 93, 28, 46, 100, 184, 1, 183, 96, 60, 132, 2, 1]
abbrev dktX0_apart_1 : List UInt8 := dkwX0_apart_1 ++ dktX0_apart_2
def dkwX0_apart_0 : List UInt8 := [3, 60, 3, 61, 28, 42, 180, 1, 176, 162, 0, 42, 27, 42, 42, 180, 1, 173, 42, 180, 0, 87, 28, 46]
abbrev dktX0_apart_0 : List UInt8 := dkwX0_apart_0 ++ dktX0_apart_1
theorem dksX0_apart_0 : cX0_apart.data.toList.drop 0 = dktX0_apart_0 := by decide +kernel
theorem dksX0_apart_1 : cX0_apart.data.toList.drop 24 = dktX0_apart_1 := dk_seg dksX0_apart_0 24 rfl rfl
theorem dksX0_apart_2 : cX0_apart.data.toList.drop 48 = dktX0_apart_2 := dk_seg dksX0_apart_1 24 rfl rfl
theorem dX0_apart_0 : decode cX0_apart 0 = .ok (.iconst 0, 1) := dk_3 (dk_at dksX0_apart_0 0 rfl rfl)
theorem dX0_apart_1 : decode cX0_apart 1 = .ok (.istore_n 1, 1) := dk_60 (dk_at dksX0_apart_0 1 rfl rfl)
theorem dX0_apart_2 : decode cX0_apart 2 = .ok (.iconst 0, 1) := dk_3 (dk_at dksX0_apart_0 2 rfl rfl)
theorem dX0_apart_3 : decode cX0_apart 3 = .ok (.istore_n 2, 1) := dk_61 (dk_at dksX0_apart_0 3 rfl rfl)
theorem dX0_apart_4 : decode cX0_apart 4 = .ok (.iload_n 2, 1) := dk_28 (dk_at dksX0_apart_0 4 rfl rfl)
theorem dX0_apart_5 : decode cX0_apart 5 = .ok (.aload_n 0, 1) := dk_42 (dk_at dksX0_apart_0 5 rfl rfl)
theorem dX0_apart_6 : decode cX0_apart 6 = .ok (.getfield 432, 3) := dk_180 1 176 (dk_at dksX0_apart_0 6 rfl rfl)
theorem dX0_apart_9 : decode cX0_apart 9 = .ok (.if_icmp .ge 42, 3) := dk_162 0 42 (dk_at dksX0_apart_0 9 rfl rfl)
theorem dX0_apart_12 : decode cX0_apart 12 = .ok (.iload_n 1, 1) := dk_27 (dk_at dksX0_apart_0 12 rfl rfl)
theorem dX0_apart_13 : decode cX0_apart 13 = .ok (.aload_n 0, 1) := dk_42 (dk_at dksX0_apart_0 13 rfl rfl)
theorem dX0_apart_14 : decode cX0_apart 14 = .ok (.aload_n 0, 1) := dk_42 (dk_at dksX0_apart_0 14 rfl rfl)
theorem dX0_apart_15 : decode cX0_apart 15 = .ok (.getfield 429, 3) := dk_180 1 173 (dk_at dksX0_apart_0 15 rfl rfl)
theorem dX0_apart_18 : decode cX0_apart 18 = .ok (.aload_n 0, 1) := dk_42 (dk_at dksX0_apart_0 18 rfl rfl)
theorem dX0_apart_19 : decode cX0_apart 19 = .ok (.getfield 87, 3) := dk_180 0 87 (dk_at dksX0_apart_0 19 rfl rfl)
theorem dX0_apart_22 : decode cX0_apart 22 = .ok (.iload_n 2, 1) := dk_28 (dk_at dksX0_apart_0 22 rfl rfl)
theorem dX0_apart_23 : decode cX0_apart 23 = .ok (.iaload, 1) := dk_46 (dk_at dksX0_apart_0 23 rfl rfl)
theorem dX0_apart_24 : decode cX0_apart 24 = .ok (.aload_n 0, 1) := dk_42 (dk_at dksX0_apart_1 0 rfl rfl)
theorem dX0_apart_25 : decode cX0_apart 25 = .ok (.getfield 90, 3) := dk_180 0 90 (dk_at dksX0_apart_1 1 rfl rfl)
theorem dX0_apart_28 : decode cX0_apart 28 = .ok (.iload_n 2, 1) := dk_28 (dk_at dksX0_apart_1 4 rfl rfl)
theorem dX0_apart_29 : decode cX0_apart 29 = .ok (.iaload, 1) := dk_46 (dk_at dksX0_apart_1 5 rfl rfl)
theorem dX0_apart_30 : decode cX0_apart 30 = .ok (.invokevirtual 379, 3) := dk_182 1 123 (dk_at dksX0_apart_1 6 rfl rfl)
theorem dX0_apart_33 : decode cX0_apart 33 = .ok (.aload_n 0, 1) := dk_42 (dk_at dksX0_apart_1 9 rfl rfl)
theorem dX0_apart_34 : decode cX0_apart 34 = .ok (.getfield 93, 3) := dk_180 0 93 (dk_at dksX0_apart_1 10 rfl rfl)
theorem dX0_apart_37 : decode cX0_apart 37 = .ok (.iload_n 2, 1) := dk_28 (dk_at dksX0_apart_1 13 rfl rfl)
theorem dX0_apart_38 : decode cX0_apart 38 = .ok (.iaload, 1) := dk_46 (dk_at dksX0_apart_1 14 rfl rfl)
theorem dX0_apart_39 : decode cX0_apart 39 = .ok (.isub, 1) := dk_100 (dk_at dksX0_apart_1 15 rfl rfl)
theorem dX0_apart_40 : decode cX0_apart 40 = .ok (.invokestatic 439, 3) := dk_184 1 183 (dk_at dksX0_apart_1 16 rfl rfl)
theorem dX0_apart_43 : decode cX0_apart 43 = .ok (.iadd, 1) := dk_96 (dk_at dksX0_apart_1 19 rfl rfl)
theorem dX0_apart_44 : decode cX0_apart 44 = .ok (.istore_n 1, 1) := dk_60 (dk_at dksX0_apart_1 20 rfl rfl)
theorem dX0_apart_45 : decode cX0_apart 45 = .ok (.iinc 2 1, 3) := dk_132 2 1 (dk_at dksX0_apart_1 21 rfl rfl)
theorem dX0_apart_48 : decode cX0_apart 48 = .ok (.goto (-44), 3) := dk_167 255 212 (dk_at dksX0_apart_2 0 rfl rfl)
theorem dX0_apart_51 : decode cX0_apart 51 = .ok (.iload_n 1, 1) := dk_27 (dk_at dksX0_apart_2 3 rfl rfl)
theorem dX0_apart_52 : decode cX0_apart 52 = .ok (.ireturn, 1) := dk_172 (dk_at dksX0_apart_2 4 rfl rfl)
abbrev cX0_forget : ByteArray := prog_1_method_60_code
def yX0_forget : MethodName := ⟨RX0, "forget", "()I"⟩
def dkwX0_forget_0 : List UInt8 := [42, 180, 1, 170, 60, 42, 3, 181, 1, 170, 42, 1, 181, 1, 173, 42, 3, 181, 1, 176, 27, 172]
abbrev dktX0_forget_0 : List UInt8 := dkwX0_forget_0 ++ []
theorem dksX0_forget_0 : cX0_forget.data.toList.drop 0 = dktX0_forget_0 := by decide +kernel
theorem dX0_forget_0 : decode cX0_forget 0 = .ok (.aload_n 0, 1) := dk_42 (dk_at dksX0_forget_0 0 rfl rfl)
theorem dX0_forget_1 : decode cX0_forget 1 = .ok (.getfield 426, 3) := dk_180 1 170 (dk_at dksX0_forget_0 1 rfl rfl)
theorem dX0_forget_4 : decode cX0_forget 4 = .ok (.istore_n 1, 1) := dk_60 (dk_at dksX0_forget_0 4 rfl rfl)
theorem dX0_forget_5 : decode cX0_forget 5 = .ok (.aload_n 0, 1) := dk_42 (dk_at dksX0_forget_0 5 rfl rfl)
theorem dX0_forget_6 : decode cX0_forget 6 = .ok (.iconst 0, 1) := dk_3 (dk_at dksX0_forget_0 6 rfl rfl)
theorem dX0_forget_7 : decode cX0_forget 7 = .ok (.putfield 426, 3) := dk_181 1 170 (dk_at dksX0_forget_0 7 rfl rfl)
theorem dX0_forget_10 : decode cX0_forget 10 = .ok (.aload_n 0, 1) := dk_42 (dk_at dksX0_forget_0 10 rfl rfl)
theorem dX0_forget_11 : decode cX0_forget 11 = .ok (.aconst_null, 1) := dk_1 (dk_at dksX0_forget_0 11 rfl rfl)
theorem dX0_forget_12 : decode cX0_forget 12 = .ok (.putfield 429, 3) := dk_181 1 173 (dk_at dksX0_forget_0 12 rfl rfl)
theorem dX0_forget_15 : decode cX0_forget 15 = .ok (.aload_n 0, 1) := dk_42 (dk_at dksX0_forget_0 15 rfl rfl)
theorem dX0_forget_16 : decode cX0_forget 16 = .ok (.iconst 0, 1) := dk_3 (dk_at dksX0_forget_0 16 rfl rfl)
theorem dX0_forget_17 : decode cX0_forget 17 = .ok (.putfield 432, 3) := dk_181 1 176 (dk_at dksX0_forget_0 17 rfl rfl)
theorem dX0_forget_20 : decode cX0_forget 20 = .ok (.iload_n 1, 1) := dk_27 (dk_at dksX0_forget_0 20 rfl rfl)
theorem dX0_forget_21 : decode cX0_forget 21 = .ok (.ireturn, 1) := dk_172 (dk_at dksX0_forget_0 21 rfl rfl)
abbrev cX0_hear : ByteArray := prog_1_method_61_code
def yX0_hear : MethodName := ⟨RX0, "hear", "(I)I"⟩
def dkwX0_hear_2 : List UInt8 := [172]
abbrev dktX0_hear_2 : List UInt8 := dkwX0_hear_2 ++ []
def dkwX0_hear_1 : List UInt8 := [16, 253, 172, 42, 180, 0, 96, 42, 180, 1, 205, 27, 79, 42, 89, 180, 1, 205, 4, 96, 90, 181, 1, 205]
abbrev dktX0_hear_1 : List UInt8 := dkwX0_hear_1 ++ dktX0_hear_2
def dkwX0_hear_0 : List UInt8 := [27, 133, 9, 20, 1, 100, 184, 0, 152, 154, 0, 5, 2, 172, 42, 180, 1, 205, 16, 6, 160, 0, 6]
abbrev dktX0_hear_0 : List UInt8 := dkwX0_hear_0 ++ dktX0_hear_1
theorem dksX0_hear_0 : cX0_hear.data.toList.drop 0 = dktX0_hear_0 := by decide +kernel
theorem dksX0_hear_1 : cX0_hear.data.toList.drop 23 = dktX0_hear_1 := dk_seg dksX0_hear_0 23 rfl rfl
theorem dksX0_hear_2 : cX0_hear.data.toList.drop 47 = dktX0_hear_2 := dk_seg dksX0_hear_1 24 rfl rfl
theorem dX0_hear_0 : decode cX0_hear 0 = .ok (.iload_n 1, 1) := dk_27 (dk_at dksX0_hear_0 0 rfl rfl)
theorem dX0_hear_1 : decode cX0_hear 1 = .ok (.i2l, 1) := dk_133 (dk_at dksX0_hear_0 1 rfl rfl)
theorem dX0_hear_2 : decode cX0_hear 2 = .ok (.lconst 0, 1) := dk_9 (dk_at dksX0_hear_0 2 rfl rfl)
theorem dX0_hear_3 : decode cX0_hear 3 = .ok (.ldc2_w 356, 3) := dk_20 1 100 (dk_at dksX0_hear_0 3 rfl rfl)
theorem dX0_hear_6 : decode cX0_hear 6 = .ok (.invokestatic 152, 3) := dk_184 0 152 (dk_at dksX0_hear_0 6 rfl rfl)
theorem dX0_hear_9 : decode cX0_hear 9 = .ok (.ifCond .ne 5, 3) := dk_154 0 5 (dk_at dksX0_hear_0 9 rfl rfl)
theorem dX0_hear_12 : decode cX0_hear 12 = .ok (.iconst (-1), 1) := dk_2 (dk_at dksX0_hear_0 12 rfl rfl)
theorem dX0_hear_13 : decode cX0_hear 13 = .ok (.ireturn, 1) := dk_172 (dk_at dksX0_hear_0 13 rfl rfl)
theorem dX0_hear_14 : decode cX0_hear 14 = .ok (.aload_n 0, 1) := dk_42 (dk_at dksX0_hear_0 14 rfl rfl)
theorem dX0_hear_15 : decode cX0_hear 15 = .ok (.getfield 461, 3) := dk_180 1 205 (dk_at dksX0_hear_0 15 rfl rfl)
theorem dX0_hear_18 : decode cX0_hear 18 = .ok (.bipush 6, 2) := dk_16 6 (dk_at dksX0_hear_0 18 rfl rfl)
theorem dX0_hear_20 : decode cX0_hear 20 = .ok (.if_icmp .ne 6, 3) := dk_160 0 6 (dk_at dksX0_hear_0 20 rfl rfl)
theorem dX0_hear_23 : decode cX0_hear 23 = .ok (.bipush (-3), 2) := dk_16 253 (dk_at dksX0_hear_1 0 rfl rfl)
theorem dX0_hear_25 : decode cX0_hear 25 = .ok (.ireturn, 1) := dk_172 (dk_at dksX0_hear_1 2 rfl rfl)
theorem dX0_hear_26 : decode cX0_hear 26 = .ok (.aload_n 0, 1) := dk_42 (dk_at dksX0_hear_1 3 rfl rfl)
theorem dX0_hear_27 : decode cX0_hear 27 = .ok (.getfield 96, 3) := dk_180 0 96 (dk_at dksX0_hear_1 4 rfl rfl)
theorem dX0_hear_30 : decode cX0_hear 30 = .ok (.aload_n 0, 1) := dk_42 (dk_at dksX0_hear_1 7 rfl rfl)
theorem dX0_hear_31 : decode cX0_hear 31 = .ok (.getfield 461, 3) := dk_180 1 205 (dk_at dksX0_hear_1 8 rfl rfl)
theorem dX0_hear_34 : decode cX0_hear 34 = .ok (.iload_n 1, 1) := dk_27 (dk_at dksX0_hear_1 11 rfl rfl)
theorem dX0_hear_35 : decode cX0_hear 35 = .ok (.iastore, 1) := dk_79 (dk_at dksX0_hear_1 12 rfl rfl)
theorem dX0_hear_36 : decode cX0_hear 36 = .ok (.aload_n 0, 1) := dk_42 (dk_at dksX0_hear_1 13 rfl rfl)
theorem dX0_hear_37 : decode cX0_hear 37 = .ok (.dup, 1) := dk_89 (dk_at dksX0_hear_1 14 rfl rfl)
theorem dX0_hear_38 : decode cX0_hear 38 = .ok (.getfield 461, 3) := dk_180 1 205 (dk_at dksX0_hear_1 15 rfl rfl)
theorem dX0_hear_41 : decode cX0_hear 41 = .ok (.iconst 1, 1) := dk_4 (dk_at dksX0_hear_1 18 rfl rfl)
theorem dX0_hear_42 : decode cX0_hear 42 = .ok (.iadd, 1) := dk_96 (dk_at dksX0_hear_1 19 rfl rfl)
theorem dX0_hear_43 : decode cX0_hear 43 = .ok (.dup_x1, 1) := dk_90 (dk_at dksX0_hear_1 20 rfl rfl)
theorem dX0_hear_44 : decode cX0_hear 44 = .ok (.putfield 461, 3) := dk_181 1 205 (dk_at dksX0_hear_1 21 rfl rfl)
theorem dX0_hear_47 : decode cX0_hear 47 = .ok (.ireturn, 1) := dk_172 (dk_at dksX0_hear_2 0 rfl rfl)
abbrev cX0_unhear : ByteArray := prog_1_method_62_code
def yX0_unhear : MethodName := ⟨RX0, "unhear", "()I"⟩
def dkwX0_unhear_0 : List UInt8 := [42, 180, 1, 205, 60, 42, 3, 181, 1, 205, 27, 172]
abbrev dktX0_unhear_0 : List UInt8 := dkwX0_unhear_0 ++ []
theorem dksX0_unhear_0 : cX0_unhear.data.toList.drop 0 = dktX0_unhear_0 := by decide +kernel
theorem dX0_unhear_0 : decode cX0_unhear 0 = .ok (.aload_n 0, 1) := dk_42 (dk_at dksX0_unhear_0 0 rfl rfl)
theorem dX0_unhear_1 : decode cX0_unhear 1 = .ok (.getfield 461, 3) := dk_180 1 205 (dk_at dksX0_unhear_0 1 rfl rfl)
theorem dX0_unhear_4 : decode cX0_unhear 4 = .ok (.istore_n 1, 1) := dk_60 (dk_at dksX0_unhear_0 4 rfl rfl)
theorem dX0_unhear_5 : decode cX0_unhear 5 = .ok (.aload_n 0, 1) := dk_42 (dk_at dksX0_unhear_0 5 rfl rfl)
theorem dX0_unhear_6 : decode cX0_unhear 6 = .ok (.iconst 0, 1) := dk_3 (dk_at dksX0_unhear_0 6 rfl rfl)
theorem dX0_unhear_7 : decode cX0_unhear 7 = .ok (.putfield 461, 3) := dk_181 1 205 (dk_at dksX0_unhear_0 7 rfl rfl)
theorem dX0_unhear_10 : decode cX0_unhear 10 = .ok (.iload_n 1, 1) := dk_27 (dk_at dksX0_unhear_0 10 rfl rfl)
theorem dX0_unhear_11 : decode cX0_unhear 11 = .ok (.ireturn, 1) := dk_172 (dk_at dksX0_unhear_0 11 rfl rfl)
abbrev cX0_fits : ByteArray := prog_1_method_65_code
def yX0_fits : MethodName := ⟨RX0, "fits", "(III)I"⟩
def dkwX0_fits_3 : List UInt8 := [180, 1, 211, 167, 0, 7, 42, 180, 1, 214, 172]
abbrev dktX0_fits_3 : List UInt8 := dkwX0_fits_3 ++ []
def dkwX0_fits_2 : List UInt8 := [25, 4, 28, 182, 1, 221, 29, 154, 0, 10, 42, 180, 1, 208, 167, 0, 19, 29, 4, 160, 0, 10, 42]
abbrev dktX0_fits_2 : List UInt8 := dkwX0_fits_2 ++ dktX0_fits_3
def dkwX0_fits_1 : List UInt8 := [20, 0, 254, 184, 0, 152, 153, 0, 15, 42, 180, 1, 205, 25, 4, 182, 0, 230, 164, 0, 5, 2, 172, 42]
abbrev dktX0_fits_1 : List UInt8 := dkwX0_fits_1 ++ dktX0_fits_2
def dkwX0_fits_0 : List UInt8 := [42, 27, 182, 0, 201, 58, 4, 25, 4, 198, 0, 34, 28, 184, 1, 116, 153, 0, 27, 29, 133, 9]
abbrev dktX0_fits_0 : List UInt8 := dkwX0_fits_0 ++ dktX0_fits_1
theorem dksX0_fits_0 : cX0_fits.data.toList.drop 0 = dktX0_fits_0 := by decide +kernel
theorem dksX0_fits_1 : cX0_fits.data.toList.drop 22 = dktX0_fits_1 := dk_seg dksX0_fits_0 22 rfl rfl
theorem dksX0_fits_2 : cX0_fits.data.toList.drop 46 = dktX0_fits_2 := dk_seg dksX0_fits_1 24 rfl rfl
theorem dksX0_fits_3 : cX0_fits.data.toList.drop 69 = dktX0_fits_3 := dk_seg dksX0_fits_2 23 rfl rfl
theorem dX0_fits_0 : decode cX0_fits 0 = .ok (.aload_n 0, 1) := dk_42 (dk_at dksX0_fits_0 0 rfl rfl)
theorem dX0_fits_1 : decode cX0_fits 1 = .ok (.iload_n 1, 1) := dk_27 (dk_at dksX0_fits_0 1 rfl rfl)
theorem dX0_fits_2 : decode cX0_fits 2 = .ok (.invokevirtual 201, 3) := dk_182 0 201 (dk_at dksX0_fits_0 2 rfl rfl)
theorem dX0_fits_5 : decode cX0_fits 5 = .ok (.astore 4, 2) := dk_58 4 (dk_at dksX0_fits_0 5 rfl rfl)
theorem dX0_fits_7 : decode cX0_fits 7 = .ok (.aload 4, 2) := dk_25 4 (dk_at dksX0_fits_0 7 rfl rfl)
theorem dX0_fits_9 : decode cX0_fits 9 = .ok (.ifnull 34, 3) := dk_198 0 34 (dk_at dksX0_fits_0 9 rfl rfl)
theorem dX0_fits_12 : decode cX0_fits 12 = .ok (.iload_n 2, 1) := dk_28 (dk_at dksX0_fits_0 12 rfl rfl)
theorem dX0_fits_13 : decode cX0_fits 13 = .ok (.invokestatic 372, 3) := dk_184 1 116 (dk_at dksX0_fits_0 13 rfl rfl)
theorem dX0_fits_16 : decode cX0_fits 16 = .ok (.ifCond .eq 27, 3) := dk_153 0 27 (dk_at dksX0_fits_0 16 rfl rfl)
theorem dX0_fits_19 : decode cX0_fits 19 = .ok (.iload_n 3, 1) := dk_29 (dk_at dksX0_fits_0 19 rfl rfl)
theorem dX0_fits_20 : decode cX0_fits 20 = .ok (.i2l, 1) := dk_133 (dk_at dksX0_fits_0 20 rfl rfl)
theorem dX0_fits_21 : decode cX0_fits 21 = .ok (.lconst 0, 1) := dk_9 (dk_at dksX0_fits_0 21 rfl rfl)
theorem dX0_fits_22 : decode cX0_fits 22 = .ok (.ldc2_w 254, 3) := dk_20 0 254 (dk_at dksX0_fits_1 0 rfl rfl)
theorem dX0_fits_25 : decode cX0_fits 25 = .ok (.invokestatic 152, 3) := dk_184 0 152 (dk_at dksX0_fits_1 3 rfl rfl)
theorem dX0_fits_28 : decode cX0_fits 28 = .ok (.ifCond .eq 15, 3) := dk_153 0 15 (dk_at dksX0_fits_1 6 rfl rfl)
theorem dX0_fits_31 : decode cX0_fits 31 = .ok (.aload_n 0, 1) := dk_42 (dk_at dksX0_fits_1 9 rfl rfl)
theorem dX0_fits_32 : decode cX0_fits 32 = .ok (.getfield 461, 3) := dk_180 1 205 (dk_at dksX0_fits_1 10 rfl rfl)
theorem dX0_fits_35 : decode cX0_fits 35 = .ok (.aload 4, 2) := dk_25 4 (dk_at dksX0_fits_1 13 rfl rfl)
theorem dX0_fits_37 : decode cX0_fits 37 = .ok (.invokevirtual 230, 3) := dk_182 0 230 (dk_at dksX0_fits_1 15 rfl rfl)
theorem dX0_fits_40 : decode cX0_fits 40 = .ok (.if_icmp .le 5, 3) := dk_164 0 5 (dk_at dksX0_fits_1 18 rfl rfl)
theorem dX0_fits_43 : decode cX0_fits 43 = .ok (.iconst (-1), 1) := dk_2 (dk_at dksX0_fits_1 21 rfl rfl)
theorem dX0_fits_44 : decode cX0_fits 44 = .ok (.ireturn, 1) := dk_172 (dk_at dksX0_fits_1 22 rfl rfl)
theorem dX0_fits_45 : decode cX0_fits 45 = .ok (.aload_n 0, 1) := dk_42 (dk_at dksX0_fits_1 23 rfl rfl)
theorem dX0_fits_46 : decode cX0_fits 46 = .ok (.aload 4, 2) := dk_25 4 (dk_at dksX0_fits_2 0 rfl rfl)
theorem dX0_fits_48 : decode cX0_fits 48 = .ok (.iload_n 2, 1) := dk_28 (dk_at dksX0_fits_2 2 rfl rfl)
theorem dX0_fits_49 : decode cX0_fits 49 = .ok (.invokevirtual 477, 3) := dk_182 1 221 (dk_at dksX0_fits_2 3 rfl rfl)
theorem dX0_fits_52 : decode cX0_fits 52 = .ok (.iload_n 3, 1) := dk_29 (dk_at dksX0_fits_2 6 rfl rfl)
theorem dX0_fits_53 : decode cX0_fits 53 = .ok (.ifCond .ne 10, 3) := dk_154 0 10 (dk_at dksX0_fits_2 7 rfl rfl)
theorem dX0_fits_56 : decode cX0_fits 56 = .ok (.aload_n 0, 1) := dk_42 (dk_at dksX0_fits_2 10 rfl rfl)
theorem dX0_fits_57 : decode cX0_fits 57 = .ok (.getfield 464, 3) := dk_180 1 208 (dk_at dksX0_fits_2 11 rfl rfl)
theorem dX0_fits_60 : decode cX0_fits 60 = .ok (.goto 19, 3) := dk_167 0 19 (dk_at dksX0_fits_2 14 rfl rfl)
theorem dX0_fits_63 : decode cX0_fits 63 = .ok (.iload_n 3, 1) := dk_29 (dk_at dksX0_fits_2 17 rfl rfl)
theorem dX0_fits_64 : decode cX0_fits 64 = .ok (.iconst 1, 1) := dk_4 (dk_at dksX0_fits_2 18 rfl rfl)
theorem dX0_fits_65 : decode cX0_fits 65 = .ok (.if_icmp .ne 10, 3) := dk_160 0 10 (dk_at dksX0_fits_2 19 rfl rfl)
theorem dX0_fits_68 : decode cX0_fits 68 = .ok (.aload_n 0, 1) := dk_42 (dk_at dksX0_fits_2 22 rfl rfl)
theorem dX0_fits_69 : decode cX0_fits 69 = .ok (.getfield 467, 3) := dk_180 1 211 (dk_at dksX0_fits_3 0 rfl rfl)
theorem dX0_fits_72 : decode cX0_fits 72 = .ok (.goto 7, 3) := dk_167 0 7 (dk_at dksX0_fits_3 3 rfl rfl)
theorem dX0_fits_75 : decode cX0_fits 75 = .ok (.aload_n 0, 1) := dk_42 (dk_at dksX0_fits_3 6 rfl rfl)
theorem dX0_fits_76 : decode cX0_fits 76 = .ok (.getfield 470, 3) := dk_180 1 214 (dk_at dksX0_fits_3 7 rfl rfl)
theorem dX0_fits_79 : decode cX0_fits 79 = .ok (.ireturn, 1) := dk_172 (dk_at dksX0_fits_3 10 rfl rfl)
abbrev cX0_findFits : ByteArray := prog_1_method_64_code
def yX0_findFits : MethodName := ⟨RX0, "findFits", "(LPlatesSing$Shape;I)V"⟩
def dkwX0_findFits_5 : List UInt8 := [132, 3, 1, 167, 255, 192, 42, 43, 182, 1, 136, 177]
abbrev dktX0_findFits_5 : List UInt8 := dkwX0_findFits_5 ++ []
def dkwX0_findFits_4 : List UInt8 := [28, 25, 4, 184, 1, 4, 21, 5, 182, 1, 217, 132, 5, 1, 167, 255, 223, 25, 4, 3, 181, 1, 8]
abbrev dktX0_findFits_4 : List UInt8 := dkwX0_findFits_4 ++ dktX0_findFits_5
def dkwX0_findFits_3 : List UInt8 := [58, 4, 4, 54, 5, 21, 5, 25, 4, 180, 0, 195, 163, 0, 29, 25, 4, 21, 5, 181, 1, 8, 42, 43]
abbrev dktX0_findFits_3 : List UInt8 := dkwX0_findFits_3 ++ dktX0_findFits_4
def dkwX0_findFits_2 : List UInt8 := [42, 43, 28, 2, 3, 182, 1, 217, 3, 62, 29, 43, 180, 0, 229, 162, 0, 62, 43, 180, 1, 61, 29, 50]
abbrev dktX0_findFits_2 : List UInt8 := dkwX0_findFits_2 ++ dktX0_findFits_3
def dkwX0_findFits_1 : List UInt8 := [29, 43, 180, 0, 229, 162, 0, 19, 43, 180, 1, 61, 29, 50, 3, 181, 1, 8, 132, 3, 1, 167, 255, 235]
abbrev dktX0_findFits_1 : List UInt8 := dkwX0_findFits_1 ++ dktX0_findFits_2
def dkwX0_findFits_0 : List UInt8 := [42, 3, 181, 1, 208, 42, 16, 254, 181, 1, 211, 42, 16, 254, 181, 1, 214, 42, 43, 182, 1, 128, 3, 62]
abbrev dktX0_findFits_0 : List UInt8 := dkwX0_findFits_0 ++ dktX0_findFits_1
theorem dksX0_findFits_0 : cX0_findFits.data.toList.drop 0 = dktX0_findFits_0 := by decide +kernel
theorem dksX0_findFits_1 : cX0_findFits.data.toList.drop 24 = dktX0_findFits_1 := dk_seg dksX0_findFits_0 24 rfl rfl
theorem dksX0_findFits_2 : cX0_findFits.data.toList.drop 48 = dktX0_findFits_2 := dk_seg dksX0_findFits_1 24 rfl rfl
theorem dksX0_findFits_3 : cX0_findFits.data.toList.drop 72 = dktX0_findFits_3 := dk_seg dksX0_findFits_2 24 rfl rfl
theorem dksX0_findFits_4 : cX0_findFits.data.toList.drop 96 = dktX0_findFits_4 := dk_seg dksX0_findFits_3 24 rfl rfl
theorem dksX0_findFits_5 : cX0_findFits.data.toList.drop 119 = dktX0_findFits_5 := dk_seg dksX0_findFits_4 23 rfl rfl
theorem dX0_findFits_0 : decode cX0_findFits 0 = .ok (.aload_n 0, 1) := dk_42 (dk_at dksX0_findFits_0 0 rfl rfl)
theorem dX0_findFits_1 : decode cX0_findFits 1 = .ok (.iconst 0, 1) := dk_3 (dk_at dksX0_findFits_0 1 rfl rfl)
theorem dX0_findFits_2 : decode cX0_findFits 2 = .ok (.putfield 464, 3) := dk_181 1 208 (dk_at dksX0_findFits_0 2 rfl rfl)
theorem dX0_findFits_5 : decode cX0_findFits 5 = .ok (.aload_n 0, 1) := dk_42 (dk_at dksX0_findFits_0 5 rfl rfl)
theorem dX0_findFits_6 : decode cX0_findFits 6 = .ok (.bipush (-2), 2) := dk_16 254 (dk_at dksX0_findFits_0 6 rfl rfl)
theorem dX0_findFits_8 : decode cX0_findFits 8 = .ok (.putfield 467, 3) := dk_181 1 211 (dk_at dksX0_findFits_0 8 rfl rfl)
theorem dX0_findFits_11 : decode cX0_findFits 11 = .ok (.aload_n 0, 1) := dk_42 (dk_at dksX0_findFits_0 11 rfl rfl)
theorem dX0_findFits_12 : decode cX0_findFits 12 = .ok (.bipush (-2), 2) := dk_16 254 (dk_at dksX0_findFits_0 12 rfl rfl)
theorem dX0_findFits_14 : decode cX0_findFits 14 = .ok (.putfield 470, 3) := dk_181 1 214 (dk_at dksX0_findFits_0 14 rfl rfl)
theorem dX0_findFits_17 : decode cX0_findFits 17 = .ok (.aload_n 0, 1) := dk_42 (dk_at dksX0_findFits_0 17 rfl rfl)
theorem dX0_findFits_18 : decode cX0_findFits 18 = .ok (.aload_n 1, 1) := dk_43 (dk_at dksX0_findFits_0 18 rfl rfl)
theorem dX0_findFits_19 : decode cX0_findFits 19 = .ok (.invokevirtual 384, 3) := dk_182 1 128 (dk_at dksX0_findFits_0 19 rfl rfl)
theorem dX0_findFits_22 : decode cX0_findFits 22 = .ok (.iconst 0, 1) := dk_3 (dk_at dksX0_findFits_0 22 rfl rfl)
theorem dX0_findFits_23 : decode cX0_findFits 23 = .ok (.istore_n 3, 1) := dk_62 (dk_at dksX0_findFits_0 23 rfl rfl)
theorem dX0_findFits_24 : decode cX0_findFits 24 = .ok (.iload_n 3, 1) := dk_29 (dk_at dksX0_findFits_1 0 rfl rfl)
theorem dX0_findFits_25 : decode cX0_findFits 25 = .ok (.aload_n 1, 1) := dk_43 (dk_at dksX0_findFits_1 1 rfl rfl)
theorem dX0_findFits_26 : decode cX0_findFits 26 = .ok (.getfield 229, 3) := dk_180 0 229 (dk_at dksX0_findFits_1 2 rfl rfl)
theorem dX0_findFits_29 : decode cX0_findFits 29 = .ok (.if_icmp .ge 19, 3) := dk_162 0 19 (dk_at dksX0_findFits_1 5 rfl rfl)
theorem dX0_findFits_32 : decode cX0_findFits 32 = .ok (.aload_n 1, 1) := dk_43 (dk_at dksX0_findFits_1 8 rfl rfl)
theorem dX0_findFits_33 : decode cX0_findFits 33 = .ok (.getfield 317, 3) := dk_180 1 61 (dk_at dksX0_findFits_1 9 rfl rfl)
theorem dX0_findFits_36 : decode cX0_findFits 36 = .ok (.iload_n 3, 1) := dk_29 (dk_at dksX0_findFits_1 12 rfl rfl)
theorem dX0_findFits_37 : decode cX0_findFits 37 = .ok (.aaload, 1) := dk_50 (dk_at dksX0_findFits_1 13 rfl rfl)
theorem dX0_findFits_38 : decode cX0_findFits 38 = .ok (.iconst 0, 1) := dk_3 (dk_at dksX0_findFits_1 14 rfl rfl)
theorem dX0_findFits_39 : decode cX0_findFits 39 = .ok (.putfield 264, 3) := dk_181 1 8 (dk_at dksX0_findFits_1 15 rfl rfl)
theorem dX0_findFits_42 : decode cX0_findFits 42 = .ok (.iinc 3 1, 3) := dk_132 3 1 (dk_at dksX0_findFits_1 18 rfl rfl)
theorem dX0_findFits_45 : decode cX0_findFits 45 = .ok (.goto (-21), 3) := dk_167 255 235 (dk_at dksX0_findFits_1 21 rfl rfl)
theorem dX0_findFits_48 : decode cX0_findFits 48 = .ok (.aload_n 0, 1) := dk_42 (dk_at dksX0_findFits_2 0 rfl rfl)
theorem dX0_findFits_49 : decode cX0_findFits 49 = .ok (.aload_n 1, 1) := dk_43 (dk_at dksX0_findFits_2 1 rfl rfl)
theorem dX0_findFits_50 : decode cX0_findFits 50 = .ok (.iload_n 2, 1) := dk_28 (dk_at dksX0_findFits_2 2 rfl rfl)
theorem dX0_findFits_51 : decode cX0_findFits 51 = .ok (.iconst (-1), 1) := dk_2 (dk_at dksX0_findFits_2 3 rfl rfl)
theorem dX0_findFits_52 : decode cX0_findFits 52 = .ok (.iconst 0, 1) := dk_3 (dk_at dksX0_findFits_2 4 rfl rfl)
theorem dX0_findFits_53 : decode cX0_findFits 53 = .ok (.invokevirtual 473, 3) := dk_182 1 217 (dk_at dksX0_findFits_2 5 rfl rfl)
theorem dX0_findFits_56 : decode cX0_findFits 56 = .ok (.iconst 0, 1) := dk_3 (dk_at dksX0_findFits_2 8 rfl rfl)
theorem dX0_findFits_57 : decode cX0_findFits 57 = .ok (.istore_n 3, 1) := dk_62 (dk_at dksX0_findFits_2 9 rfl rfl)
theorem dX0_findFits_58 : decode cX0_findFits 58 = .ok (.iload_n 3, 1) := dk_29 (dk_at dksX0_findFits_2 10 rfl rfl)
theorem dX0_findFits_59 : decode cX0_findFits 59 = .ok (.aload_n 1, 1) := dk_43 (dk_at dksX0_findFits_2 11 rfl rfl)
theorem dX0_findFits_60 : decode cX0_findFits 60 = .ok (.getfield 229, 3) := dk_180 0 229 (dk_at dksX0_findFits_2 12 rfl rfl)
theorem dX0_findFits_63 : decode cX0_findFits 63 = .ok (.if_icmp .ge 62, 3) := dk_162 0 62 (dk_at dksX0_findFits_2 15 rfl rfl)
theorem dX0_findFits_66 : decode cX0_findFits 66 = .ok (.aload_n 1, 1) := dk_43 (dk_at dksX0_findFits_2 18 rfl rfl)
theorem dX0_findFits_67 : decode cX0_findFits 67 = .ok (.getfield 317, 3) := dk_180 1 61 (dk_at dksX0_findFits_2 19 rfl rfl)
theorem dX0_findFits_70 : decode cX0_findFits 70 = .ok (.iload_n 3, 1) := dk_29 (dk_at dksX0_findFits_2 22 rfl rfl)
theorem dX0_findFits_71 : decode cX0_findFits 71 = .ok (.aaload, 1) := dk_50 (dk_at dksX0_findFits_2 23 rfl rfl)
theorem dX0_findFits_72 : decode cX0_findFits 72 = .ok (.astore 4, 2) := dk_58 4 (dk_at dksX0_findFits_3 0 rfl rfl)
theorem dX0_findFits_74 : decode cX0_findFits 74 = .ok (.iconst 1, 1) := dk_4 (dk_at dksX0_findFits_3 2 rfl rfl)
theorem dX0_findFits_75 : decode cX0_findFits 75 = .ok (.istore 5, 2) := dk_54 5 (dk_at dksX0_findFits_3 3 rfl rfl)
theorem dX0_findFits_77 : decode cX0_findFits 77 = .ok (.iload 5, 2) := dk_21 5 (dk_at dksX0_findFits_3 5 rfl rfl)
theorem dX0_findFits_79 : decode cX0_findFits 79 = .ok (.aload 4, 2) := dk_25 4 (dk_at dksX0_findFits_3 7 rfl rfl)
theorem dX0_findFits_81 : decode cX0_findFits 81 = .ok (.getfield 195, 3) := dk_180 0 195 (dk_at dksX0_findFits_3 9 rfl rfl)
theorem dX0_findFits_84 : decode cX0_findFits 84 = .ok (.if_icmp .gt 29, 3) := dk_163 0 29 (dk_at dksX0_findFits_3 12 rfl rfl)
theorem dX0_findFits_87 : decode cX0_findFits 87 = .ok (.aload 4, 2) := dk_25 4 (dk_at dksX0_findFits_3 15 rfl rfl)
theorem dX0_findFits_89 : decode cX0_findFits 89 = .ok (.iload 5, 2) := dk_21 5 (dk_at dksX0_findFits_3 17 rfl rfl)
theorem dX0_findFits_91 : decode cX0_findFits 91 = .ok (.putfield 264, 3) := dk_181 1 8 (dk_at dksX0_findFits_3 19 rfl rfl)
theorem dX0_findFits_94 : decode cX0_findFits 94 = .ok (.aload_n 0, 1) := dk_42 (dk_at dksX0_findFits_3 22 rfl rfl)
theorem dX0_findFits_95 : decode cX0_findFits 95 = .ok (.aload_n 1, 1) := dk_43 (dk_at dksX0_findFits_3 23 rfl rfl)
theorem dX0_findFits_96 : decode cX0_findFits 96 = .ok (.iload_n 2, 1) := dk_28 (dk_at dksX0_findFits_4 0 rfl rfl)
theorem dX0_findFits_97 : decode cX0_findFits 97 = .ok (.aload 4, 2) := dk_25 4 (dk_at dksX0_findFits_4 1 rfl rfl)
theorem dX0_findFits_99 : decode cX0_findFits 99 = .ok (.invokestatic 260, 3) := dk_184 1 4 (dk_at dksX0_findFits_4 3 rfl rfl)
theorem dX0_findFits_102 : decode cX0_findFits 102 = .ok (.iload 5, 2) := dk_21 5 (dk_at dksX0_findFits_4 6 rfl rfl)
theorem dX0_findFits_104 : decode cX0_findFits 104 = .ok (.invokevirtual 473, 3) := dk_182 1 217 (dk_at dksX0_findFits_4 8 rfl rfl)
theorem dX0_findFits_107 : decode cX0_findFits 107 = .ok (.iinc 5 1, 3) := dk_132 5 1 (dk_at dksX0_findFits_4 11 rfl rfl)
theorem dX0_findFits_110 : decode cX0_findFits 110 = .ok (.goto (-33), 3) := dk_167 255 223 (dk_at dksX0_findFits_4 14 rfl rfl)
theorem dX0_findFits_113 : decode cX0_findFits 113 = .ok (.aload 4, 2) := dk_25 4 (dk_at dksX0_findFits_4 17 rfl rfl)
theorem dX0_findFits_115 : decode cX0_findFits 115 = .ok (.iconst 0, 1) := dk_3 (dk_at dksX0_findFits_4 19 rfl rfl)
theorem dX0_findFits_116 : decode cX0_findFits 116 = .ok (.putfield 264, 3) := dk_181 1 8 (dk_at dksX0_findFits_4 20 rfl rfl)
theorem dX0_findFits_119 : decode cX0_findFits 119 = .ok (.iinc 3 1, 3) := dk_132 3 1 (dk_at dksX0_findFits_5 0 rfl rfl)
theorem dX0_findFits_122 : decode cX0_findFits 122 = .ok (.goto (-64), 3) := dk_167 255 192 (dk_at dksX0_findFits_5 3 rfl rfl)
theorem dX0_findFits_125 : decode cX0_findFits 125 = .ok (.aload_n 0, 1) := dk_42 (dk_at dksX0_findFits_5 6 rfl rfl)
theorem dX0_findFits_126 : decode cX0_findFits 126 = .ok (.aload_n 1, 1) := dk_43 (dk_at dksX0_findFits_5 7 rfl rfl)
theorem dX0_findFits_127 : decode cX0_findFits 127 = .ok (.invokevirtual 392, 3) := dk_182 1 136 (dk_at dksX0_findFits_5 8 rfl rfl)
theorem dX0_findFits_130 : decode cX0_findFits 130 = .ok (.return_, 1) := dk_177 (dk_at dksX0_findFits_5 11 rfl rfl)
abbrev cX0_tryCrack : ByteArray := prog_1_method_63_code
def yX0_tryCrack : MethodName := ⟨RX0, "tryCrack", "(LPlatesSing$Shape;III)V"⟩
def dkwX0_tryCrack_4 : List UInt8 := [132, 5, 1, 167, 255, 221, 42, 89, 180, 1, 208, 4, 96, 181, 1, 208, 177]
abbrev dktX0_tryCrack_4 : List UInt8 := dkwX0_tryCrack_4 ++ []
def dkwX0_tryCrack_3 : List UInt8 := [42, 180, 0, 99, 16, 6, 42, 180, 1, 208, 104, 21, 5, 96, 42, 43, 21, 5, 28, 182, 1, 123, 79]
abbrev dktX0_tryCrack_3 : List UInt8 := dkwX0_tryCrack_3 ++ dktX0_tryCrack_4
def dkwX0_tryCrack_2 : List UInt8 := [181, 1, 211, 42, 21, 4, 181, 1, 214, 42, 180, 1, 205, 54, 5, 21, 5, 43, 182, 0, 230, 162, 0, 32]
abbrev dktX0_tryCrack_2 : List UInt8 := dkwX0_tryCrack_2 ++ dktX0_tryCrack_3
def dkwX0_tryCrack_1 : List UInt8 := [21, 5, 46, 159, 0, 4, 177, 132, 5, 1, 167, 255, 225, 42, 180, 1, 208, 154, 0, 14, 42, 29]
abbrev dktX0_tryCrack_1 : List UInt8 := dkwX0_tryCrack_1 ++ dktX0_tryCrack_2
def dkwX0_tryCrack_0 : List UInt8 := [3, 54, 5, 21, 5, 42, 180, 1, 205, 162, 0, 28, 42, 43, 21, 5, 28, 182, 1, 123, 42, 180, 0, 96]
abbrev dktX0_tryCrack_0 : List UInt8 := dkwX0_tryCrack_0 ++ dktX0_tryCrack_1
theorem dksX0_tryCrack_0 : cX0_tryCrack.data.toList.drop 0 = dktX0_tryCrack_0 := by decide +kernel
theorem dksX0_tryCrack_1 : cX0_tryCrack.data.toList.drop 24 = dktX0_tryCrack_1 := dk_seg dksX0_tryCrack_0 24 rfl rfl
theorem dksX0_tryCrack_2 : cX0_tryCrack.data.toList.drop 46 = dktX0_tryCrack_2 := dk_seg dksX0_tryCrack_1 22 rfl rfl
theorem dksX0_tryCrack_3 : cX0_tryCrack.data.toList.drop 70 = dktX0_tryCrack_3 := dk_seg dksX0_tryCrack_2 24 rfl rfl
theorem dksX0_tryCrack_4 : cX0_tryCrack.data.toList.drop 93 = dktX0_tryCrack_4 := dk_seg dksX0_tryCrack_3 23 rfl rfl
theorem dX0_tryCrack_0 : decode cX0_tryCrack 0 = .ok (.iconst 0, 1) := dk_3 (dk_at dksX0_tryCrack_0 0 rfl rfl)
theorem dX0_tryCrack_1 : decode cX0_tryCrack 1 = .ok (.istore 5, 2) := dk_54 5 (dk_at dksX0_tryCrack_0 1 rfl rfl)
theorem dX0_tryCrack_3 : decode cX0_tryCrack 3 = .ok (.iload 5, 2) := dk_21 5 (dk_at dksX0_tryCrack_0 3 rfl rfl)
theorem dX0_tryCrack_5 : decode cX0_tryCrack 5 = .ok (.aload_n 0, 1) := dk_42 (dk_at dksX0_tryCrack_0 5 rfl rfl)
theorem dX0_tryCrack_6 : decode cX0_tryCrack 6 = .ok (.getfield 461, 3) := dk_180 1 205 (dk_at dksX0_tryCrack_0 6 rfl rfl)
theorem dX0_tryCrack_9 : decode cX0_tryCrack 9 = .ok (.if_icmp .ge 28, 3) := dk_162 0 28 (dk_at dksX0_tryCrack_0 9 rfl rfl)
theorem dX0_tryCrack_12 : decode cX0_tryCrack 12 = .ok (.aload_n 0, 1) := dk_42 (dk_at dksX0_tryCrack_0 12 rfl rfl)
theorem dX0_tryCrack_13 : decode cX0_tryCrack 13 = .ok (.aload_n 1, 1) := dk_43 (dk_at dksX0_tryCrack_0 13 rfl rfl)
theorem dX0_tryCrack_14 : decode cX0_tryCrack 14 = .ok (.iload 5, 2) := dk_21 5 (dk_at dksX0_tryCrack_0 14 rfl rfl)
theorem dX0_tryCrack_16 : decode cX0_tryCrack 16 = .ok (.iload_n 2, 1) := dk_28 (dk_at dksX0_tryCrack_0 16 rfl rfl)
theorem dX0_tryCrack_17 : decode cX0_tryCrack 17 = .ok (.invokevirtual 379, 3) := dk_182 1 123 (dk_at dksX0_tryCrack_0 17 rfl rfl)
theorem dX0_tryCrack_20 : decode cX0_tryCrack 20 = .ok (.aload_n 0, 1) := dk_42 (dk_at dksX0_tryCrack_0 20 rfl rfl)
theorem dX0_tryCrack_21 : decode cX0_tryCrack 21 = .ok (.getfield 96, 3) := dk_180 0 96 (dk_at dksX0_tryCrack_0 21 rfl rfl)
theorem dX0_tryCrack_24 : decode cX0_tryCrack 24 = .ok (.iload 5, 2) := dk_21 5 (dk_at dksX0_tryCrack_1 0 rfl rfl)
theorem dX0_tryCrack_26 : decode cX0_tryCrack 26 = .ok (.iaload, 1) := dk_46 (dk_at dksX0_tryCrack_1 2 rfl rfl)
theorem dX0_tryCrack_27 : decode cX0_tryCrack 27 = .ok (.if_icmp .eq 4, 3) := dk_159 0 4 (dk_at dksX0_tryCrack_1 3 rfl rfl)
theorem dX0_tryCrack_30 : decode cX0_tryCrack 30 = .ok (.return_, 1) := dk_177 (dk_at dksX0_tryCrack_1 6 rfl rfl)
theorem dX0_tryCrack_31 : decode cX0_tryCrack 31 = .ok (.iinc 5 1, 3) := dk_132 5 1 (dk_at dksX0_tryCrack_1 7 rfl rfl)
theorem dX0_tryCrack_34 : decode cX0_tryCrack 34 = .ok (.goto (-31), 3) := dk_167 255 225 (dk_at dksX0_tryCrack_1 10 rfl rfl)
theorem dX0_tryCrack_37 : decode cX0_tryCrack 37 = .ok (.aload_n 0, 1) := dk_42 (dk_at dksX0_tryCrack_1 13 rfl rfl)
theorem dX0_tryCrack_38 : decode cX0_tryCrack 38 = .ok (.getfield 464, 3) := dk_180 1 208 (dk_at dksX0_tryCrack_1 14 rfl rfl)
theorem dX0_tryCrack_41 : decode cX0_tryCrack 41 = .ok (.ifCond .ne 14, 3) := dk_154 0 14 (dk_at dksX0_tryCrack_1 17 rfl rfl)
theorem dX0_tryCrack_44 : decode cX0_tryCrack 44 = .ok (.aload_n 0, 1) := dk_42 (dk_at dksX0_tryCrack_1 20 rfl rfl)
theorem dX0_tryCrack_45 : decode cX0_tryCrack 45 = .ok (.iload_n 3, 1) := dk_29 (dk_at dksX0_tryCrack_1 21 rfl rfl)
theorem dX0_tryCrack_46 : decode cX0_tryCrack 46 = .ok (.putfield 467, 3) := dk_181 1 211 (dk_at dksX0_tryCrack_2 0 rfl rfl)
theorem dX0_tryCrack_49 : decode cX0_tryCrack 49 = .ok (.aload_n 0, 1) := dk_42 (dk_at dksX0_tryCrack_2 3 rfl rfl)
theorem dX0_tryCrack_50 : decode cX0_tryCrack 50 = .ok (.iload 4, 2) := dk_21 4 (dk_at dksX0_tryCrack_2 4 rfl rfl)
theorem dX0_tryCrack_52 : decode cX0_tryCrack 52 = .ok (.putfield 470, 3) := dk_181 1 214 (dk_at dksX0_tryCrack_2 6 rfl rfl)
theorem dX0_tryCrack_55 : decode cX0_tryCrack 55 = .ok (.aload_n 0, 1) := dk_42 (dk_at dksX0_tryCrack_2 9 rfl rfl)
theorem dX0_tryCrack_56 : decode cX0_tryCrack 56 = .ok (.getfield 461, 3) := dk_180 1 205 (dk_at dksX0_tryCrack_2 10 rfl rfl)
theorem dX0_tryCrack_59 : decode cX0_tryCrack 59 = .ok (.istore 5, 2) := dk_54 5 (dk_at dksX0_tryCrack_2 13 rfl rfl)
theorem dX0_tryCrack_61 : decode cX0_tryCrack 61 = .ok (.iload 5, 2) := dk_21 5 (dk_at dksX0_tryCrack_2 15 rfl rfl)
theorem dX0_tryCrack_63 : decode cX0_tryCrack 63 = .ok (.aload_n 1, 1) := dk_43 (dk_at dksX0_tryCrack_2 17 rfl rfl)
theorem dX0_tryCrack_64 : decode cX0_tryCrack 64 = .ok (.invokevirtual 230, 3) := dk_182 0 230 (dk_at dksX0_tryCrack_2 18 rfl rfl)
theorem dX0_tryCrack_67 : decode cX0_tryCrack 67 = .ok (.if_icmp .ge 32, 3) := dk_162 0 32 (dk_at dksX0_tryCrack_2 21 rfl rfl)
theorem dX0_tryCrack_70 : decode cX0_tryCrack 70 = .ok (.aload_n 0, 1) := dk_42 (dk_at dksX0_tryCrack_3 0 rfl rfl)
theorem dX0_tryCrack_71 : decode cX0_tryCrack 71 = .ok (.getfield 99, 3) := dk_180 0 99 (dk_at dksX0_tryCrack_3 1 rfl rfl)
theorem dX0_tryCrack_74 : decode cX0_tryCrack 74 = .ok (.bipush 6, 2) := dk_16 6 (dk_at dksX0_tryCrack_3 4 rfl rfl)
theorem dX0_tryCrack_76 : decode cX0_tryCrack 76 = .ok (.aload_n 0, 1) := dk_42 (dk_at dksX0_tryCrack_3 6 rfl rfl)
theorem dX0_tryCrack_77 : decode cX0_tryCrack 77 = .ok (.getfield 464, 3) := dk_180 1 208 (dk_at dksX0_tryCrack_3 7 rfl rfl)
theorem dX0_tryCrack_80 : decode cX0_tryCrack 80 = .ok (.imul, 1) := dk_104 (dk_at dksX0_tryCrack_3 10 rfl rfl)
theorem dX0_tryCrack_81 : decode cX0_tryCrack 81 = .ok (.iload 5, 2) := dk_21 5 (dk_at dksX0_tryCrack_3 11 rfl rfl)
theorem dX0_tryCrack_83 : decode cX0_tryCrack 83 = .ok (.iadd, 1) := dk_96 (dk_at dksX0_tryCrack_3 13 rfl rfl)
theorem dX0_tryCrack_84 : decode cX0_tryCrack 84 = .ok (.aload_n 0, 1) := dk_42 (dk_at dksX0_tryCrack_3 14 rfl rfl)
theorem dX0_tryCrack_85 : decode cX0_tryCrack 85 = .ok (.aload_n 1, 1) := dk_43 (dk_at dksX0_tryCrack_3 15 rfl rfl)
theorem dX0_tryCrack_86 : decode cX0_tryCrack 86 = .ok (.iload 5, 2) := dk_21 5 (dk_at dksX0_tryCrack_3 16 rfl rfl)
theorem dX0_tryCrack_88 : decode cX0_tryCrack 88 = .ok (.iload_n 2, 1) := dk_28 (dk_at dksX0_tryCrack_3 18 rfl rfl)
theorem dX0_tryCrack_89 : decode cX0_tryCrack 89 = .ok (.invokevirtual 379, 3) := dk_182 1 123 (dk_at dksX0_tryCrack_3 19 rfl rfl)
theorem dX0_tryCrack_92 : decode cX0_tryCrack 92 = .ok (.iastore, 1) := dk_79 (dk_at dksX0_tryCrack_3 22 rfl rfl)
theorem dX0_tryCrack_93 : decode cX0_tryCrack 93 = .ok (.iinc 5 1, 3) := dk_132 5 1 (dk_at dksX0_tryCrack_4 0 rfl rfl)
theorem dX0_tryCrack_96 : decode cX0_tryCrack 96 = .ok (.goto (-35), 3) := dk_167 255 221 (dk_at dksX0_tryCrack_4 3 rfl rfl)
theorem dX0_tryCrack_99 : decode cX0_tryCrack 99 = .ok (.aload_n 0, 1) := dk_42 (dk_at dksX0_tryCrack_4 6 rfl rfl)
theorem dX0_tryCrack_100 : decode cX0_tryCrack 100 = .ok (.dup, 1) := dk_89 (dk_at dksX0_tryCrack_4 7 rfl rfl)
theorem dX0_tryCrack_101 : decode cX0_tryCrack 101 = .ok (.getfield 464, 3) := dk_180 1 208 (dk_at dksX0_tryCrack_4 8 rfl rfl)
theorem dX0_tryCrack_104 : decode cX0_tryCrack 104 = .ok (.iconst 1, 1) := dk_4 (dk_at dksX0_tryCrack_4 11 rfl rfl)
theorem dX0_tryCrack_105 : decode cX0_tryCrack 105 = .ok (.iadd, 1) := dk_96 (dk_at dksX0_tryCrack_4 12 rfl rfl)
theorem dX0_tryCrack_106 : decode cX0_tryCrack 106 = .ok (.putfield 464, 3) := dk_181 1 208 (dk_at dksX0_tryCrack_4 13 rfl rfl)
theorem dX0_tryCrack_109 : decode cX0_tryCrack 109 = .ok (.return_, 1) := dk_177 (dk_at dksX0_tryCrack_4 16 rfl rfl)
abbrev cX0_next : ByteArray := prog_1_method_66_code
def yX0_next : MethodName := ⟨RX0, "next", "(II)I"⟩
def dkwX0_next_8 : List UInt8 := [167, 255, 119, 21, 4, 172]
abbrev dktX0_next_8 : List UInt8 := dkwX0_next_8 ++ []
def dkwX0_next_7 : List UInt8 := [159, 0, 13, 21, 7, 21, 5, 161, 0, 6, 167, 0, 11, 21, 6, 54, 4, 21, 7, 54, 5, 132, 6, 1]
abbrev dktX0_next_7 : List UInt8 := dkwX0_next_7 ++ dktX0_next_8
def dkwX0_next_6 : List UInt8 := [167, 255, 202, 21, 7, 21, 9, 184, 0, 189, 54, 7, 132, 8, 1, 167, 255, 172, 21, 4, 16, 254]
abbrev dktX0_next_6 : List UInt8 := dkwX0_next_6 ++ dktX0_next_7
def dkwX0_next_5 : List UInt8 := [21, 8, 104, 21, 6, 96, 46, 160, 0, 7, 4, 167, 0, 4, 3, 184, 0, 246, 96, 54, 9, 132, 10, 1]
abbrev dktX0_next_5 : List UInt8 := dkwX0_next_5 ++ dktX0_next_6
def dkwX0_next_4 : List UInt8 := [162, 0, 51, 21, 9, 42, 180, 0, 99, 16, 6, 21, 10, 104, 21, 6, 96, 46, 42, 180, 0, 99, 16, 6]
abbrev dktX0_next_4 : List UInt8 := dkwX0_next_4 ++ dktX0_next_5
def dkwX0_next_3 : List UInt8 := [3, 54, 8, 21, 8, 42, 180, 1, 208, 162, 0, 81, 3, 54, 9, 3, 54, 10, 21, 10, 42, 180, 1, 208]
abbrev dktX0_next_3 : List UInt8 := dkwX0_next_3 ++ dktX0_next_4
def dkwX0_next_2 : List UInt8 := [180, 1, 205, 54, 6, 21, 6, 45, 182, 0, 230, 162, 0, 134, 42, 180, 1, 208, 158, 0, 127, 3, 54, 7]
abbrev dktX0_next_2 : List UInt8 := dkwX0_next_2 ++ dktX0_next_3
def dkwX0_next_1 : List UInt8 := [182, 0, 230, 164, 0, 5, 2, 172, 42, 45, 28, 182, 1, 221, 16, 254, 54, 4, 3, 54, 5, 42]
abbrev dktX0_next_1 : List UInt8 := dkwX0_next_1 ++ dktX0_next_2
def dkwX0_next_0 : List UInt8 := [42, 27, 182, 0, 201, 78, 45, 198, 0, 21, 28, 184, 1, 116, 153, 0, 14, 42, 180, 1, 205, 45]
abbrev dktX0_next_0 : List UInt8 := dkwX0_next_0 ++ dktX0_next_1
theorem dksX0_next_0 : cX0_next.data.toList.drop 0 = dktX0_next_0 := by decide +kernel
theorem dksX0_next_1 : cX0_next.data.toList.drop 22 = dktX0_next_1 := dk_seg dksX0_next_0 22 rfl rfl
theorem dksX0_next_2 : cX0_next.data.toList.drop 44 = dktX0_next_2 := dk_seg dksX0_next_1 22 rfl rfl
theorem dksX0_next_3 : cX0_next.data.toList.drop 68 = dktX0_next_3 := dk_seg dksX0_next_2 24 rfl rfl
theorem dksX0_next_4 : cX0_next.data.toList.drop 92 = dktX0_next_4 := dk_seg dksX0_next_3 24 rfl rfl
theorem dksX0_next_5 : cX0_next.data.toList.drop 116 = dktX0_next_5 := dk_seg dksX0_next_4 24 rfl rfl
theorem dksX0_next_6 : cX0_next.data.toList.drop 140 = dktX0_next_6 := dk_seg dksX0_next_5 24 rfl rfl
theorem dksX0_next_7 : cX0_next.data.toList.drop 162 = dktX0_next_7 := dk_seg dksX0_next_6 22 rfl rfl
theorem dksX0_next_8 : cX0_next.data.toList.drop 186 = dktX0_next_8 := dk_seg dksX0_next_7 24 rfl rfl
theorem dX0_next_0 : decode cX0_next 0 = .ok (.aload_n 0, 1) := dk_42 (dk_at dksX0_next_0 0 rfl rfl)
theorem dX0_next_1 : decode cX0_next 1 = .ok (.iload_n 1, 1) := dk_27 (dk_at dksX0_next_0 1 rfl rfl)
theorem dX0_next_2 : decode cX0_next 2 = .ok (.invokevirtual 201, 3) := dk_182 0 201 (dk_at dksX0_next_0 2 rfl rfl)
theorem dX0_next_5 : decode cX0_next 5 = .ok (.astore_n 3, 1) := dk_78 (dk_at dksX0_next_0 5 rfl rfl)
theorem dX0_next_6 : decode cX0_next 6 = .ok (.aload_n 3, 1) := dk_45 (dk_at dksX0_next_0 6 rfl rfl)
theorem dX0_next_7 : decode cX0_next 7 = .ok (.ifnull 21, 3) := dk_198 0 21 (dk_at dksX0_next_0 7 rfl rfl)
theorem dX0_next_10 : decode cX0_next 10 = .ok (.iload_n 2, 1) := dk_28 (dk_at dksX0_next_0 10 rfl rfl)
theorem dX0_next_11 : decode cX0_next 11 = .ok (.invokestatic 372, 3) := dk_184 1 116 (dk_at dksX0_next_0 11 rfl rfl)
theorem dX0_next_14 : decode cX0_next 14 = .ok (.ifCond .eq 14, 3) := dk_153 0 14 (dk_at dksX0_next_0 14 rfl rfl)
theorem dX0_next_17 : decode cX0_next 17 = .ok (.aload_n 0, 1) := dk_42 (dk_at dksX0_next_0 17 rfl rfl)
theorem dX0_next_18 : decode cX0_next 18 = .ok (.getfield 461, 3) := dk_180 1 205 (dk_at dksX0_next_0 18 rfl rfl)
theorem dX0_next_21 : decode cX0_next 21 = .ok (.aload_n 3, 1) := dk_45 (dk_at dksX0_next_0 21 rfl rfl)
theorem dX0_next_22 : decode cX0_next 22 = .ok (.invokevirtual 230, 3) := dk_182 0 230 (dk_at dksX0_next_1 0 rfl rfl)
theorem dX0_next_25 : decode cX0_next 25 = .ok (.if_icmp .le 5, 3) := dk_164 0 5 (dk_at dksX0_next_1 3 rfl rfl)
theorem dX0_next_28 : decode cX0_next 28 = .ok (.iconst (-1), 1) := dk_2 (dk_at dksX0_next_1 6 rfl rfl)
theorem dX0_next_29 : decode cX0_next 29 = .ok (.ireturn, 1) := dk_172 (dk_at dksX0_next_1 7 rfl rfl)
theorem dX0_next_30 : decode cX0_next 30 = .ok (.aload_n 0, 1) := dk_42 (dk_at dksX0_next_1 8 rfl rfl)
theorem dX0_next_31 : decode cX0_next 31 = .ok (.aload_n 3, 1) := dk_45 (dk_at dksX0_next_1 9 rfl rfl)
theorem dX0_next_32 : decode cX0_next 32 = .ok (.iload_n 2, 1) := dk_28 (dk_at dksX0_next_1 10 rfl rfl)
theorem dX0_next_33 : decode cX0_next 33 = .ok (.invokevirtual 477, 3) := dk_182 1 221 (dk_at dksX0_next_1 11 rfl rfl)
theorem dX0_next_36 : decode cX0_next 36 = .ok (.bipush (-2), 2) := dk_16 254 (dk_at dksX0_next_1 14 rfl rfl)
theorem dX0_next_38 : decode cX0_next 38 = .ok (.istore 4, 2) := dk_54 4 (dk_at dksX0_next_1 16 rfl rfl)
theorem dX0_next_40 : decode cX0_next 40 = .ok (.iconst 0, 1) := dk_3 (dk_at dksX0_next_1 18 rfl rfl)
theorem dX0_next_41 : decode cX0_next 41 = .ok (.istore 5, 2) := dk_54 5 (dk_at dksX0_next_1 19 rfl rfl)
theorem dX0_next_43 : decode cX0_next 43 = .ok (.aload_n 0, 1) := dk_42 (dk_at dksX0_next_1 21 rfl rfl)
theorem dX0_next_44 : decode cX0_next 44 = .ok (.getfield 461, 3) := dk_180 1 205 (dk_at dksX0_next_2 0 rfl rfl)
theorem dX0_next_47 : decode cX0_next 47 = .ok (.istore 6, 2) := dk_54 6 (dk_at dksX0_next_2 3 rfl rfl)
theorem dX0_next_49 : decode cX0_next 49 = .ok (.iload 6, 2) := dk_21 6 (dk_at dksX0_next_2 5 rfl rfl)
theorem dX0_next_51 : decode cX0_next 51 = .ok (.aload_n 3, 1) := dk_45 (dk_at dksX0_next_2 7 rfl rfl)
theorem dX0_next_52 : decode cX0_next 52 = .ok (.invokevirtual 230, 3) := dk_182 0 230 (dk_at dksX0_next_2 8 rfl rfl)
theorem dX0_next_55 : decode cX0_next 55 = .ok (.if_icmp .ge 134, 3) := dk_162 0 134 (dk_at dksX0_next_2 11 rfl rfl)
theorem dX0_next_58 : decode cX0_next 58 = .ok (.aload_n 0, 1) := dk_42 (dk_at dksX0_next_2 14 rfl rfl)
theorem dX0_next_59 : decode cX0_next 59 = .ok (.getfield 464, 3) := dk_180 1 208 (dk_at dksX0_next_2 15 rfl rfl)
theorem dX0_next_62 : decode cX0_next 62 = .ok (.ifCond .le 127, 3) := dk_158 0 127 (dk_at dksX0_next_2 18 rfl rfl)
theorem dX0_next_65 : decode cX0_next 65 = .ok (.iconst 0, 1) := dk_3 (dk_at dksX0_next_2 21 rfl rfl)
theorem dX0_next_66 : decode cX0_next 66 = .ok (.istore 7, 2) := dk_54 7 (dk_at dksX0_next_2 22 rfl rfl)
theorem dX0_next_68 : decode cX0_next 68 = .ok (.iconst 0, 1) := dk_3 (dk_at dksX0_next_3 0 rfl rfl)
theorem dX0_next_69 : decode cX0_next 69 = .ok (.istore 8, 2) := dk_54 8 (dk_at dksX0_next_3 1 rfl rfl)
theorem dX0_next_71 : decode cX0_next 71 = .ok (.iload 8, 2) := dk_21 8 (dk_at dksX0_next_3 3 rfl rfl)
theorem dX0_next_73 : decode cX0_next 73 = .ok (.aload_n 0, 1) := dk_42 (dk_at dksX0_next_3 5 rfl rfl)
theorem dX0_next_74 : decode cX0_next 74 = .ok (.getfield 464, 3) := dk_180 1 208 (dk_at dksX0_next_3 6 rfl rfl)
theorem dX0_next_77 : decode cX0_next 77 = .ok (.if_icmp .ge 81, 3) := dk_162 0 81 (dk_at dksX0_next_3 9 rfl rfl)
theorem dX0_next_80 : decode cX0_next 80 = .ok (.iconst 0, 1) := dk_3 (dk_at dksX0_next_3 12 rfl rfl)
theorem dX0_next_81 : decode cX0_next 81 = .ok (.istore 9, 2) := dk_54 9 (dk_at dksX0_next_3 13 rfl rfl)
theorem dX0_next_83 : decode cX0_next 83 = .ok (.iconst 0, 1) := dk_3 (dk_at dksX0_next_3 15 rfl rfl)
theorem dX0_next_84 : decode cX0_next 84 = .ok (.istore 10, 2) := dk_54 10 (dk_at dksX0_next_3 16 rfl rfl)
theorem dX0_next_86 : decode cX0_next 86 = .ok (.iload 10, 2) := dk_21 10 (dk_at dksX0_next_3 18 rfl rfl)
theorem dX0_next_88 : decode cX0_next 88 = .ok (.aload_n 0, 1) := dk_42 (dk_at dksX0_next_3 20 rfl rfl)
theorem dX0_next_89 : decode cX0_next 89 = .ok (.getfield 464, 3) := dk_180 1 208 (dk_at dksX0_next_3 21 rfl rfl)
theorem dX0_next_92 : decode cX0_next 92 = .ok (.if_icmp .ge 51, 3) := dk_162 0 51 (dk_at dksX0_next_4 0 rfl rfl)
theorem dX0_next_95 : decode cX0_next 95 = .ok (.iload 9, 2) := dk_21 9 (dk_at dksX0_next_4 3 rfl rfl)
theorem dX0_next_97 : decode cX0_next 97 = .ok (.aload_n 0, 1) := dk_42 (dk_at dksX0_next_4 5 rfl rfl)
theorem dX0_next_98 : decode cX0_next 98 = .ok (.getfield 99, 3) := dk_180 0 99 (dk_at dksX0_next_4 6 rfl rfl)
theorem dX0_next_101 : decode cX0_next 101 = .ok (.bipush 6, 2) := dk_16 6 (dk_at dksX0_next_4 9 rfl rfl)
theorem dX0_next_103 : decode cX0_next 103 = .ok (.iload 10, 2) := dk_21 10 (dk_at dksX0_next_4 11 rfl rfl)
theorem dX0_next_105 : decode cX0_next 105 = .ok (.imul, 1) := dk_104 (dk_at dksX0_next_4 13 rfl rfl)
theorem dX0_next_106 : decode cX0_next 106 = .ok (.iload 6, 2) := dk_21 6 (dk_at dksX0_next_4 14 rfl rfl)
theorem dX0_next_108 : decode cX0_next 108 = .ok (.iadd, 1) := dk_96 (dk_at dksX0_next_4 16 rfl rfl)
theorem dX0_next_109 : decode cX0_next 109 = .ok (.iaload, 1) := dk_46 (dk_at dksX0_next_4 17 rfl rfl)
theorem dX0_next_110 : decode cX0_next 110 = .ok (.aload_n 0, 1) := dk_42 (dk_at dksX0_next_4 18 rfl rfl)
theorem dX0_next_111 : decode cX0_next 111 = .ok (.getfield 99, 3) := dk_180 0 99 (dk_at dksX0_next_4 19 rfl rfl)
theorem dX0_next_114 : decode cX0_next 114 = .ok (.bipush 6, 2) := dk_16 6 (dk_at dksX0_next_4 22 rfl rfl)
theorem dX0_next_116 : decode cX0_next 116 = .ok (.iload 8, 2) := dk_21 8 (dk_at dksX0_next_5 0 rfl rfl)
theorem dX0_next_118 : decode cX0_next 118 = .ok (.imul, 1) := dk_104 (dk_at dksX0_next_5 2 rfl rfl)
theorem dX0_next_119 : decode cX0_next 119 = .ok (.iload 6, 2) := dk_21 6 (dk_at dksX0_next_5 3 rfl rfl)
theorem dX0_next_121 : decode cX0_next 121 = .ok (.iadd, 1) := dk_96 (dk_at dksX0_next_5 5 rfl rfl)
theorem dX0_next_122 : decode cX0_next 122 = .ok (.iaload, 1) := dk_46 (dk_at dksX0_next_5 6 rfl rfl)
theorem dX0_next_123 : decode cX0_next 123 = .ok (.if_icmp .ne 7, 3) := dk_160 0 7 (dk_at dksX0_next_5 7 rfl rfl)
theorem dX0_next_126 : decode cX0_next 126 = .ok (.iconst 1, 1) := dk_4 (dk_at dksX0_next_5 10 rfl rfl)
theorem dX0_next_127 : decode cX0_next 127 = .ok (.goto 4, 3) := dk_167 0 4 (dk_at dksX0_next_5 11 rfl rfl)
theorem dX0_next_130 : decode cX0_next 130 = .ok (.iconst 0, 1) := dk_3 (dk_at dksX0_next_5 14 rfl rfl)
theorem dX0_next_131 : decode cX0_next 131 = .ok (.invokestatic 246, 3) := dk_184 0 246 (dk_at dksX0_next_5 15 rfl rfl)
theorem dX0_next_134 : decode cX0_next 134 = .ok (.iadd, 1) := dk_96 (dk_at dksX0_next_5 18 rfl rfl)
theorem dX0_next_135 : decode cX0_next 135 = .ok (.istore 9, 2) := dk_54 9 (dk_at dksX0_next_5 19 rfl rfl)
theorem dX0_next_137 : decode cX0_next 137 = .ok (.iinc 10 1, 3) := dk_132 10 1 (dk_at dksX0_next_5 21 rfl rfl)
theorem dX0_next_140 : decode cX0_next 140 = .ok (.goto (-54), 3) := dk_167 255 202 (dk_at dksX0_next_6 0 rfl rfl)
theorem dX0_next_143 : decode cX0_next 143 = .ok (.iload 7, 2) := dk_21 7 (dk_at dksX0_next_6 3 rfl rfl)
theorem dX0_next_145 : decode cX0_next 145 = .ok (.iload 9, 2) := dk_21 9 (dk_at dksX0_next_6 5 rfl rfl)
theorem dX0_next_147 : decode cX0_next 147 = .ok (.invokestatic 189, 3) := dk_184 0 189 (dk_at dksX0_next_6 7 rfl rfl)
theorem dX0_next_150 : decode cX0_next 150 = .ok (.istore 7, 2) := dk_54 7 (dk_at dksX0_next_6 10 rfl rfl)
theorem dX0_next_152 : decode cX0_next 152 = .ok (.iinc 8 1, 3) := dk_132 8 1 (dk_at dksX0_next_6 12 rfl rfl)
theorem dX0_next_155 : decode cX0_next 155 = .ok (.goto (-84), 3) := dk_167 255 172 (dk_at dksX0_next_6 15 rfl rfl)
theorem dX0_next_158 : decode cX0_next 158 = .ok (.iload 4, 2) := dk_21 4 (dk_at dksX0_next_6 18 rfl rfl)
theorem dX0_next_160 : decode cX0_next 160 = .ok (.bipush (-2), 2) := dk_16 254 (dk_at dksX0_next_6 20 rfl rfl)
theorem dX0_next_162 : decode cX0_next 162 = .ok (.if_icmp .eq 13, 3) := dk_159 0 13 (dk_at dksX0_next_7 0 rfl rfl)
theorem dX0_next_165 : decode cX0_next 165 = .ok (.iload 7, 2) := dk_21 7 (dk_at dksX0_next_7 3 rfl rfl)
theorem dX0_next_167 : decode cX0_next 167 = .ok (.iload 5, 2) := dk_21 5 (dk_at dksX0_next_7 5 rfl rfl)
theorem dX0_next_169 : decode cX0_next 169 = .ok (.if_icmp .lt 6, 3) := dk_161 0 6 (dk_at dksX0_next_7 7 rfl rfl)
theorem dX0_next_172 : decode cX0_next 172 = .ok (.goto 11, 3) := dk_167 0 11 (dk_at dksX0_next_7 10 rfl rfl)
theorem dX0_next_175 : decode cX0_next 175 = .ok (.iload 6, 2) := dk_21 6 (dk_at dksX0_next_7 13 rfl rfl)
theorem dX0_next_177 : decode cX0_next 177 = .ok (.istore 4, 2) := dk_54 4 (dk_at dksX0_next_7 15 rfl rfl)
theorem dX0_next_179 : decode cX0_next 179 = .ok (.iload 7, 2) := dk_21 7 (dk_at dksX0_next_7 17 rfl rfl)
theorem dX0_next_181 : decode cX0_next 181 = .ok (.istore 5, 2) := dk_54 5 (dk_at dksX0_next_7 19 rfl rfl)
theorem dX0_next_183 : decode cX0_next 183 = .ok (.iinc 6 1, 3) := dk_132 6 1 (dk_at dksX0_next_7 21 rfl rfl)
theorem dX0_next_186 : decode cX0_next 186 = .ok (.goto (-137), 3) := dk_167 255 119 (dk_at dksX0_next_8 0 rfl rfl)
theorem dX0_next_189 : decode cX0_next 189 = .ok (.iload 4, 2) := dk_21 4 (dk_at dksX0_next_8 3 rfl rfl)
theorem dX0_next_191 : decode cX0_next 191 = .ok (.ireturn, 1) := dk_172 (dk_at dksX0_next_8 5 rfl rfl)
abbrev cX0_damp : ByteArray := prog_1_method_67_code
def yX0_damp : MethodName := ⟨RX0, "damp", "(I)I"⟩
def dkwX0_damp_1 : List UInt8 := [28, 172]
abbrev dktX0_damp_1 : List UInt8 := dkwX0_damp_1 ++ []
def dkwX0_damp_0 : List UInt8 := [27, 133, 9, 20, 1, 225, 184, 0, 152, 154, 0, 5, 2, 172, 42, 180, 1, 227, 61, 42, 27, 181, 1, 227]
abbrev dktX0_damp_0 : List UInt8 := dkwX0_damp_0 ++ dktX0_damp_1
theorem dksX0_damp_0 : cX0_damp.data.toList.drop 0 = dktX0_damp_0 := by decide +kernel
theorem dksX0_damp_1 : cX0_damp.data.toList.drop 24 = dktX0_damp_1 := dk_seg dksX0_damp_0 24 rfl rfl
theorem dX0_damp_0 : decode cX0_damp 0 = .ok (.iload_n 1, 1) := dk_27 (dk_at dksX0_damp_0 0 rfl rfl)
theorem dX0_damp_1 : decode cX0_damp 1 = .ok (.i2l, 1) := dk_133 (dk_at dksX0_damp_0 1 rfl rfl)
theorem dX0_damp_2 : decode cX0_damp 2 = .ok (.lconst 0, 1) := dk_9 (dk_at dksX0_damp_0 2 rfl rfl)
theorem dX0_damp_3 : decode cX0_damp 3 = .ok (.ldc2_w 481, 3) := dk_20 1 225 (dk_at dksX0_damp_0 3 rfl rfl)
theorem dX0_damp_6 : decode cX0_damp 6 = .ok (.invokestatic 152, 3) := dk_184 0 152 (dk_at dksX0_damp_0 6 rfl rfl)
theorem dX0_damp_9 : decode cX0_damp 9 = .ok (.ifCond .ne 5, 3) := dk_154 0 5 (dk_at dksX0_damp_0 9 rfl rfl)
theorem dX0_damp_12 : decode cX0_damp 12 = .ok (.iconst (-1), 1) := dk_2 (dk_at dksX0_damp_0 12 rfl rfl)
theorem dX0_damp_13 : decode cX0_damp 13 = .ok (.ireturn, 1) := dk_172 (dk_at dksX0_damp_0 13 rfl rfl)
theorem dX0_damp_14 : decode cX0_damp 14 = .ok (.aload_n 0, 1) := dk_42 (dk_at dksX0_damp_0 14 rfl rfl)
theorem dX0_damp_15 : decode cX0_damp 15 = .ok (.getfield 483, 3) := dk_180 1 227 (dk_at dksX0_damp_0 15 rfl rfl)
theorem dX0_damp_18 : decode cX0_damp 18 = .ok (.istore_n 2, 1) := dk_61 (dk_at dksX0_damp_0 18 rfl rfl)
theorem dX0_damp_19 : decode cX0_damp 19 = .ok (.aload_n 0, 1) := dk_42 (dk_at dksX0_damp_0 19 rfl rfl)
theorem dX0_damp_20 : decode cX0_damp 20 = .ok (.iload_n 1, 1) := dk_27 (dk_at dksX0_damp_0 20 rfl rfl)
theorem dX0_damp_21 : decode cX0_damp 21 = .ok (.putfield 483, 3) := dk_181 1 227 (dk_at dksX0_damp_0 21 rfl rfl)
theorem dX0_damp_24 : decode cX0_damp 24 = .ok (.iload_n 2, 1) := dk_28 (dk_at dksX0_damp_1 0 rfl rfl)
theorem dX0_damp_25 : decode cX0_damp 25 = .ok (.ireturn, 1) := dk_172 (dk_at dksX0_damp_1 1 rfl rfl)
abbrev cX0_ear : ByteArray := prog_1_method_68_code
def yX0_ear : MethodName := ⟨RX0, "ear", "(II)I"⟩
def dkwX0_ear_1 : List UInt8 := [154, 0, 6, 18, 225, 172, 42, 180, 0, 102, 27, 46, 62, 42, 180, 0, 102, 27, 28, 79, 29, 172]
abbrev dktX0_ear_1 : List UInt8 := dkwX0_ear_1 ++ []
def dkwX0_ear_0 : List UInt8 := [27, 133, 9, 20, 1, 168, 184, 0, 152, 153, 0, 17, 28, 133, 20, 1, 230, 20, 0, 174, 184, 0, 152]
abbrev dktX0_ear_0 : List UInt8 := dkwX0_ear_0 ++ dktX0_ear_1
theorem dksX0_ear_0 : cX0_ear.data.toList.drop 0 = dktX0_ear_0 := by decide +kernel
theorem dksX0_ear_1 : cX0_ear.data.toList.drop 23 = dktX0_ear_1 := dk_seg dksX0_ear_0 23 rfl rfl
theorem dX0_ear_0 : decode cX0_ear 0 = .ok (.iload_n 1, 1) := dk_27 (dk_at dksX0_ear_0 0 rfl rfl)
theorem dX0_ear_1 : decode cX0_ear 1 = .ok (.i2l, 1) := dk_133 (dk_at dksX0_ear_0 1 rfl rfl)
theorem dX0_ear_2 : decode cX0_ear 2 = .ok (.lconst 0, 1) := dk_9 (dk_at dksX0_ear_0 2 rfl rfl)
theorem dX0_ear_3 : decode cX0_ear 3 = .ok (.ldc2_w 424, 3) := dk_20 1 168 (dk_at dksX0_ear_0 3 rfl rfl)
theorem dX0_ear_6 : decode cX0_ear 6 = .ok (.invokestatic 152, 3) := dk_184 0 152 (dk_at dksX0_ear_0 6 rfl rfl)
theorem dX0_ear_9 : decode cX0_ear 9 = .ok (.ifCond .eq 17, 3) := dk_153 0 17 (dk_at dksX0_ear_0 9 rfl rfl)
theorem dX0_ear_12 : decode cX0_ear 12 = .ok (.iload_n 2, 1) := dk_28 (dk_at dksX0_ear_0 12 rfl rfl)
theorem dX0_ear_13 : decode cX0_ear 13 = .ok (.i2l, 1) := dk_133 (dk_at dksX0_ear_0 13 rfl rfl)
theorem dX0_ear_14 : decode cX0_ear 14 = .ok (.ldc2_w 486, 3) := dk_20 1 230 (dk_at dksX0_ear_0 14 rfl rfl)
theorem dX0_ear_17 : decode cX0_ear 17 = .ok (.ldc2_w 174, 3) := dk_20 0 174 (dk_at dksX0_ear_0 17 rfl rfl)
theorem dX0_ear_20 : decode cX0_ear 20 = .ok (.invokestatic 152, 3) := dk_184 0 152 (dk_at dksX0_ear_0 20 rfl rfl)
theorem dX0_ear_23 : decode cX0_ear 23 = .ok (.ifCond .ne 6, 3) := dk_154 0 6 (dk_at dksX0_ear_1 0 rfl rfl)
theorem dX0_ear_26 : decode cX0_ear 26 = .ok (.ldc 225, 2) := dk_18 225 (dk_at dksX0_ear_1 3 rfl rfl)
theorem dX0_ear_28 : decode cX0_ear 28 = .ok (.ireturn, 1) := dk_172 (dk_at dksX0_ear_1 5 rfl rfl)
theorem dX0_ear_29 : decode cX0_ear 29 = .ok (.aload_n 0, 1) := dk_42 (dk_at dksX0_ear_1 6 rfl rfl)
theorem dX0_ear_30 : decode cX0_ear 30 = .ok (.getfield 102, 3) := dk_180 0 102 (dk_at dksX0_ear_1 7 rfl rfl)
theorem dX0_ear_33 : decode cX0_ear 33 = .ok (.iload_n 1, 1) := dk_27 (dk_at dksX0_ear_1 10 rfl rfl)
theorem dX0_ear_34 : decode cX0_ear 34 = .ok (.iaload, 1) := dk_46 (dk_at dksX0_ear_1 11 rfl rfl)
theorem dX0_ear_35 : decode cX0_ear 35 = .ok (.istore_n 3, 1) := dk_62 (dk_at dksX0_ear_1 12 rfl rfl)
theorem dX0_ear_36 : decode cX0_ear 36 = .ok (.aload_n 0, 1) := dk_42 (dk_at dksX0_ear_1 13 rfl rfl)
theorem dX0_ear_37 : decode cX0_ear 37 = .ok (.getfield 102, 3) := dk_180 0 102 (dk_at dksX0_ear_1 14 rfl rfl)
theorem dX0_ear_40 : decode cX0_ear 40 = .ok (.iload_n 1, 1) := dk_27 (dk_at dksX0_ear_1 17 rfl rfl)
theorem dX0_ear_41 : decode cX0_ear 41 = .ok (.iload_n 2, 1) := dk_28 (dk_at dksX0_ear_1 18 rfl rfl)
theorem dX0_ear_42 : decode cX0_ear 42 = .ok (.iastore, 1) := dk_79 (dk_at dksX0_ear_1 19 rfl rfl)
theorem dX0_ear_43 : decode cX0_ear 43 = .ok (.iload_n 3, 1) := dk_29 (dk_at dksX0_ear_1 20 rfl rfl)
theorem dX0_ear_44 : decode cX0_ear 44 = .ok (.ireturn, 1) := dk_172 (dk_at dksX0_ear_1 21 rfl rfl)
abbrev cX0_blow : ByteArray := prog_1_method_71_code
def yX0_blow : MethodName := ⟨RX0, "blow", "(IIII)I"⟩
def dkwX0_blow_6 : List UInt8 := [21, 8, 79, 42, 180, 0, 126, 3, 21, 9, 79, 21, 10, 172]
abbrev dktX0_blow_6 : List UInt8 := dkwX0_blow_6 ++ []
def dkwX0_blow_5 : List UInt8 := [182, 1, 245, 54, 10, 42, 21, 6, 181, 1, 235, 42, 180, 0, 120, 3, 21, 7, 79, 42, 180, 0, 123, 3]
abbrev dktX0_blow_5 : List UInt8 := dkwX0_blow_5 ++ dktX0_blow_6
def dkwX0_blow_4 : List UInt8 := [3, 28, 79, 42, 180, 0, 123, 3, 29, 79, 42, 180, 0, 126, 3, 3, 79, 42, 25, 5, 21, 4]
abbrev dktX0_blow_4 : List UInt8 := dkwX0_blow_4 ++ dktX0_blow_5
def dkwX0_blow_3 : List UInt8 := [180, 0, 123, 3, 46, 54, 8, 42, 180, 0, 126, 3, 46, 54, 9, 42, 4, 181, 1, 235, 42, 180, 0, 120]
abbrev dktX0_blow_3 : List UInt8 := dkwX0_blow_3 ++ dktX0_blow_4
def dkwX0_blow_2 : List UInt8 := [51, 153, 0, 6, 16, 252, 172, 42, 180, 1, 235, 54, 6, 42, 180, 0, 120, 3, 46, 54, 7, 42]
abbrev dktX0_blow_2 : List UInt8 := dkwX0_blow_2 ++ dktX0_blow_3
def dkwX0_blow_1 : List UInt8 := [153, 0, 16, 21, 4, 133, 10, 20, 1, 243, 184, 0, 152, 154, 0, 5, 2, 172, 25, 5, 180, 0, 242, 28]
abbrev dktX0_blow_1 : List UInt8 := dkwX0_blow_1 ++ dktX0_blow_2
def dkwX0_blow_0 : List UInt8 := [42, 27, 28, 182, 0, 250, 58, 5, 25, 5, 198, 0, 30, 29, 133, 20, 1, 241, 20, 1, 100, 184, 0, 152]
abbrev dktX0_blow_0 : List UInt8 := dkwX0_blow_0 ++ dktX0_blow_1
theorem dksX0_blow_0 : cX0_blow.data.toList.drop 0 = dktX0_blow_0 := by decide +kernel
theorem dksX0_blow_1 : cX0_blow.data.toList.drop 24 = dktX0_blow_1 := dk_seg dksX0_blow_0 24 rfl rfl
theorem dksX0_blow_2 : cX0_blow.data.toList.drop 48 = dktX0_blow_2 := dk_seg dksX0_blow_1 24 rfl rfl
theorem dksX0_blow_3 : cX0_blow.data.toList.drop 70 = dktX0_blow_3 := dk_seg dksX0_blow_2 22 rfl rfl
theorem dksX0_blow_4 : cX0_blow.data.toList.drop 94 = dktX0_blow_4 := dk_seg dksX0_blow_3 24 rfl rfl
theorem dksX0_blow_5 : cX0_blow.data.toList.drop 116 = dktX0_blow_5 := dk_seg dksX0_blow_4 22 rfl rfl
theorem dksX0_blow_6 : cX0_blow.data.toList.drop 140 = dktX0_blow_6 := dk_seg dksX0_blow_5 24 rfl rfl
theorem dX0_blow_0 : decode cX0_blow 0 = .ok (.aload_n 0, 1) := dk_42 (dk_at dksX0_blow_0 0 rfl rfl)
theorem dX0_blow_1 : decode cX0_blow 1 = .ok (.iload_n 1, 1) := dk_27 (dk_at dksX0_blow_0 1 rfl rfl)
theorem dX0_blow_2 : decode cX0_blow 2 = .ok (.iload_n 2, 1) := dk_28 (dk_at dksX0_blow_0 2 rfl rfl)
theorem dX0_blow_3 : decode cX0_blow 3 = .ok (.invokevirtual 250, 3) := dk_182 0 250 (dk_at dksX0_blow_0 3 rfl rfl)
theorem dX0_blow_6 : decode cX0_blow 6 = .ok (.astore 5, 2) := dk_58 5 (dk_at dksX0_blow_0 6 rfl rfl)
theorem dX0_blow_8 : decode cX0_blow 8 = .ok (.aload 5, 2) := dk_25 5 (dk_at dksX0_blow_0 8 rfl rfl)
theorem dX0_blow_10 : decode cX0_blow 10 = .ok (.ifnull 30, 3) := dk_198 0 30 (dk_at dksX0_blow_0 10 rfl rfl)
theorem dX0_blow_13 : decode cX0_blow 13 = .ok (.iload_n 3, 1) := dk_29 (dk_at dksX0_blow_0 13 rfl rfl)
theorem dX0_blow_14 : decode cX0_blow 14 = .ok (.i2l, 1) := dk_133 (dk_at dksX0_blow_0 14 rfl rfl)
theorem dX0_blow_15 : decode cX0_blow 15 = .ok (.ldc2_w 497, 3) := dk_20 1 241 (dk_at dksX0_blow_0 15 rfl rfl)
theorem dX0_blow_18 : decode cX0_blow 18 = .ok (.ldc2_w 356, 3) := dk_20 1 100 (dk_at dksX0_blow_0 18 rfl rfl)
theorem dX0_blow_21 : decode cX0_blow 21 = .ok (.invokestatic 152, 3) := dk_184 0 152 (dk_at dksX0_blow_0 21 rfl rfl)
theorem dX0_blow_24 : decode cX0_blow 24 = .ok (.ifCond .eq 16, 3) := dk_153 0 16 (dk_at dksX0_blow_1 0 rfl rfl)
theorem dX0_blow_27 : decode cX0_blow 27 = .ok (.iload 4, 2) := dk_21 4 (dk_at dksX0_blow_1 3 rfl rfl)
theorem dX0_blow_29 : decode cX0_blow 29 = .ok (.i2l, 1) := dk_133 (dk_at dksX0_blow_1 5 rfl rfl)
theorem dX0_blow_30 : decode cX0_blow 30 = .ok (.lconst 1, 1) := dk_10 (dk_at dksX0_blow_1 6 rfl rfl)
theorem dX0_blow_31 : decode cX0_blow 31 = .ok (.ldc2_w 499, 3) := dk_20 1 243 (dk_at dksX0_blow_1 7 rfl rfl)
theorem dX0_blow_34 : decode cX0_blow 34 = .ok (.invokestatic 152, 3) := dk_184 0 152 (dk_at dksX0_blow_1 10 rfl rfl)
theorem dX0_blow_37 : decode cX0_blow 37 = .ok (.ifCond .ne 5, 3) := dk_154 0 5 (dk_at dksX0_blow_1 13 rfl rfl)
theorem dX0_blow_40 : decode cX0_blow 40 = .ok (.iconst (-1), 1) := dk_2 (dk_at dksX0_blow_1 16 rfl rfl)
theorem dX0_blow_41 : decode cX0_blow 41 = .ok (.ireturn, 1) := dk_172 (dk_at dksX0_blow_1 17 rfl rfl)
theorem dX0_blow_42 : decode cX0_blow 42 = .ok (.aload 5, 2) := dk_25 5 (dk_at dksX0_blow_1 18 rfl rfl)
theorem dX0_blow_44 : decode cX0_blow 44 = .ok (.getfield 242, 3) := dk_180 0 242 (dk_at dksX0_blow_1 20 rfl rfl)
theorem dX0_blow_47 : decode cX0_blow 47 = .ok (.iload_n 2, 1) := dk_28 (dk_at dksX0_blow_1 23 rfl rfl)
theorem dX0_blow_48 : decode cX0_blow 48 = .ok (.baload, 1) := dk_51 (dk_at dksX0_blow_2 0 rfl rfl)
theorem dX0_blow_49 : decode cX0_blow 49 = .ok (.ifCond .eq 6, 3) := dk_153 0 6 (dk_at dksX0_blow_2 1 rfl rfl)
theorem dX0_blow_52 : decode cX0_blow 52 = .ok (.bipush (-4), 2) := dk_16 252 (dk_at dksX0_blow_2 4 rfl rfl)
theorem dX0_blow_54 : decode cX0_blow 54 = .ok (.ireturn, 1) := dk_172 (dk_at dksX0_blow_2 6 rfl rfl)
theorem dX0_blow_55 : decode cX0_blow 55 = .ok (.aload_n 0, 1) := dk_42 (dk_at dksX0_blow_2 7 rfl rfl)
theorem dX0_blow_56 : decode cX0_blow 56 = .ok (.getfield 491, 3) := dk_180 1 235 (dk_at dksX0_blow_2 8 rfl rfl)
theorem dX0_blow_59 : decode cX0_blow 59 = .ok (.istore 6, 2) := dk_54 6 (dk_at dksX0_blow_2 11 rfl rfl)
theorem dX0_blow_61 : decode cX0_blow 61 = .ok (.aload_n 0, 1) := dk_42 (dk_at dksX0_blow_2 13 rfl rfl)
theorem dX0_blow_62 : decode cX0_blow 62 = .ok (.getfield 120, 3) := dk_180 0 120 (dk_at dksX0_blow_2 14 rfl rfl)
theorem dX0_blow_65 : decode cX0_blow 65 = .ok (.iconst 0, 1) := dk_3 (dk_at dksX0_blow_2 17 rfl rfl)
theorem dX0_blow_66 : decode cX0_blow 66 = .ok (.iaload, 1) := dk_46 (dk_at dksX0_blow_2 18 rfl rfl)
theorem dX0_blow_67 : decode cX0_blow 67 = .ok (.istore 7, 2) := dk_54 7 (dk_at dksX0_blow_2 19 rfl rfl)
theorem dX0_blow_69 : decode cX0_blow 69 = .ok (.aload_n 0, 1) := dk_42 (dk_at dksX0_blow_2 21 rfl rfl)
theorem dX0_blow_70 : decode cX0_blow 70 = .ok (.getfield 123, 3) := dk_180 0 123 (dk_at dksX0_blow_3 0 rfl rfl)
theorem dX0_blow_73 : decode cX0_blow 73 = .ok (.iconst 0, 1) := dk_3 (dk_at dksX0_blow_3 3 rfl rfl)
theorem dX0_blow_74 : decode cX0_blow 74 = .ok (.iaload, 1) := dk_46 (dk_at dksX0_blow_3 4 rfl rfl)
theorem dX0_blow_75 : decode cX0_blow 75 = .ok (.istore 8, 2) := dk_54 8 (dk_at dksX0_blow_3 5 rfl rfl)
theorem dX0_blow_77 : decode cX0_blow 77 = .ok (.aload_n 0, 1) := dk_42 (dk_at dksX0_blow_3 7 rfl rfl)
theorem dX0_blow_78 : decode cX0_blow 78 = .ok (.getfield 126, 3) := dk_180 0 126 (dk_at dksX0_blow_3 8 rfl rfl)
theorem dX0_blow_81 : decode cX0_blow 81 = .ok (.iconst 0, 1) := dk_3 (dk_at dksX0_blow_3 11 rfl rfl)
theorem dX0_blow_82 : decode cX0_blow 82 = .ok (.iaload, 1) := dk_46 (dk_at dksX0_blow_3 12 rfl rfl)
theorem dX0_blow_83 : decode cX0_blow 83 = .ok (.istore 9, 2) := dk_54 9 (dk_at dksX0_blow_3 13 rfl rfl)
theorem dX0_blow_85 : decode cX0_blow 85 = .ok (.aload_n 0, 1) := dk_42 (dk_at dksX0_blow_3 15 rfl rfl)
theorem dX0_blow_86 : decode cX0_blow 86 = .ok (.iconst 1, 1) := dk_4 (dk_at dksX0_blow_3 16 rfl rfl)
theorem dX0_blow_87 : decode cX0_blow 87 = .ok (.putfield 491, 3) := dk_181 1 235 (dk_at dksX0_blow_3 17 rfl rfl)
theorem dX0_blow_90 : decode cX0_blow 90 = .ok (.aload_n 0, 1) := dk_42 (dk_at dksX0_blow_3 20 rfl rfl)
theorem dX0_blow_91 : decode cX0_blow 91 = .ok (.getfield 120, 3) := dk_180 0 120 (dk_at dksX0_blow_3 21 rfl rfl)
theorem dX0_blow_94 : decode cX0_blow 94 = .ok (.iconst 0, 1) := dk_3 (dk_at dksX0_blow_4 0 rfl rfl)
theorem dX0_blow_95 : decode cX0_blow 95 = .ok (.iload_n 2, 1) := dk_28 (dk_at dksX0_blow_4 1 rfl rfl)
theorem dX0_blow_96 : decode cX0_blow 96 = .ok (.iastore, 1) := dk_79 (dk_at dksX0_blow_4 2 rfl rfl)
theorem dX0_blow_97 : decode cX0_blow 97 = .ok (.aload_n 0, 1) := dk_42 (dk_at dksX0_blow_4 3 rfl rfl)
theorem dX0_blow_98 : decode cX0_blow 98 = .ok (.getfield 123, 3) := dk_180 0 123 (dk_at dksX0_blow_4 4 rfl rfl)
theorem dX0_blow_101 : decode cX0_blow 101 = .ok (.iconst 0, 1) := dk_3 (dk_at dksX0_blow_4 7 rfl rfl)
theorem dX0_blow_102 : decode cX0_blow 102 = .ok (.iload_n 3, 1) := dk_29 (dk_at dksX0_blow_4 8 rfl rfl)
theorem dX0_blow_103 : decode cX0_blow 103 = .ok (.iastore, 1) := dk_79 (dk_at dksX0_blow_4 9 rfl rfl)
theorem dX0_blow_104 : decode cX0_blow 104 = .ok (.aload_n 0, 1) := dk_42 (dk_at dksX0_blow_4 10 rfl rfl)
theorem dX0_blow_105 : decode cX0_blow 105 = .ok (.getfield 126, 3) := dk_180 0 126 (dk_at dksX0_blow_4 11 rfl rfl)
theorem dX0_blow_108 : decode cX0_blow 108 = .ok (.iconst 0, 1) := dk_3 (dk_at dksX0_blow_4 14 rfl rfl)
theorem dX0_blow_109 : decode cX0_blow 109 = .ok (.iconst 0, 1) := dk_3 (dk_at dksX0_blow_4 15 rfl rfl)
theorem dX0_blow_110 : decode cX0_blow 110 = .ok (.iastore, 1) := dk_79 (dk_at dksX0_blow_4 16 rfl rfl)
theorem dX0_blow_111 : decode cX0_blow 111 = .ok (.aload_n 0, 1) := dk_42 (dk_at dksX0_blow_4 17 rfl rfl)
theorem dX0_blow_112 : decode cX0_blow 112 = .ok (.aload 5, 2) := dk_25 5 (dk_at dksX0_blow_4 18 rfl rfl)
theorem dX0_blow_114 : decode cX0_blow 114 = .ok (.iload 4, 2) := dk_21 4 (dk_at dksX0_blow_4 20 rfl rfl)
theorem dX0_blow_116 : decode cX0_blow 116 = .ok (.invokevirtual 501, 3) := dk_182 1 245 (dk_at dksX0_blow_5 0 rfl rfl)
theorem dX0_blow_119 : decode cX0_blow 119 = .ok (.istore 10, 2) := dk_54 10 (dk_at dksX0_blow_5 3 rfl rfl)
theorem dX0_blow_121 : decode cX0_blow 121 = .ok (.aload_n 0, 1) := dk_42 (dk_at dksX0_blow_5 5 rfl rfl)
theorem dX0_blow_122 : decode cX0_blow 122 = .ok (.iload 6, 2) := dk_21 6 (dk_at dksX0_blow_5 6 rfl rfl)
theorem dX0_blow_124 : decode cX0_blow 124 = .ok (.putfield 491, 3) := dk_181 1 235 (dk_at dksX0_blow_5 8 rfl rfl)
theorem dX0_blow_127 : decode cX0_blow 127 = .ok (.aload_n 0, 1) := dk_42 (dk_at dksX0_blow_5 11 rfl rfl)
theorem dX0_blow_128 : decode cX0_blow 128 = .ok (.getfield 120, 3) := dk_180 0 120 (dk_at dksX0_blow_5 12 rfl rfl)
theorem dX0_blow_131 : decode cX0_blow 131 = .ok (.iconst 0, 1) := dk_3 (dk_at dksX0_blow_5 15 rfl rfl)
theorem dX0_blow_132 : decode cX0_blow 132 = .ok (.iload 7, 2) := dk_21 7 (dk_at dksX0_blow_5 16 rfl rfl)
theorem dX0_blow_134 : decode cX0_blow 134 = .ok (.iastore, 1) := dk_79 (dk_at dksX0_blow_5 18 rfl rfl)
theorem dX0_blow_135 : decode cX0_blow 135 = .ok (.aload_n 0, 1) := dk_42 (dk_at dksX0_blow_5 19 rfl rfl)
theorem dX0_blow_136 : decode cX0_blow 136 = .ok (.getfield 123, 3) := dk_180 0 123 (dk_at dksX0_blow_5 20 rfl rfl)
theorem dX0_blow_139 : decode cX0_blow 139 = .ok (.iconst 0, 1) := dk_3 (dk_at dksX0_blow_5 23 rfl rfl)
theorem dX0_blow_140 : decode cX0_blow 140 = .ok (.iload 8, 2) := dk_21 8 (dk_at dksX0_blow_6 0 rfl rfl)
theorem dX0_blow_142 : decode cX0_blow 142 = .ok (.iastore, 1) := dk_79 (dk_at dksX0_blow_6 2 rfl rfl)
theorem dX0_blow_143 : decode cX0_blow 143 = .ok (.aload_n 0, 1) := dk_42 (dk_at dksX0_blow_6 3 rfl rfl)
theorem dX0_blow_144 : decode cX0_blow 144 = .ok (.getfield 126, 3) := dk_180 0 126 (dk_at dksX0_blow_6 4 rfl rfl)
theorem dX0_blow_147 : decode cX0_blow 147 = .ok (.iconst 0, 1) := dk_3 (dk_at dksX0_blow_6 7 rfl rfl)
theorem dX0_blow_148 : decode cX0_blow 148 = .ok (.iload 9, 2) := dk_21 9 (dk_at dksX0_blow_6 8 rfl rfl)
theorem dX0_blow_150 : decode cX0_blow 150 = .ok (.iastore, 1) := dk_79 (dk_at dksX0_blow_6 10 rfl rfl)
theorem dX0_blow_151 : decode cX0_blow 151 = .ok (.iload 10, 2) := dk_21 10 (dk_at dksX0_blow_6 11 rfl rfl)
theorem dX0_blow_153 : decode cX0_blow 153 = .ok (.ireturn, 1) := dk_172 (dk_at dksX0_blow_6 13 rfl rfl)
abbrev cX0_strike : ByteArray := prog_1_method_70_code
def yX0_strike : MethodName := ⟨RX0, "strike", "(LPlatesSing$Shape;I)I"⟩
def dkwX0_strike_11 : List UInt8 := [21, 5, 46, 46, 79, 132, 5, 1, 167, 255, 206, 132, 4, 1, 167, 255, 75, 42, 3, 181, 1, 235, 29, 172]
abbrev dktX0_strike_11 : List UInt8 := dkwX0_strike_11 ++ []
def dkwX0_strike_10 : List UInt8 := [96, 42, 180, 0, 105, 21, 5, 46, 2, 160, 0, 7, 3, 167, 0, 15, 42, 180, 0, 111, 42, 180, 0, 105]
abbrev dktX0_strike_10 : List UInt8 := dkwX0_strike_10 ++ dktX0_strike_11
def dkwX0_strike_9 : List UInt8 := [167, 255, 229, 3, 54, 5, 21, 5, 7, 162, 0, 50, 42, 180, 0, 108, 17, 0, 200, 21, 5, 104, 21, 4]
abbrev dktX0_strike_9 : List UInt8 := dkwX0_strike_9 ++ dktX0_strike_10
def dkwX0_strike_8 : List UInt8 := [180, 0, 226, 162, 0, 24, 29, 42, 180, 0, 111, 21, 5, 46, 184, 1, 183, 184, 0, 189, 62, 132, 5, 1]
abbrev dktX0_strike_8 : List UInt8 := dkwX0_strike_8 ++ dktX0_strike_9
def dkwX0_strike_7 : List UInt8 := [21, 5, 46, 104, 96, 79, 132, 5, 1, 167, 255, 184, 42, 43, 182, 1, 238, 3, 54, 5, 21, 5, 43]
abbrev dktX0_strike_7 : List UInt8 := dkwX0_strike_7 ++ dktX0_strike_8
def dkwX0_strike_6 : List UInt8 := [180, 0, 242, 21, 6, 51, 154, 0, 23, 42, 180, 0, 114, 21, 6, 92, 46, 16, 64, 42, 180, 0, 123]
abbrev dktX0_strike_6 : List UInt8 := dkwX0_strike_6 ++ dktX0_strike_7
def dkwX0_strike_5 : List UInt8 := [42, 180, 0, 126, 21, 5, 46, 21, 4, 160, 0, 42, 43, 21, 6, 182, 0, 205, 153, 0, 33, 43]
abbrev dktX0_strike_5 : List UInt8 := dkwX0_strike_5 ++ dktX0_strike_6
def dkwX0_strike_4 : List UInt8 := [162, 0, 181, 3, 54, 5, 21, 5, 42, 180, 1, 235, 162, 0, 69, 42, 180, 0, 120, 21, 5, 46, 54, 6]
abbrev dktX0_strike_4 : List UInt8 := dkwX0_strike_4 ++ dktX0_strike_5
def dkwX0_strike_3 : List UInt8 := [180, 0, 102, 29, 46, 167, 0, 4, 2, 79, 132, 3, 1, 167, 255, 209, 3, 62, 3, 54, 4, 21, 4, 28]
abbrev dktX0_strike_3 : List UInt8 := dkwX0_strike_3 ++ dktX0_strike_4
def dkwX0_strike_2 : List UInt8 := [180, 0, 102, 29, 46, 2, 159, 0, 25, 43, 42, 180, 0, 102, 29, 46, 182, 0, 205, 153, 0, 12, 42]
abbrev dktX0_strike_2 : List UInt8 := dkwX0_strike_2 ++ dktX0_strike_3
def dkwX0_strike_1 : List UInt8 := [29, 3, 79, 132, 3, 1, 167, 255, 233, 3, 62, 29, 7, 162, 0, 48, 42, 180, 0, 105, 29, 42]
abbrev dktX0_strike_1 : List UInt8 := dkwX0_strike_1 ++ dktX0_strike_2
def dkwX0_strike_0 : List UInt8 := [42, 28, 181, 1, 232, 3, 62, 29, 16, 6, 162, 0, 23, 42, 180, 0, 111, 29, 3, 79, 42, 180, 0, 114]
abbrev dktX0_strike_0 : List UInt8 := dkwX0_strike_0 ++ dktX0_strike_1
theorem dksX0_strike_0 : cX0_strike.data.toList.drop 0 = dktX0_strike_0 := by decide +kernel
theorem dksX0_strike_1 : cX0_strike.data.toList.drop 24 = dktX0_strike_1 := dk_seg dksX0_strike_0 24 rfl rfl
theorem dksX0_strike_2 : cX0_strike.data.toList.drop 46 = dktX0_strike_2 := dk_seg dksX0_strike_1 22 rfl rfl
theorem dksX0_strike_3 : cX0_strike.data.toList.drop 69 = dktX0_strike_3 := dk_seg dksX0_strike_2 23 rfl rfl
theorem dksX0_strike_4 : cX0_strike.data.toList.drop 93 = dktX0_strike_4 := dk_seg dksX0_strike_3 24 rfl rfl
theorem dksX0_strike_5 : cX0_strike.data.toList.drop 117 = dktX0_strike_5 := dk_seg dksX0_strike_4 24 rfl rfl
theorem dksX0_strike_6 : cX0_strike.data.toList.drop 139 = dktX0_strike_6 := dk_seg dksX0_strike_5 22 rfl rfl
theorem dksX0_strike_7 : cX0_strike.data.toList.drop 162 = dktX0_strike_7 := dk_seg dksX0_strike_6 23 rfl rfl
theorem dksX0_strike_8 : cX0_strike.data.toList.drop 185 = dktX0_strike_8 := dk_seg dksX0_strike_7 23 rfl rfl
theorem dksX0_strike_9 : cX0_strike.data.toList.drop 209 = dktX0_strike_9 := dk_seg dksX0_strike_8 24 rfl rfl
theorem dksX0_strike_10 : cX0_strike.data.toList.drop 233 = dktX0_strike_10 := dk_seg dksX0_strike_9 24 rfl rfl
theorem dksX0_strike_11 : cX0_strike.data.toList.drop 257 = dktX0_strike_11 := dk_seg dksX0_strike_10 24 rfl rfl
theorem dX0_strike_0 : decode cX0_strike 0 = .ok (.aload_n 0, 1) := dk_42 (dk_at dksX0_strike_0 0 rfl rfl)
theorem dX0_strike_1 : decode cX0_strike 1 = .ok (.iload_n 2, 1) := dk_28 (dk_at dksX0_strike_0 1 rfl rfl)
theorem dX0_strike_2 : decode cX0_strike 2 = .ok (.putfield 488, 3) := dk_181 1 232 (dk_at dksX0_strike_0 2 rfl rfl)
theorem dX0_strike_5 : decode cX0_strike 5 = .ok (.iconst 0, 1) := dk_3 (dk_at dksX0_strike_0 5 rfl rfl)
theorem dX0_strike_6 : decode cX0_strike 6 = .ok (.istore_n 3, 1) := dk_62 (dk_at dksX0_strike_0 6 rfl rfl)
theorem dX0_strike_7 : decode cX0_strike 7 = .ok (.iload_n 3, 1) := dk_29 (dk_at dksX0_strike_0 7 rfl rfl)
theorem dX0_strike_8 : decode cX0_strike 8 = .ok (.bipush 6, 2) := dk_16 6 (dk_at dksX0_strike_0 8 rfl rfl)
theorem dX0_strike_10 : decode cX0_strike 10 = .ok (.if_icmp .ge 23, 3) := dk_162 0 23 (dk_at dksX0_strike_0 10 rfl rfl)
theorem dX0_strike_13 : decode cX0_strike 13 = .ok (.aload_n 0, 1) := dk_42 (dk_at dksX0_strike_0 13 rfl rfl)
theorem dX0_strike_14 : decode cX0_strike 14 = .ok (.getfield 111, 3) := dk_180 0 111 (dk_at dksX0_strike_0 14 rfl rfl)
theorem dX0_strike_17 : decode cX0_strike 17 = .ok (.iload_n 3, 1) := dk_29 (dk_at dksX0_strike_0 17 rfl rfl)
theorem dX0_strike_18 : decode cX0_strike 18 = .ok (.iconst 0, 1) := dk_3 (dk_at dksX0_strike_0 18 rfl rfl)
theorem dX0_strike_19 : decode cX0_strike 19 = .ok (.iastore, 1) := dk_79 (dk_at dksX0_strike_0 19 rfl rfl)
theorem dX0_strike_20 : decode cX0_strike 20 = .ok (.aload_n 0, 1) := dk_42 (dk_at dksX0_strike_0 20 rfl rfl)
theorem dX0_strike_21 : decode cX0_strike 21 = .ok (.getfield 114, 3) := dk_180 0 114 (dk_at dksX0_strike_0 21 rfl rfl)
theorem dX0_strike_24 : decode cX0_strike 24 = .ok (.iload_n 3, 1) := dk_29 (dk_at dksX0_strike_1 0 rfl rfl)
theorem dX0_strike_25 : decode cX0_strike 25 = .ok (.iconst 0, 1) := dk_3 (dk_at dksX0_strike_1 1 rfl rfl)
theorem dX0_strike_26 : decode cX0_strike 26 = .ok (.iastore, 1) := dk_79 (dk_at dksX0_strike_1 2 rfl rfl)
theorem dX0_strike_27 : decode cX0_strike 27 = .ok (.iinc 3 1, 3) := dk_132 3 1 (dk_at dksX0_strike_1 3 rfl rfl)
theorem dX0_strike_30 : decode cX0_strike 30 = .ok (.goto (-23), 3) := dk_167 255 233 (dk_at dksX0_strike_1 6 rfl rfl)
theorem dX0_strike_33 : decode cX0_strike 33 = .ok (.iconst 0, 1) := dk_3 (dk_at dksX0_strike_1 9 rfl rfl)
theorem dX0_strike_34 : decode cX0_strike 34 = .ok (.istore_n 3, 1) := dk_62 (dk_at dksX0_strike_1 10 rfl rfl)
theorem dX0_strike_35 : decode cX0_strike 35 = .ok (.iload_n 3, 1) := dk_29 (dk_at dksX0_strike_1 11 rfl rfl)
theorem dX0_strike_36 : decode cX0_strike 36 = .ok (.iconst 4, 1) := dk_7 (dk_at dksX0_strike_1 12 rfl rfl)
theorem dX0_strike_37 : decode cX0_strike 37 = .ok (.if_icmp .ge 48, 3) := dk_162 0 48 (dk_at dksX0_strike_1 13 rfl rfl)
theorem dX0_strike_40 : decode cX0_strike 40 = .ok (.aload_n 0, 1) := dk_42 (dk_at dksX0_strike_1 16 rfl rfl)
theorem dX0_strike_41 : decode cX0_strike 41 = .ok (.getfield 105, 3) := dk_180 0 105 (dk_at dksX0_strike_1 17 rfl rfl)
theorem dX0_strike_44 : decode cX0_strike 44 = .ok (.iload_n 3, 1) := dk_29 (dk_at dksX0_strike_1 20 rfl rfl)
theorem dX0_strike_45 : decode cX0_strike 45 = .ok (.aload_n 0, 1) := dk_42 (dk_at dksX0_strike_1 21 rfl rfl)
theorem dX0_strike_46 : decode cX0_strike 46 = .ok (.getfield 102, 3) := dk_180 0 102 (dk_at dksX0_strike_2 0 rfl rfl)
theorem dX0_strike_49 : decode cX0_strike 49 = .ok (.iload_n 3, 1) := dk_29 (dk_at dksX0_strike_2 3 rfl rfl)
theorem dX0_strike_50 : decode cX0_strike 50 = .ok (.iaload, 1) := dk_46 (dk_at dksX0_strike_2 4 rfl rfl)
theorem dX0_strike_51 : decode cX0_strike 51 = .ok (.iconst (-1), 1) := dk_2 (dk_at dksX0_strike_2 5 rfl rfl)
theorem dX0_strike_52 : decode cX0_strike 52 = .ok (.if_icmp .eq 25, 3) := dk_159 0 25 (dk_at dksX0_strike_2 6 rfl rfl)
theorem dX0_strike_55 : decode cX0_strike 55 = .ok (.aload_n 1, 1) := dk_43 (dk_at dksX0_strike_2 9 rfl rfl)
theorem dX0_strike_56 : decode cX0_strike 56 = .ok (.aload_n 0, 1) := dk_42 (dk_at dksX0_strike_2 10 rfl rfl)
theorem dX0_strike_57 : decode cX0_strike 57 = .ok (.getfield 102, 3) := dk_180 0 102 (dk_at dksX0_strike_2 11 rfl rfl)
theorem dX0_strike_60 : decode cX0_strike 60 = .ok (.iload_n 3, 1) := dk_29 (dk_at dksX0_strike_2 14 rfl rfl)
theorem dX0_strike_61 : decode cX0_strike 61 = .ok (.iaload, 1) := dk_46 (dk_at dksX0_strike_2 15 rfl rfl)
theorem dX0_strike_62 : decode cX0_strike 62 = .ok (.invokevirtual 205, 3) := dk_182 0 205 (dk_at dksX0_strike_2 16 rfl rfl)
theorem dX0_strike_65 : decode cX0_strike 65 = .ok (.ifCond .eq 12, 3) := dk_153 0 12 (dk_at dksX0_strike_2 19 rfl rfl)
theorem dX0_strike_68 : decode cX0_strike 68 = .ok (.aload_n 0, 1) := dk_42 (dk_at dksX0_strike_2 22 rfl rfl)
theorem dX0_strike_69 : decode cX0_strike 69 = .ok (.getfield 102, 3) := dk_180 0 102 (dk_at dksX0_strike_3 0 rfl rfl)
theorem dX0_strike_72 : decode cX0_strike 72 = .ok (.iload_n 3, 1) := dk_29 (dk_at dksX0_strike_3 3 rfl rfl)
theorem dX0_strike_73 : decode cX0_strike 73 = .ok (.iaload, 1) := dk_46 (dk_at dksX0_strike_3 4 rfl rfl)
theorem dX0_strike_74 : decode cX0_strike 74 = .ok (.goto 4, 3) := dk_167 0 4 (dk_at dksX0_strike_3 5 rfl rfl)
theorem dX0_strike_77 : decode cX0_strike 77 = .ok (.iconst (-1), 1) := dk_2 (dk_at dksX0_strike_3 8 rfl rfl)
theorem dX0_strike_78 : decode cX0_strike 78 = .ok (.iastore, 1) := dk_79 (dk_at dksX0_strike_3 9 rfl rfl)
theorem dX0_strike_79 : decode cX0_strike 79 = .ok (.iinc 3 1, 3) := dk_132 3 1 (dk_at dksX0_strike_3 10 rfl rfl)
theorem dX0_strike_82 : decode cX0_strike 82 = .ok (.goto (-47), 3) := dk_167 255 209 (dk_at dksX0_strike_3 13 rfl rfl)
theorem dX0_strike_85 : decode cX0_strike 85 = .ok (.iconst 0, 1) := dk_3 (dk_at dksX0_strike_3 16 rfl rfl)
theorem dX0_strike_86 : decode cX0_strike 86 = .ok (.istore_n 3, 1) := dk_62 (dk_at dksX0_strike_3 17 rfl rfl)
theorem dX0_strike_87 : decode cX0_strike 87 = .ok (.iconst 0, 1) := dk_3 (dk_at dksX0_strike_3 18 rfl rfl)
theorem dX0_strike_88 : decode cX0_strike 88 = .ok (.istore 4, 2) := dk_54 4 (dk_at dksX0_strike_3 19 rfl rfl)
theorem dX0_strike_90 : decode cX0_strike 90 = .ok (.iload 4, 2) := dk_21 4 (dk_at dksX0_strike_3 21 rfl rfl)
theorem dX0_strike_92 : decode cX0_strike 92 = .ok (.iload_n 2, 1) := dk_28 (dk_at dksX0_strike_3 23 rfl rfl)
theorem dX0_strike_93 : decode cX0_strike 93 = .ok (.if_icmp .ge 181, 3) := dk_162 0 181 (dk_at dksX0_strike_4 0 rfl rfl)
theorem dX0_strike_96 : decode cX0_strike 96 = .ok (.iconst 0, 1) := dk_3 (dk_at dksX0_strike_4 3 rfl rfl)
theorem dX0_strike_97 : decode cX0_strike 97 = .ok (.istore 5, 2) := dk_54 5 (dk_at dksX0_strike_4 4 rfl rfl)
theorem dX0_strike_99 : decode cX0_strike 99 = .ok (.iload 5, 2) := dk_21 5 (dk_at dksX0_strike_4 6 rfl rfl)
theorem dX0_strike_101 : decode cX0_strike 101 = .ok (.aload_n 0, 1) := dk_42 (dk_at dksX0_strike_4 8 rfl rfl)
theorem dX0_strike_102 : decode cX0_strike 102 = .ok (.getfield 491, 3) := dk_180 1 235 (dk_at dksX0_strike_4 9 rfl rfl)
theorem dX0_strike_105 : decode cX0_strike 105 = .ok (.if_icmp .ge 69, 3) := dk_162 0 69 (dk_at dksX0_strike_4 12 rfl rfl)
theorem dX0_strike_108 : decode cX0_strike 108 = .ok (.aload_n 0, 1) := dk_42 (dk_at dksX0_strike_4 15 rfl rfl)
theorem dX0_strike_109 : decode cX0_strike 109 = .ok (.getfield 120, 3) := dk_180 0 120 (dk_at dksX0_strike_4 16 rfl rfl)
theorem dX0_strike_112 : decode cX0_strike 112 = .ok (.iload 5, 2) := dk_21 5 (dk_at dksX0_strike_4 19 rfl rfl)
theorem dX0_strike_114 : decode cX0_strike 114 = .ok (.iaload, 1) := dk_46 (dk_at dksX0_strike_4 21 rfl rfl)
theorem dX0_strike_115 : decode cX0_strike 115 = .ok (.istore 6, 2) := dk_54 6 (dk_at dksX0_strike_4 22 rfl rfl)
theorem dX0_strike_117 : decode cX0_strike 117 = .ok (.aload_n 0, 1) := dk_42 (dk_at dksX0_strike_5 0 rfl rfl)
theorem dX0_strike_118 : decode cX0_strike 118 = .ok (.getfield 126, 3) := dk_180 0 126 (dk_at dksX0_strike_5 1 rfl rfl)
theorem dX0_strike_121 : decode cX0_strike 121 = .ok (.iload 5, 2) := dk_21 5 (dk_at dksX0_strike_5 4 rfl rfl)
theorem dX0_strike_123 : decode cX0_strike 123 = .ok (.iaload, 1) := dk_46 (dk_at dksX0_strike_5 6 rfl rfl)
theorem dX0_strike_124 : decode cX0_strike 124 = .ok (.iload 4, 2) := dk_21 4 (dk_at dksX0_strike_5 7 rfl rfl)
theorem dX0_strike_126 : decode cX0_strike 126 = .ok (.if_icmp .ne 42, 3) := dk_160 0 42 (dk_at dksX0_strike_5 9 rfl rfl)
theorem dX0_strike_129 : decode cX0_strike 129 = .ok (.aload_n 1, 1) := dk_43 (dk_at dksX0_strike_5 12 rfl rfl)
theorem dX0_strike_130 : decode cX0_strike 130 = .ok (.iload 6, 2) := dk_21 6 (dk_at dksX0_strike_5 13 rfl rfl)
theorem dX0_strike_132 : decode cX0_strike 132 = .ok (.invokevirtual 205, 3) := dk_182 0 205 (dk_at dksX0_strike_5 15 rfl rfl)
theorem dX0_strike_135 : decode cX0_strike 135 = .ok (.ifCond .eq 33, 3) := dk_153 0 33 (dk_at dksX0_strike_5 18 rfl rfl)
theorem dX0_strike_138 : decode cX0_strike 138 = .ok (.aload_n 1, 1) := dk_43 (dk_at dksX0_strike_5 21 rfl rfl)
theorem dX0_strike_139 : decode cX0_strike 139 = .ok (.getfield 242, 3) := dk_180 0 242 (dk_at dksX0_strike_6 0 rfl rfl)
theorem dX0_strike_142 : decode cX0_strike 142 = .ok (.iload 6, 2) := dk_21 6 (dk_at dksX0_strike_6 3 rfl rfl)
theorem dX0_strike_144 : decode cX0_strike 144 = .ok (.baload, 1) := dk_51 (dk_at dksX0_strike_6 5 rfl rfl)
theorem dX0_strike_145 : decode cX0_strike 145 = .ok (.ifCond .ne 23, 3) := dk_154 0 23 (dk_at dksX0_strike_6 6 rfl rfl)
theorem dX0_strike_148 : decode cX0_strike 148 = .ok (.aload_n 0, 1) := dk_42 (dk_at dksX0_strike_6 9 rfl rfl)
theorem dX0_strike_149 : decode cX0_strike 149 = .ok (.getfield 114, 3) := dk_180 0 114 (dk_at dksX0_strike_6 10 rfl rfl)
theorem dX0_strike_152 : decode cX0_strike 152 = .ok (.iload 6, 2) := dk_21 6 (dk_at dksX0_strike_6 13 rfl rfl)
theorem dX0_strike_154 : decode cX0_strike 154 = .ok (.dup2, 1) := dk_92 (dk_at dksX0_strike_6 15 rfl rfl)
theorem dX0_strike_155 : decode cX0_strike 155 = .ok (.iaload, 1) := dk_46 (dk_at dksX0_strike_6 16 rfl rfl)
theorem dX0_strike_156 : decode cX0_strike 156 = .ok (.bipush 64, 2) := dk_16 64 (dk_at dksX0_strike_6 17 rfl rfl)
theorem dX0_strike_158 : decode cX0_strike 158 = .ok (.aload_n 0, 1) := dk_42 (dk_at dksX0_strike_6 19 rfl rfl)
theorem dX0_strike_159 : decode cX0_strike 159 = .ok (.getfield 123, 3) := dk_180 0 123 (dk_at dksX0_strike_6 20 rfl rfl)
theorem dX0_strike_162 : decode cX0_strike 162 = .ok (.iload 5, 2) := dk_21 5 (dk_at dksX0_strike_7 0 rfl rfl)
theorem dX0_strike_164 : decode cX0_strike 164 = .ok (.iaload, 1) := dk_46 (dk_at dksX0_strike_7 2 rfl rfl)
theorem dX0_strike_165 : decode cX0_strike 165 = .ok (.imul, 1) := dk_104 (dk_at dksX0_strike_7 3 rfl rfl)
theorem dX0_strike_166 : decode cX0_strike 166 = .ok (.iadd, 1) := dk_96 (dk_at dksX0_strike_7 4 rfl rfl)
theorem dX0_strike_167 : decode cX0_strike 167 = .ok (.iastore, 1) := dk_79 (dk_at dksX0_strike_7 5 rfl rfl)
theorem dX0_strike_168 : decode cX0_strike 168 = .ok (.iinc 5 1, 3) := dk_132 5 1 (dk_at dksX0_strike_7 6 rfl rfl)
theorem dX0_strike_171 : decode cX0_strike 171 = .ok (.goto (-72), 3) := dk_167 255 184 (dk_at dksX0_strike_7 9 rfl rfl)
theorem dX0_strike_174 : decode cX0_strike 174 = .ok (.aload_n 0, 1) := dk_42 (dk_at dksX0_strike_7 12 rfl rfl)
theorem dX0_strike_175 : decode cX0_strike 175 = .ok (.aload_n 1, 1) := dk_43 (dk_at dksX0_strike_7 13 rfl rfl)
theorem dX0_strike_176 : decode cX0_strike 176 = .ok (.invokevirtual 494, 3) := dk_182 1 238 (dk_at dksX0_strike_7 14 rfl rfl)
theorem dX0_strike_179 : decode cX0_strike 179 = .ok (.iconst 0, 1) := dk_3 (dk_at dksX0_strike_7 17 rfl rfl)
theorem dX0_strike_180 : decode cX0_strike 180 = .ok (.istore 5, 2) := dk_54 5 (dk_at dksX0_strike_7 18 rfl rfl)
theorem dX0_strike_182 : decode cX0_strike 182 = .ok (.iload 5, 2) := dk_21 5 (dk_at dksX0_strike_7 20 rfl rfl)
theorem dX0_strike_184 : decode cX0_strike 184 = .ok (.aload_n 1, 1) := dk_43 (dk_at dksX0_strike_7 22 rfl rfl)
theorem dX0_strike_185 : decode cX0_strike 185 = .ok (.getfield 226, 3) := dk_180 0 226 (dk_at dksX0_strike_8 0 rfl rfl)
theorem dX0_strike_188 : decode cX0_strike 188 = .ok (.if_icmp .ge 24, 3) := dk_162 0 24 (dk_at dksX0_strike_8 3 rfl rfl)
theorem dX0_strike_191 : decode cX0_strike 191 = .ok (.iload_n 3, 1) := dk_29 (dk_at dksX0_strike_8 6 rfl rfl)
theorem dX0_strike_192 : decode cX0_strike 192 = .ok (.aload_n 0, 1) := dk_42 (dk_at dksX0_strike_8 7 rfl rfl)
theorem dX0_strike_193 : decode cX0_strike 193 = .ok (.getfield 111, 3) := dk_180 0 111 (dk_at dksX0_strike_8 8 rfl rfl)
theorem dX0_strike_196 : decode cX0_strike 196 = .ok (.iload 5, 2) := dk_21 5 (dk_at dksX0_strike_8 11 rfl rfl)
theorem dX0_strike_198 : decode cX0_strike 198 = .ok (.iaload, 1) := dk_46 (dk_at dksX0_strike_8 13 rfl rfl)
theorem dX0_strike_199 : decode cX0_strike 199 = .ok (.invokestatic 439, 3) := dk_184 1 183 (dk_at dksX0_strike_8 14 rfl rfl)
theorem dX0_strike_202 : decode cX0_strike 202 = .ok (.invokestatic 189, 3) := dk_184 0 189 (dk_at dksX0_strike_8 17 rfl rfl)
theorem dX0_strike_205 : decode cX0_strike 205 = .ok (.istore_n 3, 1) := dk_62 (dk_at dksX0_strike_8 20 rfl rfl)
theorem dX0_strike_206 : decode cX0_strike 206 = .ok (.iinc 5 1, 3) := dk_132 5 1 (dk_at dksX0_strike_8 21 rfl rfl)
theorem dX0_strike_209 : decode cX0_strike 209 = .ok (.goto (-27), 3) := dk_167 255 229 (dk_at dksX0_strike_9 0 rfl rfl)
theorem dX0_strike_212 : decode cX0_strike 212 = .ok (.iconst 0, 1) := dk_3 (dk_at dksX0_strike_9 3 rfl rfl)
theorem dX0_strike_213 : decode cX0_strike 213 = .ok (.istore 5, 2) := dk_54 5 (dk_at dksX0_strike_9 4 rfl rfl)
theorem dX0_strike_215 : decode cX0_strike 215 = .ok (.iload 5, 2) := dk_21 5 (dk_at dksX0_strike_9 6 rfl rfl)
theorem dX0_strike_217 : decode cX0_strike 217 = .ok (.iconst 4, 1) := dk_7 (dk_at dksX0_strike_9 8 rfl rfl)
theorem dX0_strike_218 : decode cX0_strike 218 = .ok (.if_icmp .ge 50, 3) := dk_162 0 50 (dk_at dksX0_strike_9 9 rfl rfl)
theorem dX0_strike_221 : decode cX0_strike 221 = .ok (.aload_n 0, 1) := dk_42 (dk_at dksX0_strike_9 12 rfl rfl)
theorem dX0_strike_222 : decode cX0_strike 222 = .ok (.getfield 108, 3) := dk_180 0 108 (dk_at dksX0_strike_9 13 rfl rfl)
theorem dX0_strike_225 : decode cX0_strike 225 = .ok (.sipush 200, 3) := dk_17 0 200 (dk_at dksX0_strike_9 16 rfl rfl)
theorem dX0_strike_228 : decode cX0_strike 228 = .ok (.iload 5, 2) := dk_21 5 (dk_at dksX0_strike_9 19 rfl rfl)
theorem dX0_strike_230 : decode cX0_strike 230 = .ok (.imul, 1) := dk_104 (dk_at dksX0_strike_9 21 rfl rfl)
theorem dX0_strike_231 : decode cX0_strike 231 = .ok (.iload 4, 2) := dk_21 4 (dk_at dksX0_strike_9 22 rfl rfl)
theorem dX0_strike_233 : decode cX0_strike 233 = .ok (.iadd, 1) := dk_96 (dk_at dksX0_strike_10 0 rfl rfl)
theorem dX0_strike_234 : decode cX0_strike 234 = .ok (.aload_n 0, 1) := dk_42 (dk_at dksX0_strike_10 1 rfl rfl)
theorem dX0_strike_235 : decode cX0_strike 235 = .ok (.getfield 105, 3) := dk_180 0 105 (dk_at dksX0_strike_10 2 rfl rfl)
theorem dX0_strike_238 : decode cX0_strike 238 = .ok (.iload 5, 2) := dk_21 5 (dk_at dksX0_strike_10 5 rfl rfl)
theorem dX0_strike_240 : decode cX0_strike 240 = .ok (.iaload, 1) := dk_46 (dk_at dksX0_strike_10 7 rfl rfl)
theorem dX0_strike_241 : decode cX0_strike 241 = .ok (.iconst (-1), 1) := dk_2 (dk_at dksX0_strike_10 8 rfl rfl)
theorem dX0_strike_242 : decode cX0_strike 242 = .ok (.if_icmp .ne 7, 3) := dk_160 0 7 (dk_at dksX0_strike_10 9 rfl rfl)
theorem dX0_strike_245 : decode cX0_strike 245 = .ok (.iconst 0, 1) := dk_3 (dk_at dksX0_strike_10 12 rfl rfl)
theorem dX0_strike_246 : decode cX0_strike 246 = .ok (.goto 15, 3) := dk_167 0 15 (dk_at dksX0_strike_10 13 rfl rfl)
theorem dX0_strike_249 : decode cX0_strike 249 = .ok (.aload_n 0, 1) := dk_42 (dk_at dksX0_strike_10 16 rfl rfl)
theorem dX0_strike_250 : decode cX0_strike 250 = .ok (.getfield 111, 3) := dk_180 0 111 (dk_at dksX0_strike_10 17 rfl rfl)
theorem dX0_strike_253 : decode cX0_strike 253 = .ok (.aload_n 0, 1) := dk_42 (dk_at dksX0_strike_10 20 rfl rfl)
theorem dX0_strike_254 : decode cX0_strike 254 = .ok (.getfield 105, 3) := dk_180 0 105 (dk_at dksX0_strike_10 21 rfl rfl)
theorem dX0_strike_257 : decode cX0_strike 257 = .ok (.iload 5, 2) := dk_21 5 (dk_at dksX0_strike_11 0 rfl rfl)
theorem dX0_strike_259 : decode cX0_strike 259 = .ok (.iaload, 1) := dk_46 (dk_at dksX0_strike_11 2 rfl rfl)
theorem dX0_strike_260 : decode cX0_strike 260 = .ok (.iaload, 1) := dk_46 (dk_at dksX0_strike_11 3 rfl rfl)
theorem dX0_strike_261 : decode cX0_strike 261 = .ok (.iastore, 1) := dk_79 (dk_at dksX0_strike_11 4 rfl rfl)
theorem dX0_strike_262 : decode cX0_strike 262 = .ok (.iinc 5 1, 3) := dk_132 5 1 (dk_at dksX0_strike_11 5 rfl rfl)
theorem dX0_strike_265 : decode cX0_strike 265 = .ok (.goto (-50), 3) := dk_167 255 206 (dk_at dksX0_strike_11 8 rfl rfl)
theorem dX0_strike_268 : decode cX0_strike 268 = .ok (.iinc 4 1, 3) := dk_132 4 1 (dk_at dksX0_strike_11 11 rfl rfl)
theorem dX0_strike_271 : decode cX0_strike 271 = .ok (.goto (-181), 3) := dk_167 255 75 (dk_at dksX0_strike_11 14 rfl rfl)
theorem dX0_strike_274 : decode cX0_strike 274 = .ok (.aload_n 0, 1) := dk_42 (dk_at dksX0_strike_11 17 rfl rfl)
theorem dX0_strike_275 : decode cX0_strike 275 = .ok (.iconst 0, 1) := dk_3 (dk_at dksX0_strike_11 18 rfl rfl)
theorem dX0_strike_276 : decode cX0_strike 276 = .ok (.putfield 491, 3) := dk_181 1 235 (dk_at dksX0_strike_11 19 rfl rfl)
theorem dX0_strike_279 : decode cX0_strike 279 = .ok (.iload_n 3, 1) := dk_29 (dk_at dksX0_strike_11 22 rfl rfl)
theorem dX0_strike_280 : decode cX0_strike 280 = .ok (.ireturn, 1) := dk_172 (dk_at dksX0_strike_11 23 rfl rfl)
abbrev cX0_step : ByteArray := prog_1_method_69_code
def yX0_step : MethodName := ⟨RX0, "step", "(LPlatesSing$Shape;)V"⟩
def dkwX0_step_9 : List UInt8 := [167, 255, 186, 177]
abbrev dktX0_step_9 : List UInt8 := dkwX0_step_9 ++ []
def dkwX0_step_8 : List UInt8 := [180, 0, 114, 28, 29, 79, 42, 180, 0, 111, 28, 92, 46, 29, 16, 8, 108, 96, 79, 132, 2, 1]
abbrev dktX0_step_8 : List UInt8 := dkwX0_step_8 ++ dktX0_step_9
def dkwX0_step_7 : List UInt8 := [46, 42, 180, 0, 117, 28, 46, 100, 62, 29, 29, 42, 180, 1, 227, 104, 17, 3, 232, 108, 100, 62, 42]
abbrev dktX0_step_7 : List UInt8 := dkwX0_step_7 ++ dktX0_step_8
def dkwX0_step_6 : List UInt8 := [43, 180, 0, 226, 162, 0, 68, 43, 180, 0, 242, 28, 51, 153, 0, 6, 167, 0, 50, 42, 180, 0, 114, 28]
abbrev dktX0_step_6 : List UInt8 := dkwX0_step_6 ++ dktX0_step_7
def dkwX0_step_5 : List UInt8 := [180, 0, 117, 28, 29, 43, 28, 182, 1, 74, 108, 16, 8, 108, 79, 132, 2, 1, 167, 255, 124, 3, 61, 28]
abbrev dktX0_step_5 : List UInt8 := dkwX0_step_5 ++ dktX0_step_6
def dkwX0_step_4 : List UInt8 := [180, 0, 192, 167, 0, 8, 25, 5, 180, 0, 186, 46, 100, 104, 96, 62, 132, 4, 1, 167, 255, 183, 42]
abbrev dktX0_step_4 : List UInt8 := dkwX0_step_4 ++ dktX0_step_5
def dkwX0_step_3 : List UInt8 := [182, 1, 71, 42, 180, 0, 111, 28, 46, 42, 180, 0, 111, 25, 5, 180, 0, 186, 28, 160, 0, 11, 25, 5]
abbrev dktX0_step_3 : List UInt8 := dkwX0_step_3 ++ dktX0_step_4
def dkwX0_step_2 : List UInt8 := [162, 0, 70, 43, 180, 1, 61, 21, 4, 50, 58, 5, 25, 5, 28, 182, 1, 68, 153, 0, 46, 29, 25, 5]
abbrev dktX0_step_2 : List UInt8 := dkwX0_step_2 ++ dktX0_step_3
def dkwX0_step_1 : List UInt8 := [180, 0, 236, 28, 46, 42, 180, 0, 111, 28, 46, 104, 62, 3, 54, 4, 21, 4, 43, 180, 0, 229]
abbrev dktX0_step_1 : List UInt8 := dkwX0_step_1 ++ dktX0_step_2
def dkwX0_step_0 : List UInt8 := [3, 61, 28, 43, 180, 0, 226, 162, 0, 130, 43, 180, 0, 242, 28, 51, 153, 0, 6, 167, 0, 112, 43]
abbrev dktX0_step_0 : List UInt8 := dkwX0_step_0 ++ dktX0_step_1
theorem dksX0_step_0 : cX0_step.data.toList.drop 0 = dktX0_step_0 := by decide +kernel
theorem dksX0_step_1 : cX0_step.data.toList.drop 23 = dktX0_step_1 := dk_seg dksX0_step_0 23 rfl rfl
theorem dksX0_step_2 : cX0_step.data.toList.drop 45 = dktX0_step_2 := dk_seg dksX0_step_1 22 rfl rfl
theorem dksX0_step_3 : cX0_step.data.toList.drop 69 = dktX0_step_3 := dk_seg dksX0_step_2 24 rfl rfl
theorem dksX0_step_4 : cX0_step.data.toList.drop 93 = dktX0_step_4 := dk_seg dksX0_step_3 24 rfl rfl
theorem dksX0_step_5 : cX0_step.data.toList.drop 116 = dktX0_step_5 := dk_seg dksX0_step_4 23 rfl rfl
theorem dksX0_step_6 : cX0_step.data.toList.drop 140 = dktX0_step_6 := dk_seg dksX0_step_5 24 rfl rfl
theorem dksX0_step_7 : cX0_step.data.toList.drop 164 = dktX0_step_7 := dk_seg dksX0_step_6 24 rfl rfl
theorem dksX0_step_8 : cX0_step.data.toList.drop 187 = dktX0_step_8 := dk_seg dksX0_step_7 23 rfl rfl
theorem dksX0_step_9 : cX0_step.data.toList.drop 209 = dktX0_step_9 := dk_seg dksX0_step_8 22 rfl rfl
theorem dX0_step_0 : decode cX0_step 0 = .ok (.iconst 0, 1) := dk_3 (dk_at dksX0_step_0 0 rfl rfl)
theorem dX0_step_1 : decode cX0_step 1 = .ok (.istore_n 2, 1) := dk_61 (dk_at dksX0_step_0 1 rfl rfl)
theorem dX0_step_2 : decode cX0_step 2 = .ok (.iload_n 2, 1) := dk_28 (dk_at dksX0_step_0 2 rfl rfl)
theorem dX0_step_3 : decode cX0_step 3 = .ok (.aload_n 1, 1) := dk_43 (dk_at dksX0_step_0 3 rfl rfl)
theorem dX0_step_4 : decode cX0_step 4 = .ok (.getfield 226, 3) := dk_180 0 226 (dk_at dksX0_step_0 4 rfl rfl)
theorem dX0_step_7 : decode cX0_step 7 = .ok (.if_icmp .ge 130, 3) := dk_162 0 130 (dk_at dksX0_step_0 7 rfl rfl)
theorem dX0_step_10 : decode cX0_step 10 = .ok (.aload_n 1, 1) := dk_43 (dk_at dksX0_step_0 10 rfl rfl)
theorem dX0_step_11 : decode cX0_step 11 = .ok (.getfield 242, 3) := dk_180 0 242 (dk_at dksX0_step_0 11 rfl rfl)
theorem dX0_step_14 : decode cX0_step 14 = .ok (.iload_n 2, 1) := dk_28 (dk_at dksX0_step_0 14 rfl rfl)
theorem dX0_step_15 : decode cX0_step 15 = .ok (.baload, 1) := dk_51 (dk_at dksX0_step_0 15 rfl rfl)
theorem dX0_step_16 : decode cX0_step 16 = .ok (.ifCond .eq 6, 3) := dk_153 0 6 (dk_at dksX0_step_0 16 rfl rfl)
theorem dX0_step_19 : decode cX0_step 19 = .ok (.goto 112, 3) := dk_167 0 112 (dk_at dksX0_step_0 19 rfl rfl)
theorem dX0_step_22 : decode cX0_step 22 = .ok (.aload_n 1, 1) := dk_43 (dk_at dksX0_step_0 22 rfl rfl)
theorem dX0_step_23 : decode cX0_step 23 = .ok (.getfield 236, 3) := dk_180 0 236 (dk_at dksX0_step_1 0 rfl rfl)
theorem dX0_step_26 : decode cX0_step 26 = .ok (.iload_n 2, 1) := dk_28 (dk_at dksX0_step_1 3 rfl rfl)
theorem dX0_step_27 : decode cX0_step 27 = .ok (.iaload, 1) := dk_46 (dk_at dksX0_step_1 4 rfl rfl)
theorem dX0_step_28 : decode cX0_step 28 = .ok (.aload_n 0, 1) := dk_42 (dk_at dksX0_step_1 5 rfl rfl)
theorem dX0_step_29 : decode cX0_step 29 = .ok (.getfield 111, 3) := dk_180 0 111 (dk_at dksX0_step_1 6 rfl rfl)
theorem dX0_step_32 : decode cX0_step 32 = .ok (.iload_n 2, 1) := dk_28 (dk_at dksX0_step_1 9 rfl rfl)
theorem dX0_step_33 : decode cX0_step 33 = .ok (.iaload, 1) := dk_46 (dk_at dksX0_step_1 10 rfl rfl)
theorem dX0_step_34 : decode cX0_step 34 = .ok (.imul, 1) := dk_104 (dk_at dksX0_step_1 11 rfl rfl)
theorem dX0_step_35 : decode cX0_step 35 = .ok (.istore_n 3, 1) := dk_62 (dk_at dksX0_step_1 12 rfl rfl)
theorem dX0_step_36 : decode cX0_step 36 = .ok (.iconst 0, 1) := dk_3 (dk_at dksX0_step_1 13 rfl rfl)
theorem dX0_step_37 : decode cX0_step 37 = .ok (.istore 4, 2) := dk_54 4 (dk_at dksX0_step_1 14 rfl rfl)
theorem dX0_step_39 : decode cX0_step 39 = .ok (.iload 4, 2) := dk_21 4 (dk_at dksX0_step_1 16 rfl rfl)
theorem dX0_step_41 : decode cX0_step 41 = .ok (.aload_n 1, 1) := dk_43 (dk_at dksX0_step_1 18 rfl rfl)
theorem dX0_step_42 : decode cX0_step 42 = .ok (.getfield 229, 3) := dk_180 0 229 (dk_at dksX0_step_1 19 rfl rfl)
theorem dX0_step_45 : decode cX0_step 45 = .ok (.if_icmp .ge 70, 3) := dk_162 0 70 (dk_at dksX0_step_2 0 rfl rfl)
theorem dX0_step_48 : decode cX0_step 48 = .ok (.aload_n 1, 1) := dk_43 (dk_at dksX0_step_2 3 rfl rfl)
theorem dX0_step_49 : decode cX0_step 49 = .ok (.getfield 317, 3) := dk_180 1 61 (dk_at dksX0_step_2 4 rfl rfl)
theorem dX0_step_52 : decode cX0_step 52 = .ok (.iload 4, 2) := dk_21 4 (dk_at dksX0_step_2 7 rfl rfl)
theorem dX0_step_54 : decode cX0_step 54 = .ok (.aaload, 1) := dk_50 (dk_at dksX0_step_2 9 rfl rfl)
theorem dX0_step_55 : decode cX0_step 55 = .ok (.astore 5, 2) := dk_58 5 (dk_at dksX0_step_2 10 rfl rfl)
theorem dX0_step_57 : decode cX0_step 57 = .ok (.aload 5, 2) := dk_25 5 (dk_at dksX0_step_2 12 rfl rfl)
theorem dX0_step_59 : decode cX0_step 59 = .ok (.iload_n 2, 1) := dk_28 (dk_at dksX0_step_2 14 rfl rfl)
theorem dX0_step_60 : decode cX0_step 60 = .ok (.invokevirtual 324, 3) := dk_182 1 68 (dk_at dksX0_step_2 15 rfl rfl)
theorem dX0_step_63 : decode cX0_step 63 = .ok (.ifCond .eq 46, 3) := dk_153 0 46 (dk_at dksX0_step_2 18 rfl rfl)
theorem dX0_step_66 : decode cX0_step 66 = .ok (.iload_n 3, 1) := dk_29 (dk_at dksX0_step_2 21 rfl rfl)
theorem dX0_step_67 : decode cX0_step 67 = .ok (.aload 5, 2) := dk_25 5 (dk_at dksX0_step_2 22 rfl rfl)
theorem dX0_step_69 : decode cX0_step 69 = .ok (.invokevirtual 327, 3) := dk_182 1 71 (dk_at dksX0_step_3 0 rfl rfl)
theorem dX0_step_72 : decode cX0_step 72 = .ok (.aload_n 0, 1) := dk_42 (dk_at dksX0_step_3 3 rfl rfl)
theorem dX0_step_73 : decode cX0_step 73 = .ok (.getfield 111, 3) := dk_180 0 111 (dk_at dksX0_step_3 4 rfl rfl)
theorem dX0_step_76 : decode cX0_step 76 = .ok (.iload_n 2, 1) := dk_28 (dk_at dksX0_step_3 7 rfl rfl)
theorem dX0_step_77 : decode cX0_step 77 = .ok (.iaload, 1) := dk_46 (dk_at dksX0_step_3 8 rfl rfl)
theorem dX0_step_78 : decode cX0_step 78 = .ok (.aload_n 0, 1) := dk_42 (dk_at dksX0_step_3 9 rfl rfl)
theorem dX0_step_79 : decode cX0_step 79 = .ok (.getfield 111, 3) := dk_180 0 111 (dk_at dksX0_step_3 10 rfl rfl)
theorem dX0_step_82 : decode cX0_step 82 = .ok (.aload 5, 2) := dk_25 5 (dk_at dksX0_step_3 13 rfl rfl)
theorem dX0_step_84 : decode cX0_step 84 = .ok (.getfield 186, 3) := dk_180 0 186 (dk_at dksX0_step_3 15 rfl rfl)
theorem dX0_step_87 : decode cX0_step 87 = .ok (.iload_n 2, 1) := dk_28 (dk_at dksX0_step_3 18 rfl rfl)
theorem dX0_step_88 : decode cX0_step 88 = .ok (.if_icmp .ne 11, 3) := dk_160 0 11 (dk_at dksX0_step_3 19 rfl rfl)
theorem dX0_step_91 : decode cX0_step 91 = .ok (.aload 5, 2) := dk_25 5 (dk_at dksX0_step_3 22 rfl rfl)
theorem dX0_step_93 : decode cX0_step 93 = .ok (.getfield 192, 3) := dk_180 0 192 (dk_at dksX0_step_4 0 rfl rfl)
theorem dX0_step_96 : decode cX0_step 96 = .ok (.goto 8, 3) := dk_167 0 8 (dk_at dksX0_step_4 3 rfl rfl)
theorem dX0_step_99 : decode cX0_step 99 = .ok (.aload 5, 2) := dk_25 5 (dk_at dksX0_step_4 6 rfl rfl)
theorem dX0_step_101 : decode cX0_step 101 = .ok (.getfield 186, 3) := dk_180 0 186 (dk_at dksX0_step_4 8 rfl rfl)
theorem dX0_step_104 : decode cX0_step 104 = .ok (.iaload, 1) := dk_46 (dk_at dksX0_step_4 11 rfl rfl)
theorem dX0_step_105 : decode cX0_step 105 = .ok (.isub, 1) := dk_100 (dk_at dksX0_step_4 12 rfl rfl)
theorem dX0_step_106 : decode cX0_step 106 = .ok (.imul, 1) := dk_104 (dk_at dksX0_step_4 13 rfl rfl)
theorem dX0_step_107 : decode cX0_step 107 = .ok (.iadd, 1) := dk_96 (dk_at dksX0_step_4 14 rfl rfl)
theorem dX0_step_108 : decode cX0_step 108 = .ok (.istore_n 3, 1) := dk_62 (dk_at dksX0_step_4 15 rfl rfl)
theorem dX0_step_109 : decode cX0_step 109 = .ok (.iinc 4 1, 3) := dk_132 4 1 (dk_at dksX0_step_4 16 rfl rfl)
theorem dX0_step_112 : decode cX0_step 112 = .ok (.goto (-73), 3) := dk_167 255 183 (dk_at dksX0_step_4 19 rfl rfl)
theorem dX0_step_115 : decode cX0_step 115 = .ok (.aload_n 0, 1) := dk_42 (dk_at dksX0_step_4 22 rfl rfl)
theorem dX0_step_116 : decode cX0_step 116 = .ok (.getfield 117, 3) := dk_180 0 117 (dk_at dksX0_step_5 0 rfl rfl)
theorem dX0_step_119 : decode cX0_step 119 = .ok (.iload_n 2, 1) := dk_28 (dk_at dksX0_step_5 3 rfl rfl)
theorem dX0_step_120 : decode cX0_step 120 = .ok (.iload_n 3, 1) := dk_29 (dk_at dksX0_step_5 4 rfl rfl)
theorem dX0_step_121 : decode cX0_step 121 = .ok (.aload_n 1, 1) := dk_43 (dk_at dksX0_step_5 5 rfl rfl)
theorem dX0_step_122 : decode cX0_step 122 = .ok (.iload_n 2, 1) := dk_28 (dk_at dksX0_step_5 6 rfl rfl)
theorem dX0_step_123 : decode cX0_step 123 = .ok (.invokevirtual 330, 3) := dk_182 1 74 (dk_at dksX0_step_5 7 rfl rfl)
theorem dX0_step_126 : decode cX0_step 126 = .ok (.idiv, 1) := dk_108 (dk_at dksX0_step_5 10 rfl rfl)
theorem dX0_step_127 : decode cX0_step 127 = .ok (.bipush 8, 2) := dk_16 8 (dk_at dksX0_step_5 11 rfl rfl)
theorem dX0_step_129 : decode cX0_step 129 = .ok (.idiv, 1) := dk_108 (dk_at dksX0_step_5 13 rfl rfl)
theorem dX0_step_130 : decode cX0_step 130 = .ok (.iastore, 1) := dk_79 (dk_at dksX0_step_5 14 rfl rfl)
theorem dX0_step_131 : decode cX0_step 131 = .ok (.iinc 2 1, 3) := dk_132 2 1 (dk_at dksX0_step_5 15 rfl rfl)
theorem dX0_step_134 : decode cX0_step 134 = .ok (.goto (-132), 3) := dk_167 255 124 (dk_at dksX0_step_5 18 rfl rfl)
theorem dX0_step_137 : decode cX0_step 137 = .ok (.iconst 0, 1) := dk_3 (dk_at dksX0_step_5 21 rfl rfl)
theorem dX0_step_138 : decode cX0_step 138 = .ok (.istore_n 2, 1) := dk_61 (dk_at dksX0_step_5 22 rfl rfl)
theorem dX0_step_139 : decode cX0_step 139 = .ok (.iload_n 2, 1) := dk_28 (dk_at dksX0_step_5 23 rfl rfl)
theorem dX0_step_140 : decode cX0_step 140 = .ok (.aload_n 1, 1) := dk_43 (dk_at dksX0_step_6 0 rfl rfl)
theorem dX0_step_141 : decode cX0_step 141 = .ok (.getfield 226, 3) := dk_180 0 226 (dk_at dksX0_step_6 1 rfl rfl)
theorem dX0_step_144 : decode cX0_step 144 = .ok (.if_icmp .ge 68, 3) := dk_162 0 68 (dk_at dksX0_step_6 4 rfl rfl)
theorem dX0_step_147 : decode cX0_step 147 = .ok (.aload_n 1, 1) := dk_43 (dk_at dksX0_step_6 7 rfl rfl)
theorem dX0_step_148 : decode cX0_step 148 = .ok (.getfield 242, 3) := dk_180 0 242 (dk_at dksX0_step_6 8 rfl rfl)
theorem dX0_step_151 : decode cX0_step 151 = .ok (.iload_n 2, 1) := dk_28 (dk_at dksX0_step_6 11 rfl rfl)
theorem dX0_step_152 : decode cX0_step 152 = .ok (.baload, 1) := dk_51 (dk_at dksX0_step_6 12 rfl rfl)
theorem dX0_step_153 : decode cX0_step 153 = .ok (.ifCond .eq 6, 3) := dk_153 0 6 (dk_at dksX0_step_6 13 rfl rfl)
theorem dX0_step_156 : decode cX0_step 156 = .ok (.goto 50, 3) := dk_167 0 50 (dk_at dksX0_step_6 16 rfl rfl)
theorem dX0_step_159 : decode cX0_step 159 = .ok (.aload_n 0, 1) := dk_42 (dk_at dksX0_step_6 19 rfl rfl)
theorem dX0_step_160 : decode cX0_step 160 = .ok (.getfield 114, 3) := dk_180 0 114 (dk_at dksX0_step_6 20 rfl rfl)
theorem dX0_step_163 : decode cX0_step 163 = .ok (.iload_n 2, 1) := dk_28 (dk_at dksX0_step_6 23 rfl rfl)
theorem dX0_step_164 : decode cX0_step 164 = .ok (.iaload, 1) := dk_46 (dk_at dksX0_step_7 0 rfl rfl)
theorem dX0_step_165 : decode cX0_step 165 = .ok (.aload_n 0, 1) := dk_42 (dk_at dksX0_step_7 1 rfl rfl)
theorem dX0_step_166 : decode cX0_step 166 = .ok (.getfield 117, 3) := dk_180 0 117 (dk_at dksX0_step_7 2 rfl rfl)
theorem dX0_step_169 : decode cX0_step 169 = .ok (.iload_n 2, 1) := dk_28 (dk_at dksX0_step_7 5 rfl rfl)
theorem dX0_step_170 : decode cX0_step 170 = .ok (.iaload, 1) := dk_46 (dk_at dksX0_step_7 6 rfl rfl)
theorem dX0_step_171 : decode cX0_step 171 = .ok (.isub, 1) := dk_100 (dk_at dksX0_step_7 7 rfl rfl)
theorem dX0_step_172 : decode cX0_step 172 = .ok (.istore_n 3, 1) := dk_62 (dk_at dksX0_step_7 8 rfl rfl)
theorem dX0_step_173 : decode cX0_step 173 = .ok (.iload_n 3, 1) := dk_29 (dk_at dksX0_step_7 9 rfl rfl)
theorem dX0_step_174 : decode cX0_step 174 = .ok (.iload_n 3, 1) := dk_29 (dk_at dksX0_step_7 10 rfl rfl)
theorem dX0_step_175 : decode cX0_step 175 = .ok (.aload_n 0, 1) := dk_42 (dk_at dksX0_step_7 11 rfl rfl)
theorem dX0_step_176 : decode cX0_step 176 = .ok (.getfield 483, 3) := dk_180 1 227 (dk_at dksX0_step_7 12 rfl rfl)
theorem dX0_step_179 : decode cX0_step 179 = .ok (.imul, 1) := dk_104 (dk_at dksX0_step_7 15 rfl rfl)
theorem dX0_step_180 : decode cX0_step 180 = .ok (.sipush 1000, 3) := dk_17 3 232 (dk_at dksX0_step_7 16 rfl rfl)
theorem dX0_step_183 : decode cX0_step 183 = .ok (.idiv, 1) := dk_108 (dk_at dksX0_step_7 19 rfl rfl)
theorem dX0_step_184 : decode cX0_step 184 = .ok (.isub, 1) := dk_100 (dk_at dksX0_step_7 20 rfl rfl)
theorem dX0_step_185 : decode cX0_step 185 = .ok (.istore_n 3, 1) := dk_62 (dk_at dksX0_step_7 21 rfl rfl)
theorem dX0_step_186 : decode cX0_step 186 = .ok (.aload_n 0, 1) := dk_42 (dk_at dksX0_step_7 22 rfl rfl)
theorem dX0_step_187 : decode cX0_step 187 = .ok (.getfield 114, 3) := dk_180 0 114 (dk_at dksX0_step_8 0 rfl rfl)
theorem dX0_step_190 : decode cX0_step 190 = .ok (.iload_n 2, 1) := dk_28 (dk_at dksX0_step_8 3 rfl rfl)
theorem dX0_step_191 : decode cX0_step 191 = .ok (.iload_n 3, 1) := dk_29 (dk_at dksX0_step_8 4 rfl rfl)
theorem dX0_step_192 : decode cX0_step 192 = .ok (.iastore, 1) := dk_79 (dk_at dksX0_step_8 5 rfl rfl)
theorem dX0_step_193 : decode cX0_step 193 = .ok (.aload_n 0, 1) := dk_42 (dk_at dksX0_step_8 6 rfl rfl)
theorem dX0_step_194 : decode cX0_step 194 = .ok (.getfield 111, 3) := dk_180 0 111 (dk_at dksX0_step_8 7 rfl rfl)
theorem dX0_step_197 : decode cX0_step 197 = .ok (.iload_n 2, 1) := dk_28 (dk_at dksX0_step_8 10 rfl rfl)
theorem dX0_step_198 : decode cX0_step 198 = .ok (.dup2, 1) := dk_92 (dk_at dksX0_step_8 11 rfl rfl)
theorem dX0_step_199 : decode cX0_step 199 = .ok (.iaload, 1) := dk_46 (dk_at dksX0_step_8 12 rfl rfl)
theorem dX0_step_200 : decode cX0_step 200 = .ok (.iload_n 3, 1) := dk_29 (dk_at dksX0_step_8 13 rfl rfl)
theorem dX0_step_201 : decode cX0_step 201 = .ok (.bipush 8, 2) := dk_16 8 (dk_at dksX0_step_8 14 rfl rfl)
theorem dX0_step_203 : decode cX0_step 203 = .ok (.idiv, 1) := dk_108 (dk_at dksX0_step_8 16 rfl rfl)
theorem dX0_step_204 : decode cX0_step 204 = .ok (.iadd, 1) := dk_96 (dk_at dksX0_step_8 17 rfl rfl)
theorem dX0_step_205 : decode cX0_step 205 = .ok (.iastore, 1) := dk_79 (dk_at dksX0_step_8 18 rfl rfl)
theorem dX0_step_206 : decode cX0_step 206 = .ok (.iinc 2 1, 3) := dk_132 2 1 (dk_at dksX0_step_8 19 rfl rfl)
theorem dX0_step_209 : decode cX0_step 209 = .ok (.goto (-70), 3) := dk_167 255 186 (dk_at dksX0_step_9 0 rfl rfl)
theorem dX0_step_212 : decode cX0_step 212 = .ok (.return_, 1) := dk_177 (dk_at dksX0_step_9 3 rfl rfl)
abbrev cX0_roll : ByteArray := prog_1_method_72_code
def yX0_roll : MethodName := ⟨RX0, "roll", "(III)I"⟩
def dkwX0_roll_3 : List UInt8 := [28, 79, 42, 180, 0, 126, 42, 180, 1, 235, 29, 79, 42, 89, 180, 1, 235, 4, 96, 90, 181, 1, 235, 172]
abbrev dktX0_roll_3 : List UInt8 := dkwX0_roll_3 ++ []
def dkwX0_roll_2 : List UInt8 := [160, 0, 6, 16, 253, 172, 42, 180, 0, 120, 42, 180, 1, 235, 27, 79, 42, 180, 0, 123, 42, 180, 1, 235]
abbrev dktX0_roll_2 : List UInt8 := dkwX0_roll_2 ++ dktX0_roll_3
def dkwX0_roll_1 : List UInt8 := [153, 0, 15, 29, 133, 9, 20, 1, 100, 184, 0, 152, 154, 0, 5, 2, 172, 42, 180, 1, 235, 16, 6]
abbrev dktX0_roll_1 : List UInt8 := dkwX0_roll_1 ++ dktX0_roll_2
def dkwX0_roll_0 : List UInt8 := [27, 133, 9, 20, 0, 174, 184, 0, 152, 153, 0, 29, 28, 133, 20, 1, 241, 20, 1, 100, 184, 0, 152]
abbrev dktX0_roll_0 : List UInt8 := dkwX0_roll_0 ++ dktX0_roll_1
theorem dksX0_roll_0 : cX0_roll.data.toList.drop 0 = dktX0_roll_0 := by decide +kernel
theorem dksX0_roll_1 : cX0_roll.data.toList.drop 23 = dktX0_roll_1 := dk_seg dksX0_roll_0 23 rfl rfl
theorem dksX0_roll_2 : cX0_roll.data.toList.drop 46 = dktX0_roll_2 := dk_seg dksX0_roll_1 23 rfl rfl
theorem dksX0_roll_3 : cX0_roll.data.toList.drop 70 = dktX0_roll_3 := dk_seg dksX0_roll_2 24 rfl rfl
theorem dX0_roll_0 : decode cX0_roll 0 = .ok (.iload_n 1, 1) := dk_27 (dk_at dksX0_roll_0 0 rfl rfl)
theorem dX0_roll_1 : decode cX0_roll 1 = .ok (.i2l, 1) := dk_133 (dk_at dksX0_roll_0 1 rfl rfl)
theorem dX0_roll_2 : decode cX0_roll 2 = .ok (.lconst 0, 1) := dk_9 (dk_at dksX0_roll_0 2 rfl rfl)
theorem dX0_roll_3 : decode cX0_roll 3 = .ok (.ldc2_w 174, 3) := dk_20 0 174 (dk_at dksX0_roll_0 3 rfl rfl)
theorem dX0_roll_6 : decode cX0_roll 6 = .ok (.invokestatic 152, 3) := dk_184 0 152 (dk_at dksX0_roll_0 6 rfl rfl)
theorem dX0_roll_9 : decode cX0_roll 9 = .ok (.ifCond .eq 29, 3) := dk_153 0 29 (dk_at dksX0_roll_0 9 rfl rfl)
theorem dX0_roll_12 : decode cX0_roll 12 = .ok (.iload_n 2, 1) := dk_28 (dk_at dksX0_roll_0 12 rfl rfl)
theorem dX0_roll_13 : decode cX0_roll 13 = .ok (.i2l, 1) := dk_133 (dk_at dksX0_roll_0 13 rfl rfl)
theorem dX0_roll_14 : decode cX0_roll 14 = .ok (.ldc2_w 497, 3) := dk_20 1 241 (dk_at dksX0_roll_0 14 rfl rfl)
theorem dX0_roll_17 : decode cX0_roll 17 = .ok (.ldc2_w 356, 3) := dk_20 1 100 (dk_at dksX0_roll_0 17 rfl rfl)
theorem dX0_roll_20 : decode cX0_roll 20 = .ok (.invokestatic 152, 3) := dk_184 0 152 (dk_at dksX0_roll_0 20 rfl rfl)
theorem dX0_roll_23 : decode cX0_roll 23 = .ok (.ifCond .eq 15, 3) := dk_153 0 15 (dk_at dksX0_roll_1 0 rfl rfl)
theorem dX0_roll_26 : decode cX0_roll 26 = .ok (.iload_n 3, 1) := dk_29 (dk_at dksX0_roll_1 3 rfl rfl)
theorem dX0_roll_27 : decode cX0_roll 27 = .ok (.i2l, 1) := dk_133 (dk_at dksX0_roll_1 4 rfl rfl)
theorem dX0_roll_28 : decode cX0_roll 28 = .ok (.lconst 0, 1) := dk_9 (dk_at dksX0_roll_1 5 rfl rfl)
theorem dX0_roll_29 : decode cX0_roll 29 = .ok (.ldc2_w 356, 3) := dk_20 1 100 (dk_at dksX0_roll_1 6 rfl rfl)
theorem dX0_roll_32 : decode cX0_roll 32 = .ok (.invokestatic 152, 3) := dk_184 0 152 (dk_at dksX0_roll_1 9 rfl rfl)
theorem dX0_roll_35 : decode cX0_roll 35 = .ok (.ifCond .ne 5, 3) := dk_154 0 5 (dk_at dksX0_roll_1 12 rfl rfl)
theorem dX0_roll_38 : decode cX0_roll 38 = .ok (.iconst (-1), 1) := dk_2 (dk_at dksX0_roll_1 15 rfl rfl)
theorem dX0_roll_39 : decode cX0_roll 39 = .ok (.ireturn, 1) := dk_172 (dk_at dksX0_roll_1 16 rfl rfl)
theorem dX0_roll_40 : decode cX0_roll 40 = .ok (.aload_n 0, 1) := dk_42 (dk_at dksX0_roll_1 17 rfl rfl)
theorem dX0_roll_41 : decode cX0_roll 41 = .ok (.getfield 491, 3) := dk_180 1 235 (dk_at dksX0_roll_1 18 rfl rfl)
theorem dX0_roll_44 : decode cX0_roll 44 = .ok (.bipush 6, 2) := dk_16 6 (dk_at dksX0_roll_1 21 rfl rfl)
theorem dX0_roll_46 : decode cX0_roll 46 = .ok (.if_icmp .ne 6, 3) := dk_160 0 6 (dk_at dksX0_roll_2 0 rfl rfl)
theorem dX0_roll_49 : decode cX0_roll 49 = .ok (.bipush (-3), 2) := dk_16 253 (dk_at dksX0_roll_2 3 rfl rfl)
theorem dX0_roll_51 : decode cX0_roll 51 = .ok (.ireturn, 1) := dk_172 (dk_at dksX0_roll_2 5 rfl rfl)
theorem dX0_roll_52 : decode cX0_roll 52 = .ok (.aload_n 0, 1) := dk_42 (dk_at dksX0_roll_2 6 rfl rfl)
theorem dX0_roll_53 : decode cX0_roll 53 = .ok (.getfield 120, 3) := dk_180 0 120 (dk_at dksX0_roll_2 7 rfl rfl)
theorem dX0_roll_56 : decode cX0_roll 56 = .ok (.aload_n 0, 1) := dk_42 (dk_at dksX0_roll_2 10 rfl rfl)
theorem dX0_roll_57 : decode cX0_roll 57 = .ok (.getfield 491, 3) := dk_180 1 235 (dk_at dksX0_roll_2 11 rfl rfl)
theorem dX0_roll_60 : decode cX0_roll 60 = .ok (.iload_n 1, 1) := dk_27 (dk_at dksX0_roll_2 14 rfl rfl)
theorem dX0_roll_61 : decode cX0_roll 61 = .ok (.iastore, 1) := dk_79 (dk_at dksX0_roll_2 15 rfl rfl)
theorem dX0_roll_62 : decode cX0_roll 62 = .ok (.aload_n 0, 1) := dk_42 (dk_at dksX0_roll_2 16 rfl rfl)
theorem dX0_roll_63 : decode cX0_roll 63 = .ok (.getfield 123, 3) := dk_180 0 123 (dk_at dksX0_roll_2 17 rfl rfl)
theorem dX0_roll_66 : decode cX0_roll 66 = .ok (.aload_n 0, 1) := dk_42 (dk_at dksX0_roll_2 20 rfl rfl)
theorem dX0_roll_67 : decode cX0_roll 67 = .ok (.getfield 491, 3) := dk_180 1 235 (dk_at dksX0_roll_2 21 rfl rfl)
theorem dX0_roll_70 : decode cX0_roll 70 = .ok (.iload_n 2, 1) := dk_28 (dk_at dksX0_roll_3 0 rfl rfl)
theorem dX0_roll_71 : decode cX0_roll 71 = .ok (.iastore, 1) := dk_79 (dk_at dksX0_roll_3 1 rfl rfl)
theorem dX0_roll_72 : decode cX0_roll 72 = .ok (.aload_n 0, 1) := dk_42 (dk_at dksX0_roll_3 2 rfl rfl)
theorem dX0_roll_73 : decode cX0_roll 73 = .ok (.getfield 126, 3) := dk_180 0 126 (dk_at dksX0_roll_3 3 rfl rfl)
theorem dX0_roll_76 : decode cX0_roll 76 = .ok (.aload_n 0, 1) := dk_42 (dk_at dksX0_roll_3 6 rfl rfl)
theorem dX0_roll_77 : decode cX0_roll 77 = .ok (.getfield 491, 3) := dk_180 1 235 (dk_at dksX0_roll_3 7 rfl rfl)
theorem dX0_roll_80 : decode cX0_roll 80 = .ok (.iload_n 3, 1) := dk_29 (dk_at dksX0_roll_3 10 rfl rfl)
theorem dX0_roll_81 : decode cX0_roll 81 = .ok (.iastore, 1) := dk_79 (dk_at dksX0_roll_3 11 rfl rfl)
theorem dX0_roll_82 : decode cX0_roll 82 = .ok (.aload_n 0, 1) := dk_42 (dk_at dksX0_roll_3 12 rfl rfl)
theorem dX0_roll_83 : decode cX0_roll 83 = .ok (.dup, 1) := dk_89 (dk_at dksX0_roll_3 13 rfl rfl)
theorem dX0_roll_84 : decode cX0_roll 84 = .ok (.getfield 491, 3) := dk_180 1 235 (dk_at dksX0_roll_3 14 rfl rfl)
theorem dX0_roll_87 : decode cX0_roll 87 = .ok (.iconst 1, 1) := dk_4 (dk_at dksX0_roll_3 17 rfl rfl)
theorem dX0_roll_88 : decode cX0_roll 88 = .ok (.iadd, 1) := dk_96 (dk_at dksX0_roll_3 18 rfl rfl)
theorem dX0_roll_89 : decode cX0_roll 89 = .ok (.dup_x1, 1) := dk_90 (dk_at dksX0_roll_3 19 rfl rfl)
theorem dX0_roll_90 : decode cX0_roll 90 = .ok (.putfield 491, 3) := dk_181 1 235 (dk_at dksX0_roll_3 20 rfl rfl)
theorem dX0_roll_93 : decode cX0_roll 93 = .ok (.ireturn, 1) := dk_172 (dk_at dksX0_roll_3 23 rfl rfl)
abbrev cX0_rolled : ByteArray := prog_1_method_73_code
def yX0_rolled : MethodName := ⟨RX0, "rolled", "(II)I"⟩
def dkwX0_rolled_1 : List UInt8 := [42, 180, 1, 235, 154, 0, 8, 16, 252, 167, 0, 9, 42, 45, 28, 182, 1, 245, 172]
abbrev dktX0_rolled_1 : List UInt8 := dkwX0_rolled_1 ++ []
def dkwX0_rolled_0 : List UInt8 := [42, 27, 182, 0, 201, 78, 45, 198, 0, 15, 28, 133, 10, 20, 1, 243, 184, 0, 152, 154, 0, 5, 2, 172]
abbrev dktX0_rolled_0 : List UInt8 := dkwX0_rolled_0 ++ dktX0_rolled_1
theorem dksX0_rolled_0 : cX0_rolled.data.toList.drop 0 = dktX0_rolled_0 := by decide +kernel
theorem dksX0_rolled_1 : cX0_rolled.data.toList.drop 24 = dktX0_rolled_1 := dk_seg dksX0_rolled_0 24 rfl rfl
theorem dX0_rolled_0 : decode cX0_rolled 0 = .ok (.aload_n 0, 1) := dk_42 (dk_at dksX0_rolled_0 0 rfl rfl)
theorem dX0_rolled_1 : decode cX0_rolled 1 = .ok (.iload_n 1, 1) := dk_27 (dk_at dksX0_rolled_0 1 rfl rfl)
theorem dX0_rolled_2 : decode cX0_rolled 2 = .ok (.invokevirtual 201, 3) := dk_182 0 201 (dk_at dksX0_rolled_0 2 rfl rfl)
theorem dX0_rolled_5 : decode cX0_rolled 5 = .ok (.astore_n 3, 1) := dk_78 (dk_at dksX0_rolled_0 5 rfl rfl)
theorem dX0_rolled_6 : decode cX0_rolled 6 = .ok (.aload_n 3, 1) := dk_45 (dk_at dksX0_rolled_0 6 rfl rfl)
theorem dX0_rolled_7 : decode cX0_rolled 7 = .ok (.ifnull 15, 3) := dk_198 0 15 (dk_at dksX0_rolled_0 7 rfl rfl)
theorem dX0_rolled_10 : decode cX0_rolled 10 = .ok (.iload_n 2, 1) := dk_28 (dk_at dksX0_rolled_0 10 rfl rfl)
theorem dX0_rolled_11 : decode cX0_rolled 11 = .ok (.i2l, 1) := dk_133 (dk_at dksX0_rolled_0 11 rfl rfl)
theorem dX0_rolled_12 : decode cX0_rolled 12 = .ok (.lconst 1, 1) := dk_10 (dk_at dksX0_rolled_0 12 rfl rfl)
theorem dX0_rolled_13 : decode cX0_rolled 13 = .ok (.ldc2_w 499, 3) := dk_20 1 243 (dk_at dksX0_rolled_0 13 rfl rfl)
theorem dX0_rolled_16 : decode cX0_rolled 16 = .ok (.invokestatic 152, 3) := dk_184 0 152 (dk_at dksX0_rolled_0 16 rfl rfl)
theorem dX0_rolled_19 : decode cX0_rolled 19 = .ok (.ifCond .ne 5, 3) := dk_154 0 5 (dk_at dksX0_rolled_0 19 rfl rfl)
theorem dX0_rolled_22 : decode cX0_rolled 22 = .ok (.iconst (-1), 1) := dk_2 (dk_at dksX0_rolled_0 22 rfl rfl)
theorem dX0_rolled_23 : decode cX0_rolled 23 = .ok (.ireturn, 1) := dk_172 (dk_at dksX0_rolled_0 23 rfl rfl)
theorem dX0_rolled_24 : decode cX0_rolled 24 = .ok (.aload_n 0, 1) := dk_42 (dk_at dksX0_rolled_1 0 rfl rfl)
theorem dX0_rolled_25 : decode cX0_rolled 25 = .ok (.getfield 491, 3) := dk_180 1 235 (dk_at dksX0_rolled_1 1 rfl rfl)
theorem dX0_rolled_28 : decode cX0_rolled 28 = .ok (.ifCond .ne 8, 3) := dk_154 0 8 (dk_at dksX0_rolled_1 4 rfl rfl)
theorem dX0_rolled_31 : decode cX0_rolled 31 = .ok (.bipush (-4), 2) := dk_16 252 (dk_at dksX0_rolled_1 7 rfl rfl)
theorem dX0_rolled_33 : decode cX0_rolled 33 = .ok (.goto 9, 3) := dk_167 0 9 (dk_at dksX0_rolled_1 9 rfl rfl)
theorem dX0_rolled_36 : decode cX0_rolled 36 = .ok (.aload_n 0, 1) := dk_42 (dk_at dksX0_rolled_1 12 rfl rfl)
theorem dX0_rolled_37 : decode cX0_rolled 37 = .ok (.aload_n 3, 1) := dk_45 (dk_at dksX0_rolled_1 13 rfl rfl)
theorem dX0_rolled_38 : decode cX0_rolled 38 = .ok (.iload_n 2, 1) := dk_28 (dk_at dksX0_rolled_1 14 rfl rfl)
theorem dX0_rolled_39 : decode cX0_rolled 39 = .ok (.invokevirtual 501, 3) := dk_182 1 245 (dk_at dksX0_rolled_1 15 rfl rfl)
theorem dX0_rolled_42 : decode cX0_rolled 42 = .ok (.ireturn, 1) := dk_172 (dk_at dksX0_rolled_1 18 rfl rfl)
abbrev cX0_heard : ByteArray := prog_1_method_75_code
def yX0_heard : MethodName := ⟨RX0, "heard", "(II)I"⟩
def dkwX0_heard_2 : List UInt8 := [96, 4, 100, 46, 172]
abbrev dktX0_heard_2 : List UInt8 := dkwX0_heard_2 ++ []
def dkwX0_heard_1 : List UInt8 := [153, 0, 11, 42, 27, 182, 1, 249, 154, 0, 6, 18, 225, 172, 42, 180, 0, 108, 17, 0, 200, 27, 104, 28]
abbrev dktX0_heard_1 : List UInt8 := dkwX0_heard_1 ++ dktX0_heard_2
def dkwX0_heard_0 : List UInt8 := [27, 133, 9, 20, 1, 168, 184, 0, 152, 153, 0, 25, 28, 133, 10, 42, 180, 1, 232, 133, 184, 0, 152]
abbrev dktX0_heard_0 : List UInt8 := dkwX0_heard_0 ++ dktX0_heard_1
theorem dksX0_heard_0 : cX0_heard.data.toList.drop 0 = dktX0_heard_0 := by decide +kernel
theorem dksX0_heard_1 : cX0_heard.data.toList.drop 23 = dktX0_heard_1 := dk_seg dksX0_heard_0 23 rfl rfl
theorem dksX0_heard_2 : cX0_heard.data.toList.drop 47 = dktX0_heard_2 := dk_seg dksX0_heard_1 24 rfl rfl
theorem dX0_heard_0 : decode cX0_heard 0 = .ok (.iload_n 1, 1) := dk_27 (dk_at dksX0_heard_0 0 rfl rfl)
theorem dX0_heard_1 : decode cX0_heard 1 = .ok (.i2l, 1) := dk_133 (dk_at dksX0_heard_0 1 rfl rfl)
theorem dX0_heard_2 : decode cX0_heard 2 = .ok (.lconst 0, 1) := dk_9 (dk_at dksX0_heard_0 2 rfl rfl)
theorem dX0_heard_3 : decode cX0_heard 3 = .ok (.ldc2_w 424, 3) := dk_20 1 168 (dk_at dksX0_heard_0 3 rfl rfl)
theorem dX0_heard_6 : decode cX0_heard 6 = .ok (.invokestatic 152, 3) := dk_184 0 152 (dk_at dksX0_heard_0 6 rfl rfl)
theorem dX0_heard_9 : decode cX0_heard 9 = .ok (.ifCond .eq 25, 3) := dk_153 0 25 (dk_at dksX0_heard_0 9 rfl rfl)
theorem dX0_heard_12 : decode cX0_heard 12 = .ok (.iload_n 2, 1) := dk_28 (dk_at dksX0_heard_0 12 rfl rfl)
theorem dX0_heard_13 : decode cX0_heard 13 = .ok (.i2l, 1) := dk_133 (dk_at dksX0_heard_0 13 rfl rfl)
theorem dX0_heard_14 : decode cX0_heard 14 = .ok (.lconst 1, 1) := dk_10 (dk_at dksX0_heard_0 14 rfl rfl)
theorem dX0_heard_15 : decode cX0_heard 15 = .ok (.aload_n 0, 1) := dk_42 (dk_at dksX0_heard_0 15 rfl rfl)
theorem dX0_heard_16 : decode cX0_heard 16 = .ok (.getfield 488, 3) := dk_180 1 232 (dk_at dksX0_heard_0 16 rfl rfl)
theorem dX0_heard_19 : decode cX0_heard 19 = .ok (.i2l, 1) := dk_133 (dk_at dksX0_heard_0 19 rfl rfl)
theorem dX0_heard_20 : decode cX0_heard 20 = .ok (.invokestatic 152, 3) := dk_184 0 152 (dk_at dksX0_heard_0 20 rfl rfl)
theorem dX0_heard_23 : decode cX0_heard 23 = .ok (.ifCond .eq 11, 3) := dk_153 0 11 (dk_at dksX0_heard_1 0 rfl rfl)
theorem dX0_heard_26 : decode cX0_heard 26 = .ok (.aload_n 0, 1) := dk_42 (dk_at dksX0_heard_1 3 rfl rfl)
theorem dX0_heard_27 : decode cX0_heard 27 = .ok (.iload_n 1, 1) := dk_27 (dk_at dksX0_heard_1 4 rfl rfl)
theorem dX0_heard_28 : decode cX0_heard 28 = .ok (.invokevirtual 505, 3) := dk_182 1 249 (dk_at dksX0_heard_1 5 rfl rfl)
theorem dX0_heard_31 : decode cX0_heard 31 = .ok (.ifCond .ne 6, 3) := dk_154 0 6 (dk_at dksX0_heard_1 8 rfl rfl)
theorem dX0_heard_34 : decode cX0_heard 34 = .ok (.ldc 225, 2) := dk_18 225 (dk_at dksX0_heard_1 11 rfl rfl)
theorem dX0_heard_36 : decode cX0_heard 36 = .ok (.ireturn, 1) := dk_172 (dk_at dksX0_heard_1 13 rfl rfl)
theorem dX0_heard_37 : decode cX0_heard 37 = .ok (.aload_n 0, 1) := dk_42 (dk_at dksX0_heard_1 14 rfl rfl)
theorem dX0_heard_38 : decode cX0_heard 38 = .ok (.getfield 108, 3) := dk_180 0 108 (dk_at dksX0_heard_1 15 rfl rfl)
theorem dX0_heard_41 : decode cX0_heard 41 = .ok (.sipush 200, 3) := dk_17 0 200 (dk_at dksX0_heard_1 18 rfl rfl)
theorem dX0_heard_44 : decode cX0_heard 44 = .ok (.iload_n 1, 1) := dk_27 (dk_at dksX0_heard_1 21 rfl rfl)
theorem dX0_heard_45 : decode cX0_heard 45 = .ok (.imul, 1) := dk_104 (dk_at dksX0_heard_1 22 rfl rfl)
theorem dX0_heard_46 : decode cX0_heard 46 = .ok (.iload_n 2, 1) := dk_28 (dk_at dksX0_heard_1 23 rfl rfl)
theorem dX0_heard_47 : decode cX0_heard 47 = .ok (.iadd, 1) := dk_96 (dk_at dksX0_heard_2 0 rfl rfl)
theorem dX0_heard_48 : decode cX0_heard 48 = .ok (.iconst 1, 1) := dk_4 (dk_at dksX0_heard_2 1 rfl rfl)
theorem dX0_heard_49 : decode cX0_heard 49 = .ok (.isub, 1) := dk_100 (dk_at dksX0_heard_2 2 rfl rfl)
theorem dX0_heard_50 : decode cX0_heard 50 = .ok (.iaload, 1) := dk_46 (dk_at dksX0_heard_2 3 rfl rfl)
theorem dX0_heard_51 : decode cX0_heard 51 = .ok (.ireturn, 1) := dk_172 (dk_at dksX0_heard_2 4 rfl rfl)
abbrev cX0_hasHeard : ByteArray := prog_1_method_74_code
def yX0_hasHeard : MethodName := ⟨RX0, "hasHeard", "(I)Z"⟩
def dkwX0_hasHeard_0 : List UInt8 := [42, 180, 1, 232, 158, 0, 17, 42, 180, 0, 105, 27, 46, 2, 159, 0, 7, 4, 167, 0, 4, 3, 172]
abbrev dktX0_hasHeard_0 : List UInt8 := dkwX0_hasHeard_0 ++ []
theorem dksX0_hasHeard_0 : cX0_hasHeard.data.toList.drop 0 = dktX0_hasHeard_0 := by decide +kernel
theorem dX0_hasHeard_0 : decode cX0_hasHeard 0 = .ok (.aload_n 0, 1) := dk_42 (dk_at dksX0_hasHeard_0 0 rfl rfl)
theorem dX0_hasHeard_1 : decode cX0_hasHeard 1 = .ok (.getfield 488, 3) := dk_180 1 232 (dk_at dksX0_hasHeard_0 1 rfl rfl)
theorem dX0_hasHeard_4 : decode cX0_hasHeard 4 = .ok (.ifCond .le 17, 3) := dk_158 0 17 (dk_at dksX0_hasHeard_0 4 rfl rfl)
theorem dX0_hasHeard_7 : decode cX0_hasHeard 7 = .ok (.aload_n 0, 1) := dk_42 (dk_at dksX0_hasHeard_0 7 rfl rfl)
theorem dX0_hasHeard_8 : decode cX0_hasHeard 8 = .ok (.getfield 105, 3) := dk_180 0 105 (dk_at dksX0_hasHeard_0 8 rfl rfl)
theorem dX0_hasHeard_11 : decode cX0_hasHeard 11 = .ok (.iload_n 1, 1) := dk_27 (dk_at dksX0_hasHeard_0 11 rfl rfl)
theorem dX0_hasHeard_12 : decode cX0_hasHeard 12 = .ok (.iaload, 1) := dk_46 (dk_at dksX0_hasHeard_0 12 rfl rfl)
theorem dX0_hasHeard_13 : decode cX0_hasHeard 13 = .ok (.iconst (-1), 1) := dk_2 (dk_at dksX0_hasHeard_0 13 rfl rfl)
theorem dX0_hasHeard_14 : decode cX0_hasHeard 14 = .ok (.if_icmp .eq 7, 3) := dk_159 0 7 (dk_at dksX0_hasHeard_0 14 rfl rfl)
theorem dX0_hasHeard_17 : decode cX0_hasHeard 17 = .ok (.iconst 1, 1) := dk_4 (dk_at dksX0_hasHeard_0 17 rfl rfl)
theorem dX0_hasHeard_18 : decode cX0_hasHeard 18 = .ok (.goto 4, 3) := dk_167 0 4 (dk_at dksX0_hasHeard_0 18 rfl rfl)
theorem dX0_hasHeard_21 : decode cX0_hasHeard 21 = .ok (.iconst 0, 1) := dk_3 (dk_at dksX0_hasHeard_0 21 rfl rfl)
theorem dX0_hasHeard_22 : decode cX0_hasHeard 22 = .ok (.ireturn, 1) := dk_172 (dk_at dksX0_hasHeard_0 22 rfl rfl)
abbrev cX0_loud : ByteArray := prog_1_method_76_code
def yX0_loud : MethodName := ⟨RX0, "loud", "(II)I"⟩
def dkwX0_loud_4 : List UInt8 := [167, 0, 14, 42, 180, 1, 232, 21, 4, 5, 96, 184, 0, 180, 172]
abbrev dktX0_loud_4 : List UInt8 := dkwX0_loud_4 ++ []
def dkwX0_loud_3 : List UInt8 := [21, 6, 28, 164, 0, 7, 21, 5, 54, 4, 132, 5, 1, 167, 255, 209, 28, 2, 160, 0, 7, 29]
abbrev dktX0_loud_3 : List UInt8 := dkwX0_loud_3 ++ dktX0_loud_4
def dkwX0_loud_2 : List UInt8 := [180, 0, 108, 17, 0, 200, 27, 104, 21, 5, 96, 46, 184, 1, 183, 54, 6, 29, 21, 6, 184, 0, 189, 62]
abbrev dktX0_loud_2 : List UInt8 := dkwX0_loud_2 ++ dktX0_loud_3
def dkwX0_loud_1 : List UInt8 := [154, 0, 6, 16, 252, 172, 3, 62, 2, 54, 4, 3, 54, 5, 21, 5, 42, 180, 1, 232, 162, 0, 44, 42]
abbrev dktX0_loud_1 : List UInt8 := dkwX0_loud_1 ++ dktX0_loud_2
def dkwX0_loud_0 : List UInt8 := [27, 133, 9, 20, 1, 168, 184, 0, 152, 153, 0, 8, 28, 2, 162, 0, 5, 2, 172, 42, 27, 182, 1, 249]
abbrev dktX0_loud_0 : List UInt8 := dkwX0_loud_0 ++ dktX0_loud_1
theorem dksX0_loud_0 : cX0_loud.data.toList.drop 0 = dktX0_loud_0 := by decide +kernel
theorem dksX0_loud_1 : cX0_loud.data.toList.drop 24 = dktX0_loud_1 := dk_seg dksX0_loud_0 24 rfl rfl
theorem dksX0_loud_2 : cX0_loud.data.toList.drop 48 = dktX0_loud_2 := dk_seg dksX0_loud_1 24 rfl rfl
theorem dksX0_loud_3 : cX0_loud.data.toList.drop 72 = dktX0_loud_3 := dk_seg dksX0_loud_2 24 rfl rfl
theorem dksX0_loud_4 : cX0_loud.data.toList.drop 94 = dktX0_loud_4 := dk_seg dksX0_loud_3 22 rfl rfl
theorem dX0_loud_0 : decode cX0_loud 0 = .ok (.iload_n 1, 1) := dk_27 (dk_at dksX0_loud_0 0 rfl rfl)
theorem dX0_loud_1 : decode cX0_loud 1 = .ok (.i2l, 1) := dk_133 (dk_at dksX0_loud_0 1 rfl rfl)
theorem dX0_loud_2 : decode cX0_loud 2 = .ok (.lconst 0, 1) := dk_9 (dk_at dksX0_loud_0 2 rfl rfl)
theorem dX0_loud_3 : decode cX0_loud 3 = .ok (.ldc2_w 424, 3) := dk_20 1 168 (dk_at dksX0_loud_0 3 rfl rfl)
theorem dX0_loud_6 : decode cX0_loud 6 = .ok (.invokestatic 152, 3) := dk_184 0 152 (dk_at dksX0_loud_0 6 rfl rfl)
theorem dX0_loud_9 : decode cX0_loud 9 = .ok (.ifCond .eq 8, 3) := dk_153 0 8 (dk_at dksX0_loud_0 9 rfl rfl)
theorem dX0_loud_12 : decode cX0_loud 12 = .ok (.iload_n 2, 1) := dk_28 (dk_at dksX0_loud_0 12 rfl rfl)
theorem dX0_loud_13 : decode cX0_loud 13 = .ok (.iconst (-1), 1) := dk_2 (dk_at dksX0_loud_0 13 rfl rfl)
theorem dX0_loud_14 : decode cX0_loud 14 = .ok (.if_icmp .ge 5, 3) := dk_162 0 5 (dk_at dksX0_loud_0 14 rfl rfl)
theorem dX0_loud_17 : decode cX0_loud 17 = .ok (.iconst (-1), 1) := dk_2 (dk_at dksX0_loud_0 17 rfl rfl)
theorem dX0_loud_18 : decode cX0_loud 18 = .ok (.ireturn, 1) := dk_172 (dk_at dksX0_loud_0 18 rfl rfl)
theorem dX0_loud_19 : decode cX0_loud 19 = .ok (.aload_n 0, 1) := dk_42 (dk_at dksX0_loud_0 19 rfl rfl)
theorem dX0_loud_20 : decode cX0_loud 20 = .ok (.iload_n 1, 1) := dk_27 (dk_at dksX0_loud_0 20 rfl rfl)
theorem dX0_loud_21 : decode cX0_loud 21 = .ok (.invokevirtual 505, 3) := dk_182 1 249 (dk_at dksX0_loud_0 21 rfl rfl)
theorem dX0_loud_24 : decode cX0_loud 24 = .ok (.ifCond .ne 6, 3) := dk_154 0 6 (dk_at dksX0_loud_1 0 rfl rfl)
theorem dX0_loud_27 : decode cX0_loud 27 = .ok (.bipush (-4), 2) := dk_16 252 (dk_at dksX0_loud_1 3 rfl rfl)
theorem dX0_loud_29 : decode cX0_loud 29 = .ok (.ireturn, 1) := dk_172 (dk_at dksX0_loud_1 5 rfl rfl)
theorem dX0_loud_30 : decode cX0_loud 30 = .ok (.iconst 0, 1) := dk_3 (dk_at dksX0_loud_1 6 rfl rfl)
theorem dX0_loud_31 : decode cX0_loud 31 = .ok (.istore_n 3, 1) := dk_62 (dk_at dksX0_loud_1 7 rfl rfl)
theorem dX0_loud_32 : decode cX0_loud 32 = .ok (.iconst (-1), 1) := dk_2 (dk_at dksX0_loud_1 8 rfl rfl)
theorem dX0_loud_33 : decode cX0_loud 33 = .ok (.istore 4, 2) := dk_54 4 (dk_at dksX0_loud_1 9 rfl rfl)
theorem dX0_loud_35 : decode cX0_loud 35 = .ok (.iconst 0, 1) := dk_3 (dk_at dksX0_loud_1 11 rfl rfl)
theorem dX0_loud_36 : decode cX0_loud 36 = .ok (.istore 5, 2) := dk_54 5 (dk_at dksX0_loud_1 12 rfl rfl)
theorem dX0_loud_38 : decode cX0_loud 38 = .ok (.iload 5, 2) := dk_21 5 (dk_at dksX0_loud_1 14 rfl rfl)
theorem dX0_loud_40 : decode cX0_loud 40 = .ok (.aload_n 0, 1) := dk_42 (dk_at dksX0_loud_1 16 rfl rfl)
theorem dX0_loud_41 : decode cX0_loud 41 = .ok (.getfield 488, 3) := dk_180 1 232 (dk_at dksX0_loud_1 17 rfl rfl)
theorem dX0_loud_44 : decode cX0_loud 44 = .ok (.if_icmp .ge 44, 3) := dk_162 0 44 (dk_at dksX0_loud_1 20 rfl rfl)
theorem dX0_loud_47 : decode cX0_loud 47 = .ok (.aload_n 0, 1) := dk_42 (dk_at dksX0_loud_1 23 rfl rfl)
theorem dX0_loud_48 : decode cX0_loud 48 = .ok (.getfield 108, 3) := dk_180 0 108 (dk_at dksX0_loud_2 0 rfl rfl)
theorem dX0_loud_51 : decode cX0_loud 51 = .ok (.sipush 200, 3) := dk_17 0 200 (dk_at dksX0_loud_2 3 rfl rfl)
theorem dX0_loud_54 : decode cX0_loud 54 = .ok (.iload_n 1, 1) := dk_27 (dk_at dksX0_loud_2 6 rfl rfl)
theorem dX0_loud_55 : decode cX0_loud 55 = .ok (.imul, 1) := dk_104 (dk_at dksX0_loud_2 7 rfl rfl)
theorem dX0_loud_56 : decode cX0_loud 56 = .ok (.iload 5, 2) := dk_21 5 (dk_at dksX0_loud_2 8 rfl rfl)
theorem dX0_loud_58 : decode cX0_loud 58 = .ok (.iadd, 1) := dk_96 (dk_at dksX0_loud_2 10 rfl rfl)
theorem dX0_loud_59 : decode cX0_loud 59 = .ok (.iaload, 1) := dk_46 (dk_at dksX0_loud_2 11 rfl rfl)
theorem dX0_loud_60 : decode cX0_loud 60 = .ok (.invokestatic 439, 3) := dk_184 1 183 (dk_at dksX0_loud_2 12 rfl rfl)
theorem dX0_loud_63 : decode cX0_loud 63 = .ok (.istore 6, 2) := dk_54 6 (dk_at dksX0_loud_2 15 rfl rfl)
theorem dX0_loud_65 : decode cX0_loud 65 = .ok (.iload_n 3, 1) := dk_29 (dk_at dksX0_loud_2 17 rfl rfl)
theorem dX0_loud_66 : decode cX0_loud 66 = .ok (.iload 6, 2) := dk_21 6 (dk_at dksX0_loud_2 18 rfl rfl)
theorem dX0_loud_68 : decode cX0_loud 68 = .ok (.invokestatic 189, 3) := dk_184 0 189 (dk_at dksX0_loud_2 20 rfl rfl)
theorem dX0_loud_71 : decode cX0_loud 71 = .ok (.istore_n 3, 1) := dk_62 (dk_at dksX0_loud_2 23 rfl rfl)
theorem dX0_loud_72 : decode cX0_loud 72 = .ok (.iload 6, 2) := dk_21 6 (dk_at dksX0_loud_3 0 rfl rfl)
theorem dX0_loud_74 : decode cX0_loud 74 = .ok (.iload_n 2, 1) := dk_28 (dk_at dksX0_loud_3 2 rfl rfl)
theorem dX0_loud_75 : decode cX0_loud 75 = .ok (.if_icmp .le 7, 3) := dk_164 0 7 (dk_at dksX0_loud_3 3 rfl rfl)
theorem dX0_loud_78 : decode cX0_loud 78 = .ok (.iload 5, 2) := dk_21 5 (dk_at dksX0_loud_3 6 rfl rfl)
theorem dX0_loud_80 : decode cX0_loud 80 = .ok (.istore 4, 2) := dk_54 4 (dk_at dksX0_loud_3 8 rfl rfl)
theorem dX0_loud_82 : decode cX0_loud 82 = .ok (.iinc 5 1, 3) := dk_132 5 1 (dk_at dksX0_loud_3 10 rfl rfl)
theorem dX0_loud_85 : decode cX0_loud 85 = .ok (.goto (-47), 3) := dk_167 255 209 (dk_at dksX0_loud_3 13 rfl rfl)
theorem dX0_loud_88 : decode cX0_loud 88 = .ok (.iload_n 2, 1) := dk_28 (dk_at dksX0_loud_3 16 rfl rfl)
theorem dX0_loud_89 : decode cX0_loud 89 = .ok (.iconst (-1), 1) := dk_2 (dk_at dksX0_loud_3 17 rfl rfl)
theorem dX0_loud_90 : decode cX0_loud 90 = .ok (.if_icmp .ne 7, 3) := dk_160 0 7 (dk_at dksX0_loud_3 18 rfl rfl)
theorem dX0_loud_93 : decode cX0_loud 93 = .ok (.iload_n 3, 1) := dk_29 (dk_at dksX0_loud_3 21 rfl rfl)
theorem dX0_loud_94 : decode cX0_loud 94 = .ok (.goto 14, 3) := dk_167 0 14 (dk_at dksX0_loud_4 0 rfl rfl)
theorem dX0_loud_97 : decode cX0_loud 97 = .ok (.aload_n 0, 1) := dk_42 (dk_at dksX0_loud_4 3 rfl rfl)
theorem dX0_loud_98 : decode cX0_loud 98 = .ok (.getfield 488, 3) := dk_180 1 232 (dk_at dksX0_loud_4 4 rfl rfl)
theorem dX0_loud_101 : decode cX0_loud 101 = .ok (.iload 4, 2) := dk_21 4 (dk_at dksX0_loud_4 7 rfl rfl)
theorem dX0_loud_103 : decode cX0_loud 103 = .ok (.iconst 2, 1) := dk_5 (dk_at dksX0_loud_4 9 rfl rfl)
theorem dX0_loud_104 : decode cX0_loud 104 = .ok (.iadd, 1) := dk_96 (dk_at dksX0_loud_4 10 rfl rfl)
theorem dX0_loud_105 : decode cX0_loud 105 = .ok (.invokestatic 180, 3) := dk_184 0 180 (dk_at dksX0_loud_4 11 rfl rfl)
theorem dX0_loud_108 : decode cX0_loud 108 = .ok (.ireturn, 1) := dk_172 (dk_at dksX0_loud_4 14 rfl rfl)
abbrev cX0_write : ByteArray := prog_1_method_78_code
def yX0_write : MethodName := ⟨RX0, "write", "(IIII)I"⟩
def dkwX0_write_11 : List UInt8 := [21, 9, 19, 2, 13, 19, 2, 14, 184, 2, 8, 79, 132, 8, 1, 167, 255, 146, 21, 7, 172]
abbrev dktX0_write_11 : List UInt8 := dkwX0_write_11 ++ []
def dkwX0_write_10 : List UInt8 := [17, 128, 0, 17, 127, 255, 184, 2, 8, 147, 86, 167, 0, 24, 25, 5, 192, 2, 5, 29, 21, 8, 96]
abbrev dktX0_write_10 : List UInt8 := dkwX0_write_10 ++ dktX0_write_11
def dkwX0_write_9 : List UInt8 := [145, 84, 167, 0, 57, 25, 5, 193, 2, 3, 153, 0, 28, 25, 5, 192, 2, 3, 29, 21, 8, 96, 21, 9]
abbrev dktX0_write_9 : List UInt8 := dkwX0_write_9 ++ dktX0_write_10
def dkwX0_write_8 : List UInt8 := [193, 2, 1, 153, 0, 26, 25, 5, 192, 2, 1, 29, 21, 8, 96, 21, 9, 16, 128, 16, 127, 184, 2, 8]
abbrev dktX0_write_8 : List UInt8 := dkwX0_write_8 ++ dktX0_write_9
def dkwX0_write_7 : List UInt8 := [21, 8, 21, 7, 162, 0, 109, 42, 180, 0, 108, 17, 0, 200, 27, 104, 21, 8, 96, 46, 54, 9, 25, 5]
abbrev dktX0_write_7 : List UInt8 := dkwX0_write_7 ++ dktX0_write_8
def dkwX0_write_6 : List UInt8 := [16, 243, 172, 21, 4, 42, 180, 1, 232, 21, 6, 29, 100, 184, 0, 180, 184, 0, 180, 54, 7, 3, 54, 8]
abbrev dktX0_write_6 : List UInt8 := dkwX0_write_6 ++ dktX0_write_7
def dkwX0_write_5 : List UInt8 := [21, 6, 2, 160, 0, 6, 16, 244, 172, 29, 133, 9, 21, 6, 4, 100, 133, 184, 0, 152, 154, 0, 6]
abbrev dktX0_write_5 : List UInt8 := dkwX0_write_5 ++ dktX0_write_6
def dkwX0_write_4 : List UInt8 := [167, 0, 21, 25, 5, 193, 2, 5, 153, 0, 12, 25, 5, 192, 2, 5, 190, 167, 0, 4, 2, 54, 6]
abbrev dktX0_write_4 : List UInt8 := dkwX0_write_4 ++ dktX0_write_5
def dkwX0_write_3 : List UInt8 := [25, 5, 192, 2, 1, 190, 167, 0, 38, 25, 5, 193, 2, 3, 153, 0, 12, 25, 5, 192, 2, 3, 190]
abbrev dktX0_write_3 : List UInt8 := dkwX0_write_3 ++ dktX0_write_4
def dkwX0_write_2 : List UInt8 := [180, 0, 141, 28, 50, 58, 5, 25, 5, 199, 0, 6, 16, 245, 172, 25, 5, 193, 2, 1, 153, 0, 12]
abbrev dktX0_write_2 : List UInt8 := dkwX0_write_2 ++ dktX0_write_3
def dkwX0_write_1 : List UInt8 := [20, 1, 255, 184, 0, 152, 154, 0, 5, 2, 172, 42, 27, 182, 1, 249, 154, 0, 6, 16, 252, 172, 42]
abbrev dktX0_write_1 : List UInt8 := dkwX0_write_1 ++ dktX0_write_2
def dkwX0_write_0 : List UInt8 := [27, 133, 9, 20, 1, 168, 184, 0, 152, 153, 0, 23, 28, 184, 1, 252, 153, 0, 16, 21, 4, 133, 10]
abbrev dktX0_write_0 : List UInt8 := dkwX0_write_0 ++ dktX0_write_1
theorem dksX0_write_0 : cX0_write.data.toList.drop 0 = dktX0_write_0 := by decide +kernel
theorem dksX0_write_1 : cX0_write.data.toList.drop 23 = dktX0_write_1 := dk_seg dksX0_write_0 23 rfl rfl
theorem dksX0_write_2 : cX0_write.data.toList.drop 46 = dktX0_write_2 := dk_seg dksX0_write_1 23 rfl rfl
theorem dksX0_write_3 : cX0_write.data.toList.drop 69 = dktX0_write_3 := dk_seg dksX0_write_2 23 rfl rfl
theorem dksX0_write_4 : cX0_write.data.toList.drop 92 = dktX0_write_4 := dk_seg dksX0_write_3 23 rfl rfl
theorem dksX0_write_5 : cX0_write.data.toList.drop 115 = dktX0_write_5 := dk_seg dksX0_write_4 23 rfl rfl
theorem dksX0_write_6 : cX0_write.data.toList.drop 138 = dktX0_write_6 := dk_seg dksX0_write_5 23 rfl rfl
theorem dksX0_write_7 : cX0_write.data.toList.drop 162 = dktX0_write_7 := dk_seg dksX0_write_6 24 rfl rfl
theorem dksX0_write_8 : cX0_write.data.toList.drop 186 = dktX0_write_8 := dk_seg dksX0_write_7 24 rfl rfl
theorem dksX0_write_9 : cX0_write.data.toList.drop 210 = dktX0_write_9 := dk_seg dksX0_write_8 24 rfl rfl
theorem dksX0_write_10 : cX0_write.data.toList.drop 234 = dktX0_write_10 := dk_seg dksX0_write_9 24 rfl rfl
theorem dksX0_write_11 : cX0_write.data.toList.drop 257 = dktX0_write_11 := dk_seg dksX0_write_10 23 rfl rfl
theorem dX0_write_0 : decode cX0_write 0 = .ok (.iload_n 1, 1) := dk_27 (dk_at dksX0_write_0 0 rfl rfl)
theorem dX0_write_1 : decode cX0_write 1 = .ok (.i2l, 1) := dk_133 (dk_at dksX0_write_0 1 rfl rfl)
theorem dX0_write_2 : decode cX0_write 2 = .ok (.lconst 0, 1) := dk_9 (dk_at dksX0_write_0 2 rfl rfl)
theorem dX0_write_3 : decode cX0_write 3 = .ok (.ldc2_w 424, 3) := dk_20 1 168 (dk_at dksX0_write_0 3 rfl rfl)
theorem dX0_write_6 : decode cX0_write 6 = .ok (.invokestatic 152, 3) := dk_184 0 152 (dk_at dksX0_write_0 6 rfl rfl)
theorem dX0_write_9 : decode cX0_write 9 = .ok (.ifCond .eq 23, 3) := dk_153 0 23 (dk_at dksX0_write_0 9 rfl rfl)
theorem dX0_write_12 : decode cX0_write 12 = .ok (.iload_n 2, 1) := dk_28 (dk_at dksX0_write_0 12 rfl rfl)
theorem dX0_write_13 : decode cX0_write 13 = .ok (.invokestatic 508, 3) := dk_184 1 252 (dk_at dksX0_write_0 13 rfl rfl)
theorem dX0_write_16 : decode cX0_write 16 = .ok (.ifCond .eq 16, 3) := dk_153 0 16 (dk_at dksX0_write_0 16 rfl rfl)
theorem dX0_write_19 : decode cX0_write 19 = .ok (.iload 4, 2) := dk_21 4 (dk_at dksX0_write_0 19 rfl rfl)
theorem dX0_write_21 : decode cX0_write 21 = .ok (.i2l, 1) := dk_133 (dk_at dksX0_write_0 21 rfl rfl)
theorem dX0_write_22 : decode cX0_write 22 = .ok (.lconst 1, 1) := dk_10 (dk_at dksX0_write_0 22 rfl rfl)
theorem dX0_write_23 : decode cX0_write 23 = .ok (.ldc2_w 511, 3) := dk_20 1 255 (dk_at dksX0_write_1 0 rfl rfl)
theorem dX0_write_26 : decode cX0_write 26 = .ok (.invokestatic 152, 3) := dk_184 0 152 (dk_at dksX0_write_1 3 rfl rfl)
theorem dX0_write_29 : decode cX0_write 29 = .ok (.ifCond .ne 5, 3) := dk_154 0 5 (dk_at dksX0_write_1 6 rfl rfl)
theorem dX0_write_32 : decode cX0_write 32 = .ok (.iconst (-1), 1) := dk_2 (dk_at dksX0_write_1 9 rfl rfl)
theorem dX0_write_33 : decode cX0_write 33 = .ok (.ireturn, 1) := dk_172 (dk_at dksX0_write_1 10 rfl rfl)
theorem dX0_write_34 : decode cX0_write 34 = .ok (.aload_n 0, 1) := dk_42 (dk_at dksX0_write_1 11 rfl rfl)
theorem dX0_write_35 : decode cX0_write 35 = .ok (.iload_n 1, 1) := dk_27 (dk_at dksX0_write_1 12 rfl rfl)
theorem dX0_write_36 : decode cX0_write 36 = .ok (.invokevirtual 505, 3) := dk_182 1 249 (dk_at dksX0_write_1 13 rfl rfl)
theorem dX0_write_39 : decode cX0_write 39 = .ok (.ifCond .ne 6, 3) := dk_154 0 6 (dk_at dksX0_write_1 16 rfl rfl)
theorem dX0_write_42 : decode cX0_write 42 = .ok (.bipush (-4), 2) := dk_16 252 (dk_at dksX0_write_1 19 rfl rfl)
theorem dX0_write_44 : decode cX0_write 44 = .ok (.ireturn, 1) := dk_172 (dk_at dksX0_write_1 21 rfl rfl)
theorem dX0_write_45 : decode cX0_write 45 = .ok (.aload_n 0, 1) := dk_42 (dk_at dksX0_write_1 22 rfl rfl)
theorem dX0_write_46 : decode cX0_write 46 = .ok (.getfield 141, 3) := dk_180 0 141 (dk_at dksX0_write_2 0 rfl rfl)
theorem dX0_write_49 : decode cX0_write 49 = .ok (.iload_n 2, 1) := dk_28 (dk_at dksX0_write_2 3 rfl rfl)
theorem dX0_write_50 : decode cX0_write 50 = .ok (.aaload, 1) := dk_50 (dk_at dksX0_write_2 4 rfl rfl)
theorem dX0_write_51 : decode cX0_write 51 = .ok (.astore 5, 2) := dk_58 5 (dk_at dksX0_write_2 5 rfl rfl)
theorem dX0_write_53 : decode cX0_write 53 = .ok (.aload 5, 2) := dk_25 5 (dk_at dksX0_write_2 7 rfl rfl)
theorem dX0_write_55 : decode cX0_write 55 = .ok (.ifnonnull 6, 3) := dk_199 0 6 (dk_at dksX0_write_2 9 rfl rfl)
theorem dX0_write_58 : decode cX0_write 58 = .ok (.bipush (-11), 2) := dk_16 245 (dk_at dksX0_write_2 12 rfl rfl)
theorem dX0_write_60 : decode cX0_write 60 = .ok (.ireturn, 1) := dk_172 (dk_at dksX0_write_2 14 rfl rfl)
theorem dX0_write_61 : decode cX0_write 61 = .ok (.aload 5, 2) := dk_25 5 (dk_at dksX0_write_2 15 rfl rfl)
theorem dX0_write_63 : decode cX0_write 63 = .ok (.instanceof 513, 3) := dk_193 2 1 (dk_at dksX0_write_2 17 rfl rfl)
theorem dX0_write_66 : decode cX0_write 66 = .ok (.ifCond .eq 12, 3) := dk_153 0 12 (dk_at dksX0_write_2 20 rfl rfl)
theorem dX0_write_69 : decode cX0_write 69 = .ok (.aload 5, 2) := dk_25 5 (dk_at dksX0_write_3 0 rfl rfl)
theorem dX0_write_71 : decode cX0_write 71 = .ok (.checkcast 513, 3) := dk_192 2 1 (dk_at dksX0_write_3 2 rfl rfl)
theorem dX0_write_74 : decode cX0_write 74 = .ok (.arraylength, 1) := dk_190 (dk_at dksX0_write_3 5 rfl rfl)
theorem dX0_write_75 : decode cX0_write 75 = .ok (.goto 38, 3) := dk_167 0 38 (dk_at dksX0_write_3 6 rfl rfl)
theorem dX0_write_78 : decode cX0_write 78 = .ok (.aload 5, 2) := dk_25 5 (dk_at dksX0_write_3 9 rfl rfl)
theorem dX0_write_80 : decode cX0_write 80 = .ok (.instanceof 515, 3) := dk_193 2 3 (dk_at dksX0_write_3 11 rfl rfl)
theorem dX0_write_83 : decode cX0_write 83 = .ok (.ifCond .eq 12, 3) := dk_153 0 12 (dk_at dksX0_write_3 14 rfl rfl)
theorem dX0_write_86 : decode cX0_write 86 = .ok (.aload 5, 2) := dk_25 5 (dk_at dksX0_write_3 17 rfl rfl)
theorem dX0_write_88 : decode cX0_write 88 = .ok (.checkcast 515, 3) := dk_192 2 3 (dk_at dksX0_write_3 19 rfl rfl)
theorem dX0_write_91 : decode cX0_write 91 = .ok (.arraylength, 1) := dk_190 (dk_at dksX0_write_3 22 rfl rfl)
theorem dX0_write_92 : decode cX0_write 92 = .ok (.goto 21, 3) := dk_167 0 21 (dk_at dksX0_write_4 0 rfl rfl)
theorem dX0_write_95 : decode cX0_write 95 = .ok (.aload 5, 2) := dk_25 5 (dk_at dksX0_write_4 3 rfl rfl)
theorem dX0_write_97 : decode cX0_write 97 = .ok (.instanceof 517, 3) := dk_193 2 5 (dk_at dksX0_write_4 5 rfl rfl)
theorem dX0_write_100 : decode cX0_write 100 = .ok (.ifCond .eq 12, 3) := dk_153 0 12 (dk_at dksX0_write_4 8 rfl rfl)
theorem dX0_write_103 : decode cX0_write 103 = .ok (.aload 5, 2) := dk_25 5 (dk_at dksX0_write_4 11 rfl rfl)
theorem dX0_write_105 : decode cX0_write 105 = .ok (.checkcast 517, 3) := dk_192 2 5 (dk_at dksX0_write_4 13 rfl rfl)
theorem dX0_write_108 : decode cX0_write 108 = .ok (.arraylength, 1) := dk_190 (dk_at dksX0_write_4 16 rfl rfl)
theorem dX0_write_109 : decode cX0_write 109 = .ok (.goto 4, 3) := dk_167 0 4 (dk_at dksX0_write_4 17 rfl rfl)
theorem dX0_write_112 : decode cX0_write 112 = .ok (.iconst (-1), 1) := dk_2 (dk_at dksX0_write_4 20 rfl rfl)
theorem dX0_write_113 : decode cX0_write 113 = .ok (.istore 6, 2) := dk_54 6 (dk_at dksX0_write_4 21 rfl rfl)
theorem dX0_write_115 : decode cX0_write 115 = .ok (.iload 6, 2) := dk_21 6 (dk_at dksX0_write_5 0 rfl rfl)
theorem dX0_write_117 : decode cX0_write 117 = .ok (.iconst (-1), 1) := dk_2 (dk_at dksX0_write_5 2 rfl rfl)
theorem dX0_write_118 : decode cX0_write 118 = .ok (.if_icmp .ne 6, 3) := dk_160 0 6 (dk_at dksX0_write_5 3 rfl rfl)
theorem dX0_write_121 : decode cX0_write 121 = .ok (.bipush (-12), 2) := dk_16 244 (dk_at dksX0_write_5 6 rfl rfl)
theorem dX0_write_123 : decode cX0_write 123 = .ok (.ireturn, 1) := dk_172 (dk_at dksX0_write_5 8 rfl rfl)
theorem dX0_write_124 : decode cX0_write 124 = .ok (.iload_n 3, 1) := dk_29 (dk_at dksX0_write_5 9 rfl rfl)
theorem dX0_write_125 : decode cX0_write 125 = .ok (.i2l, 1) := dk_133 (dk_at dksX0_write_5 10 rfl rfl)
theorem dX0_write_126 : decode cX0_write 126 = .ok (.lconst 0, 1) := dk_9 (dk_at dksX0_write_5 11 rfl rfl)
theorem dX0_write_127 : decode cX0_write 127 = .ok (.iload 6, 2) := dk_21 6 (dk_at dksX0_write_5 12 rfl rfl)
theorem dX0_write_129 : decode cX0_write 129 = .ok (.iconst 1, 1) := dk_4 (dk_at dksX0_write_5 14 rfl rfl)
theorem dX0_write_130 : decode cX0_write 130 = .ok (.isub, 1) := dk_100 (dk_at dksX0_write_5 15 rfl rfl)
theorem dX0_write_131 : decode cX0_write 131 = .ok (.i2l, 1) := dk_133 (dk_at dksX0_write_5 16 rfl rfl)
theorem dX0_write_132 : decode cX0_write 132 = .ok (.invokestatic 152, 3) := dk_184 0 152 (dk_at dksX0_write_5 17 rfl rfl)
theorem dX0_write_135 : decode cX0_write 135 = .ok (.ifCond .ne 6, 3) := dk_154 0 6 (dk_at dksX0_write_5 20 rfl rfl)
theorem dX0_write_138 : decode cX0_write 138 = .ok (.bipush (-13), 2) := dk_16 243 (dk_at dksX0_write_6 0 rfl rfl)
theorem dX0_write_140 : decode cX0_write 140 = .ok (.ireturn, 1) := dk_172 (dk_at dksX0_write_6 2 rfl rfl)
theorem dX0_write_141 : decode cX0_write 141 = .ok (.iload 4, 2) := dk_21 4 (dk_at dksX0_write_6 3 rfl rfl)
theorem dX0_write_143 : decode cX0_write 143 = .ok (.aload_n 0, 1) := dk_42 (dk_at dksX0_write_6 5 rfl rfl)
theorem dX0_write_144 : decode cX0_write 144 = .ok (.getfield 488, 3) := dk_180 1 232 (dk_at dksX0_write_6 6 rfl rfl)
theorem dX0_write_147 : decode cX0_write 147 = .ok (.iload 6, 2) := dk_21 6 (dk_at dksX0_write_6 9 rfl rfl)
theorem dX0_write_149 : decode cX0_write 149 = .ok (.iload_n 3, 1) := dk_29 (dk_at dksX0_write_6 11 rfl rfl)
theorem dX0_write_150 : decode cX0_write 150 = .ok (.isub, 1) := dk_100 (dk_at dksX0_write_6 12 rfl rfl)
theorem dX0_write_151 : decode cX0_write 151 = .ok (.invokestatic 180, 3) := dk_184 0 180 (dk_at dksX0_write_6 13 rfl rfl)
theorem dX0_write_154 : decode cX0_write 154 = .ok (.invokestatic 180, 3) := dk_184 0 180 (dk_at dksX0_write_6 16 rfl rfl)
theorem dX0_write_157 : decode cX0_write 157 = .ok (.istore 7, 2) := dk_54 7 (dk_at dksX0_write_6 19 rfl rfl)
theorem dX0_write_159 : decode cX0_write 159 = .ok (.iconst 0, 1) := dk_3 (dk_at dksX0_write_6 21 rfl rfl)
theorem dX0_write_160 : decode cX0_write 160 = .ok (.istore 8, 2) := dk_54 8 (dk_at dksX0_write_6 22 rfl rfl)
theorem dX0_write_162 : decode cX0_write 162 = .ok (.iload 8, 2) := dk_21 8 (dk_at dksX0_write_7 0 rfl rfl)
theorem dX0_write_164 : decode cX0_write 164 = .ok (.iload 7, 2) := dk_21 7 (dk_at dksX0_write_7 2 rfl rfl)
theorem dX0_write_166 : decode cX0_write 166 = .ok (.if_icmp .ge 109, 3) := dk_162 0 109 (dk_at dksX0_write_7 4 rfl rfl)
theorem dX0_write_169 : decode cX0_write 169 = .ok (.aload_n 0, 1) := dk_42 (dk_at dksX0_write_7 7 rfl rfl)
theorem dX0_write_170 : decode cX0_write 170 = .ok (.getfield 108, 3) := dk_180 0 108 (dk_at dksX0_write_7 8 rfl rfl)
theorem dX0_write_173 : decode cX0_write 173 = .ok (.sipush 200, 3) := dk_17 0 200 (dk_at dksX0_write_7 11 rfl rfl)
theorem dX0_write_176 : decode cX0_write 176 = .ok (.iload_n 1, 1) := dk_27 (dk_at dksX0_write_7 14 rfl rfl)
theorem dX0_write_177 : decode cX0_write 177 = .ok (.imul, 1) := dk_104 (dk_at dksX0_write_7 15 rfl rfl)
theorem dX0_write_178 : decode cX0_write 178 = .ok (.iload 8, 2) := dk_21 8 (dk_at dksX0_write_7 16 rfl rfl)
theorem dX0_write_180 : decode cX0_write 180 = .ok (.iadd, 1) := dk_96 (dk_at dksX0_write_7 18 rfl rfl)
theorem dX0_write_181 : decode cX0_write 181 = .ok (.iaload, 1) := dk_46 (dk_at dksX0_write_7 19 rfl rfl)
theorem dX0_write_182 : decode cX0_write 182 = .ok (.istore 9, 2) := dk_54 9 (dk_at dksX0_write_7 20 rfl rfl)
theorem dX0_write_184 : decode cX0_write 184 = .ok (.aload 5, 2) := dk_25 5 (dk_at dksX0_write_7 22 rfl rfl)
theorem dX0_write_186 : decode cX0_write 186 = .ok (.instanceof 513, 3) := dk_193 2 1 (dk_at dksX0_write_8 0 rfl rfl)
theorem dX0_write_189 : decode cX0_write 189 = .ok (.ifCond .eq 26, 3) := dk_153 0 26 (dk_at dksX0_write_8 3 rfl rfl)
theorem dX0_write_192 : decode cX0_write 192 = .ok (.aload 5, 2) := dk_25 5 (dk_at dksX0_write_8 6 rfl rfl)
theorem dX0_write_194 : decode cX0_write 194 = .ok (.checkcast 513, 3) := dk_192 2 1 (dk_at dksX0_write_8 8 rfl rfl)
theorem dX0_write_197 : decode cX0_write 197 = .ok (.iload_n 3, 1) := dk_29 (dk_at dksX0_write_8 11 rfl rfl)
theorem dX0_write_198 : decode cX0_write 198 = .ok (.iload 8, 2) := dk_21 8 (dk_at dksX0_write_8 12 rfl rfl)
theorem dX0_write_200 : decode cX0_write 200 = .ok (.iadd, 1) := dk_96 (dk_at dksX0_write_8 14 rfl rfl)
theorem dX0_write_201 : decode cX0_write 201 = .ok (.iload 9, 2) := dk_21 9 (dk_at dksX0_write_8 15 rfl rfl)
theorem dX0_write_203 : decode cX0_write 203 = .ok (.bipush (-128), 2) := dk_16 128 (dk_at dksX0_write_8 17 rfl rfl)
theorem dX0_write_205 : decode cX0_write 205 = .ok (.bipush 127, 2) := dk_16 127 (dk_at dksX0_write_8 19 rfl rfl)
theorem dX0_write_207 : decode cX0_write 207 = .ok (.invokestatic 520, 3) := dk_184 2 8 (dk_at dksX0_write_8 21 rfl rfl)
theorem dX0_write_210 : decode cX0_write 210 = .ok (.i2b, 1) := dk_145 (dk_at dksX0_write_9 0 rfl rfl)
theorem dX0_write_211 : decode cX0_write 211 = .ok (.bastore, 1) := dk_84 (dk_at dksX0_write_9 1 rfl rfl)
theorem dX0_write_212 : decode cX0_write 212 = .ok (.goto 57, 3) := dk_167 0 57 (dk_at dksX0_write_9 2 rfl rfl)
theorem dX0_write_215 : decode cX0_write 215 = .ok (.aload 5, 2) := dk_25 5 (dk_at dksX0_write_9 5 rfl rfl)
theorem dX0_write_217 : decode cX0_write 217 = .ok (.instanceof 515, 3) := dk_193 2 3 (dk_at dksX0_write_9 7 rfl rfl)
theorem dX0_write_220 : decode cX0_write 220 = .ok (.ifCond .eq 28, 3) := dk_153 0 28 (dk_at dksX0_write_9 10 rfl rfl)
theorem dX0_write_223 : decode cX0_write 223 = .ok (.aload 5, 2) := dk_25 5 (dk_at dksX0_write_9 13 rfl rfl)
theorem dX0_write_225 : decode cX0_write 225 = .ok (.checkcast 515, 3) := dk_192 2 3 (dk_at dksX0_write_9 15 rfl rfl)
theorem dX0_write_228 : decode cX0_write 228 = .ok (.iload_n 3, 1) := dk_29 (dk_at dksX0_write_9 18 rfl rfl)
theorem dX0_write_229 : decode cX0_write 229 = .ok (.iload 8, 2) := dk_21 8 (dk_at dksX0_write_9 19 rfl rfl)
theorem dX0_write_231 : decode cX0_write 231 = .ok (.iadd, 1) := dk_96 (dk_at dksX0_write_9 21 rfl rfl)
theorem dX0_write_232 : decode cX0_write 232 = .ok (.iload 9, 2) := dk_21 9 (dk_at dksX0_write_9 22 rfl rfl)
theorem dX0_write_234 : decode cX0_write 234 = .ok (.sipush (-32768), 3) := dk_17 128 0 (dk_at dksX0_write_10 0 rfl rfl)
theorem dX0_write_237 : decode cX0_write 237 = .ok (.sipush 32767, 3) := dk_17 127 255 (dk_at dksX0_write_10 3 rfl rfl)
theorem dX0_write_240 : decode cX0_write 240 = .ok (.invokestatic 520, 3) := dk_184 2 8 (dk_at dksX0_write_10 6 rfl rfl)
theorem dX0_write_243 : decode cX0_write 243 = .ok (.i2s, 1) := dk_147 (dk_at dksX0_write_10 9 rfl rfl)
theorem dX0_write_244 : decode cX0_write 244 = .ok (.sastore, 1) := dk_86 (dk_at dksX0_write_10 10 rfl rfl)
theorem dX0_write_245 : decode cX0_write 245 = .ok (.goto 24, 3) := dk_167 0 24 (dk_at dksX0_write_10 11 rfl rfl)
theorem dX0_write_248 : decode cX0_write 248 = .ok (.aload 5, 2) := dk_25 5 (dk_at dksX0_write_10 14 rfl rfl)
theorem dX0_write_250 : decode cX0_write 250 = .ok (.checkcast 517, 3) := dk_192 2 5 (dk_at dksX0_write_10 16 rfl rfl)
theorem dX0_write_253 : decode cX0_write 253 = .ok (.iload_n 3, 1) := dk_29 (dk_at dksX0_write_10 19 rfl rfl)
theorem dX0_write_254 : decode cX0_write 254 = .ok (.iload 8, 2) := dk_21 8 (dk_at dksX0_write_10 20 rfl rfl)
theorem dX0_write_256 : decode cX0_write 256 = .ok (.iadd, 1) := dk_96 (dk_at dksX0_write_10 22 rfl rfl)
theorem dX0_write_257 : decode cX0_write 257 = .ok (.iload 9, 2) := dk_21 9 (dk_at dksX0_write_11 0 rfl rfl)
theorem dX0_write_259 : decode cX0_write 259 = .ok (.ldc_w 525, 3) := dk_19 2 13 (dk_at dksX0_write_11 2 rfl rfl)
theorem dX0_write_262 : decode cX0_write 262 = .ok (.ldc_w 526, 3) := dk_19 2 14 (dk_at dksX0_write_11 5 rfl rfl)
theorem dX0_write_265 : decode cX0_write 265 = .ok (.invokestatic 520, 3) := dk_184 2 8 (dk_at dksX0_write_11 8 rfl rfl)
theorem dX0_write_268 : decode cX0_write 268 = .ok (.iastore, 1) := dk_79 (dk_at dksX0_write_11 11 rfl rfl)
theorem dX0_write_269 : decode cX0_write 269 = .ok (.iinc 8 1, 3) := dk_132 8 1 (dk_at dksX0_write_11 12 rfl rfl)
theorem dX0_write_272 : decode cX0_write 272 = .ok (.goto (-110), 3) := dk_167 255 146 (dk_at dksX0_write_11 15 rfl rfl)
theorem dX0_write_275 : decode cX0_write 275 = .ok (.iload 7, 2) := dk_21 7 (dk_at dksX0_write_11 18 rfl rfl)
theorem dX0_write_277 : decode cX0_write 277 = .ok (.ireturn, 1) := dk_172 (dk_at dksX0_write_11 20 rfl rfl)
abbrev cX0_isShelf : ByteArray := prog_1_method_94_code
def yX0_isShelf : MethodName := ⟨RX0, "isShelf", "(I)Z"⟩
def dkwX0_isShelf_0 : List UInt8 := [26, 133, 9, 20, 0, 174, 184, 0, 152, 172]
abbrev dktX0_isShelf_0 : List UInt8 := dkwX0_isShelf_0 ++ []
theorem dksX0_isShelf_0 : cX0_isShelf.data.toList.drop 0 = dktX0_isShelf_0 := by decide +kernel
theorem dX0_isShelf_0 : decode cX0_isShelf 0 = .ok (.iload_n 0, 1) := dk_26 (dk_at dksX0_isShelf_0 0 rfl rfl)
theorem dX0_isShelf_1 : decode cX0_isShelf 1 = .ok (.i2l, 1) := dk_133 (dk_at dksX0_isShelf_0 1 rfl rfl)
theorem dX0_isShelf_2 : decode cX0_isShelf 2 = .ok (.lconst 0, 1) := dk_9 (dk_at dksX0_isShelf_0 2 rfl rfl)
theorem dX0_isShelf_3 : decode cX0_isShelf 3 = .ok (.ldc2_w 174, 3) := dk_20 0 174 (dk_at dksX0_isShelf_0 3 rfl rfl)
theorem dX0_isShelf_6 : decode cX0_isShelf 6 = .ok (.invokestatic 152, 3) := dk_184 0 152 (dk_at dksX0_isShelf_0 6 rfl rfl)
theorem dX0_isShelf_9 : decode cX0_isShelf 9 = .ok (.ireturn, 1) := dk_172 (dk_at dksX0_isShelf_0 9 rfl rfl)
abbrev cX0_fitted : ByteArray := prog_1_method_77_code
def yX0_fitted : MethodName := ⟨RX0, "fitted", "(III)I"⟩
def dkwX0_fitted_0 : List UInt8 := [26, 27, 163, 0, 9, 27, 4, 96, 167, 0, 13, 26, 28, 164, 0, 7, 28, 167, 0, 4, 26, 172]
abbrev dktX0_fitted_0 : List UInt8 := dkwX0_fitted_0 ++ []
theorem dksX0_fitted_0 : cX0_fitted.data.toList.drop 0 = dktX0_fitted_0 := by decide +kernel
theorem dX0_fitted_0 : decode cX0_fitted 0 = .ok (.iload_n 0, 1) := dk_26 (dk_at dksX0_fitted_0 0 rfl rfl)
theorem dX0_fitted_1 : decode cX0_fitted 1 = .ok (.iload_n 1, 1) := dk_27 (dk_at dksX0_fitted_0 1 rfl rfl)
theorem dX0_fitted_2 : decode cX0_fitted 2 = .ok (.if_icmp .gt 9, 3) := dk_163 0 9 (dk_at dksX0_fitted_0 2 rfl rfl)
theorem dX0_fitted_5 : decode cX0_fitted 5 = .ok (.iload_n 1, 1) := dk_27 (dk_at dksX0_fitted_0 5 rfl rfl)
theorem dX0_fitted_6 : decode cX0_fitted 6 = .ok (.iconst 1, 1) := dk_4 (dk_at dksX0_fitted_0 6 rfl rfl)
theorem dX0_fitted_7 : decode cX0_fitted 7 = .ok (.iadd, 1) := dk_96 (dk_at dksX0_fitted_0 7 rfl rfl)
theorem dX0_fitted_8 : decode cX0_fitted 8 = .ok (.goto 13, 3) := dk_167 0 13 (dk_at dksX0_fitted_0 8 rfl rfl)
theorem dX0_fitted_11 : decode cX0_fitted 11 = .ok (.iload_n 0, 1) := dk_26 (dk_at dksX0_fitted_0 11 rfl rfl)
theorem dX0_fitted_12 : decode cX0_fitted 12 = .ok (.iload_n 2, 1) := dk_28 (dk_at dksX0_fitted_0 12 rfl rfl)
theorem dX0_fitted_13 : decode cX0_fitted 13 = .ok (.if_icmp .le 7, 3) := dk_164 0 7 (dk_at dksX0_fitted_0 13 rfl rfl)
theorem dX0_fitted_16 : decode cX0_fitted 16 = .ok (.iload_n 2, 1) := dk_28 (dk_at dksX0_fitted_0 16 rfl rfl)
theorem dX0_fitted_17 : decode cX0_fitted 17 = .ok (.goto 4, 3) := dk_167 0 4 (dk_at dksX0_fitted_0 17 rfl rfl)
theorem dX0_fitted_20 : decode cX0_fitted 20 = .ok (.iload_n 0, 1) := dk_26 (dk_at dksX0_fitted_0 20 rfl rfl)
theorem dX0_fitted_21 : decode cX0_fitted 21 = .ok (.ireturn, 1) := dk_172 (dk_at dksX0_fitted_0 21 rfl rfl)
abbrev cX0_loudness : ByteArray := prog_1_method_82_code
def yX0_loudness : MethodName := ⟨RX0, "loudness", "(II)I"⟩
def dkwX0_loudness_1 : List UInt8 := [20, 2, 35, 42, 28, 182, 2, 37, 184, 2, 27, 136, 172]
abbrev dktX0_loudness_1 : List UInt8 := dkwX0_loudness_1 ++ []
def dkwX0_loudness_0 : List UInt8 := [28, 184, 2, 29, 154, 0, 5, 2, 172, 42, 27, 182, 2, 32, 62, 29, 153, 0, 7, 29, 167, 0, 15]
abbrev dktX0_loudness_0 : List UInt8 := dkwX0_loudness_0 ++ dktX0_loudness_1
theorem dksX0_loudness_0 : cX0_loudness.data.toList.drop 0 = dktX0_loudness_0 := by decide +kernel
theorem dksX0_loudness_1 : cX0_loudness.data.toList.drop 23 = dktX0_loudness_1 := dk_seg dksX0_loudness_0 23 rfl rfl
theorem dX0_loudness_0 : decode cX0_loudness 0 = .ok (.iload_n 2, 1) := dk_28 (dk_at dksX0_loudness_0 0 rfl rfl)
theorem dX0_loudness_1 : decode cX0_loudness 1 = .ok (.invokestatic 541, 3) := dk_184 2 29 (dk_at dksX0_loudness_0 1 rfl rfl)
theorem dX0_loudness_4 : decode cX0_loudness 4 = .ok (.ifCond .ne 5, 3) := dk_154 0 5 (dk_at dksX0_loudness_0 4 rfl rfl)
theorem dX0_loudness_7 : decode cX0_loudness 7 = .ok (.iconst (-1), 1) := dk_2 (dk_at dksX0_loudness_0 7 rfl rfl)
theorem dX0_loudness_8 : decode cX0_loudness 8 = .ok (.ireturn, 1) := dk_172 (dk_at dksX0_loudness_0 8 rfl rfl)
theorem dX0_loudness_9 : decode cX0_loudness 9 = .ok (.aload_n 0, 1) := dk_42 (dk_at dksX0_loudness_0 9 rfl rfl)
theorem dX0_loudness_10 : decode cX0_loudness 10 = .ok (.iload_n 1, 1) := dk_27 (dk_at dksX0_loudness_0 10 rfl rfl)
theorem dX0_loudness_11 : decode cX0_loudness 11 = .ok (.invokevirtual 544, 3) := dk_182 2 32 (dk_at dksX0_loudness_0 11 rfl rfl)
theorem dX0_loudness_14 : decode cX0_loudness 14 = .ok (.istore_n 3, 1) := dk_62 (dk_at dksX0_loudness_0 14 rfl rfl)
theorem dX0_loudness_15 : decode cX0_loudness 15 = .ok (.iload_n 3, 1) := dk_29 (dk_at dksX0_loudness_0 15 rfl rfl)
theorem dX0_loudness_16 : decode cX0_loudness 16 = .ok (.ifCond .eq 7, 3) := dk_153 0 7 (dk_at dksX0_loudness_0 16 rfl rfl)
theorem dX0_loudness_19 : decode cX0_loudness 19 = .ok (.iload_n 3, 1) := dk_29 (dk_at dksX0_loudness_0 19 rfl rfl)
theorem dX0_loudness_20 : decode cX0_loudness 20 = .ok (.goto 15, 3) := dk_167 0 15 (dk_at dksX0_loudness_0 20 rfl rfl)
theorem dX0_loudness_23 : decode cX0_loudness 23 = .ok (.ldc2_w 547, 3) := dk_20 2 35 (dk_at dksX0_loudness_1 0 rfl rfl)
theorem dX0_loudness_26 : decode cX0_loudness 26 = .ok (.aload_n 0, 1) := dk_42 (dk_at dksX0_loudness_1 3 rfl rfl)
theorem dX0_loudness_27 : decode cX0_loudness 27 = .ok (.iload_n 2, 1) := dk_28 (dk_at dksX0_loudness_1 4 rfl rfl)
theorem dX0_loudness_28 : decode cX0_loudness 28 = .ok (.invokevirtual 549, 3) := dk_182 2 37 (dk_at dksX0_loudness_1 5 rfl rfl)
theorem dX0_loudness_31 : decode cX0_loudness 31 = .ok (.invokestatic 539, 3) := dk_184 2 27 (dk_at dksX0_loudness_1 8 rfl rfl)
theorem dX0_loudness_34 : decode cX0_loudness 34 = .ok (.l2i, 1) := dk_136 (dk_at dksX0_loudness_1 11 rfl rfl)
theorem dX0_loudness_35 : decode cX0_loudness 35 = .ok (.ireturn, 1) := dk_172 (dk_at dksX0_loudness_1 12 rfl rfl)
abbrev cX0_isPeriod : ByteArray := prog_1_method_81_code
def yX0_isPeriod : MethodName := ⟨RX0, "isPeriod", "(I)Z"⟩
def dkwX0_isPeriod_0 : List UInt8 := [26, 133, 20, 0, 254, 20, 1, 255, 184, 0, 152, 172]
abbrev dktX0_isPeriod_0 : List UInt8 := dkwX0_isPeriod_0 ++ []
theorem dksX0_isPeriod_0 : cX0_isPeriod.data.toList.drop 0 = dktX0_isPeriod_0 := by decide +kernel
theorem dX0_isPeriod_0 : decode cX0_isPeriod 0 = .ok (.iload_n 0, 1) := dk_26 (dk_at dksX0_isPeriod_0 0 rfl rfl)
theorem dX0_isPeriod_1 : decode cX0_isPeriod 1 = .ok (.i2l, 1) := dk_133 (dk_at dksX0_isPeriod_0 1 rfl rfl)
theorem dX0_isPeriod_2 : decode cX0_isPeriod 2 = .ok (.ldc2_w 254, 3) := dk_20 0 254 (dk_at dksX0_isPeriod_0 2 rfl rfl)
theorem dX0_isPeriod_5 : decode cX0_isPeriod 5 = .ok (.ldc2_w 511, 3) := dk_20 1 255 (dk_at dksX0_isPeriod_0 5 rfl rfl)
theorem dX0_isPeriod_8 : decode cX0_isPeriod 8 = .ok (.invokestatic 152, 3) := dk_184 0 152 (dk_at dksX0_isPeriod_0 8 rfl rfl)
theorem dX0_isPeriod_11 : decode cX0_isPeriod 11 = .ok (.ireturn, 1) := dk_172 (dk_at dksX0_isPeriod_0 11 rfl rfl)
abbrev cX0_listen : ByteArray := prog_1_method_79_code
def yX0_listen : MethodName := ⟨RX0, "listen", "(I)I"⟩
def dkwX0_listen_9 : List UInt8 := [167, 0, 6, 16, 244, 172, 3, 172]
abbrev dktX0_listen_9 : List UInt8 := dkwX0_listen_9 ++ []
def dkwX0_listen_8 : List UInt8 := [19, 2, 13, 160, 0, 7, 3, 167, 0, 9, 44, 192, 2, 5, 29, 46, 79, 132, 3, 1, 167, 255, 217]
abbrev dktX0_listen_8 : List UInt8 := dkwX0_listen_8 ++ dktX0_listen_9
def dkwX0_listen_7 : List UInt8 := [181, 2, 15, 3, 62, 29, 42, 180, 2, 15, 162, 0, 37, 42, 180, 0, 129, 29, 44, 192, 2, 5, 29, 46]
abbrev dktX0_listen_7 : List UInt8 := dkwX0_listen_7 ++ dktX0_listen_8
def dkwX0_listen_6 : List UInt8 := [132, 3, 1, 167, 255, 217, 167, 0, 69, 44, 193, 2, 5, 153, 0, 59, 42, 44, 192, 2, 5, 190]
abbrev dktX0_listen_6 : List UInt8 := dkwX0_listen_6 ++ dktX0_listen_7
def dkwX0_listen_5 : List UInt8 := [192, 2, 3, 29, 53, 17, 128, 0, 160, 0, 7, 3, 167, 0, 9, 44, 192, 2, 3, 29, 53, 79]
abbrev dktX0_listen_5 : List UInt8 := dkwX0_listen_5 ++ dktX0_listen_6
def dkwX0_listen_4 : List UInt8 := [192, 2, 3, 190, 181, 2, 15, 3, 62, 29, 42, 180, 2, 15, 162, 0, 37, 42, 180, 0, 129, 29, 44]
abbrev dktX0_listen_4 : List UInt8 := dkwX0_listen_4 ++ dktX0_listen_5
def dkwX0_listen_3 : List UInt8 := [192, 2, 1, 29, 51, 79, 132, 3, 1, 167, 255, 218, 167, 0, 132, 44, 193, 2, 3, 153, 0, 59, 42, 44]
abbrev dktX0_listen_3 : List UInt8 := dkwX0_listen_3 ++ dktX0_listen_4
def dkwX0_listen_2 : List UInt8 := [162, 0, 36, 42, 180, 0, 129, 29, 44, 192, 2, 1, 29, 51, 16, 128, 160, 0, 7, 3, 167, 0, 9, 44]
abbrev dktX0_listen_2 : List UInt8 := dkwX0_listen_2 ++ dktX0_listen_3
def dkwX0_listen_1 : List UInt8 := [193, 2, 1, 153, 0, 58, 42, 44, 192, 2, 1, 190, 181, 2, 15, 3, 62, 29, 42, 180, 2, 15]
abbrev dktX0_listen_1 : List UInt8 := dkwX0_listen_1 ++ dktX0_listen_2
def dkwX0_listen_0 : List UInt8 := [27, 184, 1, 252, 154, 0, 5, 2, 172, 42, 180, 0, 141, 27, 50, 77, 44, 199, 0, 6, 16, 245, 172, 44]
abbrev dktX0_listen_0 : List UInt8 := dkwX0_listen_0 ++ dktX0_listen_1
theorem dksX0_listen_0 : cX0_listen.data.toList.drop 0 = dktX0_listen_0 := by decide +kernel
theorem dksX0_listen_1 : cX0_listen.data.toList.drop 24 = dktX0_listen_1 := dk_seg dksX0_listen_0 24 rfl rfl
theorem dksX0_listen_2 : cX0_listen.data.toList.drop 46 = dktX0_listen_2 := dk_seg dksX0_listen_1 22 rfl rfl
theorem dksX0_listen_3 : cX0_listen.data.toList.drop 70 = dktX0_listen_3 := dk_seg dksX0_listen_2 24 rfl rfl
theorem dksX0_listen_4 : cX0_listen.data.toList.drop 94 = dktX0_listen_4 := dk_seg dksX0_listen_3 24 rfl rfl
theorem dksX0_listen_5 : cX0_listen.data.toList.drop 117 = dktX0_listen_5 := dk_seg dksX0_listen_4 23 rfl rfl
theorem dksX0_listen_6 : cX0_listen.data.toList.drop 139 = dktX0_listen_6 := dk_seg dksX0_listen_5 22 rfl rfl
theorem dksX0_listen_7 : cX0_listen.data.toList.drop 161 = dktX0_listen_7 := dk_seg dksX0_listen_6 22 rfl rfl
theorem dksX0_listen_8 : cX0_listen.data.toList.drop 185 = dktX0_listen_8 := dk_seg dksX0_listen_7 24 rfl rfl
theorem dksX0_listen_9 : cX0_listen.data.toList.drop 208 = dktX0_listen_9 := dk_seg dksX0_listen_8 23 rfl rfl
theorem dX0_listen_0 : decode cX0_listen 0 = .ok (.iload_n 1, 1) := dk_27 (dk_at dksX0_listen_0 0 rfl rfl)
theorem dX0_listen_1 : decode cX0_listen 1 = .ok (.invokestatic 508, 3) := dk_184 1 252 (dk_at dksX0_listen_0 1 rfl rfl)
theorem dX0_listen_4 : decode cX0_listen 4 = .ok (.ifCond .ne 5, 3) := dk_154 0 5 (dk_at dksX0_listen_0 4 rfl rfl)
theorem dX0_listen_7 : decode cX0_listen 7 = .ok (.iconst (-1), 1) := dk_2 (dk_at dksX0_listen_0 7 rfl rfl)
theorem dX0_listen_8 : decode cX0_listen 8 = .ok (.ireturn, 1) := dk_172 (dk_at dksX0_listen_0 8 rfl rfl)
theorem dX0_listen_9 : decode cX0_listen 9 = .ok (.aload_n 0, 1) := dk_42 (dk_at dksX0_listen_0 9 rfl rfl)
theorem dX0_listen_10 : decode cX0_listen 10 = .ok (.getfield 141, 3) := dk_180 0 141 (dk_at dksX0_listen_0 10 rfl rfl)
theorem dX0_listen_13 : decode cX0_listen 13 = .ok (.iload_n 1, 1) := dk_27 (dk_at dksX0_listen_0 13 rfl rfl)
theorem dX0_listen_14 : decode cX0_listen 14 = .ok (.aaload, 1) := dk_50 (dk_at dksX0_listen_0 14 rfl rfl)
theorem dX0_listen_15 : decode cX0_listen 15 = .ok (.astore_n 2, 1) := dk_77 (dk_at dksX0_listen_0 15 rfl rfl)
theorem dX0_listen_16 : decode cX0_listen 16 = .ok (.aload_n 2, 1) := dk_44 (dk_at dksX0_listen_0 16 rfl rfl)
theorem dX0_listen_17 : decode cX0_listen 17 = .ok (.ifnonnull 6, 3) := dk_199 0 6 (dk_at dksX0_listen_0 17 rfl rfl)
theorem dX0_listen_20 : decode cX0_listen 20 = .ok (.bipush (-11), 2) := dk_16 245 (dk_at dksX0_listen_0 20 rfl rfl)
theorem dX0_listen_22 : decode cX0_listen 22 = .ok (.ireturn, 1) := dk_172 (dk_at dksX0_listen_0 22 rfl rfl)
theorem dX0_listen_23 : decode cX0_listen 23 = .ok (.aload_n 2, 1) := dk_44 (dk_at dksX0_listen_0 23 rfl rfl)
theorem dX0_listen_24 : decode cX0_listen 24 = .ok (.instanceof 513, 3) := dk_193 2 1 (dk_at dksX0_listen_1 0 rfl rfl)
theorem dX0_listen_27 : decode cX0_listen 27 = .ok (.ifCond .eq 58, 3) := dk_153 0 58 (dk_at dksX0_listen_1 3 rfl rfl)
theorem dX0_listen_30 : decode cX0_listen 30 = .ok (.aload_n 0, 1) := dk_42 (dk_at dksX0_listen_1 6 rfl rfl)
theorem dX0_listen_31 : decode cX0_listen 31 = .ok (.aload_n 2, 1) := dk_44 (dk_at dksX0_listen_1 7 rfl rfl)
theorem dX0_listen_32 : decode cX0_listen 32 = .ok (.checkcast 513, 3) := dk_192 2 1 (dk_at dksX0_listen_1 8 rfl rfl)
theorem dX0_listen_35 : decode cX0_listen 35 = .ok (.arraylength, 1) := dk_190 (dk_at dksX0_listen_1 11 rfl rfl)
theorem dX0_listen_36 : decode cX0_listen 36 = .ok (.putfield 527, 3) := dk_181 2 15 (dk_at dksX0_listen_1 12 rfl rfl)
theorem dX0_listen_39 : decode cX0_listen 39 = .ok (.iconst 0, 1) := dk_3 (dk_at dksX0_listen_1 15 rfl rfl)
theorem dX0_listen_40 : decode cX0_listen 40 = .ok (.istore_n 3, 1) := dk_62 (dk_at dksX0_listen_1 16 rfl rfl)
theorem dX0_listen_41 : decode cX0_listen 41 = .ok (.iload_n 3, 1) := dk_29 (dk_at dksX0_listen_1 17 rfl rfl)
theorem dX0_listen_42 : decode cX0_listen 42 = .ok (.aload_n 0, 1) := dk_42 (dk_at dksX0_listen_1 18 rfl rfl)
theorem dX0_listen_43 : decode cX0_listen 43 = .ok (.getfield 527, 3) := dk_180 2 15 (dk_at dksX0_listen_1 19 rfl rfl)
theorem dX0_listen_46 : decode cX0_listen 46 = .ok (.if_icmp .ge 36, 3) := dk_162 0 36 (dk_at dksX0_listen_2 0 rfl rfl)
theorem dX0_listen_49 : decode cX0_listen 49 = .ok (.aload_n 0, 1) := dk_42 (dk_at dksX0_listen_2 3 rfl rfl)
theorem dX0_listen_50 : decode cX0_listen 50 = .ok (.getfield 129, 3) := dk_180 0 129 (dk_at dksX0_listen_2 4 rfl rfl)
theorem dX0_listen_53 : decode cX0_listen 53 = .ok (.iload_n 3, 1) := dk_29 (dk_at dksX0_listen_2 7 rfl rfl)
theorem dX0_listen_54 : decode cX0_listen 54 = .ok (.aload_n 2, 1) := dk_44 (dk_at dksX0_listen_2 8 rfl rfl)
theorem dX0_listen_55 : decode cX0_listen 55 = .ok (.checkcast 513, 3) := dk_192 2 1 (dk_at dksX0_listen_2 9 rfl rfl)
theorem dX0_listen_58 : decode cX0_listen 58 = .ok (.iload_n 3, 1) := dk_29 (dk_at dksX0_listen_2 12 rfl rfl)
theorem dX0_listen_59 : decode cX0_listen 59 = .ok (.baload, 1) := dk_51 (dk_at dksX0_listen_2 13 rfl rfl)
theorem dX0_listen_60 : decode cX0_listen 60 = .ok (.bipush (-128), 2) := dk_16 128 (dk_at dksX0_listen_2 14 rfl rfl)
theorem dX0_listen_62 : decode cX0_listen 62 = .ok (.if_icmp .ne 7, 3) := dk_160 0 7 (dk_at dksX0_listen_2 16 rfl rfl)
theorem dX0_listen_65 : decode cX0_listen 65 = .ok (.iconst 0, 1) := dk_3 (dk_at dksX0_listen_2 19 rfl rfl)
theorem dX0_listen_66 : decode cX0_listen 66 = .ok (.goto 9, 3) := dk_167 0 9 (dk_at dksX0_listen_2 20 rfl rfl)
theorem dX0_listen_69 : decode cX0_listen 69 = .ok (.aload_n 2, 1) := dk_44 (dk_at dksX0_listen_2 23 rfl rfl)
theorem dX0_listen_70 : decode cX0_listen 70 = .ok (.checkcast 513, 3) := dk_192 2 1 (dk_at dksX0_listen_3 0 rfl rfl)
theorem dX0_listen_73 : decode cX0_listen 73 = .ok (.iload_n 3, 1) := dk_29 (dk_at dksX0_listen_3 3 rfl rfl)
theorem dX0_listen_74 : decode cX0_listen 74 = .ok (.baload, 1) := dk_51 (dk_at dksX0_listen_3 4 rfl rfl)
theorem dX0_listen_75 : decode cX0_listen 75 = .ok (.iastore, 1) := dk_79 (dk_at dksX0_listen_3 5 rfl rfl)
theorem dX0_listen_76 : decode cX0_listen 76 = .ok (.iinc 3 1, 3) := dk_132 3 1 (dk_at dksX0_listen_3 6 rfl rfl)
theorem dX0_listen_79 : decode cX0_listen 79 = .ok (.goto (-38), 3) := dk_167 255 218 (dk_at dksX0_listen_3 9 rfl rfl)
theorem dX0_listen_82 : decode cX0_listen 82 = .ok (.goto 132, 3) := dk_167 0 132 (dk_at dksX0_listen_3 12 rfl rfl)
theorem dX0_listen_85 : decode cX0_listen 85 = .ok (.aload_n 2, 1) := dk_44 (dk_at dksX0_listen_3 15 rfl rfl)
theorem dX0_listen_86 : decode cX0_listen 86 = .ok (.instanceof 515, 3) := dk_193 2 3 (dk_at dksX0_listen_3 16 rfl rfl)
theorem dX0_listen_89 : decode cX0_listen 89 = .ok (.ifCond .eq 59, 3) := dk_153 0 59 (dk_at dksX0_listen_3 19 rfl rfl)
theorem dX0_listen_92 : decode cX0_listen 92 = .ok (.aload_n 0, 1) := dk_42 (dk_at dksX0_listen_3 22 rfl rfl)
theorem dX0_listen_93 : decode cX0_listen 93 = .ok (.aload_n 2, 1) := dk_44 (dk_at dksX0_listen_3 23 rfl rfl)
theorem dX0_listen_94 : decode cX0_listen 94 = .ok (.checkcast 515, 3) := dk_192 2 3 (dk_at dksX0_listen_4 0 rfl rfl)
theorem dX0_listen_97 : decode cX0_listen 97 = .ok (.arraylength, 1) := dk_190 (dk_at dksX0_listen_4 3 rfl rfl)
theorem dX0_listen_98 : decode cX0_listen 98 = .ok (.putfield 527, 3) := dk_181 2 15 (dk_at dksX0_listen_4 4 rfl rfl)
theorem dX0_listen_101 : decode cX0_listen 101 = .ok (.iconst 0, 1) := dk_3 (dk_at dksX0_listen_4 7 rfl rfl)
theorem dX0_listen_102 : decode cX0_listen 102 = .ok (.istore_n 3, 1) := dk_62 (dk_at dksX0_listen_4 8 rfl rfl)
theorem dX0_listen_103 : decode cX0_listen 103 = .ok (.iload_n 3, 1) := dk_29 (dk_at dksX0_listen_4 9 rfl rfl)
theorem dX0_listen_104 : decode cX0_listen 104 = .ok (.aload_n 0, 1) := dk_42 (dk_at dksX0_listen_4 10 rfl rfl)
theorem dX0_listen_105 : decode cX0_listen 105 = .ok (.getfield 527, 3) := dk_180 2 15 (dk_at dksX0_listen_4 11 rfl rfl)
theorem dX0_listen_108 : decode cX0_listen 108 = .ok (.if_icmp .ge 37, 3) := dk_162 0 37 (dk_at dksX0_listen_4 14 rfl rfl)
theorem dX0_listen_111 : decode cX0_listen 111 = .ok (.aload_n 0, 1) := dk_42 (dk_at dksX0_listen_4 17 rfl rfl)
theorem dX0_listen_112 : decode cX0_listen 112 = .ok (.getfield 129, 3) := dk_180 0 129 (dk_at dksX0_listen_4 18 rfl rfl)
theorem dX0_listen_115 : decode cX0_listen 115 = .ok (.iload_n 3, 1) := dk_29 (dk_at dksX0_listen_4 21 rfl rfl)
theorem dX0_listen_116 : decode cX0_listen 116 = .ok (.aload_n 2, 1) := dk_44 (dk_at dksX0_listen_4 22 rfl rfl)
theorem dX0_listen_117 : decode cX0_listen 117 = .ok (.checkcast 515, 3) := dk_192 2 3 (dk_at dksX0_listen_5 0 rfl rfl)
theorem dX0_listen_120 : decode cX0_listen 120 = .ok (.iload_n 3, 1) := dk_29 (dk_at dksX0_listen_5 3 rfl rfl)
theorem dX0_listen_121 : decode cX0_listen 121 = .ok (.saload, 1) := dk_53 (dk_at dksX0_listen_5 4 rfl rfl)
theorem dX0_listen_122 : decode cX0_listen 122 = .ok (.sipush (-32768), 3) := dk_17 128 0 (dk_at dksX0_listen_5 5 rfl rfl)
theorem dX0_listen_125 : decode cX0_listen 125 = .ok (.if_icmp .ne 7, 3) := dk_160 0 7 (dk_at dksX0_listen_5 8 rfl rfl)
theorem dX0_listen_128 : decode cX0_listen 128 = .ok (.iconst 0, 1) := dk_3 (dk_at dksX0_listen_5 11 rfl rfl)
theorem dX0_listen_129 : decode cX0_listen 129 = .ok (.goto 9, 3) := dk_167 0 9 (dk_at dksX0_listen_5 12 rfl rfl)
theorem dX0_listen_132 : decode cX0_listen 132 = .ok (.aload_n 2, 1) := dk_44 (dk_at dksX0_listen_5 15 rfl rfl)
theorem dX0_listen_133 : decode cX0_listen 133 = .ok (.checkcast 515, 3) := dk_192 2 3 (dk_at dksX0_listen_5 16 rfl rfl)
theorem dX0_listen_136 : decode cX0_listen 136 = .ok (.iload_n 3, 1) := dk_29 (dk_at dksX0_listen_5 19 rfl rfl)
theorem dX0_listen_137 : decode cX0_listen 137 = .ok (.saload, 1) := dk_53 (dk_at dksX0_listen_5 20 rfl rfl)
theorem dX0_listen_138 : decode cX0_listen 138 = .ok (.iastore, 1) := dk_79 (dk_at dksX0_listen_5 21 rfl rfl)
theorem dX0_listen_139 : decode cX0_listen 139 = .ok (.iinc 3 1, 3) := dk_132 3 1 (dk_at dksX0_listen_6 0 rfl rfl)
theorem dX0_listen_142 : decode cX0_listen 142 = .ok (.goto (-39), 3) := dk_167 255 217 (dk_at dksX0_listen_6 3 rfl rfl)
theorem dX0_listen_145 : decode cX0_listen 145 = .ok (.goto 69, 3) := dk_167 0 69 (dk_at dksX0_listen_6 6 rfl rfl)
theorem dX0_listen_148 : decode cX0_listen 148 = .ok (.aload_n 2, 1) := dk_44 (dk_at dksX0_listen_6 9 rfl rfl)
theorem dX0_listen_149 : decode cX0_listen 149 = .ok (.instanceof 517, 3) := dk_193 2 5 (dk_at dksX0_listen_6 10 rfl rfl)
theorem dX0_listen_152 : decode cX0_listen 152 = .ok (.ifCond .eq 59, 3) := dk_153 0 59 (dk_at dksX0_listen_6 13 rfl rfl)
theorem dX0_listen_155 : decode cX0_listen 155 = .ok (.aload_n 0, 1) := dk_42 (dk_at dksX0_listen_6 16 rfl rfl)
theorem dX0_listen_156 : decode cX0_listen 156 = .ok (.aload_n 2, 1) := dk_44 (dk_at dksX0_listen_6 17 rfl rfl)
theorem dX0_listen_157 : decode cX0_listen 157 = .ok (.checkcast 517, 3) := dk_192 2 5 (dk_at dksX0_listen_6 18 rfl rfl)
theorem dX0_listen_160 : decode cX0_listen 160 = .ok (.arraylength, 1) := dk_190 (dk_at dksX0_listen_6 21 rfl rfl)
theorem dX0_listen_161 : decode cX0_listen 161 = .ok (.putfield 527, 3) := dk_181 2 15 (dk_at dksX0_listen_7 0 rfl rfl)
theorem dX0_listen_164 : decode cX0_listen 164 = .ok (.iconst 0, 1) := dk_3 (dk_at dksX0_listen_7 3 rfl rfl)
theorem dX0_listen_165 : decode cX0_listen 165 = .ok (.istore_n 3, 1) := dk_62 (dk_at dksX0_listen_7 4 rfl rfl)
theorem dX0_listen_166 : decode cX0_listen 166 = .ok (.iload_n 3, 1) := dk_29 (dk_at dksX0_listen_7 5 rfl rfl)
theorem dX0_listen_167 : decode cX0_listen 167 = .ok (.aload_n 0, 1) := dk_42 (dk_at dksX0_listen_7 6 rfl rfl)
theorem dX0_listen_168 : decode cX0_listen 168 = .ok (.getfield 527, 3) := dk_180 2 15 (dk_at dksX0_listen_7 7 rfl rfl)
theorem dX0_listen_171 : decode cX0_listen 171 = .ok (.if_icmp .ge 37, 3) := dk_162 0 37 (dk_at dksX0_listen_7 10 rfl rfl)
theorem dX0_listen_174 : decode cX0_listen 174 = .ok (.aload_n 0, 1) := dk_42 (dk_at dksX0_listen_7 13 rfl rfl)
theorem dX0_listen_175 : decode cX0_listen 175 = .ok (.getfield 129, 3) := dk_180 0 129 (dk_at dksX0_listen_7 14 rfl rfl)
theorem dX0_listen_178 : decode cX0_listen 178 = .ok (.iload_n 3, 1) := dk_29 (dk_at dksX0_listen_7 17 rfl rfl)
theorem dX0_listen_179 : decode cX0_listen 179 = .ok (.aload_n 2, 1) := dk_44 (dk_at dksX0_listen_7 18 rfl rfl)
theorem dX0_listen_180 : decode cX0_listen 180 = .ok (.checkcast 517, 3) := dk_192 2 5 (dk_at dksX0_listen_7 19 rfl rfl)
theorem dX0_listen_183 : decode cX0_listen 183 = .ok (.iload_n 3, 1) := dk_29 (dk_at dksX0_listen_7 22 rfl rfl)
theorem dX0_listen_184 : decode cX0_listen 184 = .ok (.iaload, 1) := dk_46 (dk_at dksX0_listen_7 23 rfl rfl)
theorem dX0_listen_185 : decode cX0_listen 185 = .ok (.ldc_w 525, 3) := dk_19 2 13 (dk_at dksX0_listen_8 0 rfl rfl)
theorem dX0_listen_188 : decode cX0_listen 188 = .ok (.if_icmp .ne 7, 3) := dk_160 0 7 (dk_at dksX0_listen_8 3 rfl rfl)
theorem dX0_listen_191 : decode cX0_listen 191 = .ok (.iconst 0, 1) := dk_3 (dk_at dksX0_listen_8 6 rfl rfl)
theorem dX0_listen_192 : decode cX0_listen 192 = .ok (.goto 9, 3) := dk_167 0 9 (dk_at dksX0_listen_8 7 rfl rfl)
theorem dX0_listen_195 : decode cX0_listen 195 = .ok (.aload_n 2, 1) := dk_44 (dk_at dksX0_listen_8 10 rfl rfl)
theorem dX0_listen_196 : decode cX0_listen 196 = .ok (.checkcast 517, 3) := dk_192 2 5 (dk_at dksX0_listen_8 11 rfl rfl)
theorem dX0_listen_199 : decode cX0_listen 199 = .ok (.iload_n 3, 1) := dk_29 (dk_at dksX0_listen_8 14 rfl rfl)
theorem dX0_listen_200 : decode cX0_listen 200 = .ok (.iaload, 1) := dk_46 (dk_at dksX0_listen_8 15 rfl rfl)
theorem dX0_listen_201 : decode cX0_listen 201 = .ok (.iastore, 1) := dk_79 (dk_at dksX0_listen_8 16 rfl rfl)
theorem dX0_listen_202 : decode cX0_listen 202 = .ok (.iinc 3 1, 3) := dk_132 3 1 (dk_at dksX0_listen_8 17 rfl rfl)
theorem dX0_listen_205 : decode cX0_listen 205 = .ok (.goto (-39), 3) := dk_167 255 217 (dk_at dksX0_listen_8 20 rfl rfl)
theorem dX0_listen_208 : decode cX0_listen 208 = .ok (.goto 6, 3) := dk_167 0 6 (dk_at dksX0_listen_9 0 rfl rfl)
theorem dX0_listen_211 : decode cX0_listen 211 = .ok (.bipush (-12), 2) := dk_16 244 (dk_at dksX0_listen_9 3 rfl rfl)
theorem dX0_listen_213 : decode cX0_listen 213 = .ok (.ireturn, 1) := dk_172 (dk_at dksX0_listen_9 5 rfl rfl)
theorem dX0_listen_214 : decode cX0_listen 214 = .ok (.iconst 0, 1) := dk_3 (dk_at dksX0_listen_9 6 rfl rfl)
theorem dX0_listen_215 : decode cX0_listen 215 = .ok (.ireturn, 1) := dk_172 (dk_at dksX0_listen_9 7 rfl rfl)
abbrev cX0_loudBy : ByteArray := prog_1_method_80_code
def yX0_loudBy : MethodName := ⟨RX0, "loudBy", "(I)J"⟩
def dkwX0_loudBy_4 : List UInt8 := [32, 22, 4, 184, 2, 27, 20, 0, 254, 109, 97, 173]
abbrev dktX0_loudBy_4 : List UInt8 := dkwX0_loudBy_4 ++ []
def dkwX0_loudBy_3 : List UInt8 := [132, 6, 1, 167, 255, 190, 32, 184, 2, 21, 65, 22, 4, 184, 2, 21, 55, 4, 32, 22, 4, 184, 2, 24]
abbrev dktX0_loudBy_3 : List UInt8 := dkwX0_loudBy_3 ++ dktX0_loudBy_4
def dkwX0_loudBy_2 : List UInt8 := [21, 6, 46, 133, 27, 5, 21, 6, 27, 7, 108, 96, 27, 112, 104, 100, 184, 2, 18, 133, 105, 97, 55, 4]
abbrev dktX0_loudBy_2 : List UInt8 := dkwX0_loudBy_2 ++ dktX0_loudBy_3
def dkwX0_loudBy_1 : List UInt8 := [46, 133, 27, 5, 21, 6, 27, 112, 104, 100, 184, 2, 18, 133, 105, 97, 65, 22, 4, 42, 180, 0, 129]
abbrev dktX0_loudBy_1 : List UInt8 := dkwX0_loudBy_1 ++ dktX0_loudBy_2
def dkwX0_loudBy_0 : List UInt8 := [9, 65, 9, 55, 4, 3, 54, 6, 21, 6, 42, 180, 2, 15, 162, 0, 63, 32, 42, 180, 0, 129, 21, 6]
abbrev dktX0_loudBy_0 : List UInt8 := dkwX0_loudBy_0 ++ dktX0_loudBy_1
theorem dksX0_loudBy_0 : cX0_loudBy.data.toList.drop 0 = dktX0_loudBy_0 := by decide +kernel
theorem dksX0_loudBy_1 : cX0_loudBy.data.toList.drop 24 = dktX0_loudBy_1 := dk_seg dksX0_loudBy_0 24 rfl rfl
theorem dksX0_loudBy_2 : cX0_loudBy.data.toList.drop 47 = dktX0_loudBy_2 := dk_seg dksX0_loudBy_1 23 rfl rfl
theorem dksX0_loudBy_3 : cX0_loudBy.data.toList.drop 71 = dktX0_loudBy_3 := dk_seg dksX0_loudBy_2 24 rfl rfl
theorem dksX0_loudBy_4 : cX0_loudBy.data.toList.drop 95 = dktX0_loudBy_4 := dk_seg dksX0_loudBy_3 24 rfl rfl
theorem dX0_loudBy_0 : decode cX0_loudBy 0 = .ok (.lconst 0, 1) := dk_9 (dk_at dksX0_loudBy_0 0 rfl rfl)
theorem dX0_loudBy_1 : decode cX0_loudBy 1 = .ok (.lstore_n 2, 1) := dk_65 (dk_at dksX0_loudBy_0 1 rfl rfl)
theorem dX0_loudBy_2 : decode cX0_loudBy 2 = .ok (.lconst 0, 1) := dk_9 (dk_at dksX0_loudBy_0 2 rfl rfl)
theorem dX0_loudBy_3 : decode cX0_loudBy 3 = .ok (.lstore 4, 2) := dk_55 4 (dk_at dksX0_loudBy_0 3 rfl rfl)
theorem dX0_loudBy_5 : decode cX0_loudBy 5 = .ok (.iconst 0, 1) := dk_3 (dk_at dksX0_loudBy_0 5 rfl rfl)
theorem dX0_loudBy_6 : decode cX0_loudBy 6 = .ok (.istore 6, 2) := dk_54 6 (dk_at dksX0_loudBy_0 6 rfl rfl)
theorem dX0_loudBy_8 : decode cX0_loudBy 8 = .ok (.iload 6, 2) := dk_21 6 (dk_at dksX0_loudBy_0 8 rfl rfl)
theorem dX0_loudBy_10 : decode cX0_loudBy 10 = .ok (.aload_n 0, 1) := dk_42 (dk_at dksX0_loudBy_0 10 rfl rfl)
theorem dX0_loudBy_11 : decode cX0_loudBy 11 = .ok (.getfield 527, 3) := dk_180 2 15 (dk_at dksX0_loudBy_0 11 rfl rfl)
theorem dX0_loudBy_14 : decode cX0_loudBy 14 = .ok (.if_icmp .ge 63, 3) := dk_162 0 63 (dk_at dksX0_loudBy_0 14 rfl rfl)
theorem dX0_loudBy_17 : decode cX0_loudBy 17 = .ok (.lload_n 2, 1) := dk_32 (dk_at dksX0_loudBy_0 17 rfl rfl)
theorem dX0_loudBy_18 : decode cX0_loudBy 18 = .ok (.aload_n 0, 1) := dk_42 (dk_at dksX0_loudBy_0 18 rfl rfl)
theorem dX0_loudBy_19 : decode cX0_loudBy 19 = .ok (.getfield 129, 3) := dk_180 0 129 (dk_at dksX0_loudBy_0 19 rfl rfl)
theorem dX0_loudBy_22 : decode cX0_loudBy 22 = .ok (.iload 6, 2) := dk_21 6 (dk_at dksX0_loudBy_0 22 rfl rfl)
theorem dX0_loudBy_24 : decode cX0_loudBy 24 = .ok (.iaload, 1) := dk_46 (dk_at dksX0_loudBy_1 0 rfl rfl)
theorem dX0_loudBy_25 : decode cX0_loudBy 25 = .ok (.i2l, 1) := dk_133 (dk_at dksX0_loudBy_1 1 rfl rfl)
theorem dX0_loudBy_26 : decode cX0_loudBy 26 = .ok (.iload_n 1, 1) := dk_27 (dk_at dksX0_loudBy_1 2 rfl rfl)
theorem dX0_loudBy_27 : decode cX0_loudBy 27 = .ok (.iconst 2, 1) := dk_5 (dk_at dksX0_loudBy_1 3 rfl rfl)
theorem dX0_loudBy_28 : decode cX0_loudBy 28 = .ok (.iload 6, 2) := dk_21 6 (dk_at dksX0_loudBy_1 4 rfl rfl)
theorem dX0_loudBy_30 : decode cX0_loudBy 30 = .ok (.iload_n 1, 1) := dk_27 (dk_at dksX0_loudBy_1 6 rfl rfl)
theorem dX0_loudBy_31 : decode cX0_loudBy 31 = .ok (.irem, 1) := dk_112 (dk_at dksX0_loudBy_1 7 rfl rfl)
theorem dX0_loudBy_32 : decode cX0_loudBy 32 = .ok (.imul, 1) := dk_104 (dk_at dksX0_loudBy_1 8 rfl rfl)
theorem dX0_loudBy_33 : decode cX0_loudBy 33 = .ok (.isub, 1) := dk_100 (dk_at dksX0_loudBy_1 9 rfl rfl)
theorem dX0_loudBy_34 : decode cX0_loudBy 34 = .ok (.invokestatic 530, 3) := dk_184 2 18 (dk_at dksX0_loudBy_1 10 rfl rfl)
theorem dX0_loudBy_37 : decode cX0_loudBy 37 = .ok (.i2l, 1) := dk_133 (dk_at dksX0_loudBy_1 13 rfl rfl)
theorem dX0_loudBy_38 : decode cX0_loudBy 38 = .ok (.lmul, 1) := dk_105 (dk_at dksX0_loudBy_1 14 rfl rfl)
theorem dX0_loudBy_39 : decode cX0_loudBy 39 = .ok (.ladd, 1) := dk_97 (dk_at dksX0_loudBy_1 15 rfl rfl)
theorem dX0_loudBy_40 : decode cX0_loudBy 40 = .ok (.lstore_n 2, 1) := dk_65 (dk_at dksX0_loudBy_1 16 rfl rfl)
theorem dX0_loudBy_41 : decode cX0_loudBy 41 = .ok (.lload 4, 2) := dk_22 4 (dk_at dksX0_loudBy_1 17 rfl rfl)
theorem dX0_loudBy_43 : decode cX0_loudBy 43 = .ok (.aload_n 0, 1) := dk_42 (dk_at dksX0_loudBy_1 19 rfl rfl)
theorem dX0_loudBy_44 : decode cX0_loudBy 44 = .ok (.getfield 129, 3) := dk_180 0 129 (dk_at dksX0_loudBy_1 20 rfl rfl)
theorem dX0_loudBy_47 : decode cX0_loudBy 47 = .ok (.iload 6, 2) := dk_21 6 (dk_at dksX0_loudBy_2 0 rfl rfl)
theorem dX0_loudBy_49 : decode cX0_loudBy 49 = .ok (.iaload, 1) := dk_46 (dk_at dksX0_loudBy_2 2 rfl rfl)
theorem dX0_loudBy_50 : decode cX0_loudBy 50 = .ok (.i2l, 1) := dk_133 (dk_at dksX0_loudBy_2 3 rfl rfl)
theorem dX0_loudBy_51 : decode cX0_loudBy 51 = .ok (.iload_n 1, 1) := dk_27 (dk_at dksX0_loudBy_2 4 rfl rfl)
theorem dX0_loudBy_52 : decode cX0_loudBy 52 = .ok (.iconst 2, 1) := dk_5 (dk_at dksX0_loudBy_2 5 rfl rfl)
theorem dX0_loudBy_53 : decode cX0_loudBy 53 = .ok (.iload 6, 2) := dk_21 6 (dk_at dksX0_loudBy_2 6 rfl rfl)
theorem dX0_loudBy_55 : decode cX0_loudBy 55 = .ok (.iload_n 1, 1) := dk_27 (dk_at dksX0_loudBy_2 8 rfl rfl)
theorem dX0_loudBy_56 : decode cX0_loudBy 56 = .ok (.iconst 4, 1) := dk_7 (dk_at dksX0_loudBy_2 9 rfl rfl)
theorem dX0_loudBy_57 : decode cX0_loudBy 57 = .ok (.idiv, 1) := dk_108 (dk_at dksX0_loudBy_2 10 rfl rfl)
theorem dX0_loudBy_58 : decode cX0_loudBy 58 = .ok (.iadd, 1) := dk_96 (dk_at dksX0_loudBy_2 11 rfl rfl)
theorem dX0_loudBy_59 : decode cX0_loudBy 59 = .ok (.iload_n 1, 1) := dk_27 (dk_at dksX0_loudBy_2 12 rfl rfl)
theorem dX0_loudBy_60 : decode cX0_loudBy 60 = .ok (.irem, 1) := dk_112 (dk_at dksX0_loudBy_2 13 rfl rfl)
theorem dX0_loudBy_61 : decode cX0_loudBy 61 = .ok (.imul, 1) := dk_104 (dk_at dksX0_loudBy_2 14 rfl rfl)
theorem dX0_loudBy_62 : decode cX0_loudBy 62 = .ok (.isub, 1) := dk_100 (dk_at dksX0_loudBy_2 15 rfl rfl)
theorem dX0_loudBy_63 : decode cX0_loudBy 63 = .ok (.invokestatic 530, 3) := dk_184 2 18 (dk_at dksX0_loudBy_2 16 rfl rfl)
theorem dX0_loudBy_66 : decode cX0_loudBy 66 = .ok (.i2l, 1) := dk_133 (dk_at dksX0_loudBy_2 19 rfl rfl)
theorem dX0_loudBy_67 : decode cX0_loudBy 67 = .ok (.lmul, 1) := dk_105 (dk_at dksX0_loudBy_2 20 rfl rfl)
theorem dX0_loudBy_68 : decode cX0_loudBy 68 = .ok (.ladd, 1) := dk_97 (dk_at dksX0_loudBy_2 21 rfl rfl)
theorem dX0_loudBy_69 : decode cX0_loudBy 69 = .ok (.lstore 4, 2) := dk_55 4 (dk_at dksX0_loudBy_2 22 rfl rfl)
theorem dX0_loudBy_71 : decode cX0_loudBy 71 = .ok (.iinc 6 1, 3) := dk_132 6 1 (dk_at dksX0_loudBy_3 0 rfl rfl)
theorem dX0_loudBy_74 : decode cX0_loudBy 74 = .ok (.goto (-66), 3) := dk_167 255 190 (dk_at dksX0_loudBy_3 3 rfl rfl)
theorem dX0_loudBy_77 : decode cX0_loudBy 77 = .ok (.lload_n 2, 1) := dk_32 (dk_at dksX0_loudBy_3 6 rfl rfl)
theorem dX0_loudBy_78 : decode cX0_loudBy 78 = .ok (.invokestatic 533, 3) := dk_184 2 21 (dk_at dksX0_loudBy_3 7 rfl rfl)
theorem dX0_loudBy_81 : decode cX0_loudBy 81 = .ok (.lstore_n 2, 1) := dk_65 (dk_at dksX0_loudBy_3 10 rfl rfl)
theorem dX0_loudBy_82 : decode cX0_loudBy 82 = .ok (.lload 4, 2) := dk_22 4 (dk_at dksX0_loudBy_3 11 rfl rfl)
theorem dX0_loudBy_84 : decode cX0_loudBy 84 = .ok (.invokestatic 533, 3) := dk_184 2 21 (dk_at dksX0_loudBy_3 13 rfl rfl)
theorem dX0_loudBy_87 : decode cX0_loudBy 87 = .ok (.lstore 4, 2) := dk_55 4 (dk_at dksX0_loudBy_3 16 rfl rfl)
theorem dX0_loudBy_89 : decode cX0_loudBy 89 = .ok (.lload_n 2, 1) := dk_32 (dk_at dksX0_loudBy_3 18 rfl rfl)
theorem dX0_loudBy_90 : decode cX0_loudBy 90 = .ok (.lload 4, 2) := dk_22 4 (dk_at dksX0_loudBy_3 19 rfl rfl)
theorem dX0_loudBy_92 : decode cX0_loudBy 92 = .ok (.invokestatic 536, 3) := dk_184 2 24 (dk_at dksX0_loudBy_3 21 rfl rfl)
theorem dX0_loudBy_95 : decode cX0_loudBy 95 = .ok (.lload_n 2, 1) := dk_32 (dk_at dksX0_loudBy_4 0 rfl rfl)
theorem dX0_loudBy_96 : decode cX0_loudBy 96 = .ok (.lload 4, 2) := dk_22 4 (dk_at dksX0_loudBy_4 1 rfl rfl)
theorem dX0_loudBy_98 : decode cX0_loudBy 98 = .ok (.invokestatic 539, 3) := dk_184 2 27 (dk_at dksX0_loudBy_4 3 rfl rfl)
theorem dX0_loudBy_101 : decode cX0_loudBy 101 = .ok (.ldc2_w 254, 3) := dk_20 0 254 (dk_at dksX0_loudBy_4 6 rfl rfl)
theorem dX0_loudBy_104 : decode cX0_loudBy 104 = .ok (.ldiv, 1) := dk_109 (dk_at dksX0_loudBy_4 9 rfl rfl)
theorem dX0_loudBy_105 : decode cX0_loudBy 105 = .ok (.ladd, 1) := dk_97 (dk_at dksX0_loudBy_4 10 rfl rfl)
theorem dX0_loudBy_106 : decode cX0_loudBy 106 = .ok (.lreturn, 1) := dk_173 (dk_at dksX0_loudBy_4 11 rfl rfl)
abbrev cX0_strongest : ByteArray := prog_1_method_83_code
def yX0_strongest : MethodName := ⟨RX0, "strongest", "(I)I"⟩
def dkwX0_strongest_2 : List UInt8 := [182, 2, 37, 42, 180, 2, 15, 133, 109, 148, 158, 0, 6, 21, 4, 62, 132, 4, 1, 167, 255, 216, 29, 172]
abbrev dktX0_strongest_2 : List UInt8 := dkwX0_strongest_2 ++ []
def dkwX0_strongest_1 : List UInt8 := [6, 54, 4, 21, 4, 16, 60, 163, 0, 39, 42, 21, 4, 182, 2, 37, 42, 180, 2, 15, 133, 109, 42, 29]
abbrev dktX0_strongest_1 : List UInt8 := dkwX0_strongest_1 ++ dktX0_strongest_2
def dkwX0_strongest_0 : List UInt8 := [42, 27, 182, 2, 32, 61, 28, 153, 0, 5, 28, 172, 42, 180, 2, 15, 154, 0, 6, 16, 254, 172, 5, 62]
abbrev dktX0_strongest_0 : List UInt8 := dkwX0_strongest_0 ++ dktX0_strongest_1
theorem dksX0_strongest_0 : cX0_strongest.data.toList.drop 0 = dktX0_strongest_0 := by decide +kernel
theorem dksX0_strongest_1 : cX0_strongest.data.toList.drop 24 = dktX0_strongest_1 := dk_seg dksX0_strongest_0 24 rfl rfl
theorem dksX0_strongest_2 : cX0_strongest.data.toList.drop 48 = dktX0_strongest_2 := dk_seg dksX0_strongest_1 24 rfl rfl
theorem dX0_strongest_0 : decode cX0_strongest 0 = .ok (.aload_n 0, 1) := dk_42 (dk_at dksX0_strongest_0 0 rfl rfl)
theorem dX0_strongest_1 : decode cX0_strongest 1 = .ok (.iload_n 1, 1) := dk_27 (dk_at dksX0_strongest_0 1 rfl rfl)
theorem dX0_strongest_2 : decode cX0_strongest 2 = .ok (.invokevirtual 544, 3) := dk_182 2 32 (dk_at dksX0_strongest_0 2 rfl rfl)
theorem dX0_strongest_5 : decode cX0_strongest 5 = .ok (.istore_n 2, 1) := dk_61 (dk_at dksX0_strongest_0 5 rfl rfl)
theorem dX0_strongest_6 : decode cX0_strongest 6 = .ok (.iload_n 2, 1) := dk_28 (dk_at dksX0_strongest_0 6 rfl rfl)
theorem dX0_strongest_7 : decode cX0_strongest 7 = .ok (.ifCond .eq 5, 3) := dk_153 0 5 (dk_at dksX0_strongest_0 7 rfl rfl)
theorem dX0_strongest_10 : decode cX0_strongest 10 = .ok (.iload_n 2, 1) := dk_28 (dk_at dksX0_strongest_0 10 rfl rfl)
theorem dX0_strongest_11 : decode cX0_strongest 11 = .ok (.ireturn, 1) := dk_172 (dk_at dksX0_strongest_0 11 rfl rfl)
theorem dX0_strongest_12 : decode cX0_strongest 12 = .ok (.aload_n 0, 1) := dk_42 (dk_at dksX0_strongest_0 12 rfl rfl)
theorem dX0_strongest_13 : decode cX0_strongest 13 = .ok (.getfield 527, 3) := dk_180 2 15 (dk_at dksX0_strongest_0 13 rfl rfl)
theorem dX0_strongest_16 : decode cX0_strongest 16 = .ok (.ifCond .ne 6, 3) := dk_154 0 6 (dk_at dksX0_strongest_0 16 rfl rfl)
theorem dX0_strongest_19 : decode cX0_strongest 19 = .ok (.bipush (-2), 2) := dk_16 254 (dk_at dksX0_strongest_0 19 rfl rfl)
theorem dX0_strongest_21 : decode cX0_strongest 21 = .ok (.ireturn, 1) := dk_172 (dk_at dksX0_strongest_0 21 rfl rfl)
theorem dX0_strongest_22 : decode cX0_strongest 22 = .ok (.iconst 2, 1) := dk_5 (dk_at dksX0_strongest_0 22 rfl rfl)
theorem dX0_strongest_23 : decode cX0_strongest 23 = .ok (.istore_n 3, 1) := dk_62 (dk_at dksX0_strongest_0 23 rfl rfl)
theorem dX0_strongest_24 : decode cX0_strongest 24 = .ok (.iconst 3, 1) := dk_6 (dk_at dksX0_strongest_1 0 rfl rfl)
theorem dX0_strongest_25 : decode cX0_strongest 25 = .ok (.istore 4, 2) := dk_54 4 (dk_at dksX0_strongest_1 1 rfl rfl)
theorem dX0_strongest_27 : decode cX0_strongest 27 = .ok (.iload 4, 2) := dk_21 4 (dk_at dksX0_strongest_1 3 rfl rfl)
theorem dX0_strongest_29 : decode cX0_strongest 29 = .ok (.bipush 60, 2) := dk_16 60 (dk_at dksX0_strongest_1 5 rfl rfl)
theorem dX0_strongest_31 : decode cX0_strongest 31 = .ok (.if_icmp .gt 39, 3) := dk_163 0 39 (dk_at dksX0_strongest_1 7 rfl rfl)
theorem dX0_strongest_34 : decode cX0_strongest 34 = .ok (.aload_n 0, 1) := dk_42 (dk_at dksX0_strongest_1 10 rfl rfl)
theorem dX0_strongest_35 : decode cX0_strongest 35 = .ok (.iload 4, 2) := dk_21 4 (dk_at dksX0_strongest_1 11 rfl rfl)
theorem dX0_strongest_37 : decode cX0_strongest 37 = .ok (.invokevirtual 549, 3) := dk_182 2 37 (dk_at dksX0_strongest_1 13 rfl rfl)
theorem dX0_strongest_40 : decode cX0_strongest 40 = .ok (.aload_n 0, 1) := dk_42 (dk_at dksX0_strongest_1 16 rfl rfl)
theorem dX0_strongest_41 : decode cX0_strongest 41 = .ok (.getfield 527, 3) := dk_180 2 15 (dk_at dksX0_strongest_1 17 rfl rfl)
theorem dX0_strongest_44 : decode cX0_strongest 44 = .ok (.i2l, 1) := dk_133 (dk_at dksX0_strongest_1 20 rfl rfl)
theorem dX0_strongest_45 : decode cX0_strongest 45 = .ok (.ldiv, 1) := dk_109 (dk_at dksX0_strongest_1 21 rfl rfl)
theorem dX0_strongest_46 : decode cX0_strongest 46 = .ok (.aload_n 0, 1) := dk_42 (dk_at dksX0_strongest_1 22 rfl rfl)
theorem dX0_strongest_47 : decode cX0_strongest 47 = .ok (.iload_n 3, 1) := dk_29 (dk_at dksX0_strongest_1 23 rfl rfl)
theorem dX0_strongest_48 : decode cX0_strongest 48 = .ok (.invokevirtual 549, 3) := dk_182 2 37 (dk_at dksX0_strongest_2 0 rfl rfl)
theorem dX0_strongest_51 : decode cX0_strongest 51 = .ok (.aload_n 0, 1) := dk_42 (dk_at dksX0_strongest_2 3 rfl rfl)
theorem dX0_strongest_52 : decode cX0_strongest 52 = .ok (.getfield 527, 3) := dk_180 2 15 (dk_at dksX0_strongest_2 4 rfl rfl)
theorem dX0_strongest_55 : decode cX0_strongest 55 = .ok (.i2l, 1) := dk_133 (dk_at dksX0_strongest_2 7 rfl rfl)
theorem dX0_strongest_56 : decode cX0_strongest 56 = .ok (.ldiv, 1) := dk_109 (dk_at dksX0_strongest_2 8 rfl rfl)
theorem dX0_strongest_57 : decode cX0_strongest 57 = .ok (.lcmp, 1) := dk_148 (dk_at dksX0_strongest_2 9 rfl rfl)
theorem dX0_strongest_58 : decode cX0_strongest 58 = .ok (.ifCond .le 6, 3) := dk_158 0 6 (dk_at dksX0_strongest_2 10 rfl rfl)
theorem dX0_strongest_61 : decode cX0_strongest 61 = .ok (.iload 4, 2) := dk_21 4 (dk_at dksX0_strongest_2 13 rfl rfl)
theorem dX0_strongest_63 : decode cX0_strongest 63 = .ok (.istore_n 3, 1) := dk_62 (dk_at dksX0_strongest_2 15 rfl rfl)
theorem dX0_strongest_64 : decode cX0_strongest 64 = .ok (.iinc 4 1, 3) := dk_132 4 1 (dk_at dksX0_strongest_2 16 rfl rfl)
theorem dX0_strongest_67 : decode cX0_strongest 67 = .ok (.goto (-40), 3) := dk_167 255 216 (dk_at dksX0_strongest_2 19 rfl rfl)
theorem dX0_strongest_70 : decode cX0_strongest 70 = .ok (.iload_n 3, 1) := dk_29 (dk_at dksX0_strongest_2 22 rfl rfl)
theorem dX0_strongest_71 : decode cX0_strongest 71 = .ok (.ireturn, 1) := dk_172 (dk_at dksX0_strongest_2 23 rfl rfl)
abbrev cX0_ratio : ByteArray := prog_1_method_84_code
def yX0_ratio : MethodName := ⟨RX0, "ratio", "(II)I"⟩
def dkwX0_ratio_2 : List UInt8 := [28, 79, 42, 89, 180, 2, 41, 4, 96, 90, 181, 2, 41, 172]
abbrev dktX0_ratio_2 : List UInt8 := dkwX0_ratio_2 ++ []
def dkwX0_ratio_1 : List UInt8 := [160, 0, 6, 16, 253, 172, 42, 180, 0, 132, 42, 180, 2, 41, 27, 79, 42, 180, 0, 135, 42, 180, 2, 41]
abbrev dktX0_ratio_1 : List UInt8 := dkwX0_ratio_1 ++ dktX0_ratio_2
def dkwX0_ratio_0 : List UInt8 := [27, 184, 1, 116, 153, 0, 10, 28, 184, 1, 116, 154, 0, 5, 2, 172, 42, 180, 2, 41, 16, 6]
abbrev dktX0_ratio_0 : List UInt8 := dkwX0_ratio_0 ++ dktX0_ratio_1
theorem dksX0_ratio_0 : cX0_ratio.data.toList.drop 0 = dktX0_ratio_0 := by decide +kernel
theorem dksX0_ratio_1 : cX0_ratio.data.toList.drop 22 = dktX0_ratio_1 := dk_seg dksX0_ratio_0 22 rfl rfl
theorem dksX0_ratio_2 : cX0_ratio.data.toList.drop 46 = dktX0_ratio_2 := dk_seg dksX0_ratio_1 24 rfl rfl
theorem dX0_ratio_0 : decode cX0_ratio 0 = .ok (.iload_n 1, 1) := dk_27 (dk_at dksX0_ratio_0 0 rfl rfl)
theorem dX0_ratio_1 : decode cX0_ratio 1 = .ok (.invokestatic 372, 3) := dk_184 1 116 (dk_at dksX0_ratio_0 1 rfl rfl)
theorem dX0_ratio_4 : decode cX0_ratio 4 = .ok (.ifCond .eq 10, 3) := dk_153 0 10 (dk_at dksX0_ratio_0 4 rfl rfl)
theorem dX0_ratio_7 : decode cX0_ratio 7 = .ok (.iload_n 2, 1) := dk_28 (dk_at dksX0_ratio_0 7 rfl rfl)
theorem dX0_ratio_8 : decode cX0_ratio 8 = .ok (.invokestatic 372, 3) := dk_184 1 116 (dk_at dksX0_ratio_0 8 rfl rfl)
theorem dX0_ratio_11 : decode cX0_ratio 11 = .ok (.ifCond .ne 5, 3) := dk_154 0 5 (dk_at dksX0_ratio_0 11 rfl rfl)
theorem dX0_ratio_14 : decode cX0_ratio 14 = .ok (.iconst (-1), 1) := dk_2 (dk_at dksX0_ratio_0 14 rfl rfl)
theorem dX0_ratio_15 : decode cX0_ratio 15 = .ok (.ireturn, 1) := dk_172 (dk_at dksX0_ratio_0 15 rfl rfl)
theorem dX0_ratio_16 : decode cX0_ratio 16 = .ok (.aload_n 0, 1) := dk_42 (dk_at dksX0_ratio_0 16 rfl rfl)
theorem dX0_ratio_17 : decode cX0_ratio 17 = .ok (.getfield 553, 3) := dk_180 2 41 (dk_at dksX0_ratio_0 17 rfl rfl)
theorem dX0_ratio_20 : decode cX0_ratio 20 = .ok (.bipush 6, 2) := dk_16 6 (dk_at dksX0_ratio_0 20 rfl rfl)
theorem dX0_ratio_22 : decode cX0_ratio 22 = .ok (.if_icmp .ne 6, 3) := dk_160 0 6 (dk_at dksX0_ratio_1 0 rfl rfl)
theorem dX0_ratio_25 : decode cX0_ratio 25 = .ok (.bipush (-3), 2) := dk_16 253 (dk_at dksX0_ratio_1 3 rfl rfl)
theorem dX0_ratio_27 : decode cX0_ratio 27 = .ok (.ireturn, 1) := dk_172 (dk_at dksX0_ratio_1 5 rfl rfl)
theorem dX0_ratio_28 : decode cX0_ratio 28 = .ok (.aload_n 0, 1) := dk_42 (dk_at dksX0_ratio_1 6 rfl rfl)
theorem dX0_ratio_29 : decode cX0_ratio 29 = .ok (.getfield 132, 3) := dk_180 0 132 (dk_at dksX0_ratio_1 7 rfl rfl)
theorem dX0_ratio_32 : decode cX0_ratio 32 = .ok (.aload_n 0, 1) := dk_42 (dk_at dksX0_ratio_1 10 rfl rfl)
theorem dX0_ratio_33 : decode cX0_ratio 33 = .ok (.getfield 553, 3) := dk_180 2 41 (dk_at dksX0_ratio_1 11 rfl rfl)
theorem dX0_ratio_36 : decode cX0_ratio 36 = .ok (.iload_n 1, 1) := dk_27 (dk_at dksX0_ratio_1 14 rfl rfl)
theorem dX0_ratio_37 : decode cX0_ratio 37 = .ok (.iastore, 1) := dk_79 (dk_at dksX0_ratio_1 15 rfl rfl)
theorem dX0_ratio_38 : decode cX0_ratio 38 = .ok (.aload_n 0, 1) := dk_42 (dk_at dksX0_ratio_1 16 rfl rfl)
theorem dX0_ratio_39 : decode cX0_ratio 39 = .ok (.getfield 135, 3) := dk_180 0 135 (dk_at dksX0_ratio_1 17 rfl rfl)
theorem dX0_ratio_42 : decode cX0_ratio 42 = .ok (.aload_n 0, 1) := dk_42 (dk_at dksX0_ratio_1 20 rfl rfl)
theorem dX0_ratio_43 : decode cX0_ratio 43 = .ok (.getfield 553, 3) := dk_180 2 41 (dk_at dksX0_ratio_1 21 rfl rfl)
theorem dX0_ratio_46 : decode cX0_ratio 46 = .ok (.iload_n 2, 1) := dk_28 (dk_at dksX0_ratio_2 0 rfl rfl)
theorem dX0_ratio_47 : decode cX0_ratio 47 = .ok (.iastore, 1) := dk_79 (dk_at dksX0_ratio_2 1 rfl rfl)
theorem dX0_ratio_48 : decode cX0_ratio 48 = .ok (.aload_n 0, 1) := dk_42 (dk_at dksX0_ratio_2 2 rfl rfl)
theorem dX0_ratio_49 : decode cX0_ratio 49 = .ok (.dup, 1) := dk_89 (dk_at dksX0_ratio_2 3 rfl rfl)
theorem dX0_ratio_50 : decode cX0_ratio 50 = .ok (.getfield 553, 3) := dk_180 2 41 (dk_at dksX0_ratio_2 4 rfl rfl)
theorem dX0_ratio_53 : decode cX0_ratio 53 = .ok (.iconst 1, 1) := dk_4 (dk_at dksX0_ratio_2 7 rfl rfl)
theorem dX0_ratio_54 : decode cX0_ratio 54 = .ok (.iadd, 1) := dk_96 (dk_at dksX0_ratio_2 8 rfl rfl)
theorem dX0_ratio_55 : decode cX0_ratio 55 = .ok (.dup_x1, 1) := dk_90 (dk_at dksX0_ratio_2 9 rfl rfl)
theorem dX0_ratio_56 : decode cX0_ratio 56 = .ok (.putfield 553, 3) := dk_181 2 41 (dk_at dksX0_ratio_2 10 rfl rfl)
theorem dX0_ratio_59 : decode cX0_ratio 59 = .ok (.ireturn, 1) := dk_172 (dk_at dksX0_ratio_2 13 rfl rfl)
abbrev cX0_unratio : ByteArray := prog_1_method_85_code
def yX0_unratio : MethodName := ⟨RX0, "unratio", "()I"⟩
def dkwX0_unratio_0 : List UInt8 := [42, 180, 2, 41, 60, 42, 3, 181, 2, 41, 27, 172]
abbrev dktX0_unratio_0 : List UInt8 := dkwX0_unratio_0 ++ []
theorem dksX0_unratio_0 : cX0_unratio.data.toList.drop 0 = dktX0_unratio_0 := by decide +kernel
theorem dX0_unratio_0 : decode cX0_unratio 0 = .ok (.aload_n 0, 1) := dk_42 (dk_at dksX0_unratio_0 0 rfl rfl)
theorem dX0_unratio_1 : decode cX0_unratio 1 = .ok (.getfield 553, 3) := dk_180 2 41 (dk_at dksX0_unratio_0 1 rfl rfl)
theorem dX0_unratio_4 : decode cX0_unratio 4 = .ok (.istore_n 1, 1) := dk_60 (dk_at dksX0_unratio_0 4 rfl rfl)
theorem dX0_unratio_5 : decode cX0_unratio 5 = .ok (.aload_n 0, 1) := dk_42 (dk_at dksX0_unratio_0 5 rfl rfl)
theorem dX0_unratio_6 : decode cX0_unratio 6 = .ok (.iconst 0, 1) := dk_3 (dk_at dksX0_unratio_0 6 rfl rfl)
theorem dX0_unratio_7 : decode cX0_unratio 7 = .ok (.putfield 553, 3) := dk_181 2 41 (dk_at dksX0_unratio_0 7 rfl rfl)
theorem dX0_unratio_10 : decode cX0_unratio 10 = .ok (.iload_n 1, 1) := dk_27 (dk_at dksX0_unratio_0 10 rfl rfl)
theorem dX0_unratio_11 : decode cX0_unratio 11 = .ok (.ireturn, 1) := dk_172 (dk_at dksX0_unratio_0 11 rfl rfl)
abbrev cX0_agree : ByteArray := prog_1_method_88_code
def yX0_agree : MethodName := ⟨RX0, "agree", "(IIII)I"⟩
def dkwX0_agree_9 : List UInt8 := [162, 0, 7, 21, 7, 54, 6, 132, 7, 1, 167, 255, 184, 21, 6, 172]
abbrev dktX0_agree_9 : List UInt8 := dkwX0_agree_9 ++ []
def dkwX0_agree_8 : List UInt8 := [3, 54, 9, 21, 9, 153, 0, 26, 21, 6, 2, 159, 0, 16, 21, 7, 184, 1, 94, 21, 6, 184, 1, 94]
abbrev dktX0_agree_8 : List UInt8 := dkwX0_agree_8 ++ dktX0_agree_9
def dkwX0_agree_7 : List UInt8 := [54, 8, 42, 21, 8, 28, 29, 182, 2, 52, 21, 8, 184, 1, 94, 4, 100, 160, 0, 7, 4, 167, 0, 4]
abbrev dktX0_agree_7 : List UInt8 := dkwX0_agree_7 ++ dktX0_agree_8
def dkwX0_agree_6 : List UInt8 := [182, 2, 52, 172, 2, 54, 6, 3, 54, 7, 21, 7, 21, 5, 162, 0, 71, 21, 5, 21, 7, 2, 130, 126]
abbrev dktX0_agree_6 : List UInt8 := dkwX0_agree_6 ++ dktX0_agree_7
def dkwX0_agree_5 : List UInt8 := [100, 162, 0, 6, 16, 252, 172, 4, 28, 120, 4, 100, 54, 5, 21, 4, 154, 0, 12, 42, 21, 5, 28, 29]
abbrev dktX0_agree_5 : List UInt8 := dkwX0_agree_5 ++ dktX0_agree_6
def dkwX0_agree_4 : List UInt8 := [21, 5, 42, 25, 6, 3, 16, 9, 182, 1, 123, 79, 132, 5, 1, 167, 255, 201, 42, 180, 2, 41, 28, 4]
abbrev dktX0_agree_4 : List UInt8 := dkwX0_agree_4 ++ dktX0_agree_5
def dkwX0_agree_3 : List UInt8 := [182, 0, 201, 58, 6, 25, 6, 198, 0, 11, 25, 6, 182, 0, 230, 154, 0, 5, 2, 172, 42, 180, 0, 138]
abbrev dktX0_agree_3 : List UInt8 := dkwX0_agree_3 ++ dktX0_agree_4
def dkwX0_agree_2 : List UInt8 := [153, 0, 5, 2, 172, 3, 54, 5, 21, 5, 28, 162, 0, 55, 42, 27, 7, 21, 5, 104, 122, 16, 15, 126]
abbrev dktX0_agree_2 : List UInt8 := dkwX0_agree_2 ++ dktX0_agree_3
def dkwX0_agree_1 : List UInt8 := [153, 0, 26, 21, 4, 133, 9, 10, 184, 0, 152, 153, 0, 15, 27, 155, 0, 11, 27, 7, 28, 104, 122]
abbrev dktX0_agree_1 : List UInt8 := dkwX0_agree_1 ++ dktX0_agree_2
def dkwX0_agree_0 : List UInt8 := [28, 133, 20, 0, 254, 20, 2, 48, 184, 0, 152, 153, 0, 38, 29, 133, 9, 20, 2, 50, 184, 0, 152]
abbrev dktX0_agree_0 : List UInt8 := dkwX0_agree_0 ++ dktX0_agree_1
theorem dksX0_agree_0 : cX0_agree.data.toList.drop 0 = dktX0_agree_0 := by decide +kernel
theorem dksX0_agree_1 : cX0_agree.data.toList.drop 23 = dktX0_agree_1 := dk_seg dksX0_agree_0 23 rfl rfl
theorem dksX0_agree_2 : cX0_agree.data.toList.drop 46 = dktX0_agree_2 := dk_seg dksX0_agree_1 23 rfl rfl
theorem dksX0_agree_3 : cX0_agree.data.toList.drop 70 = dktX0_agree_3 := dk_seg dksX0_agree_2 24 rfl rfl
theorem dksX0_agree_4 : cX0_agree.data.toList.drop 94 = dktX0_agree_4 := dk_seg dksX0_agree_3 24 rfl rfl
theorem dksX0_agree_5 : cX0_agree.data.toList.drop 118 = dktX0_agree_5 := dk_seg dksX0_agree_4 24 rfl rfl
theorem dksX0_agree_6 : cX0_agree.data.toList.drop 142 = dktX0_agree_6 := dk_seg dksX0_agree_5 24 rfl rfl
theorem dksX0_agree_7 : cX0_agree.data.toList.drop 166 = dktX0_agree_7 := dk_seg dksX0_agree_6 24 rfl rfl
theorem dksX0_agree_8 : cX0_agree.data.toList.drop 190 = dktX0_agree_8 := dk_seg dksX0_agree_7 24 rfl rfl
theorem dksX0_agree_9 : cX0_agree.data.toList.drop 214 = dktX0_agree_9 := dk_seg dksX0_agree_8 24 rfl rfl
theorem dX0_agree_0 : decode cX0_agree 0 = .ok (.iload_n 2, 1) := dk_28 (dk_at dksX0_agree_0 0 rfl rfl)
theorem dX0_agree_1 : decode cX0_agree 1 = .ok (.i2l, 1) := dk_133 (dk_at dksX0_agree_0 1 rfl rfl)
theorem dX0_agree_2 : decode cX0_agree 2 = .ok (.ldc2_w 254, 3) := dk_20 0 254 (dk_at dksX0_agree_0 2 rfl rfl)
theorem dX0_agree_5 : decode cX0_agree 5 = .ok (.ldc2_w 560, 3) := dk_20 2 48 (dk_at dksX0_agree_0 5 rfl rfl)
theorem dX0_agree_8 : decode cX0_agree 8 = .ok (.invokestatic 152, 3) := dk_184 0 152 (dk_at dksX0_agree_0 8 rfl rfl)
theorem dX0_agree_11 : decode cX0_agree 11 = .ok (.ifCond .eq 38, 3) := dk_153 0 38 (dk_at dksX0_agree_0 11 rfl rfl)
theorem dX0_agree_14 : decode cX0_agree 14 = .ok (.iload_n 3, 1) := dk_29 (dk_at dksX0_agree_0 14 rfl rfl)
theorem dX0_agree_15 : decode cX0_agree 15 = .ok (.i2l, 1) := dk_133 (dk_at dksX0_agree_0 15 rfl rfl)
theorem dX0_agree_16 : decode cX0_agree 16 = .ok (.lconst 0, 1) := dk_9 (dk_at dksX0_agree_0 16 rfl rfl)
theorem dX0_agree_17 : decode cX0_agree 17 = .ok (.ldc2_w 562, 3) := dk_20 2 50 (dk_at dksX0_agree_0 17 rfl rfl)
theorem dX0_agree_20 : decode cX0_agree 20 = .ok (.invokestatic 152, 3) := dk_184 0 152 (dk_at dksX0_agree_0 20 rfl rfl)
theorem dX0_agree_23 : decode cX0_agree 23 = .ok (.ifCond .eq 26, 3) := dk_153 0 26 (dk_at dksX0_agree_1 0 rfl rfl)
theorem dX0_agree_26 : decode cX0_agree 26 = .ok (.iload 4, 2) := dk_21 4 (dk_at dksX0_agree_1 3 rfl rfl)
theorem dX0_agree_28 : decode cX0_agree 28 = .ok (.i2l, 1) := dk_133 (dk_at dksX0_agree_1 5 rfl rfl)
theorem dX0_agree_29 : decode cX0_agree 29 = .ok (.lconst 0, 1) := dk_9 (dk_at dksX0_agree_1 6 rfl rfl)
theorem dX0_agree_30 : decode cX0_agree 30 = .ok (.lconst 1, 1) := dk_10 (dk_at dksX0_agree_1 7 rfl rfl)
theorem dX0_agree_31 : decode cX0_agree 31 = .ok (.invokestatic 152, 3) := dk_184 0 152 (dk_at dksX0_agree_1 8 rfl rfl)
theorem dX0_agree_34 : decode cX0_agree 34 = .ok (.ifCond .eq 15, 3) := dk_153 0 15 (dk_at dksX0_agree_1 11 rfl rfl)
theorem dX0_agree_37 : decode cX0_agree 37 = .ok (.iload_n 1, 1) := dk_27 (dk_at dksX0_agree_1 14 rfl rfl)
theorem dX0_agree_38 : decode cX0_agree 38 = .ok (.ifCond .lt 11, 3) := dk_155 0 11 (dk_at dksX0_agree_1 15 rfl rfl)
theorem dX0_agree_41 : decode cX0_agree 41 = .ok (.iload_n 1, 1) := dk_27 (dk_at dksX0_agree_1 18 rfl rfl)
theorem dX0_agree_42 : decode cX0_agree 42 = .ok (.iconst 4, 1) := dk_7 (dk_at dksX0_agree_1 19 rfl rfl)
theorem dX0_agree_43 : decode cX0_agree 43 = .ok (.iload_n 2, 1) := dk_28 (dk_at dksX0_agree_1 20 rfl rfl)
theorem dX0_agree_44 : decode cX0_agree 44 = .ok (.imul, 1) := dk_104 (dk_at dksX0_agree_1 21 rfl rfl)
theorem dX0_agree_45 : decode cX0_agree 45 = .ok (.ishr, 1) := dk_122 (dk_at dksX0_agree_1 22 rfl rfl)
theorem dX0_agree_46 : decode cX0_agree 46 = .ok (.ifCond .eq 5, 3) := dk_153 0 5 (dk_at dksX0_agree_2 0 rfl rfl)
theorem dX0_agree_49 : decode cX0_agree 49 = .ok (.iconst (-1), 1) := dk_2 (dk_at dksX0_agree_2 3 rfl rfl)
theorem dX0_agree_50 : decode cX0_agree 50 = .ok (.ireturn, 1) := dk_172 (dk_at dksX0_agree_2 4 rfl rfl)
theorem dX0_agree_51 : decode cX0_agree 51 = .ok (.iconst 0, 1) := dk_3 (dk_at dksX0_agree_2 5 rfl rfl)
theorem dX0_agree_52 : decode cX0_agree 52 = .ok (.istore 5, 2) := dk_54 5 (dk_at dksX0_agree_2 6 rfl rfl)
theorem dX0_agree_54 : decode cX0_agree 54 = .ok (.iload 5, 2) := dk_21 5 (dk_at dksX0_agree_2 8 rfl rfl)
theorem dX0_agree_56 : decode cX0_agree 56 = .ok (.iload_n 2, 1) := dk_28 (dk_at dksX0_agree_2 10 rfl rfl)
theorem dX0_agree_57 : decode cX0_agree 57 = .ok (.if_icmp .ge 55, 3) := dk_162 0 55 (dk_at dksX0_agree_2 11 rfl rfl)
theorem dX0_agree_60 : decode cX0_agree 60 = .ok (.aload_n 0, 1) := dk_42 (dk_at dksX0_agree_2 14 rfl rfl)
theorem dX0_agree_61 : decode cX0_agree 61 = .ok (.iload_n 1, 1) := dk_27 (dk_at dksX0_agree_2 15 rfl rfl)
theorem dX0_agree_62 : decode cX0_agree 62 = .ok (.iconst 4, 1) := dk_7 (dk_at dksX0_agree_2 16 rfl rfl)
theorem dX0_agree_63 : decode cX0_agree 63 = .ok (.iload 5, 2) := dk_21 5 (dk_at dksX0_agree_2 17 rfl rfl)
theorem dX0_agree_65 : decode cX0_agree 65 = .ok (.imul, 1) := dk_104 (dk_at dksX0_agree_2 19 rfl rfl)
theorem dX0_agree_66 : decode cX0_agree 66 = .ok (.ishr, 1) := dk_122 (dk_at dksX0_agree_2 20 rfl rfl)
theorem dX0_agree_67 : decode cX0_agree 67 = .ok (.bipush 15, 2) := dk_16 15 (dk_at dksX0_agree_2 21 rfl rfl)
theorem dX0_agree_69 : decode cX0_agree 69 = .ok (.iand, 1) := dk_126 (dk_at dksX0_agree_2 23 rfl rfl)
theorem dX0_agree_70 : decode cX0_agree 70 = .ok (.invokevirtual 201, 3) := dk_182 0 201 (dk_at dksX0_agree_3 0 rfl rfl)
theorem dX0_agree_73 : decode cX0_agree 73 = .ok (.astore 6, 2) := dk_58 6 (dk_at dksX0_agree_3 3 rfl rfl)
theorem dX0_agree_75 : decode cX0_agree 75 = .ok (.aload 6, 2) := dk_25 6 (dk_at dksX0_agree_3 5 rfl rfl)
theorem dX0_agree_77 : decode cX0_agree 77 = .ok (.ifnull 11, 3) := dk_198 0 11 (dk_at dksX0_agree_3 7 rfl rfl)
theorem dX0_agree_80 : decode cX0_agree 80 = .ok (.aload 6, 2) := dk_25 6 (dk_at dksX0_agree_3 10 rfl rfl)
theorem dX0_agree_82 : decode cX0_agree 82 = .ok (.invokevirtual 230, 3) := dk_182 0 230 (dk_at dksX0_agree_3 12 rfl rfl)
theorem dX0_agree_85 : decode cX0_agree 85 = .ok (.ifCond .ne 5, 3) := dk_154 0 5 (dk_at dksX0_agree_3 15 rfl rfl)
theorem dX0_agree_88 : decode cX0_agree 88 = .ok (.iconst (-1), 1) := dk_2 (dk_at dksX0_agree_3 18 rfl rfl)
theorem dX0_agree_89 : decode cX0_agree 89 = .ok (.ireturn, 1) := dk_172 (dk_at dksX0_agree_3 19 rfl rfl)
theorem dX0_agree_90 : decode cX0_agree 90 = .ok (.aload_n 0, 1) := dk_42 (dk_at dksX0_agree_3 20 rfl rfl)
theorem dX0_agree_91 : decode cX0_agree 91 = .ok (.getfield 138, 3) := dk_180 0 138 (dk_at dksX0_agree_3 21 rfl rfl)
theorem dX0_agree_94 : decode cX0_agree 94 = .ok (.iload 5, 2) := dk_21 5 (dk_at dksX0_agree_4 0 rfl rfl)
theorem dX0_agree_96 : decode cX0_agree 96 = .ok (.aload_n 0, 1) := dk_42 (dk_at dksX0_agree_4 2 rfl rfl)
theorem dX0_agree_97 : decode cX0_agree 97 = .ok (.aload 6, 2) := dk_25 6 (dk_at dksX0_agree_4 3 rfl rfl)
theorem dX0_agree_99 : decode cX0_agree 99 = .ok (.iconst 0, 1) := dk_3 (dk_at dksX0_agree_4 5 rfl rfl)
theorem dX0_agree_100 : decode cX0_agree 100 = .ok (.bipush 9, 2) := dk_16 9 (dk_at dksX0_agree_4 6 rfl rfl)
theorem dX0_agree_102 : decode cX0_agree 102 = .ok (.invokevirtual 379, 3) := dk_182 1 123 (dk_at dksX0_agree_4 8 rfl rfl)
theorem dX0_agree_105 : decode cX0_agree 105 = .ok (.iastore, 1) := dk_79 (dk_at dksX0_agree_4 11 rfl rfl)
theorem dX0_agree_106 : decode cX0_agree 106 = .ok (.iinc 5 1, 3) := dk_132 5 1 (dk_at dksX0_agree_4 12 rfl rfl)
theorem dX0_agree_109 : decode cX0_agree 109 = .ok (.goto (-55), 3) := dk_167 255 201 (dk_at dksX0_agree_4 15 rfl rfl)
theorem dX0_agree_112 : decode cX0_agree 112 = .ok (.aload_n 0, 1) := dk_42 (dk_at dksX0_agree_4 18 rfl rfl)
theorem dX0_agree_113 : decode cX0_agree 113 = .ok (.getfield 553, 3) := dk_180 2 41 (dk_at dksX0_agree_4 19 rfl rfl)
theorem dX0_agree_116 : decode cX0_agree 116 = .ok (.iload_n 2, 1) := dk_28 (dk_at dksX0_agree_4 22 rfl rfl)
theorem dX0_agree_117 : decode cX0_agree 117 = .ok (.iconst 1, 1) := dk_4 (dk_at dksX0_agree_4 23 rfl rfl)
theorem dX0_agree_118 : decode cX0_agree 118 = .ok (.isub, 1) := dk_100 (dk_at dksX0_agree_5 0 rfl rfl)
theorem dX0_agree_119 : decode cX0_agree 119 = .ok (.if_icmp .ge 6, 3) := dk_162 0 6 (dk_at dksX0_agree_5 1 rfl rfl)
theorem dX0_agree_122 : decode cX0_agree 122 = .ok (.bipush (-4), 2) := dk_16 252 (dk_at dksX0_agree_5 4 rfl rfl)
theorem dX0_agree_124 : decode cX0_agree 124 = .ok (.ireturn, 1) := dk_172 (dk_at dksX0_agree_5 6 rfl rfl)
theorem dX0_agree_125 : decode cX0_agree 125 = .ok (.iconst 1, 1) := dk_4 (dk_at dksX0_agree_5 7 rfl rfl)
theorem dX0_agree_126 : decode cX0_agree 126 = .ok (.iload_n 2, 1) := dk_28 (dk_at dksX0_agree_5 8 rfl rfl)
theorem dX0_agree_127 : decode cX0_agree 127 = .ok (.ishl, 1) := dk_120 (dk_at dksX0_agree_5 9 rfl rfl)
theorem dX0_agree_128 : decode cX0_agree 128 = .ok (.iconst 1, 1) := dk_4 (dk_at dksX0_agree_5 10 rfl rfl)
theorem dX0_agree_129 : decode cX0_agree 129 = .ok (.isub, 1) := dk_100 (dk_at dksX0_agree_5 11 rfl rfl)
theorem dX0_agree_130 : decode cX0_agree 130 = .ok (.istore 5, 2) := dk_54 5 (dk_at dksX0_agree_5 12 rfl rfl)
theorem dX0_agree_132 : decode cX0_agree 132 = .ok (.iload 4, 2) := dk_21 4 (dk_at dksX0_agree_5 14 rfl rfl)
theorem dX0_agree_134 : decode cX0_agree 134 = .ok (.ifCond .ne 12, 3) := dk_154 0 12 (dk_at dksX0_agree_5 16 rfl rfl)
theorem dX0_agree_137 : decode cX0_agree 137 = .ok (.aload_n 0, 1) := dk_42 (dk_at dksX0_agree_5 19 rfl rfl)
theorem dX0_agree_138 : decode cX0_agree 138 = .ok (.iload 5, 2) := dk_21 5 (dk_at dksX0_agree_5 20 rfl rfl)
theorem dX0_agree_140 : decode cX0_agree 140 = .ok (.iload_n 2, 1) := dk_28 (dk_at dksX0_agree_5 22 rfl rfl)
theorem dX0_agree_141 : decode cX0_agree 141 = .ok (.iload_n 3, 1) := dk_29 (dk_at dksX0_agree_5 23 rfl rfl)
theorem dX0_agree_142 : decode cX0_agree 142 = .ok (.invokevirtual 564, 3) := dk_182 2 52 (dk_at dksX0_agree_6 0 rfl rfl)
theorem dX0_agree_145 : decode cX0_agree 145 = .ok (.ireturn, 1) := dk_172 (dk_at dksX0_agree_6 3 rfl rfl)
theorem dX0_agree_146 : decode cX0_agree 146 = .ok (.iconst (-1), 1) := dk_2 (dk_at dksX0_agree_6 4 rfl rfl)
theorem dX0_agree_147 : decode cX0_agree 147 = .ok (.istore 6, 2) := dk_54 6 (dk_at dksX0_agree_6 5 rfl rfl)
theorem dX0_agree_149 : decode cX0_agree 149 = .ok (.iconst 0, 1) := dk_3 (dk_at dksX0_agree_6 7 rfl rfl)
theorem dX0_agree_150 : decode cX0_agree 150 = .ok (.istore 7, 2) := dk_54 7 (dk_at dksX0_agree_6 8 rfl rfl)
theorem dX0_agree_152 : decode cX0_agree 152 = .ok (.iload 7, 2) := dk_21 7 (dk_at dksX0_agree_6 10 rfl rfl)
theorem dX0_agree_154 : decode cX0_agree 154 = .ok (.iload 5, 2) := dk_21 5 (dk_at dksX0_agree_6 12 rfl rfl)
theorem dX0_agree_156 : decode cX0_agree 156 = .ok (.if_icmp .ge 71, 3) := dk_162 0 71 (dk_at dksX0_agree_6 14 rfl rfl)
theorem dX0_agree_159 : decode cX0_agree 159 = .ok (.iload 5, 2) := dk_21 5 (dk_at dksX0_agree_6 17 rfl rfl)
theorem dX0_agree_161 : decode cX0_agree 161 = .ok (.iload 7, 2) := dk_21 7 (dk_at dksX0_agree_6 19 rfl rfl)
theorem dX0_agree_163 : decode cX0_agree 163 = .ok (.iconst (-1), 1) := dk_2 (dk_at dksX0_agree_6 21 rfl rfl)
theorem dX0_agree_164 : decode cX0_agree 164 = .ok (.ixor, 1) := dk_130 (dk_at dksX0_agree_6 22 rfl rfl)
theorem dX0_agree_165 : decode cX0_agree 165 = .ok (.iand, 1) := dk_126 (dk_at dksX0_agree_6 23 rfl rfl)
theorem dX0_agree_166 : decode cX0_agree 166 = .ok (.istore 8, 2) := dk_54 8 (dk_at dksX0_agree_7 0 rfl rfl)
theorem dX0_agree_168 : decode cX0_agree 168 = .ok (.aload_n 0, 1) := dk_42 (dk_at dksX0_agree_7 2 rfl rfl)
theorem dX0_agree_169 : decode cX0_agree 169 = .ok (.iload 8, 2) := dk_21 8 (dk_at dksX0_agree_7 3 rfl rfl)
theorem dX0_agree_171 : decode cX0_agree 171 = .ok (.iload_n 2, 1) := dk_28 (dk_at dksX0_agree_7 5 rfl rfl)
theorem dX0_agree_172 : decode cX0_agree 172 = .ok (.iload_n 3, 1) := dk_29 (dk_at dksX0_agree_7 6 rfl rfl)
theorem dX0_agree_173 : decode cX0_agree 173 = .ok (.invokevirtual 564, 3) := dk_182 2 52 (dk_at dksX0_agree_7 7 rfl rfl)
theorem dX0_agree_176 : decode cX0_agree 176 = .ok (.iload 8, 2) := dk_21 8 (dk_at dksX0_agree_7 10 rfl rfl)
theorem dX0_agree_178 : decode cX0_agree 178 = .ok (.invokestatic 350, 3) := dk_184 1 94 (dk_at dksX0_agree_7 12 rfl rfl)
theorem dX0_agree_181 : decode cX0_agree 181 = .ok (.iconst 1, 1) := dk_4 (dk_at dksX0_agree_7 15 rfl rfl)
theorem dX0_agree_182 : decode cX0_agree 182 = .ok (.isub, 1) := dk_100 (dk_at dksX0_agree_7 16 rfl rfl)
theorem dX0_agree_183 : decode cX0_agree 183 = .ok (.if_icmp .ne 7, 3) := dk_160 0 7 (dk_at dksX0_agree_7 17 rfl rfl)
theorem dX0_agree_186 : decode cX0_agree 186 = .ok (.iconst 1, 1) := dk_4 (dk_at dksX0_agree_7 20 rfl rfl)
theorem dX0_agree_187 : decode cX0_agree 187 = .ok (.goto 4, 3) := dk_167 0 4 (dk_at dksX0_agree_7 21 rfl rfl)
theorem dX0_agree_190 : decode cX0_agree 190 = .ok (.iconst 0, 1) := dk_3 (dk_at dksX0_agree_8 0 rfl rfl)
theorem dX0_agree_191 : decode cX0_agree 191 = .ok (.istore 9, 2) := dk_54 9 (dk_at dksX0_agree_8 1 rfl rfl)
theorem dX0_agree_193 : decode cX0_agree 193 = .ok (.iload 9, 2) := dk_21 9 (dk_at dksX0_agree_8 3 rfl rfl)
theorem dX0_agree_195 : decode cX0_agree 195 = .ok (.ifCond .eq 26, 3) := dk_153 0 26 (dk_at dksX0_agree_8 5 rfl rfl)
theorem dX0_agree_198 : decode cX0_agree 198 = .ok (.iload 6, 2) := dk_21 6 (dk_at dksX0_agree_8 8 rfl rfl)
theorem dX0_agree_200 : decode cX0_agree 200 = .ok (.iconst (-1), 1) := dk_2 (dk_at dksX0_agree_8 10 rfl rfl)
theorem dX0_agree_201 : decode cX0_agree 201 = .ok (.if_icmp .eq 16, 3) := dk_159 0 16 (dk_at dksX0_agree_8 11 rfl rfl)
theorem dX0_agree_204 : decode cX0_agree 204 = .ok (.iload 7, 2) := dk_21 7 (dk_at dksX0_agree_8 14 rfl rfl)
theorem dX0_agree_206 : decode cX0_agree 206 = .ok (.invokestatic 350, 3) := dk_184 1 94 (dk_at dksX0_agree_8 16 rfl rfl)
theorem dX0_agree_209 : decode cX0_agree 209 = .ok (.iload 6, 2) := dk_21 6 (dk_at dksX0_agree_8 19 rfl rfl)
theorem dX0_agree_211 : decode cX0_agree 211 = .ok (.invokestatic 350, 3) := dk_184 1 94 (dk_at dksX0_agree_8 21 rfl rfl)
theorem dX0_agree_214 : decode cX0_agree 214 = .ok (.if_icmp .ge 7, 3) := dk_162 0 7 (dk_at dksX0_agree_9 0 rfl rfl)
theorem dX0_agree_217 : decode cX0_agree 217 = .ok (.iload 7, 2) := dk_21 7 (dk_at dksX0_agree_9 3 rfl rfl)
theorem dX0_agree_219 : decode cX0_agree 219 = .ok (.istore 6, 2) := dk_54 6 (dk_at dksX0_agree_9 5 rfl rfl)
theorem dX0_agree_221 : decode cX0_agree 221 = .ok (.iinc 7 1, 3) := dk_132 7 1 (dk_at dksX0_agree_9 7 rfl rfl)
theorem dX0_agree_224 : decode cX0_agree 224 = .ok (.goto (-72), 3) := dk_167 255 184 (dk_at dksX0_agree_9 10 rfl rfl)
theorem dX0_agree_227 : decode cX0_agree 227 = .ok (.iload 6, 2) := dk_21 6 (dk_at dksX0_agree_9 13 rfl rfl)
theorem dX0_agree_229 : decode cX0_agree 229 = .ok (.ireturn, 1) := dk_172 (dk_at dksX0_agree_9 15 rfl rfl)
abbrev cX0_inTune : ByteArray := prog_1_method_87_code
def yX0_inTune : MethodName := ⟨RX0, "inTune", "(III)I"⟩
def dkwX0_inTune_2 : List UInt8 := [29, 182, 2, 44, 184, 0, 246, 96, 54, 4, 21, 7, 54, 5, 132, 7, 1, 167, 255, 203, 21, 4, 172]
abbrev dktX0_inTune_2 : List UInt8 := dkwX0_inTune_2 ++ []
def dkwX0_inTune_1 : List UInt8 := [154, 0, 6, 167, 0, 35, 21, 5, 2, 159, 0, 25, 21, 4, 42, 21, 6, 132, 6, 1, 21, 5, 21, 7]
abbrev dktX0_inTune_1 : List UInt8 := dkwX0_inTune_1 ++ dktX0_inTune_2
def dkwX0_inTune_0 : List UInt8 := [3, 54, 4, 2, 54, 5, 3, 54, 6, 3, 54, 7, 21, 7, 28, 162, 0, 53, 27, 21, 7, 122, 4, 126]
abbrev dktX0_inTune_0 : List UInt8 := dkwX0_inTune_0 ++ dktX0_inTune_1
theorem dksX0_inTune_0 : cX0_inTune.data.toList.drop 0 = dktX0_inTune_0 := by decide +kernel
theorem dksX0_inTune_1 : cX0_inTune.data.toList.drop 24 = dktX0_inTune_1 := dk_seg dksX0_inTune_0 24 rfl rfl
theorem dksX0_inTune_2 : cX0_inTune.data.toList.drop 48 = dktX0_inTune_2 := dk_seg dksX0_inTune_1 24 rfl rfl
theorem dX0_inTune_0 : decode cX0_inTune 0 = .ok (.iconst 0, 1) := dk_3 (dk_at dksX0_inTune_0 0 rfl rfl)
theorem dX0_inTune_1 : decode cX0_inTune 1 = .ok (.istore 4, 2) := dk_54 4 (dk_at dksX0_inTune_0 1 rfl rfl)
theorem dX0_inTune_3 : decode cX0_inTune 3 = .ok (.iconst (-1), 1) := dk_2 (dk_at dksX0_inTune_0 3 rfl rfl)
theorem dX0_inTune_4 : decode cX0_inTune 4 = .ok (.istore 5, 2) := dk_54 5 (dk_at dksX0_inTune_0 4 rfl rfl)
theorem dX0_inTune_6 : decode cX0_inTune 6 = .ok (.iconst 0, 1) := dk_3 (dk_at dksX0_inTune_0 6 rfl rfl)
theorem dX0_inTune_7 : decode cX0_inTune 7 = .ok (.istore 6, 2) := dk_54 6 (dk_at dksX0_inTune_0 7 rfl rfl)
theorem dX0_inTune_9 : decode cX0_inTune 9 = .ok (.iconst 0, 1) := dk_3 (dk_at dksX0_inTune_0 9 rfl rfl)
theorem dX0_inTune_10 : decode cX0_inTune 10 = .ok (.istore 7, 2) := dk_54 7 (dk_at dksX0_inTune_0 10 rfl rfl)
theorem dX0_inTune_12 : decode cX0_inTune 12 = .ok (.iload 7, 2) := dk_21 7 (dk_at dksX0_inTune_0 12 rfl rfl)
theorem dX0_inTune_14 : decode cX0_inTune 14 = .ok (.iload_n 2, 1) := dk_28 (dk_at dksX0_inTune_0 14 rfl rfl)
theorem dX0_inTune_15 : decode cX0_inTune 15 = .ok (.if_icmp .ge 53, 3) := dk_162 0 53 (dk_at dksX0_inTune_0 15 rfl rfl)
theorem dX0_inTune_18 : decode cX0_inTune 18 = .ok (.iload_n 1, 1) := dk_27 (dk_at dksX0_inTune_0 18 rfl rfl)
theorem dX0_inTune_19 : decode cX0_inTune 19 = .ok (.iload 7, 2) := dk_21 7 (dk_at dksX0_inTune_0 19 rfl rfl)
theorem dX0_inTune_21 : decode cX0_inTune 21 = .ok (.ishr, 1) := dk_122 (dk_at dksX0_inTune_0 21 rfl rfl)
theorem dX0_inTune_22 : decode cX0_inTune 22 = .ok (.iconst 1, 1) := dk_4 (dk_at dksX0_inTune_0 22 rfl rfl)
theorem dX0_inTune_23 : decode cX0_inTune 23 = .ok (.iand, 1) := dk_126 (dk_at dksX0_inTune_0 23 rfl rfl)
theorem dX0_inTune_24 : decode cX0_inTune 24 = .ok (.ifCond .ne 6, 3) := dk_154 0 6 (dk_at dksX0_inTune_1 0 rfl rfl)
theorem dX0_inTune_27 : decode cX0_inTune 27 = .ok (.goto 35, 3) := dk_167 0 35 (dk_at dksX0_inTune_1 3 rfl rfl)
theorem dX0_inTune_30 : decode cX0_inTune 30 = .ok (.iload 5, 2) := dk_21 5 (dk_at dksX0_inTune_1 6 rfl rfl)
theorem dX0_inTune_32 : decode cX0_inTune 32 = .ok (.iconst (-1), 1) := dk_2 (dk_at dksX0_inTune_1 8 rfl rfl)
theorem dX0_inTune_33 : decode cX0_inTune 33 = .ok (.if_icmp .eq 25, 3) := dk_159 0 25 (dk_at dksX0_inTune_1 9 rfl rfl)
theorem dX0_inTune_36 : decode cX0_inTune 36 = .ok (.iload 4, 2) := dk_21 4 (dk_at dksX0_inTune_1 12 rfl rfl)
theorem dX0_inTune_38 : decode cX0_inTune 38 = .ok (.aload_n 0, 1) := dk_42 (dk_at dksX0_inTune_1 14 rfl rfl)
theorem dX0_inTune_39 : decode cX0_inTune 39 = .ok (.iload 6, 2) := dk_21 6 (dk_at dksX0_inTune_1 15 rfl rfl)
theorem dX0_inTune_41 : decode cX0_inTune 41 = .ok (.iinc 6 1, 3) := dk_132 6 1 (dk_at dksX0_inTune_1 17 rfl rfl)
theorem dX0_inTune_44 : decode cX0_inTune 44 = .ok (.iload 5, 2) := dk_21 5 (dk_at dksX0_inTune_1 20 rfl rfl)
theorem dX0_inTune_46 : decode cX0_inTune 46 = .ok (.iload 7, 2) := dk_21 7 (dk_at dksX0_inTune_1 22 rfl rfl)
theorem dX0_inTune_48 : decode cX0_inTune 48 = .ok (.iload_n 3, 1) := dk_29 (dk_at dksX0_inTune_2 0 rfl rfl)
theorem dX0_inTune_49 : decode cX0_inTune 49 = .ok (.invokevirtual 556, 3) := dk_182 2 44 (dk_at dksX0_inTune_2 1 rfl rfl)
theorem dX0_inTune_52 : decode cX0_inTune 52 = .ok (.invokestatic 246, 3) := dk_184 0 246 (dk_at dksX0_inTune_2 4 rfl rfl)
theorem dX0_inTune_55 : decode cX0_inTune 55 = .ok (.iadd, 1) := dk_96 (dk_at dksX0_inTune_2 7 rfl rfl)
theorem dX0_inTune_56 : decode cX0_inTune 56 = .ok (.istore 4, 2) := dk_54 4 (dk_at dksX0_inTune_2 8 rfl rfl)
theorem dX0_inTune_58 : decode cX0_inTune 58 = .ok (.iload 7, 2) := dk_21 7 (dk_at dksX0_inTune_2 10 rfl rfl)
theorem dX0_inTune_60 : decode cX0_inTune 60 = .ok (.istore 5, 2) := dk_54 5 (dk_at dksX0_inTune_2 12 rfl rfl)
theorem dX0_inTune_62 : decode cX0_inTune 62 = .ok (.iinc 7 1, 3) := dk_132 7 1 (dk_at dksX0_inTune_2 14 rfl rfl)
theorem dX0_inTune_65 : decode cX0_inTune 65 = .ok (.goto (-53), 3) := dk_167 255 203 (dk_at dksX0_inTune_2 17 rfl rfl)
theorem dX0_inTune_68 : decode cX0_inTune 68 = .ok (.iload 4, 2) := dk_21 4 (dk_at dksX0_inTune_2 20 rfl rfl)
theorem dX0_inTune_70 : decode cX0_inTune 70 = .ok (.ireturn, 1) := dk_172 (dk_at dksX0_inTune_2 22 rfl rfl)
abbrev cX0_areInTune : ByteArray := prog_1_method_86_code
def yX0_areInTune : MethodName := ⟨RX0, "areInTune", "(IIII)Z"⟩
def dkwX0_areInTune_1 : List UInt8 := [46, 104, 100, 184, 1, 183, 21, 4, 163, 0, 7, 4, 167, 0, 4, 3, 172]
abbrev dktX0_areInTune_1 : List UInt8 := dkwX0_areInTune_1 ++ []
def dkwX0_areInTune_0 : List UInt8 := [42, 180, 0, 138, 28, 46, 42, 180, 0, 135, 27, 46, 104, 42, 180, 0, 138, 29, 46, 42, 180, 0, 132, 27]
abbrev dktX0_areInTune_0 : List UInt8 := dkwX0_areInTune_0 ++ dktX0_areInTune_1
theorem dksX0_areInTune_0 : cX0_areInTune.data.toList.drop 0 = dktX0_areInTune_0 := by decide +kernel
theorem dksX0_areInTune_1 : cX0_areInTune.data.toList.drop 24 = dktX0_areInTune_1 := dk_seg dksX0_areInTune_0 24 rfl rfl
theorem dX0_areInTune_0 : decode cX0_areInTune 0 = .ok (.aload_n 0, 1) := dk_42 (dk_at dksX0_areInTune_0 0 rfl rfl)
theorem dX0_areInTune_1 : decode cX0_areInTune 1 = .ok (.getfield 138, 3) := dk_180 0 138 (dk_at dksX0_areInTune_0 1 rfl rfl)
theorem dX0_areInTune_4 : decode cX0_areInTune 4 = .ok (.iload_n 2, 1) := dk_28 (dk_at dksX0_areInTune_0 4 rfl rfl)
theorem dX0_areInTune_5 : decode cX0_areInTune 5 = .ok (.iaload, 1) := dk_46 (dk_at dksX0_areInTune_0 5 rfl rfl)
theorem dX0_areInTune_6 : decode cX0_areInTune 6 = .ok (.aload_n 0, 1) := dk_42 (dk_at dksX0_areInTune_0 6 rfl rfl)
theorem dX0_areInTune_7 : decode cX0_areInTune 7 = .ok (.getfield 135, 3) := dk_180 0 135 (dk_at dksX0_areInTune_0 7 rfl rfl)
theorem dX0_areInTune_10 : decode cX0_areInTune 10 = .ok (.iload_n 1, 1) := dk_27 (dk_at dksX0_areInTune_0 10 rfl rfl)
theorem dX0_areInTune_11 : decode cX0_areInTune 11 = .ok (.iaload, 1) := dk_46 (dk_at dksX0_areInTune_0 11 rfl rfl)
theorem dX0_areInTune_12 : decode cX0_areInTune 12 = .ok (.imul, 1) := dk_104 (dk_at dksX0_areInTune_0 12 rfl rfl)
theorem dX0_areInTune_13 : decode cX0_areInTune 13 = .ok (.aload_n 0, 1) := dk_42 (dk_at dksX0_areInTune_0 13 rfl rfl)
theorem dX0_areInTune_14 : decode cX0_areInTune 14 = .ok (.getfield 138, 3) := dk_180 0 138 (dk_at dksX0_areInTune_0 14 rfl rfl)
theorem dX0_areInTune_17 : decode cX0_areInTune 17 = .ok (.iload_n 3, 1) := dk_29 (dk_at dksX0_areInTune_0 17 rfl rfl)
theorem dX0_areInTune_18 : decode cX0_areInTune 18 = .ok (.iaload, 1) := dk_46 (dk_at dksX0_areInTune_0 18 rfl rfl)
theorem dX0_areInTune_19 : decode cX0_areInTune 19 = .ok (.aload_n 0, 1) := dk_42 (dk_at dksX0_areInTune_0 19 rfl rfl)
theorem dX0_areInTune_20 : decode cX0_areInTune 20 = .ok (.getfield 132, 3) := dk_180 0 132 (dk_at dksX0_areInTune_0 20 rfl rfl)
theorem dX0_areInTune_23 : decode cX0_areInTune 23 = .ok (.iload_n 1, 1) := dk_27 (dk_at dksX0_areInTune_0 23 rfl rfl)
theorem dX0_areInTune_24 : decode cX0_areInTune 24 = .ok (.iaload, 1) := dk_46 (dk_at dksX0_areInTune_1 0 rfl rfl)
theorem dX0_areInTune_25 : decode cX0_areInTune 25 = .ok (.imul, 1) := dk_104 (dk_at dksX0_areInTune_1 1 rfl rfl)
theorem dX0_areInTune_26 : decode cX0_areInTune 26 = .ok (.isub, 1) := dk_100 (dk_at dksX0_areInTune_1 2 rfl rfl)
theorem dX0_areInTune_27 : decode cX0_areInTune 27 = .ok (.invokestatic 439, 3) := dk_184 1 183 (dk_at dksX0_areInTune_1 3 rfl rfl)
theorem dX0_areInTune_30 : decode cX0_areInTune 30 = .ok (.iload 4, 2) := dk_21 4 (dk_at dksX0_areInTune_1 6 rfl rfl)
theorem dX0_areInTune_32 : decode cX0_areInTune 32 = .ok (.if_icmp .gt 7, 3) := dk_163 0 7 (dk_at dksX0_areInTune_1 8 rfl rfl)
theorem dX0_areInTune_35 : decode cX0_areInTune 35 = .ok (.iconst 1, 1) := dk_4 (dk_at dksX0_areInTune_1 11 rfl rfl)
theorem dX0_areInTune_36 : decode cX0_areInTune 36 = .ok (.goto 4, 3) := dk_167 0 4 (dk_at dksX0_areInTune_1 12 rfl rfl)
theorem dX0_areInTune_39 : decode cX0_areInTune 39 = .ok (.iconst 0, 1) := dk_3 (dk_at dksX0_areInTune_1 15 rfl rfl)
theorem dX0_areInTune_40 : decode cX0_areInTune 40 = .ok (.ireturn, 1) := dk_172 (dk_at dksX0_areInTune_1 16 rfl rfl)
abbrev cX0_join : ByteArray := prog_1_method_90_code
def yX0_join : MethodName := ⟨RX0, "join", "(IIII)I"⟩
def dkwX0_join_9 : List UInt8 := [42, 180, 0, 198, 25, 7, 83, 42, 89, 180, 0, 198, 90, 4, 96, 181, 0, 198, 172]
abbrev dktX0_join_9 : List UInt8 := dkwX0_join_9 ++ []
def dkwX0_join_8 : List UInt8 := [21, 4, 182, 2, 55, 83, 25, 7, 25, 5, 181, 2, 64, 25, 7, 25, 6, 181, 2, 67, 42, 180, 0, 21]
abbrev dktX0_join_8 : List UInt8 := dkwX0_join_8 ++ dktX0_join_9
def dkwX0_join_7 : List UInt8 := [180, 0, 229, 90, 4, 96, 181, 0, 229, 42, 29, 16, 10, 108, 25, 5, 180, 0, 226, 29, 16, 10, 112, 96]
abbrev dktX0_join_7 : List UInt8 := dkwX0_join_7 ++ dktX0_join_8
def dkwX0_join_6 : List UInt8 := [182, 2, 60, 42, 25, 7, 25, 6, 25, 5, 180, 0, 226, 182, 2, 60, 25, 7, 180, 1, 61, 25, 7, 89]
abbrev dktX0_join_6 : List UInt8 := dkwX0_join_6 ++ dktX0_join_7
def dkwX0_join_5 : List UInt8 := [89, 42, 25, 5, 180, 0, 226, 25, 6, 180, 0, 226, 96, 183, 2, 59, 58, 7, 42, 25, 7, 25, 5, 3]
abbrev dktX0_join_5 : List UInt8 := dkwX0_join_5 ++ dktX0_join_6
def dkwX0_join_4 : List UInt8 := [180, 0, 229, 96, 25, 6, 180, 0, 229, 96, 4, 96, 17, 0, 200, 164, 0, 6, 16, 253, 172, 187, 0, 19]
abbrev dktX0_join_4 : List UInt8 := dkwX0_join_4 ++ dktX0_join_5
def dkwX0_join_3 : List UInt8 := [16, 6, 164, 0, 5, 2, 172, 42, 180, 0, 198, 16, 12, 159, 0, 27, 42, 180, 0, 149, 25, 5]
abbrev dktX0_join_3 : List UInt8 := dkwX0_join_3 ++ dktX0_join_4
def dkwX0_join_2 : List UInt8 := [21, 4, 133, 10, 20, 1, 51, 184, 0, 152, 153, 0, 19, 25, 5, 180, 0, 226, 25, 6, 180, 0, 226, 96]
abbrev dktX0_join_2 : List UInt8 := dkwX0_join_2 ++ dktX0_join_3
def dkwX0_join_1 : List UInt8 := [167, 0, 12, 42, 28, 29, 16, 10, 112, 182, 0, 250, 58, 6, 25, 5, 198, 0, 37, 25, 6, 198, 0, 32]
abbrev dktX0_join_1 : List UInt8 := dkwX0_join_1 ++ dktX0_join_2
def dkwX0_join_0 : List UInt8 := [29, 156, 0, 7, 1, 167, 0, 12, 42, 27, 29, 16, 10, 108, 182, 0, 250, 58, 5, 29, 156, 0, 7, 1]
abbrev dktX0_join_0 : List UInt8 := dkwX0_join_0 ++ dktX0_join_1
theorem dksX0_join_0 : cX0_join.data.toList.drop 0 = dktX0_join_0 := by decide +kernel
theorem dksX0_join_1 : cX0_join.data.toList.drop 24 = dktX0_join_1 := dk_seg dksX0_join_0 24 rfl rfl
theorem dksX0_join_2 : cX0_join.data.toList.drop 48 = dktX0_join_2 := dk_seg dksX0_join_1 24 rfl rfl
theorem dksX0_join_3 : cX0_join.data.toList.drop 72 = dktX0_join_3 := dk_seg dksX0_join_2 24 rfl rfl
theorem dksX0_join_4 : cX0_join.data.toList.drop 94 = dktX0_join_4 := dk_seg dksX0_join_3 22 rfl rfl
theorem dksX0_join_5 : cX0_join.data.toList.drop 118 = dktX0_join_5 := dk_seg dksX0_join_4 24 rfl rfl
theorem dksX0_join_6 : cX0_join.data.toList.drop 142 = dktX0_join_6 := dk_seg dksX0_join_5 24 rfl rfl
theorem dksX0_join_7 : cX0_join.data.toList.drop 166 = dktX0_join_7 := dk_seg dksX0_join_6 24 rfl rfl
theorem dksX0_join_8 : cX0_join.data.toList.drop 190 = dktX0_join_8 := dk_seg dksX0_join_7 24 rfl rfl
theorem dksX0_join_9 : cX0_join.data.toList.drop 214 = dktX0_join_9 := dk_seg dksX0_join_8 24 rfl rfl
theorem dX0_join_0 : decode cX0_join 0 = .ok (.iload_n 3, 1) := dk_29 (dk_at dksX0_join_0 0 rfl rfl)
theorem dX0_join_1 : decode cX0_join 1 = .ok (.ifCond .ge 7, 3) := dk_156 0 7 (dk_at dksX0_join_0 1 rfl rfl)
theorem dX0_join_4 : decode cX0_join 4 = .ok (.aconst_null, 1) := dk_1 (dk_at dksX0_join_0 4 rfl rfl)
theorem dX0_join_5 : decode cX0_join 5 = .ok (.goto 12, 3) := dk_167 0 12 (dk_at dksX0_join_0 5 rfl rfl)
theorem dX0_join_8 : decode cX0_join 8 = .ok (.aload_n 0, 1) := dk_42 (dk_at dksX0_join_0 8 rfl rfl)
theorem dX0_join_9 : decode cX0_join 9 = .ok (.iload_n 1, 1) := dk_27 (dk_at dksX0_join_0 9 rfl rfl)
theorem dX0_join_10 : decode cX0_join 10 = .ok (.iload_n 3, 1) := dk_29 (dk_at dksX0_join_0 10 rfl rfl)
theorem dX0_join_11 : decode cX0_join 11 = .ok (.bipush 10, 2) := dk_16 10 (dk_at dksX0_join_0 11 rfl rfl)
theorem dX0_join_13 : decode cX0_join 13 = .ok (.idiv, 1) := dk_108 (dk_at dksX0_join_0 13 rfl rfl)
theorem dX0_join_14 : decode cX0_join 14 = .ok (.invokevirtual 250, 3) := dk_182 0 250 (dk_at dksX0_join_0 14 rfl rfl)
theorem dX0_join_17 : decode cX0_join 17 = .ok (.astore 5, 2) := dk_58 5 (dk_at dksX0_join_0 17 rfl rfl)
theorem dX0_join_19 : decode cX0_join 19 = .ok (.iload_n 3, 1) := dk_29 (dk_at dksX0_join_0 19 rfl rfl)
theorem dX0_join_20 : decode cX0_join 20 = .ok (.ifCond .ge 7, 3) := dk_156 0 7 (dk_at dksX0_join_0 20 rfl rfl)
theorem dX0_join_23 : decode cX0_join 23 = .ok (.aconst_null, 1) := dk_1 (dk_at dksX0_join_0 23 rfl rfl)
theorem dX0_join_24 : decode cX0_join 24 = .ok (.goto 12, 3) := dk_167 0 12 (dk_at dksX0_join_1 0 rfl rfl)
theorem dX0_join_27 : decode cX0_join 27 = .ok (.aload_n 0, 1) := dk_42 (dk_at dksX0_join_1 3 rfl rfl)
theorem dX0_join_28 : decode cX0_join 28 = .ok (.iload_n 2, 1) := dk_28 (dk_at dksX0_join_1 4 rfl rfl)
theorem dX0_join_29 : decode cX0_join 29 = .ok (.iload_n 3, 1) := dk_29 (dk_at dksX0_join_1 5 rfl rfl)
theorem dX0_join_30 : decode cX0_join 30 = .ok (.bipush 10, 2) := dk_16 10 (dk_at dksX0_join_1 6 rfl rfl)
theorem dX0_join_32 : decode cX0_join 32 = .ok (.irem, 1) := dk_112 (dk_at dksX0_join_1 8 rfl rfl)
theorem dX0_join_33 : decode cX0_join 33 = .ok (.invokevirtual 250, 3) := dk_182 0 250 (dk_at dksX0_join_1 9 rfl rfl)
theorem dX0_join_36 : decode cX0_join 36 = .ok (.astore 6, 2) := dk_58 6 (dk_at dksX0_join_1 12 rfl rfl)
theorem dX0_join_38 : decode cX0_join 38 = .ok (.aload 5, 2) := dk_25 5 (dk_at dksX0_join_1 14 rfl rfl)
theorem dX0_join_40 : decode cX0_join 40 = .ok (.ifnull 37, 3) := dk_198 0 37 (dk_at dksX0_join_1 16 rfl rfl)
theorem dX0_join_43 : decode cX0_join 43 = .ok (.aload 6, 2) := dk_25 6 (dk_at dksX0_join_1 19 rfl rfl)
theorem dX0_join_45 : decode cX0_join 45 = .ok (.ifnull 32, 3) := dk_198 0 32 (dk_at dksX0_join_1 21 rfl rfl)
theorem dX0_join_48 : decode cX0_join 48 = .ok (.iload 4, 2) := dk_21 4 (dk_at dksX0_join_2 0 rfl rfl)
theorem dX0_join_50 : decode cX0_join 50 = .ok (.i2l, 1) := dk_133 (dk_at dksX0_join_2 2 rfl rfl)
theorem dX0_join_51 : decode cX0_join 51 = .ok (.lconst 1, 1) := dk_10 (dk_at dksX0_join_2 3 rfl rfl)
theorem dX0_join_52 : decode cX0_join 52 = .ok (.ldc2_w 307, 3) := dk_20 1 51 (dk_at dksX0_join_2 4 rfl rfl)
theorem dX0_join_55 : decode cX0_join 55 = .ok (.invokestatic 152, 3) := dk_184 0 152 (dk_at dksX0_join_2 7 rfl rfl)
theorem dX0_join_58 : decode cX0_join 58 = .ok (.ifCond .eq 19, 3) := dk_153 0 19 (dk_at dksX0_join_2 10 rfl rfl)
theorem dX0_join_61 : decode cX0_join 61 = .ok (.aload 5, 2) := dk_25 5 (dk_at dksX0_join_2 13 rfl rfl)
theorem dX0_join_63 : decode cX0_join 63 = .ok (.getfield 226, 3) := dk_180 0 226 (dk_at dksX0_join_2 15 rfl rfl)
theorem dX0_join_66 : decode cX0_join 66 = .ok (.aload 6, 2) := dk_25 6 (dk_at dksX0_join_2 18 rfl rfl)
theorem dX0_join_68 : decode cX0_join 68 = .ok (.getfield 226, 3) := dk_180 0 226 (dk_at dksX0_join_2 20 rfl rfl)
theorem dX0_join_71 : decode cX0_join 71 = .ok (.iadd, 1) := dk_96 (dk_at dksX0_join_2 23 rfl rfl)
theorem dX0_join_72 : decode cX0_join 72 = .ok (.bipush 6, 2) := dk_16 6 (dk_at dksX0_join_3 0 rfl rfl)
theorem dX0_join_74 : decode cX0_join 74 = .ok (.if_icmp .le 5, 3) := dk_164 0 5 (dk_at dksX0_join_3 2 rfl rfl)
theorem dX0_join_77 : decode cX0_join 77 = .ok (.iconst (-1), 1) := dk_2 (dk_at dksX0_join_3 5 rfl rfl)
theorem dX0_join_78 : decode cX0_join 78 = .ok (.ireturn, 1) := dk_172 (dk_at dksX0_join_3 6 rfl rfl)
theorem dX0_join_79 : decode cX0_join 79 = .ok (.aload_n 0, 1) := dk_42 (dk_at dksX0_join_3 7 rfl rfl)
theorem dX0_join_80 : decode cX0_join 80 = .ok (.getfield 198, 3) := dk_180 0 198 (dk_at dksX0_join_3 8 rfl rfl)
theorem dX0_join_83 : decode cX0_join 83 = .ok (.bipush 12, 2) := dk_16 12 (dk_at dksX0_join_3 11 rfl rfl)
theorem dX0_join_85 : decode cX0_join 85 = .ok (.if_icmp .eq 27, 3) := dk_159 0 27 (dk_at dksX0_join_3 13 rfl rfl)
theorem dX0_join_88 : decode cX0_join 88 = .ok (.aload_n 0, 1) := dk_42 (dk_at dksX0_join_3 16 rfl rfl)
theorem dX0_join_89 : decode cX0_join 89 = .ok (.getfield 149, 3) := dk_180 0 149 (dk_at dksX0_join_3 17 rfl rfl)
theorem dX0_join_92 : decode cX0_join 92 = .ok (.aload 5, 2) := dk_25 5 (dk_at dksX0_join_3 20 rfl rfl)
theorem dX0_join_94 : decode cX0_join 94 = .ok (.getfield 229, 3) := dk_180 0 229 (dk_at dksX0_join_4 0 rfl rfl)
theorem dX0_join_97 : decode cX0_join 97 = .ok (.iadd, 1) := dk_96 (dk_at dksX0_join_4 3 rfl rfl)
theorem dX0_join_98 : decode cX0_join 98 = .ok (.aload 6, 2) := dk_25 6 (dk_at dksX0_join_4 4 rfl rfl)
theorem dX0_join_100 : decode cX0_join 100 = .ok (.getfield 229, 3) := dk_180 0 229 (dk_at dksX0_join_4 6 rfl rfl)
theorem dX0_join_103 : decode cX0_join 103 = .ok (.iadd, 1) := dk_96 (dk_at dksX0_join_4 9 rfl rfl)
theorem dX0_join_104 : decode cX0_join 104 = .ok (.iconst 1, 1) := dk_4 (dk_at dksX0_join_4 10 rfl rfl)
theorem dX0_join_105 : decode cX0_join 105 = .ok (.iadd, 1) := dk_96 (dk_at dksX0_join_4 11 rfl rfl)
theorem dX0_join_106 : decode cX0_join 106 = .ok (.sipush 200, 3) := dk_17 0 200 (dk_at dksX0_join_4 12 rfl rfl)
theorem dX0_join_109 : decode cX0_join 109 = .ok (.if_icmp .le 6, 3) := dk_164 0 6 (dk_at dksX0_join_4 15 rfl rfl)
theorem dX0_join_112 : decode cX0_join 112 = .ok (.bipush (-3), 2) := dk_16 253 (dk_at dksX0_join_4 18 rfl rfl)
theorem dX0_join_114 : decode cX0_join 114 = .ok (.ireturn, 1) := dk_172 (dk_at dksX0_join_4 20 rfl rfl)
theorem dX0_join_115 : decode cX0_join 115 = .ok (.new 19, 3) := dk_187 0 19 (dk_at dksX0_join_4 21 rfl rfl)
theorem dX0_join_118 : decode cX0_join 118 = .ok (.dup, 1) := dk_89 (dk_at dksX0_join_5 0 rfl rfl)
theorem dX0_join_119 : decode cX0_join 119 = .ok (.aload_n 0, 1) := dk_42 (dk_at dksX0_join_5 1 rfl rfl)
theorem dX0_join_120 : decode cX0_join 120 = .ok (.aload 5, 2) := dk_25 5 (dk_at dksX0_join_5 2 rfl rfl)
theorem dX0_join_122 : decode cX0_join 122 = .ok (.getfield 226, 3) := dk_180 0 226 (dk_at dksX0_join_5 4 rfl rfl)
theorem dX0_join_125 : decode cX0_join 125 = .ok (.aload 6, 2) := dk_25 6 (dk_at dksX0_join_5 7 rfl rfl)
theorem dX0_join_127 : decode cX0_join 127 = .ok (.getfield 226, 3) := dk_180 0 226 (dk_at dksX0_join_5 9 rfl rfl)
theorem dX0_join_130 : decode cX0_join 130 = .ok (.iadd, 1) := dk_96 (dk_at dksX0_join_5 12 rfl rfl)
theorem dX0_join_131 : decode cX0_join 131 = .ok (.invokespecial 571, 3) := dk_183 2 59 (dk_at dksX0_join_5 13 rfl rfl)
theorem dX0_join_134 : decode cX0_join 134 = .ok (.astore 7, 2) := dk_58 7 (dk_at dksX0_join_5 16 rfl rfl)
theorem dX0_join_136 : decode cX0_join 136 = .ok (.aload_n 0, 1) := dk_42 (dk_at dksX0_join_5 18 rfl rfl)
theorem dX0_join_137 : decode cX0_join 137 = .ok (.aload 7, 2) := dk_25 7 (dk_at dksX0_join_5 19 rfl rfl)
theorem dX0_join_139 : decode cX0_join 139 = .ok (.aload 5, 2) := dk_25 5 (dk_at dksX0_join_5 21 rfl rfl)
theorem dX0_join_141 : decode cX0_join 141 = .ok (.iconst 0, 1) := dk_3 (dk_at dksX0_join_5 23 rfl rfl)
theorem dX0_join_142 : decode cX0_join 142 = .ok (.invokevirtual 572, 3) := dk_182 2 60 (dk_at dksX0_join_6 0 rfl rfl)
theorem dX0_join_145 : decode cX0_join 145 = .ok (.aload_n 0, 1) := dk_42 (dk_at dksX0_join_6 3 rfl rfl)
theorem dX0_join_146 : decode cX0_join 146 = .ok (.aload 7, 2) := dk_25 7 (dk_at dksX0_join_6 4 rfl rfl)
theorem dX0_join_148 : decode cX0_join 148 = .ok (.aload 6, 2) := dk_25 6 (dk_at dksX0_join_6 6 rfl rfl)
theorem dX0_join_150 : decode cX0_join 150 = .ok (.aload 5, 2) := dk_25 5 (dk_at dksX0_join_6 8 rfl rfl)
theorem dX0_join_152 : decode cX0_join 152 = .ok (.getfield 226, 3) := dk_180 0 226 (dk_at dksX0_join_6 10 rfl rfl)
theorem dX0_join_155 : decode cX0_join 155 = .ok (.invokevirtual 572, 3) := dk_182 2 60 (dk_at dksX0_join_6 13 rfl rfl)
theorem dX0_join_158 : decode cX0_join 158 = .ok (.aload 7, 2) := dk_25 7 (dk_at dksX0_join_6 16 rfl rfl)
theorem dX0_join_160 : decode cX0_join 160 = .ok (.getfield 317, 3) := dk_180 1 61 (dk_at dksX0_join_6 18 rfl rfl)
theorem dX0_join_163 : decode cX0_join 163 = .ok (.aload 7, 2) := dk_25 7 (dk_at dksX0_join_6 21 rfl rfl)
theorem dX0_join_165 : decode cX0_join 165 = .ok (.dup, 1) := dk_89 (dk_at dksX0_join_6 23 rfl rfl)
theorem dX0_join_166 : decode cX0_join 166 = .ok (.getfield 229, 3) := dk_180 0 229 (dk_at dksX0_join_7 0 rfl rfl)
theorem dX0_join_169 : decode cX0_join 169 = .ok (.dup_x1, 1) := dk_90 (dk_at dksX0_join_7 3 rfl rfl)
theorem dX0_join_170 : decode cX0_join 170 = .ok (.iconst 1, 1) := dk_4 (dk_at dksX0_join_7 4 rfl rfl)
theorem dX0_join_171 : decode cX0_join 171 = .ok (.iadd, 1) := dk_96 (dk_at dksX0_join_7 5 rfl rfl)
theorem dX0_join_172 : decode cX0_join 172 = .ok (.putfield 229, 3) := dk_181 0 229 (dk_at dksX0_join_7 6 rfl rfl)
theorem dX0_join_175 : decode cX0_join 175 = .ok (.aload_n 0, 1) := dk_42 (dk_at dksX0_join_7 9 rfl rfl)
theorem dX0_join_176 : decode cX0_join 176 = .ok (.iload_n 3, 1) := dk_29 (dk_at dksX0_join_7 10 rfl rfl)
theorem dX0_join_177 : decode cX0_join 177 = .ok (.bipush 10, 2) := dk_16 10 (dk_at dksX0_join_7 11 rfl rfl)
theorem dX0_join_179 : decode cX0_join 179 = .ok (.idiv, 1) := dk_108 (dk_at dksX0_join_7 13 rfl rfl)
theorem dX0_join_180 : decode cX0_join 180 = .ok (.aload 5, 2) := dk_25 5 (dk_at dksX0_join_7 14 rfl rfl)
theorem dX0_join_182 : decode cX0_join 182 = .ok (.getfield 226, 3) := dk_180 0 226 (dk_at dksX0_join_7 16 rfl rfl)
theorem dX0_join_185 : decode cX0_join 185 = .ok (.iload_n 3, 1) := dk_29 (dk_at dksX0_join_7 19 rfl rfl)
theorem dX0_join_186 : decode cX0_join 186 = .ok (.bipush 10, 2) := dk_16 10 (dk_at dksX0_join_7 20 rfl rfl)
theorem dX0_join_188 : decode cX0_join 188 = .ok (.irem, 1) := dk_112 (dk_at dksX0_join_7 22 rfl rfl)
theorem dX0_join_189 : decode cX0_join 189 = .ok (.iadd, 1) := dk_96 (dk_at dksX0_join_7 23 rfl rfl)
theorem dX0_join_190 : decode cX0_join 190 = .ok (.iload 4, 2) := dk_21 4 (dk_at dksX0_join_8 0 rfl rfl)
theorem dX0_join_192 : decode cX0_join 192 = .ok (.invokevirtual 567, 3) := dk_182 2 55 (dk_at dksX0_join_8 2 rfl rfl)
theorem dX0_join_195 : decode cX0_join 195 = .ok (.aastore, 1) := dk_83 (dk_at dksX0_join_8 5 rfl rfl)
theorem dX0_join_196 : decode cX0_join 196 = .ok (.aload 7, 2) := dk_25 7 (dk_at dksX0_join_8 6 rfl rfl)
theorem dX0_join_198 : decode cX0_join 198 = .ok (.aload 5, 2) := dk_25 5 (dk_at dksX0_join_8 8 rfl rfl)
theorem dX0_join_200 : decode cX0_join 200 = .ok (.putfield 576, 3) := dk_181 2 64 (dk_at dksX0_join_8 10 rfl rfl)
theorem dX0_join_203 : decode cX0_join 203 = .ok (.aload 7, 2) := dk_25 7 (dk_at dksX0_join_8 13 rfl rfl)
theorem dX0_join_205 : decode cX0_join 205 = .ok (.aload 6, 2) := dk_25 6 (dk_at dksX0_join_8 15 rfl rfl)
theorem dX0_join_207 : decode cX0_join 207 = .ok (.putfield 579, 3) := dk_181 2 67 (dk_at dksX0_join_8 17 rfl rfl)
theorem dX0_join_210 : decode cX0_join 210 = .ok (.aload_n 0, 1) := dk_42 (dk_at dksX0_join_8 20 rfl rfl)
theorem dX0_join_211 : decode cX0_join 211 = .ok (.getfield 21, 3) := dk_180 0 21 (dk_at dksX0_join_8 21 rfl rfl)
theorem dX0_join_214 : decode cX0_join 214 = .ok (.aload_n 0, 1) := dk_42 (dk_at dksX0_join_9 0 rfl rfl)
theorem dX0_join_215 : decode cX0_join 215 = .ok (.getfield 198, 3) := dk_180 0 198 (dk_at dksX0_join_9 1 rfl rfl)
theorem dX0_join_218 : decode cX0_join 218 = .ok (.aload 7, 2) := dk_25 7 (dk_at dksX0_join_9 4 rfl rfl)
theorem dX0_join_220 : decode cX0_join 220 = .ok (.aastore, 1) := dk_83 (dk_at dksX0_join_9 6 rfl rfl)
theorem dX0_join_221 : decode cX0_join 221 = .ok (.aload_n 0, 1) := dk_42 (dk_at dksX0_join_9 7 rfl rfl)
theorem dX0_join_222 : decode cX0_join 222 = .ok (.dup, 1) := dk_89 (dk_at dksX0_join_9 8 rfl rfl)
theorem dX0_join_223 : decode cX0_join 223 = .ok (.getfield 198, 3) := dk_180 0 198 (dk_at dksX0_join_9 9 rfl rfl)
theorem dX0_join_226 : decode cX0_join 226 = .ok (.dup_x1, 1) := dk_90 (dk_at dksX0_join_9 12 rfl rfl)
theorem dX0_join_227 : decode cX0_join 227 = .ok (.iconst 1, 1) := dk_4 (dk_at dksX0_join_9 13 rfl rfl)
theorem dX0_join_228 : decode cX0_join 228 = .ok (.iadd, 1) := dk_96 (dk_at dksX0_join_9 14 rfl rfl)
theorem dX0_join_229 : decode cX0_join 229 = .ok (.putfield 198, 3) := dk_181 0 198 (dk_at dksX0_join_9 15 rfl rfl)
theorem dX0_join_232 : decode cX0_join 232 = .ok (.ireturn, 1) := dk_172 (dk_at dksX0_join_9 18 rfl rfl)
abbrev cX0_copyInto : ByteArray := prog_1_method_89_code
def yX0_copyInto : MethodName := ⟨RX0, "copyInto", "(LPlatesSing$Shape;LPlatesSing$Shape;I)V"⟩
def dkwX0_copyInto_7 : List UInt8 := [132, 4, 1, 167, 255, 171, 177]
abbrev dktX0_copyInto_7 : List UInt8 := dkwX0_copyInto_7 ++ []
def dkwX0_copyInto_6 : List UInt8 := [180, 1, 8, 181, 1, 8, 43, 180, 1, 61, 43, 89, 180, 0, 229, 90, 4, 96, 181, 0, 229, 25, 5, 83]
abbrev dktX0_copyInto_6 : List UInt8 := dkwX0_copyInto_6 ++ dktX0_copyInto_7
def dkwX0_copyInto_5 : List UInt8 := [180, 1, 61, 21, 4, 50, 180, 0, 195, 182, 2, 55, 58, 5, 25, 5, 44, 180, 1, 61, 21, 4, 50]
abbrev dktX0_copyInto_5 : List UInt8 := dkwX0_copyInto_5 ++ dktX0_copyInto_6
def dkwX0_copyInto_4 : List UInt8 := [44, 180, 1, 61, 21, 4, 50, 180, 0, 186, 96, 29, 44, 180, 1, 61, 21, 4, 50, 180, 0, 192, 96, 44]
abbrev dktX0_copyInto_4 : List UInt8 := dkwX0_copyInto_4 ++ dktX0_copyInto_5
def dkwX0_copyInto_3 : List UInt8 := [21, 4, 51, 84, 132, 4, 1, 167, 255, 180, 3, 54, 4, 21, 4, 44, 180, 0, 229, 162, 0, 82, 42, 29]
abbrev dktX0_copyInto_3 : List UInt8 := dkwX0_copyInto_3 ++ dktX0_copyInto_4
def dkwX0_copyInto_2 : List UInt8 := [29, 21, 4, 96, 44, 180, 0, 239, 21, 4, 46, 79, 43, 180, 0, 242, 29, 21, 4, 96, 44, 180, 0, 242]
abbrev dktX0_copyInto_2 : List UInt8 := dkwX0_copyInto_2 ++ dktX0_copyInto_3
def dkwX0_copyInto_1 : List UInt8 := [21, 4, 46, 79, 43, 180, 0, 236, 29, 21, 4, 96, 44, 180, 0, 236, 21, 4, 46, 79, 43, 180, 0, 239]
abbrev dktX0_copyInto_1 : List UInt8 := dkwX0_copyInto_1 ++ dktX0_copyInto_2
def dkwX0_copyInto_0 : List UInt8 := [3, 54, 4, 21, 4, 44, 180, 0, 226, 162, 0, 73, 43, 180, 0, 233, 29, 21, 4, 96, 44, 180, 0, 233]
abbrev dktX0_copyInto_0 : List UInt8 := dkwX0_copyInto_0 ++ dktX0_copyInto_1
theorem dksX0_copyInto_0 : cX0_copyInto.data.toList.drop 0 = dktX0_copyInto_0 := by decide +kernel
theorem dksX0_copyInto_1 : cX0_copyInto.data.toList.drop 24 = dktX0_copyInto_1 := dk_seg dksX0_copyInto_0 24 rfl rfl
theorem dksX0_copyInto_2 : cX0_copyInto.data.toList.drop 48 = dktX0_copyInto_2 := dk_seg dksX0_copyInto_1 24 rfl rfl
theorem dksX0_copyInto_3 : cX0_copyInto.data.toList.drop 72 = dktX0_copyInto_3 := dk_seg dksX0_copyInto_2 24 rfl rfl
theorem dksX0_copyInto_4 : cX0_copyInto.data.toList.drop 96 = dktX0_copyInto_4 := dk_seg dksX0_copyInto_3 24 rfl rfl
theorem dksX0_copyInto_5 : cX0_copyInto.data.toList.drop 120 = dktX0_copyInto_5 := dk_seg dksX0_copyInto_4 24 rfl rfl
theorem dksX0_copyInto_6 : cX0_copyInto.data.toList.drop 143 = dktX0_copyInto_6 := dk_seg dksX0_copyInto_5 23 rfl rfl
theorem dksX0_copyInto_7 : cX0_copyInto.data.toList.drop 167 = dktX0_copyInto_7 := dk_seg dksX0_copyInto_6 24 rfl rfl
theorem dX0_copyInto_0 : decode cX0_copyInto 0 = .ok (.iconst 0, 1) := dk_3 (dk_at dksX0_copyInto_0 0 rfl rfl)
theorem dX0_copyInto_1 : decode cX0_copyInto 1 = .ok (.istore 4, 2) := dk_54 4 (dk_at dksX0_copyInto_0 1 rfl rfl)
theorem dX0_copyInto_3 : decode cX0_copyInto 3 = .ok (.iload 4, 2) := dk_21 4 (dk_at dksX0_copyInto_0 3 rfl rfl)
theorem dX0_copyInto_5 : decode cX0_copyInto 5 = .ok (.aload_n 2, 1) := dk_44 (dk_at dksX0_copyInto_0 5 rfl rfl)
theorem dX0_copyInto_6 : decode cX0_copyInto 6 = .ok (.getfield 226, 3) := dk_180 0 226 (dk_at dksX0_copyInto_0 6 rfl rfl)
theorem dX0_copyInto_9 : decode cX0_copyInto 9 = .ok (.if_icmp .ge 73, 3) := dk_162 0 73 (dk_at dksX0_copyInto_0 9 rfl rfl)
theorem dX0_copyInto_12 : decode cX0_copyInto 12 = .ok (.aload_n 1, 1) := dk_43 (dk_at dksX0_copyInto_0 12 rfl rfl)
theorem dX0_copyInto_13 : decode cX0_copyInto 13 = .ok (.getfield 233, 3) := dk_180 0 233 (dk_at dksX0_copyInto_0 13 rfl rfl)
theorem dX0_copyInto_16 : decode cX0_copyInto 16 = .ok (.iload_n 3, 1) := dk_29 (dk_at dksX0_copyInto_0 16 rfl rfl)
theorem dX0_copyInto_17 : decode cX0_copyInto 17 = .ok (.iload 4, 2) := dk_21 4 (dk_at dksX0_copyInto_0 17 rfl rfl)
theorem dX0_copyInto_19 : decode cX0_copyInto 19 = .ok (.iadd, 1) := dk_96 (dk_at dksX0_copyInto_0 19 rfl rfl)
theorem dX0_copyInto_20 : decode cX0_copyInto 20 = .ok (.aload_n 2, 1) := dk_44 (dk_at dksX0_copyInto_0 20 rfl rfl)
theorem dX0_copyInto_21 : decode cX0_copyInto 21 = .ok (.getfield 233, 3) := dk_180 0 233 (dk_at dksX0_copyInto_0 21 rfl rfl)
theorem dX0_copyInto_24 : decode cX0_copyInto 24 = .ok (.iload 4, 2) := dk_21 4 (dk_at dksX0_copyInto_1 0 rfl rfl)
theorem dX0_copyInto_26 : decode cX0_copyInto 26 = .ok (.iaload, 1) := dk_46 (dk_at dksX0_copyInto_1 2 rfl rfl)
theorem dX0_copyInto_27 : decode cX0_copyInto 27 = .ok (.iastore, 1) := dk_79 (dk_at dksX0_copyInto_1 3 rfl rfl)
theorem dX0_copyInto_28 : decode cX0_copyInto 28 = .ok (.aload_n 1, 1) := dk_43 (dk_at dksX0_copyInto_1 4 rfl rfl)
theorem dX0_copyInto_29 : decode cX0_copyInto 29 = .ok (.getfield 236, 3) := dk_180 0 236 (dk_at dksX0_copyInto_1 5 rfl rfl)
theorem dX0_copyInto_32 : decode cX0_copyInto 32 = .ok (.iload_n 3, 1) := dk_29 (dk_at dksX0_copyInto_1 8 rfl rfl)
theorem dX0_copyInto_33 : decode cX0_copyInto 33 = .ok (.iload 4, 2) := dk_21 4 (dk_at dksX0_copyInto_1 9 rfl rfl)
theorem dX0_copyInto_35 : decode cX0_copyInto 35 = .ok (.iadd, 1) := dk_96 (dk_at dksX0_copyInto_1 11 rfl rfl)
theorem dX0_copyInto_36 : decode cX0_copyInto 36 = .ok (.aload_n 2, 1) := dk_44 (dk_at dksX0_copyInto_1 12 rfl rfl)
theorem dX0_copyInto_37 : decode cX0_copyInto 37 = .ok (.getfield 236, 3) := dk_180 0 236 (dk_at dksX0_copyInto_1 13 rfl rfl)
theorem dX0_copyInto_40 : decode cX0_copyInto 40 = .ok (.iload 4, 2) := dk_21 4 (dk_at dksX0_copyInto_1 16 rfl rfl)
theorem dX0_copyInto_42 : decode cX0_copyInto 42 = .ok (.iaload, 1) := dk_46 (dk_at dksX0_copyInto_1 18 rfl rfl)
theorem dX0_copyInto_43 : decode cX0_copyInto 43 = .ok (.iastore, 1) := dk_79 (dk_at dksX0_copyInto_1 19 rfl rfl)
theorem dX0_copyInto_44 : decode cX0_copyInto 44 = .ok (.aload_n 1, 1) := dk_43 (dk_at dksX0_copyInto_1 20 rfl rfl)
theorem dX0_copyInto_45 : decode cX0_copyInto 45 = .ok (.getfield 239, 3) := dk_180 0 239 (dk_at dksX0_copyInto_1 21 rfl rfl)
theorem dX0_copyInto_48 : decode cX0_copyInto 48 = .ok (.iload_n 3, 1) := dk_29 (dk_at dksX0_copyInto_2 0 rfl rfl)
theorem dX0_copyInto_49 : decode cX0_copyInto 49 = .ok (.iload 4, 2) := dk_21 4 (dk_at dksX0_copyInto_2 1 rfl rfl)
theorem dX0_copyInto_51 : decode cX0_copyInto 51 = .ok (.iadd, 1) := dk_96 (dk_at dksX0_copyInto_2 3 rfl rfl)
theorem dX0_copyInto_52 : decode cX0_copyInto 52 = .ok (.aload_n 2, 1) := dk_44 (dk_at dksX0_copyInto_2 4 rfl rfl)
theorem dX0_copyInto_53 : decode cX0_copyInto 53 = .ok (.getfield 239, 3) := dk_180 0 239 (dk_at dksX0_copyInto_2 5 rfl rfl)
theorem dX0_copyInto_56 : decode cX0_copyInto 56 = .ok (.iload 4, 2) := dk_21 4 (dk_at dksX0_copyInto_2 8 rfl rfl)
theorem dX0_copyInto_58 : decode cX0_copyInto 58 = .ok (.iaload, 1) := dk_46 (dk_at dksX0_copyInto_2 10 rfl rfl)
theorem dX0_copyInto_59 : decode cX0_copyInto 59 = .ok (.iastore, 1) := dk_79 (dk_at dksX0_copyInto_2 11 rfl rfl)
theorem dX0_copyInto_60 : decode cX0_copyInto 60 = .ok (.aload_n 1, 1) := dk_43 (dk_at dksX0_copyInto_2 12 rfl rfl)
theorem dX0_copyInto_61 : decode cX0_copyInto 61 = .ok (.getfield 242, 3) := dk_180 0 242 (dk_at dksX0_copyInto_2 13 rfl rfl)
theorem dX0_copyInto_64 : decode cX0_copyInto 64 = .ok (.iload_n 3, 1) := dk_29 (dk_at dksX0_copyInto_2 16 rfl rfl)
theorem dX0_copyInto_65 : decode cX0_copyInto 65 = .ok (.iload 4, 2) := dk_21 4 (dk_at dksX0_copyInto_2 17 rfl rfl)
theorem dX0_copyInto_67 : decode cX0_copyInto 67 = .ok (.iadd, 1) := dk_96 (dk_at dksX0_copyInto_2 19 rfl rfl)
theorem dX0_copyInto_68 : decode cX0_copyInto 68 = .ok (.aload_n 2, 1) := dk_44 (dk_at dksX0_copyInto_2 20 rfl rfl)
theorem dX0_copyInto_69 : decode cX0_copyInto 69 = .ok (.getfield 242, 3) := dk_180 0 242 (dk_at dksX0_copyInto_2 21 rfl rfl)
theorem dX0_copyInto_72 : decode cX0_copyInto 72 = .ok (.iload 4, 2) := dk_21 4 (dk_at dksX0_copyInto_3 0 rfl rfl)
theorem dX0_copyInto_74 : decode cX0_copyInto 74 = .ok (.baload, 1) := dk_51 (dk_at dksX0_copyInto_3 2 rfl rfl)
theorem dX0_copyInto_75 : decode cX0_copyInto 75 = .ok (.bastore, 1) := dk_84 (dk_at dksX0_copyInto_3 3 rfl rfl)
theorem dX0_copyInto_76 : decode cX0_copyInto 76 = .ok (.iinc 4 1, 3) := dk_132 4 1 (dk_at dksX0_copyInto_3 4 rfl rfl)
theorem dX0_copyInto_79 : decode cX0_copyInto 79 = .ok (.goto (-76), 3) := dk_167 255 180 (dk_at dksX0_copyInto_3 7 rfl rfl)
theorem dX0_copyInto_82 : decode cX0_copyInto 82 = .ok (.iconst 0, 1) := dk_3 (dk_at dksX0_copyInto_3 10 rfl rfl)
theorem dX0_copyInto_83 : decode cX0_copyInto 83 = .ok (.istore 4, 2) := dk_54 4 (dk_at dksX0_copyInto_3 11 rfl rfl)
theorem dX0_copyInto_85 : decode cX0_copyInto 85 = .ok (.iload 4, 2) := dk_21 4 (dk_at dksX0_copyInto_3 13 rfl rfl)
theorem dX0_copyInto_87 : decode cX0_copyInto 87 = .ok (.aload_n 2, 1) := dk_44 (dk_at dksX0_copyInto_3 15 rfl rfl)
theorem dX0_copyInto_88 : decode cX0_copyInto 88 = .ok (.getfield 229, 3) := dk_180 0 229 (dk_at dksX0_copyInto_3 16 rfl rfl)
theorem dX0_copyInto_91 : decode cX0_copyInto 91 = .ok (.if_icmp .ge 82, 3) := dk_162 0 82 (dk_at dksX0_copyInto_3 19 rfl rfl)
theorem dX0_copyInto_94 : decode cX0_copyInto 94 = .ok (.aload_n 0, 1) := dk_42 (dk_at dksX0_copyInto_3 22 rfl rfl)
theorem dX0_copyInto_95 : decode cX0_copyInto 95 = .ok (.iload_n 3, 1) := dk_29 (dk_at dksX0_copyInto_3 23 rfl rfl)
theorem dX0_copyInto_96 : decode cX0_copyInto 96 = .ok (.aload_n 2, 1) := dk_44 (dk_at dksX0_copyInto_4 0 rfl rfl)
theorem dX0_copyInto_97 : decode cX0_copyInto 97 = .ok (.getfield 317, 3) := dk_180 1 61 (dk_at dksX0_copyInto_4 1 rfl rfl)
theorem dX0_copyInto_100 : decode cX0_copyInto 100 = .ok (.iload 4, 2) := dk_21 4 (dk_at dksX0_copyInto_4 4 rfl rfl)
theorem dX0_copyInto_102 : decode cX0_copyInto 102 = .ok (.aaload, 1) := dk_50 (dk_at dksX0_copyInto_4 6 rfl rfl)
theorem dX0_copyInto_103 : decode cX0_copyInto 103 = .ok (.getfield 186, 3) := dk_180 0 186 (dk_at dksX0_copyInto_4 7 rfl rfl)
theorem dX0_copyInto_106 : decode cX0_copyInto 106 = .ok (.iadd, 1) := dk_96 (dk_at dksX0_copyInto_4 10 rfl rfl)
theorem dX0_copyInto_107 : decode cX0_copyInto 107 = .ok (.iload_n 3, 1) := dk_29 (dk_at dksX0_copyInto_4 11 rfl rfl)
theorem dX0_copyInto_108 : decode cX0_copyInto 108 = .ok (.aload_n 2, 1) := dk_44 (dk_at dksX0_copyInto_4 12 rfl rfl)
theorem dX0_copyInto_109 : decode cX0_copyInto 109 = .ok (.getfield 317, 3) := dk_180 1 61 (dk_at dksX0_copyInto_4 13 rfl rfl)
theorem dX0_copyInto_112 : decode cX0_copyInto 112 = .ok (.iload 4, 2) := dk_21 4 (dk_at dksX0_copyInto_4 16 rfl rfl)
theorem dX0_copyInto_114 : decode cX0_copyInto 114 = .ok (.aaload, 1) := dk_50 (dk_at dksX0_copyInto_4 18 rfl rfl)
theorem dX0_copyInto_115 : decode cX0_copyInto 115 = .ok (.getfield 192, 3) := dk_180 0 192 (dk_at dksX0_copyInto_4 19 rfl rfl)
theorem dX0_copyInto_118 : decode cX0_copyInto 118 = .ok (.iadd, 1) := dk_96 (dk_at dksX0_copyInto_4 22 rfl rfl)
theorem dX0_copyInto_119 : decode cX0_copyInto 119 = .ok (.aload_n 2, 1) := dk_44 (dk_at dksX0_copyInto_4 23 rfl rfl)
theorem dX0_copyInto_120 : decode cX0_copyInto 120 = .ok (.getfield 317, 3) := dk_180 1 61 (dk_at dksX0_copyInto_5 0 rfl rfl)
theorem dX0_copyInto_123 : decode cX0_copyInto 123 = .ok (.iload 4, 2) := dk_21 4 (dk_at dksX0_copyInto_5 3 rfl rfl)
theorem dX0_copyInto_125 : decode cX0_copyInto 125 = .ok (.aaload, 1) := dk_50 (dk_at dksX0_copyInto_5 5 rfl rfl)
theorem dX0_copyInto_126 : decode cX0_copyInto 126 = .ok (.getfield 195, 3) := dk_180 0 195 (dk_at dksX0_copyInto_5 6 rfl rfl)
theorem dX0_copyInto_129 : decode cX0_copyInto 129 = .ok (.invokevirtual 567, 3) := dk_182 2 55 (dk_at dksX0_copyInto_5 9 rfl rfl)
theorem dX0_copyInto_132 : decode cX0_copyInto 132 = .ok (.astore 5, 2) := dk_58 5 (dk_at dksX0_copyInto_5 12 rfl rfl)
theorem dX0_copyInto_134 : decode cX0_copyInto 134 = .ok (.aload 5, 2) := dk_25 5 (dk_at dksX0_copyInto_5 14 rfl rfl)
theorem dX0_copyInto_136 : decode cX0_copyInto 136 = .ok (.aload_n 2, 1) := dk_44 (dk_at dksX0_copyInto_5 16 rfl rfl)
theorem dX0_copyInto_137 : decode cX0_copyInto 137 = .ok (.getfield 317, 3) := dk_180 1 61 (dk_at dksX0_copyInto_5 17 rfl rfl)
theorem dX0_copyInto_140 : decode cX0_copyInto 140 = .ok (.iload 4, 2) := dk_21 4 (dk_at dksX0_copyInto_5 20 rfl rfl)
theorem dX0_copyInto_142 : decode cX0_copyInto 142 = .ok (.aaload, 1) := dk_50 (dk_at dksX0_copyInto_5 22 rfl rfl)
theorem dX0_copyInto_143 : decode cX0_copyInto 143 = .ok (.getfield 264, 3) := dk_180 1 8 (dk_at dksX0_copyInto_6 0 rfl rfl)
theorem dX0_copyInto_146 : decode cX0_copyInto 146 = .ok (.putfield 264, 3) := dk_181 1 8 (dk_at dksX0_copyInto_6 3 rfl rfl)
theorem dX0_copyInto_149 : decode cX0_copyInto 149 = .ok (.aload_n 1, 1) := dk_43 (dk_at dksX0_copyInto_6 6 rfl rfl)
theorem dX0_copyInto_150 : decode cX0_copyInto 150 = .ok (.getfield 317, 3) := dk_180 1 61 (dk_at dksX0_copyInto_6 7 rfl rfl)
theorem dX0_copyInto_153 : decode cX0_copyInto 153 = .ok (.aload_n 1, 1) := dk_43 (dk_at dksX0_copyInto_6 10 rfl rfl)
theorem dX0_copyInto_154 : decode cX0_copyInto 154 = .ok (.dup, 1) := dk_89 (dk_at dksX0_copyInto_6 11 rfl rfl)
theorem dX0_copyInto_155 : decode cX0_copyInto 155 = .ok (.getfield 229, 3) := dk_180 0 229 (dk_at dksX0_copyInto_6 12 rfl rfl)
theorem dX0_copyInto_158 : decode cX0_copyInto 158 = .ok (.dup_x1, 1) := dk_90 (dk_at dksX0_copyInto_6 15 rfl rfl)
theorem dX0_copyInto_159 : decode cX0_copyInto 159 = .ok (.iconst 1, 1) := dk_4 (dk_at dksX0_copyInto_6 16 rfl rfl)
theorem dX0_copyInto_160 : decode cX0_copyInto 160 = .ok (.iadd, 1) := dk_96 (dk_at dksX0_copyInto_6 17 rfl rfl)
theorem dX0_copyInto_161 : decode cX0_copyInto 161 = .ok (.putfield 229, 3) := dk_181 0 229 (dk_at dksX0_copyInto_6 18 rfl rfl)
theorem dX0_copyInto_164 : decode cX0_copyInto 164 = .ok (.aload 5, 2) := dk_25 5 (dk_at dksX0_copyInto_6 21 rfl rfl)
theorem dX0_copyInto_166 : decode cX0_copyInto 166 = .ok (.aastore, 1) := dk_83 (dk_at dksX0_copyInto_6 23 rfl rfl)
theorem dX0_copyInto_167 : decode cX0_copyInto 167 = .ok (.iinc 4 1, 3) := dk_132 4 1 (dk_at dksX0_copyInto_7 0 rfl rfl)
theorem dX0_copyInto_170 : decode cX0_copyInto 170 = .ok (.goto (-85), 3) := dk_167 255 171 (dk_at dksX0_copyInto_7 3 rfl rfl)
theorem dX0_copyInto_173 : decode cX0_copyInto 173 = .ok (.return_, 1) := dk_177 (dk_at dksX0_copyInto_7 6 rfl rfl)
abbrev cX0_law : ByteArray := prog_1_method_91_code
def yX0_law : MethodName := ⟨RX0, "law", "(II)I"⟩
def dkwX0_law_4 : List UInt8 := [160, 0, 7, 4, 167, 0, 4, 3, 184, 0, 246, 172]
abbrev dktX0_law_4 : List UInt8 := dkwX0_law_4 ++ []
def dkwX0_law_3 : List UInt8 := [21, 4, 21, 5, 182, 1, 105, 54, 7, 21, 7, 21, 6, 159, 0, 12, 21, 7, 21, 6, 4, 100]
abbrev dktX0_law_3 : List UInt8 := dkwX0_law_3 ++ dktX0_law_4
def dkwX0_law_2 : List UInt8 := [21, 4, 21, 5, 182, 1, 105, 42, 45, 180, 2, 67, 21, 4, 21, 5, 182, 1, 105, 96, 54, 6, 42, 45]
abbrev dktX0_law_2 : List UInt8 := dkwX0_law_2 ++ dktX0_law_3
def dkwX0_law_1 : List UInt8 := [199, 0, 6, 16, 254, 172, 28, 16, 10, 108, 54, 4, 28, 16, 10, 112, 54, 5, 42, 45, 180, 2, 64]
abbrev dktX0_law_1 : List UInt8 := dkwX0_law_1 ++ dktX0_law_2
def dkwX0_law_0 : List UInt8 := [42, 27, 182, 0, 201, 78, 45, 198, 0, 10, 28, 184, 1, 102, 154, 0, 5, 2, 172, 45, 180, 2, 64]
abbrev dktX0_law_0 : List UInt8 := dkwX0_law_0 ++ dktX0_law_1
theorem dksX0_law_0 : cX0_law.data.toList.drop 0 = dktX0_law_0 := by decide +kernel
theorem dksX0_law_1 : cX0_law.data.toList.drop 23 = dktX0_law_1 := dk_seg dksX0_law_0 23 rfl rfl
theorem dksX0_law_2 : cX0_law.data.toList.drop 46 = dktX0_law_2 := dk_seg dksX0_law_1 23 rfl rfl
theorem dksX0_law_3 : cX0_law.data.toList.drop 70 = dktX0_law_3 := dk_seg dksX0_law_2 24 rfl rfl
theorem dksX0_law_4 : cX0_law.data.toList.drop 92 = dktX0_law_4 := dk_seg dksX0_law_3 22 rfl rfl
theorem dX0_law_0 : decode cX0_law 0 = .ok (.aload_n 0, 1) := dk_42 (dk_at dksX0_law_0 0 rfl rfl)
theorem dX0_law_1 : decode cX0_law 1 = .ok (.iload_n 1, 1) := dk_27 (dk_at dksX0_law_0 1 rfl rfl)
theorem dX0_law_2 : decode cX0_law 2 = .ok (.invokevirtual 201, 3) := dk_182 0 201 (dk_at dksX0_law_0 2 rfl rfl)
theorem dX0_law_5 : decode cX0_law 5 = .ok (.astore_n 3, 1) := dk_78 (dk_at dksX0_law_0 5 rfl rfl)
theorem dX0_law_6 : decode cX0_law 6 = .ok (.aload_n 3, 1) := dk_45 (dk_at dksX0_law_0 6 rfl rfl)
theorem dX0_law_7 : decode cX0_law 7 = .ok (.ifnull 10, 3) := dk_198 0 10 (dk_at dksX0_law_0 7 rfl rfl)
theorem dX0_law_10 : decode cX0_law 10 = .ok (.iload_n 2, 1) := dk_28 (dk_at dksX0_law_0 10 rfl rfl)
theorem dX0_law_11 : decode cX0_law 11 = .ok (.invokestatic 358, 3) := dk_184 1 102 (dk_at dksX0_law_0 11 rfl rfl)
theorem dX0_law_14 : decode cX0_law 14 = .ok (.ifCond .ne 5, 3) := dk_154 0 5 (dk_at dksX0_law_0 14 rfl rfl)
theorem dX0_law_17 : decode cX0_law 17 = .ok (.iconst (-1), 1) := dk_2 (dk_at dksX0_law_0 17 rfl rfl)
theorem dX0_law_18 : decode cX0_law 18 = .ok (.ireturn, 1) := dk_172 (dk_at dksX0_law_0 18 rfl rfl)
theorem dX0_law_19 : decode cX0_law 19 = .ok (.aload_n 3, 1) := dk_45 (dk_at dksX0_law_0 19 rfl rfl)
theorem dX0_law_20 : decode cX0_law 20 = .ok (.getfield 576, 3) := dk_180 2 64 (dk_at dksX0_law_0 20 rfl rfl)
theorem dX0_law_23 : decode cX0_law 23 = .ok (.ifnonnull 6, 3) := dk_199 0 6 (dk_at dksX0_law_1 0 rfl rfl)
theorem dX0_law_26 : decode cX0_law 26 = .ok (.bipush (-2), 2) := dk_16 254 (dk_at dksX0_law_1 3 rfl rfl)
theorem dX0_law_28 : decode cX0_law 28 = .ok (.ireturn, 1) := dk_172 (dk_at dksX0_law_1 5 rfl rfl)
theorem dX0_law_29 : decode cX0_law 29 = .ok (.iload_n 2, 1) := dk_28 (dk_at dksX0_law_1 6 rfl rfl)
theorem dX0_law_30 : decode cX0_law 30 = .ok (.bipush 10, 2) := dk_16 10 (dk_at dksX0_law_1 7 rfl rfl)
theorem dX0_law_32 : decode cX0_law 32 = .ok (.idiv, 1) := dk_108 (dk_at dksX0_law_1 9 rfl rfl)
theorem dX0_law_33 : decode cX0_law 33 = .ok (.istore 4, 2) := dk_54 4 (dk_at dksX0_law_1 10 rfl rfl)
theorem dX0_law_35 : decode cX0_law 35 = .ok (.iload_n 2, 1) := dk_28 (dk_at dksX0_law_1 12 rfl rfl)
theorem dX0_law_36 : decode cX0_law 36 = .ok (.bipush 10, 2) := dk_16 10 (dk_at dksX0_law_1 13 rfl rfl)
theorem dX0_law_38 : decode cX0_law 38 = .ok (.irem, 1) := dk_112 (dk_at dksX0_law_1 15 rfl rfl)
theorem dX0_law_39 : decode cX0_law 39 = .ok (.istore 5, 2) := dk_54 5 (dk_at dksX0_law_1 16 rfl rfl)
theorem dX0_law_41 : decode cX0_law 41 = .ok (.aload_n 0, 1) := dk_42 (dk_at dksX0_law_1 18 rfl rfl)
theorem dX0_law_42 : decode cX0_law 42 = .ok (.aload_n 3, 1) := dk_45 (dk_at dksX0_law_1 19 rfl rfl)
theorem dX0_law_43 : decode cX0_law 43 = .ok (.getfield 576, 3) := dk_180 2 64 (dk_at dksX0_law_1 20 rfl rfl)
theorem dX0_law_46 : decode cX0_law 46 = .ok (.iload 4, 2) := dk_21 4 (dk_at dksX0_law_2 0 rfl rfl)
theorem dX0_law_48 : decode cX0_law 48 = .ok (.iload 5, 2) := dk_21 5 (dk_at dksX0_law_2 2 rfl rfl)
theorem dX0_law_50 : decode cX0_law 50 = .ok (.invokevirtual 361, 3) := dk_182 1 105 (dk_at dksX0_law_2 4 rfl rfl)
theorem dX0_law_53 : decode cX0_law 53 = .ok (.aload_n 0, 1) := dk_42 (dk_at dksX0_law_2 7 rfl rfl)
theorem dX0_law_54 : decode cX0_law 54 = .ok (.aload_n 3, 1) := dk_45 (dk_at dksX0_law_2 8 rfl rfl)
theorem dX0_law_55 : decode cX0_law 55 = .ok (.getfield 579, 3) := dk_180 2 67 (dk_at dksX0_law_2 9 rfl rfl)
theorem dX0_law_58 : decode cX0_law 58 = .ok (.iload 4, 2) := dk_21 4 (dk_at dksX0_law_2 12 rfl rfl)
theorem dX0_law_60 : decode cX0_law 60 = .ok (.iload 5, 2) := dk_21 5 (dk_at dksX0_law_2 14 rfl rfl)
theorem dX0_law_62 : decode cX0_law 62 = .ok (.invokevirtual 361, 3) := dk_182 1 105 (dk_at dksX0_law_2 16 rfl rfl)
theorem dX0_law_65 : decode cX0_law 65 = .ok (.iadd, 1) := dk_96 (dk_at dksX0_law_2 19 rfl rfl)
theorem dX0_law_66 : decode cX0_law 66 = .ok (.istore 6, 2) := dk_54 6 (dk_at dksX0_law_2 20 rfl rfl)
theorem dX0_law_68 : decode cX0_law 68 = .ok (.aload_n 0, 1) := dk_42 (dk_at dksX0_law_2 22 rfl rfl)
theorem dX0_law_69 : decode cX0_law 69 = .ok (.aload_n 3, 1) := dk_45 (dk_at dksX0_law_2 23 rfl rfl)
theorem dX0_law_70 : decode cX0_law 70 = .ok (.iload 4, 2) := dk_21 4 (dk_at dksX0_law_3 0 rfl rfl)
theorem dX0_law_72 : decode cX0_law 72 = .ok (.iload 5, 2) := dk_21 5 (dk_at dksX0_law_3 2 rfl rfl)
theorem dX0_law_74 : decode cX0_law 74 = .ok (.invokevirtual 361, 3) := dk_182 1 105 (dk_at dksX0_law_3 4 rfl rfl)
theorem dX0_law_77 : decode cX0_law 77 = .ok (.istore 7, 2) := dk_54 7 (dk_at dksX0_law_3 7 rfl rfl)
theorem dX0_law_79 : decode cX0_law 79 = .ok (.iload 7, 2) := dk_21 7 (dk_at dksX0_law_3 9 rfl rfl)
theorem dX0_law_81 : decode cX0_law 81 = .ok (.iload 6, 2) := dk_21 6 (dk_at dksX0_law_3 11 rfl rfl)
theorem dX0_law_83 : decode cX0_law 83 = .ok (.if_icmp .eq 12, 3) := dk_159 0 12 (dk_at dksX0_law_3 13 rfl rfl)
theorem dX0_law_86 : decode cX0_law 86 = .ok (.iload 7, 2) := dk_21 7 (dk_at dksX0_law_3 16 rfl rfl)
theorem dX0_law_88 : decode cX0_law 88 = .ok (.iload 6, 2) := dk_21 6 (dk_at dksX0_law_3 18 rfl rfl)
theorem dX0_law_90 : decode cX0_law 90 = .ok (.iconst 1, 1) := dk_4 (dk_at dksX0_law_3 20 rfl rfl)
theorem dX0_law_91 : decode cX0_law 91 = .ok (.isub, 1) := dk_100 (dk_at dksX0_law_3 21 rfl rfl)
theorem dX0_law_92 : decode cX0_law 92 = .ok (.if_icmp .ne 7, 3) := dk_160 0 7 (dk_at dksX0_law_4 0 rfl rfl)
theorem dX0_law_95 : decode cX0_law 95 = .ok (.iconst 1, 1) := dk_4 (dk_at dksX0_law_4 3 rfl rfl)
theorem dX0_law_96 : decode cX0_law 96 = .ok (.goto 4, 3) := dk_167 0 4 (dk_at dksX0_law_4 4 rfl rfl)
theorem dX0_law_99 : decode cX0_law 99 = .ok (.iconst 0, 1) := dk_3 (dk_at dksX0_law_4 7 rfl rfl)
theorem dX0_law_100 : decode cX0_law 100 = .ok (.invokestatic 246, 3) := dk_184 0 246 (dk_at dksX0_law_4 8 rfl rfl)
theorem dX0_law_103 : decode cX0_law 103 = .ok (.ireturn, 1) := dk_172 (dk_at dksX0_law_4 11 rfl rfl)
abbrev cX0_act : ByteArray := prog_1_method_92_code
def yX0_act : MethodName := ⟨RX0, "act", "(III)I"⟩
def dkwX0_act_4 : List UInt8 := [182, 2, 84, 172]
abbrev dktX0_act_4 : List UInt8 := dkwX0_act_4 ++ []
def dkwX0_act_3 : List UInt8 := [25, 4, 29, 182, 2, 76, 172, 25, 4, 29, 182, 2, 79, 172, 25, 4, 29, 182, 2, 82, 172, 25, 4, 29]
abbrev dktX0_act_3 : List UInt8 := dkwX0_act_3 ++ dktX0_act_4
def dkwX0_act_2 : List UInt8 := [170, 0, 0, 0, 0, 0, 0, 49, 0, 0, 0, 0, 0, 0, 0, 2, 0, 0, 0, 28, 0, 0, 0, 35, 0, 0, 0, 42]
abbrev dktX0_act_2 : List UInt8 := dkwX0_act_2 ++ dktX0_act_3
def dkwX0_act_1 : List UInt8 := [154, 0, 5, 3, 172, 42, 180, 0, 11, 27, 50, 58, 4, 28]
abbrev dktX0_act_1 : List UInt8 := dkwX0_act_1 ++ dktX0_act_2
def dkwX0_act_0 : List UInt8 := [42, 3, 181, 2, 70, 42, 27, 182, 2, 73, 153, 0, 15, 28, 133, 9, 20, 1, 168, 184, 0, 152]
abbrev dktX0_act_0 : List UInt8 := dkwX0_act_0 ++ dktX0_act_1
theorem dksX0_act_0 : cX0_act.data.toList.drop 0 = dktX0_act_0 := by decide +kernel
theorem dksX0_act_1 : cX0_act.data.toList.drop 22 = dktX0_act_1 := dk_seg dksX0_act_0 22 rfl rfl
theorem dksX0_act_2 : cX0_act.data.toList.drop 36 = dktX0_act_2 := dk_seg dksX0_act_1 14 rfl rfl
theorem dksX0_act_3 : cX0_act.data.toList.drop 64 = dktX0_act_3 := dk_seg dksX0_act_2 28 rfl rfl
theorem dksX0_act_4 : cX0_act.data.toList.drop 88 = dktX0_act_4 := dk_seg dksX0_act_3 24 rfl rfl
theorem dX0_act_0 : decode cX0_act 0 = .ok (.aload_n 0, 1) := dk_42 (dk_at dksX0_act_0 0 rfl rfl)
theorem dX0_act_1 : decode cX0_act 1 = .ok (.iconst 0, 1) := dk_3 (dk_at dksX0_act_0 1 rfl rfl)
theorem dX0_act_2 : decode cX0_act 2 = .ok (.putfield 582, 3) := dk_181 2 70 (dk_at dksX0_act_0 2 rfl rfl)
theorem dX0_act_5 : decode cX0_act 5 = .ok (.aload_n 0, 1) := dk_42 (dk_at dksX0_act_0 5 rfl rfl)
theorem dX0_act_6 : decode cX0_act 6 = .ok (.iload_n 1, 1) := dk_27 (dk_at dksX0_act_0 6 rfl rfl)
theorem dX0_act_7 : decode cX0_act 7 = .ok (.invokevirtual 585, 3) := dk_182 2 73 (dk_at dksX0_act_0 7 rfl rfl)
theorem dX0_act_10 : decode cX0_act 10 = .ok (.ifCond .eq 15, 3) := dk_153 0 15 (dk_at dksX0_act_0 10 rfl rfl)
theorem dX0_act_13 : decode cX0_act 13 = .ok (.iload_n 2, 1) := dk_28 (dk_at dksX0_act_0 13 rfl rfl)
theorem dX0_act_14 : decode cX0_act 14 = .ok (.i2l, 1) := dk_133 (dk_at dksX0_act_0 14 rfl rfl)
theorem dX0_act_15 : decode cX0_act 15 = .ok (.lconst 0, 1) := dk_9 (dk_at dksX0_act_0 15 rfl rfl)
theorem dX0_act_16 : decode cX0_act 16 = .ok (.ldc2_w 424, 3) := dk_20 1 168 (dk_at dksX0_act_0 16 rfl rfl)
theorem dX0_act_19 : decode cX0_act 19 = .ok (.invokestatic 152, 3) := dk_184 0 152 (dk_at dksX0_act_0 19 rfl rfl)
theorem dX0_act_22 : decode cX0_act 22 = .ok (.ifCond .ne 5, 3) := dk_154 0 5 (dk_at dksX0_act_1 0 rfl rfl)
theorem dX0_act_25 : decode cX0_act 25 = .ok (.iconst 0, 1) := dk_3 (dk_at dksX0_act_1 3 rfl rfl)
theorem dX0_act_26 : decode cX0_act 26 = .ok (.ireturn, 1) := dk_172 (dk_at dksX0_act_1 4 rfl rfl)
theorem dX0_act_27 : decode cX0_act 27 = .ok (.aload_n 0, 1) := dk_42 (dk_at dksX0_act_1 5 rfl rfl)
theorem dX0_act_28 : decode cX0_act 28 = .ok (.getfield 11, 3) := dk_180 0 11 (dk_at dksX0_act_1 6 rfl rfl)
theorem dX0_act_31 : decode cX0_act 31 = .ok (.iload_n 1, 1) := dk_27 (dk_at dksX0_act_1 9 rfl rfl)
theorem dX0_act_32 : decode cX0_act 32 = .ok (.aaload, 1) := dk_50 (dk_at dksX0_act_1 10 rfl rfl)
theorem dX0_act_33 : decode cX0_act 33 = .ok (.astore 4, 2) := dk_58 4 (dk_at dksX0_act_1 11 rfl rfl)
theorem dX0_act_35 : decode cX0_act 35 = .ok (.iload_n 2, 1) := dk_28 (dk_at dksX0_act_1 13 rfl rfl)
theorem dX0_act_36 : decode cX0_act 36 = .ok (.tableswitch 49 0 2 #[28, 35, 42], 28) := by decide +kernel
theorem dX0_act_64 : decode cX0_act 64 = .ok (.aload 4, 2) := dk_25 4 (dk_at dksX0_act_3 0 rfl rfl)
theorem dX0_act_66 : decode cX0_act 66 = .ok (.iload_n 3, 1) := dk_29 (dk_at dksX0_act_3 2 rfl rfl)
theorem dX0_act_67 : decode cX0_act 67 = .ok (.invokevirtual 588, 3) := dk_182 2 76 (dk_at dksX0_act_3 3 rfl rfl)
theorem dX0_act_70 : decode cX0_act 70 = .ok (.ireturn, 1) := dk_172 (dk_at dksX0_act_3 6 rfl rfl)
theorem dX0_act_71 : decode cX0_act 71 = .ok (.aload 4, 2) := dk_25 4 (dk_at dksX0_act_3 7 rfl rfl)
theorem dX0_act_73 : decode cX0_act 73 = .ok (.iload_n 3, 1) := dk_29 (dk_at dksX0_act_3 9 rfl rfl)
theorem dX0_act_74 : decode cX0_act 74 = .ok (.invokevirtual 591, 3) := dk_182 2 79 (dk_at dksX0_act_3 10 rfl rfl)
theorem dX0_act_77 : decode cX0_act 77 = .ok (.ireturn, 1) := dk_172 (dk_at dksX0_act_3 13 rfl rfl)
theorem dX0_act_78 : decode cX0_act 78 = .ok (.aload 4, 2) := dk_25 4 (dk_at dksX0_act_3 14 rfl rfl)
theorem dX0_act_80 : decode cX0_act 80 = .ok (.iload_n 3, 1) := dk_29 (dk_at dksX0_act_3 16 rfl rfl)
theorem dX0_act_81 : decode cX0_act 81 = .ok (.invokevirtual 594, 3) := dk_182 2 82 (dk_at dksX0_act_3 17 rfl rfl)
theorem dX0_act_84 : decode cX0_act 84 = .ok (.ireturn, 1) := dk_172 (dk_at dksX0_act_3 20 rfl rfl)
theorem dX0_act_85 : decode cX0_act 85 = .ok (.aload 4, 2) := dk_25 4 (dk_at dksX0_act_3 21 rfl rfl)
theorem dX0_act_87 : decode cX0_act 87 = .ok (.iload_n 3, 1) := dk_29 (dk_at dksX0_act_3 23 rfl rfl)
theorem dX0_act_88 : decode cX0_act 88 = .ok (.invokevirtual 596, 3) := dk_182 2 84 (dk_at dksX0_act_4 0 rfl rfl)
theorem dX0_act_91 : decode cX0_act 91 = .ok (.ireturn, 1) := dk_172 (dk_at dksX0_act_4 3 rfl rfl)
abbrev cX0_isBody : ByteArray := prog_1_method_5_code
def yX0_isBody : MethodName := ⟨RX0, "isBody", "(I)Z"⟩
def dkwX0_isBody_0 : List UInt8 := [27, 133, 9, 42, 180, 0, 149, 4, 100, 133, 184, 0, 152, 172]
abbrev dktX0_isBody_0 : List UInt8 := dkwX0_isBody_0 ++ []
theorem dksX0_isBody_0 : cX0_isBody.data.toList.drop 0 = dktX0_isBody_0 := by decide +kernel
theorem dX0_isBody_0 : decode cX0_isBody 0 = .ok (.iload_n 1, 1) := dk_27 (dk_at dksX0_isBody_0 0 rfl rfl)
theorem dX0_isBody_1 : decode cX0_isBody 1 = .ok (.i2l, 1) := dk_133 (dk_at dksX0_isBody_0 1 rfl rfl)
theorem dX0_isBody_2 : decode cX0_isBody 2 = .ok (.lconst 0, 1) := dk_9 (dk_at dksX0_isBody_0 2 rfl rfl)
theorem dX0_isBody_3 : decode cX0_isBody 3 = .ok (.aload_n 0, 1) := dk_42 (dk_at dksX0_isBody_0 3 rfl rfl)
theorem dX0_isBody_4 : decode cX0_isBody 4 = .ok (.getfield 149, 3) := dk_180 0 149 (dk_at dksX0_isBody_0 4 rfl rfl)
theorem dX0_isBody_7 : decode cX0_isBody 7 = .ok (.iconst 1, 1) := dk_4 (dk_at dksX0_isBody_0 7 rfl rfl)
theorem dX0_isBody_8 : decode cX0_isBody 8 = .ok (.isub, 1) := dk_100 (dk_at dksX0_isBody_0 8 rfl rfl)
theorem dX0_isBody_9 : decode cX0_isBody 9 = .ok (.i2l, 1) := dk_133 (dk_at dksX0_isBody_0 9 rfl rfl)
theorem dX0_isBody_10 : decode cX0_isBody 10 = .ok (.invokestatic 152, 3) := dk_184 0 152 (dk_at dksX0_isBody_0 10 rfl rfl)
theorem dX0_isBody_13 : decode cX0_isBody 13 = .ok (.ireturn, 1) := dk_172 (dk_at dksX0_isBody_0 13 rfl rfl)
abbrev cX0_trace : ByteArray := prog_1_method_93_code
def yX0_trace : MethodName := ⟨RX0, "trace", "(I)I"⟩
def dkwX0_trace_1 : List UInt8 := [180, 0, 15, 27, 46, 167, 0, 4, 2, 172]
abbrev dktX0_trace_1 : List UInt8 := dkwX0_trace_1 ++ []
def dkwX0_trace_0 : List UInt8 := [27, 133, 9, 42, 180, 2, 70, 16, 24, 184, 0, 180, 4, 100, 133, 184, 0, 152, 153, 0, 12, 42]
abbrev dktX0_trace_0 : List UInt8 := dkwX0_trace_0 ++ dktX0_trace_1
theorem dksX0_trace_0 : cX0_trace.data.toList.drop 0 = dktX0_trace_0 := by decide +kernel
theorem dksX0_trace_1 : cX0_trace.data.toList.drop 22 = dktX0_trace_1 := dk_seg dksX0_trace_0 22 rfl rfl
theorem dX0_trace_0 : decode cX0_trace 0 = .ok (.iload_n 1, 1) := dk_27 (dk_at dksX0_trace_0 0 rfl rfl)
theorem dX0_trace_1 : decode cX0_trace 1 = .ok (.i2l, 1) := dk_133 (dk_at dksX0_trace_0 1 rfl rfl)
theorem dX0_trace_2 : decode cX0_trace 2 = .ok (.lconst 0, 1) := dk_9 (dk_at dksX0_trace_0 2 rfl rfl)
theorem dX0_trace_3 : decode cX0_trace 3 = .ok (.aload_n 0, 1) := dk_42 (dk_at dksX0_trace_0 3 rfl rfl)
theorem dX0_trace_4 : decode cX0_trace 4 = .ok (.getfield 582, 3) := dk_180 2 70 (dk_at dksX0_trace_0 4 rfl rfl)
theorem dX0_trace_7 : decode cX0_trace 7 = .ok (.bipush 24, 2) := dk_16 24 (dk_at dksX0_trace_0 7 rfl rfl)
theorem dX0_trace_9 : decode cX0_trace 9 = .ok (.invokestatic 180, 3) := dk_184 0 180 (dk_at dksX0_trace_0 9 rfl rfl)
theorem dX0_trace_12 : decode cX0_trace 12 = .ok (.iconst 1, 1) := dk_4 (dk_at dksX0_trace_0 12 rfl rfl)
theorem dX0_trace_13 : decode cX0_trace 13 = .ok (.isub, 1) := dk_100 (dk_at dksX0_trace_0 13 rfl rfl)
theorem dX0_trace_14 : decode cX0_trace 14 = .ok (.i2l, 1) := dk_133 (dk_at dksX0_trace_0 14 rfl rfl)
theorem dX0_trace_15 : decode cX0_trace 15 = .ok (.invokestatic 152, 3) := dk_184 0 152 (dk_at dksX0_trace_0 15 rfl rfl)
theorem dX0_trace_18 : decode cX0_trace 18 = .ok (.ifCond .eq 12, 3) := dk_153 0 12 (dk_at dksX0_trace_0 18 rfl rfl)
theorem dX0_trace_21 : decode cX0_trace 21 = .ok (.aload_n 0, 1) := dk_42 (dk_at dksX0_trace_0 21 rfl rfl)
theorem dX0_trace_22 : decode cX0_trace 22 = .ok (.getfield 15, 3) := dk_180 0 15 (dk_at dksX0_trace_1 0 rfl rfl)
theorem dX0_trace_25 : decode cX0_trace 25 = .ok (.iload_n 1, 1) := dk_27 (dk_at dksX0_trace_1 3 rfl rfl)
theorem dX0_trace_26 : decode cX0_trace 26 = .ok (.iaload, 1) := dk_46 (dk_at dksX0_trace_1 4 rfl rfl)
theorem dX0_trace_27 : decode cX0_trace 27 = .ok (.goto 4, 3) := dk_167 0 4 (dk_at dksX0_trace_1 5 rfl rfl)
theorem dX0_trace_30 : decode cX0_trace 30 = .ok (.iconst (-1), 1) := dk_2 (dk_at dksX0_trace_1 8 rfl rfl)
theorem dX0_trace_31 : decode cX0_trace 31 = .ok (.ireturn, 1) := dk_172 (dk_at dksX0_trace_1 9 rfl rfl)
abbrev cX0_keep : ByteArray := prog_1_method_95_code
def yX0_keep : MethodName := ⟨RX0, "keep", "(II)I"⟩
def dkwX0_keep_1 : List UInt8 := [180, 0, 141, 27, 28, 2, 160, 0, 7, 1, 167, 0, 9, 42, 180, 0, 11, 28, 50, 83, 4, 172]
abbrev dktX0_keep_1 : List UInt8 := dkwX0_keep_1 ++ []
def dkwX0_keep_0 : List UInt8 := [27, 184, 1, 252, 153, 0, 16, 28, 2, 159, 0, 13, 42, 28, 182, 2, 73, 154, 0, 5, 2, 172, 42]
abbrev dktX0_keep_0 : List UInt8 := dkwX0_keep_0 ++ dktX0_keep_1
theorem dksX0_keep_0 : cX0_keep.data.toList.drop 0 = dktX0_keep_0 := by decide +kernel
theorem dksX0_keep_1 : cX0_keep.data.toList.drop 23 = dktX0_keep_1 := dk_seg dksX0_keep_0 23 rfl rfl
theorem dX0_keep_0 : decode cX0_keep 0 = .ok (.iload_n 1, 1) := dk_27 (dk_at dksX0_keep_0 0 rfl rfl)
theorem dX0_keep_1 : decode cX0_keep 1 = .ok (.invokestatic 508, 3) := dk_184 1 252 (dk_at dksX0_keep_0 1 rfl rfl)
theorem dX0_keep_4 : decode cX0_keep 4 = .ok (.ifCond .eq 16, 3) := dk_153 0 16 (dk_at dksX0_keep_0 4 rfl rfl)
theorem dX0_keep_7 : decode cX0_keep 7 = .ok (.iload_n 2, 1) := dk_28 (dk_at dksX0_keep_0 7 rfl rfl)
theorem dX0_keep_8 : decode cX0_keep 8 = .ok (.iconst (-1), 1) := dk_2 (dk_at dksX0_keep_0 8 rfl rfl)
theorem dX0_keep_9 : decode cX0_keep 9 = .ok (.if_icmp .eq 13, 3) := dk_159 0 13 (dk_at dksX0_keep_0 9 rfl rfl)
theorem dX0_keep_12 : decode cX0_keep 12 = .ok (.aload_n 0, 1) := dk_42 (dk_at dksX0_keep_0 12 rfl rfl)
theorem dX0_keep_13 : decode cX0_keep 13 = .ok (.iload_n 2, 1) := dk_28 (dk_at dksX0_keep_0 13 rfl rfl)
theorem dX0_keep_14 : decode cX0_keep 14 = .ok (.invokevirtual 585, 3) := dk_182 2 73 (dk_at dksX0_keep_0 14 rfl rfl)
theorem dX0_keep_17 : decode cX0_keep 17 = .ok (.ifCond .ne 5, 3) := dk_154 0 5 (dk_at dksX0_keep_0 17 rfl rfl)
theorem dX0_keep_20 : decode cX0_keep 20 = .ok (.iconst (-1), 1) := dk_2 (dk_at dksX0_keep_0 20 rfl rfl)
theorem dX0_keep_21 : decode cX0_keep 21 = .ok (.ireturn, 1) := dk_172 (dk_at dksX0_keep_0 21 rfl rfl)
theorem dX0_keep_22 : decode cX0_keep 22 = .ok (.aload_n 0, 1) := dk_42 (dk_at dksX0_keep_0 22 rfl rfl)
theorem dX0_keep_23 : decode cX0_keep 23 = .ok (.getfield 141, 3) := dk_180 0 141 (dk_at dksX0_keep_1 0 rfl rfl)
theorem dX0_keep_26 : decode cX0_keep 26 = .ok (.iload_n 1, 1) := dk_27 (dk_at dksX0_keep_1 3 rfl rfl)
theorem dX0_keep_27 : decode cX0_keep 27 = .ok (.iload_n 2, 1) := dk_28 (dk_at dksX0_keep_1 4 rfl rfl)
theorem dX0_keep_28 : decode cX0_keep 28 = .ok (.iconst (-1), 1) := dk_2 (dk_at dksX0_keep_1 5 rfl rfl)
theorem dX0_keep_29 : decode cX0_keep 29 = .ok (.if_icmp .ne 7, 3) := dk_160 0 7 (dk_at dksX0_keep_1 6 rfl rfl)
theorem dX0_keep_32 : decode cX0_keep 32 = .ok (.aconst_null, 1) := dk_1 (dk_at dksX0_keep_1 9 rfl rfl)
theorem dX0_keep_33 : decode cX0_keep 33 = .ok (.goto 9, 3) := dk_167 0 9 (dk_at dksX0_keep_1 10 rfl rfl)
theorem dX0_keep_36 : decode cX0_keep 36 = .ok (.aload_n 0, 1) := dk_42 (dk_at dksX0_keep_1 13 rfl rfl)
theorem dX0_keep_37 : decode cX0_keep 37 = .ok (.getfield 11, 3) := dk_180 0 11 (dk_at dksX0_keep_1 14 rfl rfl)
theorem dX0_keep_40 : decode cX0_keep 40 = .ok (.iload_n 2, 1) := dk_28 (dk_at dksX0_keep_1 17 rfl rfl)
theorem dX0_keep_41 : decode cX0_keep 41 = .ok (.aaload, 1) := dk_50 (dk_at dksX0_keep_1 18 rfl rfl)
theorem dX0_keep_42 : decode cX0_keep 42 = .ok (.aastore, 1) := dk_83 (dk_at dksX0_keep_1 19 rfl rfl)
theorem dX0_keep_43 : decode cX0_keep 43 = .ok (.iconst 1, 1) := dk_4 (dk_at dksX0_keep_1 20 rfl rfl)
theorem dX0_keep_44 : decode cX0_keep 44 = .ok (.ireturn, 1) := dk_172 (dk_at dksX0_keep_1 21 rfl rfl)
abbrev cX0_row : ByteArray := prog_1_method_96_code
def yX0_row : MethodName := ⟨RX0, "row", "(III)I"⟩
def dkwX0_row_5 : List UInt8 := [42, 180, 0, 141, 27, 29, 188, 4, 83, 4, 172]
abbrev dktX0_row_5 : List UInt8 := dkwX0_row_5 ++ []
def dkwX0_row_4 : List UInt8 := [42, 180, 0, 141, 27, 29, 188, 10, 83, 167, 0, 24, 42, 180, 0, 141, 27, 29, 188, 11, 83, 167, 0, 12]
abbrev dktX0_row_4 : List UInt8 := dkwX0_row_4 ++ dktX0_row_5
def dkwX0_row_3 : List UInt8 := [42, 180, 0, 141, 27, 29, 188, 8, 83, 167, 0, 48, 42, 180, 0, 141, 27, 29, 188, 9, 83, 167, 0, 36]
abbrev dktX0_row_3 : List UInt8 := dkwX0_row_3 ++ dktX0_row_4
def dkwX0_row_2 : List UInt8 := [170, 0, 0, 0, 77, 0, 0, 0, 0, 0, 0, 0, 3, 0, 0, 0, 29, 0, 0, 0, 41, 0, 0, 0, 53, 0, 0, 0, 65]
abbrev dktX0_row_2 : List UInt8 := dkwX0_row_2 ++ dktX0_row_3
def dkwX0_row_1 : List UInt8 := [164, 0, 5, 2, 172, 29, 156, 0, 6, 16, 242, 172, 28]
abbrev dktX0_row_1 : List UInt8 := dkwX0_row_1 ++ dktX0_row_2
def dkwX0_row_0 : List UInt8 := [27, 184, 1, 252, 153, 0, 21, 28, 133, 9, 20, 0, 209, 184, 0, 152, 153, 0, 9, 29, 16, 60]
abbrev dktX0_row_0 : List UInt8 := dkwX0_row_0 ++ dktX0_row_1
theorem dksX0_row_0 : cX0_row.data.toList.drop 0 = dktX0_row_0 := by decide +kernel
theorem dksX0_row_1 : cX0_row.data.toList.drop 22 = dktX0_row_1 := dk_seg dksX0_row_0 22 rfl rfl
theorem dksX0_row_2 : cX0_row.data.toList.drop 35 = dktX0_row_2 := dk_seg dksX0_row_1 13 rfl rfl
theorem dksX0_row_3 : cX0_row.data.toList.drop 64 = dktX0_row_3 := dk_seg dksX0_row_2 29 rfl rfl
theorem dksX0_row_4 : cX0_row.data.toList.drop 88 = dktX0_row_4 := dk_seg dksX0_row_3 24 rfl rfl
theorem dksX0_row_5 : cX0_row.data.toList.drop 112 = dktX0_row_5 := dk_seg dksX0_row_4 24 rfl rfl
theorem dX0_row_0 : decode cX0_row 0 = .ok (.iload_n 1, 1) := dk_27 (dk_at dksX0_row_0 0 rfl rfl)
theorem dX0_row_1 : decode cX0_row 1 = .ok (.invokestatic 508, 3) := dk_184 1 252 (dk_at dksX0_row_0 1 rfl rfl)
theorem dX0_row_4 : decode cX0_row 4 = .ok (.ifCond .eq 21, 3) := dk_153 0 21 (dk_at dksX0_row_0 4 rfl rfl)
theorem dX0_row_7 : decode cX0_row 7 = .ok (.iload_n 2, 1) := dk_28 (dk_at dksX0_row_0 7 rfl rfl)
theorem dX0_row_8 : decode cX0_row 8 = .ok (.i2l, 1) := dk_133 (dk_at dksX0_row_0 8 rfl rfl)
theorem dX0_row_9 : decode cX0_row 9 = .ok (.lconst 0, 1) := dk_9 (dk_at dksX0_row_0 9 rfl rfl)
theorem dX0_row_10 : decode cX0_row 10 = .ok (.ldc2_w 209, 3) := dk_20 0 209 (dk_at dksX0_row_0 10 rfl rfl)
theorem dX0_row_13 : decode cX0_row 13 = .ok (.invokestatic 152, 3) := dk_184 0 152 (dk_at dksX0_row_0 13 rfl rfl)
theorem dX0_row_16 : decode cX0_row 16 = .ok (.ifCond .eq 9, 3) := dk_153 0 9 (dk_at dksX0_row_0 16 rfl rfl)
theorem dX0_row_19 : decode cX0_row 19 = .ok (.iload_n 3, 1) := dk_29 (dk_at dksX0_row_0 19 rfl rfl)
theorem dX0_row_20 : decode cX0_row 20 = .ok (.bipush 60, 2) := dk_16 60 (dk_at dksX0_row_0 20 rfl rfl)
theorem dX0_row_22 : decode cX0_row 22 = .ok (.if_icmp .le 5, 3) := dk_164 0 5 (dk_at dksX0_row_1 0 rfl rfl)
theorem dX0_row_25 : decode cX0_row 25 = .ok (.iconst (-1), 1) := dk_2 (dk_at dksX0_row_1 3 rfl rfl)
theorem dX0_row_26 : decode cX0_row 26 = .ok (.ireturn, 1) := dk_172 (dk_at dksX0_row_1 4 rfl rfl)
theorem dX0_row_27 : decode cX0_row 27 = .ok (.iload_n 3, 1) := dk_29 (dk_at dksX0_row_1 5 rfl rfl)
theorem dX0_row_28 : decode cX0_row 28 = .ok (.ifCond .ge 6, 3) := dk_156 0 6 (dk_at dksX0_row_1 6 rfl rfl)
theorem dX0_row_31 : decode cX0_row 31 = .ok (.bipush (-14), 2) := dk_16 242 (dk_at dksX0_row_1 9 rfl rfl)
theorem dX0_row_33 : decode cX0_row 33 = .ok (.ireturn, 1) := dk_172 (dk_at dksX0_row_1 11 rfl rfl)
theorem dX0_row_34 : decode cX0_row 34 = .ok (.iload_n 2, 1) := dk_28 (dk_at dksX0_row_1 12 rfl rfl)
theorem dX0_row_35 : decode cX0_row 35 = .ok (.tableswitch 77 0 3 #[29, 41, 53, 65], 29) := by decide +kernel
theorem dX0_row_64 : decode cX0_row 64 = .ok (.aload_n 0, 1) := dk_42 (dk_at dksX0_row_3 0 rfl rfl)
theorem dX0_row_65 : decode cX0_row 65 = .ok (.getfield 141, 3) := dk_180 0 141 (dk_at dksX0_row_3 1 rfl rfl)
theorem dX0_row_68 : decode cX0_row 68 = .ok (.iload_n 1, 1) := dk_27 (dk_at dksX0_row_3 4 rfl rfl)
theorem dX0_row_69 : decode cX0_row 69 = .ok (.iload_n 3, 1) := dk_29 (dk_at dksX0_row_3 5 rfl rfl)
theorem dX0_row_70 : decode cX0_row 70 = .ok (.newarray .byte, 2) := dk_188_8 (dk_at dksX0_row_3 6 rfl rfl)
theorem dX0_row_72 : decode cX0_row 72 = .ok (.aastore, 1) := dk_83 (dk_at dksX0_row_3 8 rfl rfl)
theorem dX0_row_73 : decode cX0_row 73 = .ok (.goto 48, 3) := dk_167 0 48 (dk_at dksX0_row_3 9 rfl rfl)
theorem dX0_row_76 : decode cX0_row 76 = .ok (.aload_n 0, 1) := dk_42 (dk_at dksX0_row_3 12 rfl rfl)
theorem dX0_row_77 : decode cX0_row 77 = .ok (.getfield 141, 3) := dk_180 0 141 (dk_at dksX0_row_3 13 rfl rfl)
theorem dX0_row_80 : decode cX0_row 80 = .ok (.iload_n 1, 1) := dk_27 (dk_at dksX0_row_3 16 rfl rfl)
theorem dX0_row_81 : decode cX0_row 81 = .ok (.iload_n 3, 1) := dk_29 (dk_at dksX0_row_3 17 rfl rfl)
theorem dX0_row_82 : decode cX0_row 82 = .ok (.newarray .short, 2) := dk_188_9 (dk_at dksX0_row_3 18 rfl rfl)
theorem dX0_row_84 : decode cX0_row 84 = .ok (.aastore, 1) := dk_83 (dk_at dksX0_row_3 20 rfl rfl)
theorem dX0_row_85 : decode cX0_row 85 = .ok (.goto 36, 3) := dk_167 0 36 (dk_at dksX0_row_3 21 rfl rfl)
theorem dX0_row_88 : decode cX0_row 88 = .ok (.aload_n 0, 1) := dk_42 (dk_at dksX0_row_4 0 rfl rfl)
theorem dX0_row_89 : decode cX0_row 89 = .ok (.getfield 141, 3) := dk_180 0 141 (dk_at dksX0_row_4 1 rfl rfl)
theorem dX0_row_92 : decode cX0_row 92 = .ok (.iload_n 1, 1) := dk_27 (dk_at dksX0_row_4 4 rfl rfl)
theorem dX0_row_93 : decode cX0_row 93 = .ok (.iload_n 3, 1) := dk_29 (dk_at dksX0_row_4 5 rfl rfl)
theorem dX0_row_94 : decode cX0_row 94 = .ok (.newarray .int, 2) := dk_188_10 (dk_at dksX0_row_4 6 rfl rfl)
theorem dX0_row_96 : decode cX0_row 96 = .ok (.aastore, 1) := dk_83 (dk_at dksX0_row_4 8 rfl rfl)
theorem dX0_row_97 : decode cX0_row 97 = .ok (.goto 24, 3) := dk_167 0 24 (dk_at dksX0_row_4 9 rfl rfl)
theorem dX0_row_100 : decode cX0_row 100 = .ok (.aload_n 0, 1) := dk_42 (dk_at dksX0_row_4 12 rfl rfl)
theorem dX0_row_101 : decode cX0_row 101 = .ok (.getfield 141, 3) := dk_180 0 141 (dk_at dksX0_row_4 13 rfl rfl)
theorem dX0_row_104 : decode cX0_row 104 = .ok (.iload_n 1, 1) := dk_27 (dk_at dksX0_row_4 16 rfl rfl)
theorem dX0_row_105 : decode cX0_row 105 = .ok (.iload_n 3, 1) := dk_29 (dk_at dksX0_row_4 17 rfl rfl)
theorem dX0_row_106 : decode cX0_row 106 = .ok (.newarray .long, 2) := dk_188_11 (dk_at dksX0_row_4 18 rfl rfl)
theorem dX0_row_108 : decode cX0_row 108 = .ok (.aastore, 1) := dk_83 (dk_at dksX0_row_4 20 rfl rfl)
theorem dX0_row_109 : decode cX0_row 109 = .ok (.goto 12, 3) := dk_167 0 12 (dk_at dksX0_row_4 21 rfl rfl)
theorem dX0_row_112 : decode cX0_row 112 = .ok (.aload_n 0, 1) := dk_42 (dk_at dksX0_row_5 0 rfl rfl)
theorem dX0_row_113 : decode cX0_row 113 = .ok (.getfield 141, 3) := dk_180 0 141 (dk_at dksX0_row_5 1 rfl rfl)
theorem dX0_row_116 : decode cX0_row 116 = .ok (.iload_n 1, 1) := dk_27 (dk_at dksX0_row_5 4 rfl rfl)
theorem dX0_row_117 : decode cX0_row 117 = .ok (.iload_n 3, 1) := dk_29 (dk_at dksX0_row_5 5 rfl rfl)
theorem dX0_row_118 : decode cX0_row 118 = .ok (.newarray .boolean, 2) := dk_188_4 (dk_at dksX0_row_5 6 rfl rfl)
theorem dX0_row_120 : decode cX0_row 120 = .ok (.aastore, 1) := dk_83 (dk_at dksX0_row_5 8 rfl rfl)
theorem dX0_row_121 : decode cX0_row 121 = .ok (.iconst 1, 1) := dk_4 (dk_at dksX0_row_5 9 rfl rfl)
theorem dX0_row_122 : decode cX0_row 122 = .ok (.ireturn, 1) := dk_172 (dk_at dksX0_row_5 10 rfl rfl)
abbrev cX0_place : ByteArray := prog_1_method_100_code
def yX0_place : MethodName := ⟨RX0, "place", "(IIJ)I"⟩
def dkwX0_place_5 : List UInt8 := [167, 0, 21, 25, 6, 192, 2, 88, 28, 33, 9, 148, 153, 0, 7, 4, 167, 0, 4, 3, 84, 4, 172]
abbrev dktX0_place_5 : List UInt8 := dkwX0_place_5 ++ []
def dkwX0_place_4 : List UInt8 := [167, 0, 44, 25, 6, 192, 2, 5, 28, 33, 136, 79, 167, 0, 32, 25, 6, 192, 2, 87, 28, 33, 80]
abbrev dktX0_place_4 : List UInt8 := dkwX0_place_4 ++ dktX0_place_5
def dkwX0_place_3 : List UInt8 := [25, 6, 192, 2, 1, 28, 33, 136, 145, 84, 167, 0, 57, 25, 6, 192, 2, 3, 28, 33, 136, 147, 86]
abbrev dktX0_place_3 : List UInt8 := dkwX0_place_3 ++ dktX0_place_4
def dkwX0_place_2 : List UInt8 := [170, 0, 0, 0, 0, 0, 80, 0, 0, 0, 0, 0, 0, 0, 3, 0, 0, 0, 31, 0, 0, 0, 44, 0, 0, 0, 57, 0, 0, 0, 69]
abbrev dktX0_place_2 : List UInt8 := dkwX0_place_2 ++ dktX0_place_3
def dkwX0_place_1 : List UInt8 := [25, 6, 184, 2, 89]
abbrev dktX0_place_1 : List UInt8 := dkwX0_place_1 ++ dktX0_place_2
def dkwX0_place_0 : List UInt8 := [42, 27, 28, 182, 2, 96, 54, 5, 21, 5, 153, 0, 6, 21, 5, 172, 42, 180, 0, 141, 27, 50, 58, 6]
abbrev dktX0_place_0 : List UInt8 := dkwX0_place_0 ++ dktX0_place_1
theorem dksX0_place_0 : cX0_place.data.toList.drop 0 = dktX0_place_0 := by decide +kernel
theorem dksX0_place_1 : cX0_place.data.toList.drop 24 = dktX0_place_1 := dk_seg dksX0_place_0 24 rfl rfl
theorem dksX0_place_2 : cX0_place.data.toList.drop 29 = dktX0_place_2 := dk_seg dksX0_place_1 5 rfl rfl
theorem dksX0_place_3 : cX0_place.data.toList.drop 60 = dktX0_place_3 := dk_seg dksX0_place_2 31 rfl rfl
theorem dksX0_place_4 : cX0_place.data.toList.drop 83 = dktX0_place_4 := dk_seg dksX0_place_3 23 rfl rfl
theorem dksX0_place_5 : cX0_place.data.toList.drop 106 = dktX0_place_5 := dk_seg dksX0_place_4 23 rfl rfl
theorem dX0_place_0 : decode cX0_place 0 = .ok (.aload_n 0, 1) := dk_42 (dk_at dksX0_place_0 0 rfl rfl)
theorem dX0_place_1 : decode cX0_place 1 = .ok (.iload_n 1, 1) := dk_27 (dk_at dksX0_place_0 1 rfl rfl)
theorem dX0_place_2 : decode cX0_place 2 = .ok (.iload_n 2, 1) := dk_28 (dk_at dksX0_place_0 2 rfl rfl)
theorem dX0_place_3 : decode cX0_place 3 = .ok (.invokevirtual 608, 3) := dk_182 2 96 (dk_at dksX0_place_0 3 rfl rfl)
theorem dX0_place_6 : decode cX0_place 6 = .ok (.istore 5, 2) := dk_54 5 (dk_at dksX0_place_0 6 rfl rfl)
theorem dX0_place_8 : decode cX0_place 8 = .ok (.iload 5, 2) := dk_21 5 (dk_at dksX0_place_0 8 rfl rfl)
theorem dX0_place_10 : decode cX0_place 10 = .ok (.ifCond .eq 6, 3) := dk_153 0 6 (dk_at dksX0_place_0 10 rfl rfl)
theorem dX0_place_13 : decode cX0_place 13 = .ok (.iload 5, 2) := dk_21 5 (dk_at dksX0_place_0 13 rfl rfl)
theorem dX0_place_15 : decode cX0_place 15 = .ok (.ireturn, 1) := dk_172 (dk_at dksX0_place_0 15 rfl rfl)
theorem dX0_place_16 : decode cX0_place 16 = .ok (.aload_n 0, 1) := dk_42 (dk_at dksX0_place_0 16 rfl rfl)
theorem dX0_place_17 : decode cX0_place 17 = .ok (.getfield 141, 3) := dk_180 0 141 (dk_at dksX0_place_0 17 rfl rfl)
theorem dX0_place_20 : decode cX0_place 20 = .ok (.iload_n 1, 1) := dk_27 (dk_at dksX0_place_0 20 rfl rfl)
theorem dX0_place_21 : decode cX0_place 21 = .ok (.aaload, 1) := dk_50 (dk_at dksX0_place_0 21 rfl rfl)
theorem dX0_place_22 : decode cX0_place 22 = .ok (.astore 6, 2) := dk_58 6 (dk_at dksX0_place_0 22 rfl rfl)
theorem dX0_place_24 : decode cX0_place 24 = .ok (.aload 6, 2) := dk_25 6 (dk_at dksX0_place_1 0 rfl rfl)
theorem dX0_place_26 : decode cX0_place 26 = .ok (.invokestatic 601, 3) := dk_184 2 89 (dk_at dksX0_place_1 2 rfl rfl)
theorem dX0_place_29 : decode cX0_place 29 = .ok (.tableswitch 80 0 3 #[31, 44, 57, 69], 31) := by decide +kernel
theorem dX0_place_60 : decode cX0_place 60 = .ok (.aload 6, 2) := dk_25 6 (dk_at dksX0_place_3 0 rfl rfl)
theorem dX0_place_62 : decode cX0_place 62 = .ok (.checkcast 513, 3) := dk_192 2 1 (dk_at dksX0_place_3 2 rfl rfl)
theorem dX0_place_65 : decode cX0_place 65 = .ok (.iload_n 2, 1) := dk_28 (dk_at dksX0_place_3 5 rfl rfl)
theorem dX0_place_66 : decode cX0_place 66 = .ok (.lload_n 3, 1) := dk_33 (dk_at dksX0_place_3 6 rfl rfl)
theorem dX0_place_67 : decode cX0_place 67 = .ok (.l2i, 1) := dk_136 (dk_at dksX0_place_3 7 rfl rfl)
theorem dX0_place_68 : decode cX0_place 68 = .ok (.i2b, 1) := dk_145 (dk_at dksX0_place_3 8 rfl rfl)
theorem dX0_place_69 : decode cX0_place 69 = .ok (.bastore, 1) := dk_84 (dk_at dksX0_place_3 9 rfl rfl)
theorem dX0_place_70 : decode cX0_place 70 = .ok (.goto 57, 3) := dk_167 0 57 (dk_at dksX0_place_3 10 rfl rfl)
theorem dX0_place_73 : decode cX0_place 73 = .ok (.aload 6, 2) := dk_25 6 (dk_at dksX0_place_3 13 rfl rfl)
theorem dX0_place_75 : decode cX0_place 75 = .ok (.checkcast 515, 3) := dk_192 2 3 (dk_at dksX0_place_3 15 rfl rfl)
theorem dX0_place_78 : decode cX0_place 78 = .ok (.iload_n 2, 1) := dk_28 (dk_at dksX0_place_3 18 rfl rfl)
theorem dX0_place_79 : decode cX0_place 79 = .ok (.lload_n 3, 1) := dk_33 (dk_at dksX0_place_3 19 rfl rfl)
theorem dX0_place_80 : decode cX0_place 80 = .ok (.l2i, 1) := dk_136 (dk_at dksX0_place_3 20 rfl rfl)
theorem dX0_place_81 : decode cX0_place 81 = .ok (.i2s, 1) := dk_147 (dk_at dksX0_place_3 21 rfl rfl)
theorem dX0_place_82 : decode cX0_place 82 = .ok (.sastore, 1) := dk_86 (dk_at dksX0_place_3 22 rfl rfl)
theorem dX0_place_83 : decode cX0_place 83 = .ok (.goto 44, 3) := dk_167 0 44 (dk_at dksX0_place_4 0 rfl rfl)
theorem dX0_place_86 : decode cX0_place 86 = .ok (.aload 6, 2) := dk_25 6 (dk_at dksX0_place_4 3 rfl rfl)
theorem dX0_place_88 : decode cX0_place 88 = .ok (.checkcast 517, 3) := dk_192 2 5 (dk_at dksX0_place_4 5 rfl rfl)
theorem dX0_place_91 : decode cX0_place 91 = .ok (.iload_n 2, 1) := dk_28 (dk_at dksX0_place_4 8 rfl rfl)
theorem dX0_place_92 : decode cX0_place 92 = .ok (.lload_n 3, 1) := dk_33 (dk_at dksX0_place_4 9 rfl rfl)
theorem dX0_place_93 : decode cX0_place 93 = .ok (.l2i, 1) := dk_136 (dk_at dksX0_place_4 10 rfl rfl)
theorem dX0_place_94 : decode cX0_place 94 = .ok (.iastore, 1) := dk_79 (dk_at dksX0_place_4 11 rfl rfl)
theorem dX0_place_95 : decode cX0_place 95 = .ok (.goto 32, 3) := dk_167 0 32 (dk_at dksX0_place_4 12 rfl rfl)
theorem dX0_place_98 : decode cX0_place 98 = .ok (.aload 6, 2) := dk_25 6 (dk_at dksX0_place_4 15 rfl rfl)
theorem dX0_place_100 : decode cX0_place 100 = .ok (.checkcast 599, 3) := dk_192 2 87 (dk_at dksX0_place_4 17 rfl rfl)
theorem dX0_place_103 : decode cX0_place 103 = .ok (.iload_n 2, 1) := dk_28 (dk_at dksX0_place_4 20 rfl rfl)
theorem dX0_place_104 : decode cX0_place 104 = .ok (.lload_n 3, 1) := dk_33 (dk_at dksX0_place_4 21 rfl rfl)
theorem dX0_place_105 : decode cX0_place 105 = .ok (.lastore, 1) := dk_80 (dk_at dksX0_place_4 22 rfl rfl)
theorem dX0_place_106 : decode cX0_place 106 = .ok (.goto 21, 3) := dk_167 0 21 (dk_at dksX0_place_5 0 rfl rfl)
theorem dX0_place_109 : decode cX0_place 109 = .ok (.aload 6, 2) := dk_25 6 (dk_at dksX0_place_5 3 rfl rfl)
theorem dX0_place_111 : decode cX0_place 111 = .ok (.checkcast 600, 3) := dk_192 2 88 (dk_at dksX0_place_5 5 rfl rfl)
theorem dX0_place_114 : decode cX0_place 114 = .ok (.iload_n 2, 1) := dk_28 (dk_at dksX0_place_5 8 rfl rfl)
theorem dX0_place_115 : decode cX0_place 115 = .ok (.lload_n 3, 1) := dk_33 (dk_at dksX0_place_5 9 rfl rfl)
theorem dX0_place_116 : decode cX0_place 116 = .ok (.lconst 0, 1) := dk_9 (dk_at dksX0_place_5 10 rfl rfl)
theorem dX0_place_117 : decode cX0_place 117 = .ok (.lcmp, 1) := dk_148 (dk_at dksX0_place_5 11 rfl rfl)
theorem dX0_place_118 : decode cX0_place 118 = .ok (.ifCond .eq 7, 3) := dk_153 0 7 (dk_at dksX0_place_5 12 rfl rfl)
theorem dX0_place_121 : decode cX0_place 121 = .ok (.iconst 1, 1) := dk_4 (dk_at dksX0_place_5 15 rfl rfl)
theorem dX0_place_122 : decode cX0_place 122 = .ok (.goto 4, 3) := dk_167 0 4 (dk_at dksX0_place_5 16 rfl rfl)
theorem dX0_place_125 : decode cX0_place 125 = .ok (.iconst 0, 1) := dk_3 (dk_at dksX0_place_5 19 rfl rfl)
theorem dX0_place_126 : decode cX0_place 126 = .ok (.bastore, 1) := dk_84 (dk_at dksX0_place_5 20 rfl rfl)
theorem dX0_place_127 : decode cX0_place 127 = .ok (.iconst 1, 1) := dk_4 (dk_at dksX0_place_5 21 rfl rfl)
theorem dX0_place_128 : decode cX0_place 128 = .ok (.ireturn, 1) := dk_172 (dk_at dksX0_place_5 22 rfl rfl)
abbrev cX0_refusal : ByteArray := prog_1_method_99_code
def yX0_refusal : MethodName := ⟨RX0, "refusal", "(II)I"⟩
def dkwX0_refusal_2 : List UInt8 := [153, 0, 7, 3, 167, 0, 5, 16, 243, 172]
abbrev dktX0_refusal_2 : List UInt8 := dkwX0_refusal_2 ++ []
def dkwX0_refusal_1 : List UInt8 := [184, 2, 89, 2, 160, 0, 6, 16, 244, 172, 28, 133, 9, 45, 184, 2, 93, 4, 100, 133, 184, 0, 152]
abbrev dktX0_refusal_1 : List UInt8 := dkwX0_refusal_1 ++ dktX0_refusal_2
def dkwX0_refusal_0 : List UInt8 := [27, 184, 1, 252, 154, 0, 5, 2, 172, 42, 180, 0, 141, 27, 50, 78, 45, 199, 0, 6, 16, 245, 172, 45]
abbrev dktX0_refusal_0 : List UInt8 := dkwX0_refusal_0 ++ dktX0_refusal_1
theorem dksX0_refusal_0 : cX0_refusal.data.toList.drop 0 = dktX0_refusal_0 := by decide +kernel
theorem dksX0_refusal_1 : cX0_refusal.data.toList.drop 24 = dktX0_refusal_1 := dk_seg dksX0_refusal_0 24 rfl rfl
theorem dksX0_refusal_2 : cX0_refusal.data.toList.drop 47 = dktX0_refusal_2 := dk_seg dksX0_refusal_1 23 rfl rfl
theorem dX0_refusal_0 : decode cX0_refusal 0 = .ok (.iload_n 1, 1) := dk_27 (dk_at dksX0_refusal_0 0 rfl rfl)
theorem dX0_refusal_1 : decode cX0_refusal 1 = .ok (.invokestatic 508, 3) := dk_184 1 252 (dk_at dksX0_refusal_0 1 rfl rfl)
theorem dX0_refusal_4 : decode cX0_refusal 4 = .ok (.ifCond .ne 5, 3) := dk_154 0 5 (dk_at dksX0_refusal_0 4 rfl rfl)
theorem dX0_refusal_7 : decode cX0_refusal 7 = .ok (.iconst (-1), 1) := dk_2 (dk_at dksX0_refusal_0 7 rfl rfl)
theorem dX0_refusal_8 : decode cX0_refusal 8 = .ok (.ireturn, 1) := dk_172 (dk_at dksX0_refusal_0 8 rfl rfl)
theorem dX0_refusal_9 : decode cX0_refusal 9 = .ok (.aload_n 0, 1) := dk_42 (dk_at dksX0_refusal_0 9 rfl rfl)
theorem dX0_refusal_10 : decode cX0_refusal 10 = .ok (.getfield 141, 3) := dk_180 0 141 (dk_at dksX0_refusal_0 10 rfl rfl)
theorem dX0_refusal_13 : decode cX0_refusal 13 = .ok (.iload_n 1, 1) := dk_27 (dk_at dksX0_refusal_0 13 rfl rfl)
theorem dX0_refusal_14 : decode cX0_refusal 14 = .ok (.aaload, 1) := dk_50 (dk_at dksX0_refusal_0 14 rfl rfl)
theorem dX0_refusal_15 : decode cX0_refusal 15 = .ok (.astore_n 3, 1) := dk_78 (dk_at dksX0_refusal_0 15 rfl rfl)
theorem dX0_refusal_16 : decode cX0_refusal 16 = .ok (.aload_n 3, 1) := dk_45 (dk_at dksX0_refusal_0 16 rfl rfl)
theorem dX0_refusal_17 : decode cX0_refusal 17 = .ok (.ifnonnull 6, 3) := dk_199 0 6 (dk_at dksX0_refusal_0 17 rfl rfl)
theorem dX0_refusal_20 : decode cX0_refusal 20 = .ok (.bipush (-11), 2) := dk_16 245 (dk_at dksX0_refusal_0 20 rfl rfl)
theorem dX0_refusal_22 : decode cX0_refusal 22 = .ok (.ireturn, 1) := dk_172 (dk_at dksX0_refusal_0 22 rfl rfl)
theorem dX0_refusal_23 : decode cX0_refusal 23 = .ok (.aload_n 3, 1) := dk_45 (dk_at dksX0_refusal_0 23 rfl rfl)
theorem dX0_refusal_24 : decode cX0_refusal 24 = .ok (.invokestatic 601, 3) := dk_184 2 89 (dk_at dksX0_refusal_1 0 rfl rfl)
theorem dX0_refusal_27 : decode cX0_refusal 27 = .ok (.iconst (-1), 1) := dk_2 (dk_at dksX0_refusal_1 3 rfl rfl)
theorem dX0_refusal_28 : decode cX0_refusal 28 = .ok (.if_icmp .ne 6, 3) := dk_160 0 6 (dk_at dksX0_refusal_1 4 rfl rfl)
theorem dX0_refusal_31 : decode cX0_refusal 31 = .ok (.bipush (-12), 2) := dk_16 244 (dk_at dksX0_refusal_1 7 rfl rfl)
theorem dX0_refusal_33 : decode cX0_refusal 33 = .ok (.ireturn, 1) := dk_172 (dk_at dksX0_refusal_1 9 rfl rfl)
theorem dX0_refusal_34 : decode cX0_refusal 34 = .ok (.iload_n 2, 1) := dk_28 (dk_at dksX0_refusal_1 10 rfl rfl)
theorem dX0_refusal_35 : decode cX0_refusal 35 = .ok (.i2l, 1) := dk_133 (dk_at dksX0_refusal_1 11 rfl rfl)
theorem dX0_refusal_36 : decode cX0_refusal 36 = .ok (.lconst 0, 1) := dk_9 (dk_at dksX0_refusal_1 12 rfl rfl)
theorem dX0_refusal_37 : decode cX0_refusal 37 = .ok (.aload_n 3, 1) := dk_45 (dk_at dksX0_refusal_1 13 rfl rfl)
theorem dX0_refusal_38 : decode cX0_refusal 38 = .ok (.invokestatic 605, 3) := dk_184 2 93 (dk_at dksX0_refusal_1 14 rfl rfl)
theorem dX0_refusal_41 : decode cX0_refusal 41 = .ok (.iconst 1, 1) := dk_4 (dk_at dksX0_refusal_1 17 rfl rfl)
theorem dX0_refusal_42 : decode cX0_refusal 42 = .ok (.isub, 1) := dk_100 (dk_at dksX0_refusal_1 18 rfl rfl)
theorem dX0_refusal_43 : decode cX0_refusal 43 = .ok (.i2l, 1) := dk_133 (dk_at dksX0_refusal_1 19 rfl rfl)
theorem dX0_refusal_44 : decode cX0_refusal 44 = .ok (.invokestatic 152, 3) := dk_184 0 152 (dk_at dksX0_refusal_1 20 rfl rfl)
theorem dX0_refusal_47 : decode cX0_refusal 47 = .ok (.ifCond .eq 7, 3) := dk_153 0 7 (dk_at dksX0_refusal_2 0 rfl rfl)
theorem dX0_refusal_50 : decode cX0_refusal 50 = .ok (.iconst 0, 1) := dk_3 (dk_at dksX0_refusal_2 3 rfl rfl)
theorem dX0_refusal_51 : decode cX0_refusal 51 = .ok (.goto 5, 3) := dk_167 0 5 (dk_at dksX0_refusal_2 4 rfl rfl)
theorem dX0_refusal_54 : decode cX0_refusal 54 = .ok (.bipush (-13), 2) := dk_16 243 (dk_at dksX0_refusal_2 7 rfl rfl)
theorem dX0_refusal_56 : decode cX0_refusal 56 = .ok (.ireturn, 1) := dk_172 (dk_at dksX0_refusal_2 9 rfl rfl)
abbrev cX0_sortOf : ByteArray := prog_1_method_97_code
def yX0_sortOf : MethodName := ⟨RX0, "sortOf", "(Ljava/lang/Object;)I"⟩
def dkwX0_sortOf_2 : List UInt8 := [193, 2, 88, 153, 0, 7, 7, 167, 0, 4, 2, 172]
abbrev dktX0_sortOf_2 : List UInt8 := dkwX0_sortOf_2 ++ []
def dkwX0_sortOf_1 : List UInt8 := [193, 2, 5, 153, 0, 7, 5, 167, 0, 26, 42, 193, 2, 87, 153, 0, 7, 6, 167, 0, 15, 42]
abbrev dktX0_sortOf_1 : List UInt8 := dkwX0_sortOf_1 ++ dktX0_sortOf_2
def dkwX0_sortOf_0 : List UInt8 := [42, 193, 2, 1, 153, 0, 7, 3, 167, 0, 48, 42, 193, 2, 3, 153, 0, 7, 4, 167, 0, 37, 42]
abbrev dktX0_sortOf_0 : List UInt8 := dkwX0_sortOf_0 ++ dktX0_sortOf_1
theorem dksX0_sortOf_0 : cX0_sortOf.data.toList.drop 0 = dktX0_sortOf_0 := by decide +kernel
theorem dksX0_sortOf_1 : cX0_sortOf.data.toList.drop 23 = dktX0_sortOf_1 := dk_seg dksX0_sortOf_0 23 rfl rfl
theorem dksX0_sortOf_2 : cX0_sortOf.data.toList.drop 45 = dktX0_sortOf_2 := dk_seg dksX0_sortOf_1 22 rfl rfl
theorem dX0_sortOf_0 : decode cX0_sortOf 0 = .ok (.aload_n 0, 1) := dk_42 (dk_at dksX0_sortOf_0 0 rfl rfl)
theorem dX0_sortOf_1 : decode cX0_sortOf 1 = .ok (.instanceof 513, 3) := dk_193 2 1 (dk_at dksX0_sortOf_0 1 rfl rfl)
theorem dX0_sortOf_4 : decode cX0_sortOf 4 = .ok (.ifCond .eq 7, 3) := dk_153 0 7 (dk_at dksX0_sortOf_0 4 rfl rfl)
theorem dX0_sortOf_7 : decode cX0_sortOf 7 = .ok (.iconst 0, 1) := dk_3 (dk_at dksX0_sortOf_0 7 rfl rfl)
theorem dX0_sortOf_8 : decode cX0_sortOf 8 = .ok (.goto 48, 3) := dk_167 0 48 (dk_at dksX0_sortOf_0 8 rfl rfl)
theorem dX0_sortOf_11 : decode cX0_sortOf 11 = .ok (.aload_n 0, 1) := dk_42 (dk_at dksX0_sortOf_0 11 rfl rfl)
theorem dX0_sortOf_12 : decode cX0_sortOf 12 = .ok (.instanceof 515, 3) := dk_193 2 3 (dk_at dksX0_sortOf_0 12 rfl rfl)
theorem dX0_sortOf_15 : decode cX0_sortOf 15 = .ok (.ifCond .eq 7, 3) := dk_153 0 7 (dk_at dksX0_sortOf_0 15 rfl rfl)
theorem dX0_sortOf_18 : decode cX0_sortOf 18 = .ok (.iconst 1, 1) := dk_4 (dk_at dksX0_sortOf_0 18 rfl rfl)
theorem dX0_sortOf_19 : decode cX0_sortOf 19 = .ok (.goto 37, 3) := dk_167 0 37 (dk_at dksX0_sortOf_0 19 rfl rfl)
theorem dX0_sortOf_22 : decode cX0_sortOf 22 = .ok (.aload_n 0, 1) := dk_42 (dk_at dksX0_sortOf_0 22 rfl rfl)
theorem dX0_sortOf_23 : decode cX0_sortOf 23 = .ok (.instanceof 517, 3) := dk_193 2 5 (dk_at dksX0_sortOf_1 0 rfl rfl)
theorem dX0_sortOf_26 : decode cX0_sortOf 26 = .ok (.ifCond .eq 7, 3) := dk_153 0 7 (dk_at dksX0_sortOf_1 3 rfl rfl)
theorem dX0_sortOf_29 : decode cX0_sortOf 29 = .ok (.iconst 2, 1) := dk_5 (dk_at dksX0_sortOf_1 6 rfl rfl)
theorem dX0_sortOf_30 : decode cX0_sortOf 30 = .ok (.goto 26, 3) := dk_167 0 26 (dk_at dksX0_sortOf_1 7 rfl rfl)
theorem dX0_sortOf_33 : decode cX0_sortOf 33 = .ok (.aload_n 0, 1) := dk_42 (dk_at dksX0_sortOf_1 10 rfl rfl)
theorem dX0_sortOf_34 : decode cX0_sortOf 34 = .ok (.instanceof 599, 3) := dk_193 2 87 (dk_at dksX0_sortOf_1 11 rfl rfl)
theorem dX0_sortOf_37 : decode cX0_sortOf 37 = .ok (.ifCond .eq 7, 3) := dk_153 0 7 (dk_at dksX0_sortOf_1 14 rfl rfl)
theorem dX0_sortOf_40 : decode cX0_sortOf 40 = .ok (.iconst 3, 1) := dk_6 (dk_at dksX0_sortOf_1 17 rfl rfl)
theorem dX0_sortOf_41 : decode cX0_sortOf 41 = .ok (.goto 15, 3) := dk_167 0 15 (dk_at dksX0_sortOf_1 18 rfl rfl)
theorem dX0_sortOf_44 : decode cX0_sortOf 44 = .ok (.aload_n 0, 1) := dk_42 (dk_at dksX0_sortOf_1 21 rfl rfl)
theorem dX0_sortOf_45 : decode cX0_sortOf 45 = .ok (.instanceof 600, 3) := dk_193 2 88 (dk_at dksX0_sortOf_2 0 rfl rfl)
theorem dX0_sortOf_48 : decode cX0_sortOf 48 = .ok (.ifCond .eq 7, 3) := dk_153 0 7 (dk_at dksX0_sortOf_2 3 rfl rfl)
theorem dX0_sortOf_51 : decode cX0_sortOf 51 = .ok (.iconst 4, 1) := dk_7 (dk_at dksX0_sortOf_2 6 rfl rfl)
theorem dX0_sortOf_52 : decode cX0_sortOf 52 = .ok (.goto 4, 3) := dk_167 0 4 (dk_at dksX0_sortOf_2 7 rfl rfl)
theorem dX0_sortOf_55 : decode cX0_sortOf 55 = .ok (.iconst (-1), 1) := dk_2 (dk_at dksX0_sortOf_2 10 rfl rfl)
theorem dX0_sortOf_56 : decode cX0_sortOf 56 = .ok (.ireturn, 1) := dk_172 (dk_at dksX0_sortOf_2 11 rfl rfl)
abbrev cX0_sizeOf : ByteArray := prog_1_method_98_code
def yX0_sizeOf : MethodName := ⟨RX0, "sizeOf", "(Ljava/lang/Object;)I"⟩
def dkwX0_sizeOf_3 : List UInt8 := [42, 192, 2, 88, 190, 172]
abbrev dktX0_sizeOf_3 : List UInt8 := dkwX0_sizeOf_3 ++ []
def dkwX0_sizeOf_2 : List UInt8 := [42, 192, 2, 1, 190, 172, 42, 192, 2, 3, 190, 172, 42, 192, 2, 5, 190, 172, 42, 192, 2, 87, 190, 172]
abbrev dktX0_sizeOf_2 : List UInt8 := dkwX0_sizeOf_2 ++ dktX0_sizeOf_3
def dkwX0_sizeOf_1 : List UInt8 := [170, 0, 0, 0, 0, 0, 0, 56, 0, 0, 0, 0, 0, 0, 0, 3, 0, 0, 0, 32, 0, 0, 0, 38, 0, 0, 0, 44, 0, 0, 0, 50]
abbrev dktX0_sizeOf_1 : List UInt8 := dkwX0_sizeOf_1 ++ dktX0_sizeOf_2
def dkwX0_sizeOf_0 : List UInt8 := [42, 184, 2, 89]
abbrev dktX0_sizeOf_0 : List UInt8 := dkwX0_sizeOf_0 ++ dktX0_sizeOf_1
theorem dksX0_sizeOf_0 : cX0_sizeOf.data.toList.drop 0 = dktX0_sizeOf_0 := by decide +kernel
theorem dksX0_sizeOf_1 : cX0_sizeOf.data.toList.drop 4 = dktX0_sizeOf_1 := dk_seg dksX0_sizeOf_0 4 rfl rfl
theorem dksX0_sizeOf_2 : cX0_sizeOf.data.toList.drop 36 = dktX0_sizeOf_2 := dk_seg dksX0_sizeOf_1 32 rfl rfl
theorem dksX0_sizeOf_3 : cX0_sizeOf.data.toList.drop 60 = dktX0_sizeOf_3 := dk_seg dksX0_sizeOf_2 24 rfl rfl
theorem dX0_sizeOf_0 : decode cX0_sizeOf 0 = .ok (.aload_n 0, 1) := dk_42 (dk_at dksX0_sizeOf_0 0 rfl rfl)
theorem dX0_sizeOf_1 : decode cX0_sizeOf 1 = .ok (.invokestatic 601, 3) := dk_184 2 89 (dk_at dksX0_sizeOf_0 1 rfl rfl)
theorem dX0_sizeOf_4 : decode cX0_sizeOf 4 = .ok (.tableswitch 56 0 3 #[32, 38, 44, 50], 32) := by decide +kernel
theorem dX0_sizeOf_36 : decode cX0_sizeOf 36 = .ok (.aload_n 0, 1) := dk_42 (dk_at dksX0_sizeOf_2 0 rfl rfl)
theorem dX0_sizeOf_37 : decode cX0_sizeOf 37 = .ok (.checkcast 513, 3) := dk_192 2 1 (dk_at dksX0_sizeOf_2 1 rfl rfl)
theorem dX0_sizeOf_40 : decode cX0_sizeOf 40 = .ok (.arraylength, 1) := dk_190 (dk_at dksX0_sizeOf_2 4 rfl rfl)
theorem dX0_sizeOf_41 : decode cX0_sizeOf 41 = .ok (.ireturn, 1) := dk_172 (dk_at dksX0_sizeOf_2 5 rfl rfl)
theorem dX0_sizeOf_42 : decode cX0_sizeOf 42 = .ok (.aload_n 0, 1) := dk_42 (dk_at dksX0_sizeOf_2 6 rfl rfl)
theorem dX0_sizeOf_43 : decode cX0_sizeOf 43 = .ok (.checkcast 515, 3) := dk_192 2 3 (dk_at dksX0_sizeOf_2 7 rfl rfl)
theorem dX0_sizeOf_46 : decode cX0_sizeOf 46 = .ok (.arraylength, 1) := dk_190 (dk_at dksX0_sizeOf_2 10 rfl rfl)
theorem dX0_sizeOf_47 : decode cX0_sizeOf 47 = .ok (.ireturn, 1) := dk_172 (dk_at dksX0_sizeOf_2 11 rfl rfl)
theorem dX0_sizeOf_48 : decode cX0_sizeOf 48 = .ok (.aload_n 0, 1) := dk_42 (dk_at dksX0_sizeOf_2 12 rfl rfl)
theorem dX0_sizeOf_49 : decode cX0_sizeOf 49 = .ok (.checkcast 517, 3) := dk_192 2 5 (dk_at dksX0_sizeOf_2 13 rfl rfl)
theorem dX0_sizeOf_52 : decode cX0_sizeOf 52 = .ok (.arraylength, 1) := dk_190 (dk_at dksX0_sizeOf_2 16 rfl rfl)
theorem dX0_sizeOf_53 : decode cX0_sizeOf 53 = .ok (.ireturn, 1) := dk_172 (dk_at dksX0_sizeOf_2 17 rfl rfl)
theorem dX0_sizeOf_54 : decode cX0_sizeOf 54 = .ok (.aload_n 0, 1) := dk_42 (dk_at dksX0_sizeOf_2 18 rfl rfl)
theorem dX0_sizeOf_55 : decode cX0_sizeOf 55 = .ok (.checkcast 599, 3) := dk_192 2 87 (dk_at dksX0_sizeOf_2 19 rfl rfl)
theorem dX0_sizeOf_58 : decode cX0_sizeOf 58 = .ok (.arraylength, 1) := dk_190 (dk_at dksX0_sizeOf_2 22 rfl rfl)
theorem dX0_sizeOf_59 : decode cX0_sizeOf 59 = .ok (.ireturn, 1) := dk_172 (dk_at dksX0_sizeOf_2 23 rfl rfl)
theorem dX0_sizeOf_60 : decode cX0_sizeOf 60 = .ok (.aload_n 0, 1) := dk_42 (dk_at dksX0_sizeOf_3 0 rfl rfl)
theorem dX0_sizeOf_61 : decode cX0_sizeOf 61 = .ok (.checkcast 600, 3) := dk_192 2 88 (dk_at dksX0_sizeOf_3 1 rfl rfl)
theorem dX0_sizeOf_64 : decode cX0_sizeOf 64 = .ok (.arraylength, 1) := dk_190 (dk_at dksX0_sizeOf_3 4 rfl rfl)
theorem dX0_sizeOf_65 : decode cX0_sizeOf 65 = .ok (.ireturn, 1) := dk_172 (dk_at dksX0_sizeOf_3 5 rfl rfl)
abbrev cX0_element : ByteArray := prog_1_method_101_code
def yX0_element : MethodName := ⟨RX0, "element", "(II)J"⟩
def dkwX0_element_3 : List UInt8 := [45, 192, 2, 87, 28, 47, 173, 45, 192, 2, 88, 28, 51, 153, 0, 7, 10, 167, 0, 4, 9, 173]
abbrev dktX0_element_3 : List UInt8 := dkwX0_element_3 ++ []
def dkwX0_element_2 : List UInt8 := [45, 192, 2, 1, 28, 51, 133, 173, 45, 192, 2, 3, 28, 53, 133, 173, 45, 192, 2, 5, 28, 46, 133, 173]
abbrev dktX0_element_2 : List UInt8 := dkwX0_element_2 ++ dktX0_element_3
def dkwX0_element_1 : List UInt8 := [170, 0, 0, 0, 0, 0, 0, 63, 0, 0, 0, 0, 0, 0, 0, 3, 0, 0, 0, 32, 0, 0, 0, 40, 0, 0, 0, 48, 0, 0, 0, 56]
abbrev dktX0_element_1 : List UInt8 := dkwX0_element_1 ++ dktX0_element_2
def dkwX0_element_0 : List UInt8 := [42, 27, 28, 182, 2, 96, 153, 0, 7, 20, 1, 114, 173, 42, 180, 0, 141, 27, 50, 78, 45, 184, 2, 89]
abbrev dktX0_element_0 : List UInt8 := dkwX0_element_0 ++ dktX0_element_1
theorem dksX0_element_0 : cX0_element.data.toList.drop 0 = dktX0_element_0 := by decide +kernel
theorem dksX0_element_1 : cX0_element.data.toList.drop 24 = dktX0_element_1 := dk_seg dksX0_element_0 24 rfl rfl
theorem dksX0_element_2 : cX0_element.data.toList.drop 56 = dktX0_element_2 := dk_seg dksX0_element_1 32 rfl rfl
theorem dksX0_element_3 : cX0_element.data.toList.drop 80 = dktX0_element_3 := dk_seg dksX0_element_2 24 rfl rfl
theorem dX0_element_0 : decode cX0_element 0 = .ok (.aload_n 0, 1) := dk_42 (dk_at dksX0_element_0 0 rfl rfl)
theorem dX0_element_1 : decode cX0_element 1 = .ok (.iload_n 1, 1) := dk_27 (dk_at dksX0_element_0 1 rfl rfl)
theorem dX0_element_2 : decode cX0_element 2 = .ok (.iload_n 2, 1) := dk_28 (dk_at dksX0_element_0 2 rfl rfl)
theorem dX0_element_3 : decode cX0_element 3 = .ok (.invokevirtual 608, 3) := dk_182 2 96 (dk_at dksX0_element_0 3 rfl rfl)
theorem dX0_element_6 : decode cX0_element 6 = .ok (.ifCond .eq 7, 3) := dk_153 0 7 (dk_at dksX0_element_0 6 rfl rfl)
theorem dX0_element_9 : decode cX0_element 9 = .ok (.ldc2_w 370, 3) := dk_20 1 114 (dk_at dksX0_element_0 9 rfl rfl)
theorem dX0_element_12 : decode cX0_element 12 = .ok (.lreturn, 1) := dk_173 (dk_at dksX0_element_0 12 rfl rfl)
theorem dX0_element_13 : decode cX0_element 13 = .ok (.aload_n 0, 1) := dk_42 (dk_at dksX0_element_0 13 rfl rfl)
theorem dX0_element_14 : decode cX0_element 14 = .ok (.getfield 141, 3) := dk_180 0 141 (dk_at dksX0_element_0 14 rfl rfl)
theorem dX0_element_17 : decode cX0_element 17 = .ok (.iload_n 1, 1) := dk_27 (dk_at dksX0_element_0 17 rfl rfl)
theorem dX0_element_18 : decode cX0_element 18 = .ok (.aaload, 1) := dk_50 (dk_at dksX0_element_0 18 rfl rfl)
theorem dX0_element_19 : decode cX0_element 19 = .ok (.astore_n 3, 1) := dk_78 (dk_at dksX0_element_0 19 rfl rfl)
theorem dX0_element_20 : decode cX0_element 20 = .ok (.aload_n 3, 1) := dk_45 (dk_at dksX0_element_0 20 rfl rfl)
theorem dX0_element_21 : decode cX0_element 21 = .ok (.invokestatic 601, 3) := dk_184 2 89 (dk_at dksX0_element_0 21 rfl rfl)
theorem dX0_element_24 : decode cX0_element 24 = .ok (.tableswitch 63 0 3 #[32, 40, 48, 56], 32) := by decide +kernel
theorem dX0_element_56 : decode cX0_element 56 = .ok (.aload_n 3, 1) := dk_45 (dk_at dksX0_element_2 0 rfl rfl)
theorem dX0_element_57 : decode cX0_element 57 = .ok (.checkcast 513, 3) := dk_192 2 1 (dk_at dksX0_element_2 1 rfl rfl)
theorem dX0_element_60 : decode cX0_element 60 = .ok (.iload_n 2, 1) := dk_28 (dk_at dksX0_element_2 4 rfl rfl)
theorem dX0_element_61 : decode cX0_element 61 = .ok (.baload, 1) := dk_51 (dk_at dksX0_element_2 5 rfl rfl)
theorem dX0_element_62 : decode cX0_element 62 = .ok (.i2l, 1) := dk_133 (dk_at dksX0_element_2 6 rfl rfl)
theorem dX0_element_63 : decode cX0_element 63 = .ok (.lreturn, 1) := dk_173 (dk_at dksX0_element_2 7 rfl rfl)
theorem dX0_element_64 : decode cX0_element 64 = .ok (.aload_n 3, 1) := dk_45 (dk_at dksX0_element_2 8 rfl rfl)
theorem dX0_element_65 : decode cX0_element 65 = .ok (.checkcast 515, 3) := dk_192 2 3 (dk_at dksX0_element_2 9 rfl rfl)
theorem dX0_element_68 : decode cX0_element 68 = .ok (.iload_n 2, 1) := dk_28 (dk_at dksX0_element_2 12 rfl rfl)
theorem dX0_element_69 : decode cX0_element 69 = .ok (.saload, 1) := dk_53 (dk_at dksX0_element_2 13 rfl rfl)
theorem dX0_element_70 : decode cX0_element 70 = .ok (.i2l, 1) := dk_133 (dk_at dksX0_element_2 14 rfl rfl)
theorem dX0_element_71 : decode cX0_element 71 = .ok (.lreturn, 1) := dk_173 (dk_at dksX0_element_2 15 rfl rfl)
theorem dX0_element_72 : decode cX0_element 72 = .ok (.aload_n 3, 1) := dk_45 (dk_at dksX0_element_2 16 rfl rfl)
theorem dX0_element_73 : decode cX0_element 73 = .ok (.checkcast 517, 3) := dk_192 2 5 (dk_at dksX0_element_2 17 rfl rfl)
theorem dX0_element_76 : decode cX0_element 76 = .ok (.iload_n 2, 1) := dk_28 (dk_at dksX0_element_2 20 rfl rfl)
theorem dX0_element_77 : decode cX0_element 77 = .ok (.iaload, 1) := dk_46 (dk_at dksX0_element_2 21 rfl rfl)
theorem dX0_element_78 : decode cX0_element 78 = .ok (.i2l, 1) := dk_133 (dk_at dksX0_element_2 22 rfl rfl)
theorem dX0_element_79 : decode cX0_element 79 = .ok (.lreturn, 1) := dk_173 (dk_at dksX0_element_2 23 rfl rfl)
theorem dX0_element_80 : decode cX0_element 80 = .ok (.aload_n 3, 1) := dk_45 (dk_at dksX0_element_3 0 rfl rfl)
theorem dX0_element_81 : decode cX0_element 81 = .ok (.checkcast 599, 3) := dk_192 2 87 (dk_at dksX0_element_3 1 rfl rfl)
theorem dX0_element_84 : decode cX0_element 84 = .ok (.iload_n 2, 1) := dk_28 (dk_at dksX0_element_3 4 rfl rfl)
theorem dX0_element_85 : decode cX0_element 85 = .ok (.laload, 1) := dk_47 (dk_at dksX0_element_3 5 rfl rfl)
theorem dX0_element_86 : decode cX0_element 86 = .ok (.lreturn, 1) := dk_173 (dk_at dksX0_element_3 6 rfl rfl)
theorem dX0_element_87 : decode cX0_element 87 = .ok (.aload_n 3, 1) := dk_45 (dk_at dksX0_element_3 7 rfl rfl)
theorem dX0_element_88 : decode cX0_element 88 = .ok (.checkcast 600, 3) := dk_192 2 88 (dk_at dksX0_element_3 8 rfl rfl)
theorem dX0_element_91 : decode cX0_element 91 = .ok (.iload_n 2, 1) := dk_28 (dk_at dksX0_element_3 11 rfl rfl)
theorem dX0_element_92 : decode cX0_element 92 = .ok (.baload, 1) := dk_51 (dk_at dksX0_element_3 12 rfl rfl)
theorem dX0_element_93 : decode cX0_element 93 = .ok (.ifCond .eq 7, 3) := dk_153 0 7 (dk_at dksX0_element_3 13 rfl rfl)
theorem dX0_element_96 : decode cX0_element 96 = .ok (.lconst 1, 1) := dk_10 (dk_at dksX0_element_3 16 rfl rfl)
theorem dX0_element_97 : decode cX0_element 97 = .ok (.goto 4, 3) := dk_167 0 4 (dk_at dksX0_element_3 17 rfl rfl)
theorem dX0_element_100 : decode cX0_element 100 = .ok (.lconst 0, 1) := dk_9 (dk_at dksX0_element_3 20 rfl rfl)
theorem dX0_element_101 : decode cX0_element 101 = .ok (.lreturn, 1) := dk_173 (dk_at dksX0_element_3 21 rfl rfl)
abbrev cX0_shift : ByteArray := prog_1_method_102_code
def yX0_shift : MethodName := ⟨RX0, "shift", "(IIIII)I"⟩
def dkwX0_shift_5 : List UInt8 := [21, 4, 21, 5, 184, 1, 142, 21, 5, 172]
abbrev dktX0_shift_5 : List UInt8 := dkwX0_shift_5 ++ []
def dkwX0_shift_4 : List UInt8 := [163, 0, 16, 21, 4, 25, 7, 184, 2, 93, 21, 5, 100, 164, 0, 6, 16, 243, 172, 25, 6, 28, 25, 7]
abbrev dktX0_shift_4 : List UInt8 := dkwX0_shift_4 ++ dktX0_shift_5
def dkwX0_shift_3 : List UInt8 := [21, 5, 155, 0, 37, 28, 155, 0, 33, 21, 4, 155, 0, 28, 28, 25, 6, 184, 2, 93, 21, 5, 100]
abbrev dktX0_shift_3 : List UInt8 := dkwX0_shift_3 ++ dktX0_shift_4
def dkwX0_shift_2 : List UInt8 := [184, 2, 89, 2, 159, 0, 16, 25, 6, 184, 2, 89, 25, 7, 184, 2, 89, 159, 0, 6, 16, 244, 172]
abbrev dktX0_shift_2 : List UInt8 := dkwX0_shift_2 ++ dktX0_shift_3
def dkwX0_shift_1 : List UInt8 := [42, 180, 0, 141, 29, 50, 58, 7, 25, 6, 198, 0, 8, 25, 7, 199, 0, 6, 16, 245, 172, 25, 6]
abbrev dktX0_shift_1 : List UInt8 := dkwX0_shift_1 ++ dktX0_shift_2
def dkwX0_shift_0 : List UInt8 := [27, 184, 1, 252, 153, 0, 10, 29, 184, 1, 252, 154, 0, 5, 2, 172, 42, 180, 0, 141, 27, 50, 58, 6]
abbrev dktX0_shift_0 : List UInt8 := dkwX0_shift_0 ++ dktX0_shift_1
theorem dksX0_shift_0 : cX0_shift.data.toList.drop 0 = dktX0_shift_0 := by decide +kernel
theorem dksX0_shift_1 : cX0_shift.data.toList.drop 24 = dktX0_shift_1 := dk_seg dksX0_shift_0 24 rfl rfl
theorem dksX0_shift_2 : cX0_shift.data.toList.drop 47 = dktX0_shift_2 := dk_seg dksX0_shift_1 23 rfl rfl
theorem dksX0_shift_3 : cX0_shift.data.toList.drop 70 = dktX0_shift_3 := dk_seg dksX0_shift_2 23 rfl rfl
theorem dksX0_shift_4 : cX0_shift.data.toList.drop 93 = dktX0_shift_4 := dk_seg dksX0_shift_3 23 rfl rfl
theorem dksX0_shift_5 : cX0_shift.data.toList.drop 117 = dktX0_shift_5 := dk_seg dksX0_shift_4 24 rfl rfl
theorem dX0_shift_0 : decode cX0_shift 0 = .ok (.iload_n 1, 1) := dk_27 (dk_at dksX0_shift_0 0 rfl rfl)
theorem dX0_shift_1 : decode cX0_shift 1 = .ok (.invokestatic 508, 3) := dk_184 1 252 (dk_at dksX0_shift_0 1 rfl rfl)
theorem dX0_shift_4 : decode cX0_shift 4 = .ok (.ifCond .eq 10, 3) := dk_153 0 10 (dk_at dksX0_shift_0 4 rfl rfl)
theorem dX0_shift_7 : decode cX0_shift 7 = .ok (.iload_n 3, 1) := dk_29 (dk_at dksX0_shift_0 7 rfl rfl)
theorem dX0_shift_8 : decode cX0_shift 8 = .ok (.invokestatic 508, 3) := dk_184 1 252 (dk_at dksX0_shift_0 8 rfl rfl)
theorem dX0_shift_11 : decode cX0_shift 11 = .ok (.ifCond .ne 5, 3) := dk_154 0 5 (dk_at dksX0_shift_0 11 rfl rfl)
theorem dX0_shift_14 : decode cX0_shift 14 = .ok (.iconst (-1), 1) := dk_2 (dk_at dksX0_shift_0 14 rfl rfl)
theorem dX0_shift_15 : decode cX0_shift 15 = .ok (.ireturn, 1) := dk_172 (dk_at dksX0_shift_0 15 rfl rfl)
theorem dX0_shift_16 : decode cX0_shift 16 = .ok (.aload_n 0, 1) := dk_42 (dk_at dksX0_shift_0 16 rfl rfl)
theorem dX0_shift_17 : decode cX0_shift 17 = .ok (.getfield 141, 3) := dk_180 0 141 (dk_at dksX0_shift_0 17 rfl rfl)
theorem dX0_shift_20 : decode cX0_shift 20 = .ok (.iload_n 1, 1) := dk_27 (dk_at dksX0_shift_0 20 rfl rfl)
theorem dX0_shift_21 : decode cX0_shift 21 = .ok (.aaload, 1) := dk_50 (dk_at dksX0_shift_0 21 rfl rfl)
theorem dX0_shift_22 : decode cX0_shift 22 = .ok (.astore 6, 2) := dk_58 6 (dk_at dksX0_shift_0 22 rfl rfl)
theorem dX0_shift_24 : decode cX0_shift 24 = .ok (.aload_n 0, 1) := dk_42 (dk_at dksX0_shift_1 0 rfl rfl)
theorem dX0_shift_25 : decode cX0_shift 25 = .ok (.getfield 141, 3) := dk_180 0 141 (dk_at dksX0_shift_1 1 rfl rfl)
theorem dX0_shift_28 : decode cX0_shift 28 = .ok (.iload_n 3, 1) := dk_29 (dk_at dksX0_shift_1 4 rfl rfl)
theorem dX0_shift_29 : decode cX0_shift 29 = .ok (.aaload, 1) := dk_50 (dk_at dksX0_shift_1 5 rfl rfl)
theorem dX0_shift_30 : decode cX0_shift 30 = .ok (.astore 7, 2) := dk_58 7 (dk_at dksX0_shift_1 6 rfl rfl)
theorem dX0_shift_32 : decode cX0_shift 32 = .ok (.aload 6, 2) := dk_25 6 (dk_at dksX0_shift_1 8 rfl rfl)
theorem dX0_shift_34 : decode cX0_shift 34 = .ok (.ifnull 8, 3) := dk_198 0 8 (dk_at dksX0_shift_1 10 rfl rfl)
theorem dX0_shift_37 : decode cX0_shift 37 = .ok (.aload 7, 2) := dk_25 7 (dk_at dksX0_shift_1 13 rfl rfl)
theorem dX0_shift_39 : decode cX0_shift 39 = .ok (.ifnonnull 6, 3) := dk_199 0 6 (dk_at dksX0_shift_1 15 rfl rfl)
theorem dX0_shift_42 : decode cX0_shift 42 = .ok (.bipush (-11), 2) := dk_16 245 (dk_at dksX0_shift_1 18 rfl rfl)
theorem dX0_shift_44 : decode cX0_shift 44 = .ok (.ireturn, 1) := dk_172 (dk_at dksX0_shift_1 20 rfl rfl)
theorem dX0_shift_45 : decode cX0_shift 45 = .ok (.aload 6, 2) := dk_25 6 (dk_at dksX0_shift_1 21 rfl rfl)
theorem dX0_shift_47 : decode cX0_shift 47 = .ok (.invokestatic 601, 3) := dk_184 2 89 (dk_at dksX0_shift_2 0 rfl rfl)
theorem dX0_shift_50 : decode cX0_shift 50 = .ok (.iconst (-1), 1) := dk_2 (dk_at dksX0_shift_2 3 rfl rfl)
theorem dX0_shift_51 : decode cX0_shift 51 = .ok (.if_icmp .eq 16, 3) := dk_159 0 16 (dk_at dksX0_shift_2 4 rfl rfl)
theorem dX0_shift_54 : decode cX0_shift 54 = .ok (.aload 6, 2) := dk_25 6 (dk_at dksX0_shift_2 7 rfl rfl)
theorem dX0_shift_56 : decode cX0_shift 56 = .ok (.invokestatic 601, 3) := dk_184 2 89 (dk_at dksX0_shift_2 9 rfl rfl)
theorem dX0_shift_59 : decode cX0_shift 59 = .ok (.aload 7, 2) := dk_25 7 (dk_at dksX0_shift_2 12 rfl rfl)
theorem dX0_shift_61 : decode cX0_shift 61 = .ok (.invokestatic 601, 3) := dk_184 2 89 (dk_at dksX0_shift_2 14 rfl rfl)
theorem dX0_shift_64 : decode cX0_shift 64 = .ok (.if_icmp .eq 6, 3) := dk_159 0 6 (dk_at dksX0_shift_2 17 rfl rfl)
theorem dX0_shift_67 : decode cX0_shift 67 = .ok (.bipush (-12), 2) := dk_16 244 (dk_at dksX0_shift_2 20 rfl rfl)
theorem dX0_shift_69 : decode cX0_shift 69 = .ok (.ireturn, 1) := dk_172 (dk_at dksX0_shift_2 22 rfl rfl)
theorem dX0_shift_70 : decode cX0_shift 70 = .ok (.iload 5, 2) := dk_21 5 (dk_at dksX0_shift_3 0 rfl rfl)
theorem dX0_shift_72 : decode cX0_shift 72 = .ok (.ifCond .lt 37, 3) := dk_155 0 37 (dk_at dksX0_shift_3 2 rfl rfl)
theorem dX0_shift_75 : decode cX0_shift 75 = .ok (.iload_n 2, 1) := dk_28 (dk_at dksX0_shift_3 5 rfl rfl)
theorem dX0_shift_76 : decode cX0_shift 76 = .ok (.ifCond .lt 33, 3) := dk_155 0 33 (dk_at dksX0_shift_3 6 rfl rfl)
theorem dX0_shift_79 : decode cX0_shift 79 = .ok (.iload 4, 2) := dk_21 4 (dk_at dksX0_shift_3 9 rfl rfl)
theorem dX0_shift_81 : decode cX0_shift 81 = .ok (.ifCond .lt 28, 3) := dk_155 0 28 (dk_at dksX0_shift_3 11 rfl rfl)
theorem dX0_shift_84 : decode cX0_shift 84 = .ok (.iload_n 2, 1) := dk_28 (dk_at dksX0_shift_3 14 rfl rfl)
theorem dX0_shift_85 : decode cX0_shift 85 = .ok (.aload 6, 2) := dk_25 6 (dk_at dksX0_shift_3 15 rfl rfl)
theorem dX0_shift_87 : decode cX0_shift 87 = .ok (.invokestatic 605, 3) := dk_184 2 93 (dk_at dksX0_shift_3 17 rfl rfl)
theorem dX0_shift_90 : decode cX0_shift 90 = .ok (.iload 5, 2) := dk_21 5 (dk_at dksX0_shift_3 20 rfl rfl)
theorem dX0_shift_92 : decode cX0_shift 92 = .ok (.isub, 1) := dk_100 (dk_at dksX0_shift_3 22 rfl rfl)
theorem dX0_shift_93 : decode cX0_shift 93 = .ok (.if_icmp .gt 16, 3) := dk_163 0 16 (dk_at dksX0_shift_4 0 rfl rfl)
theorem dX0_shift_96 : decode cX0_shift 96 = .ok (.iload 4, 2) := dk_21 4 (dk_at dksX0_shift_4 3 rfl rfl)
theorem dX0_shift_98 : decode cX0_shift 98 = .ok (.aload 7, 2) := dk_25 7 (dk_at dksX0_shift_4 5 rfl rfl)
theorem dX0_shift_100 : decode cX0_shift 100 = .ok (.invokestatic 605, 3) := dk_184 2 93 (dk_at dksX0_shift_4 7 rfl rfl)
theorem dX0_shift_103 : decode cX0_shift 103 = .ok (.iload 5, 2) := dk_21 5 (dk_at dksX0_shift_4 10 rfl rfl)
theorem dX0_shift_105 : decode cX0_shift 105 = .ok (.isub, 1) := dk_100 (dk_at dksX0_shift_4 12 rfl rfl)
theorem dX0_shift_106 : decode cX0_shift 106 = .ok (.if_icmp .le 6, 3) := dk_164 0 6 (dk_at dksX0_shift_4 13 rfl rfl)
theorem dX0_shift_109 : decode cX0_shift 109 = .ok (.bipush (-13), 2) := dk_16 243 (dk_at dksX0_shift_4 16 rfl rfl)
theorem dX0_shift_111 : decode cX0_shift 111 = .ok (.ireturn, 1) := dk_172 (dk_at dksX0_shift_4 18 rfl rfl)
theorem dX0_shift_112 : decode cX0_shift 112 = .ok (.aload 6, 2) := dk_25 6 (dk_at dksX0_shift_4 19 rfl rfl)
theorem dX0_shift_114 : decode cX0_shift 114 = .ok (.iload_n 2, 1) := dk_28 (dk_at dksX0_shift_4 21 rfl rfl)
theorem dX0_shift_115 : decode cX0_shift 115 = .ok (.aload 7, 2) := dk_25 7 (dk_at dksX0_shift_4 22 rfl rfl)
theorem dX0_shift_117 : decode cX0_shift 117 = .ok (.iload 4, 2) := dk_21 4 (dk_at dksX0_shift_5 0 rfl rfl)
theorem dX0_shift_119 : decode cX0_shift 119 = .ok (.iload 5, 2) := dk_21 5 (dk_at dksX0_shift_5 2 rfl rfl)
theorem dX0_shift_121 : decode cX0_shift 121 = .ok (.invokestatic 398, 3) := dk_184 1 142 (dk_at dksX0_shift_5 4 rfl rfl)
theorem dX0_shift_124 : decode cX0_shift 124 = .ok (.iload 5, 2) := dk_21 5 (dk_at dksX0_shift_5 7 rfl rfl)
theorem dX0_shift_126 : decode cX0_shift 126 = .ok (.ireturn, 1) := dk_172 (dk_at dksX0_shift_5 9 rfl rfl)
abbrev cX0_taken : ByteArray := prog_1_method_103_code
def yX0_taken : MethodName := ⟨RX0, "taken", "(II)I"⟩
def dkwX0_taken_3 : List UInt8 := [172]
abbrev dktX0_taken_3 : List UInt8 := dkwX0_taken_3 ++ []
def dkwX0_taken_2 : List UInt8 := [192, 0, 9, 58, 4, 25, 4, 28, 182, 2, 99, 153, 0, 11, 25, 4, 182, 2, 102, 167, 0, 5, 16, 244]
abbrev dktX0_taken_2 : List UInt8 := dkwX0_taken_2 ++ dktX0_taken_3
def dkwX0_taken_1 : List UInt8 := [180, 0, 141, 27, 50, 78, 45, 199, 0, 6, 16, 245, 172, 45, 193, 0, 9, 154, 0, 6, 16, 244, 172, 45]
abbrev dktX0_taken_1 : List UInt8 := dkwX0_taken_1 ++ dktX0_taken_2
def dkwX0_taken_0 : List UInt8 := [27, 184, 1, 252, 153, 0, 15, 28, 133, 9, 20, 0, 174, 184, 0, 152, 154, 0, 5, 2, 172, 42]
abbrev dktX0_taken_0 : List UInt8 := dkwX0_taken_0 ++ dktX0_taken_1
theorem dksX0_taken_0 : cX0_taken.data.toList.drop 0 = dktX0_taken_0 := by decide +kernel
theorem dksX0_taken_1 : cX0_taken.data.toList.drop 22 = dktX0_taken_1 := dk_seg dksX0_taken_0 22 rfl rfl
theorem dksX0_taken_2 : cX0_taken.data.toList.drop 46 = dktX0_taken_2 := dk_seg dksX0_taken_1 24 rfl rfl
theorem dksX0_taken_3 : cX0_taken.data.toList.drop 70 = dktX0_taken_3 := dk_seg dksX0_taken_2 24 rfl rfl
theorem dX0_taken_0 : decode cX0_taken 0 = .ok (.iload_n 1, 1) := dk_27 (dk_at dksX0_taken_0 0 rfl rfl)
theorem dX0_taken_1 : decode cX0_taken 1 = .ok (.invokestatic 508, 3) := dk_184 1 252 (dk_at dksX0_taken_0 1 rfl rfl)
theorem dX0_taken_4 : decode cX0_taken 4 = .ok (.ifCond .eq 15, 3) := dk_153 0 15 (dk_at dksX0_taken_0 4 rfl rfl)
theorem dX0_taken_7 : decode cX0_taken 7 = .ok (.iload_n 2, 1) := dk_28 (dk_at dksX0_taken_0 7 rfl rfl)
theorem dX0_taken_8 : decode cX0_taken 8 = .ok (.i2l, 1) := dk_133 (dk_at dksX0_taken_0 8 rfl rfl)
theorem dX0_taken_9 : decode cX0_taken 9 = .ok (.lconst 0, 1) := dk_9 (dk_at dksX0_taken_0 9 rfl rfl)
theorem dX0_taken_10 : decode cX0_taken 10 = .ok (.ldc2_w 174, 3) := dk_20 0 174 (dk_at dksX0_taken_0 10 rfl rfl)
theorem dX0_taken_13 : decode cX0_taken 13 = .ok (.invokestatic 152, 3) := dk_184 0 152 (dk_at dksX0_taken_0 13 rfl rfl)
theorem dX0_taken_16 : decode cX0_taken 16 = .ok (.ifCond .ne 5, 3) := dk_154 0 5 (dk_at dksX0_taken_0 16 rfl rfl)
theorem dX0_taken_19 : decode cX0_taken 19 = .ok (.iconst (-1), 1) := dk_2 (dk_at dksX0_taken_0 19 rfl rfl)
theorem dX0_taken_20 : decode cX0_taken 20 = .ok (.ireturn, 1) := dk_172 (dk_at dksX0_taken_0 20 rfl rfl)
theorem dX0_taken_21 : decode cX0_taken 21 = .ok (.aload_n 0, 1) := dk_42 (dk_at dksX0_taken_0 21 rfl rfl)
theorem dX0_taken_22 : decode cX0_taken 22 = .ok (.getfield 141, 3) := dk_180 0 141 (dk_at dksX0_taken_1 0 rfl rfl)
theorem dX0_taken_25 : decode cX0_taken 25 = .ok (.iload_n 1, 1) := dk_27 (dk_at dksX0_taken_1 3 rfl rfl)
theorem dX0_taken_26 : decode cX0_taken 26 = .ok (.aaload, 1) := dk_50 (dk_at dksX0_taken_1 4 rfl rfl)
theorem dX0_taken_27 : decode cX0_taken 27 = .ok (.astore_n 3, 1) := dk_78 (dk_at dksX0_taken_1 5 rfl rfl)
theorem dX0_taken_28 : decode cX0_taken 28 = .ok (.aload_n 3, 1) := dk_45 (dk_at dksX0_taken_1 6 rfl rfl)
theorem dX0_taken_29 : decode cX0_taken 29 = .ok (.ifnonnull 6, 3) := dk_199 0 6 (dk_at dksX0_taken_1 7 rfl rfl)
theorem dX0_taken_32 : decode cX0_taken 32 = .ok (.bipush (-11), 2) := dk_16 245 (dk_at dksX0_taken_1 10 rfl rfl)
theorem dX0_taken_34 : decode cX0_taken 34 = .ok (.ireturn, 1) := dk_172 (dk_at dksX0_taken_1 12 rfl rfl)
theorem dX0_taken_35 : decode cX0_taken 35 = .ok (.aload_n 3, 1) := dk_45 (dk_at dksX0_taken_1 13 rfl rfl)
theorem dX0_taken_36 : decode cX0_taken 36 = .ok (.instanceof 9, 3) := dk_193 0 9 (dk_at dksX0_taken_1 14 rfl rfl)
theorem dX0_taken_39 : decode cX0_taken 39 = .ok (.ifCond .ne 6, 3) := dk_154 0 6 (dk_at dksX0_taken_1 17 rfl rfl)
theorem dX0_taken_42 : decode cX0_taken 42 = .ok (.bipush (-12), 2) := dk_16 244 (dk_at dksX0_taken_1 20 rfl rfl)
theorem dX0_taken_44 : decode cX0_taken 44 = .ok (.ireturn, 1) := dk_172 (dk_at dksX0_taken_1 22 rfl rfl)
theorem dX0_taken_45 : decode cX0_taken 45 = .ok (.aload_n 3, 1) := dk_45 (dk_at dksX0_taken_1 23 rfl rfl)
theorem dX0_taken_46 : decode cX0_taken 46 = .ok (.checkcast 9, 3) := dk_192 0 9 (dk_at dksX0_taken_2 0 rfl rfl)
theorem dX0_taken_49 : decode cX0_taken 49 = .ok (.astore 4, 2) := dk_58 4 (dk_at dksX0_taken_2 3 rfl rfl)
theorem dX0_taken_51 : decode cX0_taken 51 = .ok (.aload 4, 2) := dk_25 4 (dk_at dksX0_taken_2 5 rfl rfl)
theorem dX0_taken_53 : decode cX0_taken 53 = .ok (.iload_n 2, 1) := dk_28 (dk_at dksX0_taken_2 7 rfl rfl)
theorem dX0_taken_54 : decode cX0_taken 54 = .ok (.invokevirtual 611, 3) := dk_182 2 99 (dk_at dksX0_taken_2 8 rfl rfl)
theorem dX0_taken_57 : decode cX0_taken 57 = .ok (.ifCond .eq 11, 3) := dk_153 0 11 (dk_at dksX0_taken_2 11 rfl rfl)
theorem dX0_taken_60 : decode cX0_taken 60 = .ok (.aload 4, 2) := dk_25 4 (dk_at dksX0_taken_2 14 rfl rfl)
theorem dX0_taken_62 : decode cX0_taken 62 = .ok (.invokevirtual 614, 3) := dk_182 2 102 (dk_at dksX0_taken_2 16 rfl rfl)
theorem dX0_taken_65 : decode cX0_taken 65 = .ok (.goto 5, 3) := dk_167 0 5 (dk_at dksX0_taken_2 19 rfl rfl)
theorem dX0_taken_68 : decode cX0_taken 68 = .ok (.bipush (-12), 2) := dk_16 244 (dk_at dksX0_taken_2 22 rfl rfl)
theorem dX0_taken_70 : decode cX0_taken 70 = .ok (.ireturn, 1) := dk_172 (dk_at dksX0_taken_3 0 rfl rfl)
abbrev cX0_count : ByteArray := prog_1_method_104_code
def yX0_count : MethodName := ⟨RX0, "count", "(I)I"⟩
def dkwX0_count_3 : List UInt8 := [172, 42, 180, 1, 232, 172, 2, 172]
abbrev dktX0_count_3 : List UInt8 := dkwX0_count_3 ++ []
def dkwX0_count_2 : List UInt8 := [42, 180, 0, 198, 172, 42, 180, 0, 149, 172, 42, 180, 0, 211, 172, 42, 180, 1, 37, 172, 42, 180, 2, 70]
abbrev dktX0_count_2 : List UInt8 := dkwX0_count_2 ++ dktX0_count_3
def dkwX0_count_1 : List UInt8 := [170, 0, 0, 0, 0, 0, 69, 0, 0, 0, 0, 0, 0, 0, 5, 0, 0, 0, 39, 0, 0, 0, 44, 0, 0, 0, 49, 0, 0, 0, 54, 0, 0, 0, 59, 0, 0, 0, 64]
abbrev dktX0_count_1 : List UInt8 := dkwX0_count_1 ++ dktX0_count_2
def dkwX0_count_0 : List UInt8 := [27]
abbrev dktX0_count_0 : List UInt8 := dkwX0_count_0 ++ dktX0_count_1
theorem dksX0_count_0 : cX0_count.data.toList.drop 0 = dktX0_count_0 := by decide +kernel
theorem dksX0_count_1 : cX0_count.data.toList.drop 1 = dktX0_count_1 := dk_seg dksX0_count_0 1 rfl rfl
theorem dksX0_count_2 : cX0_count.data.toList.drop 40 = dktX0_count_2 := dk_seg dksX0_count_1 39 rfl rfl
theorem dksX0_count_3 : cX0_count.data.toList.drop 64 = dktX0_count_3 := dk_seg dksX0_count_2 24 rfl rfl
theorem dX0_count_0 : decode cX0_count 0 = .ok (.iload_n 1, 1) := dk_27 (dk_at dksX0_count_0 0 rfl rfl)
theorem dX0_count_1 : decode cX0_count 1 = .ok (.tableswitch 69 0 5 #[39, 44, 49, 54, 59, 64], 39) := by decide +kernel
theorem dX0_count_40 : decode cX0_count 40 = .ok (.aload_n 0, 1) := dk_42 (dk_at dksX0_count_2 0 rfl rfl)
theorem dX0_count_41 : decode cX0_count 41 = .ok (.getfield 198, 3) := dk_180 0 198 (dk_at dksX0_count_2 1 rfl rfl)
theorem dX0_count_44 : decode cX0_count 44 = .ok (.ireturn, 1) := dk_172 (dk_at dksX0_count_2 4 rfl rfl)
theorem dX0_count_45 : decode cX0_count 45 = .ok (.aload_n 0, 1) := dk_42 (dk_at dksX0_count_2 5 rfl rfl)
theorem dX0_count_46 : decode cX0_count 46 = .ok (.getfield 149, 3) := dk_180 0 149 (dk_at dksX0_count_2 6 rfl rfl)
theorem dX0_count_49 : decode cX0_count 49 = .ok (.ireturn, 1) := dk_172 (dk_at dksX0_count_2 9 rfl rfl)
theorem dX0_count_50 : decode cX0_count 50 = .ok (.aload_n 0, 1) := dk_42 (dk_at dksX0_count_2 10 rfl rfl)
theorem dX0_count_51 : decode cX0_count 51 = .ok (.getfield 211, 3) := dk_180 0 211 (dk_at dksX0_count_2 11 rfl rfl)
theorem dX0_count_54 : decode cX0_count 54 = .ok (.ireturn, 1) := dk_172 (dk_at dksX0_count_2 14 rfl rfl)
theorem dX0_count_55 : decode cX0_count 55 = .ok (.aload_n 0, 1) := dk_42 (dk_at dksX0_count_2 15 rfl rfl)
theorem dX0_count_56 : decode cX0_count 56 = .ok (.getfield 293, 3) := dk_180 1 37 (dk_at dksX0_count_2 16 rfl rfl)
theorem dX0_count_59 : decode cX0_count 59 = .ok (.ireturn, 1) := dk_172 (dk_at dksX0_count_2 19 rfl rfl)
theorem dX0_count_60 : decode cX0_count 60 = .ok (.aload_n 0, 1) := dk_42 (dk_at dksX0_count_2 20 rfl rfl)
theorem dX0_count_61 : decode cX0_count 61 = .ok (.getfield 582, 3) := dk_180 2 70 (dk_at dksX0_count_2 21 rfl rfl)
theorem dX0_count_64 : decode cX0_count 64 = .ok (.ireturn, 1) := dk_172 (dk_at dksX0_count_3 0 rfl rfl)
theorem dX0_count_65 : decode cX0_count 65 = .ok (.aload_n 0, 1) := dk_42 (dk_at dksX0_count_3 1 rfl rfl)
theorem dX0_count_66 : decode cX0_count 66 = .ok (.getfield 488, 3) := dk_180 1 232 (dk_at dksX0_count_3 2 rfl rfl)
theorem dX0_count_69 : decode cX0_count 69 = .ok (.ireturn, 1) := dk_172 (dk_at dksX0_count_3 5 rfl rfl)
theorem dX0_count_70 : decode cX0_count 70 = .ok (.iconst (-1), 1) := dk_2 (dk_at dksX0_count_3 6 rfl rfl)
theorem dX0_count_71 : decode cX0_count 71 = .ok (.ireturn, 1) := dk_172 (dk_at dksX0_count_3 7 rfl rfl)
theorem q109 : (Jvm.Cond.initialized "PlatesSing") ∈ lw_all := lw_g (lw_at lw_m1 1 rfl) rfl
theorem q128 : (Jvm.Cond.instantiable "PlatesSing" (63 : Nat)) ∈ lw_all := lw_g (lw_at lw_m1 20 rfl) rfl
theorem q130 : (Jvm.Cond.instanceMethod ({ cls := "PlatesSing", name := "<init>", desc := "()V" } : Jvm.MethodName)) ∈ lw_all := lw_g (lw_at lw_m1 22 rfl) rfl
theorem q131 : (Jvm.Cond.code ({ cls := "PlatesSing", name := "<init>", desc := "()V" } : Jvm.MethodName) prog_1_method_3_code (2 : Nat) (Option.none : Option Jvm.ClassFile.FieldType)) ∈ lw_all := lw_g (lw_at lw_m1 23 rfl) rfl
theorem q132 : (Jvm.Cond.methodLink "PlatesSing" (3 : Nat) ({ cls := "java/lang/Object", name := "<init>", desc := "()V" } : Jvm.MethodName)) ∈ lw_all := lw_g (lw_at lw_m1 24 rfl) rfl
theorem q135 : (Jvm.Cond.classLink "PlatesSing" (9 : Nat) "PlatesSing$Part") ∈ lw_all := lw_g (lw_at lw_m1 27 rfl) rfl
theorem q137 : (Jvm.Cond.classLink "PlatesSing" (19 : Nat) "PlatesSing$Shape") ∈ lw_all := lw_g (lw_at lw_m1 29 rfl) rfl
theorem q139 : (Jvm.Cond.classLink "PlatesSing" (28 : Nat) "PlatesSing$Reader") ∈ lw_all := lw_g (lw_at lw_m1 31 rfl) rfl
theorem q141 : (Jvm.Cond.methodLinkNest "PlatesSing" (30 : Nat) ({ cls := "PlatesSing$Reader", name := "<init>", desc := "(LPlatesSing;)V" } : Jvm.MethodName) "PlatesSing") ∈ lw_tbl := lw_at lw_m1 33 rfl
theorem q221 : (Jvm.Cond.fieldLinkNest "PlatesSing" (218 : Nat) "PlatesSing$Reader" "many" "I" "PlatesSing") ∈ lw_tbl := lw_at lw_m1 113 rfl
theorem q249 : (Jvm.Cond.classLink "PlatesSing" (37 : Nat) "PlatesSing$Act") ∈ lw_all := lw_g (lw_at lw_m1 141 rfl) rfl
theorem q251 : (Jvm.Cond.classLink "PlatesSing" (4 : Nat) "java/lang/Object") ∈ lw_all := lw_g (lw_at lw_m1 143 rfl) rfl
theorem q254 : (Jvm.Cond.methodLinkNest "PlatesSing" (145 : Nat) ({ cls := "PlatesSing$Act", name := "<init>", desc := "()V" } : Jvm.MethodName) "PlatesSing") ∈ lw_tbl := lw_at lw_m1 146 rfl
theorem q258 : (Jvm.Cond.fieldLinkNest "PlatesSing" (273 : Nat) "PlatesSing$Act" "sort" "I" "PlatesSing") ∈ lw_tbl := lw_at lw_m1 150 rfl
theorem q259 : (Jvm.Cond.fieldLinkNest "PlatesSing" (276 : Nat) "PlatesSing$Act" "shape" "LPlatesSing$Shape;" "PlatesSing") ∈ lw_tbl := lw_at lw_m1 151 rfl
theorem q260 : (Jvm.Cond.fieldLinkNest "PlatesSing" (280 : Nat) "PlatesSing$Act" "corner" "I" "PlatesSing") ∈ lw_tbl := lw_at lw_m1 152 rfl
theorem q261 : (Jvm.Cond.fieldLinkNest "PlatesSing" (283 : Nat) "PlatesSing$Act" "piece" "LPlatesSing$Piece;" "PlatesSing") ∈ lw_tbl := lw_at lw_m1 153 rfl
theorem q262 : (Jvm.Cond.fieldLinkNest "PlatesSing" (267 : Nat) "PlatesSing$Act" "was" "I" "PlatesSing") ∈ lw_tbl := lw_at lw_m1 154 rfl
theorem q263 : (Jvm.Cond.fieldLinkNest "PlatesSing" (287 : Nat) "PlatesSing$Act" "wasCrack" "I" "PlatesSing") ∈ lw_tbl := lw_at lw_m1 155 rfl
theorem q264 : (Jvm.Cond.fieldLinkNest "PlatesSing" (270 : Nat) "PlatesSing$Act" "is" "I" "PlatesSing") ∈ lw_tbl := lw_at lw_m1 156 rfl
theorem q265 : (Jvm.Cond.fieldLinkNest "PlatesSing" (290 : Nat) "PlatesSing$Act" "isCrack" "I" "PlatesSing") ∈ lw_tbl := lw_at lw_m1 157 rfl
theorem q284 : (Jvm.Cond.fieldLink "PlatesSing" (11 : Nat) "PlatesSing" "bodies" "[LPlatesSing$Part;") ∈ lw_all := lw_g (lw_at lw_m1 176 rfl) rfl
theorem q285 : (Jvm.Cond.fieldLink "PlatesSing" (149 : Nat) "PlatesSing" "bodyMany" "I") ∈ lw_all := lw_g (lw_at lw_m1 177 rfl) rfl
theorem q286 : (Jvm.Cond.fieldLink "PlatesSing" (15 : Nat) "PlatesSing" "trace" "[I") ∈ lw_all := lw_g (lw_at lw_m1 178 rfl) rfl
theorem q289 : (Jvm.Cond.fieldLink "PlatesSing" (582 : Nat) "PlatesSing" "ran" "I") ∈ lw_all := lw_g (lw_at lw_m1 181 rfl) rfl
theorem q290 : (Jvm.Cond.fieldLink "PlatesSing" (21 : Nat) "PlatesSing" "shapes" "[LPlatesSing$Shape;") ∈ lw_all := lw_g (lw_at lw_m1 182 rfl) rfl
theorem q291 : (Jvm.Cond.fieldLink "PlatesSing" (198 : Nat) "PlatesSing" "shapeMany" "I") ∈ lw_all := lw_g (lw_at lw_m1 183 rfl) rfl
theorem q293 : (Jvm.Cond.fieldLink "PlatesSing" (25 : Nat) "PlatesSing" "tape" "[I") ∈ lw_all := lw_g (lw_at lw_m1 185 rfl) rfl
theorem q295 : (Jvm.Cond.fieldLink "PlatesSing" (211 : Nat) "PlatesSing" "length" "I") ∈ lw_all := lw_g (lw_at lw_m1 187 rfl) rfl
theorem q296 : (Jvm.Cond.fieldLink "PlatesSing" (33 : Nat) "PlatesSing" "reader" "LPlatesSing$Reader;") ∈ lw_all := lw_g (lw_at lw_m1 188 rfl) rfl
theorem q297 : (Jvm.Cond.fieldLink "PlatesSing" (39 : Nat) "PlatesSing" "kept" "[LPlatesSing$Act;") ∈ lw_all := lw_g (lw_at lw_m1 189 rfl) rfl
theorem q298 : (Jvm.Cond.fieldLink "PlatesSing" (296 : Nat) "PlatesSing" "keptMany" "I") ∈ lw_all := lw_g (lw_at lw_m1 190 rfl) rfl
theorem q299 : (Jvm.Cond.fieldLink "PlatesSing" (293 : Nat) "PlatesSing" "done" "I") ∈ lw_all := lw_g (lw_at lw_m1 191 rfl) rfl
theorem q300 : (Jvm.Cond.fieldLink "PlatesSing" (43 : Nat) "PlatesSing" "matrix" "[J") ∈ lw_all := lw_g (lw_at lw_m1 192 rfl) rfl
theorem q301 : (Jvm.Cond.fieldLink "PlatesSing" (321 : Nat) "PlatesSing" "size" "I") ∈ lw_all := lw_g (lw_at lw_m1 193 rfl) rfl
theorem q302 : (Jvm.Cond.fieldLink "PlatesSing" (47 : Nat) "PlatesSing" "sums" "[J") ∈ lw_all := lw_g (lw_at lw_m1 194 rfl) rfl
theorem q303 : (Jvm.Cond.fieldLink "PlatesSing" (50 : Nat) "PlatesSing" "rows" "[I") ∈ lw_all := lw_g (lw_at lw_m1 195 rfl) rfl
theorem q304 : (Jvm.Cond.fieldLink "PlatesSing" (53 : Nat) "PlatesSing" "heldToo" "I") ∈ lw_all := lw_g (lw_at lw_m1 196 rfl) rfl
theorem q305 : (Jvm.Cond.fieldLink "PlatesSing" (57 : Nat) "PlatesSing" "shuts" "[I") ∈ lw_all := lw_g (lw_at lw_m1 197 rfl) rfl
theorem q306 : (Jvm.Cond.fieldLink "PlatesSing" (60 : Nat) "PlatesSing" "savedStiff" "[I") ∈ lw_all := lw_g (lw_at lw_m1 198 rfl) rfl
theorem q307 : (Jvm.Cond.fieldLink "PlatesSing" (63 : Nat) "PlatesSing" "savedCrack" "[I") ∈ lw_all := lw_g (lw_at lw_m1 199 rfl) rfl
theorem q308 : (Jvm.Cond.fieldLink "PlatesSing" (66 : Nat) "PlatesSing" "savedHeavy" "[I") ∈ lw_all := lw_g (lw_at lw_m1 200 rfl) rfl
theorem q309 : (Jvm.Cond.fieldLink "PlatesSing" (69 : Nat) "PlatesSing" "order" "[I") ∈ lw_all := lw_g (lw_at lw_m1 201 rfl) rfl
theorem q310 : (Jvm.Cond.fieldLink "PlatesSing" (395 : Nat) "PlatesSing" "ordersMany" "I") ∈ lw_all := lw_g (lw_at lw_m1 202 rfl) rfl
theorem q311 : (Jvm.Cond.fieldLink "PlatesSing" (72 : Nat) "PlatesSing" "firstOrder" "[I") ∈ lw_all := lw_g (lw_at lw_m1 203 rfl) rfl
theorem q312 : (Jvm.Cond.fieldLink "PlatesSing" (75 : Nat) "PlatesSing" "reach" "[I") ∈ lw_all := lw_g (lw_at lw_m1 204 rfl) rfl
theorem q313 : (Jvm.Cond.fieldLink "PlatesSing" (429 : Nat) "PlatesSing" "listShape" "LPlatesSing$Shape;") ∈ lw_all := lw_g (lw_at lw_m1 205 rfl) rfl
theorem q314 : (Jvm.Cond.fieldLink "PlatesSing" (78 : Nat) "PlatesSing" "listA" "[I") ∈ lw_all := lw_g (lw_at lw_m1 206 rfl) rfl
theorem q315 : (Jvm.Cond.fieldLink "PlatesSing" (81 : Nat) "PlatesSing" "listB" "[I") ∈ lw_all := lw_g (lw_at lw_m1 207 rfl) rfl
theorem q316 : (Jvm.Cond.fieldLink "PlatesSing" (84 : Nat) "PlatesSing" "listOften" "[I") ∈ lw_all := lw_g (lw_at lw_m1 208 rfl) rfl
theorem q317 : (Jvm.Cond.fieldLink "PlatesSing" (426 : Nat) "PlatesSing" "listMany" "I") ∈ lw_all := lw_g (lw_at lw_m1 209 rfl) rfl
theorem q318 : (Jvm.Cond.fieldLink "PlatesSing" (87 : Nat) "PlatesSing" "wishTone" "[I") ∈ lw_all := lw_g (lw_at lw_m1 210 rfl) rfl
theorem q319 : (Jvm.Cond.fieldLink "PlatesSing" (90 : Nat) "PlatesSing" "wishPart" "[I") ∈ lw_all := lw_g (lw_at lw_m1 211 rfl) rfl
theorem q320 : (Jvm.Cond.fieldLink "PlatesSing" (93 : Nat) "PlatesSing" "wishShut" "[I") ∈ lw_all := lw_g (lw_at lw_m1 212 rfl) rfl
theorem q321 : (Jvm.Cond.fieldLink "PlatesSing" (432 : Nat) "PlatesSing" "wishes" "I") ∈ lw_all := lw_g (lw_at lw_m1 213 rfl) rfl
theorem q322 : (Jvm.Cond.fieldLink "PlatesSing" (445 : Nat) "PlatesSing" "fewest" "I") ∈ lw_all := lw_g (lw_at lw_m1 214 rfl) rfl
theorem q323 : (Jvm.Cond.fieldLink "PlatesSing" (448 : Nat) "PlatesSing" "fewestDigits" "I") ∈ lw_all := lw_g (lw_at lw_m1 215 rfl) rfl
theorem q324 : (Jvm.Cond.fieldLink "PlatesSing" (451 : Nat) "PlatesSing" "closest" "I") ∈ lw_all := lw_g (lw_at lw_m1 216 rfl) rfl
theorem q325 : (Jvm.Cond.fieldLink "PlatesSing" (454 : Nat) "PlatesSing" "closestMany" "I") ∈ lw_all := lw_g (lw_at lw_m1 217 rfl) rfl
theorem q326 : (Jvm.Cond.fieldLink "PlatesSing" (96 : Nat) "PlatesSing" "heardShut" "[I") ∈ lw_all := lw_g (lw_at lw_m1 218 rfl) rfl
theorem q327 : (Jvm.Cond.fieldLink "PlatesSing" (461 : Nat) "PlatesSing" "heardMany" "I") ∈ lw_all := lw_g (lw_at lw_m1 219 rfl) rfl
theorem q328 : (Jvm.Cond.fieldLink "PlatesSing" (464 : Nat) "PlatesSing" "fitMany" "I") ∈ lw_all := lw_g (lw_at lw_m1 220 rfl) rfl
theorem q329 : (Jvm.Cond.fieldLink "PlatesSing" (467 : Nat) "PlatesSing" "fitPiece" "I") ∈ lw_all := lw_g (lw_at lw_m1 221 rfl) rfl
theorem q330 : (Jvm.Cond.fieldLink "PlatesSing" (470 : Nat) "PlatesSing" "fitCrack" "I") ∈ lw_all := lw_g (lw_at lw_m1 222 rfl) rfl
theorem q331 : (Jvm.Cond.fieldLink "PlatesSing" (99 : Nat) "PlatesSing" "fitShut" "[I") ∈ lw_all := lw_g (lw_at lw_m1 223 rfl) rfl
theorem q332 : (Jvm.Cond.fieldLink "PlatesSing" (483 : Nat) "PlatesSing" "damp" "I") ∈ lw_all := lw_g (lw_at lw_m1 224 rfl) rfl
theorem q333 : (Jvm.Cond.fieldLink "PlatesSing" (102 : Nat) "PlatesSing" "earAt" "[I") ∈ lw_all := lw_g (lw_at lw_m1 225 rfl) rfl
theorem q334 : (Jvm.Cond.fieldLink "PlatesSing" (105 : Nat) "PlatesSing" "earWas" "[I") ∈ lw_all := lw_g (lw_at lw_m1 226 rfl) rfl
theorem q335 : (Jvm.Cond.fieldLink "PlatesSing" (108 : Nat) "PlatesSing" "earKept" "[I") ∈ lw_all := lw_g (lw_at lw_m1 227 rfl) rfl
theorem q336 : (Jvm.Cond.fieldLink "PlatesSing" (488 : Nat) "PlatesSing" "steps" "I") ∈ lw_all := lw_g (lw_at lw_m1 228 rfl) rfl
theorem q337 : (Jvm.Cond.fieldLink "PlatesSing" (111 : Nat) "PlatesSing" "away" "[I") ∈ lw_all := lw_g (lw_at lw_m1 229 rfl) rfl
theorem q338 : (Jvm.Cond.fieldLink "PlatesSing" (114 : Nat) "PlatesSing" "speed" "[I") ∈ lw_all := lw_g (lw_at lw_m1 230 rfl) rfl
theorem q339 : (Jvm.Cond.fieldLink "PlatesSing" (117 : Nat) "PlatesSing" "push" "[I") ∈ lw_all := lw_g (lw_at lw_m1 231 rfl) rfl
theorem q340 : (Jvm.Cond.fieldLink "PlatesSing" (120 : Nat) "PlatesSing" "rollCorner" "[I") ∈ lw_all := lw_g (lw_at lw_m1 232 rfl) rfl
theorem q341 : (Jvm.Cond.fieldLink "PlatesSing" (123 : Nat) "PlatesSing" "rollBy" "[I") ∈ lw_all := lw_g (lw_at lw_m1 233 rfl) rfl
theorem q342 : (Jvm.Cond.fieldLink "PlatesSing" (126 : Nat) "PlatesSing" "rollWhen" "[I") ∈ lw_all := lw_g (lw_at lw_m1 234 rfl) rfl
theorem q343 : (Jvm.Cond.fieldLink "PlatesSing" (491 : Nat) "PlatesSing" "rolls" "I") ∈ lw_all := lw_g (lw_at lw_m1 235 rfl) rfl
theorem q344 : (Jvm.Cond.fieldLink "PlatesSing" (129 : Nat) "PlatesSing" "sound" "[I") ∈ lw_all := lw_g (lw_at lw_m1 236 rfl) rfl
theorem q345 : (Jvm.Cond.fieldLink "PlatesSing" (527 : Nat) "PlatesSing" "sounds" "I") ∈ lw_all := lw_g (lw_at lw_m1 237 rfl) rfl
theorem q346 : (Jvm.Cond.fieldLink "PlatesSing" (132 : Nat) "PlatesSing" "ratioA" "[I") ∈ lw_all := lw_g (lw_at lw_m1 238 rfl) rfl
theorem q347 : (Jvm.Cond.fieldLink "PlatesSing" (135 : Nat) "PlatesSing" "ratioB" "[I") ∈ lw_all := lw_g (lw_at lw_m1 239 rfl) rfl
theorem q348 : (Jvm.Cond.fieldLink "PlatesSing" (553 : Nat) "PlatesSing" "ratios" "I") ∈ lw_all := lw_g (lw_at lw_m2 0 rfl) rfl
theorem q349 : (Jvm.Cond.fieldLink "PlatesSing" (138 : Nat) "PlatesSing" "lowest" "[I") ∈ lw_all := lw_g (lw_at lw_m2 1 rfl) rfl
theorem q350 : (Jvm.Cond.fieldLink "PlatesSing" (141 : Nat) "PlatesSing" "shelves" "[Ljava/lang/Object;") ∈ lw_all := lw_g (lw_at lw_m2 2 rfl) rfl
theorem q351 : (Jvm.Cond.laysFinal "PlatesSing" "PlatesSing" "bodies" "[LPlatesSing$Part;") ∈ lw_all := lw_g (lw_at lw_m2 3 rfl) rfl
theorem q352 : (Jvm.Cond.soleField "PlatesSing" "bodies") ∈ lw_all := lw_g (lw_at lw_m2 4 rfl) rfl
theorem q353 : (Jvm.Cond.lays "PlatesSing" "PlatesSing" "bodyMany" "I") ∈ lw_all := lw_g (lw_at lw_m2 5 rfl) rfl
theorem q354 : (Jvm.Cond.soleField "PlatesSing" "bodyMany") ∈ lw_all := lw_g (lw_at lw_m2 6 rfl) rfl
theorem q355 : (Jvm.Cond.laysFinal "PlatesSing" "PlatesSing" "trace" "[I") ∈ lw_all := lw_g (lw_at lw_m2 7 rfl) rfl
theorem q356 : (Jvm.Cond.soleField "PlatesSing" "trace") ∈ lw_all := lw_g (lw_at lw_m2 8 rfl) rfl
theorem q357 : (Jvm.Cond.lays "PlatesSing" "PlatesSing" "ran" "I") ∈ lw_all := lw_g (lw_at lw_m2 9 rfl) rfl
theorem q358 : (Jvm.Cond.soleField "PlatesSing" "ran") ∈ lw_all := lw_g (lw_at lw_m2 10 rfl) rfl
theorem q359 : (Jvm.Cond.laysFinal "PlatesSing" "PlatesSing" "shapes" "[LPlatesSing$Shape;") ∈ lw_all := lw_g (lw_at lw_m2 11 rfl) rfl
theorem q360 : (Jvm.Cond.soleField "PlatesSing" "shapes") ∈ lw_all := lw_g (lw_at lw_m2 12 rfl) rfl
theorem q361 : (Jvm.Cond.lays "PlatesSing" "PlatesSing" "shapeMany" "I") ∈ lw_all := lw_g (lw_at lw_m2 13 rfl) rfl
theorem q362 : (Jvm.Cond.soleField "PlatesSing" "shapeMany") ∈ lw_all := lw_g (lw_at lw_m2 14 rfl) rfl
theorem q363 : (Jvm.Cond.laysFinal "PlatesSing" "PlatesSing" "tape" "[I") ∈ lw_all := lw_g (lw_at lw_m2 15 rfl) rfl
theorem q364 : (Jvm.Cond.soleField "PlatesSing" "tape") ∈ lw_all := lw_g (lw_at lw_m2 16 rfl) rfl
theorem q365 : (Jvm.Cond.lays "PlatesSing" "PlatesSing" "length" "I") ∈ lw_all := lw_g (lw_at lw_m2 17 rfl) rfl
theorem q366 : (Jvm.Cond.soleField "PlatesSing" "length") ∈ lw_all := lw_g (lw_at lw_m2 18 rfl) rfl
theorem q367 : (Jvm.Cond.laysFinal "PlatesSing" "PlatesSing" "reader" "LPlatesSing$Reader;") ∈ lw_all := lw_g (lw_at lw_m2 19 rfl) rfl
theorem q368 : (Jvm.Cond.soleField "PlatesSing" "reader") ∈ lw_all := lw_g (lw_at lw_m2 20 rfl) rfl
theorem q369 : (Jvm.Cond.laysFinal "PlatesSing" "PlatesSing" "kept" "[LPlatesSing$Act;") ∈ lw_all := lw_g (lw_at lw_m2 21 rfl) rfl
theorem q370 : (Jvm.Cond.soleField "PlatesSing" "kept") ∈ lw_all := lw_g (lw_at lw_m2 22 rfl) rfl
theorem q371 : (Jvm.Cond.lays "PlatesSing" "PlatesSing" "keptMany" "I") ∈ lw_all := lw_g (lw_at lw_m2 23 rfl) rfl
theorem q372 : (Jvm.Cond.soleField "PlatesSing" "keptMany") ∈ lw_all := lw_g (lw_at lw_m2 24 rfl) rfl
theorem q373 : (Jvm.Cond.lays "PlatesSing" "PlatesSing" "done" "I") ∈ lw_all := lw_g (lw_at lw_m2 25 rfl) rfl
theorem q374 : (Jvm.Cond.soleField "PlatesSing" "done") ∈ lw_all := lw_g (lw_at lw_m2 26 rfl) rfl
theorem q375 : (Jvm.Cond.laysFinal "PlatesSing" "PlatesSing" "matrix" "[J") ∈ lw_all := lw_g (lw_at lw_m2 27 rfl) rfl
theorem q376 : (Jvm.Cond.soleField "PlatesSing" "matrix") ∈ lw_all := lw_g (lw_at lw_m2 28 rfl) rfl
theorem q377 : (Jvm.Cond.lays "PlatesSing" "PlatesSing" "size" "I") ∈ lw_all := lw_g (lw_at lw_m2 29 rfl) rfl
theorem q378 : (Jvm.Cond.soleField "PlatesSing" "size") ∈ lw_all := lw_g (lw_at lw_m2 30 rfl) rfl
theorem q379 : (Jvm.Cond.laysFinal "PlatesSing" "PlatesSing" "sums" "[J") ∈ lw_all := lw_g (lw_at lw_m2 31 rfl) rfl
theorem q380 : (Jvm.Cond.soleField "PlatesSing" "sums") ∈ lw_all := lw_g (lw_at lw_m2 32 rfl) rfl
theorem q381 : (Jvm.Cond.laysFinal "PlatesSing" "PlatesSing" "rows" "[I") ∈ lw_all := lw_g (lw_at lw_m2 33 rfl) rfl
theorem q382 : (Jvm.Cond.soleField "PlatesSing" "rows") ∈ lw_all := lw_g (lw_at lw_m2 34 rfl) rfl
theorem q383 : (Jvm.Cond.lays "PlatesSing" "PlatesSing" "heldToo" "I") ∈ lw_all := lw_g (lw_at lw_m2 35 rfl) rfl
theorem q384 : (Jvm.Cond.soleField "PlatesSing" "heldToo") ∈ lw_all := lw_g (lw_at lw_m2 36 rfl) rfl
theorem q385 : (Jvm.Cond.laysFinal "PlatesSing" "PlatesSing" "shuts" "[I") ∈ lw_all := lw_g (lw_at lw_m2 37 rfl) rfl
theorem q386 : (Jvm.Cond.soleField "PlatesSing" "shuts") ∈ lw_all := lw_g (lw_at lw_m2 38 rfl) rfl
theorem q387 : (Jvm.Cond.laysFinal "PlatesSing" "PlatesSing" "savedStiff" "[I") ∈ lw_all := lw_g (lw_at lw_m2 39 rfl) rfl
theorem q388 : (Jvm.Cond.soleField "PlatesSing" "savedStiff") ∈ lw_all := lw_g (lw_at lw_m2 40 rfl) rfl
theorem q389 : (Jvm.Cond.laysFinal "PlatesSing" "PlatesSing" "savedCrack" "[I") ∈ lw_all := lw_g (lw_at lw_m2 41 rfl) rfl
theorem q390 : (Jvm.Cond.soleField "PlatesSing" "savedCrack") ∈ lw_all := lw_g (lw_at lw_m2 42 rfl) rfl
theorem q391 : (Jvm.Cond.laysFinal "PlatesSing" "PlatesSing" "savedHeavy" "[I") ∈ lw_all := lw_g (lw_at lw_m2 43 rfl) rfl
theorem q392 : (Jvm.Cond.soleField "PlatesSing" "savedHeavy") ∈ lw_all := lw_g (lw_at lw_m2 44 rfl) rfl
theorem q393 : (Jvm.Cond.laysFinal "PlatesSing" "PlatesSing" "order" "[I") ∈ lw_all := lw_g (lw_at lw_m2 45 rfl) rfl
theorem q394 : (Jvm.Cond.soleField "PlatesSing" "order") ∈ lw_all := lw_g (lw_at lw_m2 46 rfl) rfl
theorem q395 : (Jvm.Cond.lays "PlatesSing" "PlatesSing" "ordersMany" "I") ∈ lw_all := lw_g (lw_at lw_m2 47 rfl) rfl
theorem q396 : (Jvm.Cond.soleField "PlatesSing" "ordersMany") ∈ lw_all := lw_g (lw_at lw_m2 48 rfl) rfl
theorem q397 : (Jvm.Cond.laysFinal "PlatesSing" "PlatesSing" "firstOrder" "[I") ∈ lw_all := lw_g (lw_at lw_m2 49 rfl) rfl
theorem q398 : (Jvm.Cond.soleField "PlatesSing" "firstOrder") ∈ lw_all := lw_g (lw_at lw_m2 50 rfl) rfl
theorem q399 : (Jvm.Cond.laysFinal "PlatesSing" "PlatesSing" "reach" "[I") ∈ lw_all := lw_g (lw_at lw_m2 51 rfl) rfl
theorem q400 : (Jvm.Cond.soleField "PlatesSing" "reach") ∈ lw_all := lw_g (lw_at lw_m2 52 rfl) rfl
theorem q401 : (Jvm.Cond.lays "PlatesSing" "PlatesSing" "listShape" "LPlatesSing$Shape;") ∈ lw_all := lw_g (lw_at lw_m2 53 rfl) rfl
theorem q402 : (Jvm.Cond.soleField "PlatesSing" "listShape") ∈ lw_all := lw_g (lw_at lw_m2 54 rfl) rfl
theorem q403 : (Jvm.Cond.laysFinal "PlatesSing" "PlatesSing" "listA" "[I") ∈ lw_all := lw_g (lw_at lw_m2 55 rfl) rfl
theorem q404 : (Jvm.Cond.soleField "PlatesSing" "listA") ∈ lw_all := lw_g (lw_at lw_m2 56 rfl) rfl
theorem q405 : (Jvm.Cond.laysFinal "PlatesSing" "PlatesSing" "listB" "[I") ∈ lw_all := lw_g (lw_at lw_m2 57 rfl) rfl
theorem q406 : (Jvm.Cond.soleField "PlatesSing" "listB") ∈ lw_all := lw_g (lw_at lw_m2 58 rfl) rfl
theorem q407 : (Jvm.Cond.laysFinal "PlatesSing" "PlatesSing" "listOften" "[I") ∈ lw_all := lw_g (lw_at lw_m2 59 rfl) rfl
theorem q408 : (Jvm.Cond.soleField "PlatesSing" "listOften") ∈ lw_all := lw_g (lw_at lw_m2 60 rfl) rfl
theorem q409 : (Jvm.Cond.lays "PlatesSing" "PlatesSing" "listMany" "I") ∈ lw_all := lw_g (lw_at lw_m2 61 rfl) rfl
theorem q410 : (Jvm.Cond.soleField "PlatesSing" "listMany") ∈ lw_all := lw_g (lw_at lw_m2 62 rfl) rfl
theorem q411 : (Jvm.Cond.laysFinal "PlatesSing" "PlatesSing" "wishTone" "[I") ∈ lw_all := lw_g (lw_at lw_m2 63 rfl) rfl
theorem q412 : (Jvm.Cond.soleField "PlatesSing" "wishTone") ∈ lw_all := lw_g (lw_at lw_m2 64 rfl) rfl
theorem q413 : (Jvm.Cond.laysFinal "PlatesSing" "PlatesSing" "wishPart" "[I") ∈ lw_all := lw_g (lw_at lw_m2 65 rfl) rfl
theorem q414 : (Jvm.Cond.soleField "PlatesSing" "wishPart") ∈ lw_all := lw_g (lw_at lw_m2 66 rfl) rfl
theorem q415 : (Jvm.Cond.laysFinal "PlatesSing" "PlatesSing" "wishShut" "[I") ∈ lw_all := lw_g (lw_at lw_m2 67 rfl) rfl
theorem q416 : (Jvm.Cond.soleField "PlatesSing" "wishShut") ∈ lw_all := lw_g (lw_at lw_m2 68 rfl) rfl
theorem q417 : (Jvm.Cond.lays "PlatesSing" "PlatesSing" "wishes" "I") ∈ lw_all := lw_g (lw_at lw_m2 69 rfl) rfl
theorem q418 : (Jvm.Cond.soleField "PlatesSing" "wishes") ∈ lw_all := lw_g (lw_at lw_m2 70 rfl) rfl
theorem q419 : (Jvm.Cond.lays "PlatesSing" "PlatesSing" "fewest" "I") ∈ lw_all := lw_g (lw_at lw_m2 71 rfl) rfl
theorem q420 : (Jvm.Cond.soleField "PlatesSing" "fewest") ∈ lw_all := lw_g (lw_at lw_m2 72 rfl) rfl
theorem q421 : (Jvm.Cond.lays "PlatesSing" "PlatesSing" "fewestDigits" "I") ∈ lw_all := lw_g (lw_at lw_m2 73 rfl) rfl
theorem q422 : (Jvm.Cond.soleField "PlatesSing" "fewestDigits") ∈ lw_all := lw_g (lw_at lw_m2 74 rfl) rfl
theorem q423 : (Jvm.Cond.lays "PlatesSing" "PlatesSing" "closest" "I") ∈ lw_all := lw_g (lw_at lw_m2 75 rfl) rfl
theorem q424 : (Jvm.Cond.soleField "PlatesSing" "closest") ∈ lw_all := lw_g (lw_at lw_m2 76 rfl) rfl
theorem q425 : (Jvm.Cond.lays "PlatesSing" "PlatesSing" "closestMany" "I") ∈ lw_all := lw_g (lw_at lw_m2 77 rfl) rfl
theorem q426 : (Jvm.Cond.soleField "PlatesSing" "closestMany") ∈ lw_all := lw_g (lw_at lw_m2 78 rfl) rfl
theorem q427 : (Jvm.Cond.laysFinal "PlatesSing" "PlatesSing" "heardShut" "[I") ∈ lw_all := lw_g (lw_at lw_m2 79 rfl) rfl
theorem q428 : (Jvm.Cond.soleField "PlatesSing" "heardShut") ∈ lw_all := lw_g (lw_at lw_m2 80 rfl) rfl
theorem q429 : (Jvm.Cond.lays "PlatesSing" "PlatesSing" "heardMany" "I") ∈ lw_all := lw_g (lw_at lw_m2 81 rfl) rfl
theorem q430 : (Jvm.Cond.soleField "PlatesSing" "heardMany") ∈ lw_all := lw_g (lw_at lw_m2 82 rfl) rfl
theorem q431 : (Jvm.Cond.lays "PlatesSing" "PlatesSing" "fitMany" "I") ∈ lw_all := lw_g (lw_at lw_m2 83 rfl) rfl
theorem q432 : (Jvm.Cond.soleField "PlatesSing" "fitMany") ∈ lw_all := lw_g (lw_at lw_m2 84 rfl) rfl
theorem q433 : (Jvm.Cond.lays "PlatesSing" "PlatesSing" "fitPiece" "I") ∈ lw_all := lw_g (lw_at lw_m2 85 rfl) rfl
theorem q434 : (Jvm.Cond.soleField "PlatesSing" "fitPiece") ∈ lw_all := lw_g (lw_at lw_m2 86 rfl) rfl
theorem q435 : (Jvm.Cond.lays "PlatesSing" "PlatesSing" "fitCrack" "I") ∈ lw_all := lw_g (lw_at lw_m2 87 rfl) rfl
theorem q436 : (Jvm.Cond.soleField "PlatesSing" "fitCrack") ∈ lw_all := lw_g (lw_at lw_m2 88 rfl) rfl
theorem q437 : (Jvm.Cond.laysFinal "PlatesSing" "PlatesSing" "fitShut" "[I") ∈ lw_all := lw_g (lw_at lw_m2 89 rfl) rfl
theorem q438 : (Jvm.Cond.soleField "PlatesSing" "fitShut") ∈ lw_all := lw_g (lw_at lw_m2 90 rfl) rfl
theorem q439 : (Jvm.Cond.lays "PlatesSing" "PlatesSing" "damp" "I") ∈ lw_all := lw_g (lw_at lw_m2 91 rfl) rfl
theorem q440 : (Jvm.Cond.soleField "PlatesSing" "damp") ∈ lw_all := lw_g (lw_at lw_m2 92 rfl) rfl
theorem q441 : (Jvm.Cond.laysFinal "PlatesSing" "PlatesSing" "earAt" "[I") ∈ lw_all := lw_g (lw_at lw_m2 93 rfl) rfl
theorem q442 : (Jvm.Cond.soleField "PlatesSing" "earAt") ∈ lw_all := lw_g (lw_at lw_m2 94 rfl) rfl
theorem q443 : (Jvm.Cond.laysFinal "PlatesSing" "PlatesSing" "earWas" "[I") ∈ lw_all := lw_g (lw_at lw_m2 95 rfl) rfl
theorem q444 : (Jvm.Cond.soleField "PlatesSing" "earWas") ∈ lw_all := lw_g (lw_at lw_m2 96 rfl) rfl
theorem q445 : (Jvm.Cond.laysFinal "PlatesSing" "PlatesSing" "earKept" "[I") ∈ lw_all := lw_g (lw_at lw_m2 97 rfl) rfl
theorem q446 : (Jvm.Cond.soleField "PlatesSing" "earKept") ∈ lw_all := lw_g (lw_at lw_m2 98 rfl) rfl
theorem q447 : (Jvm.Cond.lays "PlatesSing" "PlatesSing" "steps" "I") ∈ lw_all := lw_g (lw_at lw_m2 99 rfl) rfl
theorem q448 : (Jvm.Cond.soleField "PlatesSing" "steps") ∈ lw_all := lw_g (lw_at lw_m2 100 rfl) rfl
theorem q449 : (Jvm.Cond.laysFinal "PlatesSing" "PlatesSing" "away" "[I") ∈ lw_all := lw_g (lw_at lw_m2 101 rfl) rfl
theorem q450 : (Jvm.Cond.soleField "PlatesSing" "away") ∈ lw_all := lw_g (lw_at lw_m2 102 rfl) rfl
theorem q451 : (Jvm.Cond.laysFinal "PlatesSing" "PlatesSing" "speed" "[I") ∈ lw_all := lw_g (lw_at lw_m2 103 rfl) rfl
theorem q452 : (Jvm.Cond.soleField "PlatesSing" "speed") ∈ lw_all := lw_g (lw_at lw_m2 104 rfl) rfl
theorem q453 : (Jvm.Cond.laysFinal "PlatesSing" "PlatesSing" "push" "[I") ∈ lw_all := lw_g (lw_at lw_m2 105 rfl) rfl
theorem q454 : (Jvm.Cond.soleField "PlatesSing" "push") ∈ lw_all := lw_g (lw_at lw_m2 106 rfl) rfl
theorem q455 : (Jvm.Cond.laysFinal "PlatesSing" "PlatesSing" "rollCorner" "[I") ∈ lw_all := lw_g (lw_at lw_m2 107 rfl) rfl
theorem q456 : (Jvm.Cond.soleField "PlatesSing" "rollCorner") ∈ lw_all := lw_g (lw_at lw_m2 108 rfl) rfl
theorem q457 : (Jvm.Cond.laysFinal "PlatesSing" "PlatesSing" "rollBy" "[I") ∈ lw_all := lw_g (lw_at lw_m2 109 rfl) rfl
theorem q458 : (Jvm.Cond.soleField "PlatesSing" "rollBy") ∈ lw_all := lw_g (lw_at lw_m2 110 rfl) rfl
theorem q459 : (Jvm.Cond.laysFinal "PlatesSing" "PlatesSing" "rollWhen" "[I") ∈ lw_all := lw_g (lw_at lw_m2 111 rfl) rfl
theorem q460 : (Jvm.Cond.soleField "PlatesSing" "rollWhen") ∈ lw_all := lw_g (lw_at lw_m2 112 rfl) rfl
theorem q461 : (Jvm.Cond.lays "PlatesSing" "PlatesSing" "rolls" "I") ∈ lw_all := lw_g (lw_at lw_m2 113 rfl) rfl
theorem q462 : (Jvm.Cond.soleField "PlatesSing" "rolls") ∈ lw_all := lw_g (lw_at lw_m2 114 rfl) rfl
theorem q463 : (Jvm.Cond.laysFinal "PlatesSing" "PlatesSing" "sound" "[I") ∈ lw_all := lw_g (lw_at lw_m2 115 rfl) rfl
theorem q464 : (Jvm.Cond.soleField "PlatesSing" "sound") ∈ lw_all := lw_g (lw_at lw_m2 116 rfl) rfl
theorem q465 : (Jvm.Cond.lays "PlatesSing" "PlatesSing" "sounds" "I") ∈ lw_all := lw_g (lw_at lw_m2 117 rfl) rfl
theorem q466 : (Jvm.Cond.soleField "PlatesSing" "sounds") ∈ lw_all := lw_g (lw_at lw_m2 118 rfl) rfl
theorem q467 : (Jvm.Cond.laysFinal "PlatesSing" "PlatesSing" "ratioA" "[I") ∈ lw_all := lw_g (lw_at lw_m2 119 rfl) rfl
theorem q468 : (Jvm.Cond.soleField "PlatesSing" "ratioA") ∈ lw_all := lw_g (lw_at lw_m2 120 rfl) rfl
theorem q469 : (Jvm.Cond.laysFinal "PlatesSing" "PlatesSing" "ratioB" "[I") ∈ lw_all := lw_g (lw_at lw_m2 121 rfl) rfl
theorem q470 : (Jvm.Cond.soleField "PlatesSing" "ratioB") ∈ lw_all := lw_g (lw_at lw_m2 122 rfl) rfl
theorem q471 : (Jvm.Cond.lays "PlatesSing" "PlatesSing" "ratios" "I") ∈ lw_all := lw_g (lw_at lw_m2 123 rfl) rfl
theorem q472 : (Jvm.Cond.soleField "PlatesSing" "ratios") ∈ lw_all := lw_g (lw_at lw_m2 124 rfl) rfl
theorem q473 : (Jvm.Cond.laysFinal "PlatesSing" "PlatesSing" "lowest" "[I") ∈ lw_all := lw_g (lw_at lw_m2 125 rfl) rfl
theorem q474 : (Jvm.Cond.soleField "PlatesSing" "lowest") ∈ lw_all := lw_g (lw_at lw_m2 126 rfl) rfl
theorem q475 : (Jvm.Cond.laysFinal "PlatesSing" "PlatesSing" "shelves" "[Ljava/lang/Object;") ∈ lw_all := lw_g (lw_at lw_m2 127 rfl) rfl
theorem q476 : (Jvm.Cond.soleField "PlatesSing" "shelves") ∈ lw_all := lw_g (lw_at lw_m2 128 rfl) rfl
theorem q477 : (Jvm.Cond.superclass "PlatesSing" "java/lang/Object") ∈ lw_all := lw_g (lw_at lw_m2 129 rfl) rfl
theorem q479 : (Jvm.Cond.instanceMethod ({ cls := "PlatesSing", name := "body", desc := "(I)I" } : Jvm.MethodName)) ∈ lw_all := lw_g (lw_at lw_m2 131 rfl) rfl
theorem q480 : (Jvm.Cond.selects "PlatesSing" ({ cls := "PlatesSing", name := "body", desc := "(I)I" } : Jvm.MethodName) ({ cls := "PlatesSing", name := "body", desc := "(I)I" } : Jvm.MethodName)) ∈ lw_all := lw_g (lw_at lw_m2 132 rfl) rfl
theorem q481 : (Jvm.Cond.code ({ cls := "PlatesSing", name := "body", desc := "(I)I" } : Jvm.MethodName) prog_1_method_7_code (2 : Nat) (Option.some Jvm.ClassFile.FieldType.int)) ∈ lw_all := lw_g (lw_at lw_m2 133 rfl) rfl
theorem q482 : (Jvm.Cond.constantLong "PlatesSing" (174 : Nat) (5 : Int64)) ∈ lw_all := lw_g (lw_at lw_m2 134 rfl) rfl
theorem q483 : (Jvm.Cond.methodLink "PlatesSing" (152 : Nat) ({ cls := "PlatesSing", name := "within", desc := "(JJJ)Z" } : Jvm.MethodName)) ∈ lw_all := lw_g (lw_at lw_m2 135 rfl) rfl
theorem q484 : (Jvm.Cond.static ({ cls := "PlatesSing", name := "within", desc := "(JJJ)Z" } : Jvm.MethodName)) ∈ lw_all := lw_g (lw_at lw_m2 136 rfl) rfl
theorem q485 : (Jvm.Cond.code ({ cls := "PlatesSing", name := "within", desc := "(JJJ)Z" } : Jvm.MethodName) prog_1_method_1_code (6 : Nat) (Option.some Jvm.ClassFile.FieldType.boolean)) ∈ lw_all := lw_g (lw_at lw_m2 137 rfl) rfl
theorem q486 : (Jvm.Cond.methodLink "PlatesSing" (176 : Nat) ({ cls := "PlatesSing", name := "made", desc := "(II)LPlatesSing$Part;" } : Jvm.MethodName)) ∈ lw_all := lw_g (lw_at lw_m2 138 rfl) rfl
theorem q487 : (Jvm.Cond.privateMethod ({ cls := "PlatesSing", name := "made", desc := "(II)LPlatesSing$Part;" } : Jvm.MethodName)) ∈ lw_tbl := lw_at lw_m2 139 rfl
theorem q488 : (Jvm.Cond.instanceMethod ({ cls := "PlatesSing", name := "made", desc := "(II)LPlatesSing$Part;" } : Jvm.MethodName)) ∈ lw_all := lw_g (lw_at lw_m2 140 rfl) rfl
theorem q489 : (Jvm.Cond.code ({ cls := "PlatesSing", name := "made", desc := "(II)LPlatesSing$Part;" } : Jvm.MethodName) prog_1_method_6_code (3 : Nat) (Option.some (Jvm.ClassFile.FieldType.object "PlatesSing$Part"))) ∈ lw_all := lw_g (lw_at lw_m2 141 rfl) rfl
theorem q491 : (Jvm.Cond.methodLink "PlatesSing" (156 : Nat) ({ cls := "PlatesSing$Part", name := "<init>", desc := "(LPlatesSing;I)V" } : Jvm.MethodName)) ∈ lw_all := lw_g (lw_at lw_m2 143 rfl) rfl
theorem q496 : (Jvm.Cond.fieldLinkNest "PlatesSing" (146 : Nat) "PlatesSing$Part" "number" "I" "PlatesSing") ∈ lw_tbl := lw_at lw_m2 148 rfl
theorem q503 : (Jvm.Cond.classLink "PlatesSing" (159 : Nat) "PlatesSing$Piece") ∈ lw_all := lw_g (lw_at lw_m2 155 rfl) rfl
theorem q505 : (Jvm.Cond.methodLink "PlatesSing" (161 : Nat) ({ cls := "PlatesSing$Piece", name := "<init>", desc := "(LPlatesSing;I)V" } : Jvm.MethodName)) ∈ lw_all := lw_g (lw_at lw_m2 157 rfl) rfl
theorem q510 : (Jvm.Cond.fieldLinkNest "PlatesSing" (186 : Nat) "PlatesSing$Piece" "from" "I" "PlatesSing") ∈ lw_tbl := lw_at lw_m2 162 rfl
theorem q512 : (Jvm.Cond.fieldLinkNest "PlatesSing" (192 : Nat) "PlatesSing$Piece" "to" "I" "PlatesSing") ∈ lw_tbl := lw_at lw_m2 164 rfl
theorem q514 : (Jvm.Cond.fieldLinkNest "PlatesSing" (195 : Nat) "PlatesSing$Piece" "stiff" "I" "PlatesSing") ∈ lw_tbl := lw_at lw_m2 166 rfl
theorem q516 : (Jvm.Cond.fieldLinkNest "PlatesSing" (264 : Nat) "PlatesSing$Piece" "crack" "I" "PlatesSing") ∈ lw_tbl := lw_at lw_m2 168 rfl
theorem q531 : (Jvm.Cond.classLink "PlatesSing" (162 : Nat) "PlatesSing$Held") ∈ lw_all := lw_g (lw_at lw_m2 183 rfl) rfl
theorem q533 : (Jvm.Cond.methodLink "PlatesSing" (164 : Nat) ({ cls := "PlatesSing$Held", name := "<init>", desc := "(LPlatesSing;I)V" } : Jvm.MethodName)) ∈ lw_all := lw_g (lw_at lw_m2 185 rfl) rfl
theorem q548 : (Jvm.Cond.classLink "PlatesSing" (165 : Nat) "PlatesSing$Weighted") ∈ lw_all := lw_g (lw_at lw_m2 200 rfl) rfl
theorem q550 : (Jvm.Cond.methodLink "PlatesSing" (167 : Nat) ({ cls := "PlatesSing$Weighted", name := "<init>", desc := "(LPlatesSing;I)V" } : Jvm.MethodName)) ∈ lw_all := lw_g (lw_at lw_m2 202 rfl) rfl
theorem q560 : (Jvm.Cond.classLink "PlatesSing" (168 : Nat) "PlatesSing$Cracked") ∈ lw_all := lw_g (lw_at lw_m2 212 rfl) rfl
theorem q562 : (Jvm.Cond.methodLink "PlatesSing" (170 : Nat) ({ cls := "PlatesSing$Cracked", name := "<init>", desc := "(LPlatesSing;I)V" } : Jvm.MethodName)) ∈ lw_all := lw_g (lw_at lw_m2 214 rfl) rfl
theorem q577 : (Jvm.Cond.classLink "PlatesSing" (171 : Nat) "PlatesSing$Bent") ∈ lw_all := lw_g (lw_at lw_m2 229 rfl) rfl
theorem q579 : (Jvm.Cond.methodLink "PlatesSing" (173 : Nat) ({ cls := "PlatesSing$Bent", name := "<init>", desc := "(LPlatesSing;I)V" } : Jvm.MethodName)) ∈ lw_all := lw_g (lw_at lw_m2 231 rfl) rfl
theorem q596 : (Jvm.Cond.instanceMethod ({ cls := "PlatesSing", name := "feed", desc := "(II)I" } : Jvm.MethodName)) ∈ lw_all := lw_g (lw_at lw_m3 8 rfl) rfl
theorem q597 : (Jvm.Cond.selects "PlatesSing" ({ cls := "PlatesSing", name := "feed", desc := "(II)I" } : Jvm.MethodName) ({ cls := "PlatesSing", name := "feed", desc := "(II)I" } : Jvm.MethodName)) ∈ lw_all := lw_g (lw_at lw_m3 9 rfl) rfl
theorem q598 : (Jvm.Cond.code ({ cls := "PlatesSing", name := "feed", desc := "(II)I" } : Jvm.MethodName) prog_1_method_11_code (4 : Nat) (Option.some Jvm.ClassFile.FieldType.int)) ∈ lw_all := lw_g (lw_at lw_m3 10 rfl) rfl
theorem q599 : (Jvm.Cond.constantLong "PlatesSing" (209 : Nat) (4 : Int64)) ∈ lw_all := lw_g (lw_at lw_m3 11 rfl) rfl
theorem q601 : (Jvm.Cond.instanceMethod ({ cls := "PlatesSing", name := "shape", desc := "()I" } : Jvm.MethodName)) ∈ lw_all := lw_g (lw_at lw_m3 13 rfl) rfl
theorem q602 : (Jvm.Cond.selects "PlatesSing" ({ cls := "PlatesSing", name := "shape", desc := "()I" } : Jvm.MethodName) ({ cls := "PlatesSing", name := "shape", desc := "()I" } : Jvm.MethodName)) ∈ lw_all := lw_g (lw_at lw_m3 14 rfl) rfl
theorem q603 : (Jvm.Cond.code ({ cls := "PlatesSing", name := "shape", desc := "()I" } : Jvm.MethodName) prog_1_method_12_code (2 : Nat) (Option.some Jvm.ClassFile.FieldType.int)) ∈ lw_all := lw_g (lw_at lw_m3 15 rfl) rfl
theorem q604 : (Jvm.Cond.methodLink "PlatesSing" (214 : Nat) ({ cls := "PlatesSing$Reader", name := "read", desc := "()I" } : Jvm.MethodName)) ∈ lw_all := lw_g (lw_at lw_m3 16 rfl) rfl
theorem q632 : (Jvm.Cond.methodLink "PlatesSing" (221 : Nat) ({ cls := "PlatesSing$Reader", name := "make", desc := "()LPlatesSing$Shape;" } : Jvm.MethodName)) ∈ lw_all := lw_g (lw_at lw_m3 44 rfl) rfl
theorem q645 : (Jvm.Cond.fieldLinkNest "PlatesSing" (226 : Nat) "PlatesSing$Shape" "corners" "I" "PlatesSing") ∈ lw_tbl := lw_at lw_m3 57 rfl
theorem q648 : (Jvm.Cond.fieldLinkNest "PlatesSing" (233 : Nat) "PlatesSing$Shape" "heavy" "[I" "PlatesSing") ∈ lw_tbl := lw_at lw_m3 60 rfl
theorem q651 : (Jvm.Cond.fieldLinkNest "PlatesSing" (236 : Nat) "PlatesSing$Shape" "pad" "[I" "PlatesSing") ∈ lw_tbl := lw_at lw_m3 63 rfl
theorem q654 : (Jvm.Cond.fieldLinkNest "PlatesSing" (239 : Nat) "PlatesSing$Shape" "weight" "[I" "PlatesSing") ∈ lw_tbl := lw_at lw_m3 66 rfl
theorem q657 : (Jvm.Cond.fieldLinkNest "PlatesSing" (242 : Nat) "PlatesSing$Shape" "isHeld" "[Z" "PlatesSing") ∈ lw_tbl := lw_at lw_m3 69 rfl
theorem q660 : (Jvm.Cond.fieldLinkNest "PlatesSing" (317 : Nat) "PlatesSing$Shape" "pieces" "[LPlatesSing$Piece;" "PlatesSing") ∈ lw_tbl := lw_at lw_m3 72 rfl
theorem q663 : (Jvm.Cond.fieldLinkNest "PlatesSing" (229 : Nat) "PlatesSing$Shape" "many" "I" "PlatesSing") ∈ lw_tbl := lw_at lw_m3 75 rfl
theorem q664 : (Jvm.Cond.fieldLinkNest "PlatesSing" (576 : Nat) "PlatesSing$Shape" "first" "LPlatesSing$Shape;" "PlatesSing") ∈ lw_tbl := lw_at lw_m3 76 rfl
theorem q665 : (Jvm.Cond.fieldLinkNest "PlatesSing" (579 : Nat) "PlatesSing$Shape" "second" "LPlatesSing$Shape;" "PlatesSing") ∈ lw_tbl := lw_at lw_m3 77 rfl
theorem q689 : (Jvm.Cond.privateMethod ({ cls := "PlatesSing", name := "newPiece", desc := "(III)LPlatesSing$Piece;" } : Jvm.MethodName)) ∈ lw_tbl := lw_at lw_m3 101 rfl
theorem q690 : (Jvm.Cond.instanceMethod ({ cls := "PlatesSing", name := "newPiece", desc := "(III)LPlatesSing$Piece;" } : Jvm.MethodName)) ∈ lw_all := lw_g (lw_at lw_m3 102 rfl) rfl
theorem q691 : (Jvm.Cond.code ({ cls := "PlatesSing", name := "newPiece", desc := "(III)LPlatesSing$Piece;" } : Jvm.MethodName) prog_1_method_8_code (5 : Nat) (Option.some (Jvm.ClassFile.FieldType.object "PlatesSing$Piece"))) ∈ lw_all := lw_g (lw_at lw_m3 103 rfl) rfl
theorem q692 : (Jvm.Cond.methodLink "PlatesSing" (180 : Nat) ({ cls := "java/lang/Math", name := "min", desc := "(II)I" } : Jvm.MethodName)) ∈ lw_all := lw_g (lw_at lw_m3 104 rfl) rfl
theorem q695 : (Jvm.Cond.methodLink "PlatesSing" (189 : Nat) ({ cls := "java/lang/Math", name := "max", desc := "(II)I" } : Jvm.MethodName)) ∈ lw_all := lw_g (lw_at lw_m3 107 rfl) rfl
theorem q699 : (Jvm.Cond.instanceMethod ({ cls := "PlatesSing", name := "of", desc := "(II)I" } : Jvm.MethodName)) ∈ lw_all := lw_g (lw_at lw_m3 111 rfl) rfl
theorem q700 : (Jvm.Cond.selects "PlatesSing" ({ cls := "PlatesSing", name := "of", desc := "(II)I" } : Jvm.MethodName) ({ cls := "PlatesSing", name := "of", desc := "(II)I" } : Jvm.MethodName)) ∈ lw_all := lw_g (lw_at lw_m3 112 rfl) rfl
theorem q701 : (Jvm.Cond.code ({ cls := "PlatesSing", name := "of", desc := "(II)I" } : Jvm.MethodName) prog_1_method_13_code (5 : Nat) (Option.some Jvm.ClassFile.FieldType.int)) ∈ lw_all := lw_g (lw_at lw_m3 113 rfl) rfl
theorem q702 : (Jvm.Cond.methodLink "PlatesSing" (201 : Nat) ({ cls := "PlatesSing", name := "shapeOf", desc := "(I)LPlatesSing$Shape;" } : Jvm.MethodName)) ∈ lw_all := lw_g (lw_at lw_m3 114 rfl) rfl
theorem q703 : (Jvm.Cond.privateMethod ({ cls := "PlatesSing", name := "shapeOf", desc := "(I)LPlatesSing$Shape;" } : Jvm.MethodName)) ∈ lw_tbl := lw_at lw_m3 115 rfl
theorem q704 : (Jvm.Cond.instanceMethod ({ cls := "PlatesSing", name := "shapeOf", desc := "(I)LPlatesSing$Shape;" } : Jvm.MethodName)) ∈ lw_all := lw_g (lw_at lw_m3 116 rfl) rfl
theorem q705 : (Jvm.Cond.code ({ cls := "PlatesSing", name := "shapeOf", desc := "(I)LPlatesSing$Shape;" } : Jvm.MethodName) prog_1_method_9_code (2 : Nat) (Option.some (Jvm.ClassFile.FieldType.object "PlatesSing$Shape"))) ∈ lw_all := lw_g (lw_at lw_m3 117 rfl) rfl
theorem q706 : (Jvm.Cond.constant "PlatesSing" (225 : Nat) (-2000000000 : Int32)) ∈ lw_all := lw_g (lw_at lw_m3 118 rfl) rfl
theorem q707 : (Jvm.Cond.methodLink "PlatesSing" (230 : Nat) ({ cls := "PlatesSing$Shape", name := "tones", desc := "()I" } : Jvm.MethodName)) ∈ lw_all := lw_g (lw_at lw_m3 119 rfl) rfl
theorem q712 : (Jvm.Cond.static ({ cls := "PlatesSing", name := "bit", desc := "(Z)I" } : Jvm.MethodName)) ∈ lw_all := lw_g (lw_at lw_m3 124 rfl) rfl
theorem q713 : (Jvm.Cond.code ({ cls := "PlatesSing", name := "bit", desc := "(Z)I" } : Jvm.MethodName) prog_1_method_2_code (1 : Nat) (Option.some Jvm.ClassFile.FieldType.int)) ∈ lw_all := lw_g (lw_at lw_m3 125 rfl) rfl
theorem q714 : (Jvm.Cond.methodLink "PlatesSing" (205 : Nat) ({ cls := "PlatesSing$Shape", name := "has", desc := "(I)Z" } : Jvm.MethodName)) ∈ lw_all := lw_g (lw_at lw_m3 126 rfl) rfl
theorem q719 : (Jvm.Cond.methodLink "PlatesSing" (246 : Nat) ({ cls := "PlatesSing", name := "bit", desc := "(Z)I" } : Jvm.MethodName)) ∈ lw_all := lw_g (lw_at lw_m3 131 rfl) rfl
theorem q721 : (Jvm.Cond.instanceMethod ({ cls := "PlatesSing", name := "piece", desc := "(IIII)I" } : Jvm.MethodName)) ∈ lw_all := lw_g (lw_at lw_m3 133 rfl) rfl
theorem q722 : (Jvm.Cond.selects "PlatesSing" ({ cls := "PlatesSing", name := "piece", desc := "(IIII)I" } : Jvm.MethodName) ({ cls := "PlatesSing", name := "piece", desc := "(IIII)I" } : Jvm.MethodName)) ∈ lw_all := lw_g (lw_at lw_m3 134 rfl) rfl
theorem q723 : (Jvm.Cond.code ({ cls := "PlatesSing", name := "piece", desc := "(IIII)I" } : Jvm.MethodName) prog_1_method_14_code (7 : Nat) (Option.some Jvm.ClassFile.FieldType.int)) ∈ lw_all := lw_g (lw_at lw_m3 135 rfl) rfl
theorem q724 : (Jvm.Cond.methodLink "PlatesSing" (250 : Nat) ({ cls := "PlatesSing", name := "cornerOf", desc := "(II)LPlatesSing$Shape;" } : Jvm.MethodName)) ∈ lw_all := lw_g (lw_at lw_m3 136 rfl) rfl
theorem q725 : (Jvm.Cond.privateMethod ({ cls := "PlatesSing", name := "cornerOf", desc := "(II)LPlatesSing$Shape;" } : Jvm.MethodName)) ∈ lw_tbl := lw_at lw_m3 137 rfl
theorem q726 : (Jvm.Cond.instanceMethod ({ cls := "PlatesSing", name := "cornerOf", desc := "(II)LPlatesSing$Shape;" } : Jvm.MethodName)) ∈ lw_all := lw_g (lw_at lw_m3 138 rfl) rfl
theorem q727 : (Jvm.Cond.code ({ cls := "PlatesSing", name := "cornerOf", desc := "(II)LPlatesSing$Shape;" } : Jvm.MethodName) prog_1_method_10_code (4 : Nat) (Option.some (Jvm.ClassFile.FieldType.object "PlatesSing$Shape"))) ∈ lw_all := lw_g (lw_at lw_m3 139 rfl) rfl
theorem q728 : (Jvm.Cond.constantLong "PlatesSing" (254 : Nat) (2 : Int64)) ∈ lw_all := lw_g (lw_at lw_m3 140 rfl) rfl
theorem q729 : (Jvm.Cond.methodLink "PlatesSing" (256 : Nat) ({ cls := "PlatesSing$Shape", name := "between", desc := "(II)LPlatesSing$Piece;" } : Jvm.MethodName)) ∈ lw_all := lw_g (lw_at lw_m3 141 rfl) rfl
theorem q741 : (Jvm.Cond.methodLink "PlatesSing" (260 : Nat) ({ cls := "PlatesSing", name := "numberOf", desc := "(LPlatesSing$Part;)I" } : Jvm.MethodName)) ∈ lw_all := lw_g (lw_at lw_m3 153 rfl) rfl
theorem q742 : (Jvm.Cond.static ({ cls := "PlatesSing", name := "numberOf", desc := "(LPlatesSing$Part;)I" } : Jvm.MethodName)) ∈ lw_all := lw_g (lw_at lw_m3 154 rfl) rfl
theorem q743 : (Jvm.Cond.code ({ cls := "PlatesSing", name := "numberOf", desc := "(LPlatesSing$Part;)I" } : Jvm.MethodName) prog_1_method_4_code (1 : Nat) (Option.some Jvm.ClassFile.FieldType.int)) ∈ lw_all := lw_g (lw_at lw_m3 155 rfl) rfl
theorem q745 : (Jvm.Cond.instanceMethod ({ cls := "PlatesSing", name := "put", desc := "(IIII)I" } : Jvm.MethodName)) ∈ lw_all := lw_g (lw_at lw_m3 157 rfl) rfl
theorem q746 : (Jvm.Cond.selects "PlatesSing" ({ cls := "PlatesSing", name := "put", desc := "(IIII)I" } : Jvm.MethodName) ({ cls := "PlatesSing", name := "put", desc := "(IIII)I" } : Jvm.MethodName)) ∈ lw_all := lw_g (lw_at lw_m3 158 rfl) rfl
theorem q747 : (Jvm.Cond.code ({ cls := "PlatesSing", name := "put", desc := "(IIII)I" } : Jvm.MethodName) prog_1_method_19_code (7 : Nat) (Option.some Jvm.ClassFile.FieldType.int)) ∈ lw_all := lw_g (lw_at lw_m3 159 rfl) rfl
theorem q748 : (Jvm.Cond.constantLong "PlatesSing" (307 : Nat) (9 : Int64)) ∈ lw_all := lw_g (lw_at lw_m3 160 rfl) rfl
theorem q749 : (Jvm.Cond.methodLink "PlatesSing" (309 : Nat) ({ cls := "PlatesSing", name := "tellCorner", desc := "(ILPlatesSing$Shape;III)V" } : Jvm.MethodName)) ∈ lw_all := lw_g (lw_at lw_m3 161 rfl) rfl
theorem q750 : (Jvm.Cond.privateMethod ({ cls := "PlatesSing", name := "tellCorner", desc := "(ILPlatesSing$Shape;III)V" } : Jvm.MethodName)) ∈ lw_tbl := lw_at lw_m3 162 rfl
theorem q751 : (Jvm.Cond.instanceMethod ({ cls := "PlatesSing", name := "tellCorner", desc := "(ILPlatesSing$Shape;III)V" } : Jvm.MethodName)) ∈ lw_all := lw_g (lw_at lw_m3 163 rfl) rfl
theorem q752 : (Jvm.Cond.code ({ cls := "PlatesSing", name := "tellCorner", desc := "(ILPlatesSing$Shape;III)V" } : Jvm.MethodName) prog_1_method_17_code (7 : Nat) (Option.none : Option Jvm.ClassFile.FieldType)) ∈ lw_all := lw_g (lw_at lw_m3 164 rfl) rfl
theorem q753 : (Jvm.Cond.methodLink "PlatesSing" (299 : Nat) ({ cls := "PlatesSing", name := "newAct", desc := "(I)LPlatesSing$Act;" } : Jvm.MethodName)) ∈ lw_all := lw_g (lw_at lw_m3 165 rfl) rfl
theorem q754 : (Jvm.Cond.privateMethod ({ cls := "PlatesSing", name := "newAct", desc := "(I)LPlatesSing$Act;" } : Jvm.MethodName)) ∈ lw_tbl := lw_at lw_m3 166 rfl
theorem q755 : (Jvm.Cond.instanceMethod ({ cls := "PlatesSing", name := "newAct", desc := "(I)LPlatesSing$Act;" } : Jvm.MethodName)) ∈ lw_all := lw_g (lw_at lw_m3 167 rfl) rfl
theorem q756 : (Jvm.Cond.code ({ cls := "PlatesSing", name := "newAct", desc := "(I)LPlatesSing$Act;" } : Jvm.MethodName) prog_1_method_16_code (4 : Nat) (Option.some (Jvm.ClassFile.FieldType.object "PlatesSing$Act"))) ∈ lw_all := lw_g (lw_at lw_m3 168 rfl) rfl
theorem q757 : (Jvm.Cond.methodLink "PlatesSing" (303 : Nat) ({ cls := "PlatesSing", name := "become", desc := "(LPlatesSing$Act;Z)V" } : Jvm.MethodName)) ∈ lw_all := lw_g (lw_at lw_m3 169 rfl) rfl
theorem q758 : (Jvm.Cond.privateMethod ({ cls := "PlatesSing", name := "become", desc := "(LPlatesSing$Act;Z)V" } : Jvm.MethodName)) ∈ lw_tbl := lw_at lw_m3 170 rfl
theorem q759 : (Jvm.Cond.instanceMethod ({ cls := "PlatesSing", name := "become", desc := "(LPlatesSing$Act;Z)V" } : Jvm.MethodName)) ∈ lw_all := lw_g (lw_at lw_m3 171 rfl) rfl
theorem q760 : (Jvm.Cond.code ({ cls := "PlatesSing", name := "become", desc := "(LPlatesSing$Act;Z)V" } : Jvm.MethodName) prog_1_method_15_code (4 : Nat) (Option.none : Option Jvm.ClassFile.FieldType)) ∈ lw_all := lw_g (lw_at lw_m3 172 rfl) rfl
theorem q762 : (Jvm.Cond.instanceMethod ({ cls := "PlatesSing", name := "crack", desc := "(IIII)I" } : Jvm.MethodName)) ∈ lw_all := lw_g (lw_at lw_m3 174 rfl) rfl
theorem q763 : (Jvm.Cond.selects "PlatesSing" ({ cls := "PlatesSing", name := "crack", desc := "(IIII)I" } : Jvm.MethodName) ({ cls := "PlatesSing", name := "crack", desc := "(IIII)I" } : Jvm.MethodName)) ∈ lw_all := lw_g (lw_at lw_m3 175 rfl) rfl
theorem q764 : (Jvm.Cond.code ({ cls := "PlatesSing", name := "crack", desc := "(IIII)I" } : Jvm.MethodName) prog_1_method_20_code (8 : Nat) (Option.some Jvm.ClassFile.FieldType.int)) ∈ lw_all := lw_g (lw_at lw_m3 176 rfl) rfl
theorem q765 : (Jvm.Cond.methodLink "PlatesSing" (313 : Nat) ({ cls := "PlatesSing", name := "tellPiece", desc := "(LPlatesSing$Piece;II)V" } : Jvm.MethodName)) ∈ lw_all := lw_g (lw_at lw_m3 177 rfl) rfl
theorem q766 : (Jvm.Cond.privateMethod ({ cls := "PlatesSing", name := "tellPiece", desc := "(LPlatesSing$Piece;II)V" } : Jvm.MethodName)) ∈ lw_tbl := lw_at lw_m3 178 rfl
theorem q767 : (Jvm.Cond.instanceMethod ({ cls := "PlatesSing", name := "tellPiece", desc := "(LPlatesSing$Piece;II)V" } : Jvm.MethodName)) ∈ lw_all := lw_g (lw_at lw_m3 179 rfl) rfl
theorem q768 : (Jvm.Cond.code ({ cls := "PlatesSing", name := "tellPiece", desc := "(LPlatesSing$Piece;II)V" } : Jvm.MethodName) prog_1_method_18_code (5 : Nat) (Option.none : Option Jvm.ClassFile.FieldType)) ∈ lw_all := lw_g (lw_at lw_m3 180 rfl) rfl
theorem q770 : (Jvm.Cond.instanceMethod ({ cls := "PlatesSing", name := "stroke", desc := "(III)I" } : Jvm.MethodName)) ∈ lw_all := lw_g (lw_at lw_m3 182 rfl) rfl
theorem q771 : (Jvm.Cond.selects "PlatesSing" ({ cls := "PlatesSing", name := "stroke", desc := "(III)I" } : Jvm.MethodName) ({ cls := "PlatesSing", name := "stroke", desc := "(III)I" } : Jvm.MethodName)) ∈ lw_all := lw_g (lw_at lw_m3 183 rfl) rfl
theorem q772 : (Jvm.Cond.code ({ cls := "PlatesSing", name := "stroke", desc := "(III)I" } : Jvm.MethodName) prog_1_method_21_code (6 : Nat) (Option.some Jvm.ClassFile.FieldType.int)) ∈ lw_all := lw_g (lw_at lw_m3 184 rfl) rfl
theorem q774 : (Jvm.Cond.instanceMethod ({ cls := "PlatesSing", name := "undo", desc := "()I" } : Jvm.MethodName)) ∈ lw_all := lw_g (lw_at lw_m3 186 rfl) rfl
theorem q775 : (Jvm.Cond.selects "PlatesSing" ({ cls := "PlatesSing", name := "undo", desc := "()I" } : Jvm.MethodName) ({ cls := "PlatesSing", name := "undo", desc := "()I" } : Jvm.MethodName)) ∈ lw_all := lw_g (lw_at lw_m3 187 rfl) rfl
theorem q776 : (Jvm.Cond.code ({ cls := "PlatesSing", name := "undo", desc := "()I" } : Jvm.MethodName) prog_1_method_22_code (1 : Nat) (Option.some Jvm.ClassFile.FieldType.int)) ∈ lw_all := lw_g (lw_at lw_m3 188 rfl) rfl
theorem q778 : (Jvm.Cond.instanceMethod ({ cls := "PlatesSing", name := "redo", desc := "()I" } : Jvm.MethodName)) ∈ lw_all := lw_g (lw_at lw_m3 190 rfl) rfl
theorem q779 : (Jvm.Cond.selects "PlatesSing" ({ cls := "PlatesSing", name := "redo", desc := "()I" } : Jvm.MethodName) ({ cls := "PlatesSing", name := "redo", desc := "()I" } : Jvm.MethodName)) ∈ lw_all := lw_g (lw_at lw_m3 191 rfl) rfl
theorem q780 : (Jvm.Cond.code ({ cls := "PlatesSing", name := "redo", desc := "()I" } : Jvm.MethodName) prog_1_method_23_code (1 : Nat) (Option.some Jvm.ClassFile.FieldType.int)) ∈ lw_all := lw_g (lw_at lw_m3 192 rfl) rfl
theorem q782 : (Jvm.Cond.instanceMethod ({ cls := "PlatesSing", name := "digest", desc := "()I" } : Jvm.MethodName)) ∈ lw_all := lw_g (lw_at lw_m3 194 rfl) rfl
theorem q783 : (Jvm.Cond.selects "PlatesSing" ({ cls := "PlatesSing", name := "digest", desc := "()I" } : Jvm.MethodName) ({ cls := "PlatesSing", name := "digest", desc := "()I" } : Jvm.MethodName)) ∈ lw_all := lw_g (lw_at lw_m3 195 rfl) rfl
theorem q784 : (Jvm.Cond.code ({ cls := "PlatesSing", name := "digest", desc := "()I" } : Jvm.MethodName) prog_1_method_24_code (6 : Nat) (Option.some Jvm.ClassFile.FieldType.int)) ∈ lw_all := lw_g (lw_at lw_m3 196 rfl) rfl
theorem q786 : (Jvm.Cond.instanceMethod ({ cls := "PlatesSing", name := "below", desc := "(III)I" } : Jvm.MethodName)) ∈ lw_all := lw_g (lw_at lw_m3 198 rfl) rfl
theorem q787 : (Jvm.Cond.selects "PlatesSing" ({ cls := "PlatesSing", name := "below", desc := "(III)I" } : Jvm.MethodName) ({ cls := "PlatesSing", name := "below", desc := "(III)I" } : Jvm.MethodName)) ∈ lw_all := lw_g (lw_at lw_m3 199 rfl) rfl
theorem q788 : (Jvm.Cond.code ({ cls := "PlatesSing", name := "below", desc := "(III)I" } : Jvm.MethodName) prog_1_method_32_code (5 : Nat) (Option.some Jvm.ClassFile.FieldType.int)) ∈ lw_all := lw_g (lw_at lw_m3 200 rfl) rfl
theorem q789 : (Jvm.Cond.methodLink "PlatesSing" (358 : Nat) ({ cls := "PlatesSing", name := "isMark", desc := "(I)Z" } : Jvm.MethodName)) ∈ lw_all := lw_g (lw_at lw_m3 201 rfl) rfl
theorem q790 : (Jvm.Cond.static ({ cls := "PlatesSing", name := "isMark", desc := "(I)Z" } : Jvm.MethodName)) ∈ lw_all := lw_g (lw_at lw_m3 202 rfl) rfl
theorem q791 : (Jvm.Cond.code ({ cls := "PlatesSing", name := "isMark", desc := "(I)Z" } : Jvm.MethodName) prog_1_method_30_code (1 : Nat) (Option.some Jvm.ClassFile.FieldType.boolean)) ∈ lw_all := lw_g (lw_at lw_m3 203 rfl) rfl
theorem q792 : (Jvm.Cond.constantLong "PlatesSing" (356 : Nat) (99 : Int64)) ∈ lw_all := lw_g (lw_at lw_m3 204 rfl) rfl
theorem q793 : (Jvm.Cond.methodLink "PlatesSing" (361 : Nat) ({ cls := "PlatesSing", name := "belowOf", desc := "(LPlatesSing$Shape;II)I" } : Jvm.MethodName)) ∈ lw_all := lw_g (lw_at lw_m3 205 rfl) rfl
theorem q794 : (Jvm.Cond.privateMethod ({ cls := "PlatesSing", name := "belowOf", desc := "(LPlatesSing$Shape;II)I" } : Jvm.MethodName)) ∈ lw_tbl := lw_at lw_m3 206 rfl
theorem q795 : (Jvm.Cond.instanceMethod ({ cls := "PlatesSing", name := "belowOf", desc := "(LPlatesSing$Shape;II)I" } : Jvm.MethodName)) ∈ lw_all := lw_g (lw_at lw_m3 207 rfl) rfl
theorem q796 : (Jvm.Cond.code ({ cls := "PlatesSing", name := "belowOf", desc := "(LPlatesSing$Shape;II)I" } : Jvm.MethodName) prog_1_method_28_code (7 : Nat) (Option.some Jvm.ClassFile.FieldType.int)) ∈ lw_all := lw_g (lw_at lw_m3 208 rfl) rfl
theorem q797 : (Jvm.Cond.methodLink "PlatesSing" (353 : Nat) ({ cls := "PlatesSing", name := "findSums", desc := "(LPlatesSing$Shape;II)V" } : Jvm.MethodName)) ∈ lw_all := lw_g (lw_at lw_m3 209 rfl) rfl
theorem q798 : (Jvm.Cond.privateMethod ({ cls := "PlatesSing", name := "findSums", desc := "(LPlatesSing$Shape;II)V" } : Jvm.MethodName)) ∈ lw_tbl := lw_at lw_m3 210 rfl
theorem q799 : (Jvm.Cond.instanceMethod ({ cls := "PlatesSing", name := "findSums", desc := "(LPlatesSing$Shape;II)V" } : Jvm.MethodName)) ∈ lw_all := lw_g (lw_at lw_m3 211 rfl) rfl
theorem q800 : (Jvm.Cond.code ({ cls := "PlatesSing", name := "findSums", desc := "(LPlatesSing$Shape;II)V" } : Jvm.MethodName) prog_1_method_27_code (5 : Nat) (Option.none : Option Jvm.ClassFile.FieldType)) ∈ lw_all := lw_g (lw_at lw_m3 212 rfl) rfl
theorem q801 : (Jvm.Cond.methodLink "PlatesSing" (346 : Nat) ({ cls := "PlatesSing", name := "findMatrix", desc := "(LPlatesSing$Shape;II)V" } : Jvm.MethodName)) ∈ lw_all := lw_g (lw_at lw_m3 213 rfl) rfl
theorem q802 : (Jvm.Cond.privateMethod ({ cls := "PlatesSing", name := "findMatrix", desc := "(LPlatesSing$Shape;II)V" } : Jvm.MethodName)) ∈ lw_tbl := lw_at lw_m3 214 rfl
theorem q803 : (Jvm.Cond.instanceMethod ({ cls := "PlatesSing", name := "findMatrix", desc := "(LPlatesSing$Shape;II)V" } : Jvm.MethodName)) ∈ lw_all := lw_g (lw_at lw_m3 215 rfl) rfl
theorem q804 : (Jvm.Cond.code ({ cls := "PlatesSing", name := "findMatrix", desc := "(LPlatesSing$Shape;II)V" } : Jvm.MethodName) prog_1_method_25_code (8 : Nat) (Option.none : Option Jvm.ClassFile.FieldType)) ∈ lw_all := lw_g (lw_at lw_m3 216 rfl) rfl
theorem q805 : (Jvm.Cond.methodLink "PlatesSing" (324 : Nat) ({ cls := "PlatesSing$Piece", name := "isAt", desc := "(I)Z" } : Jvm.MethodName)) ∈ lw_all := lw_g (lw_at lw_m3 217 rfl) rfl
theorem q806 : (Jvm.Cond.methodLink "PlatesSing" (327 : Nat) ({ cls := "PlatesSing$Piece", name := "counts", desc := "()I" } : Jvm.MethodName)) ∈ lw_all := lw_g (lw_at lw_m3 218 rfl) rfl
theorem q814 : (Jvm.Cond.methodLink "PlatesSing" (330 : Nat) ({ cls := "PlatesSing$Shape", name := "mass", desc := "(I)I" } : Jvm.MethodName)) ∈ lw_all := lw_g (lw_at lw_m3 226 rfl) rfl
theorem q819 : (Jvm.Cond.methodLink "PlatesSing" (334 : Nat) ({ cls := "PlatesSing$Shape", name := "counted", desc := "(II)I" } : Jvm.MethodName)) ∈ lw_all := lw_g (lw_at lw_m3 231 rfl) rfl
theorem q825 : (Jvm.Cond.methodLink "PlatesSing" (350 : Nat) ({ cls := "java/lang/Integer", name := "bitCount", desc := "(I)I" } : Jvm.MethodName)) ∈ lw_all := lw_g (lw_at lw_m3 237 rfl) rfl
theorem q831 : (Jvm.Cond.methodLink "PlatesSing" (342 : Nat) ({ cls := "PlatesSing", name := "minor", desc := "(II)J" } : Jvm.MethodName)) ∈ lw_all := lw_g (lw_at lw_m4 3 rfl) rfl
theorem q832 : (Jvm.Cond.privateMethod ({ cls := "PlatesSing", name := "minor", desc := "(II)J" } : Jvm.MethodName)) ∈ lw_tbl := lw_at lw_m4 4 rfl
theorem q833 : (Jvm.Cond.instanceMethod ({ cls := "PlatesSing", name := "minor", desc := "(II)J" } : Jvm.MethodName)) ∈ lw_all := lw_g (lw_at lw_m4 5 rfl) rfl
theorem q834 : (Jvm.Cond.code ({ cls := "PlatesSing", name := "minor", desc := "(II)J" } : Jvm.MethodName) prog_1_method_26_code (12 : Nat) (Option.some Jvm.ClassFile.FieldType.long)) ∈ lw_all := lw_g (lw_at lw_m4 6 rfl) rfl
theorem q835 : (Jvm.Cond.methodLink "PlatesSing" (337 : Nat) ({ cls := "java/lang/Integer", name := "numberOfTrailingZeros", desc := "(I)I" } : Jvm.MethodName)) ∈ lw_all := lw_g (lw_at lw_m4 7 rfl) rfl
theorem q839 : (Jvm.Cond.methodLink "PlatesSing" (365 : Nat) ({ cls := "PlatesSing", name := "atOf", desc := "(LPlatesSing$Shape;II)I" } : Jvm.MethodName)) ∈ lw_all := lw_g (lw_at lw_m4 11 rfl) rfl
theorem q840 : (Jvm.Cond.privateMethod ({ cls := "PlatesSing", name := "atOf", desc := "(LPlatesSing$Shape;II)I" } : Jvm.MethodName)) ∈ lw_tbl := lw_at lw_m4 12 rfl
theorem q841 : (Jvm.Cond.instanceMethod ({ cls := "PlatesSing", name := "atOf", desc := "(LPlatesSing$Shape;II)I" } : Jvm.MethodName)) ∈ lw_all := lw_g (lw_at lw_m4 13 rfl) rfl
theorem q842 : (Jvm.Cond.code ({ cls := "PlatesSing", name := "atOf", desc := "(LPlatesSing$Shape;II)I" } : Jvm.MethodName) prog_1_method_29_code (5 : Nat) (Option.some Jvm.ClassFile.FieldType.int)) ∈ lw_all := lw_g (lw_at lw_m4 14 rfl) rfl
theorem q844 : (Jvm.Cond.instanceMethod ({ cls := "PlatesSing", name := "sums", desc := "(III)J" } : Jvm.MethodName)) ∈ lw_all := lw_g (lw_at lw_m4 16 rfl) rfl
theorem q845 : (Jvm.Cond.selects "PlatesSing" ({ cls := "PlatesSing", name := "sums", desc := "(III)J" } : Jvm.MethodName) ({ cls := "PlatesSing", name := "sums", desc := "(III)J" } : Jvm.MethodName)) ∈ lw_all := lw_g (lw_at lw_m4 17 rfl) rfl
theorem q846 : (Jvm.Cond.code ({ cls := "PlatesSing", name := "sums", desc := "(III)J" } : Jvm.MethodName) prog_1_method_33_code (5 : Nat) (Option.some Jvm.ClassFile.FieldType.long)) ∈ lw_all := lw_g (lw_at lw_m4 18 rfl) rfl
theorem q847 : (Jvm.Cond.constantLong "PlatesSing" (370 : Nat) (-9223372036854775808 : Int64)) ∈ lw_all := lw_g (lw_at lw_m4 19 rfl) rfl
theorem q849 : (Jvm.Cond.instanceMethod ({ cls := "PlatesSing", name := "shut", desc := "(III)I" } : Jvm.MethodName)) ∈ lw_all := lw_g (lw_at lw_m4 21 rfl) rfl
theorem q850 : (Jvm.Cond.selects "PlatesSing" ({ cls := "PlatesSing", name := "shut", desc := "(III)I" } : Jvm.MethodName) ({ cls := "PlatesSing", name := "shut", desc := "(III)I" } : Jvm.MethodName)) ∈ lw_all := lw_g (lw_at lw_m4 22 rfl) rfl
theorem q851 : (Jvm.Cond.code ({ cls := "PlatesSing", name := "shut", desc := "(III)I" } : Jvm.MethodName) prog_1_method_36_code (5 : Nat) (Option.some Jvm.ClassFile.FieldType.int)) ∈ lw_all := lw_g (lw_at lw_m4 23 rfl) rfl
theorem q852 : (Jvm.Cond.methodLink "PlatesSing" (372 : Nat) ({ cls := "PlatesSing", name := "isPart", desc := "(I)Z" } : Jvm.MethodName)) ∈ lw_all := lw_g (lw_at lw_m4 24 rfl) rfl
theorem q853 : (Jvm.Cond.static ({ cls := "PlatesSing", name := "isPart", desc := "(I)Z" } : Jvm.MethodName)) ∈ lw_all := lw_g (lw_at lw_m4 25 rfl) rfl
theorem q854 : (Jvm.Cond.code ({ cls := "PlatesSing", name := "isPart", desc := "(I)Z" } : Jvm.MethodName) prog_1_method_31_code (1 : Nat) (Option.some Jvm.ClassFile.FieldType.boolean)) ∈ lw_all := lw_g (lw_at lw_m4 26 rfl) rfl
theorem q855 : (Jvm.Cond.methodLink "PlatesSing" (375 : Nat) ({ cls := "PlatesSing", name := "hasTone", desc := "(LPlatesSing$Shape;I)Z" } : Jvm.MethodName)) ∈ lw_all := lw_g (lw_at lw_m4 27 rfl) rfl
theorem q856 : (Jvm.Cond.static ({ cls := "PlatesSing", name := "hasTone", desc := "(LPlatesSing$Shape;I)Z" } : Jvm.MethodName)) ∈ lw_all := lw_g (lw_at lw_m4 28 rfl) rfl
theorem q857 : (Jvm.Cond.code ({ cls := "PlatesSing", name := "hasTone", desc := "(LPlatesSing$Shape;I)Z" } : Jvm.MethodName) prog_1_method_35_code (2 : Nat) (Option.some Jvm.ClassFile.FieldType.boolean)) ∈ lw_all := lw_g (lw_at lw_m4 29 rfl) rfl
theorem q858 : (Jvm.Cond.methodLink "PlatesSing" (379 : Nat) ({ cls := "PlatesSing", name := "shutOf", desc := "(LPlatesSing$Shape;II)I" } : Jvm.MethodName)) ∈ lw_all := lw_g (lw_at lw_m4 30 rfl) rfl
theorem q859 : (Jvm.Cond.privateMethod ({ cls := "PlatesSing", name := "shutOf", desc := "(LPlatesSing$Shape;II)I" } : Jvm.MethodName)) ∈ lw_tbl := lw_at lw_m4 31 rfl
theorem q860 : (Jvm.Cond.instanceMethod ({ cls := "PlatesSing", name := "shutOf", desc := "(LPlatesSing$Shape;II)I" } : Jvm.MethodName)) ∈ lw_all := lw_g (lw_at lw_m4 32 rfl) rfl
theorem q861 : (Jvm.Cond.code ({ cls := "PlatesSing", name := "shutOf", desc := "(LPlatesSing$Shape;II)I" } : Jvm.MethodName) prog_1_method_34_code (7 : Nat) (Option.some Jvm.ClassFile.FieldType.int)) ∈ lw_all := lw_g (lw_at lw_m4 33 rfl) rfl
theorem q863 : (Jvm.Cond.instanceMethod ({ cls := "PlatesSing", name := "still", desc := "(III)I" } : Jvm.MethodName)) ∈ lw_all := lw_g (lw_at lw_m4 35 rfl) rfl
theorem q864 : (Jvm.Cond.selects "PlatesSing" ({ cls := "PlatesSing", name := "still", desc := "(III)I" } : Jvm.MethodName) ({ cls := "PlatesSing", name := "still", desc := "(III)I" } : Jvm.MethodName)) ∈ lw_all := lw_g (lw_at lw_m4 36 rfl) rfl
theorem q865 : (Jvm.Cond.code ({ cls := "PlatesSing", name := "still", desc := "(III)I" } : Jvm.MethodName) prog_1_method_37_code (7 : Nat) (Option.some Jvm.ClassFile.FieldType.int)) ∈ lw_all := lw_g (lw_at lw_m4 37 rfl) rfl
theorem q867 : (Jvm.Cond.instanceMethod ({ cls := "PlatesSing", name := "split", desc := "(IIII)I" } : Jvm.MethodName)) ∈ lw_all := lw_g (lw_at lw_m4 39 rfl) rfl
theorem q868 : (Jvm.Cond.selects "PlatesSing" ({ cls := "PlatesSing", name := "split", desc := "(IIII)I" } : Jvm.MethodName) ({ cls := "PlatesSing", name := "split", desc := "(IIII)I" } : Jvm.MethodName)) ∈ lw_all := lw_g (lw_at lw_m4 40 rfl) rfl
theorem q869 : (Jvm.Cond.code ({ cls := "PlatesSing", name := "split", desc := "(IIII)I" } : Jvm.MethodName) prog_1_method_38_code (10 : Nat) (Option.some Jvm.ClassFile.FieldType.int)) ∈ lw_all := lw_g (lw_at lw_m4 41 rfl) rfl
theorem q871 : (Jvm.Cond.instanceMethod ({ cls := "PlatesSing", name := "bounds", desc := "(IIIII)I" } : Jvm.MethodName)) ∈ lw_all := lw_g (lw_at lw_m4 43 rfl) rfl
theorem q872 : (Jvm.Cond.selects "PlatesSing" ({ cls := "PlatesSing", name := "bounds", desc := "(IIIII)I" } : Jvm.MethodName) ({ cls := "PlatesSing", name := "bounds", desc := "(IIIII)I" } : Jvm.MethodName)) ∈ lw_all := lw_g (lw_at lw_m4 44 rfl) rfl
theorem q873 : (Jvm.Cond.code ({ cls := "PlatesSing", name := "bounds", desc := "(IIIII)I" } : Jvm.MethodName) prog_1_method_42_code (10 : Nat) (Option.some Jvm.ClassFile.FieldType.int)) ∈ lw_all := lw_g (lw_at lw_m4 45 rfl) rfl
theorem q874 : (Jvm.Cond.constantLong "PlatesSing" (382 : Nat) (8 : Int64)) ∈ lw_all := lw_g (lw_at lw_m4 46 rfl) rfl
theorem q875 : (Jvm.Cond.methodLink "PlatesSing" (384 : Nat) ({ cls := "PlatesSing", name := "save", desc := "(LPlatesSing$Shape;)V" } : Jvm.MethodName)) ∈ lw_all := lw_g (lw_at lw_m4 47 rfl) rfl
theorem q876 : (Jvm.Cond.privateMethod ({ cls := "PlatesSing", name := "save", desc := "(LPlatesSing$Shape;)V" } : Jvm.MethodName)) ∈ lw_tbl := lw_at lw_m4 48 rfl
theorem q877 : (Jvm.Cond.instanceMethod ({ cls := "PlatesSing", name := "save", desc := "(LPlatesSing$Shape;)V" } : Jvm.MethodName)) ∈ lw_all := lw_g (lw_at lw_m4 49 rfl) rfl
theorem q878 : (Jvm.Cond.code ({ cls := "PlatesSing", name := "save", desc := "(LPlatesSing$Shape;)V" } : Jvm.MethodName) prog_1_method_39_code (3 : Nat) (Option.none : Option Jvm.ClassFile.FieldType)) ∈ lw_all := lw_g (lw_at lw_m4 50 rfl) rfl
theorem q879 : (Jvm.Cond.methodLink "PlatesSing" (388 : Nat) ({ cls := "PlatesSing", name := "held", desc := "(III)I" } : Jvm.MethodName)) ∈ lw_all := lw_g (lw_at lw_m4 51 rfl) rfl
theorem q880 : (Jvm.Cond.static ({ cls := "PlatesSing", name := "held", desc := "(III)I" } : Jvm.MethodName)) ∈ lw_all := lw_g (lw_at lw_m4 52 rfl) rfl
theorem q881 : (Jvm.Cond.code ({ cls := "PlatesSing", name := "held", desc := "(III)I" } : Jvm.MethodName) prog_1_method_41_code (3 : Nat) (Option.some Jvm.ClassFile.FieldType.int)) ∈ lw_all := lw_g (lw_at lw_m4 53 rfl) rfl
theorem q882 : (Jvm.Cond.methodLink "PlatesSing" (392 : Nat) ({ cls := "PlatesSing", name := "putBack", desc := "(LPlatesSing$Shape;)V" } : Jvm.MethodName)) ∈ lw_all := lw_g (lw_at lw_m4 54 rfl) rfl
theorem q883 : (Jvm.Cond.privateMethod ({ cls := "PlatesSing", name := "putBack", desc := "(LPlatesSing$Shape;)V" } : Jvm.MethodName)) ∈ lw_tbl := lw_at lw_m4 55 rfl
theorem q884 : (Jvm.Cond.instanceMethod ({ cls := "PlatesSing", name := "putBack", desc := "(LPlatesSing$Shape;)V" } : Jvm.MethodName)) ∈ lw_all := lw_g (lw_at lw_m4 56 rfl) rfl
theorem q885 : (Jvm.Cond.code ({ cls := "PlatesSing", name := "putBack", desc := "(LPlatesSing$Shape;)V" } : Jvm.MethodName) prog_1_method_40_code (3 : Nat) (Option.none : Option Jvm.ClassFile.FieldType)) ∈ lw_all := lw_g (lw_at lw_m4 57 rfl) rfl
theorem q887 : (Jvm.Cond.instanceMethod ({ cls := "PlatesSing", name := "led", desc := "(IIII)I" } : Jvm.MethodName)) ∈ lw_all := lw_g (lw_at lw_m4 59 rfl) rfl
theorem q888 : (Jvm.Cond.selects "PlatesSing" ({ cls := "PlatesSing", name := "led", desc := "(IIII)I" } : Jvm.MethodName) ({ cls := "PlatesSing", name := "led", desc := "(IIII)I" } : Jvm.MethodName)) ∈ lw_all := lw_g (lw_at lw_m4 60 rfl) rfl
theorem q889 : (Jvm.Cond.code ({ cls := "PlatesSing", name := "led", desc := "(IIII)I" } : Jvm.MethodName) prog_1_method_43_code (13 : Nat) (Option.some Jvm.ClassFile.FieldType.int)) ∈ lw_all := lw_g (lw_at lw_m4 61 rfl) rfl
theorem q891 : (Jvm.Cond.instanceMethod ({ cls := "PlatesSing", name := "turnsOf", desc := "(I)I" } : Jvm.MethodName)) ∈ lw_all := lw_g (lw_at lw_m4 63 rfl) rfl
theorem q892 : (Jvm.Cond.selects "PlatesSing" ({ cls := "PlatesSing", name := "turnsOf", desc := "(I)I" } : Jvm.MethodName) ({ cls := "PlatesSing", name := "turnsOf", desc := "(I)I" } : Jvm.MethodName)) ∈ lw_all := lw_g (lw_at lw_m4 64 rfl) rfl
theorem q893 : (Jvm.Cond.code ({ cls := "PlatesSing", name := "turnsOf", desc := "(I)I" } : Jvm.MethodName) prog_1_method_47_code (3 : Nat) (Option.some Jvm.ClassFile.FieldType.int)) ∈ lw_all := lw_g (lw_at lw_m4 65 rfl) rfl
theorem q894 : (Jvm.Cond.methodLink "PlatesSing" (412 : Nat) ({ cls := "PlatesSing", name := "findTurns", desc := "(LPlatesSing$Shape;LPlatesSing$Shape;)V" } : Jvm.MethodName)) ∈ lw_all := lw_g (lw_at lw_m4 66 rfl) rfl
theorem q895 : (Jvm.Cond.privateMethod ({ cls := "PlatesSing", name := "findTurns", desc := "(LPlatesSing$Shape;LPlatesSing$Shape;)V" } : Jvm.MethodName)) ∈ lw_tbl := lw_at lw_m4 67 rfl
theorem q896 : (Jvm.Cond.instanceMethod ({ cls := "PlatesSing", name := "findTurns", desc := "(LPlatesSing$Shape;LPlatesSing$Shape;)V" } : Jvm.MethodName)) ∈ lw_all := lw_g (lw_at lw_m4 68 rfl) rfl
theorem q897 : (Jvm.Cond.code ({ cls := "PlatesSing", name := "findTurns", desc := "(LPlatesSing$Shape;LPlatesSing$Shape;)V" } : Jvm.MethodName) prog_1_method_46_code (4 : Nat) (Option.none : Option Jvm.ClassFile.FieldType)) ∈ lw_all := lw_g (lw_at lw_m4 69 rfl) rfl
theorem q898 : (Jvm.Cond.methodLink "PlatesSing" (408 : Nat) ({ cls := "PlatesSing", name := "turnFrom", desc := "(LPlatesSing$Shape;LPlatesSing$Shape;II)V" } : Jvm.MethodName)) ∈ lw_all := lw_g (lw_at lw_m4 70 rfl) rfl
theorem q899 : (Jvm.Cond.privateMethod ({ cls := "PlatesSing", name := "turnFrom", desc := "(LPlatesSing$Shape;LPlatesSing$Shape;II)V" } : Jvm.MethodName)) ∈ lw_tbl := lw_at lw_m4 71 rfl
theorem q900 : (Jvm.Cond.instanceMethod ({ cls := "PlatesSing", name := "turnFrom", desc := "(LPlatesSing$Shape;LPlatesSing$Shape;II)V" } : Jvm.MethodName)) ∈ lw_all := lw_g (lw_at lw_m4 72 rfl) rfl
theorem q901 : (Jvm.Cond.code ({ cls := "PlatesSing", name := "turnFrom", desc := "(LPlatesSing$Shape;LPlatesSing$Shape;II)V" } : Jvm.MethodName) prog_1_method_45_code (6 : Nat) (Option.none : Option Jvm.ClassFile.FieldType)) ∈ lw_all := lw_g (lw_at lw_m4 73 rfl) rfl
theorem q902 : (Jvm.Cond.methodLink "PlatesSing" (398 : Nat) ({ cls := "java/lang/System", name := "arraycopy", desc := "(Ljava/lang/Object;ILjava/lang/Object;II)V" } : Jvm.MethodName)) ∈ lw_all := lw_g (lw_at lw_m4 74 rfl) rfl
theorem q905 : (Jvm.Cond.methodLink "PlatesSing" (404 : Nat) ({ cls := "PlatesSing", name := "mayCome", desc := "(LPlatesSing$Shape;LPlatesSing$Shape;II)Z" } : Jvm.MethodName)) ∈ lw_all := lw_g (lw_at lw_m4 77 rfl) rfl
theorem q906 : (Jvm.Cond.privateMethod ({ cls := "PlatesSing", name := "mayCome", desc := "(LPlatesSing$Shape;LPlatesSing$Shape;II)Z" } : Jvm.MethodName)) ∈ lw_tbl := lw_at lw_m4 78 rfl
theorem q907 : (Jvm.Cond.instanceMethod ({ cls := "PlatesSing", name := "mayCome", desc := "(LPlatesSing$Shape;LPlatesSing$Shape;II)Z" } : Jvm.MethodName)) ∈ lw_all := lw_g (lw_at lw_m4 79 rfl) rfl
theorem q908 : (Jvm.Cond.code ({ cls := "PlatesSing", name := "mayCome", desc := "(LPlatesSing$Shape;LPlatesSing$Shape;II)Z" } : Jvm.MethodName) prog_1_method_44_code (6 : Nat) (Option.some Jvm.ClassFile.FieldType.boolean)) ∈ lw_all := lw_g (lw_at lw_m4 80 rfl) rfl
theorem q910 : (Jvm.Cond.instanceMethod ({ cls := "PlatesSing", name := "orbit", desc := "(II)I" } : Jvm.MethodName)) ∈ lw_all := lw_g (lw_at lw_m4 82 rfl) rfl
theorem q911 : (Jvm.Cond.selects "PlatesSing" ({ cls := "PlatesSing", name := "orbit", desc := "(II)I" } : Jvm.MethodName) ({ cls := "PlatesSing", name := "orbit", desc := "(II)I" } : Jvm.MethodName)) ∈ lw_all := lw_g (lw_at lw_m4 83 rfl) rfl
theorem q912 : (Jvm.Cond.code ({ cls := "PlatesSing", name := "orbit", desc := "(II)I" } : Jvm.MethodName) prog_1_method_48_code (4 : Nat) (Option.some Jvm.ClassFile.FieldType.int)) ∈ lw_all := lw_g (lw_at lw_m4 84 rfl) rfl
theorem q914 : (Jvm.Cond.instanceMethod ({ cls := "PlatesSing", name := "table", desc := "(II)I" } : Jvm.MethodName)) ∈ lw_all := lw_g (lw_at lw_m4 86 rfl) rfl
theorem q915 : (Jvm.Cond.selects "PlatesSing" ({ cls := "PlatesSing", name := "table", desc := "(II)I" } : Jvm.MethodName) ({ cls := "PlatesSing", name := "table", desc := "(II)I" } : Jvm.MethodName)) ∈ lw_all := lw_g (lw_at lw_m4 87 rfl) rfl
theorem q916 : (Jvm.Cond.code ({ cls := "PlatesSing", name := "table", desc := "(II)I" } : Jvm.MethodName) prog_1_method_49_code (7 : Nat) (Option.some Jvm.ClassFile.FieldType.int)) ∈ lw_all := lw_g (lw_at lw_m4 88 rfl) rfl
theorem q918 : (Jvm.Cond.instanceMethod ({ cls := "PlatesSing", name := "alike", desc := "(III)I" } : Jvm.MethodName)) ∈ lw_all := lw_g (lw_at lw_m4 90 rfl) rfl
theorem q919 : (Jvm.Cond.selects "PlatesSing" ({ cls := "PlatesSing", name := "alike", desc := "(III)I" } : Jvm.MethodName) ({ cls := "PlatesSing", name := "alike", desc := "(III)I" } : Jvm.MethodName)) ∈ lw_all := lw_g (lw_at lw_m4 91 rfl) rfl
theorem q920 : (Jvm.Cond.code ({ cls := "PlatesSing", name := "alike", desc := "(III)I" } : Jvm.MethodName) prog_1_method_52_code (7 : Nat) (Option.some Jvm.ClassFile.FieldType.int)) ∈ lw_all := lw_g (lw_at lw_m4 92 rfl) rfl
theorem q921 : (Jvm.Cond.methodLink "PlatesSing" (420 : Nat) ({ cls := "PlatesSing", name := "soundAlike", desc := "(LPlatesSing$Shape;LPlatesSing$Shape;)Z" } : Jvm.MethodName)) ∈ lw_all := lw_g (lw_at lw_m4 93 rfl) rfl
theorem q922 : (Jvm.Cond.privateMethod ({ cls := "PlatesSing", name := "soundAlike", desc := "(LPlatesSing$Shape;LPlatesSing$Shape;)Z" } : Jvm.MethodName)) ∈ lw_tbl := lw_at lw_m4 94 rfl
theorem q923 : (Jvm.Cond.instanceMethod ({ cls := "PlatesSing", name := "soundAlike", desc := "(LPlatesSing$Shape;LPlatesSing$Shape;)Z" } : Jvm.MethodName)) ∈ lw_all := lw_g (lw_at lw_m4 95 rfl) rfl
theorem q924 : (Jvm.Cond.code ({ cls := "PlatesSing", name := "soundAlike", desc := "(LPlatesSing$Shape;LPlatesSing$Shape;)Z" } : Jvm.MethodName) prog_1_method_51_code (6 : Nat) (Option.some Jvm.ClassFile.FieldType.boolean)) ∈ lw_all := lw_g (lw_at lw_m4 96 rfl) rfl
theorem q925 : (Jvm.Cond.methodLink "PlatesSing" (416 : Nat) ({ cls := "PlatesSing", name := "divisor", desc := "(LPlatesSing$Shape;)J" } : Jvm.MethodName)) ∈ lw_all := lw_g (lw_at lw_m4 97 rfl) rfl
theorem q926 : (Jvm.Cond.static ({ cls := "PlatesSing", name := "divisor", desc := "(LPlatesSing$Shape;)J" } : Jvm.MethodName)) ∈ lw_all := lw_g (lw_at lw_m4 98 rfl) rfl
theorem q927 : (Jvm.Cond.code ({ cls := "PlatesSing", name := "divisor", desc := "(LPlatesSing$Shape;)J" } : Jvm.MethodName) prog_1_method_50_code (4 : Nat) (Option.some Jvm.ClassFile.FieldType.long)) ∈ lw_all := lw_g (lw_at lw_m4 99 rfl) rfl
theorem q929 : (Jvm.Cond.instanceMethod ({ cls := "PlatesSing", name := "plan", desc := "(IIII)I" } : Jvm.MethodName)) ∈ lw_all := lw_g (lw_at lw_m4 101 rfl) rfl
theorem q930 : (Jvm.Cond.selects "PlatesSing" ({ cls := "PlatesSing", name := "plan", desc := "(IIII)I" } : Jvm.MethodName) ({ cls := "PlatesSing", name := "plan", desc := "(IIII)I" } : Jvm.MethodName)) ∈ lw_all := lw_g (lw_at lw_m4 102 rfl) rfl
theorem q931 : (Jvm.Cond.code ({ cls := "PlatesSing", name := "plan", desc := "(IIII)I" } : Jvm.MethodName) prog_1_method_53_code (8 : Nat) (Option.some Jvm.ClassFile.FieldType.int)) ∈ lw_all := lw_g (lw_at lw_m4 103 rfl) rfl
theorem q932 : (Jvm.Cond.constantLong "PlatesSing" (424 : Nat) (3 : Int64)) ∈ lw_all := lw_g (lw_at lw_m4 104 rfl) rfl
theorem q934 : (Jvm.Cond.instanceMethod ({ cls := "PlatesSing", name := "wish", desc := "(III)I" } : Jvm.MethodName)) ∈ lw_all := lw_g (lw_at lw_m4 106 rfl) rfl
theorem q935 : (Jvm.Cond.selects "PlatesSing" ({ cls := "PlatesSing", name := "wish", desc := "(III)I" } : Jvm.MethodName) ({ cls := "PlatesSing", name := "wish", desc := "(III)I" } : Jvm.MethodName)) ∈ lw_all := lw_g (lw_at lw_m4 107 rfl) rfl
theorem q936 : (Jvm.Cond.code ({ cls := "PlatesSing", name := "wish", desc := "(III)I" } : Jvm.MethodName) prog_1_method_54_code (5 : Nat) (Option.some Jvm.ClassFile.FieldType.int)) ∈ lw_all := lw_g (lw_at lw_m4 108 rfl) rfl
theorem q938 : (Jvm.Cond.instanceMethod ({ cls := "PlatesSing", name := "moved", desc := "(III)I" } : Jvm.MethodName)) ∈ lw_all := lw_g (lw_at lw_m4 110 rfl) rfl
theorem q939 : (Jvm.Cond.selects "PlatesSing" ({ cls := "PlatesSing", name := "moved", desc := "(III)I" } : Jvm.MethodName) ({ cls := "PlatesSing", name := "moved", desc := "(III)I" } : Jvm.MethodName)) ∈ lw_all := lw_g (lw_at lw_m4 111 rfl) rfl
theorem q940 : (Jvm.Cond.code ({ cls := "PlatesSing", name := "moved", desc := "(III)I" } : Jvm.MethodName) prog_1_method_56_code (6 : Nat) (Option.some Jvm.ClassFile.FieldType.int)) ∈ lw_all := lw_g (lw_at lw_m4 112 rfl) rfl
theorem q941 : (Jvm.Cond.methodLink "PlatesSing" (435 : Nat) ({ cls := "PlatesSing", name := "strokes", desc := "(II)Z" } : Jvm.MethodName)) ∈ lw_all := lw_g (lw_at lw_m4 113 rfl) rfl
theorem q942 : (Jvm.Cond.privateMethod ({ cls := "PlatesSing", name := "strokes", desc := "(II)Z" } : Jvm.MethodName)) ∈ lw_tbl := lw_at lw_m4 114 rfl
theorem q943 : (Jvm.Cond.instanceMethod ({ cls := "PlatesSing", name := "strokes", desc := "(II)Z" } : Jvm.MethodName)) ∈ lw_all := lw_g (lw_at lw_m4 115 rfl) rfl
theorem q944 : (Jvm.Cond.code ({ cls := "PlatesSing", name := "strokes", desc := "(II)Z" } : Jvm.MethodName) prog_1_method_55_code (5 : Nat) (Option.some Jvm.ClassFile.FieldType.boolean)) ∈ lw_all := lw_g (lw_at lw_m4 116 rfl) rfl
theorem q946 : (Jvm.Cond.instanceMethod ({ cls := "PlatesSing", name := "tune", desc := "(I)I" } : Jvm.MethodName)) ∈ lw_all := lw_g (lw_at lw_m4 118 rfl) rfl
theorem q947 : (Jvm.Cond.selects "PlatesSing" ({ cls := "PlatesSing", name := "tune", desc := "(I)I" } : Jvm.MethodName) ({ cls := "PlatesSing", name := "tune", desc := "(I)I" } : Jvm.MethodName)) ∈ lw_all := lw_g (lw_at lw_m4 119 rfl) rfl
theorem q948 : (Jvm.Cond.code ({ cls := "PlatesSing", name := "tune", desc := "(I)I" } : Jvm.MethodName) prog_1_method_59_code (4 : Nat) (Option.some Jvm.ClassFile.FieldType.int)) ∈ lw_all := lw_g (lw_at lw_m4 120 rfl) rfl
theorem q949 : (Jvm.Cond.methodLink "PlatesSing" (457 : Nat) ({ cls := "PlatesSing", name := "tuneFrom", desc := "(III)V" } : Jvm.MethodName)) ∈ lw_all := lw_g (lw_at lw_m4 121 rfl) rfl
theorem q950 : (Jvm.Cond.privateMethod ({ cls := "PlatesSing", name := "tuneFrom", desc := "(III)V" } : Jvm.MethodName)) ∈ lw_tbl := lw_at lw_m4 122 rfl
theorem q951 : (Jvm.Cond.instanceMethod ({ cls := "PlatesSing", name := "tuneFrom", desc := "(III)V" } : Jvm.MethodName)) ∈ lw_all := lw_g (lw_at lw_m4 123 rfl) rfl
theorem q952 : (Jvm.Cond.code ({ cls := "PlatesSing", name := "tuneFrom", desc := "(III)V" } : Jvm.MethodName) prog_1_method_58_code (11 : Nat) (Option.none : Option Jvm.ClassFile.FieldType)) ∈ lw_all := lw_g (lw_at lw_m4 124 rfl) rfl
theorem q953 : (Jvm.Cond.methodLink "PlatesSing" (442 : Nat) ({ cls := "PlatesSing", name := "apart", desc := "()I" } : Jvm.MethodName)) ∈ lw_all := lw_g (lw_at lw_m4 125 rfl) rfl
theorem q954 : (Jvm.Cond.privateMethod ({ cls := "PlatesSing", name := "apart", desc := "()I" } : Jvm.MethodName)) ∈ lw_tbl := lw_at lw_m4 126 rfl
theorem q955 : (Jvm.Cond.instanceMethod ({ cls := "PlatesSing", name := "apart", desc := "()I" } : Jvm.MethodName)) ∈ lw_all := lw_g (lw_at lw_m4 127 rfl) rfl
theorem q956 : (Jvm.Cond.code ({ cls := "PlatesSing", name := "apart", desc := "()I" } : Jvm.MethodName) prog_1_method_57_code (3 : Nat) (Option.some Jvm.ClassFile.FieldType.int)) ∈ lw_all := lw_g (lw_at lw_m4 128 rfl) rfl
theorem q957 : (Jvm.Cond.methodLink "PlatesSing" (439 : Nat) ({ cls := "java/lang/Math", name := "abs", desc := "(I)I" } : Jvm.MethodName)) ∈ lw_all := lw_g (lw_at lw_m4 129 rfl) rfl
theorem q961 : (Jvm.Cond.instanceMethod ({ cls := "PlatesSing", name := "forget", desc := "()I" } : Jvm.MethodName)) ∈ lw_all := lw_g (lw_at lw_m4 133 rfl) rfl
theorem q962 : (Jvm.Cond.selects "PlatesSing" ({ cls := "PlatesSing", name := "forget", desc := "()I" } : Jvm.MethodName) ({ cls := "PlatesSing", name := "forget", desc := "()I" } : Jvm.MethodName)) ∈ lw_all := lw_g (lw_at lw_m4 134 rfl) rfl
theorem q963 : (Jvm.Cond.code ({ cls := "PlatesSing", name := "forget", desc := "()I" } : Jvm.MethodName) prog_1_method_60_code (2 : Nat) (Option.some Jvm.ClassFile.FieldType.int)) ∈ lw_all := lw_g (lw_at lw_m4 135 rfl) rfl
theorem q965 : (Jvm.Cond.instanceMethod ({ cls := "PlatesSing", name := "hear", desc := "(I)I" } : Jvm.MethodName)) ∈ lw_all := lw_g (lw_at lw_m4 137 rfl) rfl
theorem q966 : (Jvm.Cond.selects "PlatesSing" ({ cls := "PlatesSing", name := "hear", desc := "(I)I" } : Jvm.MethodName) ({ cls := "PlatesSing", name := "hear", desc := "(I)I" } : Jvm.MethodName)) ∈ lw_all := lw_g (lw_at lw_m4 138 rfl) rfl
theorem q967 : (Jvm.Cond.code ({ cls := "PlatesSing", name := "hear", desc := "(I)I" } : Jvm.MethodName) prog_1_method_61_code (2 : Nat) (Option.some Jvm.ClassFile.FieldType.int)) ∈ lw_all := lw_g (lw_at lw_m4 139 rfl) rfl
theorem q969 : (Jvm.Cond.instanceMethod ({ cls := "PlatesSing", name := "unhear", desc := "()I" } : Jvm.MethodName)) ∈ lw_all := lw_g (lw_at lw_m4 141 rfl) rfl
theorem q970 : (Jvm.Cond.selects "PlatesSing" ({ cls := "PlatesSing", name := "unhear", desc := "()I" } : Jvm.MethodName) ({ cls := "PlatesSing", name := "unhear", desc := "()I" } : Jvm.MethodName)) ∈ lw_all := lw_g (lw_at lw_m4 142 rfl) rfl
theorem q971 : (Jvm.Cond.code ({ cls := "PlatesSing", name := "unhear", desc := "()I" } : Jvm.MethodName) prog_1_method_62_code (2 : Nat) (Option.some Jvm.ClassFile.FieldType.int)) ∈ lw_all := lw_g (lw_at lw_m4 143 rfl) rfl
theorem q973 : (Jvm.Cond.instanceMethod ({ cls := "PlatesSing", name := "fits", desc := "(III)I" } : Jvm.MethodName)) ∈ lw_all := lw_g (lw_at lw_m4 145 rfl) rfl
theorem q974 : (Jvm.Cond.selects "PlatesSing" ({ cls := "PlatesSing", name := "fits", desc := "(III)I" } : Jvm.MethodName) ({ cls := "PlatesSing", name := "fits", desc := "(III)I" } : Jvm.MethodName)) ∈ lw_all := lw_g (lw_at lw_m4 146 rfl) rfl
theorem q975 : (Jvm.Cond.code ({ cls := "PlatesSing", name := "fits", desc := "(III)I" } : Jvm.MethodName) prog_1_method_65_code (5 : Nat) (Option.some Jvm.ClassFile.FieldType.int)) ∈ lw_all := lw_g (lw_at lw_m4 147 rfl) rfl
theorem q976 : (Jvm.Cond.methodLink "PlatesSing" (477 : Nat) ({ cls := "PlatesSing", name := "findFits", desc := "(LPlatesSing$Shape;I)V" } : Jvm.MethodName)) ∈ lw_all := lw_g (lw_at lw_m4 148 rfl) rfl
theorem q977 : (Jvm.Cond.privateMethod ({ cls := "PlatesSing", name := "findFits", desc := "(LPlatesSing$Shape;I)V" } : Jvm.MethodName)) ∈ lw_tbl := lw_at lw_m4 149 rfl
theorem q978 : (Jvm.Cond.instanceMethod ({ cls := "PlatesSing", name := "findFits", desc := "(LPlatesSing$Shape;I)V" } : Jvm.MethodName)) ∈ lw_all := lw_g (lw_at lw_m4 150 rfl) rfl
theorem q979 : (Jvm.Cond.code ({ cls := "PlatesSing", name := "findFits", desc := "(LPlatesSing$Shape;I)V" } : Jvm.MethodName) prog_1_method_64_code (6 : Nat) (Option.none : Option Jvm.ClassFile.FieldType)) ∈ lw_all := lw_g (lw_at lw_m4 151 rfl) rfl
theorem q980 : (Jvm.Cond.methodLink "PlatesSing" (473 : Nat) ({ cls := "PlatesSing", name := "tryCrack", desc := "(LPlatesSing$Shape;III)V" } : Jvm.MethodName)) ∈ lw_all := lw_g (lw_at lw_m4 152 rfl) rfl
theorem q981 : (Jvm.Cond.privateMethod ({ cls := "PlatesSing", name := "tryCrack", desc := "(LPlatesSing$Shape;III)V" } : Jvm.MethodName)) ∈ lw_tbl := lw_at lw_m4 153 rfl
theorem q982 : (Jvm.Cond.instanceMethod ({ cls := "PlatesSing", name := "tryCrack", desc := "(LPlatesSing$Shape;III)V" } : Jvm.MethodName)) ∈ lw_all := lw_g (lw_at lw_m4 154 rfl) rfl
theorem q983 : (Jvm.Cond.code ({ cls := "PlatesSing", name := "tryCrack", desc := "(LPlatesSing$Shape;III)V" } : Jvm.MethodName) prog_1_method_63_code (6 : Nat) (Option.none : Option Jvm.ClassFile.FieldType)) ∈ lw_all := lw_g (lw_at lw_m4 155 rfl) rfl
theorem q985 : (Jvm.Cond.instanceMethod ({ cls := "PlatesSing", name := "next", desc := "(II)I" } : Jvm.MethodName)) ∈ lw_all := lw_g (lw_at lw_m4 157 rfl) rfl
theorem q986 : (Jvm.Cond.selects "PlatesSing" ({ cls := "PlatesSing", name := "next", desc := "(II)I" } : Jvm.MethodName) ({ cls := "PlatesSing", name := "next", desc := "(II)I" } : Jvm.MethodName)) ∈ lw_all := lw_g (lw_at lw_m4 158 rfl) rfl
theorem q987 : (Jvm.Cond.code ({ cls := "PlatesSing", name := "next", desc := "(II)I" } : Jvm.MethodName) prog_1_method_66_code (11 : Nat) (Option.some Jvm.ClassFile.FieldType.int)) ∈ lw_all := lw_g (lw_at lw_m4 159 rfl) rfl
theorem q989 : (Jvm.Cond.instanceMethod ({ cls := "PlatesSing", name := "damp", desc := "(I)I" } : Jvm.MethodName)) ∈ lw_all := lw_g (lw_at lw_m4 161 rfl) rfl
theorem q990 : (Jvm.Cond.selects "PlatesSing" ({ cls := "PlatesSing", name := "damp", desc := "(I)I" } : Jvm.MethodName) ({ cls := "PlatesSing", name := "damp", desc := "(I)I" } : Jvm.MethodName)) ∈ lw_all := lw_g (lw_at lw_m4 162 rfl) rfl
theorem q991 : (Jvm.Cond.code ({ cls := "PlatesSing", name := "damp", desc := "(I)I" } : Jvm.MethodName) prog_1_method_67_code (3 : Nat) (Option.some Jvm.ClassFile.FieldType.int)) ∈ lw_all := lw_g (lw_at lw_m4 163 rfl) rfl
theorem q992 : (Jvm.Cond.constantLong "PlatesSing" (481 : Nat) (500 : Int64)) ∈ lw_all := lw_g (lw_at lw_m4 164 rfl) rfl
theorem q994 : (Jvm.Cond.instanceMethod ({ cls := "PlatesSing", name := "ear", desc := "(II)I" } : Jvm.MethodName)) ∈ lw_all := lw_g (lw_at lw_m4 166 rfl) rfl
theorem q995 : (Jvm.Cond.selects "PlatesSing" ({ cls := "PlatesSing", name := "ear", desc := "(II)I" } : Jvm.MethodName) ({ cls := "PlatesSing", name := "ear", desc := "(II)I" } : Jvm.MethodName)) ∈ lw_all := lw_g (lw_at lw_m4 167 rfl) rfl
theorem q996 : (Jvm.Cond.code ({ cls := "PlatesSing", name := "ear", desc := "(II)I" } : Jvm.MethodName) prog_1_method_68_code (4 : Nat) (Option.some Jvm.ClassFile.FieldType.int)) ∈ lw_all := lw_g (lw_at lw_m4 168 rfl) rfl
theorem q997 : (Jvm.Cond.constantLong "PlatesSing" (486 : Nat) (-1 : Int64)) ∈ lw_all := lw_g (lw_at lw_m4 169 rfl) rfl
theorem q999 : (Jvm.Cond.instanceMethod ({ cls := "PlatesSing", name := "blow", desc := "(IIII)I" } : Jvm.MethodName)) ∈ lw_all := lw_g (lw_at lw_m4 171 rfl) rfl
theorem q1000 : (Jvm.Cond.selects "PlatesSing" ({ cls := "PlatesSing", name := "blow", desc := "(IIII)I" } : Jvm.MethodName) ({ cls := "PlatesSing", name := "blow", desc := "(IIII)I" } : Jvm.MethodName)) ∈ lw_all := lw_g (lw_at lw_m4 172 rfl) rfl
theorem q1001 : (Jvm.Cond.code ({ cls := "PlatesSing", name := "blow", desc := "(IIII)I" } : Jvm.MethodName) prog_1_method_71_code (11 : Nat) (Option.some Jvm.ClassFile.FieldType.int)) ∈ lw_all := lw_g (lw_at lw_m4 173 rfl) rfl
theorem q1002 : (Jvm.Cond.constantLong "PlatesSing" (497 : Nat) (-99 : Int64)) ∈ lw_all := lw_g (lw_at lw_m4 174 rfl) rfl
theorem q1003 : (Jvm.Cond.constantLong "PlatesSing" (499 : Nat) (200 : Int64)) ∈ lw_all := lw_g (lw_at lw_m4 175 rfl) rfl
theorem q1004 : (Jvm.Cond.methodLink "PlatesSing" (501 : Nat) ({ cls := "PlatesSing", name := "strike", desc := "(LPlatesSing$Shape;I)I" } : Jvm.MethodName)) ∈ lw_all := lw_g (lw_at lw_m4 176 rfl) rfl
theorem q1005 : (Jvm.Cond.privateMethod ({ cls := "PlatesSing", name := "strike", desc := "(LPlatesSing$Shape;I)I" } : Jvm.MethodName)) ∈ lw_tbl := lw_at lw_m4 177 rfl
theorem q1006 : (Jvm.Cond.instanceMethod ({ cls := "PlatesSing", name := "strike", desc := "(LPlatesSing$Shape;I)I" } : Jvm.MethodName)) ∈ lw_all := lw_g (lw_at lw_m4 178 rfl) rfl
theorem q1007 : (Jvm.Cond.code ({ cls := "PlatesSing", name := "strike", desc := "(LPlatesSing$Shape;I)I" } : Jvm.MethodName) prog_1_method_70_code (7 : Nat) (Option.some Jvm.ClassFile.FieldType.int)) ∈ lw_all := lw_g (lw_at lw_m4 179 rfl) rfl
theorem q1008 : (Jvm.Cond.methodLink "PlatesSing" (494 : Nat) ({ cls := "PlatesSing", name := "step", desc := "(LPlatesSing$Shape;)V" } : Jvm.MethodName)) ∈ lw_all := lw_g (lw_at lw_m4 180 rfl) rfl
theorem q1009 : (Jvm.Cond.privateMethod ({ cls := "PlatesSing", name := "step", desc := "(LPlatesSing$Shape;)V" } : Jvm.MethodName)) ∈ lw_tbl := lw_at lw_m4 181 rfl
theorem q1010 : (Jvm.Cond.instanceMethod ({ cls := "PlatesSing", name := "step", desc := "(LPlatesSing$Shape;)V" } : Jvm.MethodName)) ∈ lw_all := lw_g (lw_at lw_m4 182 rfl) rfl
theorem q1011 : (Jvm.Cond.code ({ cls := "PlatesSing", name := "step", desc := "(LPlatesSing$Shape;)V" } : Jvm.MethodName) prog_1_method_69_code (6 : Nat) (Option.none : Option Jvm.ClassFile.FieldType)) ∈ lw_all := lw_g (lw_at lw_m4 183 rfl) rfl
theorem q1013 : (Jvm.Cond.instanceMethod ({ cls := "PlatesSing", name := "roll", desc := "(III)I" } : Jvm.MethodName)) ∈ lw_all := lw_g (lw_at lw_m4 185 rfl) rfl
theorem q1014 : (Jvm.Cond.selects "PlatesSing" ({ cls := "PlatesSing", name := "roll", desc := "(III)I" } : Jvm.MethodName) ({ cls := "PlatesSing", name := "roll", desc := "(III)I" } : Jvm.MethodName)) ∈ lw_all := lw_g (lw_at lw_m4 186 rfl) rfl
theorem q1015 : (Jvm.Cond.code ({ cls := "PlatesSing", name := "roll", desc := "(III)I" } : Jvm.MethodName) prog_1_method_72_code (4 : Nat) (Option.some Jvm.ClassFile.FieldType.int)) ∈ lw_all := lw_g (lw_at lw_m4 187 rfl) rfl
theorem q1017 : (Jvm.Cond.instanceMethod ({ cls := "PlatesSing", name := "rolled", desc := "(II)I" } : Jvm.MethodName)) ∈ lw_all := lw_g (lw_at lw_m4 189 rfl) rfl
theorem q1018 : (Jvm.Cond.selects "PlatesSing" ({ cls := "PlatesSing", name := "rolled", desc := "(II)I" } : Jvm.MethodName) ({ cls := "PlatesSing", name := "rolled", desc := "(II)I" } : Jvm.MethodName)) ∈ lw_all := lw_g (lw_at lw_m4 190 rfl) rfl
theorem q1019 : (Jvm.Cond.code ({ cls := "PlatesSing", name := "rolled", desc := "(II)I" } : Jvm.MethodName) prog_1_method_73_code (4 : Nat) (Option.some Jvm.ClassFile.FieldType.int)) ∈ lw_all := lw_g (lw_at lw_m4 191 rfl) rfl
theorem q1021 : (Jvm.Cond.instanceMethod ({ cls := "PlatesSing", name := "heard", desc := "(II)I" } : Jvm.MethodName)) ∈ lw_all := lw_g (lw_at lw_m4 193 rfl) rfl
theorem q1022 : (Jvm.Cond.selects "PlatesSing" ({ cls := "PlatesSing", name := "heard", desc := "(II)I" } : Jvm.MethodName) ({ cls := "PlatesSing", name := "heard", desc := "(II)I" } : Jvm.MethodName)) ∈ lw_all := lw_g (lw_at lw_m4 194 rfl) rfl
theorem q1023 : (Jvm.Cond.code ({ cls := "PlatesSing", name := "heard", desc := "(II)I" } : Jvm.MethodName) prog_1_method_75_code (3 : Nat) (Option.some Jvm.ClassFile.FieldType.int)) ∈ lw_all := lw_g (lw_at lw_m4 195 rfl) rfl
theorem q1024 : (Jvm.Cond.methodLink "PlatesSing" (505 : Nat) ({ cls := "PlatesSing", name := "hasHeard", desc := "(I)Z" } : Jvm.MethodName)) ∈ lw_all := lw_g (lw_at lw_m4 196 rfl) rfl
theorem q1025 : (Jvm.Cond.privateMethod ({ cls := "PlatesSing", name := "hasHeard", desc := "(I)Z" } : Jvm.MethodName)) ∈ lw_tbl := lw_at lw_m4 197 rfl
theorem q1026 : (Jvm.Cond.instanceMethod ({ cls := "PlatesSing", name := "hasHeard", desc := "(I)Z" } : Jvm.MethodName)) ∈ lw_all := lw_g (lw_at lw_m4 198 rfl) rfl
theorem q1027 : (Jvm.Cond.code ({ cls := "PlatesSing", name := "hasHeard", desc := "(I)Z" } : Jvm.MethodName) prog_1_method_74_code (2 : Nat) (Option.some Jvm.ClassFile.FieldType.boolean)) ∈ lw_all := lw_g (lw_at lw_m4 199 rfl) rfl
theorem q1029 : (Jvm.Cond.instanceMethod ({ cls := "PlatesSing", name := "loud", desc := "(II)I" } : Jvm.MethodName)) ∈ lw_all := lw_g (lw_at lw_m4 201 rfl) rfl
theorem q1030 : (Jvm.Cond.selects "PlatesSing" ({ cls := "PlatesSing", name := "loud", desc := "(II)I" } : Jvm.MethodName) ({ cls := "PlatesSing", name := "loud", desc := "(II)I" } : Jvm.MethodName)) ∈ lw_all := lw_g (lw_at lw_m4 202 rfl) rfl
theorem q1031 : (Jvm.Cond.code ({ cls := "PlatesSing", name := "loud", desc := "(II)I" } : Jvm.MethodName) prog_1_method_76_code (7 : Nat) (Option.some Jvm.ClassFile.FieldType.int)) ∈ lw_all := lw_g (lw_at lw_m4 203 rfl) rfl
theorem q1033 : (Jvm.Cond.instanceMethod ({ cls := "PlatesSing", name := "write", desc := "(IIII)I" } : Jvm.MethodName)) ∈ lw_all := lw_g (lw_at lw_m4 205 rfl) rfl
theorem q1034 : (Jvm.Cond.selects "PlatesSing" ({ cls := "PlatesSing", name := "write", desc := "(IIII)I" } : Jvm.MethodName) ({ cls := "PlatesSing", name := "write", desc := "(IIII)I" } : Jvm.MethodName)) ∈ lw_all := lw_g (lw_at lw_m4 206 rfl) rfl
theorem q1035 : (Jvm.Cond.code ({ cls := "PlatesSing", name := "write", desc := "(IIII)I" } : Jvm.MethodName) prog_1_method_78_code (10 : Nat) (Option.some Jvm.ClassFile.FieldType.int)) ∈ lw_all := lw_g (lw_at lw_m4 207 rfl) rfl
theorem q1036 : (Jvm.Cond.methodLink "PlatesSing" (508 : Nat) ({ cls := "PlatesSing", name := "isShelf", desc := "(I)Z" } : Jvm.MethodName)) ∈ lw_all := lw_g (lw_at lw_m4 208 rfl) rfl
theorem q1037 : (Jvm.Cond.static ({ cls := "PlatesSing", name := "isShelf", desc := "(I)Z" } : Jvm.MethodName)) ∈ lw_all := lw_g (lw_at lw_m4 209 rfl) rfl
theorem q1038 : (Jvm.Cond.code ({ cls := "PlatesSing", name := "isShelf", desc := "(I)Z" } : Jvm.MethodName) prog_1_method_94_code (1 : Nat) (Option.some Jvm.ClassFile.FieldType.boolean)) ∈ lw_all := lw_g (lw_at lw_m4 210 rfl) rfl
theorem q1039 : (Jvm.Cond.constantLong "PlatesSing" (511 : Nat) (60 : Int64)) ∈ lw_all := lw_g (lw_at lw_m4 211 rfl) rfl
theorem q1040 : (Jvm.Cond.classLink "PlatesSing" (513 : Nat) "[B") ∈ lw_all := lw_g (lw_at lw_m4 212 rfl) rfl
theorem q1041 : (Jvm.Cond.classLink "PlatesSing" (515 : Nat) "[S") ∈ lw_all := lw_g (lw_at lw_m4 213 rfl) rfl
theorem q1042 : (Jvm.Cond.classLink "PlatesSing" (517 : Nat) "[I") ∈ lw_all := lw_g (lw_at lw_m4 214 rfl) rfl
theorem q1043 : (Jvm.Cond.methodLink "PlatesSing" (520 : Nat) ({ cls := "PlatesSing", name := "fitted", desc := "(III)I" } : Jvm.MethodName)) ∈ lw_all := lw_g (lw_at lw_m4 215 rfl) rfl
theorem q1044 : (Jvm.Cond.static ({ cls := "PlatesSing", name := "fitted", desc := "(III)I" } : Jvm.MethodName)) ∈ lw_all := lw_g (lw_at lw_m4 216 rfl) rfl
theorem q1045 : (Jvm.Cond.code ({ cls := "PlatesSing", name := "fitted", desc := "(III)I" } : Jvm.MethodName) prog_1_method_77_code (3 : Nat) (Option.some Jvm.ClassFile.FieldType.int)) ∈ lw_all := lw_g (lw_at lw_m4 217 rfl) rfl
theorem q1046 : (Jvm.Cond.constant "PlatesSing" (525 : Nat) (-2147483648 : Int32)) ∈ lw_all := lw_g (lw_at lw_m4 218 rfl) rfl
theorem q1047 : (Jvm.Cond.constant "PlatesSing" (526 : Nat) (2147483647 : Int32)) ∈ lw_all := lw_g (lw_at lw_m4 219 rfl) rfl
theorem q1049 : (Jvm.Cond.instanceMethod ({ cls := "PlatesSing", name := "loudness", desc := "(II)I" } : Jvm.MethodName)) ∈ lw_all := lw_g (lw_at lw_m4 221 rfl) rfl
theorem q1050 : (Jvm.Cond.selects "PlatesSing" ({ cls := "PlatesSing", name := "loudness", desc := "(II)I" } : Jvm.MethodName) ({ cls := "PlatesSing", name := "loudness", desc := "(II)I" } : Jvm.MethodName)) ∈ lw_all := lw_g (lw_at lw_m4 222 rfl) rfl
theorem q1051 : (Jvm.Cond.code ({ cls := "PlatesSing", name := "loudness", desc := "(II)I" } : Jvm.MethodName) prog_1_method_82_code (4 : Nat) (Option.some Jvm.ClassFile.FieldType.int)) ∈ lw_all := lw_g (lw_at lw_m4 223 rfl) rfl
theorem q1052 : (Jvm.Cond.methodLink "PlatesSing" (541 : Nat) ({ cls := "PlatesSing", name := "isPeriod", desc := "(I)Z" } : Jvm.MethodName)) ∈ lw_all := lw_g (lw_at lw_m4 224 rfl) rfl
theorem q1053 : (Jvm.Cond.static ({ cls := "PlatesSing", name := "isPeriod", desc := "(I)Z" } : Jvm.MethodName)) ∈ lw_all := lw_g (lw_at lw_m4 225 rfl) rfl
theorem q1054 : (Jvm.Cond.code ({ cls := "PlatesSing", name := "isPeriod", desc := "(I)Z" } : Jvm.MethodName) prog_1_method_81_code (1 : Nat) (Option.some Jvm.ClassFile.FieldType.boolean)) ∈ lw_all := lw_g (lw_at lw_m4 226 rfl) rfl
theorem q1055 : (Jvm.Cond.methodLink "PlatesSing" (544 : Nat) ({ cls := "PlatesSing", name := "listen", desc := "(I)I" } : Jvm.MethodName)) ∈ lw_all := lw_g (lw_at lw_m4 227 rfl) rfl
theorem q1056 : (Jvm.Cond.privateMethod ({ cls := "PlatesSing", name := "listen", desc := "(I)I" } : Jvm.MethodName)) ∈ lw_tbl := lw_at lw_m4 228 rfl
theorem q1057 : (Jvm.Cond.instanceMethod ({ cls := "PlatesSing", name := "listen", desc := "(I)I" } : Jvm.MethodName)) ∈ lw_all := lw_g (lw_at lw_m4 229 rfl) rfl
theorem q1058 : (Jvm.Cond.code ({ cls := "PlatesSing", name := "listen", desc := "(I)I" } : Jvm.MethodName) prog_1_method_79_code (4 : Nat) (Option.some Jvm.ClassFile.FieldType.int)) ∈ lw_all := lw_g (lw_at lw_m4 230 rfl) rfl
theorem q1059 : (Jvm.Cond.constantLong "PlatesSing" (547 : Nat) (1999999999 : Int64)) ∈ lw_all := lw_g (lw_at lw_m4 231 rfl) rfl
theorem q1060 : (Jvm.Cond.methodLink "PlatesSing" (549 : Nat) ({ cls := "PlatesSing", name := "loudBy", desc := "(I)J" } : Jvm.MethodName)) ∈ lw_all := lw_g (lw_at lw_m4 232 rfl) rfl
theorem q1061 : (Jvm.Cond.privateMethod ({ cls := "PlatesSing", name := "loudBy", desc := "(I)J" } : Jvm.MethodName)) ∈ lw_tbl := lw_at lw_m4 233 rfl
theorem q1062 : (Jvm.Cond.instanceMethod ({ cls := "PlatesSing", name := "loudBy", desc := "(I)J" } : Jvm.MethodName)) ∈ lw_all := lw_g (lw_at lw_m4 234 rfl) rfl
theorem q1063 : (Jvm.Cond.code ({ cls := "PlatesSing", name := "loudBy", desc := "(I)J" } : Jvm.MethodName) prog_1_method_80_code (7 : Nat) (Option.some Jvm.ClassFile.FieldType.long)) ∈ lw_all := lw_g (lw_at lw_m4 235 rfl) rfl
theorem q1064 : (Jvm.Cond.methodLink "PlatesSing" (530 : Nat) ({ cls := "java/lang/Integer", name := "signum", desc := "(I)I" } : Jvm.MethodName)) ∈ lw_all := lw_g (lw_at lw_m4 236 rfl) rfl
theorem q1067 : (Jvm.Cond.methodLink "PlatesSing" (533 : Nat) ({ cls := "java/lang/Math", name := "abs", desc := "(J)J" } : Jvm.MethodName)) ∈ lw_all := lw_g (lw_at lw_m4 239 rfl) rfl
theorem q1070 : (Jvm.Cond.methodLink "PlatesSing" (536 : Nat) ({ cls := "java/lang/Math", name := "max", desc := "(JJ)J" } : Jvm.MethodName)) ∈ lw_all := lw_g (lw_at lw_m5 2 rfl) rfl
theorem q1073 : (Jvm.Cond.methodLink "PlatesSing" (539 : Nat) ({ cls := "java/lang/Math", name := "min", desc := "(JJ)J" } : Jvm.MethodName)) ∈ lw_all := lw_g (lw_at lw_m5 5 rfl) rfl
theorem q1077 : (Jvm.Cond.instanceMethod ({ cls := "PlatesSing", name := "strongest", desc := "(I)I" } : Jvm.MethodName)) ∈ lw_all := lw_g (lw_at lw_m5 9 rfl) rfl
theorem q1078 : (Jvm.Cond.selects "PlatesSing" ({ cls := "PlatesSing", name := "strongest", desc := "(I)I" } : Jvm.MethodName) ({ cls := "PlatesSing", name := "strongest", desc := "(I)I" } : Jvm.MethodName)) ∈ lw_all := lw_g (lw_at lw_m5 10 rfl) rfl
theorem q1079 : (Jvm.Cond.code ({ cls := "PlatesSing", name := "strongest", desc := "(I)I" } : Jvm.MethodName) prog_1_method_83_code (5 : Nat) (Option.some Jvm.ClassFile.FieldType.int)) ∈ lw_all := lw_g (lw_at lw_m5 11 rfl) rfl
theorem q1081 : (Jvm.Cond.instanceMethod ({ cls := "PlatesSing", name := "ratio", desc := "(II)I" } : Jvm.MethodName)) ∈ lw_all := lw_g (lw_at lw_m5 13 rfl) rfl
theorem q1082 : (Jvm.Cond.selects "PlatesSing" ({ cls := "PlatesSing", name := "ratio", desc := "(II)I" } : Jvm.MethodName) ({ cls := "PlatesSing", name := "ratio", desc := "(II)I" } : Jvm.MethodName)) ∈ lw_all := lw_g (lw_at lw_m5 14 rfl) rfl
theorem q1083 : (Jvm.Cond.code ({ cls := "PlatesSing", name := "ratio", desc := "(II)I" } : Jvm.MethodName) prog_1_method_84_code (3 : Nat) (Option.some Jvm.ClassFile.FieldType.int)) ∈ lw_all := lw_g (lw_at lw_m5 15 rfl) rfl
theorem q1085 : (Jvm.Cond.instanceMethod ({ cls := "PlatesSing", name := "unratio", desc := "()I" } : Jvm.MethodName)) ∈ lw_all := lw_g (lw_at lw_m5 17 rfl) rfl
theorem q1086 : (Jvm.Cond.selects "PlatesSing" ({ cls := "PlatesSing", name := "unratio", desc := "()I" } : Jvm.MethodName) ({ cls := "PlatesSing", name := "unratio", desc := "()I" } : Jvm.MethodName)) ∈ lw_all := lw_g (lw_at lw_m5 18 rfl) rfl
theorem q1087 : (Jvm.Cond.code ({ cls := "PlatesSing", name := "unratio", desc := "()I" } : Jvm.MethodName) prog_1_method_85_code (2 : Nat) (Option.some Jvm.ClassFile.FieldType.int)) ∈ lw_all := lw_g (lw_at lw_m5 19 rfl) rfl
theorem q1089 : (Jvm.Cond.instanceMethod ({ cls := "PlatesSing", name := "agree", desc := "(IIII)I" } : Jvm.MethodName)) ∈ lw_all := lw_g (lw_at lw_m5 21 rfl) rfl
theorem q1090 : (Jvm.Cond.selects "PlatesSing" ({ cls := "PlatesSing", name := "agree", desc := "(IIII)I" } : Jvm.MethodName) ({ cls := "PlatesSing", name := "agree", desc := "(IIII)I" } : Jvm.MethodName)) ∈ lw_all := lw_g (lw_at lw_m5 22 rfl) rfl
theorem q1091 : (Jvm.Cond.code ({ cls := "PlatesSing", name := "agree", desc := "(IIII)I" } : Jvm.MethodName) prog_1_method_88_code (10 : Nat) (Option.some Jvm.ClassFile.FieldType.int)) ∈ lw_all := lw_g (lw_at lw_m5 23 rfl) rfl
theorem q1092 : (Jvm.Cond.constantLong "PlatesSing" (560 : Nat) (7 : Int64)) ∈ lw_all := lw_g (lw_at lw_m5 24 rfl) rfl
theorem q1093 : (Jvm.Cond.constantLong "PlatesSing" (562 : Nat) (9999 : Int64)) ∈ lw_all := lw_g (lw_at lw_m5 25 rfl) rfl
theorem q1094 : (Jvm.Cond.methodLink "PlatesSing" (564 : Nat) ({ cls := "PlatesSing", name := "inTune", desc := "(III)I" } : Jvm.MethodName)) ∈ lw_all := lw_g (lw_at lw_m5 26 rfl) rfl
theorem q1095 : (Jvm.Cond.privateMethod ({ cls := "PlatesSing", name := "inTune", desc := "(III)I" } : Jvm.MethodName)) ∈ lw_tbl := lw_at lw_m5 27 rfl
theorem q1096 : (Jvm.Cond.instanceMethod ({ cls := "PlatesSing", name := "inTune", desc := "(III)I" } : Jvm.MethodName)) ∈ lw_all := lw_g (lw_at lw_m5 28 rfl) rfl
theorem q1097 : (Jvm.Cond.code ({ cls := "PlatesSing", name := "inTune", desc := "(III)I" } : Jvm.MethodName) prog_1_method_87_code (8 : Nat) (Option.some Jvm.ClassFile.FieldType.int)) ∈ lw_all := lw_g (lw_at lw_m5 29 rfl) rfl
theorem q1098 : (Jvm.Cond.methodLink "PlatesSing" (556 : Nat) ({ cls := "PlatesSing", name := "areInTune", desc := "(IIII)Z" } : Jvm.MethodName)) ∈ lw_all := lw_g (lw_at lw_m5 30 rfl) rfl
theorem q1099 : (Jvm.Cond.privateMethod ({ cls := "PlatesSing", name := "areInTune", desc := "(IIII)Z" } : Jvm.MethodName)) ∈ lw_tbl := lw_at lw_m5 31 rfl
theorem q1100 : (Jvm.Cond.instanceMethod ({ cls := "PlatesSing", name := "areInTune", desc := "(IIII)Z" } : Jvm.MethodName)) ∈ lw_all := lw_g (lw_at lw_m5 32 rfl) rfl
theorem q1101 : (Jvm.Cond.code ({ cls := "PlatesSing", name := "areInTune", desc := "(IIII)Z" } : Jvm.MethodName) prog_1_method_86_code (5 : Nat) (Option.some Jvm.ClassFile.FieldType.boolean)) ∈ lw_all := lw_g (lw_at lw_m5 33 rfl) rfl
theorem q1103 : (Jvm.Cond.instanceMethod ({ cls := "PlatesSing", name := "join", desc := "(IIII)I" } : Jvm.MethodName)) ∈ lw_all := lw_g (lw_at lw_m5 35 rfl) rfl
theorem q1104 : (Jvm.Cond.selects "PlatesSing" ({ cls := "PlatesSing", name := "join", desc := "(IIII)I" } : Jvm.MethodName) ({ cls := "PlatesSing", name := "join", desc := "(IIII)I" } : Jvm.MethodName)) ∈ lw_all := lw_g (lw_at lw_m5 36 rfl) rfl
theorem q1105 : (Jvm.Cond.code ({ cls := "PlatesSing", name := "join", desc := "(IIII)I" } : Jvm.MethodName) prog_1_method_90_code (8 : Nat) (Option.some Jvm.ClassFile.FieldType.int)) ∈ lw_all := lw_g (lw_at lw_m5 37 rfl) rfl
theorem q1106 : (Jvm.Cond.methodLink "PlatesSing" (571 : Nat) ({ cls := "PlatesSing$Shape", name := "<init>", desc := "(LPlatesSing;I)V" } : Jvm.MethodName)) ∈ lw_all := lw_g (lw_at lw_m5 38 rfl) rfl
theorem q1107 : (Jvm.Cond.methodLink "PlatesSing" (572 : Nat) ({ cls := "PlatesSing", name := "copyInto", desc := "(LPlatesSing$Shape;LPlatesSing$Shape;I)V" } : Jvm.MethodName)) ∈ lw_all := lw_g (lw_at lw_m5 39 rfl) rfl
theorem q1108 : (Jvm.Cond.privateMethod ({ cls := "PlatesSing", name := "copyInto", desc := "(LPlatesSing$Shape;LPlatesSing$Shape;I)V" } : Jvm.MethodName)) ∈ lw_tbl := lw_at lw_m5 40 rfl
theorem q1109 : (Jvm.Cond.instanceMethod ({ cls := "PlatesSing", name := "copyInto", desc := "(LPlatesSing$Shape;LPlatesSing$Shape;I)V" } : Jvm.MethodName)) ∈ lw_all := lw_g (lw_at lw_m5 41 rfl) rfl
theorem q1110 : (Jvm.Cond.code ({ cls := "PlatesSing", name := "copyInto", desc := "(LPlatesSing$Shape;LPlatesSing$Shape;I)V" } : Jvm.MethodName) prog_1_method_89_code (6 : Nat) (Option.none : Option Jvm.ClassFile.FieldType)) ∈ lw_all := lw_g (lw_at lw_m5 42 rfl) rfl
theorem q1111 : (Jvm.Cond.methodLink "PlatesSing" (567 : Nat) ({ cls := "PlatesSing", name := "newPiece", desc := "(III)LPlatesSing$Piece;" } : Jvm.MethodName)) ∈ lw_all := lw_g (lw_at lw_m5 43 rfl) rfl
theorem q1113 : (Jvm.Cond.instanceMethod ({ cls := "PlatesSing", name := "law", desc := "(II)I" } : Jvm.MethodName)) ∈ lw_all := lw_g (lw_at lw_m5 45 rfl) rfl
theorem q1114 : (Jvm.Cond.selects "PlatesSing" ({ cls := "PlatesSing", name := "law", desc := "(II)I" } : Jvm.MethodName) ({ cls := "PlatesSing", name := "law", desc := "(II)I" } : Jvm.MethodName)) ∈ lw_all := lw_g (lw_at lw_m5 46 rfl) rfl
theorem q1115 : (Jvm.Cond.code ({ cls := "PlatesSing", name := "law", desc := "(II)I" } : Jvm.MethodName) prog_1_method_91_code (8 : Nat) (Option.some Jvm.ClassFile.FieldType.int)) ∈ lw_all := lw_g (lw_at lw_m5 47 rfl) rfl
theorem q1117 : (Jvm.Cond.instanceMethod ({ cls := "PlatesSing", name := "act", desc := "(III)I" } : Jvm.MethodName)) ∈ lw_all := lw_g (lw_at lw_m5 49 rfl) rfl
theorem q1118 : (Jvm.Cond.selects "PlatesSing" ({ cls := "PlatesSing", name := "act", desc := "(III)I" } : Jvm.MethodName) ({ cls := "PlatesSing", name := "act", desc := "(III)I" } : Jvm.MethodName)) ∈ lw_all := lw_g (lw_at lw_m5 50 rfl) rfl
theorem q1119 : (Jvm.Cond.code ({ cls := "PlatesSing", name := "act", desc := "(III)I" } : Jvm.MethodName) prog_1_method_92_code (5 : Nat) (Option.some Jvm.ClassFile.FieldType.int)) ∈ lw_all := lw_g (lw_at lw_m5 51 rfl) rfl
theorem q1120 : (Jvm.Cond.methodLink "PlatesSing" (585 : Nat) ({ cls := "PlatesSing", name := "isBody", desc := "(I)Z" } : Jvm.MethodName)) ∈ lw_all := lw_g (lw_at lw_m5 52 rfl) rfl
theorem q1121 : (Jvm.Cond.privateMethod ({ cls := "PlatesSing", name := "isBody", desc := "(I)Z" } : Jvm.MethodName)) ∈ lw_tbl := lw_at lw_m5 53 rfl
theorem q1122 : (Jvm.Cond.instanceMethod ({ cls := "PlatesSing", name := "isBody", desc := "(I)Z" } : Jvm.MethodName)) ∈ lw_all := lw_g (lw_at lw_m5 54 rfl) rfl
theorem q1123 : (Jvm.Cond.code ({ cls := "PlatesSing", name := "isBody", desc := "(I)Z" } : Jvm.MethodName) prog_1_method_5_code (2 : Nat) (Option.some Jvm.ClassFile.FieldType.boolean)) ∈ lw_all := lw_g (lw_at lw_m5 55 rfl) rfl
theorem q1197 : (Jvm.Cond.methodLink "PlatesSing" (591 : Nat) ({ cls := "PlatesSing$Part", name := "weighs", desc := "(I)I" } : Jvm.MethodName)) ∈ lw_all := lw_g (lw_at lw_m5 129 rfl) rfl
theorem q1226 : (Jvm.Cond.methodLink "PlatesSing" (594 : Nat) ({ cls := "PlatesSing$Part", name := "sounds", desc := "(I)I" } : Jvm.MethodName)) ∈ lw_all := lw_g (lw_at lw_m5 158 rfl) rfl
theorem q1321 : (Jvm.Cond.instanceMethod ({ cls := "PlatesSing", name := "trace", desc := "(I)I" } : Jvm.MethodName)) ∈ lw_all := lw_g (lw_at lw_m6 13 rfl) rfl
theorem q1322 : (Jvm.Cond.selects "PlatesSing" ({ cls := "PlatesSing", name := "trace", desc := "(I)I" } : Jvm.MethodName) ({ cls := "PlatesSing", name := "trace", desc := "(I)I" } : Jvm.MethodName)) ∈ lw_all := lw_g (lw_at lw_m6 14 rfl) rfl
theorem q1323 : (Jvm.Cond.code ({ cls := "PlatesSing", name := "trace", desc := "(I)I" } : Jvm.MethodName) prog_1_method_93_code (2 : Nat) (Option.some Jvm.ClassFile.FieldType.int)) ∈ lw_all := lw_g (lw_at lw_m6 15 rfl) rfl
theorem q1325 : (Jvm.Cond.instanceMethod ({ cls := "PlatesSing", name := "keep", desc := "(II)I" } : Jvm.MethodName)) ∈ lw_all := lw_g (lw_at lw_m6 17 rfl) rfl
theorem q1326 : (Jvm.Cond.selects "PlatesSing" ({ cls := "PlatesSing", name := "keep", desc := "(II)I" } : Jvm.MethodName) ({ cls := "PlatesSing", name := "keep", desc := "(II)I" } : Jvm.MethodName)) ∈ lw_all := lw_g (lw_at lw_m6 18 rfl) rfl
theorem q1327 : (Jvm.Cond.code ({ cls := "PlatesSing", name := "keep", desc := "(II)I" } : Jvm.MethodName) prog_1_method_95_code (3 : Nat) (Option.some Jvm.ClassFile.FieldType.int)) ∈ lw_all := lw_g (lw_at lw_m6 19 rfl) rfl
theorem q1329 : (Jvm.Cond.instanceMethod ({ cls := "PlatesSing", name := "row", desc := "(III)I" } : Jvm.MethodName)) ∈ lw_all := lw_g (lw_at lw_m6 21 rfl) rfl
theorem q1330 : (Jvm.Cond.selects "PlatesSing" ({ cls := "PlatesSing", name := "row", desc := "(III)I" } : Jvm.MethodName) ({ cls := "PlatesSing", name := "row", desc := "(III)I" } : Jvm.MethodName)) ∈ lw_all := lw_g (lw_at lw_m6 22 rfl) rfl
theorem q1331 : (Jvm.Cond.code ({ cls := "PlatesSing", name := "row", desc := "(III)I" } : Jvm.MethodName) prog_1_method_96_code (4 : Nat) (Option.some Jvm.ClassFile.FieldType.int)) ∈ lw_all := lw_g (lw_at lw_m6 23 rfl) rfl
theorem q1335 : (Jvm.Cond.instanceMethod ({ cls := "PlatesSing", name := "place", desc := "(IIJ)I" } : Jvm.MethodName)) ∈ lw_all := lw_g (lw_at lw_m6 27 rfl) rfl
theorem q1336 : (Jvm.Cond.selects "PlatesSing" ({ cls := "PlatesSing", name := "place", desc := "(IIJ)I" } : Jvm.MethodName) ({ cls := "PlatesSing", name := "place", desc := "(IIJ)I" } : Jvm.MethodName)) ∈ lw_all := lw_g (lw_at lw_m6 28 rfl) rfl
theorem q1337 : (Jvm.Cond.code ({ cls := "PlatesSing", name := "place", desc := "(IIJ)I" } : Jvm.MethodName) prog_1_method_100_code (7 : Nat) (Option.some Jvm.ClassFile.FieldType.int)) ∈ lw_all := lw_g (lw_at lw_m6 29 rfl) rfl
theorem q1338 : (Jvm.Cond.methodLink "PlatesSing" (608 : Nat) ({ cls := "PlatesSing", name := "refusal", desc := "(II)I" } : Jvm.MethodName)) ∈ lw_all := lw_g (lw_at lw_m6 30 rfl) rfl
theorem q1339 : (Jvm.Cond.privateMethod ({ cls := "PlatesSing", name := "refusal", desc := "(II)I" } : Jvm.MethodName)) ∈ lw_tbl := lw_at lw_m6 31 rfl
theorem q1340 : (Jvm.Cond.instanceMethod ({ cls := "PlatesSing", name := "refusal", desc := "(II)I" } : Jvm.MethodName)) ∈ lw_all := lw_g (lw_at lw_m6 32 rfl) rfl
theorem q1341 : (Jvm.Cond.code ({ cls := "PlatesSing", name := "refusal", desc := "(II)I" } : Jvm.MethodName) prog_1_method_99_code (4 : Nat) (Option.some Jvm.ClassFile.FieldType.int)) ∈ lw_all := lw_g (lw_at lw_m6 33 rfl) rfl
theorem q1342 : (Jvm.Cond.methodLink "PlatesSing" (601 : Nat) ({ cls := "PlatesSing", name := "sortOf", desc := "(Ljava/lang/Object;)I" } : Jvm.MethodName)) ∈ lw_all := lw_g (lw_at lw_m6 34 rfl) rfl
theorem q1343 : (Jvm.Cond.static ({ cls := "PlatesSing", name := "sortOf", desc := "(Ljava/lang/Object;)I" } : Jvm.MethodName)) ∈ lw_all := lw_g (lw_at lw_m6 35 rfl) rfl
theorem q1344 : (Jvm.Cond.code ({ cls := "PlatesSing", name := "sortOf", desc := "(Ljava/lang/Object;)I" } : Jvm.MethodName) prog_1_method_97_code (1 : Nat) (Option.some Jvm.ClassFile.FieldType.int)) ∈ lw_all := lw_g (lw_at lw_m6 36 rfl) rfl
theorem q1345 : (Jvm.Cond.classLink "PlatesSing" (599 : Nat) "[J") ∈ lw_all := lw_g (lw_at lw_m6 37 rfl) rfl
theorem q1346 : (Jvm.Cond.classLink "PlatesSing" (600 : Nat) "[Z") ∈ lw_all := lw_g (lw_at lw_m6 38 rfl) rfl
theorem q1347 : (Jvm.Cond.methodLink "PlatesSing" (605 : Nat) ({ cls := "PlatesSing", name := "sizeOf", desc := "(Ljava/lang/Object;)I" } : Jvm.MethodName)) ∈ lw_all := lw_g (lw_at lw_m6 39 rfl) rfl
theorem q1348 : (Jvm.Cond.static ({ cls := "PlatesSing", name := "sizeOf", desc := "(Ljava/lang/Object;)I" } : Jvm.MethodName)) ∈ lw_all := lw_g (lw_at lw_m6 40 rfl) rfl
theorem q1349 : (Jvm.Cond.code ({ cls := "PlatesSing", name := "sizeOf", desc := "(Ljava/lang/Object;)I" } : Jvm.MethodName) prog_1_method_98_code (1 : Nat) (Option.some Jvm.ClassFile.FieldType.int)) ∈ lw_all := lw_g (lw_at lw_m6 41 rfl) rfl
theorem q1351 : (Jvm.Cond.instanceMethod ({ cls := "PlatesSing", name := "element", desc := "(II)J" } : Jvm.MethodName)) ∈ lw_all := lw_g (lw_at lw_m6 43 rfl) rfl
theorem q1352 : (Jvm.Cond.selects "PlatesSing" ({ cls := "PlatesSing", name := "element", desc := "(II)J" } : Jvm.MethodName) ({ cls := "PlatesSing", name := "element", desc := "(II)J" } : Jvm.MethodName)) ∈ lw_all := lw_g (lw_at lw_m6 44 rfl) rfl
theorem q1353 : (Jvm.Cond.code ({ cls := "PlatesSing", name := "element", desc := "(II)J" } : Jvm.MethodName) prog_1_method_101_code (4 : Nat) (Option.some Jvm.ClassFile.FieldType.long)) ∈ lw_all := lw_g (lw_at lw_m6 45 rfl) rfl
theorem q1355 : (Jvm.Cond.instanceMethod ({ cls := "PlatesSing", name := "shift", desc := "(IIIII)I" } : Jvm.MethodName)) ∈ lw_all := lw_g (lw_at lw_m6 47 rfl) rfl
theorem q1356 : (Jvm.Cond.selects "PlatesSing" ({ cls := "PlatesSing", name := "shift", desc := "(IIIII)I" } : Jvm.MethodName) ({ cls := "PlatesSing", name := "shift", desc := "(IIIII)I" } : Jvm.MethodName)) ∈ lw_all := lw_g (lw_at lw_m6 48 rfl) rfl
theorem q1357 : (Jvm.Cond.code ({ cls := "PlatesSing", name := "shift", desc := "(IIIII)I" } : Jvm.MethodName) prog_1_method_102_code (8 : Nat) (Option.some Jvm.ClassFile.FieldType.int)) ∈ lw_all := lw_g (lw_at lw_m6 49 rfl) rfl
theorem q1359 : (Jvm.Cond.instanceMethod ({ cls := "PlatesSing", name := "taken", desc := "(II)I" } : Jvm.MethodName)) ∈ lw_all := lw_g (lw_at lw_m6 51 rfl) rfl
theorem q1360 : (Jvm.Cond.selects "PlatesSing" ({ cls := "PlatesSing", name := "taken", desc := "(II)I" } : Jvm.MethodName) ({ cls := "PlatesSing", name := "taken", desc := "(II)I" } : Jvm.MethodName)) ∈ lw_all := lw_g (lw_at lw_m6 52 rfl) rfl
theorem q1361 : (Jvm.Cond.code ({ cls := "PlatesSing", name := "taken", desc := "(II)I" } : Jvm.MethodName) prog_1_method_103_code (5 : Nat) (Option.some Jvm.ClassFile.FieldType.int)) ∈ lw_all := lw_g (lw_at lw_m6 53 rfl) rfl
theorem q1362 : (Jvm.Cond.methodLink "PlatesSing" (611 : Nat) ({ cls := "PlatesSing$Part", name := "isUnder", desc := "(I)Z" } : Jvm.MethodName)) ∈ lw_all := lw_g (lw_at lw_m6 54 rfl) rfl
theorem q1387 : (Jvm.Cond.methodLink "PlatesSing" (614 : Nat) ({ cls := "PlatesSing$Part", name := "kind", desc := "()I" } : Jvm.MethodName)) ∈ lw_all := lw_g (lw_at lw_m6 79 rfl) rfl
theorem q1408 : (Jvm.Cond.instanceMethod ({ cls := "PlatesSing", name := "count", desc := "(I)I" } : Jvm.MethodName)) ∈ lw_all := lw_g (lw_at lw_m6 100 rfl) rfl
theorem q1409 : (Jvm.Cond.selects "PlatesSing" ({ cls := "PlatesSing", name := "count", desc := "(I)I" } : Jvm.MethodName) ({ cls := "PlatesSing", name := "count", desc := "(I)I" } : Jvm.MethodName)) ∈ lw_all := lw_g (lw_at lw_m6 101 rfl) rfl
theorem q1410 : (Jvm.Cond.code ({ cls := "PlatesSing", name := "count", desc := "(I)I" } : Jvm.MethodName) prog_1_method_104_code (2 : Nat) (Option.some Jvm.ClassFile.FieldType.int)) ∈ lw_all := lw_g (lw_at lw_m6 102 rfl) rfl
theorem q2251 : (Jvm.Cond.castable "PlatesSing" "java/lang/Object") ∈ lw_tbl := lw_at lw_m9 223 rfl
theorem in_X0 : ∀ w ∈ wsX00, w ∈ lw_all := lw_in wsX00 [351, 353, 355, 357, 359, 361, 363, 365, 367, 369, 371, 373, 375, 377, 379, 381, 383, 385, 387, 389, 391, 393, 395, 397, 399, 401, 403, 405, 407, 409, 411, 413, 415, 417, 419, 421, 423, 425, 427, 429, 431, 433, 435, 437, 439, 441, 443, 445, 447, 449, 451, 453, 455, 457, 459, 461, 463, 465, 467, 469, 471, 473, 475] (by decide +kernel) (by decide +kernel)
