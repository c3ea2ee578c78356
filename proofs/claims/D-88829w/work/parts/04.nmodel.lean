/-! MaypoleGreenModel -/
set_option maxRecDepth 100000
def RX3 : String := "MaypoleGreenModel"
def TX3 : u_T := fun k => match k with
  | 0 => ("MaypoleGreenModel", "people", "I", false)
  | 1 => ("MaypoleGreenModel", "n", "I", false)
  | 2 => ("MaypoleGreenModel", "kind", "[I", true)
  | 3 => ("MaypoleGreenModel", "reach", "[I", true)
  | 4 => ("MaypoleGreenModel", "pace", "[I", true)
  | 5 => ("MaypoleGreenModel", "who", "[I", true)
  | 6 => ("MaypoleGreenModel", "hangs", "[I", true)
  | 7 => ("MaypoleGreenModel", "colour", "[I", true)
  | 8 => ("MaypoleGreenModel", "length", "[I", true)
  | 9 => ("MaypoleGreenModel", "begun", "[I", true)
  | 10 => ("MaypoleGreenModel", "clothColour", "[I", true)
  | 11 => ("MaypoleGreenModel", "isDance", "Z", false)
  | 12 => ("MaypoleGreenModel", "asideColour", "[I", true)
  | 13 => ("MaypoleGreenModel", "asideLength", "[I", true)
  | 14 => ("MaypoleGreenModel", "steps", "I", false)
  | 15 => ("MaypoleGreenModel", "rows", "I", false)
  | 16 => ("MaypoleGreenModel", "step", "[I", true)
  | 17 => ("MaypoleGreenModel", "mark", "[I", true)
  | 18 => ("MaypoleGreenModel", "clothRibbon", "[I", true)
  | 19 => ("MaypoleGreenModel", "clothMark", "[I", true)
  | 20 => ("MaypoleGreenModel", "things", "I", false)
  | 21 => ("MaypoleGreenModel", "thingRow", "[I", true)
  | 22 => ("MaypoleGreenModel", "thingPlace", "[I", true)
  | 23 => ("MaypoleGreenModel", "thingColour", "[I", true)
  | 24 => ("MaypoleGreenModel", "guess", "[I", true)
  | 25 => ("MaypoleGreenModel", "bestGuess", "[I", true)
  | 26 => ("MaypoleGreenModel", "figures", "I", false)
  | 27 => ("MaypoleGreenModel", "fed", "I", false)
  | 28 => ("MaypoleGreenModel", "many", "[I", true)
  | 29 => ("MaypoleGreenModel", "told", "[I", true)
  | 30 => ("MaypoleGreenModel", "text", "[I", true)
  | 31 => ("MaypoleGreenModel", "spot", "I", false)
  | 32 => ("MaypoleGreenModel", "isTooMany", "Z", false)
  | 33 => ("MaypoleGreenModel", "opened", "[I", true)
  | 34 => ("MaypoleGreenModel", "items", "[I", true)
  | 35 => ("MaypoleGreenModel", "form", "[I", true)
  | 36 => ("MaypoleGreenModel", "other", "[I", true)
  | 37 => ("MaypoleGreenModel", "formMany", "I", false)
  | 38 => ("MaypoleGreenModel", "turns", "I", false)
  | 39 => ("MaypoleGreenModel", "tryHangs", "[I", true)
  | 40 => ("MaypoleGreenModel", "tryLength", "[I", true)
  | 41 => ("MaypoleGreenModel", "tryMark", "[I", true)
  | 42 => ("MaypoleGreenModel", "tryRows", "I", false)
  | 43 => ("MaypoleGreenModel", "trySteps", "I", false)
  | 44 => ("MaypoleGreenModel", "order", "[I", true)
  | 45 => ("MaypoleGreenModel", "goal", "[I", true)
  | 46 => ("MaypoleGreenModel", "far", "[I", true)
  | 47 => ("MaypoleGreenModel", "line", "[I", true)
  | 48 => ("MaypoleGreenModel", "route", "[I", true)
  | 49 => ("MaypoleGreenModel", "routeMany", "I", false)
  | 50 => ("MaypoleGreenModel", "digits", "[I", true)
  | 51 => ("MaypoleGreenModel", "member", "[I", true)
  | 52 => ("MaypoleGreenModel", "seat", "[I", true)
  | 53 => ("MaypoleGreenModel", "bestSeat", "[I", true)
  | 54 => ("MaypoleGreenModel", "bestSum", "I", false)
  | 55 => ("MaypoleGreenModel", "ran", "I", false)
  | 56 => ("MaypoleGreenModel", "bodies", "[I", true)
  | 57 => ("MaypoleGreenModel", "sort", "[I", true)
  | 58 => ("MaypoleGreenModel", "size", "[I", true)
  | 59 => ("MaypoleGreenModel", "item", "[I", true)
  | _ => ("MaypoleGreenModel", "aside", "[I", true)
def tyX3 : Nat → FieldType := fun k => match k with
  | 0 => .int
  | 1 => .int
  | 2 => .array .int
  | 3 => .array .int
  | 4 => .array .int
  | 5 => .array .int
  | 6 => .array .int
  | 7 => .array .int
  | 8 => .array .int
  | 9 => .array .int
  | 10 => .array .int
  | 11 => .boolean
  | 12 => .array .int
  | 13 => .array .int
  | 14 => .int
  | 15 => .int
  | 16 => .array .int
  | 17 => .array .int
  | 18 => .array .int
  | 19 => .array .int
  | 20 => .int
  | 21 => .array .int
  | 22 => .array .int
  | 23 => .array .int
  | 24 => .array .int
  | 25 => .array .int
  | 26 => .int
  | 27 => .int
  | 28 => .array .int
  | 29 => .array .int
  | 30 => .array .int
  | 31 => .int
  | 32 => .boolean
  | 33 => .array .int
  | 34 => .array .int
  | 35 => .array .int
  | 36 => .array .int
  | 37 => .int
  | 38 => .int
  | 39 => .array .int
  | 40 => .array .int
  | 41 => .array .int
  | 42 => .int
  | 43 => .int
  | 44 => .array .int
  | 45 => .array .int
  | 46 => .array .int
  | 47 => .array .int
  | 48 => .array .int
  | 49 => .int
  | 50 => .array .int
  | 51 => .array .int
  | 52 => .array .int
  | 53 => .array .int
  | 54 => .int
  | 55 => .int
  | 56 => .array .int
  | 57 => .array .int
  | 58 => .array .int
  | 59 => .array .int
  | _ => .array .int
abbrev wsX30 : List Cond := u_ws RX3 TX3 61
set_option maxRecDepth 100000 in
theorem nmX3 : ∀ a, a < 61 → ∀ b, b < 61 → a ≠ b → (TX3 a).2.1 ≠ (TX3 b).2.1 := by decide +kernel
set_option maxRecDepth 100000 in
theorem tyX3_ok : ∀ k, k < 61 → parseFieldDescriptor (TX3 k).2.2.1 = some (tyX3 k) := by decide +kernel
abbrev cX3_init : ByteArray := prog_17_method_1_code
def yX3_init : MethodName := ⟨RX3, "<init>", "()V"⟩
def dkwX3_init_20 : List UInt8 := [181, 0, 192, 177]
abbrev dktX3_init_20 : List UInt8 := dkwX3_init_20 ++ []
def dkwX3_init_19 : List UInt8 := [42, 16, 6, 188, 10, 181, 0, 186, 42, 17, 1, 104, 188, 10, 181, 0, 189, 42, 16, 60, 188, 10]
abbrev dktX3_init_19 : List UInt8 := dkwX3_init_19 ++ dktX3_init_20
def dkwX3_init_18 : List UInt8 := [79, 89, 4, 2, 79, 89, 5, 2, 79, 89, 6, 2, 79, 89, 7, 2, 79, 89, 8, 2, 79, 181, 0, 183]
abbrev dktX3_init_18 : List UInt8 := dkwX3_init_18 ++ dktX3_init_19
def dkwX3_init_17 : List UInt8 := [181, 0, 174, 42, 3, 181, 0, 177, 42, 16, 20, 188, 10, 181, 0, 180, 42, 16, 6, 188, 10, 89, 3, 2]
abbrev dktX3_init_17 : List UInt8 := dkwX3_init_17 ++ dktX3_init_18
def dkwX3_init_16 : List UInt8 := [188, 10, 181, 0, 165, 42, 16, 7, 188, 10, 181, 0, 168, 42, 16, 7, 188, 10, 181, 0, 171, 42, 3]
abbrev dktX3_init_16 : List UInt8 := dkwX3_init_16 ++ dktX3_init_17
def dkwX3_init_15 : List UInt8 := [16, 64, 188, 10, 181, 0, 156, 42, 3, 181, 0, 159, 42, 16, 7, 188, 10, 181, 0, 162, 42, 16, 7]
abbrev dktX3_init_15 : List UInt8 := dkwX3_init_15 ++ dktX3_init_16
def dkwX3_init_14 : List UInt8 := [188, 10, 181, 0, 147, 42, 17, 19, 176, 188, 10, 181, 0, 150, 42, 17, 19, 176, 188, 10, 181, 0, 153, 42]
abbrev dktX3_init_14 : List UInt8 := dkwX3_init_14 ++ dktX3_init_15
def dkwX3_init_13 : List UInt8 := [181, 0, 135, 42, 3, 181, 0, 138, 42, 3, 181, 0, 141, 42, 16, 7, 188, 10, 181, 0, 144, 42, 16, 7]
abbrev dktX3_init_13 : List UInt8 := dkwX3_init_13 ++ dktX3_init_14
def dkwX3_init_12 : List UInt8 := [181, 0, 126, 42, 16, 9, 188, 10, 181, 0, 129, 42, 16, 9, 188, 10, 181, 0, 132, 42, 16, 9, 188, 10]
abbrev dktX3_init_12 : List UInt8 := dkwX3_init_12 ++ dktX3_init_13
def dkwX3_init_11 : List UInt8 := [17, 1, 44, 188, 10, 181, 0, 117, 42, 17, 1, 44, 188, 10, 181, 0, 120, 42, 3, 181, 0, 123, 42, 3]
abbrev dktX3_init_11 : List UInt8 := dkwX3_init_11 ++ dktX3_init_12
def dkwX3_init_10 : List UInt8 := [181, 0, 105, 42, 3, 181, 0, 108, 42, 8, 188, 10, 181, 0, 111, 42, 8, 188, 10, 181, 0, 114, 42]
abbrev dktX3_init_10 : List UInt8 := dkwX3_init_10 ++ dktX3_init_11
def dkwX3_init_9 : List UInt8 := [188, 10, 181, 0, 96, 42, 17, 12, 228, 188, 10, 181, 0, 99, 42, 16, 80, 188, 10, 181, 0, 102, 42, 3]
abbrev dktX3_init_9 : List UInt8 := dkwX3_init_9 ++ dktX3_init_10
def dkwX3_init_8 : List UInt8 := [181, 0, 84, 42, 16, 9, 188, 10, 181, 0, 87, 42, 3, 181, 0, 90, 42, 3, 181, 0, 93, 42, 16, 11]
abbrev dktX3_init_8 : List UInt8 := dkwX3_init_8 ++ dktX3_init_9
def dkwX3_init_7 : List UInt8 := [181, 0, 75, 42, 16, 40, 188, 10, 181, 0, 78, 42, 16, 40, 188, 10, 181, 0, 81, 42, 16, 9, 188, 10]
abbrev dktX3_init_7 : List UInt8 := dkwX3_init_7 ++ dktX3_init_8
def dkwX3_init_6 : List UInt8 := [181, 0, 66, 42, 17, 3, 132, 188, 10, 181, 0, 69, 42, 3, 181, 0, 72, 42, 16, 40, 188, 10]
abbrev dktX3_init_6 : List UInt8 := dkwX3_init_6 ++ dktX3_init_7
def dkwX3_init_5 : List UInt8 := [17, 1, 44, 188, 10, 181, 0, 60, 42, 16, 9, 188, 10, 181, 0, 63, 42, 17, 3, 132, 188, 10]
abbrev dktX3_init_5 : List UInt8 := dkwX3_init_5 ++ dktX3_init_6
def dkwX3_init_4 : List UInt8 := [188, 10, 181, 0, 48, 42, 16, 9, 188, 10, 181, 0, 51, 42, 3, 181, 0, 54, 42, 3, 181, 0, 57, 42]
abbrev dktX3_init_4 : List UInt8 := dkwX3_init_4 ++ dktX3_init_5
def dkwX3_init_3 : List UInt8 := [16, 9, 188, 10, 181, 0, 38, 42, 16, 9, 188, 10, 181, 0, 41, 42, 3, 181, 0, 44, 42, 16, 9]
abbrev dktX3_init_3 : List UInt8 := dkwX3_init_3 ++ dktX3_init_4
def dkwX3_init_2 : List UInt8 := [16, 9, 188, 10, 181, 0, 29, 42, 16, 9, 188, 10, 181, 0, 32, 42, 16, 9, 188, 10, 181, 0, 35, 42]
abbrev dktX3_init_2 : List UInt8 := dkwX3_init_2 ++ dktX3_init_3
def dkwX3_init_1 : List UInt8 := [16, 15, 188, 10, 181, 0, 20, 42, 16, 15, 188, 10, 181, 0, 23, 42, 16, 9, 188, 10, 181, 0, 26, 42]
abbrev dktX3_init_1 : List UInt8 := dkwX3_init_1 ++ dktX3_init_2
def dkwX3_init_0 : List UInt8 := [42, 183, 0, 1, 42, 3, 181, 0, 7, 42, 3, 181, 0, 13, 42, 16, 15, 188, 10, 181, 0, 16, 42]
abbrev dktX3_init_0 : List UInt8 := dkwX3_init_0 ++ dktX3_init_1
theorem dksX3_init_0 : cX3_init.data.toList.drop 0 = dktX3_init_0 := by decide +kernel
theorem dksX3_init_1 : cX3_init.data.toList.drop 23 = dktX3_init_1 := dk_seg dksX3_init_0 23 rfl rfl
theorem dksX3_init_2 : cX3_init.data.toList.drop 47 = dktX3_init_2 := dk_seg dksX3_init_1 24 rfl rfl
theorem dksX3_init_3 : cX3_init.data.toList.drop 71 = dktX3_init_3 := dk_seg dksX3_init_2 24 rfl rfl
theorem dksX3_init_4 : cX3_init.data.toList.drop 94 = dktX3_init_4 := dk_seg dksX3_init_3 23 rfl rfl
theorem dksX3_init_5 : cX3_init.data.toList.drop 118 = dktX3_init_5 := dk_seg dksX3_init_4 24 rfl rfl
theorem dksX3_init_6 : cX3_init.data.toList.drop 140 = dktX3_init_6 := dk_seg dksX3_init_5 22 rfl rfl
theorem dksX3_init_7 : cX3_init.data.toList.drop 162 = dktX3_init_7 := dk_seg dksX3_init_6 22 rfl rfl
theorem dksX3_init_8 : cX3_init.data.toList.drop 186 = dktX3_init_8 := dk_seg dksX3_init_7 24 rfl rfl
theorem dksX3_init_9 : cX3_init.data.toList.drop 210 = dktX3_init_9 := dk_seg dksX3_init_8 24 rfl rfl
theorem dksX3_init_10 : cX3_init.data.toList.drop 234 = dktX3_init_10 := dk_seg dksX3_init_9 24 rfl rfl
theorem dksX3_init_11 : cX3_init.data.toList.drop 257 = dktX3_init_11 := dk_seg dksX3_init_10 23 rfl rfl
theorem dksX3_init_12 : cX3_init.data.toList.drop 281 = dktX3_init_12 := dk_seg dksX3_init_11 24 rfl rfl
theorem dksX3_init_13 : cX3_init.data.toList.drop 305 = dktX3_init_13 := dk_seg dksX3_init_12 24 rfl rfl
theorem dksX3_init_14 : cX3_init.data.toList.drop 329 = dktX3_init_14 := dk_seg dksX3_init_13 24 rfl rfl
theorem dksX3_init_15 : cX3_init.data.toList.drop 353 = dktX3_init_15 := dk_seg dksX3_init_14 24 rfl rfl
theorem dksX3_init_16 : cX3_init.data.toList.drop 376 = dktX3_init_16 := dk_seg dksX3_init_15 23 rfl rfl
theorem dksX3_init_17 : cX3_init.data.toList.drop 399 = dktX3_init_17 := dk_seg dksX3_init_16 23 rfl rfl
theorem dksX3_init_18 : cX3_init.data.toList.drop 423 = dktX3_init_18 := dk_seg dksX3_init_17 24 rfl rfl
theorem dksX3_init_19 : cX3_init.data.toList.drop 447 = dktX3_init_19 := dk_seg dksX3_init_18 24 rfl rfl
theorem dksX3_init_20 : cX3_init.data.toList.drop 469 = dktX3_init_20 := dk_seg dksX3_init_19 22 rfl rfl
theorem dX3_init_0 : decode cX3_init 0 = .ok (.aload_n 0, 1) := dk_42 (dk_at dksX3_init_0 0 rfl rfl)
theorem dX3_init_1 : decode cX3_init 1 = .ok (.invokespecial 1, 3) := dk_183 0 1 (dk_at dksX3_init_0 1 rfl rfl)
theorem dX3_init_4 : decode cX3_init 4 = .ok (.aload_n 0, 1) := dk_42 (dk_at dksX3_init_0 4 rfl rfl)
theorem dX3_init_5 : decode cX3_init 5 = .ok (.iconst 0, 1) := dk_3 (dk_at dksX3_init_0 5 rfl rfl)
theorem dX3_init_6 : decode cX3_init 6 = .ok (.putfield 7, 3) := dk_181 0 7 (dk_at dksX3_init_0 6 rfl rfl)
theorem dX3_init_9 : decode cX3_init 9 = .ok (.aload_n 0, 1) := dk_42 (dk_at dksX3_init_0 9 rfl rfl)
theorem dX3_init_10 : decode cX3_init 10 = .ok (.iconst 0, 1) := dk_3 (dk_at dksX3_init_0 10 rfl rfl)
theorem dX3_init_11 : decode cX3_init 11 = .ok (.putfield 13, 3) := dk_181 0 13 (dk_at dksX3_init_0 11 rfl rfl)
theorem dX3_init_14 : decode cX3_init 14 = .ok (.aload_n 0, 1) := dk_42 (dk_at dksX3_init_0 14 rfl rfl)
theorem dX3_init_15 : decode cX3_init 15 = .ok (.bipush 15, 2) := dk_16 15 (dk_at dksX3_init_0 15 rfl rfl)
theorem dX3_init_17 : decode cX3_init 17 = .ok (.newarray .int, 2) := dk_188_10 (dk_at dksX3_init_0 17 rfl rfl)
theorem dX3_init_19 : decode cX3_init 19 = .ok (.putfield 16, 3) := dk_181 0 16 (dk_at dksX3_init_0 19 rfl rfl)
theorem dX3_init_22 : decode cX3_init 22 = .ok (.aload_n 0, 1) := dk_42 (dk_at dksX3_init_0 22 rfl rfl)
theorem dX3_init_23 : decode cX3_init 23 = .ok (.bipush 15, 2) := dk_16 15 (dk_at dksX3_init_1 0 rfl rfl)
theorem dX3_init_25 : decode cX3_init 25 = .ok (.newarray .int, 2) := dk_188_10 (dk_at dksX3_init_1 2 rfl rfl)
theorem dX3_init_27 : decode cX3_init 27 = .ok (.putfield 20, 3) := dk_181 0 20 (dk_at dksX3_init_1 4 rfl rfl)
theorem dX3_init_30 : decode cX3_init 30 = .ok (.aload_n 0, 1) := dk_42 (dk_at dksX3_init_1 7 rfl rfl)
theorem dX3_init_31 : decode cX3_init 31 = .ok (.bipush 15, 2) := dk_16 15 (dk_at dksX3_init_1 8 rfl rfl)
theorem dX3_init_33 : decode cX3_init 33 = .ok (.newarray .int, 2) := dk_188_10 (dk_at dksX3_init_1 10 rfl rfl)
theorem dX3_init_35 : decode cX3_init 35 = .ok (.putfield 23, 3) := dk_181 0 23 (dk_at dksX3_init_1 12 rfl rfl)
theorem dX3_init_38 : decode cX3_init 38 = .ok (.aload_n 0, 1) := dk_42 (dk_at dksX3_init_1 15 rfl rfl)
theorem dX3_init_39 : decode cX3_init 39 = .ok (.bipush 9, 2) := dk_16 9 (dk_at dksX3_init_1 16 rfl rfl)
theorem dX3_init_41 : decode cX3_init 41 = .ok (.newarray .int, 2) := dk_188_10 (dk_at dksX3_init_1 18 rfl rfl)
theorem dX3_init_43 : decode cX3_init 43 = .ok (.putfield 26, 3) := dk_181 0 26 (dk_at dksX3_init_1 20 rfl rfl)
theorem dX3_init_46 : decode cX3_init 46 = .ok (.aload_n 0, 1) := dk_42 (dk_at dksX3_init_1 23 rfl rfl)
theorem dX3_init_47 : decode cX3_init 47 = .ok (.bipush 9, 2) := dk_16 9 (dk_at dksX3_init_2 0 rfl rfl)
theorem dX3_init_49 : decode cX3_init 49 = .ok (.newarray .int, 2) := dk_188_10 (dk_at dksX3_init_2 2 rfl rfl)
theorem dX3_init_51 : decode cX3_init 51 = .ok (.putfield 29, 3) := dk_181 0 29 (dk_at dksX3_init_2 4 rfl rfl)
theorem dX3_init_54 : decode cX3_init 54 = .ok (.aload_n 0, 1) := dk_42 (dk_at dksX3_init_2 7 rfl rfl)
theorem dX3_init_55 : decode cX3_init 55 = .ok (.bipush 9, 2) := dk_16 9 (dk_at dksX3_init_2 8 rfl rfl)
theorem dX3_init_57 : decode cX3_init 57 = .ok (.newarray .int, 2) := dk_188_10 (dk_at dksX3_init_2 10 rfl rfl)
theorem dX3_init_59 : decode cX3_init 59 = .ok (.putfield 32, 3) := dk_181 0 32 (dk_at dksX3_init_2 12 rfl rfl)
theorem dX3_init_62 : decode cX3_init 62 = .ok (.aload_n 0, 1) := dk_42 (dk_at dksX3_init_2 15 rfl rfl)
theorem dX3_init_63 : decode cX3_init 63 = .ok (.bipush 9, 2) := dk_16 9 (dk_at dksX3_init_2 16 rfl rfl)
theorem dX3_init_65 : decode cX3_init 65 = .ok (.newarray .int, 2) := dk_188_10 (dk_at dksX3_init_2 18 rfl rfl)
theorem dX3_init_67 : decode cX3_init 67 = .ok (.putfield 35, 3) := dk_181 0 35 (dk_at dksX3_init_2 20 rfl rfl)
theorem dX3_init_70 : decode cX3_init 70 = .ok (.aload_n 0, 1) := dk_42 (dk_at dksX3_init_2 23 rfl rfl)
theorem dX3_init_71 : decode cX3_init 71 = .ok (.bipush 9, 2) := dk_16 9 (dk_at dksX3_init_3 0 rfl rfl)
theorem dX3_init_73 : decode cX3_init 73 = .ok (.newarray .int, 2) := dk_188_10 (dk_at dksX3_init_3 2 rfl rfl)
theorem dX3_init_75 : decode cX3_init 75 = .ok (.putfield 38, 3) := dk_181 0 38 (dk_at dksX3_init_3 4 rfl rfl)
theorem dX3_init_78 : decode cX3_init 78 = .ok (.aload_n 0, 1) := dk_42 (dk_at dksX3_init_3 7 rfl rfl)
theorem dX3_init_79 : decode cX3_init 79 = .ok (.bipush 9, 2) := dk_16 9 (dk_at dksX3_init_3 8 rfl rfl)
theorem dX3_init_81 : decode cX3_init 81 = .ok (.newarray .int, 2) := dk_188_10 (dk_at dksX3_init_3 10 rfl rfl)
theorem dX3_init_83 : decode cX3_init 83 = .ok (.putfield 41, 3) := dk_181 0 41 (dk_at dksX3_init_3 12 rfl rfl)
theorem dX3_init_86 : decode cX3_init 86 = .ok (.aload_n 0, 1) := dk_42 (dk_at dksX3_init_3 15 rfl rfl)
theorem dX3_init_87 : decode cX3_init 87 = .ok (.iconst 0, 1) := dk_3 (dk_at dksX3_init_3 16 rfl rfl)
theorem dX3_init_88 : decode cX3_init 88 = .ok (.putfield 44, 3) := dk_181 0 44 (dk_at dksX3_init_3 17 rfl rfl)
theorem dX3_init_91 : decode cX3_init 91 = .ok (.aload_n 0, 1) := dk_42 (dk_at dksX3_init_3 20 rfl rfl)
theorem dX3_init_92 : decode cX3_init 92 = .ok (.bipush 9, 2) := dk_16 9 (dk_at dksX3_init_3 21 rfl rfl)
theorem dX3_init_94 : decode cX3_init 94 = .ok (.newarray .int, 2) := dk_188_10 (dk_at dksX3_init_4 0 rfl rfl)
theorem dX3_init_96 : decode cX3_init 96 = .ok (.putfield 48, 3) := dk_181 0 48 (dk_at dksX3_init_4 2 rfl rfl)
theorem dX3_init_99 : decode cX3_init 99 = .ok (.aload_n 0, 1) := dk_42 (dk_at dksX3_init_4 5 rfl rfl)
theorem dX3_init_100 : decode cX3_init 100 = .ok (.bipush 9, 2) := dk_16 9 (dk_at dksX3_init_4 6 rfl rfl)
theorem dX3_init_102 : decode cX3_init 102 = .ok (.newarray .int, 2) := dk_188_10 (dk_at dksX3_init_4 8 rfl rfl)
theorem dX3_init_104 : decode cX3_init 104 = .ok (.putfield 51, 3) := dk_181 0 51 (dk_at dksX3_init_4 10 rfl rfl)
theorem dX3_init_107 : decode cX3_init 107 = .ok (.aload_n 0, 1) := dk_42 (dk_at dksX3_init_4 13 rfl rfl)
theorem dX3_init_108 : decode cX3_init 108 = .ok (.iconst 0, 1) := dk_3 (dk_at dksX3_init_4 14 rfl rfl)
theorem dX3_init_109 : decode cX3_init 109 = .ok (.putfield 54, 3) := dk_181 0 54 (dk_at dksX3_init_4 15 rfl rfl)
theorem dX3_init_112 : decode cX3_init 112 = .ok (.aload_n 0, 1) := dk_42 (dk_at dksX3_init_4 18 rfl rfl)
theorem dX3_init_113 : decode cX3_init 113 = .ok (.iconst 0, 1) := dk_3 (dk_at dksX3_init_4 19 rfl rfl)
theorem dX3_init_114 : decode cX3_init 114 = .ok (.putfield 57, 3) := dk_181 0 57 (dk_at dksX3_init_4 20 rfl rfl)
theorem dX3_init_117 : decode cX3_init 117 = .ok (.aload_n 0, 1) := dk_42 (dk_at dksX3_init_4 23 rfl rfl)
theorem dX3_init_118 : decode cX3_init 118 = .ok (.sipush 300, 3) := dk_17 1 44 (dk_at dksX3_init_5 0 rfl rfl)
theorem dX3_init_121 : decode cX3_init 121 = .ok (.newarray .int, 2) := dk_188_10 (dk_at dksX3_init_5 3 rfl rfl)
theorem dX3_init_123 : decode cX3_init 123 = .ok (.putfield 60, 3) := dk_181 0 60 (dk_at dksX3_init_5 5 rfl rfl)
theorem dX3_init_126 : decode cX3_init 126 = .ok (.aload_n 0, 1) := dk_42 (dk_at dksX3_init_5 8 rfl rfl)
theorem dX3_init_127 : decode cX3_init 127 = .ok (.bipush 9, 2) := dk_16 9 (dk_at dksX3_init_5 9 rfl rfl)
theorem dX3_init_129 : decode cX3_init 129 = .ok (.newarray .int, 2) := dk_188_10 (dk_at dksX3_init_5 11 rfl rfl)
theorem dX3_init_131 : decode cX3_init 131 = .ok (.putfield 63, 3) := dk_181 0 63 (dk_at dksX3_init_5 13 rfl rfl)
theorem dX3_init_134 : decode cX3_init 134 = .ok (.aload_n 0, 1) := dk_42 (dk_at dksX3_init_5 16 rfl rfl)
theorem dX3_init_135 : decode cX3_init 135 = .ok (.sipush 900, 3) := dk_17 3 132 (dk_at dksX3_init_5 17 rfl rfl)
theorem dX3_init_138 : decode cX3_init 138 = .ok (.newarray .int, 2) := dk_188_10 (dk_at dksX3_init_5 20 rfl rfl)
theorem dX3_init_140 : decode cX3_init 140 = .ok (.putfield 66, 3) := dk_181 0 66 (dk_at dksX3_init_6 0 rfl rfl)
theorem dX3_init_143 : decode cX3_init 143 = .ok (.aload_n 0, 1) := dk_42 (dk_at dksX3_init_6 3 rfl rfl)
theorem dX3_init_144 : decode cX3_init 144 = .ok (.sipush 900, 3) := dk_17 3 132 (dk_at dksX3_init_6 4 rfl rfl)
theorem dX3_init_147 : decode cX3_init 147 = .ok (.newarray .int, 2) := dk_188_10 (dk_at dksX3_init_6 7 rfl rfl)
theorem dX3_init_149 : decode cX3_init 149 = .ok (.putfield 69, 3) := dk_181 0 69 (dk_at dksX3_init_6 9 rfl rfl)
theorem dX3_init_152 : decode cX3_init 152 = .ok (.aload_n 0, 1) := dk_42 (dk_at dksX3_init_6 12 rfl rfl)
theorem dX3_init_153 : decode cX3_init 153 = .ok (.iconst 0, 1) := dk_3 (dk_at dksX3_init_6 13 rfl rfl)
theorem dX3_init_154 : decode cX3_init 154 = .ok (.putfield 72, 3) := dk_181 0 72 (dk_at dksX3_init_6 14 rfl rfl)
theorem dX3_init_157 : decode cX3_init 157 = .ok (.aload_n 0, 1) := dk_42 (dk_at dksX3_init_6 17 rfl rfl)
theorem dX3_init_158 : decode cX3_init 158 = .ok (.bipush 40, 2) := dk_16 40 (dk_at dksX3_init_6 18 rfl rfl)
theorem dX3_init_160 : decode cX3_init 160 = .ok (.newarray .int, 2) := dk_188_10 (dk_at dksX3_init_6 20 rfl rfl)
theorem dX3_init_162 : decode cX3_init 162 = .ok (.putfield 75, 3) := dk_181 0 75 (dk_at dksX3_init_7 0 rfl rfl)
theorem dX3_init_165 : decode cX3_init 165 = .ok (.aload_n 0, 1) := dk_42 (dk_at dksX3_init_7 3 rfl rfl)
theorem dX3_init_166 : decode cX3_init 166 = .ok (.bipush 40, 2) := dk_16 40 (dk_at dksX3_init_7 4 rfl rfl)
theorem dX3_init_168 : decode cX3_init 168 = .ok (.newarray .int, 2) := dk_188_10 (dk_at dksX3_init_7 6 rfl rfl)
theorem dX3_init_170 : decode cX3_init 170 = .ok (.putfield 78, 3) := dk_181 0 78 (dk_at dksX3_init_7 8 rfl rfl)
theorem dX3_init_173 : decode cX3_init 173 = .ok (.aload_n 0, 1) := dk_42 (dk_at dksX3_init_7 11 rfl rfl)
theorem dX3_init_174 : decode cX3_init 174 = .ok (.bipush 40, 2) := dk_16 40 (dk_at dksX3_init_7 12 rfl rfl)
theorem dX3_init_176 : decode cX3_init 176 = .ok (.newarray .int, 2) := dk_188_10 (dk_at dksX3_init_7 14 rfl rfl)
theorem dX3_init_178 : decode cX3_init 178 = .ok (.putfield 81, 3) := dk_181 0 81 (dk_at dksX3_init_7 16 rfl rfl)
theorem dX3_init_181 : decode cX3_init 181 = .ok (.aload_n 0, 1) := dk_42 (dk_at dksX3_init_7 19 rfl rfl)
theorem dX3_init_182 : decode cX3_init 182 = .ok (.bipush 9, 2) := dk_16 9 (dk_at dksX3_init_7 20 rfl rfl)
theorem dX3_init_184 : decode cX3_init 184 = .ok (.newarray .int, 2) := dk_188_10 (dk_at dksX3_init_7 22 rfl rfl)
theorem dX3_init_186 : decode cX3_init 186 = .ok (.putfield 84, 3) := dk_181 0 84 (dk_at dksX3_init_8 0 rfl rfl)
theorem dX3_init_189 : decode cX3_init 189 = .ok (.aload_n 0, 1) := dk_42 (dk_at dksX3_init_8 3 rfl rfl)
theorem dX3_init_190 : decode cX3_init 190 = .ok (.bipush 9, 2) := dk_16 9 (dk_at dksX3_init_8 4 rfl rfl)
theorem dX3_init_192 : decode cX3_init 192 = .ok (.newarray .int, 2) := dk_188_10 (dk_at dksX3_init_8 6 rfl rfl)
theorem dX3_init_194 : decode cX3_init 194 = .ok (.putfield 87, 3) := dk_181 0 87 (dk_at dksX3_init_8 8 rfl rfl)
theorem dX3_init_197 : decode cX3_init 197 = .ok (.aload_n 0, 1) := dk_42 (dk_at dksX3_init_8 11 rfl rfl)
theorem dX3_init_198 : decode cX3_init 198 = .ok (.iconst 0, 1) := dk_3 (dk_at dksX3_init_8 12 rfl rfl)
theorem dX3_init_199 : decode cX3_init 199 = .ok (.putfield 90, 3) := dk_181 0 90 (dk_at dksX3_init_8 13 rfl rfl)
theorem dX3_init_202 : decode cX3_init 202 = .ok (.aload_n 0, 1) := dk_42 (dk_at dksX3_init_8 16 rfl rfl)
theorem dX3_init_203 : decode cX3_init 203 = .ok (.iconst 0, 1) := dk_3 (dk_at dksX3_init_8 17 rfl rfl)
theorem dX3_init_204 : decode cX3_init 204 = .ok (.putfield 93, 3) := dk_181 0 93 (dk_at dksX3_init_8 18 rfl rfl)
theorem dX3_init_207 : decode cX3_init 207 = .ok (.aload_n 0, 1) := dk_42 (dk_at dksX3_init_8 21 rfl rfl)
theorem dX3_init_208 : decode cX3_init 208 = .ok (.bipush 11, 2) := dk_16 11 (dk_at dksX3_init_8 22 rfl rfl)
theorem dX3_init_210 : decode cX3_init 210 = .ok (.newarray .int, 2) := dk_188_10 (dk_at dksX3_init_9 0 rfl rfl)
theorem dX3_init_212 : decode cX3_init 212 = .ok (.putfield 96, 3) := dk_181 0 96 (dk_at dksX3_init_9 2 rfl rfl)
theorem dX3_init_215 : decode cX3_init 215 = .ok (.aload_n 0, 1) := dk_42 (dk_at dksX3_init_9 5 rfl rfl)
theorem dX3_init_216 : decode cX3_init 216 = .ok (.sipush 3300, 3) := dk_17 12 228 (dk_at dksX3_init_9 6 rfl rfl)
theorem dX3_init_219 : decode cX3_init 219 = .ok (.newarray .int, 2) := dk_188_10 (dk_at dksX3_init_9 9 rfl rfl)
theorem dX3_init_221 : decode cX3_init 221 = .ok (.putfield 99, 3) := dk_181 0 99 (dk_at dksX3_init_9 11 rfl rfl)
theorem dX3_init_224 : decode cX3_init 224 = .ok (.aload_n 0, 1) := dk_42 (dk_at dksX3_init_9 14 rfl rfl)
theorem dX3_init_225 : decode cX3_init 225 = .ok (.bipush 80, 2) := dk_16 80 (dk_at dksX3_init_9 15 rfl rfl)
theorem dX3_init_227 : decode cX3_init 227 = .ok (.newarray .int, 2) := dk_188_10 (dk_at dksX3_init_9 17 rfl rfl)
theorem dX3_init_229 : decode cX3_init 229 = .ok (.putfield 102, 3) := dk_181 0 102 (dk_at dksX3_init_9 19 rfl rfl)
theorem dX3_init_232 : decode cX3_init 232 = .ok (.aload_n 0, 1) := dk_42 (dk_at dksX3_init_9 22 rfl rfl)
theorem dX3_init_233 : decode cX3_init 233 = .ok (.iconst 0, 1) := dk_3 (dk_at dksX3_init_9 23 rfl rfl)
theorem dX3_init_234 : decode cX3_init 234 = .ok (.putfield 105, 3) := dk_181 0 105 (dk_at dksX3_init_10 0 rfl rfl)
theorem dX3_init_237 : decode cX3_init 237 = .ok (.aload_n 0, 1) := dk_42 (dk_at dksX3_init_10 3 rfl rfl)
theorem dX3_init_238 : decode cX3_init 238 = .ok (.iconst 0, 1) := dk_3 (dk_at dksX3_init_10 4 rfl rfl)
theorem dX3_init_239 : decode cX3_init 239 = .ok (.putfield 108, 3) := dk_181 0 108 (dk_at dksX3_init_10 5 rfl rfl)
theorem dX3_init_242 : decode cX3_init 242 = .ok (.aload_n 0, 1) := dk_42 (dk_at dksX3_init_10 8 rfl rfl)
theorem dX3_init_243 : decode cX3_init 243 = .ok (.iconst 5, 1) := dk_8 (dk_at dksX3_init_10 9 rfl rfl)
theorem dX3_init_244 : decode cX3_init 244 = .ok (.newarray .int, 2) := dk_188_10 (dk_at dksX3_init_10 10 rfl rfl)
theorem dX3_init_246 : decode cX3_init 246 = .ok (.putfield 111, 3) := dk_181 0 111 (dk_at dksX3_init_10 12 rfl rfl)
theorem dX3_init_249 : decode cX3_init 249 = .ok (.aload_n 0, 1) := dk_42 (dk_at dksX3_init_10 15 rfl rfl)
theorem dX3_init_250 : decode cX3_init 250 = .ok (.iconst 5, 1) := dk_8 (dk_at dksX3_init_10 16 rfl rfl)
theorem dX3_init_251 : decode cX3_init 251 = .ok (.newarray .int, 2) := dk_188_10 (dk_at dksX3_init_10 17 rfl rfl)
theorem dX3_init_253 : decode cX3_init 253 = .ok (.putfield 114, 3) := dk_181 0 114 (dk_at dksX3_init_10 19 rfl rfl)
theorem dX3_init_256 : decode cX3_init 256 = .ok (.aload_n 0, 1) := dk_42 (dk_at dksX3_init_10 22 rfl rfl)
theorem dX3_init_257 : decode cX3_init 257 = .ok (.sipush 300, 3) := dk_17 1 44 (dk_at dksX3_init_11 0 rfl rfl)
theorem dX3_init_260 : decode cX3_init 260 = .ok (.newarray .int, 2) := dk_188_10 (dk_at dksX3_init_11 3 rfl rfl)
theorem dX3_init_262 : decode cX3_init 262 = .ok (.putfield 117, 3) := dk_181 0 117 (dk_at dksX3_init_11 5 rfl rfl)
theorem dX3_init_265 : decode cX3_init 265 = .ok (.aload_n 0, 1) := dk_42 (dk_at dksX3_init_11 8 rfl rfl)
theorem dX3_init_266 : decode cX3_init 266 = .ok (.sipush 300, 3) := dk_17 1 44 (dk_at dksX3_init_11 9 rfl rfl)
theorem dX3_init_269 : decode cX3_init 269 = .ok (.newarray .int, 2) := dk_188_10 (dk_at dksX3_init_11 12 rfl rfl)
theorem dX3_init_271 : decode cX3_init 271 = .ok (.putfield 120, 3) := dk_181 0 120 (dk_at dksX3_init_11 14 rfl rfl)
theorem dX3_init_274 : decode cX3_init 274 = .ok (.aload_n 0, 1) := dk_42 (dk_at dksX3_init_11 17 rfl rfl)
theorem dX3_init_275 : decode cX3_init 275 = .ok (.iconst 0, 1) := dk_3 (dk_at dksX3_init_11 18 rfl rfl)
theorem dX3_init_276 : decode cX3_init 276 = .ok (.putfield 123, 3) := dk_181 0 123 (dk_at dksX3_init_11 19 rfl rfl)
theorem dX3_init_279 : decode cX3_init 279 = .ok (.aload_n 0, 1) := dk_42 (dk_at dksX3_init_11 22 rfl rfl)
theorem dX3_init_280 : decode cX3_init 280 = .ok (.iconst 0, 1) := dk_3 (dk_at dksX3_init_11 23 rfl rfl)
theorem dX3_init_281 : decode cX3_init 281 = .ok (.putfield 126, 3) := dk_181 0 126 (dk_at dksX3_init_12 0 rfl rfl)
theorem dX3_init_284 : decode cX3_init 284 = .ok (.aload_n 0, 1) := dk_42 (dk_at dksX3_init_12 3 rfl rfl)
theorem dX3_init_285 : decode cX3_init 285 = .ok (.bipush 9, 2) := dk_16 9 (dk_at dksX3_init_12 4 rfl rfl)
theorem dX3_init_287 : decode cX3_init 287 = .ok (.newarray .int, 2) := dk_188_10 (dk_at dksX3_init_12 6 rfl rfl)
theorem dX3_init_289 : decode cX3_init 289 = .ok (.putfield 129, 3) := dk_181 0 129 (dk_at dksX3_init_12 8 rfl rfl)
theorem dX3_init_292 : decode cX3_init 292 = .ok (.aload_n 0, 1) := dk_42 (dk_at dksX3_init_12 11 rfl rfl)
theorem dX3_init_293 : decode cX3_init 293 = .ok (.bipush 9, 2) := dk_16 9 (dk_at dksX3_init_12 12 rfl rfl)
theorem dX3_init_295 : decode cX3_init 295 = .ok (.newarray .int, 2) := dk_188_10 (dk_at dksX3_init_12 14 rfl rfl)
theorem dX3_init_297 : decode cX3_init 297 = .ok (.putfield 132, 3) := dk_181 0 132 (dk_at dksX3_init_12 16 rfl rfl)
theorem dX3_init_300 : decode cX3_init 300 = .ok (.aload_n 0, 1) := dk_42 (dk_at dksX3_init_12 19 rfl rfl)
theorem dX3_init_301 : decode cX3_init 301 = .ok (.bipush 9, 2) := dk_16 9 (dk_at dksX3_init_12 20 rfl rfl)
theorem dX3_init_303 : decode cX3_init 303 = .ok (.newarray .int, 2) := dk_188_10 (dk_at dksX3_init_12 22 rfl rfl)
theorem dX3_init_305 : decode cX3_init 305 = .ok (.putfield 135, 3) := dk_181 0 135 (dk_at dksX3_init_13 0 rfl rfl)
theorem dX3_init_308 : decode cX3_init 308 = .ok (.aload_n 0, 1) := dk_42 (dk_at dksX3_init_13 3 rfl rfl)
theorem dX3_init_309 : decode cX3_init 309 = .ok (.iconst 0, 1) := dk_3 (dk_at dksX3_init_13 4 rfl rfl)
theorem dX3_init_310 : decode cX3_init 310 = .ok (.putfield 138, 3) := dk_181 0 138 (dk_at dksX3_init_13 5 rfl rfl)
theorem dX3_init_313 : decode cX3_init 313 = .ok (.aload_n 0, 1) := dk_42 (dk_at dksX3_init_13 8 rfl rfl)
theorem dX3_init_314 : decode cX3_init 314 = .ok (.iconst 0, 1) := dk_3 (dk_at dksX3_init_13 9 rfl rfl)
theorem dX3_init_315 : decode cX3_init 315 = .ok (.putfield 141, 3) := dk_181 0 141 (dk_at dksX3_init_13 10 rfl rfl)
theorem dX3_init_318 : decode cX3_init 318 = .ok (.aload_n 0, 1) := dk_42 (dk_at dksX3_init_13 13 rfl rfl)
theorem dX3_init_319 : decode cX3_init 319 = .ok (.bipush 7, 2) := dk_16 7 (dk_at dksX3_init_13 14 rfl rfl)
theorem dX3_init_321 : decode cX3_init 321 = .ok (.newarray .int, 2) := dk_188_10 (dk_at dksX3_init_13 16 rfl rfl)
theorem dX3_init_323 : decode cX3_init 323 = .ok (.putfield 144, 3) := dk_181 0 144 (dk_at dksX3_init_13 18 rfl rfl)
theorem dX3_init_326 : decode cX3_init 326 = .ok (.aload_n 0, 1) := dk_42 (dk_at dksX3_init_13 21 rfl rfl)
theorem dX3_init_327 : decode cX3_init 327 = .ok (.bipush 7, 2) := dk_16 7 (dk_at dksX3_init_13 22 rfl rfl)
theorem dX3_init_329 : decode cX3_init 329 = .ok (.newarray .int, 2) := dk_188_10 (dk_at dksX3_init_14 0 rfl rfl)
theorem dX3_init_331 : decode cX3_init 331 = .ok (.putfield 147, 3) := dk_181 0 147 (dk_at dksX3_init_14 2 rfl rfl)
theorem dX3_init_334 : decode cX3_init 334 = .ok (.aload_n 0, 1) := dk_42 (dk_at dksX3_init_14 5 rfl rfl)
theorem dX3_init_335 : decode cX3_init 335 = .ok (.sipush 5040, 3) := dk_17 19 176 (dk_at dksX3_init_14 6 rfl rfl)
theorem dX3_init_338 : decode cX3_init 338 = .ok (.newarray .int, 2) := dk_188_10 (dk_at dksX3_init_14 9 rfl rfl)
theorem dX3_init_340 : decode cX3_init 340 = .ok (.putfield 150, 3) := dk_181 0 150 (dk_at dksX3_init_14 11 rfl rfl)
theorem dX3_init_343 : decode cX3_init 343 = .ok (.aload_n 0, 1) := dk_42 (dk_at dksX3_init_14 14 rfl rfl)
theorem dX3_init_344 : decode cX3_init 344 = .ok (.sipush 5040, 3) := dk_17 19 176 (dk_at dksX3_init_14 15 rfl rfl)
theorem dX3_init_347 : decode cX3_init 347 = .ok (.newarray .int, 2) := dk_188_10 (dk_at dksX3_init_14 18 rfl rfl)
theorem dX3_init_349 : decode cX3_init 349 = .ok (.putfield 153, 3) := dk_181 0 153 (dk_at dksX3_init_14 20 rfl rfl)
theorem dX3_init_352 : decode cX3_init 352 = .ok (.aload_n 0, 1) := dk_42 (dk_at dksX3_init_14 23 rfl rfl)
theorem dX3_init_353 : decode cX3_init 353 = .ok (.bipush 64, 2) := dk_16 64 (dk_at dksX3_init_15 0 rfl rfl)
theorem dX3_init_355 : decode cX3_init 355 = .ok (.newarray .int, 2) := dk_188_10 (dk_at dksX3_init_15 2 rfl rfl)
theorem dX3_init_357 : decode cX3_init 357 = .ok (.putfield 156, 3) := dk_181 0 156 (dk_at dksX3_init_15 4 rfl rfl)
theorem dX3_init_360 : decode cX3_init 360 = .ok (.aload_n 0, 1) := dk_42 (dk_at dksX3_init_15 7 rfl rfl)
theorem dX3_init_361 : decode cX3_init 361 = .ok (.iconst 0, 1) := dk_3 (dk_at dksX3_init_15 8 rfl rfl)
theorem dX3_init_362 : decode cX3_init 362 = .ok (.putfield 159, 3) := dk_181 0 159 (dk_at dksX3_init_15 9 rfl rfl)
theorem dX3_init_365 : decode cX3_init 365 = .ok (.aload_n 0, 1) := dk_42 (dk_at dksX3_init_15 12 rfl rfl)
theorem dX3_init_366 : decode cX3_init 366 = .ok (.bipush 7, 2) := dk_16 7 (dk_at dksX3_init_15 13 rfl rfl)
theorem dX3_init_368 : decode cX3_init 368 = .ok (.newarray .int, 2) := dk_188_10 (dk_at dksX3_init_15 15 rfl rfl)
theorem dX3_init_370 : decode cX3_init 370 = .ok (.putfield 162, 3) := dk_181 0 162 (dk_at dksX3_init_15 17 rfl rfl)
theorem dX3_init_373 : decode cX3_init 373 = .ok (.aload_n 0, 1) := dk_42 (dk_at dksX3_init_15 20 rfl rfl)
theorem dX3_init_374 : decode cX3_init 374 = .ok (.bipush 7, 2) := dk_16 7 (dk_at dksX3_init_15 21 rfl rfl)
theorem dX3_init_376 : decode cX3_init 376 = .ok (.newarray .int, 2) := dk_188_10 (dk_at dksX3_init_16 0 rfl rfl)
theorem dX3_init_378 : decode cX3_init 378 = .ok (.putfield 165, 3) := dk_181 0 165 (dk_at dksX3_init_16 2 rfl rfl)
theorem dX3_init_381 : decode cX3_init 381 = .ok (.aload_n 0, 1) := dk_42 (dk_at dksX3_init_16 5 rfl rfl)
theorem dX3_init_382 : decode cX3_init 382 = .ok (.bipush 7, 2) := dk_16 7 (dk_at dksX3_init_16 6 rfl rfl)
theorem dX3_init_384 : decode cX3_init 384 = .ok (.newarray .int, 2) := dk_188_10 (dk_at dksX3_init_16 8 rfl rfl)
theorem dX3_init_386 : decode cX3_init 386 = .ok (.putfield 168, 3) := dk_181 0 168 (dk_at dksX3_init_16 10 rfl rfl)
theorem dX3_init_389 : decode cX3_init 389 = .ok (.aload_n 0, 1) := dk_42 (dk_at dksX3_init_16 13 rfl rfl)
theorem dX3_init_390 : decode cX3_init 390 = .ok (.bipush 7, 2) := dk_16 7 (dk_at dksX3_init_16 14 rfl rfl)
theorem dX3_init_392 : decode cX3_init 392 = .ok (.newarray .int, 2) := dk_188_10 (dk_at dksX3_init_16 16 rfl rfl)
theorem dX3_init_394 : decode cX3_init 394 = .ok (.putfield 171, 3) := dk_181 0 171 (dk_at dksX3_init_16 18 rfl rfl)
theorem dX3_init_397 : decode cX3_init 397 = .ok (.aload_n 0, 1) := dk_42 (dk_at dksX3_init_16 21 rfl rfl)
theorem dX3_init_398 : decode cX3_init 398 = .ok (.iconst 0, 1) := dk_3 (dk_at dksX3_init_16 22 rfl rfl)
theorem dX3_init_399 : decode cX3_init 399 = .ok (.putfield 174, 3) := dk_181 0 174 (dk_at dksX3_init_17 0 rfl rfl)
theorem dX3_init_402 : decode cX3_init 402 = .ok (.aload_n 0, 1) := dk_42 (dk_at dksX3_init_17 3 rfl rfl)
theorem dX3_init_403 : decode cX3_init 403 = .ok (.iconst 0, 1) := dk_3 (dk_at dksX3_init_17 4 rfl rfl)
theorem dX3_init_404 : decode cX3_init 404 = .ok (.putfield 177, 3) := dk_181 0 177 (dk_at dksX3_init_17 5 rfl rfl)
theorem dX3_init_407 : decode cX3_init 407 = .ok (.aload_n 0, 1) := dk_42 (dk_at dksX3_init_17 8 rfl rfl)
theorem dX3_init_408 : decode cX3_init 408 = .ok (.bipush 20, 2) := dk_16 20 (dk_at dksX3_init_17 9 rfl rfl)
theorem dX3_init_410 : decode cX3_init 410 = .ok (.newarray .int, 2) := dk_188_10 (dk_at dksX3_init_17 11 rfl rfl)
theorem dX3_init_412 : decode cX3_init 412 = .ok (.putfield 180, 3) := dk_181 0 180 (dk_at dksX3_init_17 13 rfl rfl)
theorem dX3_init_415 : decode cX3_init 415 = .ok (.aload_n 0, 1) := dk_42 (dk_at dksX3_init_17 16 rfl rfl)
theorem dX3_init_416 : decode cX3_init 416 = .ok (.bipush 6, 2) := dk_16 6 (dk_at dksX3_init_17 17 rfl rfl)
theorem dX3_init_418 : decode cX3_init 418 = .ok (.newarray .int, 2) := dk_188_10 (dk_at dksX3_init_17 19 rfl rfl)
theorem dX3_init_420 : decode cX3_init 420 = .ok (.dup, 1) := dk_89 (dk_at dksX3_init_17 21 rfl rfl)
theorem dX3_init_421 : decode cX3_init 421 = .ok (.iconst 0, 1) := dk_3 (dk_at dksX3_init_17 22 rfl rfl)
theorem dX3_init_422 : decode cX3_init 422 = .ok (.iconst (-1), 1) := dk_2 (dk_at dksX3_init_17 23 rfl rfl)
theorem dX3_init_423 : decode cX3_init 423 = .ok (.iastore, 1) := dk_79 (dk_at dksX3_init_18 0 rfl rfl)
theorem dX3_init_424 : decode cX3_init 424 = .ok (.dup, 1) := dk_89 (dk_at dksX3_init_18 1 rfl rfl)
theorem dX3_init_425 : decode cX3_init 425 = .ok (.iconst 1, 1) := dk_4 (dk_at dksX3_init_18 2 rfl rfl)
theorem dX3_init_426 : decode cX3_init 426 = .ok (.iconst (-1), 1) := dk_2 (dk_at dksX3_init_18 3 rfl rfl)
theorem dX3_init_427 : decode cX3_init 427 = .ok (.iastore, 1) := dk_79 (dk_at dksX3_init_18 4 rfl rfl)
theorem dX3_init_428 : decode cX3_init 428 = .ok (.dup, 1) := dk_89 (dk_at dksX3_init_18 5 rfl rfl)
theorem dX3_init_429 : decode cX3_init 429 = .ok (.iconst 2, 1) := dk_5 (dk_at dksX3_init_18 6 rfl rfl)
theorem dX3_init_430 : decode cX3_init 430 = .ok (.iconst (-1), 1) := dk_2 (dk_at dksX3_init_18 7 rfl rfl)
theorem dX3_init_431 : decode cX3_init 431 = .ok (.iastore, 1) := dk_79 (dk_at dksX3_init_18 8 rfl rfl)
theorem dX3_init_432 : decode cX3_init 432 = .ok (.dup, 1) := dk_89 (dk_at dksX3_init_18 9 rfl rfl)
theorem dX3_init_433 : decode cX3_init 433 = .ok (.iconst 3, 1) := dk_6 (dk_at dksX3_init_18 10 rfl rfl)
theorem dX3_init_434 : decode cX3_init 434 = .ok (.iconst (-1), 1) := dk_2 (dk_at dksX3_init_18 11 rfl rfl)
theorem dX3_init_435 : decode cX3_init 435 = .ok (.iastore, 1) := dk_79 (dk_at dksX3_init_18 12 rfl rfl)
theorem dX3_init_436 : decode cX3_init 436 = .ok (.dup, 1) := dk_89 (dk_at dksX3_init_18 13 rfl rfl)
theorem dX3_init_437 : decode cX3_init 437 = .ok (.iconst 4, 1) := dk_7 (dk_at dksX3_init_18 14 rfl rfl)
theorem dX3_init_438 : decode cX3_init 438 = .ok (.iconst (-1), 1) := dk_2 (dk_at dksX3_init_18 15 rfl rfl)
theorem dX3_init_439 : decode cX3_init 439 = .ok (.iastore, 1) := dk_79 (dk_at dksX3_init_18 16 rfl rfl)
theorem dX3_init_440 : decode cX3_init 440 = .ok (.dup, 1) := dk_89 (dk_at dksX3_init_18 17 rfl rfl)
theorem dX3_init_441 : decode cX3_init 441 = .ok (.iconst 5, 1) := dk_8 (dk_at dksX3_init_18 18 rfl rfl)
theorem dX3_init_442 : decode cX3_init 442 = .ok (.iconst (-1), 1) := dk_2 (dk_at dksX3_init_18 19 rfl rfl)
theorem dX3_init_443 : decode cX3_init 443 = .ok (.iastore, 1) := dk_79 (dk_at dksX3_init_18 20 rfl rfl)
theorem dX3_init_444 : decode cX3_init 444 = .ok (.putfield 183, 3) := dk_181 0 183 (dk_at dksX3_init_18 21 rfl rfl)
theorem dX3_init_447 : decode cX3_init 447 = .ok (.aload_n 0, 1) := dk_42 (dk_at dksX3_init_19 0 rfl rfl)
theorem dX3_init_448 : decode cX3_init 448 = .ok (.bipush 6, 2) := dk_16 6 (dk_at dksX3_init_19 1 rfl rfl)
theorem dX3_init_450 : decode cX3_init 450 = .ok (.newarray .int, 2) := dk_188_10 (dk_at dksX3_init_19 3 rfl rfl)
theorem dX3_init_452 : decode cX3_init 452 = .ok (.putfield 186, 3) := dk_181 0 186 (dk_at dksX3_init_19 5 rfl rfl)
theorem dX3_init_455 : decode cX3_init 455 = .ok (.aload_n 0, 1) := dk_42 (dk_at dksX3_init_19 8 rfl rfl)
theorem dX3_init_456 : decode cX3_init 456 = .ok (.sipush 360, 3) := dk_17 1 104 (dk_at dksX3_init_19 9 rfl rfl)
theorem dX3_init_459 : decode cX3_init 459 = .ok (.newarray .int, 2) := dk_188_10 (dk_at dksX3_init_19 12 rfl rfl)
theorem dX3_init_461 : decode cX3_init 461 = .ok (.putfield 189, 3) := dk_181 0 189 (dk_at dksX3_init_19 14 rfl rfl)
theorem dX3_init_464 : decode cX3_init 464 = .ok (.aload_n 0, 1) := dk_42 (dk_at dksX3_init_19 17 rfl rfl)
theorem dX3_init_465 : decode cX3_init 465 = .ok (.bipush 60, 2) := dk_16 60 (dk_at dksX3_init_19 18 rfl rfl)
theorem dX3_init_467 : decode cX3_init 467 = .ok (.newarray .int, 2) := dk_188_10 (dk_at dksX3_init_19 20 rfl rfl)
theorem dX3_init_469 : decode cX3_init 469 = .ok (.putfield 192, 3) := dk_181 0 192 (dk_at dksX3_init_20 0 rfl rfl)
theorem dX3_init_472 : decode cX3_init 472 = .ok (.return_, 1) := dk_177 (dk_at dksX3_init_20 3 rfl rfl)
abbrev cX3_person : ByteArray := prog_17_method_6_code
def yX3_person : MethodName := ⟨RX3, "person", "(III)I"⟩
def dkwX3_person_3 : List UInt8 := [180, 0, 7, 29, 79, 42, 89, 180, 0, 7, 4, 96, 181, 0, 7, 42, 180, 0, 7, 4, 100, 172]
abbrev dktX3_person_3 : List UInt8 := dkwX3_person_3 ++ []
def dkwX3_person_2 : List UInt8 := [180, 0, 16, 42, 180, 0, 7, 27, 79, 42, 180, 0, 20, 42, 180, 0, 7, 28, 79, 42, 180, 0, 23, 42]
abbrev dktX3_person_2 : List UInt8 := dkwX3_person_2 ++ dktX3_person_3
def dkwX3_person_1 : List UInt8 := [16, 9, 182, 0, 195, 154, 0, 6, 16, 254, 172, 42, 180, 0, 7, 16, 15, 160, 0, 6, 16, 252, 172, 42]
abbrev dktX3_person_1 : List UInt8 := dkwX3_person_1 ++ dktX3_person_2
def dkwX3_person_0 : List UInt8 := [42, 27, 3, 7, 182, 0, 195, 153, 0, 25, 42, 28, 4, 16, 20, 182, 0, 195, 153, 0, 14, 42, 29, 4]
abbrev dktX3_person_0 : List UInt8 := dkwX3_person_0 ++ dktX3_person_1
theorem dksX3_person_0 : cX3_person.data.toList.drop 0 = dktX3_person_0 := by decide +kernel
theorem dksX3_person_1 : cX3_person.data.toList.drop 24 = dktX3_person_1 := dk_seg dksX3_person_0 24 rfl rfl
theorem dksX3_person_2 : cX3_person.data.toList.drop 48 = dktX3_person_2 := dk_seg dksX3_person_1 24 rfl rfl
theorem dksX3_person_3 : cX3_person.data.toList.drop 72 = dktX3_person_3 := dk_seg dksX3_person_2 24 rfl rfl
theorem dX3_person_0 : decode cX3_person 0 = .ok (.aload_n 0, 1) := dk_42 (dk_at dksX3_person_0 0 rfl rfl)
theorem dX3_person_1 : decode cX3_person 1 = .ok (.iload_n 1, 1) := dk_27 (dk_at dksX3_person_0 1 rfl rfl)
theorem dX3_person_2 : decode cX3_person 2 = .ok (.iconst 0, 1) := dk_3 (dk_at dksX3_person_0 2 rfl rfl)
theorem dX3_person_3 : decode cX3_person 3 = .ok (.iconst 4, 1) := dk_7 (dk_at dksX3_person_0 3 rfl rfl)
theorem dX3_person_4 : decode cX3_person 4 = .ok (.invokevirtual 195, 3) := dk_182 0 195 (dk_at dksX3_person_0 4 rfl rfl)
theorem dX3_person_7 : decode cX3_person 7 = .ok (.ifCond .eq 25, 3) := dk_153 0 25 (dk_at dksX3_person_0 7 rfl rfl)
theorem dX3_person_10 : decode cX3_person 10 = .ok (.aload_n 0, 1) := dk_42 (dk_at dksX3_person_0 10 rfl rfl)
theorem dX3_person_11 : decode cX3_person 11 = .ok (.iload_n 2, 1) := dk_28 (dk_at dksX3_person_0 11 rfl rfl)
theorem dX3_person_12 : decode cX3_person 12 = .ok (.iconst 1, 1) := dk_4 (dk_at dksX3_person_0 12 rfl rfl)
theorem dX3_person_13 : decode cX3_person 13 = .ok (.bipush 20, 2) := dk_16 20 (dk_at dksX3_person_0 13 rfl rfl)
theorem dX3_person_15 : decode cX3_person 15 = .ok (.invokevirtual 195, 3) := dk_182 0 195 (dk_at dksX3_person_0 15 rfl rfl)
theorem dX3_person_18 : decode cX3_person 18 = .ok (.ifCond .eq 14, 3) := dk_153 0 14 (dk_at dksX3_person_0 18 rfl rfl)
theorem dX3_person_21 : decode cX3_person 21 = .ok (.aload_n 0, 1) := dk_42 (dk_at dksX3_person_0 21 rfl rfl)
theorem dX3_person_22 : decode cX3_person 22 = .ok (.iload_n 3, 1) := dk_29 (dk_at dksX3_person_0 22 rfl rfl)
theorem dX3_person_23 : decode cX3_person 23 = .ok (.iconst 1, 1) := dk_4 (dk_at dksX3_person_0 23 rfl rfl)
theorem dX3_person_24 : decode cX3_person 24 = .ok (.bipush 9, 2) := dk_16 9 (dk_at dksX3_person_1 0 rfl rfl)
theorem dX3_person_26 : decode cX3_person 26 = .ok (.invokevirtual 195, 3) := dk_182 0 195 (dk_at dksX3_person_1 2 rfl rfl)
theorem dX3_person_29 : decode cX3_person 29 = .ok (.ifCond .ne 6, 3) := dk_154 0 6 (dk_at dksX3_person_1 5 rfl rfl)
theorem dX3_person_32 : decode cX3_person 32 = .ok (.bipush (-2), 2) := dk_16 254 (dk_at dksX3_person_1 8 rfl rfl)
theorem dX3_person_34 : decode cX3_person 34 = .ok (.ireturn, 1) := dk_172 (dk_at dksX3_person_1 10 rfl rfl)
theorem dX3_person_35 : decode cX3_person 35 = .ok (.aload_n 0, 1) := dk_42 (dk_at dksX3_person_1 11 rfl rfl)
theorem dX3_person_36 : decode cX3_person 36 = .ok (.getfield 7, 3) := dk_180 0 7 (dk_at dksX3_person_1 12 rfl rfl)
theorem dX3_person_39 : decode cX3_person 39 = .ok (.bipush 15, 2) := dk_16 15 (dk_at dksX3_person_1 15 rfl rfl)
theorem dX3_person_41 : decode cX3_person 41 = .ok (.if_icmp .ne 6, 3) := dk_160 0 6 (dk_at dksX3_person_1 17 rfl rfl)
theorem dX3_person_44 : decode cX3_person 44 = .ok (.bipush (-4), 2) := dk_16 252 (dk_at dksX3_person_1 20 rfl rfl)
theorem dX3_person_46 : decode cX3_person 46 = .ok (.ireturn, 1) := dk_172 (dk_at dksX3_person_1 22 rfl rfl)
theorem dX3_person_47 : decode cX3_person 47 = .ok (.aload_n 0, 1) := dk_42 (dk_at dksX3_person_1 23 rfl rfl)
theorem dX3_person_48 : decode cX3_person 48 = .ok (.getfield 16, 3) := dk_180 0 16 (dk_at dksX3_person_2 0 rfl rfl)
theorem dX3_person_51 : decode cX3_person 51 = .ok (.aload_n 0, 1) := dk_42 (dk_at dksX3_person_2 3 rfl rfl)
theorem dX3_person_52 : decode cX3_person 52 = .ok (.getfield 7, 3) := dk_180 0 7 (dk_at dksX3_person_2 4 rfl rfl)
theorem dX3_person_55 : decode cX3_person 55 = .ok (.iload_n 1, 1) := dk_27 (dk_at dksX3_person_2 7 rfl rfl)
theorem dX3_person_56 : decode cX3_person 56 = .ok (.iastore, 1) := dk_79 (dk_at dksX3_person_2 8 rfl rfl)
theorem dX3_person_57 : decode cX3_person 57 = .ok (.aload_n 0, 1) := dk_42 (dk_at dksX3_person_2 9 rfl rfl)
theorem dX3_person_58 : decode cX3_person 58 = .ok (.getfield 20, 3) := dk_180 0 20 (dk_at dksX3_person_2 10 rfl rfl)
theorem dX3_person_61 : decode cX3_person 61 = .ok (.aload_n 0, 1) := dk_42 (dk_at dksX3_person_2 13 rfl rfl)
theorem dX3_person_62 : decode cX3_person 62 = .ok (.getfield 7, 3) := dk_180 0 7 (dk_at dksX3_person_2 14 rfl rfl)
theorem dX3_person_65 : decode cX3_person 65 = .ok (.iload_n 2, 1) := dk_28 (dk_at dksX3_person_2 17 rfl rfl)
theorem dX3_person_66 : decode cX3_person 66 = .ok (.iastore, 1) := dk_79 (dk_at dksX3_person_2 18 rfl rfl)
theorem dX3_person_67 : decode cX3_person 67 = .ok (.aload_n 0, 1) := dk_42 (dk_at dksX3_person_2 19 rfl rfl)
theorem dX3_person_68 : decode cX3_person 68 = .ok (.getfield 23, 3) := dk_180 0 23 (dk_at dksX3_person_2 20 rfl rfl)
theorem dX3_person_71 : decode cX3_person 71 = .ok (.aload_n 0, 1) := dk_42 (dk_at dksX3_person_2 23 rfl rfl)
theorem dX3_person_72 : decode cX3_person 72 = .ok (.getfield 7, 3) := dk_180 0 7 (dk_at dksX3_person_3 0 rfl rfl)
theorem dX3_person_75 : decode cX3_person 75 = .ok (.iload_n 3, 1) := dk_29 (dk_at dksX3_person_3 3 rfl rfl)
theorem dX3_person_76 : decode cX3_person 76 = .ok (.iastore, 1) := dk_79 (dk_at dksX3_person_3 4 rfl rfl)
theorem dX3_person_77 : decode cX3_person 77 = .ok (.aload_n 0, 1) := dk_42 (dk_at dksX3_person_3 5 rfl rfl)
theorem dX3_person_78 : decode cX3_person 78 = .ok (.dup, 1) := dk_89 (dk_at dksX3_person_3 6 rfl rfl)
theorem dX3_person_79 : decode cX3_person 79 = .ok (.getfield 7, 3) := dk_180 0 7 (dk_at dksX3_person_3 7 rfl rfl)
theorem dX3_person_82 : decode cX3_person 82 = .ok (.iconst 1, 1) := dk_4 (dk_at dksX3_person_3 10 rfl rfl)
theorem dX3_person_83 : decode cX3_person 83 = .ok (.iadd, 1) := dk_96 (dk_at dksX3_person_3 11 rfl rfl)
theorem dX3_person_84 : decode cX3_person 84 = .ok (.putfield 7, 3) := dk_181 0 7 (dk_at dksX3_person_3 12 rfl rfl)
theorem dX3_person_87 : decode cX3_person 87 = .ok (.aload_n 0, 1) := dk_42 (dk_at dksX3_person_3 15 rfl rfl)
theorem dX3_person_88 : decode cX3_person 88 = .ok (.getfield 7, 3) := dk_180 0 7 (dk_at dksX3_person_3 16 rfl rfl)
theorem dX3_person_91 : decode cX3_person 91 = .ok (.iconst 1, 1) := dk_4 (dk_at dksX3_person_3 19 rfl rfl)
theorem dX3_person_92 : decode cX3_person 92 = .ok (.isub, 1) := dk_100 (dk_at dksX3_person_3 20 rfl rfl)
theorem dX3_person_93 : decode cX3_person 93 = .ok (.ireturn, 1) := dk_172 (dk_at dksX3_person_3 21 rfl rfl)
abbrev cX3_in : ByteArray := prog_17_method_2_code
def yX3_in : MethodName := ⟨RX3, "in", "(III)Z"⟩
def dkwX3_in_0 : List UInt8 := [27, 28, 161, 0, 12, 27, 29, 163, 0, 7, 4, 167, 0, 4, 3, 172]
abbrev dktX3_in_0 : List UInt8 := dkwX3_in_0 ++ []
theorem dksX3_in_0 : cX3_in.data.toList.drop 0 = dktX3_in_0 := by decide +kernel
theorem dX3_in_0 : decode cX3_in 0 = .ok (.iload_n 1, 1) := dk_27 (dk_at dksX3_in_0 0 rfl rfl)
theorem dX3_in_1 : decode cX3_in 1 = .ok (.iload_n 2, 1) := dk_28 (dk_at dksX3_in_0 1 rfl rfl)
theorem dX3_in_2 : decode cX3_in 2 = .ok (.if_icmp .lt 12, 3) := dk_161 0 12 (dk_at dksX3_in_0 2 rfl rfl)
theorem dX3_in_5 : decode cX3_in 5 = .ok (.iload_n 1, 1) := dk_27 (dk_at dksX3_in_0 5 rfl rfl)
theorem dX3_in_6 : decode cX3_in 6 = .ok (.iload_n 3, 1) := dk_29 (dk_at dksX3_in_0 6 rfl rfl)
theorem dX3_in_7 : decode cX3_in 7 = .ok (.if_icmp .gt 7, 3) := dk_163 0 7 (dk_at dksX3_in_0 7 rfl rfl)
theorem dX3_in_10 : decode cX3_in 10 = .ok (.iconst 1, 1) := dk_4 (dk_at dksX3_in_0 10 rfl rfl)
theorem dX3_in_11 : decode cX3_in 11 = .ok (.goto 4, 3) := dk_167 0 4 (dk_at dksX3_in_0 11 rfl rfl)
theorem dX3_in_14 : decode cX3_in 14 = .ok (.iconst 0, 1) := dk_3 (dk_at dksX3_in_0 14 rfl rfl)
theorem dX3_in_15 : decode cX3_in 15 = .ok (.ireturn, 1) := dk_172 (dk_at dksX3_in_0 15 rfl rfl)
abbrev cX3_ring : ByteArray := prog_17_method_7_code
def yX3_ring : MethodName := ⟨RX3, "ring", "(I)I"⟩
def dkwX3_ring_3 : List UInt8 := [180, 0, 35, 28, 3, 79, 42, 180, 0, 63, 28, 3, 79, 132, 2, 1, 167, 255, 211, 4, 172]
abbrev dktX3_ring_3 : List UInt8 := dkwX3_ring_3 ++ []
def dkwX3_ring_2 : List UInt8 := [180, 0, 26, 28, 16, 251, 79, 42, 180, 0, 29, 28, 28, 79, 42, 180, 0, 32, 28, 3, 79, 42]
abbrev dktX3_ring_2 : List UInt8 := dkwX3_ring_2 ++ dktX3_ring_3
def dkwX3_ring_1 : List UInt8 := [42, 27, 181, 0, 13, 42, 3, 181, 0, 54, 42, 3, 181, 0, 57, 3, 61, 28, 16, 9, 162, 0, 45, 42]
abbrev dktX3_ring_1 : List UInt8 := dkwX3_ring_1 ++ dktX3_ring_2
def dkwX3_ring_0 : List UInt8 := [42, 27, 6, 16, 9, 182, 0, 195, 154, 0, 6, 16, 254, 172, 42, 180, 0, 44, 153, 0, 6, 16, 253, 172]
abbrev dktX3_ring_0 : List UInt8 := dkwX3_ring_0 ++ dktX3_ring_1
theorem dksX3_ring_0 : cX3_ring.data.toList.drop 0 = dktX3_ring_0 := by decide +kernel
theorem dksX3_ring_1 : cX3_ring.data.toList.drop 24 = dktX3_ring_1 := dk_seg dksX3_ring_0 24 rfl rfl
theorem dksX3_ring_2 : cX3_ring.data.toList.drop 48 = dktX3_ring_2 := dk_seg dksX3_ring_1 24 rfl rfl
theorem dksX3_ring_3 : cX3_ring.data.toList.drop 70 = dktX3_ring_3 := dk_seg dksX3_ring_2 22 rfl rfl
theorem dX3_ring_0 : decode cX3_ring 0 = .ok (.aload_n 0, 1) := dk_42 (dk_at dksX3_ring_0 0 rfl rfl)
theorem dX3_ring_1 : decode cX3_ring 1 = .ok (.iload_n 1, 1) := dk_27 (dk_at dksX3_ring_0 1 rfl rfl)
theorem dX3_ring_2 : decode cX3_ring 2 = .ok (.iconst 3, 1) := dk_6 (dk_at dksX3_ring_0 2 rfl rfl)
theorem dX3_ring_3 : decode cX3_ring 3 = .ok (.bipush 9, 2) := dk_16 9 (dk_at dksX3_ring_0 3 rfl rfl)
theorem dX3_ring_5 : decode cX3_ring 5 = .ok (.invokevirtual 195, 3) := dk_182 0 195 (dk_at dksX3_ring_0 5 rfl rfl)
theorem dX3_ring_8 : decode cX3_ring 8 = .ok (.ifCond .ne 6, 3) := dk_154 0 6 (dk_at dksX3_ring_0 8 rfl rfl)
theorem dX3_ring_11 : decode cX3_ring 11 = .ok (.bipush (-2), 2) := dk_16 254 (dk_at dksX3_ring_0 11 rfl rfl)
theorem dX3_ring_13 : decode cX3_ring 13 = .ok (.ireturn, 1) := dk_172 (dk_at dksX3_ring_0 13 rfl rfl)
theorem dX3_ring_14 : decode cX3_ring 14 = .ok (.aload_n 0, 1) := dk_42 (dk_at dksX3_ring_0 14 rfl rfl)
theorem dX3_ring_15 : decode cX3_ring 15 = .ok (.getfield 44, 3) := dk_180 0 44 (dk_at dksX3_ring_0 15 rfl rfl)
theorem dX3_ring_18 : decode cX3_ring 18 = .ok (.ifCond .eq 6, 3) := dk_153 0 6 (dk_at dksX3_ring_0 18 rfl rfl)
theorem dX3_ring_21 : decode cX3_ring 21 = .ok (.bipush (-3), 2) := dk_16 253 (dk_at dksX3_ring_0 21 rfl rfl)
theorem dX3_ring_23 : decode cX3_ring 23 = .ok (.ireturn, 1) := dk_172 (dk_at dksX3_ring_0 23 rfl rfl)
theorem dX3_ring_24 : decode cX3_ring 24 = .ok (.aload_n 0, 1) := dk_42 (dk_at dksX3_ring_1 0 rfl rfl)
theorem dX3_ring_25 : decode cX3_ring 25 = .ok (.iload_n 1, 1) := dk_27 (dk_at dksX3_ring_1 1 rfl rfl)
theorem dX3_ring_26 : decode cX3_ring 26 = .ok (.putfield 13, 3) := dk_181 0 13 (dk_at dksX3_ring_1 2 rfl rfl)
theorem dX3_ring_29 : decode cX3_ring 29 = .ok (.aload_n 0, 1) := dk_42 (dk_at dksX3_ring_1 5 rfl rfl)
theorem dX3_ring_30 : decode cX3_ring 30 = .ok (.iconst 0, 1) := dk_3 (dk_at dksX3_ring_1 6 rfl rfl)
theorem dX3_ring_31 : decode cX3_ring 31 = .ok (.putfield 54, 3) := dk_181 0 54 (dk_at dksX3_ring_1 7 rfl rfl)
theorem dX3_ring_34 : decode cX3_ring 34 = .ok (.aload_n 0, 1) := dk_42 (dk_at dksX3_ring_1 10 rfl rfl)
theorem dX3_ring_35 : decode cX3_ring 35 = .ok (.iconst 0, 1) := dk_3 (dk_at dksX3_ring_1 11 rfl rfl)
theorem dX3_ring_36 : decode cX3_ring 36 = .ok (.putfield 57, 3) := dk_181 0 57 (dk_at dksX3_ring_1 12 rfl rfl)
theorem dX3_ring_39 : decode cX3_ring 39 = .ok (.iconst 0, 1) := dk_3 (dk_at dksX3_ring_1 15 rfl rfl)
theorem dX3_ring_40 : decode cX3_ring 40 = .ok (.istore_n 2, 1) := dk_61 (dk_at dksX3_ring_1 16 rfl rfl)
theorem dX3_ring_41 : decode cX3_ring 41 = .ok (.iload_n 2, 1) := dk_28 (dk_at dksX3_ring_1 17 rfl rfl)
theorem dX3_ring_42 : decode cX3_ring 42 = .ok (.bipush 9, 2) := dk_16 9 (dk_at dksX3_ring_1 18 rfl rfl)
theorem dX3_ring_44 : decode cX3_ring 44 = .ok (.if_icmp .ge 45, 3) := dk_162 0 45 (dk_at dksX3_ring_1 20 rfl rfl)
theorem dX3_ring_47 : decode cX3_ring 47 = .ok (.aload_n 0, 1) := dk_42 (dk_at dksX3_ring_1 23 rfl rfl)
theorem dX3_ring_48 : decode cX3_ring 48 = .ok (.getfield 26, 3) := dk_180 0 26 (dk_at dksX3_ring_2 0 rfl rfl)
theorem dX3_ring_51 : decode cX3_ring 51 = .ok (.iload_n 2, 1) := dk_28 (dk_at dksX3_ring_2 3 rfl rfl)
theorem dX3_ring_52 : decode cX3_ring 52 = .ok (.bipush (-5), 2) := dk_16 251 (dk_at dksX3_ring_2 4 rfl rfl)
theorem dX3_ring_54 : decode cX3_ring 54 = .ok (.iastore, 1) := dk_79 (dk_at dksX3_ring_2 6 rfl rfl)
theorem dX3_ring_55 : decode cX3_ring 55 = .ok (.aload_n 0, 1) := dk_42 (dk_at dksX3_ring_2 7 rfl rfl)
theorem dX3_ring_56 : decode cX3_ring 56 = .ok (.getfield 29, 3) := dk_180 0 29 (dk_at dksX3_ring_2 8 rfl rfl)
theorem dX3_ring_59 : decode cX3_ring 59 = .ok (.iload_n 2, 1) := dk_28 (dk_at dksX3_ring_2 11 rfl rfl)
theorem dX3_ring_60 : decode cX3_ring 60 = .ok (.iload_n 2, 1) := dk_28 (dk_at dksX3_ring_2 12 rfl rfl)
theorem dX3_ring_61 : decode cX3_ring 61 = .ok (.iastore, 1) := dk_79 (dk_at dksX3_ring_2 13 rfl rfl)
theorem dX3_ring_62 : decode cX3_ring 62 = .ok (.aload_n 0, 1) := dk_42 (dk_at dksX3_ring_2 14 rfl rfl)
theorem dX3_ring_63 : decode cX3_ring 63 = .ok (.getfield 32, 3) := dk_180 0 32 (dk_at dksX3_ring_2 15 rfl rfl)
theorem dX3_ring_66 : decode cX3_ring 66 = .ok (.iload_n 2, 1) := dk_28 (dk_at dksX3_ring_2 18 rfl rfl)
theorem dX3_ring_67 : decode cX3_ring 67 = .ok (.iconst 0, 1) := dk_3 (dk_at dksX3_ring_2 19 rfl rfl)
theorem dX3_ring_68 : decode cX3_ring 68 = .ok (.iastore, 1) := dk_79 (dk_at dksX3_ring_2 20 rfl rfl)
theorem dX3_ring_69 : decode cX3_ring 69 = .ok (.aload_n 0, 1) := dk_42 (dk_at dksX3_ring_2 21 rfl rfl)
theorem dX3_ring_70 : decode cX3_ring 70 = .ok (.getfield 35, 3) := dk_180 0 35 (dk_at dksX3_ring_3 0 rfl rfl)
theorem dX3_ring_73 : decode cX3_ring 73 = .ok (.iload_n 2, 1) := dk_28 (dk_at dksX3_ring_3 3 rfl rfl)
theorem dX3_ring_74 : decode cX3_ring 74 = .ok (.iconst 0, 1) := dk_3 (dk_at dksX3_ring_3 4 rfl rfl)
theorem dX3_ring_75 : decode cX3_ring 75 = .ok (.iastore, 1) := dk_79 (dk_at dksX3_ring_3 5 rfl rfl)
theorem dX3_ring_76 : decode cX3_ring 76 = .ok (.aload_n 0, 1) := dk_42 (dk_at dksX3_ring_3 6 rfl rfl)
theorem dX3_ring_77 : decode cX3_ring 77 = .ok (.getfield 63, 3) := dk_180 0 63 (dk_at dksX3_ring_3 7 rfl rfl)
theorem dX3_ring_80 : decode cX3_ring 80 = .ok (.iload_n 2, 1) := dk_28 (dk_at dksX3_ring_3 10 rfl rfl)
theorem dX3_ring_81 : decode cX3_ring 81 = .ok (.iconst 0, 1) := dk_3 (dk_at dksX3_ring_3 11 rfl rfl)
theorem dX3_ring_82 : decode cX3_ring 82 = .ok (.iastore, 1) := dk_79 (dk_at dksX3_ring_3 12 rfl rfl)
theorem dX3_ring_83 : decode cX3_ring 83 = .ok (.iinc 2 1, 3) := dk_132 2 1 (dk_at dksX3_ring_3 13 rfl rfl)
theorem dX3_ring_86 : decode cX3_ring 86 = .ok (.goto (-45), 3) := dk_167 255 211 (dk_at dksX3_ring_3 16 rfl rfl)
theorem dX3_ring_89 : decode cX3_ring 89 = .ok (.iconst 1, 1) := dk_4 (dk_at dksX3_ring_3 19 rfl rfl)
theorem dX3_ring_90 : decode cX3_ring 90 = .ok (.ireturn, 1) := dk_172 (dk_at dksX3_ring_3 20 rfl rfl)
abbrev cX3_stand : ByteArray := prog_17_method_8_code
def yX3_stand : MethodName := ⟨RX3, "stand", "(II)I"⟩
def dkwX3_stand_3 : List UInt8 := [172, 42, 180, 0, 26, 27, 46, 62, 42, 180, 0, 26, 27, 28, 79, 29, 172]
abbrev dktX3_stand_3 : List UInt8 := dkwX3_stand_3 ++ []
def dkwX3_stand_2 : List UInt8 := [160, 0, 6, 16, 253, 172, 132, 3, 1, 167, 255, 232, 42, 180, 0, 16, 28, 46, 7, 160, 0, 6, 16, 244]
abbrev dktX3_stand_2 : List UInt8 := dkwX3_stand_2 ++ dktX3_stand_3
def dkwX3_stand_1 : List UInt8 := [153, 0, 6, 16, 253, 172, 3, 62, 29, 42, 180, 0, 13, 162, 0, 22, 42, 180, 0, 26, 29, 46, 28]
abbrev dktX3_stand_1 : List UInt8 := dkwX3_stand_1 ++ dktX3_stand_2
def dkwX3_stand_0 : List UInt8 := [42, 27, 182, 0, 199, 153, 0, 11, 42, 28, 182, 0, 203, 154, 0, 5, 2, 172, 42, 180, 0, 44]
abbrev dktX3_stand_0 : List UInt8 := dkwX3_stand_0 ++ dktX3_stand_1
theorem dksX3_stand_0 : cX3_stand.data.toList.drop 0 = dktX3_stand_0 := by decide +kernel
theorem dksX3_stand_1 : cX3_stand.data.toList.drop 22 = dktX3_stand_1 := dk_seg dksX3_stand_0 22 rfl rfl
theorem dksX3_stand_2 : cX3_stand.data.toList.drop 45 = dktX3_stand_2 := dk_seg dksX3_stand_1 23 rfl rfl
theorem dksX3_stand_3 : cX3_stand.data.toList.drop 69 = dktX3_stand_3 := dk_seg dksX3_stand_2 24 rfl rfl
theorem dX3_stand_0 : decode cX3_stand 0 = .ok (.aload_n 0, 1) := dk_42 (dk_at dksX3_stand_0 0 rfl rfl)
theorem dX3_stand_1 : decode cX3_stand 1 = .ok (.iload_n 1, 1) := dk_27 (dk_at dksX3_stand_0 1 rfl rfl)
theorem dX3_stand_2 : decode cX3_stand 2 = .ok (.invokevirtual 199, 3) := dk_182 0 199 (dk_at dksX3_stand_0 2 rfl rfl)
theorem dX3_stand_5 : decode cX3_stand 5 = .ok (.ifCond .eq 11, 3) := dk_153 0 11 (dk_at dksX3_stand_0 5 rfl rfl)
theorem dX3_stand_8 : decode cX3_stand 8 = .ok (.aload_n 0, 1) := dk_42 (dk_at dksX3_stand_0 8 rfl rfl)
theorem dX3_stand_9 : decode cX3_stand 9 = .ok (.iload_n 2, 1) := dk_28 (dk_at dksX3_stand_0 9 rfl rfl)
theorem dX3_stand_10 : decode cX3_stand 10 = .ok (.invokevirtual 203, 3) := dk_182 0 203 (dk_at dksX3_stand_0 10 rfl rfl)
theorem dX3_stand_13 : decode cX3_stand 13 = .ok (.ifCond .ne 5, 3) := dk_154 0 5 (dk_at dksX3_stand_0 13 rfl rfl)
theorem dX3_stand_16 : decode cX3_stand 16 = .ok (.iconst (-1), 1) := dk_2 (dk_at dksX3_stand_0 16 rfl rfl)
theorem dX3_stand_17 : decode cX3_stand 17 = .ok (.ireturn, 1) := dk_172 (dk_at dksX3_stand_0 17 rfl rfl)
theorem dX3_stand_18 : decode cX3_stand 18 = .ok (.aload_n 0, 1) := dk_42 (dk_at dksX3_stand_0 18 rfl rfl)
theorem dX3_stand_19 : decode cX3_stand 19 = .ok (.getfield 44, 3) := dk_180 0 44 (dk_at dksX3_stand_0 19 rfl rfl)
theorem dX3_stand_22 : decode cX3_stand 22 = .ok (.ifCond .eq 6, 3) := dk_153 0 6 (dk_at dksX3_stand_1 0 rfl rfl)
theorem dX3_stand_25 : decode cX3_stand 25 = .ok (.bipush (-3), 2) := dk_16 253 (dk_at dksX3_stand_1 3 rfl rfl)
theorem dX3_stand_27 : decode cX3_stand 27 = .ok (.ireturn, 1) := dk_172 (dk_at dksX3_stand_1 5 rfl rfl)
theorem dX3_stand_28 : decode cX3_stand 28 = .ok (.iconst 0, 1) := dk_3 (dk_at dksX3_stand_1 6 rfl rfl)
theorem dX3_stand_29 : decode cX3_stand 29 = .ok (.istore_n 3, 1) := dk_62 (dk_at dksX3_stand_1 7 rfl rfl)
theorem dX3_stand_30 : decode cX3_stand 30 = .ok (.iload_n 3, 1) := dk_29 (dk_at dksX3_stand_1 8 rfl rfl)
theorem dX3_stand_31 : decode cX3_stand 31 = .ok (.aload_n 0, 1) := dk_42 (dk_at dksX3_stand_1 9 rfl rfl)
theorem dX3_stand_32 : decode cX3_stand 32 = .ok (.getfield 13, 3) := dk_180 0 13 (dk_at dksX3_stand_1 10 rfl rfl)
theorem dX3_stand_35 : decode cX3_stand 35 = .ok (.if_icmp .ge 22, 3) := dk_162 0 22 (dk_at dksX3_stand_1 13 rfl rfl)
theorem dX3_stand_38 : decode cX3_stand 38 = .ok (.aload_n 0, 1) := dk_42 (dk_at dksX3_stand_1 16 rfl rfl)
theorem dX3_stand_39 : decode cX3_stand 39 = .ok (.getfield 26, 3) := dk_180 0 26 (dk_at dksX3_stand_1 17 rfl rfl)
theorem dX3_stand_42 : decode cX3_stand 42 = .ok (.iload_n 3, 1) := dk_29 (dk_at dksX3_stand_1 20 rfl rfl)
theorem dX3_stand_43 : decode cX3_stand 43 = .ok (.iaload, 1) := dk_46 (dk_at dksX3_stand_1 21 rfl rfl)
theorem dX3_stand_44 : decode cX3_stand 44 = .ok (.iload_n 2, 1) := dk_28 (dk_at dksX3_stand_1 22 rfl rfl)
theorem dX3_stand_45 : decode cX3_stand 45 = .ok (.if_icmp .ne 6, 3) := dk_160 0 6 (dk_at dksX3_stand_2 0 rfl rfl)
theorem dX3_stand_48 : decode cX3_stand 48 = .ok (.bipush (-3), 2) := dk_16 253 (dk_at dksX3_stand_2 3 rfl rfl)
theorem dX3_stand_50 : decode cX3_stand 50 = .ok (.ireturn, 1) := dk_172 (dk_at dksX3_stand_2 5 rfl rfl)
theorem dX3_stand_51 : decode cX3_stand 51 = .ok (.iinc 3 1, 3) := dk_132 3 1 (dk_at dksX3_stand_2 6 rfl rfl)
theorem dX3_stand_54 : decode cX3_stand 54 = .ok (.goto (-24), 3) := dk_167 255 232 (dk_at dksX3_stand_2 9 rfl rfl)
theorem dX3_stand_57 : decode cX3_stand 57 = .ok (.aload_n 0, 1) := dk_42 (dk_at dksX3_stand_2 12 rfl rfl)
theorem dX3_stand_58 : decode cX3_stand 58 = .ok (.getfield 16, 3) := dk_180 0 16 (dk_at dksX3_stand_2 13 rfl rfl)
theorem dX3_stand_61 : decode cX3_stand 61 = .ok (.iload_n 2, 1) := dk_28 (dk_at dksX3_stand_2 16 rfl rfl)
theorem dX3_stand_62 : decode cX3_stand 62 = .ok (.iaload, 1) := dk_46 (dk_at dksX3_stand_2 17 rfl rfl)
theorem dX3_stand_63 : decode cX3_stand 63 = .ok (.iconst 4, 1) := dk_7 (dk_at dksX3_stand_2 18 rfl rfl)
theorem dX3_stand_64 : decode cX3_stand 64 = .ok (.if_icmp .ne 6, 3) := dk_160 0 6 (dk_at dksX3_stand_2 19 rfl rfl)
theorem dX3_stand_67 : decode cX3_stand 67 = .ok (.bipush (-12), 2) := dk_16 244 (dk_at dksX3_stand_2 22 rfl rfl)
theorem dX3_stand_69 : decode cX3_stand 69 = .ok (.ireturn, 1) := dk_172 (dk_at dksX3_stand_3 0 rfl rfl)
theorem dX3_stand_70 : decode cX3_stand 70 = .ok (.aload_n 0, 1) := dk_42 (dk_at dksX3_stand_3 1 rfl rfl)
theorem dX3_stand_71 : decode cX3_stand 71 = .ok (.getfield 26, 3) := dk_180 0 26 (dk_at dksX3_stand_3 2 rfl rfl)
theorem dX3_stand_74 : decode cX3_stand 74 = .ok (.iload_n 1, 1) := dk_27 (dk_at dksX3_stand_3 5 rfl rfl)
theorem dX3_stand_75 : decode cX3_stand 75 = .ok (.iaload, 1) := dk_46 (dk_at dksX3_stand_3 6 rfl rfl)
theorem dX3_stand_76 : decode cX3_stand 76 = .ok (.istore_n 3, 1) := dk_62 (dk_at dksX3_stand_3 7 rfl rfl)
theorem dX3_stand_77 : decode cX3_stand 77 = .ok (.aload_n 0, 1) := dk_42 (dk_at dksX3_stand_3 8 rfl rfl)
theorem dX3_stand_78 : decode cX3_stand 78 = .ok (.getfield 26, 3) := dk_180 0 26 (dk_at dksX3_stand_3 9 rfl rfl)
theorem dX3_stand_81 : decode cX3_stand 81 = .ok (.iload_n 1, 1) := dk_27 (dk_at dksX3_stand_3 12 rfl rfl)
theorem dX3_stand_82 : decode cX3_stand 82 = .ok (.iload_n 2, 1) := dk_28 (dk_at dksX3_stand_3 13 rfl rfl)
theorem dX3_stand_83 : decode cX3_stand 83 = .ok (.iastore, 1) := dk_79 (dk_at dksX3_stand_3 14 rfl rfl)
theorem dX3_stand_84 : decode cX3_stand 84 = .ok (.iload_n 3, 1) := dk_29 (dk_at dksX3_stand_3 15 rfl rfl)
theorem dX3_stand_85 : decode cX3_stand 85 = .ok (.ireturn, 1) := dk_172 (dk_at dksX3_stand_3 16 rfl rfl)
abbrev cX3_isPlace : ByteArray := prog_17_method_5_code
def yX3_isPlace : MethodName := ⟨RX3, "isPlace", "(I)Z"⟩
def dkwX3_isPlace_0 : List UInt8 := [42, 27, 3, 42, 180, 0, 13, 4, 100, 182, 0, 195, 172]
abbrev dktX3_isPlace_0 : List UInt8 := dkwX3_isPlace_0 ++ []
theorem dksX3_isPlace_0 : cX3_isPlace.data.toList.drop 0 = dktX3_isPlace_0 := by decide +kernel
theorem dX3_isPlace_0 : decode cX3_isPlace 0 = .ok (.aload_n 0, 1) := dk_42 (dk_at dksX3_isPlace_0 0 rfl rfl)
theorem dX3_isPlace_1 : decode cX3_isPlace 1 = .ok (.iload_n 1, 1) := dk_27 (dk_at dksX3_isPlace_0 1 rfl rfl)
theorem dX3_isPlace_2 : decode cX3_isPlace 2 = .ok (.iconst 0, 1) := dk_3 (dk_at dksX3_isPlace_0 2 rfl rfl)
theorem dX3_isPlace_3 : decode cX3_isPlace 3 = .ok (.aload_n 0, 1) := dk_42 (dk_at dksX3_isPlace_0 3 rfl rfl)
theorem dX3_isPlace_4 : decode cX3_isPlace 4 = .ok (.getfield 13, 3) := dk_180 0 13 (dk_at dksX3_isPlace_0 4 rfl rfl)
theorem dX3_isPlace_7 : decode cX3_isPlace 7 = .ok (.iconst 1, 1) := dk_4 (dk_at dksX3_isPlace_0 7 rfl rfl)
theorem dX3_isPlace_8 : decode cX3_isPlace 8 = .ok (.isub, 1) := dk_100 (dk_at dksX3_isPlace_0 8 rfl rfl)
theorem dX3_isPlace_9 : decode cX3_isPlace 9 = .ok (.invokevirtual 195, 3) := dk_182 0 195 (dk_at dksX3_isPlace_0 9 rfl rfl)
theorem dX3_isPlace_12 : decode cX3_isPlace 12 = .ok (.ireturn, 1) := dk_172 (dk_at dksX3_isPlace_0 12 rfl rfl)
abbrev cX3_isPerson : ByteArray := prog_17_method_4_code
def yX3_isPerson : MethodName := ⟨RX3, "isPerson", "(I)Z"⟩
def dkwX3_isPerson_0 : List UInt8 := [42, 27, 3, 42, 180, 0, 7, 4, 100, 182, 0, 195, 172]
abbrev dktX3_isPerson_0 : List UInt8 := dkwX3_isPerson_0 ++ []
theorem dksX3_isPerson_0 : cX3_isPerson.data.toList.drop 0 = dktX3_isPerson_0 := by decide +kernel
theorem dX3_isPerson_0 : decode cX3_isPerson 0 = .ok (.aload_n 0, 1) := dk_42 (dk_at dksX3_isPerson_0 0 rfl rfl)
theorem dX3_isPerson_1 : decode cX3_isPerson 1 = .ok (.iload_n 1, 1) := dk_27 (dk_at dksX3_isPerson_0 1 rfl rfl)
theorem dX3_isPerson_2 : decode cX3_isPerson 2 = .ok (.iconst 0, 1) := dk_3 (dk_at dksX3_isPerson_0 2 rfl rfl)
theorem dX3_isPerson_3 : decode cX3_isPerson 3 = .ok (.aload_n 0, 1) := dk_42 (dk_at dksX3_isPerson_0 3 rfl rfl)
theorem dX3_isPerson_4 : decode cX3_isPerson 4 = .ok (.getfield 7, 3) := dk_180 0 7 (dk_at dksX3_isPerson_0 4 rfl rfl)
theorem dX3_isPerson_7 : decode cX3_isPerson 7 = .ok (.iconst 1, 1) := dk_4 (dk_at dksX3_isPerson_0 7 rfl rfl)
theorem dX3_isPerson_8 : decode cX3_isPerson 8 = .ok (.isub, 1) := dk_100 (dk_at dksX3_isPerson_0 8 rfl rfl)
theorem dX3_isPerson_9 : decode cX3_isPerson 9 = .ok (.invokevirtual 195, 3) := dk_182 0 195 (dk_at dksX3_isPerson_0 9 rfl rfl)
theorem dX3_isPerson_12 : decode cX3_isPerson 12 = .ok (.ireturn, 1) := dk_172 (dk_at dksX3_isPerson_0 12 rfl rfl)
abbrev cX3_ribbon : ByteArray := prog_17_method_9_code
def yX3_ribbon : MethodName := ⟨RX3, "ribbon", "(III)I"⟩
def dkwX3_ribbon_2 : List UInt8 := [180, 0, 32, 27, 28, 79, 42, 180, 0, 35, 27, 29, 79, 4, 172]
abbrev dktX3_ribbon_2 : List UInt8 := dkwX3_ribbon_2 ++ []
def dkwX3_ribbon_1 : List UInt8 := [18, 206, 182, 0, 195, 154, 0, 6, 16, 254, 172, 42, 180, 0, 44, 153, 0, 6, 16, 253, 172, 42]
abbrev dktX3_ribbon_1 : List UInt8 := dkwX3_ribbon_1 ++ dktX3_ribbon_2
def dkwX3_ribbon_0 : List UInt8 := [42, 27, 182, 0, 199, 154, 0, 5, 2, 172, 42, 28, 3, 16, 7, 182, 0, 195, 153, 0, 14, 42, 29, 3]
abbrev dktX3_ribbon_0 : List UInt8 := dkwX3_ribbon_0 ++ dktX3_ribbon_1
theorem dksX3_ribbon_0 : cX3_ribbon.data.toList.drop 0 = dktX3_ribbon_0 := by decide +kernel
theorem dksX3_ribbon_1 : cX3_ribbon.data.toList.drop 24 = dktX3_ribbon_1 := dk_seg dksX3_ribbon_0 24 rfl rfl
theorem dksX3_ribbon_2 : cX3_ribbon.data.toList.drop 46 = dktX3_ribbon_2 := dk_seg dksX3_ribbon_1 22 rfl rfl
theorem dX3_ribbon_0 : decode cX3_ribbon 0 = .ok (.aload_n 0, 1) := dk_42 (dk_at dksX3_ribbon_0 0 rfl rfl)
theorem dX3_ribbon_1 : decode cX3_ribbon 1 = .ok (.iload_n 1, 1) := dk_27 (dk_at dksX3_ribbon_0 1 rfl rfl)
theorem dX3_ribbon_2 : decode cX3_ribbon 2 = .ok (.invokevirtual 199, 3) := dk_182 0 199 (dk_at dksX3_ribbon_0 2 rfl rfl)
theorem dX3_ribbon_5 : decode cX3_ribbon 5 = .ok (.ifCond .ne 5, 3) := dk_154 0 5 (dk_at dksX3_ribbon_0 5 rfl rfl)
theorem dX3_ribbon_8 : decode cX3_ribbon 8 = .ok (.iconst (-1), 1) := dk_2 (dk_at dksX3_ribbon_0 8 rfl rfl)
theorem dX3_ribbon_9 : decode cX3_ribbon 9 = .ok (.ireturn, 1) := dk_172 (dk_at dksX3_ribbon_0 9 rfl rfl)
theorem dX3_ribbon_10 : decode cX3_ribbon 10 = .ok (.aload_n 0, 1) := dk_42 (dk_at dksX3_ribbon_0 10 rfl rfl)
theorem dX3_ribbon_11 : decode cX3_ribbon 11 = .ok (.iload_n 2, 1) := dk_28 (dk_at dksX3_ribbon_0 11 rfl rfl)
theorem dX3_ribbon_12 : decode cX3_ribbon 12 = .ok (.iconst 0, 1) := dk_3 (dk_at dksX3_ribbon_0 12 rfl rfl)
theorem dX3_ribbon_13 : decode cX3_ribbon 13 = .ok (.bipush 7, 2) := dk_16 7 (dk_at dksX3_ribbon_0 13 rfl rfl)
theorem dX3_ribbon_15 : decode cX3_ribbon 15 = .ok (.invokevirtual 195, 3) := dk_182 0 195 (dk_at dksX3_ribbon_0 15 rfl rfl)
theorem dX3_ribbon_18 : decode cX3_ribbon 18 = .ok (.ifCond .eq 14, 3) := dk_153 0 14 (dk_at dksX3_ribbon_0 18 rfl rfl)
theorem dX3_ribbon_21 : decode cX3_ribbon 21 = .ok (.aload_n 0, 1) := dk_42 (dk_at dksX3_ribbon_0 21 rfl rfl)
theorem dX3_ribbon_22 : decode cX3_ribbon 22 = .ok (.iload_n 3, 1) := dk_29 (dk_at dksX3_ribbon_0 22 rfl rfl)
theorem dX3_ribbon_23 : decode cX3_ribbon 23 = .ok (.iconst 0, 1) := dk_3 (dk_at dksX3_ribbon_0 23 rfl rfl)
theorem dX3_ribbon_24 : decode cX3_ribbon 24 = .ok (.ldc 206, 2) := dk_18 206 (dk_at dksX3_ribbon_1 0 rfl rfl)
theorem dX3_ribbon_26 : decode cX3_ribbon 26 = .ok (.invokevirtual 195, 3) := dk_182 0 195 (dk_at dksX3_ribbon_1 2 rfl rfl)
theorem dX3_ribbon_29 : decode cX3_ribbon 29 = .ok (.ifCond .ne 6, 3) := dk_154 0 6 (dk_at dksX3_ribbon_1 5 rfl rfl)
theorem dX3_ribbon_32 : decode cX3_ribbon 32 = .ok (.bipush (-2), 2) := dk_16 254 (dk_at dksX3_ribbon_1 8 rfl rfl)
theorem dX3_ribbon_34 : decode cX3_ribbon 34 = .ok (.ireturn, 1) := dk_172 (dk_at dksX3_ribbon_1 10 rfl rfl)
theorem dX3_ribbon_35 : decode cX3_ribbon 35 = .ok (.aload_n 0, 1) := dk_42 (dk_at dksX3_ribbon_1 11 rfl rfl)
theorem dX3_ribbon_36 : decode cX3_ribbon 36 = .ok (.getfield 44, 3) := dk_180 0 44 (dk_at dksX3_ribbon_1 12 rfl rfl)
theorem dX3_ribbon_39 : decode cX3_ribbon 39 = .ok (.ifCond .eq 6, 3) := dk_153 0 6 (dk_at dksX3_ribbon_1 15 rfl rfl)
theorem dX3_ribbon_42 : decode cX3_ribbon 42 = .ok (.bipush (-3), 2) := dk_16 253 (dk_at dksX3_ribbon_1 18 rfl rfl)
theorem dX3_ribbon_44 : decode cX3_ribbon 44 = .ok (.ireturn, 1) := dk_172 (dk_at dksX3_ribbon_1 20 rfl rfl)
theorem dX3_ribbon_45 : decode cX3_ribbon 45 = .ok (.aload_n 0, 1) := dk_42 (dk_at dksX3_ribbon_1 21 rfl rfl)
theorem dX3_ribbon_46 : decode cX3_ribbon 46 = .ok (.getfield 32, 3) := dk_180 0 32 (dk_at dksX3_ribbon_2 0 rfl rfl)
theorem dX3_ribbon_49 : decode cX3_ribbon 49 = .ok (.iload_n 1, 1) := dk_27 (dk_at dksX3_ribbon_2 3 rfl rfl)
theorem dX3_ribbon_50 : decode cX3_ribbon 50 = .ok (.iload_n 2, 1) := dk_28 (dk_at dksX3_ribbon_2 4 rfl rfl)
theorem dX3_ribbon_51 : decode cX3_ribbon 51 = .ok (.iastore, 1) := dk_79 (dk_at dksX3_ribbon_2 5 rfl rfl)
theorem dX3_ribbon_52 : decode cX3_ribbon 52 = .ok (.aload_n 0, 1) := dk_42 (dk_at dksX3_ribbon_2 6 rfl rfl)
theorem dX3_ribbon_53 : decode cX3_ribbon 53 = .ok (.getfield 35, 3) := dk_180 0 35 (dk_at dksX3_ribbon_2 7 rfl rfl)
theorem dX3_ribbon_56 : decode cX3_ribbon 56 = .ok (.iload_n 1, 1) := dk_27 (dk_at dksX3_ribbon_2 10 rfl rfl)
theorem dX3_ribbon_57 : decode cX3_ribbon 57 = .ok (.iload_n 3, 1) := dk_29 (dk_at dksX3_ribbon_2 11 rfl rfl)
theorem dX3_ribbon_58 : decode cX3_ribbon 58 = .ok (.iastore, 1) := dk_79 (dk_at dksX3_ribbon_2 12 rfl rfl)
theorem dX3_ribbon_59 : decode cX3_ribbon 59 = .ok (.iconst 1, 1) := dk_4 (dk_at dksX3_ribbon_2 13 rfl rfl)
theorem dX3_ribbon_60 : decode cX3_ribbon 60 = .ok (.ireturn, 1) := dk_172 (dk_at dksX3_ribbon_2 14 rfl rfl)
abbrev cX3_at : ByteArray := prog_17_method_10_code
def yX3_at : MethodName := ⟨RX3, "at", "(II)I"⟩
def dkwX3_at_3 : List UInt8 := [46, 167, 0, 9, 42, 180, 0, 29, 27, 46, 172]
abbrev dktX3_at_3 : List UInt8 := dkwX3_at_3 ++ []
def dkwX3_at_2 : List UInt8 := [180, 0, 29, 27, 46, 46, 167, 0, 28, 28, 5, 160, 0, 17, 42, 180, 0, 35, 42, 180, 0, 29, 27, 46]
abbrev dktX3_at_2 : List UInt8 := dkwX3_at_2 ++ dktX3_at_3
def dkwX3_at_1 : List UInt8 := [154, 0, 12, 42, 180, 0, 26, 27, 46, 167, 0, 47, 28, 4, 160, 0, 17, 42, 180, 0, 32, 42]
abbrev dktX3_at_1 : List UInt8 := dkwX3_at_1 ++ dktX3_at_2
def dkwX3_at_0 : List UInt8 := [42, 27, 182, 0, 199, 153, 0, 13, 42, 28, 3, 6, 182, 0, 195, 154, 0, 6, 16, 250, 172, 28]
abbrev dktX3_at_0 : List UInt8 := dkwX3_at_0 ++ dktX3_at_1
theorem dksX3_at_0 : cX3_at.data.toList.drop 0 = dktX3_at_0 := by decide +kernel
theorem dksX3_at_1 : cX3_at.data.toList.drop 22 = dktX3_at_1 := dk_seg dksX3_at_0 22 rfl rfl
theorem dksX3_at_2 : cX3_at.data.toList.drop 44 = dktX3_at_2 := dk_seg dksX3_at_1 22 rfl rfl
theorem dksX3_at_3 : cX3_at.data.toList.drop 68 = dktX3_at_3 := dk_seg dksX3_at_2 24 rfl rfl
theorem dX3_at_0 : decode cX3_at 0 = .ok (.aload_n 0, 1) := dk_42 (dk_at dksX3_at_0 0 rfl rfl)
theorem dX3_at_1 : decode cX3_at 1 = .ok (.iload_n 1, 1) := dk_27 (dk_at dksX3_at_0 1 rfl rfl)
theorem dX3_at_2 : decode cX3_at 2 = .ok (.invokevirtual 199, 3) := dk_182 0 199 (dk_at dksX3_at_0 2 rfl rfl)
theorem dX3_at_5 : decode cX3_at 5 = .ok (.ifCond .eq 13, 3) := dk_153 0 13 (dk_at dksX3_at_0 5 rfl rfl)
theorem dX3_at_8 : decode cX3_at 8 = .ok (.aload_n 0, 1) := dk_42 (dk_at dksX3_at_0 8 rfl rfl)
theorem dX3_at_9 : decode cX3_at 9 = .ok (.iload_n 2, 1) := dk_28 (dk_at dksX3_at_0 9 rfl rfl)
theorem dX3_at_10 : decode cX3_at 10 = .ok (.iconst 0, 1) := dk_3 (dk_at dksX3_at_0 10 rfl rfl)
theorem dX3_at_11 : decode cX3_at 11 = .ok (.iconst 3, 1) := dk_6 (dk_at dksX3_at_0 11 rfl rfl)
theorem dX3_at_12 : decode cX3_at 12 = .ok (.invokevirtual 195, 3) := dk_182 0 195 (dk_at dksX3_at_0 12 rfl rfl)
theorem dX3_at_15 : decode cX3_at 15 = .ok (.ifCond .ne 6, 3) := dk_154 0 6 (dk_at dksX3_at_0 15 rfl rfl)
theorem dX3_at_18 : decode cX3_at 18 = .ok (.bipush (-6), 2) := dk_16 250 (dk_at dksX3_at_0 18 rfl rfl)
theorem dX3_at_20 : decode cX3_at 20 = .ok (.ireturn, 1) := dk_172 (dk_at dksX3_at_0 20 rfl rfl)
theorem dX3_at_21 : decode cX3_at 21 = .ok (.iload_n 2, 1) := dk_28 (dk_at dksX3_at_0 21 rfl rfl)
theorem dX3_at_22 : decode cX3_at 22 = .ok (.ifCond .ne 12, 3) := dk_154 0 12 (dk_at dksX3_at_1 0 rfl rfl)
theorem dX3_at_25 : decode cX3_at 25 = .ok (.aload_n 0, 1) := dk_42 (dk_at dksX3_at_1 3 rfl rfl)
theorem dX3_at_26 : decode cX3_at 26 = .ok (.getfield 26, 3) := dk_180 0 26 (dk_at dksX3_at_1 4 rfl rfl)
theorem dX3_at_29 : decode cX3_at 29 = .ok (.iload_n 1, 1) := dk_27 (dk_at dksX3_at_1 7 rfl rfl)
theorem dX3_at_30 : decode cX3_at 30 = .ok (.iaload, 1) := dk_46 (dk_at dksX3_at_1 8 rfl rfl)
theorem dX3_at_31 : decode cX3_at 31 = .ok (.goto 47, 3) := dk_167 0 47 (dk_at dksX3_at_1 9 rfl rfl)
theorem dX3_at_34 : decode cX3_at 34 = .ok (.iload_n 2, 1) := dk_28 (dk_at dksX3_at_1 12 rfl rfl)
theorem dX3_at_35 : decode cX3_at 35 = .ok (.iconst 1, 1) := dk_4 (dk_at dksX3_at_1 13 rfl rfl)
theorem dX3_at_36 : decode cX3_at 36 = .ok (.if_icmp .ne 17, 3) := dk_160 0 17 (dk_at dksX3_at_1 14 rfl rfl)
theorem dX3_at_39 : decode cX3_at 39 = .ok (.aload_n 0, 1) := dk_42 (dk_at dksX3_at_1 17 rfl rfl)
theorem dX3_at_40 : decode cX3_at 40 = .ok (.getfield 32, 3) := dk_180 0 32 (dk_at dksX3_at_1 18 rfl rfl)
theorem dX3_at_43 : decode cX3_at 43 = .ok (.aload_n 0, 1) := dk_42 (dk_at dksX3_at_1 21 rfl rfl)
theorem dX3_at_44 : decode cX3_at 44 = .ok (.getfield 29, 3) := dk_180 0 29 (dk_at dksX3_at_2 0 rfl rfl)
theorem dX3_at_47 : decode cX3_at 47 = .ok (.iload_n 1, 1) := dk_27 (dk_at dksX3_at_2 3 rfl rfl)
theorem dX3_at_48 : decode cX3_at 48 = .ok (.iaload, 1) := dk_46 (dk_at dksX3_at_2 4 rfl rfl)
theorem dX3_at_49 : decode cX3_at 49 = .ok (.iaload, 1) := dk_46 (dk_at dksX3_at_2 5 rfl rfl)
theorem dX3_at_50 : decode cX3_at 50 = .ok (.goto 28, 3) := dk_167 0 28 (dk_at dksX3_at_2 6 rfl rfl)
theorem dX3_at_53 : decode cX3_at 53 = .ok (.iload_n 2, 1) := dk_28 (dk_at dksX3_at_2 9 rfl rfl)
theorem dX3_at_54 : decode cX3_at 54 = .ok (.iconst 2, 1) := dk_5 (dk_at dksX3_at_2 10 rfl rfl)
theorem dX3_at_55 : decode cX3_at 55 = .ok (.if_icmp .ne 17, 3) := dk_160 0 17 (dk_at dksX3_at_2 11 rfl rfl)
theorem dX3_at_58 : decode cX3_at 58 = .ok (.aload_n 0, 1) := dk_42 (dk_at dksX3_at_2 14 rfl rfl)
theorem dX3_at_59 : decode cX3_at 59 = .ok (.getfield 35, 3) := dk_180 0 35 (dk_at dksX3_at_2 15 rfl rfl)
theorem dX3_at_62 : decode cX3_at 62 = .ok (.aload_n 0, 1) := dk_42 (dk_at dksX3_at_2 18 rfl rfl)
theorem dX3_at_63 : decode cX3_at 63 = .ok (.getfield 29, 3) := dk_180 0 29 (dk_at dksX3_at_2 19 rfl rfl)
theorem dX3_at_66 : decode cX3_at 66 = .ok (.iload_n 1, 1) := dk_27 (dk_at dksX3_at_2 22 rfl rfl)
theorem dX3_at_67 : decode cX3_at 67 = .ok (.iaload, 1) := dk_46 (dk_at dksX3_at_2 23 rfl rfl)
theorem dX3_at_68 : decode cX3_at 68 = .ok (.iaload, 1) := dk_46 (dk_at dksX3_at_3 0 rfl rfl)
theorem dX3_at_69 : decode cX3_at 69 = .ok (.goto 9, 3) := dk_167 0 9 (dk_at dksX3_at_3 1 rfl rfl)
theorem dX3_at_72 : decode cX3_at 72 = .ok (.aload_n 0, 1) := dk_42 (dk_at dksX3_at_3 4 rfl rfl)
theorem dX3_at_73 : decode cX3_at 73 = .ok (.getfield 29, 3) := dk_180 0 29 (dk_at dksX3_at_3 5 rfl rfl)
theorem dX3_at_76 : decode cX3_at 76 = .ok (.iload_n 1, 1) := dk_27 (dk_at dksX3_at_3 8 rfl rfl)
theorem dX3_at_77 : decode cX3_at 77 = .ok (.iaload, 1) := dk_46 (dk_at dksX3_at_3 9 rfl rfl)
theorem dX3_at_78 : decode cX3_at 78 = .ok (.ireturn, 1) := dk_172 (dk_at dksX3_at_3 10 rfl rfl)
abbrev cX3_begin : ByteArray := prog_17_method_11_code
def yX3_begin : MethodName := ⟨RX3, "begin", "()I"⟩
def dkwX3_begin_4 : List UInt8 := [42, 180, 0, 63, 27, 3, 79, 132, 1, 1, 167, 255, 214, 42, 180, 0, 13, 172]
abbrev dktX3_begin_4 : List UInt8 := dkwX3_begin_4 ++ []
def dkwX3_begin_3 : List UInt8 := [42, 180, 0, 38, 27, 42, 180, 0, 35, 27, 46, 79, 42, 180, 0, 41, 27, 42, 180, 0, 32, 27, 46, 79]
abbrev dktX3_begin_3 : List UInt8 := dkwX3_begin_3 ++ dktX3_begin_4
def dkwX3_begin_2 : List UInt8 := [4, 181, 0, 44, 42, 3, 181, 0, 54, 42, 3, 181, 0, 57, 3, 60, 27, 42, 180, 0, 13, 162, 0, 40]
abbrev dktX3_begin_2 : List UInt8 := dkwX3_begin_2 ++ dktX3_begin_3
def dkwX3_begin_1 : List UInt8 := [162, 0, 23, 42, 180, 0, 26, 27, 46, 16, 251, 160, 0, 6, 16, 253, 172, 132, 1, 1, 167, 255, 231, 42]
abbrev dktX3_begin_1 : List UInt8 := dkwX3_begin_1 ++ dktX3_begin_2
def dkwX3_begin_0 : List UInt8 := [42, 180, 0, 44, 154, 0, 10, 42, 180, 0, 13, 154, 0, 6, 16, 253, 172, 3, 60, 27, 42, 180, 0, 13]
abbrev dktX3_begin_0 : List UInt8 := dkwX3_begin_0 ++ dktX3_begin_1
theorem dksX3_begin_0 : cX3_begin.data.toList.drop 0 = dktX3_begin_0 := by decide +kernel
theorem dksX3_begin_1 : cX3_begin.data.toList.drop 24 = dktX3_begin_1 := dk_seg dksX3_begin_0 24 rfl rfl
theorem dksX3_begin_2 : cX3_begin.data.toList.drop 48 = dktX3_begin_2 := dk_seg dksX3_begin_1 24 rfl rfl
theorem dksX3_begin_3 : cX3_begin.data.toList.drop 72 = dktX3_begin_3 := dk_seg dksX3_begin_2 24 rfl rfl
theorem dksX3_begin_4 : cX3_begin.data.toList.drop 96 = dktX3_begin_4 := dk_seg dksX3_begin_3 24 rfl rfl
theorem dX3_begin_0 : decode cX3_begin 0 = .ok (.aload_n 0, 1) := dk_42 (dk_at dksX3_begin_0 0 rfl rfl)
theorem dX3_begin_1 : decode cX3_begin 1 = .ok (.getfield 44, 3) := dk_180 0 44 (dk_at dksX3_begin_0 1 rfl rfl)
theorem dX3_begin_4 : decode cX3_begin 4 = .ok (.ifCond .ne 10, 3) := dk_154 0 10 (dk_at dksX3_begin_0 4 rfl rfl)
theorem dX3_begin_7 : decode cX3_begin 7 = .ok (.aload_n 0, 1) := dk_42 (dk_at dksX3_begin_0 7 rfl rfl)
theorem dX3_begin_8 : decode cX3_begin 8 = .ok (.getfield 13, 3) := dk_180 0 13 (dk_at dksX3_begin_0 8 rfl rfl)
theorem dX3_begin_11 : decode cX3_begin 11 = .ok (.ifCond .ne 6, 3) := dk_154 0 6 (dk_at dksX3_begin_0 11 rfl rfl)
theorem dX3_begin_14 : decode cX3_begin 14 = .ok (.bipush (-3), 2) := dk_16 253 (dk_at dksX3_begin_0 14 rfl rfl)
theorem dX3_begin_16 : decode cX3_begin 16 = .ok (.ireturn, 1) := dk_172 (dk_at dksX3_begin_0 16 rfl rfl)
theorem dX3_begin_17 : decode cX3_begin 17 = .ok (.iconst 0, 1) := dk_3 (dk_at dksX3_begin_0 17 rfl rfl)
theorem dX3_begin_18 : decode cX3_begin 18 = .ok (.istore_n 1, 1) := dk_60 (dk_at dksX3_begin_0 18 rfl rfl)
theorem dX3_begin_19 : decode cX3_begin 19 = .ok (.iload_n 1, 1) := dk_27 (dk_at dksX3_begin_0 19 rfl rfl)
theorem dX3_begin_20 : decode cX3_begin 20 = .ok (.aload_n 0, 1) := dk_42 (dk_at dksX3_begin_0 20 rfl rfl)
theorem dX3_begin_21 : decode cX3_begin 21 = .ok (.getfield 13, 3) := dk_180 0 13 (dk_at dksX3_begin_0 21 rfl rfl)
theorem dX3_begin_24 : decode cX3_begin 24 = .ok (.if_icmp .ge 23, 3) := dk_162 0 23 (dk_at dksX3_begin_1 0 rfl rfl)
theorem dX3_begin_27 : decode cX3_begin 27 = .ok (.aload_n 0, 1) := dk_42 (dk_at dksX3_begin_1 3 rfl rfl)
theorem dX3_begin_28 : decode cX3_begin 28 = .ok (.getfield 26, 3) := dk_180 0 26 (dk_at dksX3_begin_1 4 rfl rfl)
theorem dX3_begin_31 : decode cX3_begin 31 = .ok (.iload_n 1, 1) := dk_27 (dk_at dksX3_begin_1 7 rfl rfl)
theorem dX3_begin_32 : decode cX3_begin 32 = .ok (.iaload, 1) := dk_46 (dk_at dksX3_begin_1 8 rfl rfl)
theorem dX3_begin_33 : decode cX3_begin 33 = .ok (.bipush (-5), 2) := dk_16 251 (dk_at dksX3_begin_1 9 rfl rfl)
theorem dX3_begin_35 : decode cX3_begin 35 = .ok (.if_icmp .ne 6, 3) := dk_160 0 6 (dk_at dksX3_begin_1 11 rfl rfl)
theorem dX3_begin_38 : decode cX3_begin 38 = .ok (.bipush (-3), 2) := dk_16 253 (dk_at dksX3_begin_1 14 rfl rfl)
theorem dX3_begin_40 : decode cX3_begin 40 = .ok (.ireturn, 1) := dk_172 (dk_at dksX3_begin_1 16 rfl rfl)
theorem dX3_begin_41 : decode cX3_begin 41 = .ok (.iinc 1 1, 3) := dk_132 1 1 (dk_at dksX3_begin_1 17 rfl rfl)
theorem dX3_begin_44 : decode cX3_begin 44 = .ok (.goto (-25), 3) := dk_167 255 231 (dk_at dksX3_begin_1 20 rfl rfl)
theorem dX3_begin_47 : decode cX3_begin 47 = .ok (.aload_n 0, 1) := dk_42 (dk_at dksX3_begin_1 23 rfl rfl)
theorem dX3_begin_48 : decode cX3_begin 48 = .ok (.iconst 1, 1) := dk_4 (dk_at dksX3_begin_2 0 rfl rfl)
theorem dX3_begin_49 : decode cX3_begin 49 = .ok (.putfield 44, 3) := dk_181 0 44 (dk_at dksX3_begin_2 1 rfl rfl)
theorem dX3_begin_52 : decode cX3_begin 52 = .ok (.aload_n 0, 1) := dk_42 (dk_at dksX3_begin_2 4 rfl rfl)
theorem dX3_begin_53 : decode cX3_begin 53 = .ok (.iconst 0, 1) := dk_3 (dk_at dksX3_begin_2 5 rfl rfl)
theorem dX3_begin_54 : decode cX3_begin 54 = .ok (.putfield 54, 3) := dk_181 0 54 (dk_at dksX3_begin_2 6 rfl rfl)
theorem dX3_begin_57 : decode cX3_begin 57 = .ok (.aload_n 0, 1) := dk_42 (dk_at dksX3_begin_2 9 rfl rfl)
theorem dX3_begin_58 : decode cX3_begin 58 = .ok (.iconst 0, 1) := dk_3 (dk_at dksX3_begin_2 10 rfl rfl)
theorem dX3_begin_59 : decode cX3_begin 59 = .ok (.putfield 57, 3) := dk_181 0 57 (dk_at dksX3_begin_2 11 rfl rfl)
theorem dX3_begin_62 : decode cX3_begin 62 = .ok (.iconst 0, 1) := dk_3 (dk_at dksX3_begin_2 14 rfl rfl)
theorem dX3_begin_63 : decode cX3_begin 63 = .ok (.istore_n 1, 1) := dk_60 (dk_at dksX3_begin_2 15 rfl rfl)
theorem dX3_begin_64 : decode cX3_begin 64 = .ok (.iload_n 1, 1) := dk_27 (dk_at dksX3_begin_2 16 rfl rfl)
theorem dX3_begin_65 : decode cX3_begin 65 = .ok (.aload_n 0, 1) := dk_42 (dk_at dksX3_begin_2 17 rfl rfl)
theorem dX3_begin_66 : decode cX3_begin 66 = .ok (.getfield 13, 3) := dk_180 0 13 (dk_at dksX3_begin_2 18 rfl rfl)
theorem dX3_begin_69 : decode cX3_begin 69 = .ok (.if_icmp .ge 40, 3) := dk_162 0 40 (dk_at dksX3_begin_2 21 rfl rfl)
theorem dX3_begin_72 : decode cX3_begin 72 = .ok (.aload_n 0, 1) := dk_42 (dk_at dksX3_begin_3 0 rfl rfl)
theorem dX3_begin_73 : decode cX3_begin 73 = .ok (.getfield 38, 3) := dk_180 0 38 (dk_at dksX3_begin_3 1 rfl rfl)
theorem dX3_begin_76 : decode cX3_begin 76 = .ok (.iload_n 1, 1) := dk_27 (dk_at dksX3_begin_3 4 rfl rfl)
theorem dX3_begin_77 : decode cX3_begin 77 = .ok (.aload_n 0, 1) := dk_42 (dk_at dksX3_begin_3 5 rfl rfl)
theorem dX3_begin_78 : decode cX3_begin 78 = .ok (.getfield 35, 3) := dk_180 0 35 (dk_at dksX3_begin_3 6 rfl rfl)
theorem dX3_begin_81 : decode cX3_begin 81 = .ok (.iload_n 1, 1) := dk_27 (dk_at dksX3_begin_3 9 rfl rfl)
theorem dX3_begin_82 : decode cX3_begin 82 = .ok (.iaload, 1) := dk_46 (dk_at dksX3_begin_3 10 rfl rfl)
theorem dX3_begin_83 : decode cX3_begin 83 = .ok (.iastore, 1) := dk_79 (dk_at dksX3_begin_3 11 rfl rfl)
theorem dX3_begin_84 : decode cX3_begin 84 = .ok (.aload_n 0, 1) := dk_42 (dk_at dksX3_begin_3 12 rfl rfl)
theorem dX3_begin_85 : decode cX3_begin 85 = .ok (.getfield 41, 3) := dk_180 0 41 (dk_at dksX3_begin_3 13 rfl rfl)
theorem dX3_begin_88 : decode cX3_begin 88 = .ok (.iload_n 1, 1) := dk_27 (dk_at dksX3_begin_3 16 rfl rfl)
theorem dX3_begin_89 : decode cX3_begin 89 = .ok (.aload_n 0, 1) := dk_42 (dk_at dksX3_begin_3 17 rfl rfl)
theorem dX3_begin_90 : decode cX3_begin 90 = .ok (.getfield 32, 3) := dk_180 0 32 (dk_at dksX3_begin_3 18 rfl rfl)
theorem dX3_begin_93 : decode cX3_begin 93 = .ok (.iload_n 1, 1) := dk_27 (dk_at dksX3_begin_3 21 rfl rfl)
theorem dX3_begin_94 : decode cX3_begin 94 = .ok (.iaload, 1) := dk_46 (dk_at dksX3_begin_3 22 rfl rfl)
theorem dX3_begin_95 : decode cX3_begin 95 = .ok (.iastore, 1) := dk_79 (dk_at dksX3_begin_3 23 rfl rfl)
theorem dX3_begin_96 : decode cX3_begin 96 = .ok (.aload_n 0, 1) := dk_42 (dk_at dksX3_begin_4 0 rfl rfl)
theorem dX3_begin_97 : decode cX3_begin 97 = .ok (.getfield 63, 3) := dk_180 0 63 (dk_at dksX3_begin_4 1 rfl rfl)
theorem dX3_begin_100 : decode cX3_begin 100 = .ok (.iload_n 1, 1) := dk_27 (dk_at dksX3_begin_4 4 rfl rfl)
theorem dX3_begin_101 : decode cX3_begin 101 = .ok (.iconst 0, 1) := dk_3 (dk_at dksX3_begin_4 5 rfl rfl)
theorem dX3_begin_102 : decode cX3_begin 102 = .ok (.iastore, 1) := dk_79 (dk_at dksX3_begin_4 6 rfl rfl)
theorem dX3_begin_103 : decode cX3_begin 103 = .ok (.iinc 1 1, 3) := dk_132 1 1 (dk_at dksX3_begin_4 7 rfl rfl)
theorem dX3_begin_106 : decode cX3_begin 106 = .ok (.goto (-42), 3) := dk_167 255 214 (dk_at dksX3_begin_4 10 rfl rfl)
theorem dX3_begin_109 : decode cX3_begin 109 = .ok (.aload_n 0, 1) := dk_42 (dk_at dksX3_begin_4 13 rfl rfl)
theorem dX3_begin_110 : decode cX3_begin 110 = .ok (.getfield 13, 3) := dk_180 0 13 (dk_at dksX3_begin_4 14 rfl rfl)
theorem dX3_begin_113 : decode cX3_begin 113 = .ok (.ireturn, 1) := dk_172 (dk_at dksX3_begin_4 17 rfl rfl)
abbrev cX3_end : ByteArray := prog_17_method_12_code
def yX3_end : MethodName := ⟨RX3, "end", "()I"⟩
def dkwX3_end_4 : List UInt8 := [180, 0, 51, 27, 46, 79, 42, 180, 0, 29, 27, 27, 79, 132, 1, 1, 167, 255, 214, 42, 180, 0, 54, 172]
abbrev dktX3_end_4 : List UInt8 := dkwX3_end_4 ++ []
def dkwX3_end_3 : List UInt8 := [180, 0, 13, 162, 0, 40, 42, 180, 0, 32, 27, 42, 180, 0, 48, 27, 46, 79, 42, 180, 0, 35, 27, 42]
abbrev dktX3_end_3 : List UInt8 := dkwX3_end_3 ++ dktX3_end_4
def dkwX3_end_2 : List UInt8 := [27, 42, 180, 0, 35, 42, 180, 0, 29, 27, 46, 46, 79, 132, 1, 1, 167, 255, 211, 3, 60, 27, 42]
abbrev dktX3_end_2 : List UInt8 := dkwX3_end_2 ++ dktX3_end_3
def dkwX3_end_1 : List UInt8 := [162, 0, 43, 42, 180, 0, 48, 27, 42, 180, 0, 32, 42, 180, 0, 29, 27, 46, 46, 79, 42, 180, 0, 51]
abbrev dktX3_end_1 : List UInt8 := dkwX3_end_1 ++ dktX3_end_2
def dkwX3_end_0 : List UInt8 := [42, 180, 0, 44, 154, 0, 6, 16, 253, 172, 42, 3, 181, 0, 44, 3, 60, 27, 42, 180, 0, 13]
abbrev dktX3_end_0 : List UInt8 := dkwX3_end_0 ++ dktX3_end_1
theorem dksX3_end_0 : cX3_end.data.toList.drop 0 = dktX3_end_0 := by decide +kernel
theorem dksX3_end_1 : cX3_end.data.toList.drop 22 = dktX3_end_1 := dk_seg dksX3_end_0 22 rfl rfl
theorem dksX3_end_2 : cX3_end.data.toList.drop 46 = dktX3_end_2 := dk_seg dksX3_end_1 24 rfl rfl
theorem dksX3_end_3 : cX3_end.data.toList.drop 69 = dktX3_end_3 := dk_seg dksX3_end_2 23 rfl rfl
theorem dksX3_end_4 : cX3_end.data.toList.drop 93 = dktX3_end_4 := dk_seg dksX3_end_3 24 rfl rfl
theorem dX3_end_0 : decode cX3_end 0 = .ok (.aload_n 0, 1) := dk_42 (dk_at dksX3_end_0 0 rfl rfl)
theorem dX3_end_1 : decode cX3_end 1 = .ok (.getfield 44, 3) := dk_180 0 44 (dk_at dksX3_end_0 1 rfl rfl)
theorem dX3_end_4 : decode cX3_end 4 = .ok (.ifCond .ne 6, 3) := dk_154 0 6 (dk_at dksX3_end_0 4 rfl rfl)
theorem dX3_end_7 : decode cX3_end 7 = .ok (.bipush (-3), 2) := dk_16 253 (dk_at dksX3_end_0 7 rfl rfl)
theorem dX3_end_9 : decode cX3_end 9 = .ok (.ireturn, 1) := dk_172 (dk_at dksX3_end_0 9 rfl rfl)
theorem dX3_end_10 : decode cX3_end 10 = .ok (.aload_n 0, 1) := dk_42 (dk_at dksX3_end_0 10 rfl rfl)
theorem dX3_end_11 : decode cX3_end 11 = .ok (.iconst 0, 1) := dk_3 (dk_at dksX3_end_0 11 rfl rfl)
theorem dX3_end_12 : decode cX3_end 12 = .ok (.putfield 44, 3) := dk_181 0 44 (dk_at dksX3_end_0 12 rfl rfl)
theorem dX3_end_15 : decode cX3_end 15 = .ok (.iconst 0, 1) := dk_3 (dk_at dksX3_end_0 15 rfl rfl)
theorem dX3_end_16 : decode cX3_end 16 = .ok (.istore_n 1, 1) := dk_60 (dk_at dksX3_end_0 16 rfl rfl)
theorem dX3_end_17 : decode cX3_end 17 = .ok (.iload_n 1, 1) := dk_27 (dk_at dksX3_end_0 17 rfl rfl)
theorem dX3_end_18 : decode cX3_end 18 = .ok (.aload_n 0, 1) := dk_42 (dk_at dksX3_end_0 18 rfl rfl)
theorem dX3_end_19 : decode cX3_end 19 = .ok (.getfield 13, 3) := dk_180 0 13 (dk_at dksX3_end_0 19 rfl rfl)
theorem dX3_end_22 : decode cX3_end 22 = .ok (.if_icmp .ge 43, 3) := dk_162 0 43 (dk_at dksX3_end_1 0 rfl rfl)
theorem dX3_end_25 : decode cX3_end 25 = .ok (.aload_n 0, 1) := dk_42 (dk_at dksX3_end_1 3 rfl rfl)
theorem dX3_end_26 : decode cX3_end 26 = .ok (.getfield 48, 3) := dk_180 0 48 (dk_at dksX3_end_1 4 rfl rfl)
theorem dX3_end_29 : decode cX3_end 29 = .ok (.iload_n 1, 1) := dk_27 (dk_at dksX3_end_1 7 rfl rfl)
theorem dX3_end_30 : decode cX3_end 30 = .ok (.aload_n 0, 1) := dk_42 (dk_at dksX3_end_1 8 rfl rfl)
theorem dX3_end_31 : decode cX3_end 31 = .ok (.getfield 32, 3) := dk_180 0 32 (dk_at dksX3_end_1 9 rfl rfl)
theorem dX3_end_34 : decode cX3_end 34 = .ok (.aload_n 0, 1) := dk_42 (dk_at dksX3_end_1 12 rfl rfl)
theorem dX3_end_35 : decode cX3_end 35 = .ok (.getfield 29, 3) := dk_180 0 29 (dk_at dksX3_end_1 13 rfl rfl)
theorem dX3_end_38 : decode cX3_end 38 = .ok (.iload_n 1, 1) := dk_27 (dk_at dksX3_end_1 16 rfl rfl)
theorem dX3_end_39 : decode cX3_end 39 = .ok (.iaload, 1) := dk_46 (dk_at dksX3_end_1 17 rfl rfl)
theorem dX3_end_40 : decode cX3_end 40 = .ok (.iaload, 1) := dk_46 (dk_at dksX3_end_1 18 rfl rfl)
theorem dX3_end_41 : decode cX3_end 41 = .ok (.iastore, 1) := dk_79 (dk_at dksX3_end_1 19 rfl rfl)
theorem dX3_end_42 : decode cX3_end 42 = .ok (.aload_n 0, 1) := dk_42 (dk_at dksX3_end_1 20 rfl rfl)
theorem dX3_end_43 : decode cX3_end 43 = .ok (.getfield 51, 3) := dk_180 0 51 (dk_at dksX3_end_1 21 rfl rfl)
theorem dX3_end_46 : decode cX3_end 46 = .ok (.iload_n 1, 1) := dk_27 (dk_at dksX3_end_2 0 rfl rfl)
theorem dX3_end_47 : decode cX3_end 47 = .ok (.aload_n 0, 1) := dk_42 (dk_at dksX3_end_2 1 rfl rfl)
theorem dX3_end_48 : decode cX3_end 48 = .ok (.getfield 35, 3) := dk_180 0 35 (dk_at dksX3_end_2 2 rfl rfl)
theorem dX3_end_51 : decode cX3_end 51 = .ok (.aload_n 0, 1) := dk_42 (dk_at dksX3_end_2 5 rfl rfl)
theorem dX3_end_52 : decode cX3_end 52 = .ok (.getfield 29, 3) := dk_180 0 29 (dk_at dksX3_end_2 6 rfl rfl)
theorem dX3_end_55 : decode cX3_end 55 = .ok (.iload_n 1, 1) := dk_27 (dk_at dksX3_end_2 9 rfl rfl)
theorem dX3_end_56 : decode cX3_end 56 = .ok (.iaload, 1) := dk_46 (dk_at dksX3_end_2 10 rfl rfl)
theorem dX3_end_57 : decode cX3_end 57 = .ok (.iaload, 1) := dk_46 (dk_at dksX3_end_2 11 rfl rfl)
theorem dX3_end_58 : decode cX3_end 58 = .ok (.iastore, 1) := dk_79 (dk_at dksX3_end_2 12 rfl rfl)
theorem dX3_end_59 : decode cX3_end 59 = .ok (.iinc 1 1, 3) := dk_132 1 1 (dk_at dksX3_end_2 13 rfl rfl)
theorem dX3_end_62 : decode cX3_end 62 = .ok (.goto (-45), 3) := dk_167 255 211 (dk_at dksX3_end_2 16 rfl rfl)
theorem dX3_end_65 : decode cX3_end 65 = .ok (.iconst 0, 1) := dk_3 (dk_at dksX3_end_2 19 rfl rfl)
theorem dX3_end_66 : decode cX3_end 66 = .ok (.istore_n 1, 1) := dk_60 (dk_at dksX3_end_2 20 rfl rfl)
theorem dX3_end_67 : decode cX3_end 67 = .ok (.iload_n 1, 1) := dk_27 (dk_at dksX3_end_2 21 rfl rfl)
theorem dX3_end_68 : decode cX3_end 68 = .ok (.aload_n 0, 1) := dk_42 (dk_at dksX3_end_2 22 rfl rfl)
theorem dX3_end_69 : decode cX3_end 69 = .ok (.getfield 13, 3) := dk_180 0 13 (dk_at dksX3_end_3 0 rfl rfl)
theorem dX3_end_72 : decode cX3_end 72 = .ok (.if_icmp .ge 40, 3) := dk_162 0 40 (dk_at dksX3_end_3 3 rfl rfl)
theorem dX3_end_75 : decode cX3_end 75 = .ok (.aload_n 0, 1) := dk_42 (dk_at dksX3_end_3 6 rfl rfl)
theorem dX3_end_76 : decode cX3_end 76 = .ok (.getfield 32, 3) := dk_180 0 32 (dk_at dksX3_end_3 7 rfl rfl)
theorem dX3_end_79 : decode cX3_end 79 = .ok (.iload_n 1, 1) := dk_27 (dk_at dksX3_end_3 10 rfl rfl)
theorem dX3_end_80 : decode cX3_end 80 = .ok (.aload_n 0, 1) := dk_42 (dk_at dksX3_end_3 11 rfl rfl)
theorem dX3_end_81 : decode cX3_end 81 = .ok (.getfield 48, 3) := dk_180 0 48 (dk_at dksX3_end_3 12 rfl rfl)
theorem dX3_end_84 : decode cX3_end 84 = .ok (.iload_n 1, 1) := dk_27 (dk_at dksX3_end_3 15 rfl rfl)
theorem dX3_end_85 : decode cX3_end 85 = .ok (.iaload, 1) := dk_46 (dk_at dksX3_end_3 16 rfl rfl)
theorem dX3_end_86 : decode cX3_end 86 = .ok (.iastore, 1) := dk_79 (dk_at dksX3_end_3 17 rfl rfl)
theorem dX3_end_87 : decode cX3_end 87 = .ok (.aload_n 0, 1) := dk_42 (dk_at dksX3_end_3 18 rfl rfl)
theorem dX3_end_88 : decode cX3_end 88 = .ok (.getfield 35, 3) := dk_180 0 35 (dk_at dksX3_end_3 19 rfl rfl)
theorem dX3_end_91 : decode cX3_end 91 = .ok (.iload_n 1, 1) := dk_27 (dk_at dksX3_end_3 22 rfl rfl)
theorem dX3_end_92 : decode cX3_end 92 = .ok (.aload_n 0, 1) := dk_42 (dk_at dksX3_end_3 23 rfl rfl)
theorem dX3_end_93 : decode cX3_end 93 = .ok (.getfield 51, 3) := dk_180 0 51 (dk_at dksX3_end_4 0 rfl rfl)
theorem dX3_end_96 : decode cX3_end 96 = .ok (.iload_n 1, 1) := dk_27 (dk_at dksX3_end_4 3 rfl rfl)
theorem dX3_end_97 : decode cX3_end 97 = .ok (.iaload, 1) := dk_46 (dk_at dksX3_end_4 4 rfl rfl)
theorem dX3_end_98 : decode cX3_end 98 = .ok (.iastore, 1) := dk_79 (dk_at dksX3_end_4 5 rfl rfl)
theorem dX3_end_99 : decode cX3_end 99 = .ok (.aload_n 0, 1) := dk_42 (dk_at dksX3_end_4 6 rfl rfl)
theorem dX3_end_100 : decode cX3_end 100 = .ok (.getfield 29, 3) := dk_180 0 29 (dk_at dksX3_end_4 7 rfl rfl)
theorem dX3_end_103 : decode cX3_end 103 = .ok (.iload_n 1, 1) := dk_27 (dk_at dksX3_end_4 10 rfl rfl)
theorem dX3_end_104 : decode cX3_end 104 = .ok (.iload_n 1, 1) := dk_27 (dk_at dksX3_end_4 11 rfl rfl)
theorem dX3_end_105 : decode cX3_end 105 = .ok (.iastore, 1) := dk_79 (dk_at dksX3_end_4 12 rfl rfl)
theorem dX3_end_106 : decode cX3_end 106 = .ok (.iinc 1 1, 3) := dk_132 1 1 (dk_at dksX3_end_4 13 rfl rfl)
theorem dX3_end_109 : decode cX3_end 109 = .ok (.goto (-42), 3) := dk_167 255 214 (dk_at dksX3_end_4 16 rfl rfl)
theorem dX3_end_112 : decode cX3_end 112 = .ok (.aload_n 0, 1) := dk_42 (dk_at dksX3_end_4 19 rfl rfl)
theorem dX3_end_113 : decode cX3_end 113 = .ok (.getfield 54, 3) := dk_180 0 54 (dk_at dksX3_end_4 20 rfl rfl)
theorem dX3_end_116 : decode cX3_end 116 = .ok (.ireturn, 1) := dk_172 (dk_at dksX3_end_4 23 rfl rfl)
abbrev cX3_girth : ByteArray := prog_17_method_15_code
def yX3_girth : MethodName := ⟨RX3, "girth", "()I"⟩
def dkwX3_girth_0 : List UInt8 := [16, 10, 42, 180, 0, 57, 6, 108, 96, 172]
abbrev dktX3_girth_0 : List UInt8 := dkwX3_girth_0 ++ []
theorem dksX3_girth_0 : cX3_girth.data.toList.drop 0 = dktX3_girth_0 := by decide +kernel
theorem dX3_girth_0 : decode cX3_girth 0 = .ok (.bipush 10, 2) := dk_16 10 (dk_at dksX3_girth_0 0 rfl rfl)
theorem dX3_girth_2 : decode cX3_girth 2 = .ok (.aload_n 0, 1) := dk_42 (dk_at dksX3_girth_0 2 rfl rfl)
theorem dX3_girth_3 : decode cX3_girth 3 = .ok (.getfield 57, 3) := dk_180 0 57 (dk_at dksX3_girth_0 3 rfl rfl)
theorem dX3_girth_6 : decode cX3_girth 6 = .ok (.iconst 3, 1) := dk_6 (dk_at dksX3_girth_0 6 rfl rfl)
theorem dX3_girth_7 : decode cX3_girth 7 = .ok (.idiv, 1) := dk_108 (dk_at dksX3_girth_0 7 rfl rfl)
theorem dX3_girth_8 : decode cX3_girth 8 = .ok (.iadd, 1) := dk_96 (dk_at dksX3_girth_0 8 rfl rfl)
theorem dX3_girth_9 : decode cX3_girth 9 = .ok (.ireturn, 1) := dk_172 (dk_at dksX3_girth_0 9 rfl rfl)
abbrev cX3_pass : ByteArray := prog_17_method_16_code
def yX3_pass : MethodName := ⟨RX3, "pass", "(II)I"⟩
def dkwX3_pass_10 : List UInt8 := [180, 0, 54, 172]
abbrev dktX3_pass_10 : List UInt8 := dkwX3_pass_10 ++ []
def dkwX3_pass_9 : List UInt8 := [42, 180, 0, 54, 16, 10, 27, 104, 28, 96, 79, 42, 89, 180, 0, 54, 4, 96, 181, 0, 54, 42]
abbrev dktX3_pass_9 : List UInt8 := dkwX3_pass_9 ++ dktX3_pass_10
def dkwX3_pass_8 : List UInt8 := [29, 46, 79, 42, 180, 0, 26, 29, 21, 7, 79, 42, 180, 0, 63, 27, 28, 4, 96, 79, 42, 180, 0, 60]
abbrev dktX3_pass_8 : List UInt8 := dkwX3_pass_8 ++ dktX3_pass_9
def dkwX3_pass_7 : List UInt8 := [180, 0, 29, 29, 21, 6, 79, 42, 180, 0, 26, 27, 46, 54, 7, 42, 180, 0, 26, 27, 42, 180, 0, 26]
abbrev dktX3_pass_7 : List UInt8 := dkwX3_pass_7 ++ dktX3_pass_8
def dkwX3_pass_6 : List UInt8 := [79, 42, 180, 0, 29, 27, 46, 54, 6, 42, 180, 0, 29, 27, 42, 180, 0, 29, 29, 46, 79, 42]
abbrev dktX3_pass_6 : List UInt8 := dkwX3_pass_6 ++ dktX3_pass_7
def dkwX3_pass_5 : List UInt8 := [16, 252, 172, 42, 180, 0, 35, 21, 4, 92, 46, 4, 100, 79, 42, 180, 0, 35, 21, 5, 92, 46, 5, 100]
abbrev dktX3_pass_5 : List UInt8 := dkwX3_pass_5 ++ dktX3_pass_6
def dkwX3_pass_4 : List UInt8 := [180, 0, 35, 21, 5, 46, 5, 162, 0, 6, 16, 253, 172, 42, 180, 0, 54, 17, 1, 44, 160, 0, 6]
abbrev dktX3_pass_4 : List UInt8 := dkwX3_pass_4 ++ dktX3_pass_5
def dkwX3_pass_3 : List UInt8 := [167, 0, 9, 42, 180, 0, 29, 27, 46, 54, 5, 42, 180, 0, 35, 21, 4, 46, 4, 161, 0, 14, 42]
abbrev dktX3_pass_3 : List UInt8 := dkwX3_pass_3 ++ dktX3_pass_4
def dkwX3_pass_2 : List UInt8 := [46, 167, 0, 9, 42, 180, 0, 29, 29, 46, 54, 4, 28, 154, 0, 12, 42, 180, 0, 29, 29, 46]
abbrev dktX3_pass_2 : List UInt8 := dkwX3_pass_2 ++ dktX3_pass_3
def dkwX3_pass_1 : List UInt8 := [180, 0, 44, 154, 0, 6, 16, 253, 172, 42, 27, 182, 0, 207, 62, 28, 154, 0, 12, 42, 180, 0, 29, 27]
abbrev dktX3_pass_1 : List UInt8 := dkwX3_pass_1 ++ dktX3_pass_2
def dkwX3_pass_0 : List UInt8 := [42, 27, 182, 0, 199, 154, 0, 5, 2, 172, 42, 28, 3, 4, 182, 0, 195, 154, 0, 6, 16, 254, 172, 42]
abbrev dktX3_pass_0 : List UInt8 := dkwX3_pass_0 ++ dktX3_pass_1
theorem dksX3_pass_0 : cX3_pass.data.toList.drop 0 = dktX3_pass_0 := by decide +kernel
theorem dksX3_pass_1 : cX3_pass.data.toList.drop 24 = dktX3_pass_1 := dk_seg dksX3_pass_0 24 rfl rfl
theorem dksX3_pass_2 : cX3_pass.data.toList.drop 48 = dktX3_pass_2 := dk_seg dksX3_pass_1 24 rfl rfl
theorem dksX3_pass_3 : cX3_pass.data.toList.drop 70 = dktX3_pass_3 := dk_seg dksX3_pass_2 22 rfl rfl
theorem dksX3_pass_4 : cX3_pass.data.toList.drop 93 = dktX3_pass_4 := dk_seg dksX3_pass_3 23 rfl rfl
theorem dksX3_pass_5 : cX3_pass.data.toList.drop 116 = dktX3_pass_5 := dk_seg dksX3_pass_4 23 rfl rfl
theorem dksX3_pass_6 : cX3_pass.data.toList.drop 140 = dktX3_pass_6 := dk_seg dksX3_pass_5 24 rfl rfl
theorem dksX3_pass_7 : cX3_pass.data.toList.drop 162 = dktX3_pass_7 := dk_seg dksX3_pass_6 22 rfl rfl
theorem dksX3_pass_8 : cX3_pass.data.toList.drop 186 = dktX3_pass_8 := dk_seg dksX3_pass_7 24 rfl rfl
theorem dksX3_pass_9 : cX3_pass.data.toList.drop 210 = dktX3_pass_9 := dk_seg dksX3_pass_8 24 rfl rfl
theorem dksX3_pass_10 : cX3_pass.data.toList.drop 232 = dktX3_pass_10 := dk_seg dksX3_pass_9 22 rfl rfl
theorem dX3_pass_0 : decode cX3_pass 0 = .ok (.aload_n 0, 1) := dk_42 (dk_at dksX3_pass_0 0 rfl rfl)
theorem dX3_pass_1 : decode cX3_pass 1 = .ok (.iload_n 1, 1) := dk_27 (dk_at dksX3_pass_0 1 rfl rfl)
theorem dX3_pass_2 : decode cX3_pass 2 = .ok (.invokevirtual 199, 3) := dk_182 0 199 (dk_at dksX3_pass_0 2 rfl rfl)
theorem dX3_pass_5 : decode cX3_pass 5 = .ok (.ifCond .ne 5, 3) := dk_154 0 5 (dk_at dksX3_pass_0 5 rfl rfl)
theorem dX3_pass_8 : decode cX3_pass 8 = .ok (.iconst (-1), 1) := dk_2 (dk_at dksX3_pass_0 8 rfl rfl)
theorem dX3_pass_9 : decode cX3_pass 9 = .ok (.ireturn, 1) := dk_172 (dk_at dksX3_pass_0 9 rfl rfl)
theorem dX3_pass_10 : decode cX3_pass 10 = .ok (.aload_n 0, 1) := dk_42 (dk_at dksX3_pass_0 10 rfl rfl)
theorem dX3_pass_11 : decode cX3_pass 11 = .ok (.iload_n 2, 1) := dk_28 (dk_at dksX3_pass_0 11 rfl rfl)
theorem dX3_pass_12 : decode cX3_pass 12 = .ok (.iconst 0, 1) := dk_3 (dk_at dksX3_pass_0 12 rfl rfl)
theorem dX3_pass_13 : decode cX3_pass 13 = .ok (.iconst 1, 1) := dk_4 (dk_at dksX3_pass_0 13 rfl rfl)
theorem dX3_pass_14 : decode cX3_pass 14 = .ok (.invokevirtual 195, 3) := dk_182 0 195 (dk_at dksX3_pass_0 14 rfl rfl)
theorem dX3_pass_17 : decode cX3_pass 17 = .ok (.ifCond .ne 6, 3) := dk_154 0 6 (dk_at dksX3_pass_0 17 rfl rfl)
theorem dX3_pass_20 : decode cX3_pass 20 = .ok (.bipush (-2), 2) := dk_16 254 (dk_at dksX3_pass_0 20 rfl rfl)
theorem dX3_pass_22 : decode cX3_pass 22 = .ok (.ireturn, 1) := dk_172 (dk_at dksX3_pass_0 22 rfl rfl)
theorem dX3_pass_23 : decode cX3_pass 23 = .ok (.aload_n 0, 1) := dk_42 (dk_at dksX3_pass_0 23 rfl rfl)
theorem dX3_pass_24 : decode cX3_pass 24 = .ok (.getfield 44, 3) := dk_180 0 44 (dk_at dksX3_pass_1 0 rfl rfl)
theorem dX3_pass_27 : decode cX3_pass 27 = .ok (.ifCond .ne 6, 3) := dk_154 0 6 (dk_at dksX3_pass_1 3 rfl rfl)
theorem dX3_pass_30 : decode cX3_pass 30 = .ok (.bipush (-3), 2) := dk_16 253 (dk_at dksX3_pass_1 6 rfl rfl)
theorem dX3_pass_32 : decode cX3_pass 32 = .ok (.ireturn, 1) := dk_172 (dk_at dksX3_pass_1 8 rfl rfl)
theorem dX3_pass_33 : decode cX3_pass 33 = .ok (.aload_n 0, 1) := dk_42 (dk_at dksX3_pass_1 9 rfl rfl)
theorem dX3_pass_34 : decode cX3_pass 34 = .ok (.iload_n 1, 1) := dk_27 (dk_at dksX3_pass_1 10 rfl rfl)
theorem dX3_pass_35 : decode cX3_pass 35 = .ok (.invokevirtual 207, 3) := dk_182 0 207 (dk_at dksX3_pass_1 11 rfl rfl)
theorem dX3_pass_38 : decode cX3_pass 38 = .ok (.istore_n 3, 1) := dk_62 (dk_at dksX3_pass_1 14 rfl rfl)
theorem dX3_pass_39 : decode cX3_pass 39 = .ok (.iload_n 2, 1) := dk_28 (dk_at dksX3_pass_1 15 rfl rfl)
theorem dX3_pass_40 : decode cX3_pass 40 = .ok (.ifCond .ne 12, 3) := dk_154 0 12 (dk_at dksX3_pass_1 16 rfl rfl)
theorem dX3_pass_43 : decode cX3_pass 43 = .ok (.aload_n 0, 1) := dk_42 (dk_at dksX3_pass_1 19 rfl rfl)
theorem dX3_pass_44 : decode cX3_pass 44 = .ok (.getfield 29, 3) := dk_180 0 29 (dk_at dksX3_pass_1 20 rfl rfl)
theorem dX3_pass_47 : decode cX3_pass 47 = .ok (.iload_n 1, 1) := dk_27 (dk_at dksX3_pass_1 23 rfl rfl)
theorem dX3_pass_48 : decode cX3_pass 48 = .ok (.iaload, 1) := dk_46 (dk_at dksX3_pass_2 0 rfl rfl)
theorem dX3_pass_49 : decode cX3_pass 49 = .ok (.goto 9, 3) := dk_167 0 9 (dk_at dksX3_pass_2 1 rfl rfl)
theorem dX3_pass_52 : decode cX3_pass 52 = .ok (.aload_n 0, 1) := dk_42 (dk_at dksX3_pass_2 4 rfl rfl)
theorem dX3_pass_53 : decode cX3_pass 53 = .ok (.getfield 29, 3) := dk_180 0 29 (dk_at dksX3_pass_2 5 rfl rfl)
theorem dX3_pass_56 : decode cX3_pass 56 = .ok (.iload_n 3, 1) := dk_29 (dk_at dksX3_pass_2 8 rfl rfl)
theorem dX3_pass_57 : decode cX3_pass 57 = .ok (.iaload, 1) := dk_46 (dk_at dksX3_pass_2 9 rfl rfl)
theorem dX3_pass_58 : decode cX3_pass 58 = .ok (.istore 4, 2) := dk_54 4 (dk_at dksX3_pass_2 10 rfl rfl)
theorem dX3_pass_60 : decode cX3_pass 60 = .ok (.iload_n 2, 1) := dk_28 (dk_at dksX3_pass_2 12 rfl rfl)
theorem dX3_pass_61 : decode cX3_pass 61 = .ok (.ifCond .ne 12, 3) := dk_154 0 12 (dk_at dksX3_pass_2 13 rfl rfl)
theorem dX3_pass_64 : decode cX3_pass 64 = .ok (.aload_n 0, 1) := dk_42 (dk_at dksX3_pass_2 16 rfl rfl)
theorem dX3_pass_65 : decode cX3_pass 65 = .ok (.getfield 29, 3) := dk_180 0 29 (dk_at dksX3_pass_2 17 rfl rfl)
theorem dX3_pass_68 : decode cX3_pass 68 = .ok (.iload_n 3, 1) := dk_29 (dk_at dksX3_pass_2 20 rfl rfl)
theorem dX3_pass_69 : decode cX3_pass 69 = .ok (.iaload, 1) := dk_46 (dk_at dksX3_pass_2 21 rfl rfl)
theorem dX3_pass_70 : decode cX3_pass 70 = .ok (.goto 9, 3) := dk_167 0 9 (dk_at dksX3_pass_3 0 rfl rfl)
theorem dX3_pass_73 : decode cX3_pass 73 = .ok (.aload_n 0, 1) := dk_42 (dk_at dksX3_pass_3 3 rfl rfl)
theorem dX3_pass_74 : decode cX3_pass 74 = .ok (.getfield 29, 3) := dk_180 0 29 (dk_at dksX3_pass_3 4 rfl rfl)
theorem dX3_pass_77 : decode cX3_pass 77 = .ok (.iload_n 1, 1) := dk_27 (dk_at dksX3_pass_3 7 rfl rfl)
theorem dX3_pass_78 : decode cX3_pass 78 = .ok (.iaload, 1) := dk_46 (dk_at dksX3_pass_3 8 rfl rfl)
theorem dX3_pass_79 : decode cX3_pass 79 = .ok (.istore 5, 2) := dk_54 5 (dk_at dksX3_pass_3 9 rfl rfl)
theorem dX3_pass_81 : decode cX3_pass 81 = .ok (.aload_n 0, 1) := dk_42 (dk_at dksX3_pass_3 11 rfl rfl)
theorem dX3_pass_82 : decode cX3_pass 82 = .ok (.getfield 35, 3) := dk_180 0 35 (dk_at dksX3_pass_3 12 rfl rfl)
theorem dX3_pass_85 : decode cX3_pass 85 = .ok (.iload 4, 2) := dk_21 4 (dk_at dksX3_pass_3 15 rfl rfl)
theorem dX3_pass_87 : decode cX3_pass 87 = .ok (.iaload, 1) := dk_46 (dk_at dksX3_pass_3 17 rfl rfl)
theorem dX3_pass_88 : decode cX3_pass 88 = .ok (.iconst 1, 1) := dk_4 (dk_at dksX3_pass_3 18 rfl rfl)
theorem dX3_pass_89 : decode cX3_pass 89 = .ok (.if_icmp .lt 14, 3) := dk_161 0 14 (dk_at dksX3_pass_3 19 rfl rfl)
theorem dX3_pass_92 : decode cX3_pass 92 = .ok (.aload_n 0, 1) := dk_42 (dk_at dksX3_pass_3 22 rfl rfl)
theorem dX3_pass_93 : decode cX3_pass 93 = .ok (.getfield 35, 3) := dk_180 0 35 (dk_at dksX3_pass_4 0 rfl rfl)
theorem dX3_pass_96 : decode cX3_pass 96 = .ok (.iload 5, 2) := dk_21 5 (dk_at dksX3_pass_4 3 rfl rfl)
theorem dX3_pass_98 : decode cX3_pass 98 = .ok (.iaload, 1) := dk_46 (dk_at dksX3_pass_4 5 rfl rfl)
theorem dX3_pass_99 : decode cX3_pass 99 = .ok (.iconst 2, 1) := dk_5 (dk_at dksX3_pass_4 6 rfl rfl)
theorem dX3_pass_100 : decode cX3_pass 100 = .ok (.if_icmp .ge 6, 3) := dk_162 0 6 (dk_at dksX3_pass_4 7 rfl rfl)
theorem dX3_pass_103 : decode cX3_pass 103 = .ok (.bipush (-3), 2) := dk_16 253 (dk_at dksX3_pass_4 10 rfl rfl)
theorem dX3_pass_105 : decode cX3_pass 105 = .ok (.ireturn, 1) := dk_172 (dk_at dksX3_pass_4 12 rfl rfl)
theorem dX3_pass_106 : decode cX3_pass 106 = .ok (.aload_n 0, 1) := dk_42 (dk_at dksX3_pass_4 13 rfl rfl)
theorem dX3_pass_107 : decode cX3_pass 107 = .ok (.getfield 54, 3) := dk_180 0 54 (dk_at dksX3_pass_4 14 rfl rfl)
theorem dX3_pass_110 : decode cX3_pass 110 = .ok (.sipush 300, 3) := dk_17 1 44 (dk_at dksX3_pass_4 17 rfl rfl)
theorem dX3_pass_113 : decode cX3_pass 113 = .ok (.if_icmp .ne 6, 3) := dk_160 0 6 (dk_at dksX3_pass_4 20 rfl rfl)
theorem dX3_pass_116 : decode cX3_pass 116 = .ok (.bipush (-4), 2) := dk_16 252 (dk_at dksX3_pass_5 0 rfl rfl)
theorem dX3_pass_118 : decode cX3_pass 118 = .ok (.ireturn, 1) := dk_172 (dk_at dksX3_pass_5 2 rfl rfl)
theorem dX3_pass_119 : decode cX3_pass 119 = .ok (.aload_n 0, 1) := dk_42 (dk_at dksX3_pass_5 3 rfl rfl)
theorem dX3_pass_120 : decode cX3_pass 120 = .ok (.getfield 35, 3) := dk_180 0 35 (dk_at dksX3_pass_5 4 rfl rfl)
theorem dX3_pass_123 : decode cX3_pass 123 = .ok (.iload 4, 2) := dk_21 4 (dk_at dksX3_pass_5 7 rfl rfl)
theorem dX3_pass_125 : decode cX3_pass 125 = .ok (.dup2, 1) := dk_92 (dk_at dksX3_pass_5 9 rfl rfl)
theorem dX3_pass_126 : decode cX3_pass 126 = .ok (.iaload, 1) := dk_46 (dk_at dksX3_pass_5 10 rfl rfl)
theorem dX3_pass_127 : decode cX3_pass 127 = .ok (.iconst 1, 1) := dk_4 (dk_at dksX3_pass_5 11 rfl rfl)
theorem dX3_pass_128 : decode cX3_pass 128 = .ok (.isub, 1) := dk_100 (dk_at dksX3_pass_5 12 rfl rfl)
theorem dX3_pass_129 : decode cX3_pass 129 = .ok (.iastore, 1) := dk_79 (dk_at dksX3_pass_5 13 rfl rfl)
theorem dX3_pass_130 : decode cX3_pass 130 = .ok (.aload_n 0, 1) := dk_42 (dk_at dksX3_pass_5 14 rfl rfl)
theorem dX3_pass_131 : decode cX3_pass 131 = .ok (.getfield 35, 3) := dk_180 0 35 (dk_at dksX3_pass_5 15 rfl rfl)
theorem dX3_pass_134 : decode cX3_pass 134 = .ok (.iload 5, 2) := dk_21 5 (dk_at dksX3_pass_5 18 rfl rfl)
theorem dX3_pass_136 : decode cX3_pass 136 = .ok (.dup2, 1) := dk_92 (dk_at dksX3_pass_5 20 rfl rfl)
theorem dX3_pass_137 : decode cX3_pass 137 = .ok (.iaload, 1) := dk_46 (dk_at dksX3_pass_5 21 rfl rfl)
theorem dX3_pass_138 : decode cX3_pass 138 = .ok (.iconst 2, 1) := dk_5 (dk_at dksX3_pass_5 22 rfl rfl)
theorem dX3_pass_139 : decode cX3_pass 139 = .ok (.isub, 1) := dk_100 (dk_at dksX3_pass_5 23 rfl rfl)
theorem dX3_pass_140 : decode cX3_pass 140 = .ok (.iastore, 1) := dk_79 (dk_at dksX3_pass_6 0 rfl rfl)
theorem dX3_pass_141 : decode cX3_pass 141 = .ok (.aload_n 0, 1) := dk_42 (dk_at dksX3_pass_6 1 rfl rfl)
theorem dX3_pass_142 : decode cX3_pass 142 = .ok (.getfield 29, 3) := dk_180 0 29 (dk_at dksX3_pass_6 2 rfl rfl)
theorem dX3_pass_145 : decode cX3_pass 145 = .ok (.iload_n 1, 1) := dk_27 (dk_at dksX3_pass_6 5 rfl rfl)
theorem dX3_pass_146 : decode cX3_pass 146 = .ok (.iaload, 1) := dk_46 (dk_at dksX3_pass_6 6 rfl rfl)
theorem dX3_pass_147 : decode cX3_pass 147 = .ok (.istore 6, 2) := dk_54 6 (dk_at dksX3_pass_6 7 rfl rfl)
theorem dX3_pass_149 : decode cX3_pass 149 = .ok (.aload_n 0, 1) := dk_42 (dk_at dksX3_pass_6 9 rfl rfl)
theorem dX3_pass_150 : decode cX3_pass 150 = .ok (.getfield 29, 3) := dk_180 0 29 (dk_at dksX3_pass_6 10 rfl rfl)
theorem dX3_pass_153 : decode cX3_pass 153 = .ok (.iload_n 1, 1) := dk_27 (dk_at dksX3_pass_6 13 rfl rfl)
theorem dX3_pass_154 : decode cX3_pass 154 = .ok (.aload_n 0, 1) := dk_42 (dk_at dksX3_pass_6 14 rfl rfl)
theorem dX3_pass_155 : decode cX3_pass 155 = .ok (.getfield 29, 3) := dk_180 0 29 (dk_at dksX3_pass_6 15 rfl rfl)
theorem dX3_pass_158 : decode cX3_pass 158 = .ok (.iload_n 3, 1) := dk_29 (dk_at dksX3_pass_6 18 rfl rfl)
theorem dX3_pass_159 : decode cX3_pass 159 = .ok (.iaload, 1) := dk_46 (dk_at dksX3_pass_6 19 rfl rfl)
theorem dX3_pass_160 : decode cX3_pass 160 = .ok (.iastore, 1) := dk_79 (dk_at dksX3_pass_6 20 rfl rfl)
theorem dX3_pass_161 : decode cX3_pass 161 = .ok (.aload_n 0, 1) := dk_42 (dk_at dksX3_pass_6 21 rfl rfl)
theorem dX3_pass_162 : decode cX3_pass 162 = .ok (.getfield 29, 3) := dk_180 0 29 (dk_at dksX3_pass_7 0 rfl rfl)
theorem dX3_pass_165 : decode cX3_pass 165 = .ok (.iload_n 3, 1) := dk_29 (dk_at dksX3_pass_7 3 rfl rfl)
theorem dX3_pass_166 : decode cX3_pass 166 = .ok (.iload 6, 2) := dk_21 6 (dk_at dksX3_pass_7 4 rfl rfl)
theorem dX3_pass_168 : decode cX3_pass 168 = .ok (.iastore, 1) := dk_79 (dk_at dksX3_pass_7 6 rfl rfl)
theorem dX3_pass_169 : decode cX3_pass 169 = .ok (.aload_n 0, 1) := dk_42 (dk_at dksX3_pass_7 7 rfl rfl)
theorem dX3_pass_170 : decode cX3_pass 170 = .ok (.getfield 26, 3) := dk_180 0 26 (dk_at dksX3_pass_7 8 rfl rfl)
theorem dX3_pass_173 : decode cX3_pass 173 = .ok (.iload_n 1, 1) := dk_27 (dk_at dksX3_pass_7 11 rfl rfl)
theorem dX3_pass_174 : decode cX3_pass 174 = .ok (.iaload, 1) := dk_46 (dk_at dksX3_pass_7 12 rfl rfl)
theorem dX3_pass_175 : decode cX3_pass 175 = .ok (.istore 7, 2) := dk_54 7 (dk_at dksX3_pass_7 13 rfl rfl)
theorem dX3_pass_177 : decode cX3_pass 177 = .ok (.aload_n 0, 1) := dk_42 (dk_at dksX3_pass_7 15 rfl rfl)
theorem dX3_pass_178 : decode cX3_pass 178 = .ok (.getfield 26, 3) := dk_180 0 26 (dk_at dksX3_pass_7 16 rfl rfl)
theorem dX3_pass_181 : decode cX3_pass 181 = .ok (.iload_n 1, 1) := dk_27 (dk_at dksX3_pass_7 19 rfl rfl)
theorem dX3_pass_182 : decode cX3_pass 182 = .ok (.aload_n 0, 1) := dk_42 (dk_at dksX3_pass_7 20 rfl rfl)
theorem dX3_pass_183 : decode cX3_pass 183 = .ok (.getfield 26, 3) := dk_180 0 26 (dk_at dksX3_pass_7 21 rfl rfl)
theorem dX3_pass_186 : decode cX3_pass 186 = .ok (.iload_n 3, 1) := dk_29 (dk_at dksX3_pass_8 0 rfl rfl)
theorem dX3_pass_187 : decode cX3_pass 187 = .ok (.iaload, 1) := dk_46 (dk_at dksX3_pass_8 1 rfl rfl)
theorem dX3_pass_188 : decode cX3_pass 188 = .ok (.iastore, 1) := dk_79 (dk_at dksX3_pass_8 2 rfl rfl)
theorem dX3_pass_189 : decode cX3_pass 189 = .ok (.aload_n 0, 1) := dk_42 (dk_at dksX3_pass_8 3 rfl rfl)
theorem dX3_pass_190 : decode cX3_pass 190 = .ok (.getfield 26, 3) := dk_180 0 26 (dk_at dksX3_pass_8 4 rfl rfl)
theorem dX3_pass_193 : decode cX3_pass 193 = .ok (.iload_n 3, 1) := dk_29 (dk_at dksX3_pass_8 7 rfl rfl)
theorem dX3_pass_194 : decode cX3_pass 194 = .ok (.iload 7, 2) := dk_21 7 (dk_at dksX3_pass_8 8 rfl rfl)
theorem dX3_pass_196 : decode cX3_pass 196 = .ok (.iastore, 1) := dk_79 (dk_at dksX3_pass_8 10 rfl rfl)
theorem dX3_pass_197 : decode cX3_pass 197 = .ok (.aload_n 0, 1) := dk_42 (dk_at dksX3_pass_8 11 rfl rfl)
theorem dX3_pass_198 : decode cX3_pass 198 = .ok (.getfield 63, 3) := dk_180 0 63 (dk_at dksX3_pass_8 12 rfl rfl)
theorem dX3_pass_201 : decode cX3_pass 201 = .ok (.iload_n 1, 1) := dk_27 (dk_at dksX3_pass_8 15 rfl rfl)
theorem dX3_pass_202 : decode cX3_pass 202 = .ok (.iload_n 2, 1) := dk_28 (dk_at dksX3_pass_8 16 rfl rfl)
theorem dX3_pass_203 : decode cX3_pass 203 = .ok (.iconst 1, 1) := dk_4 (dk_at dksX3_pass_8 17 rfl rfl)
theorem dX3_pass_204 : decode cX3_pass 204 = .ok (.iadd, 1) := dk_96 (dk_at dksX3_pass_8 18 rfl rfl)
theorem dX3_pass_205 : decode cX3_pass 205 = .ok (.iastore, 1) := dk_79 (dk_at dksX3_pass_8 19 rfl rfl)
theorem dX3_pass_206 : decode cX3_pass 206 = .ok (.aload_n 0, 1) := dk_42 (dk_at dksX3_pass_8 20 rfl rfl)
theorem dX3_pass_207 : decode cX3_pass 207 = .ok (.getfield 60, 3) := dk_180 0 60 (dk_at dksX3_pass_8 21 rfl rfl)
theorem dX3_pass_210 : decode cX3_pass 210 = .ok (.aload_n 0, 1) := dk_42 (dk_at dksX3_pass_9 0 rfl rfl)
theorem dX3_pass_211 : decode cX3_pass 211 = .ok (.getfield 54, 3) := dk_180 0 54 (dk_at dksX3_pass_9 1 rfl rfl)
theorem dX3_pass_214 : decode cX3_pass 214 = .ok (.bipush 10, 2) := dk_16 10 (dk_at dksX3_pass_9 4 rfl rfl)
theorem dX3_pass_216 : decode cX3_pass 216 = .ok (.iload_n 1, 1) := dk_27 (dk_at dksX3_pass_9 6 rfl rfl)
theorem dX3_pass_217 : decode cX3_pass 217 = .ok (.imul, 1) := dk_104 (dk_at dksX3_pass_9 7 rfl rfl)
theorem dX3_pass_218 : decode cX3_pass 218 = .ok (.iload_n 2, 1) := dk_28 (dk_at dksX3_pass_9 8 rfl rfl)
theorem dX3_pass_219 : decode cX3_pass 219 = .ok (.iadd, 1) := dk_96 (dk_at dksX3_pass_9 9 rfl rfl)
theorem dX3_pass_220 : decode cX3_pass 220 = .ok (.iastore, 1) := dk_79 (dk_at dksX3_pass_9 10 rfl rfl)
theorem dX3_pass_221 : decode cX3_pass 221 = .ok (.aload_n 0, 1) := dk_42 (dk_at dksX3_pass_9 11 rfl rfl)
theorem dX3_pass_222 : decode cX3_pass 222 = .ok (.dup, 1) := dk_89 (dk_at dksX3_pass_9 12 rfl rfl)
theorem dX3_pass_223 : decode cX3_pass 223 = .ok (.getfield 54, 3) := dk_180 0 54 (dk_at dksX3_pass_9 13 rfl rfl)
theorem dX3_pass_226 : decode cX3_pass 226 = .ok (.iconst 1, 1) := dk_4 (dk_at dksX3_pass_9 16 rfl rfl)
theorem dX3_pass_227 : decode cX3_pass 227 = .ok (.iadd, 1) := dk_96 (dk_at dksX3_pass_9 17 rfl rfl)
theorem dX3_pass_228 : decode cX3_pass 228 = .ok (.putfield 54, 3) := dk_181 0 54 (dk_at dksX3_pass_9 18 rfl rfl)
theorem dX3_pass_231 : decode cX3_pass 231 = .ok (.aload_n 0, 1) := dk_42 (dk_at dksX3_pass_9 21 rfl rfl)
theorem dX3_pass_232 : decode cX3_pass 232 = .ok (.getfield 54, 3) := dk_180 0 54 (dk_at dksX3_pass_10 0 rfl rfl)
theorem dX3_pass_235 : decode cX3_pass 235 = .ok (.ireturn, 1) := dk_172 (dk_at dksX3_pass_10 3 rfl rfl)
abbrev cX3_after : ByteArray := prog_17_method_13_code
def yX3_after : MethodName := ⟨RX3, "after", "(I)I"⟩
def dkwX3_after_0 : List UInt8 := [27, 4, 96, 42, 180, 0, 13, 160, 0, 7, 3, 167, 0, 6, 27, 4, 96, 172]
abbrev dktX3_after_0 : List UInt8 := dkwX3_after_0 ++ []
theorem dksX3_after_0 : cX3_after.data.toList.drop 0 = dktX3_after_0 := by decide +kernel
theorem dX3_after_0 : decode cX3_after 0 = .ok (.iload_n 1, 1) := dk_27 (dk_at dksX3_after_0 0 rfl rfl)
theorem dX3_after_1 : decode cX3_after 1 = .ok (.iconst 1, 1) := dk_4 (dk_at dksX3_after_0 1 rfl rfl)
theorem dX3_after_2 : decode cX3_after 2 = .ok (.iadd, 1) := dk_96 (dk_at dksX3_after_0 2 rfl rfl)
theorem dX3_after_3 : decode cX3_after 3 = .ok (.aload_n 0, 1) := dk_42 (dk_at dksX3_after_0 3 rfl rfl)
theorem dX3_after_4 : decode cX3_after 4 = .ok (.getfield 13, 3) := dk_180 0 13 (dk_at dksX3_after_0 4 rfl rfl)
theorem dX3_after_7 : decode cX3_after 7 = .ok (.if_icmp .ne 7, 3) := dk_160 0 7 (dk_at dksX3_after_0 7 rfl rfl)
theorem dX3_after_10 : decode cX3_after 10 = .ok (.iconst 0, 1) := dk_3 (dk_at dksX3_after_0 10 rfl rfl)
theorem dX3_after_11 : decode cX3_after 11 = .ok (.goto 6, 3) := dk_167 0 6 (dk_at dksX3_after_0 11 rfl rfl)
theorem dX3_after_14 : decode cX3_after 14 = .ok (.iload_n 1, 1) := dk_27 (dk_at dksX3_after_0 14 rfl rfl)
theorem dX3_after_15 : decode cX3_after 15 = .ok (.iconst 1, 1) := dk_4 (dk_at dksX3_after_0 15 rfl rfl)
theorem dX3_after_16 : decode cX3_after 16 = .ok (.iadd, 1) := dk_96 (dk_at dksX3_after_0 16 rfl rfl)
theorem dX3_after_17 : decode cX3_after 17 = .ok (.ireturn, 1) := dk_172 (dk_at dksX3_after_0 17 rfl rfl)
abbrev cX3_walk : ByteArray := prog_17_method_18_code
def yX3_walk : MethodName := ⟨RX3, "walk", "(I)I"⟩
def dkwX3_walk_9 : List UInt8 := [96, 181, 0, 54, 42, 180, 0, 54, 172]
abbrev dktX3_walk_9 : List UInt8 := dkwX3_walk_9 ++ []
def dkwX3_walk_8 : List UInt8 := [4, 96, 181, 0, 57, 42, 180, 0, 60, 42, 180, 0, 54, 16, 100, 27, 96, 79, 42, 89, 180, 0, 54, 4]
abbrev dktX3_walk_8 : List UInt8 := dkwX3_walk_8 ++ dktX3_walk_9
def dkwX3_walk_7 : List UInt8 := [180, 0, 63, 29, 46, 79, 42, 180, 0, 63, 29, 3, 79, 132, 3, 1, 167, 255, 198, 42, 89, 180, 0, 57]
abbrev dktX3_walk_7 : List UInt8 := dkwX3_walk_7 ++ dktX3_walk_8
def dkwX3_walk_6 : List UInt8 := [104, 29, 96, 42, 180, 0, 29, 29, 46, 79, 42, 180, 0, 69, 16, 9, 42, 180, 0, 57, 104, 29, 96, 42]
abbrev dktX3_walk_6 : List UInt8 := dkwX3_walk_6 ++ dktX3_walk_7
def dkwX3_walk_5 : List UInt8 := [27, 182, 0, 215, 3, 62, 29, 42, 180, 0, 13, 162, 0, 56, 42, 180, 0, 66, 16, 9, 42, 180, 0, 57]
abbrev dktX3_walk_5 : List UInt8 := dkwX3_walk_5 ++ dktX3_walk_6
def dkwX3_walk_4 : List UInt8 := [46, 28, 100, 79, 132, 3, 1, 167, 255, 235, 42, 42, 180, 0, 29, 27, 182, 0, 215, 42, 42, 180, 0, 26]
abbrev dktX3_walk_4 : List UInt8 := dkwX3_walk_4 ++ dktX3_walk_5
def dkwX3_walk_3 : List UInt8 := [16, 100, 160, 0, 6, 16, 252, 172, 3, 62, 29, 42, 180, 0, 13, 162, 0, 19, 42, 180, 0, 35, 29, 92]
abbrev dktX3_walk_3 : List UInt8 := dkwX3_walk_3 ++ dktX3_walk_4
def dkwX3_walk_2 : List UInt8 := [16, 253, 172, 132, 3, 1, 167, 255, 232, 42, 180, 0, 54, 17, 1, 44, 159, 0, 12, 42, 180, 0, 57]
abbrev dktX3_walk_2 : List UInt8 := dkwX3_walk_2 ++ dktX3_walk_3
def dkwX3_walk_1 : List UInt8 := [182, 0, 211, 61, 3, 62, 29, 42, 180, 0, 13, 162, 0, 22, 42, 180, 0, 35, 29, 46, 28, 162, 0, 6]
abbrev dktX3_walk_1 : List UInt8 := dkwX3_walk_1 ++ dktX3_walk_2
def dkwX3_walk_0 : List UInt8 := [42, 27, 3, 4, 182, 0, 195, 154, 0, 6, 16, 254, 172, 42, 180, 0, 44, 154, 0, 6, 16, 253, 172, 42]
abbrev dktX3_walk_0 : List UInt8 := dkwX3_walk_0 ++ dktX3_walk_1
theorem dksX3_walk_0 : cX3_walk.data.toList.drop 0 = dktX3_walk_0 := by decide +kernel
theorem dksX3_walk_1 : cX3_walk.data.toList.drop 24 = dktX3_walk_1 := dk_seg dksX3_walk_0 24 rfl rfl
theorem dksX3_walk_2 : cX3_walk.data.toList.drop 48 = dktX3_walk_2 := dk_seg dksX3_walk_1 24 rfl rfl
theorem dksX3_walk_3 : cX3_walk.data.toList.drop 71 = dktX3_walk_3 := dk_seg dksX3_walk_2 23 rfl rfl
theorem dksX3_walk_4 : cX3_walk.data.toList.drop 95 = dktX3_walk_4 := dk_seg dksX3_walk_3 24 rfl rfl
theorem dksX3_walk_5 : cX3_walk.data.toList.drop 119 = dktX3_walk_5 := dk_seg dksX3_walk_4 24 rfl rfl
theorem dksX3_walk_6 : cX3_walk.data.toList.drop 143 = dktX3_walk_6 := dk_seg dksX3_walk_5 24 rfl rfl
theorem dksX3_walk_7 : cX3_walk.data.toList.drop 167 = dktX3_walk_7 := dk_seg dksX3_walk_6 24 rfl rfl
theorem dksX3_walk_8 : cX3_walk.data.toList.drop 191 = dktX3_walk_8 := dk_seg dksX3_walk_7 24 rfl rfl
theorem dksX3_walk_9 : cX3_walk.data.toList.drop 215 = dktX3_walk_9 := dk_seg dksX3_walk_8 24 rfl rfl
theorem dX3_walk_0 : decode cX3_walk 0 = .ok (.aload_n 0, 1) := dk_42 (dk_at dksX3_walk_0 0 rfl rfl)
theorem dX3_walk_1 : decode cX3_walk 1 = .ok (.iload_n 1, 1) := dk_27 (dk_at dksX3_walk_0 1 rfl rfl)
theorem dX3_walk_2 : decode cX3_walk 2 = .ok (.iconst 0, 1) := dk_3 (dk_at dksX3_walk_0 2 rfl rfl)
theorem dX3_walk_3 : decode cX3_walk 3 = .ok (.iconst 1, 1) := dk_4 (dk_at dksX3_walk_0 3 rfl rfl)
theorem dX3_walk_4 : decode cX3_walk 4 = .ok (.invokevirtual 195, 3) := dk_182 0 195 (dk_at dksX3_walk_0 4 rfl rfl)
theorem dX3_walk_7 : decode cX3_walk 7 = .ok (.ifCond .ne 6, 3) := dk_154 0 6 (dk_at dksX3_walk_0 7 rfl rfl)
theorem dX3_walk_10 : decode cX3_walk 10 = .ok (.bipush (-2), 2) := dk_16 254 (dk_at dksX3_walk_0 10 rfl rfl)
theorem dX3_walk_12 : decode cX3_walk 12 = .ok (.ireturn, 1) := dk_172 (dk_at dksX3_walk_0 12 rfl rfl)
theorem dX3_walk_13 : decode cX3_walk 13 = .ok (.aload_n 0, 1) := dk_42 (dk_at dksX3_walk_0 13 rfl rfl)
theorem dX3_walk_14 : decode cX3_walk 14 = .ok (.getfield 44, 3) := dk_180 0 44 (dk_at dksX3_walk_0 14 rfl rfl)
theorem dX3_walk_17 : decode cX3_walk 17 = .ok (.ifCond .ne 6, 3) := dk_154 0 6 (dk_at dksX3_walk_0 17 rfl rfl)
theorem dX3_walk_20 : decode cX3_walk 20 = .ok (.bipush (-3), 2) := dk_16 253 (dk_at dksX3_walk_0 20 rfl rfl)
theorem dX3_walk_22 : decode cX3_walk 22 = .ok (.ireturn, 1) := dk_172 (dk_at dksX3_walk_0 22 rfl rfl)
theorem dX3_walk_23 : decode cX3_walk 23 = .ok (.aload_n 0, 1) := dk_42 (dk_at dksX3_walk_0 23 rfl rfl)
theorem dX3_walk_24 : decode cX3_walk 24 = .ok (.invokevirtual 211, 3) := dk_182 0 211 (dk_at dksX3_walk_1 0 rfl rfl)
theorem dX3_walk_27 : decode cX3_walk 27 = .ok (.istore_n 2, 1) := dk_61 (dk_at dksX3_walk_1 3 rfl rfl)
theorem dX3_walk_28 : decode cX3_walk 28 = .ok (.iconst 0, 1) := dk_3 (dk_at dksX3_walk_1 4 rfl rfl)
theorem dX3_walk_29 : decode cX3_walk 29 = .ok (.istore_n 3, 1) := dk_62 (dk_at dksX3_walk_1 5 rfl rfl)
theorem dX3_walk_30 : decode cX3_walk 30 = .ok (.iload_n 3, 1) := dk_29 (dk_at dksX3_walk_1 6 rfl rfl)
theorem dX3_walk_31 : decode cX3_walk 31 = .ok (.aload_n 0, 1) := dk_42 (dk_at dksX3_walk_1 7 rfl rfl)
theorem dX3_walk_32 : decode cX3_walk 32 = .ok (.getfield 13, 3) := dk_180 0 13 (dk_at dksX3_walk_1 8 rfl rfl)
theorem dX3_walk_35 : decode cX3_walk 35 = .ok (.if_icmp .ge 22, 3) := dk_162 0 22 (dk_at dksX3_walk_1 11 rfl rfl)
theorem dX3_walk_38 : decode cX3_walk 38 = .ok (.aload_n 0, 1) := dk_42 (dk_at dksX3_walk_1 14 rfl rfl)
theorem dX3_walk_39 : decode cX3_walk 39 = .ok (.getfield 35, 3) := dk_180 0 35 (dk_at dksX3_walk_1 15 rfl rfl)
theorem dX3_walk_42 : decode cX3_walk 42 = .ok (.iload_n 3, 1) := dk_29 (dk_at dksX3_walk_1 18 rfl rfl)
theorem dX3_walk_43 : decode cX3_walk 43 = .ok (.iaload, 1) := dk_46 (dk_at dksX3_walk_1 19 rfl rfl)
theorem dX3_walk_44 : decode cX3_walk 44 = .ok (.iload_n 2, 1) := dk_28 (dk_at dksX3_walk_1 20 rfl rfl)
theorem dX3_walk_45 : decode cX3_walk 45 = .ok (.if_icmp .ge 6, 3) := dk_162 0 6 (dk_at dksX3_walk_1 21 rfl rfl)
theorem dX3_walk_48 : decode cX3_walk 48 = .ok (.bipush (-3), 2) := dk_16 253 (dk_at dksX3_walk_2 0 rfl rfl)
theorem dX3_walk_50 : decode cX3_walk 50 = .ok (.ireturn, 1) := dk_172 (dk_at dksX3_walk_2 2 rfl rfl)
theorem dX3_walk_51 : decode cX3_walk 51 = .ok (.iinc 3 1, 3) := dk_132 3 1 (dk_at dksX3_walk_2 3 rfl rfl)
theorem dX3_walk_54 : decode cX3_walk 54 = .ok (.goto (-24), 3) := dk_167 255 232 (dk_at dksX3_walk_2 6 rfl rfl)
theorem dX3_walk_57 : decode cX3_walk 57 = .ok (.aload_n 0, 1) := dk_42 (dk_at dksX3_walk_2 9 rfl rfl)
theorem dX3_walk_58 : decode cX3_walk 58 = .ok (.getfield 54, 3) := dk_180 0 54 (dk_at dksX3_walk_2 10 rfl rfl)
theorem dX3_walk_61 : decode cX3_walk 61 = .ok (.sipush 300, 3) := dk_17 1 44 (dk_at dksX3_walk_2 13 rfl rfl)
theorem dX3_walk_64 : decode cX3_walk 64 = .ok (.if_icmp .eq 12, 3) := dk_159 0 12 (dk_at dksX3_walk_2 16 rfl rfl)
theorem dX3_walk_67 : decode cX3_walk 67 = .ok (.aload_n 0, 1) := dk_42 (dk_at dksX3_walk_2 19 rfl rfl)
theorem dX3_walk_68 : decode cX3_walk 68 = .ok (.getfield 57, 3) := dk_180 0 57 (dk_at dksX3_walk_2 20 rfl rfl)
theorem dX3_walk_71 : decode cX3_walk 71 = .ok (.bipush 100, 2) := dk_16 100 (dk_at dksX3_walk_3 0 rfl rfl)
theorem dX3_walk_73 : decode cX3_walk 73 = .ok (.if_icmp .ne 6, 3) := dk_160 0 6 (dk_at dksX3_walk_3 2 rfl rfl)
theorem dX3_walk_76 : decode cX3_walk 76 = .ok (.bipush (-4), 2) := dk_16 252 (dk_at dksX3_walk_3 5 rfl rfl)
theorem dX3_walk_78 : decode cX3_walk 78 = .ok (.ireturn, 1) := dk_172 (dk_at dksX3_walk_3 7 rfl rfl)
theorem dX3_walk_79 : decode cX3_walk 79 = .ok (.iconst 0, 1) := dk_3 (dk_at dksX3_walk_3 8 rfl rfl)
theorem dX3_walk_80 : decode cX3_walk 80 = .ok (.istore_n 3, 1) := dk_62 (dk_at dksX3_walk_3 9 rfl rfl)
theorem dX3_walk_81 : decode cX3_walk 81 = .ok (.iload_n 3, 1) := dk_29 (dk_at dksX3_walk_3 10 rfl rfl)
theorem dX3_walk_82 : decode cX3_walk 82 = .ok (.aload_n 0, 1) := dk_42 (dk_at dksX3_walk_3 11 rfl rfl)
theorem dX3_walk_83 : decode cX3_walk 83 = .ok (.getfield 13, 3) := dk_180 0 13 (dk_at dksX3_walk_3 12 rfl rfl)
theorem dX3_walk_86 : decode cX3_walk 86 = .ok (.if_icmp .ge 19, 3) := dk_162 0 19 (dk_at dksX3_walk_3 15 rfl rfl)
theorem dX3_walk_89 : decode cX3_walk 89 = .ok (.aload_n 0, 1) := dk_42 (dk_at dksX3_walk_3 18 rfl rfl)
theorem dX3_walk_90 : decode cX3_walk 90 = .ok (.getfield 35, 3) := dk_180 0 35 (dk_at dksX3_walk_3 19 rfl rfl)
theorem dX3_walk_93 : decode cX3_walk 93 = .ok (.iload_n 3, 1) := dk_29 (dk_at dksX3_walk_3 22 rfl rfl)
theorem dX3_walk_94 : decode cX3_walk 94 = .ok (.dup2, 1) := dk_92 (dk_at dksX3_walk_3 23 rfl rfl)
theorem dX3_walk_95 : decode cX3_walk 95 = .ok (.iaload, 1) := dk_46 (dk_at dksX3_walk_4 0 rfl rfl)
theorem dX3_walk_96 : decode cX3_walk 96 = .ok (.iload_n 2, 1) := dk_28 (dk_at dksX3_walk_4 1 rfl rfl)
theorem dX3_walk_97 : decode cX3_walk 97 = .ok (.isub, 1) := dk_100 (dk_at dksX3_walk_4 2 rfl rfl)
theorem dX3_walk_98 : decode cX3_walk 98 = .ok (.iastore, 1) := dk_79 (dk_at dksX3_walk_4 3 rfl rfl)
theorem dX3_walk_99 : decode cX3_walk 99 = .ok (.iinc 3 1, 3) := dk_132 3 1 (dk_at dksX3_walk_4 4 rfl rfl)
theorem dX3_walk_102 : decode cX3_walk 102 = .ok (.goto (-21), 3) := dk_167 255 235 (dk_at dksX3_walk_4 7 rfl rfl)
theorem dX3_walk_105 : decode cX3_walk 105 = .ok (.aload_n 0, 1) := dk_42 (dk_at dksX3_walk_4 10 rfl rfl)
theorem dX3_walk_106 : decode cX3_walk 106 = .ok (.aload_n 0, 1) := dk_42 (dk_at dksX3_walk_4 11 rfl rfl)
theorem dX3_walk_107 : decode cX3_walk 107 = .ok (.getfield 29, 3) := dk_180 0 29 (dk_at dksX3_walk_4 12 rfl rfl)
theorem dX3_walk_110 : decode cX3_walk 110 = .ok (.iload_n 1, 1) := dk_27 (dk_at dksX3_walk_4 15 rfl rfl)
theorem dX3_walk_111 : decode cX3_walk 111 = .ok (.invokevirtual 215, 3) := dk_182 0 215 (dk_at dksX3_walk_4 16 rfl rfl)
theorem dX3_walk_114 : decode cX3_walk 114 = .ok (.aload_n 0, 1) := dk_42 (dk_at dksX3_walk_4 19 rfl rfl)
theorem dX3_walk_115 : decode cX3_walk 115 = .ok (.aload_n 0, 1) := dk_42 (dk_at dksX3_walk_4 20 rfl rfl)
theorem dX3_walk_116 : decode cX3_walk 116 = .ok (.getfield 26, 3) := dk_180 0 26 (dk_at dksX3_walk_4 21 rfl rfl)
theorem dX3_walk_119 : decode cX3_walk 119 = .ok (.iload_n 1, 1) := dk_27 (dk_at dksX3_walk_5 0 rfl rfl)
theorem dX3_walk_120 : decode cX3_walk 120 = .ok (.invokevirtual 215, 3) := dk_182 0 215 (dk_at dksX3_walk_5 1 rfl rfl)
theorem dX3_walk_123 : decode cX3_walk 123 = .ok (.iconst 0, 1) := dk_3 (dk_at dksX3_walk_5 4 rfl rfl)
theorem dX3_walk_124 : decode cX3_walk 124 = .ok (.istore_n 3, 1) := dk_62 (dk_at dksX3_walk_5 5 rfl rfl)
theorem dX3_walk_125 : decode cX3_walk 125 = .ok (.iload_n 3, 1) := dk_29 (dk_at dksX3_walk_5 6 rfl rfl)
theorem dX3_walk_126 : decode cX3_walk 126 = .ok (.aload_n 0, 1) := dk_42 (dk_at dksX3_walk_5 7 rfl rfl)
theorem dX3_walk_127 : decode cX3_walk 127 = .ok (.getfield 13, 3) := dk_180 0 13 (dk_at dksX3_walk_5 8 rfl rfl)
theorem dX3_walk_130 : decode cX3_walk 130 = .ok (.if_icmp .ge 56, 3) := dk_162 0 56 (dk_at dksX3_walk_5 11 rfl rfl)
theorem dX3_walk_133 : decode cX3_walk 133 = .ok (.aload_n 0, 1) := dk_42 (dk_at dksX3_walk_5 14 rfl rfl)
theorem dX3_walk_134 : decode cX3_walk 134 = .ok (.getfield 66, 3) := dk_180 0 66 (dk_at dksX3_walk_5 15 rfl rfl)
theorem dX3_walk_137 : decode cX3_walk 137 = .ok (.bipush 9, 2) := dk_16 9 (dk_at dksX3_walk_5 18 rfl rfl)
theorem dX3_walk_139 : decode cX3_walk 139 = .ok (.aload_n 0, 1) := dk_42 (dk_at dksX3_walk_5 20 rfl rfl)
theorem dX3_walk_140 : decode cX3_walk 140 = .ok (.getfield 57, 3) := dk_180 0 57 (dk_at dksX3_walk_5 21 rfl rfl)
theorem dX3_walk_143 : decode cX3_walk 143 = .ok (.imul, 1) := dk_104 (dk_at dksX3_walk_6 0 rfl rfl)
theorem dX3_walk_144 : decode cX3_walk 144 = .ok (.iload_n 3, 1) := dk_29 (dk_at dksX3_walk_6 1 rfl rfl)
theorem dX3_walk_145 : decode cX3_walk 145 = .ok (.iadd, 1) := dk_96 (dk_at dksX3_walk_6 2 rfl rfl)
theorem dX3_walk_146 : decode cX3_walk 146 = .ok (.aload_n 0, 1) := dk_42 (dk_at dksX3_walk_6 3 rfl rfl)
theorem dX3_walk_147 : decode cX3_walk 147 = .ok (.getfield 29, 3) := dk_180 0 29 (dk_at dksX3_walk_6 4 rfl rfl)
theorem dX3_walk_150 : decode cX3_walk 150 = .ok (.iload_n 3, 1) := dk_29 (dk_at dksX3_walk_6 7 rfl rfl)
theorem dX3_walk_151 : decode cX3_walk 151 = .ok (.iaload, 1) := dk_46 (dk_at dksX3_walk_6 8 rfl rfl)
theorem dX3_walk_152 : decode cX3_walk 152 = .ok (.iastore, 1) := dk_79 (dk_at dksX3_walk_6 9 rfl rfl)
theorem dX3_walk_153 : decode cX3_walk 153 = .ok (.aload_n 0, 1) := dk_42 (dk_at dksX3_walk_6 10 rfl rfl)
theorem dX3_walk_154 : decode cX3_walk 154 = .ok (.getfield 69, 3) := dk_180 0 69 (dk_at dksX3_walk_6 11 rfl rfl)
theorem dX3_walk_157 : decode cX3_walk 157 = .ok (.bipush 9, 2) := dk_16 9 (dk_at dksX3_walk_6 14 rfl rfl)
theorem dX3_walk_159 : decode cX3_walk 159 = .ok (.aload_n 0, 1) := dk_42 (dk_at dksX3_walk_6 16 rfl rfl)
theorem dX3_walk_160 : decode cX3_walk 160 = .ok (.getfield 57, 3) := dk_180 0 57 (dk_at dksX3_walk_6 17 rfl rfl)
theorem dX3_walk_163 : decode cX3_walk 163 = .ok (.imul, 1) := dk_104 (dk_at dksX3_walk_6 20 rfl rfl)
theorem dX3_walk_164 : decode cX3_walk 164 = .ok (.iload_n 3, 1) := dk_29 (dk_at dksX3_walk_6 21 rfl rfl)
theorem dX3_walk_165 : decode cX3_walk 165 = .ok (.iadd, 1) := dk_96 (dk_at dksX3_walk_6 22 rfl rfl)
theorem dX3_walk_166 : decode cX3_walk 166 = .ok (.aload_n 0, 1) := dk_42 (dk_at dksX3_walk_6 23 rfl rfl)
theorem dX3_walk_167 : decode cX3_walk 167 = .ok (.getfield 63, 3) := dk_180 0 63 (dk_at dksX3_walk_7 0 rfl rfl)
theorem dX3_walk_170 : decode cX3_walk 170 = .ok (.iload_n 3, 1) := dk_29 (dk_at dksX3_walk_7 3 rfl rfl)
theorem dX3_walk_171 : decode cX3_walk 171 = .ok (.iaload, 1) := dk_46 (dk_at dksX3_walk_7 4 rfl rfl)
theorem dX3_walk_172 : decode cX3_walk 172 = .ok (.iastore, 1) := dk_79 (dk_at dksX3_walk_7 5 rfl rfl)
theorem dX3_walk_173 : decode cX3_walk 173 = .ok (.aload_n 0, 1) := dk_42 (dk_at dksX3_walk_7 6 rfl rfl)
theorem dX3_walk_174 : decode cX3_walk 174 = .ok (.getfield 63, 3) := dk_180 0 63 (dk_at dksX3_walk_7 7 rfl rfl)
theorem dX3_walk_177 : decode cX3_walk 177 = .ok (.iload_n 3, 1) := dk_29 (dk_at dksX3_walk_7 10 rfl rfl)
theorem dX3_walk_178 : decode cX3_walk 178 = .ok (.iconst 0, 1) := dk_3 (dk_at dksX3_walk_7 11 rfl rfl)
theorem dX3_walk_179 : decode cX3_walk 179 = .ok (.iastore, 1) := dk_79 (dk_at dksX3_walk_7 12 rfl rfl)
theorem dX3_walk_180 : decode cX3_walk 180 = .ok (.iinc 3 1, 3) := dk_132 3 1 (dk_at dksX3_walk_7 13 rfl rfl)
theorem dX3_walk_183 : decode cX3_walk 183 = .ok (.goto (-58), 3) := dk_167 255 198 (dk_at dksX3_walk_7 16 rfl rfl)
theorem dX3_walk_186 : decode cX3_walk 186 = .ok (.aload_n 0, 1) := dk_42 (dk_at dksX3_walk_7 19 rfl rfl)
theorem dX3_walk_187 : decode cX3_walk 187 = .ok (.dup, 1) := dk_89 (dk_at dksX3_walk_7 20 rfl rfl)
theorem dX3_walk_188 : decode cX3_walk 188 = .ok (.getfield 57, 3) := dk_180 0 57 (dk_at dksX3_walk_7 21 rfl rfl)
theorem dX3_walk_191 : decode cX3_walk 191 = .ok (.iconst 1, 1) := dk_4 (dk_at dksX3_walk_8 0 rfl rfl)
theorem dX3_walk_192 : decode cX3_walk 192 = .ok (.iadd, 1) := dk_96 (dk_at dksX3_walk_8 1 rfl rfl)
theorem dX3_walk_193 : decode cX3_walk 193 = .ok (.putfield 57, 3) := dk_181 0 57 (dk_at dksX3_walk_8 2 rfl rfl)
theorem dX3_walk_196 : decode cX3_walk 196 = .ok (.aload_n 0, 1) := dk_42 (dk_at dksX3_walk_8 5 rfl rfl)
theorem dX3_walk_197 : decode cX3_walk 197 = .ok (.getfield 60, 3) := dk_180 0 60 (dk_at dksX3_walk_8 6 rfl rfl)
theorem dX3_walk_200 : decode cX3_walk 200 = .ok (.aload_n 0, 1) := dk_42 (dk_at dksX3_walk_8 9 rfl rfl)
theorem dX3_walk_201 : decode cX3_walk 201 = .ok (.getfield 54, 3) := dk_180 0 54 (dk_at dksX3_walk_8 10 rfl rfl)
theorem dX3_walk_204 : decode cX3_walk 204 = .ok (.bipush 100, 2) := dk_16 100 (dk_at dksX3_walk_8 13 rfl rfl)
theorem dX3_walk_206 : decode cX3_walk 206 = .ok (.iload_n 1, 1) := dk_27 (dk_at dksX3_walk_8 15 rfl rfl)
theorem dX3_walk_207 : decode cX3_walk 207 = .ok (.iadd, 1) := dk_96 (dk_at dksX3_walk_8 16 rfl rfl)
theorem dX3_walk_208 : decode cX3_walk 208 = .ok (.iastore, 1) := dk_79 (dk_at dksX3_walk_8 17 rfl rfl)
theorem dX3_walk_209 : decode cX3_walk 209 = .ok (.aload_n 0, 1) := dk_42 (dk_at dksX3_walk_8 18 rfl rfl)
theorem dX3_walk_210 : decode cX3_walk 210 = .ok (.dup, 1) := dk_89 (dk_at dksX3_walk_8 19 rfl rfl)
theorem dX3_walk_211 : decode cX3_walk 211 = .ok (.getfield 54, 3) := dk_180 0 54 (dk_at dksX3_walk_8 20 rfl rfl)
theorem dX3_walk_214 : decode cX3_walk 214 = .ok (.iconst 1, 1) := dk_4 (dk_at dksX3_walk_8 23 rfl rfl)
theorem dX3_walk_215 : decode cX3_walk 215 = .ok (.iadd, 1) := dk_96 (dk_at dksX3_walk_9 0 rfl rfl)
theorem dX3_walk_216 : decode cX3_walk 216 = .ok (.putfield 54, 3) := dk_181 0 54 (dk_at dksX3_walk_9 1 rfl rfl)
theorem dX3_walk_219 : decode cX3_walk 219 = .ok (.aload_n 0, 1) := dk_42 (dk_at dksX3_walk_9 4 rfl rfl)
theorem dX3_walk_220 : decode cX3_walk 220 = .ok (.getfield 54, 3) := dk_180 0 54 (dk_at dksX3_walk_9 5 rfl rfl)
theorem dX3_walk_223 : decode cX3_walk 223 = .ok (.ireturn, 1) := dk_172 (dk_at dksX3_walk_9 8 rfl rfl)
abbrev cX3_turn : ByteArray := prog_17_method_17_code
def yX3_turn : MethodName := ⟨RX3, "turn", "([II)V"⟩
def dkwX3_turn_3 : List UInt8 := [43, 21, 4, 4, 96, 46, 79, 132, 4, 1, 167, 255, 232, 43, 42, 180, 0, 13, 4, 100, 29, 79, 177]
abbrev dktX3_turn_3 : List UInt8 := dkwX3_turn_3 ++ []
def dkwX3_turn_2 : List UInt8 := [167, 0, 46, 43, 3, 46, 62, 3, 54, 4, 21, 4, 42, 180, 0, 13, 4, 100, 162, 0, 19, 43, 21, 4]
abbrev dktX3_turn_2 : List UInt8 := dkwX3_turn_2 ++ dktX3_turn_3
def dkwX3_turn_1 : List UInt8 := [158, 0, 19, 43, 21, 4, 43, 21, 4, 4, 100, 46, 79, 132, 4, 255, 167, 255, 238, 43, 3, 29, 79]
abbrev dktX3_turn_1 : List UInt8 := dkwX3_turn_1 ++ dktX3_turn_2
def dkwX3_turn_0 : List UInt8 := [28, 154, 0, 48, 43, 42, 180, 0, 13, 4, 100, 46, 62, 42, 180, 0, 13, 4, 100, 54, 4, 21, 4]
abbrev dktX3_turn_0 : List UInt8 := dkwX3_turn_0 ++ dktX3_turn_1
theorem dksX3_turn_0 : cX3_turn.data.toList.drop 0 = dktX3_turn_0 := by decide +kernel
theorem dksX3_turn_1 : cX3_turn.data.toList.drop 23 = dktX3_turn_1 := dk_seg dksX3_turn_0 23 rfl rfl
theorem dksX3_turn_2 : cX3_turn.data.toList.drop 46 = dktX3_turn_2 := dk_seg dksX3_turn_1 23 rfl rfl
theorem dksX3_turn_3 : cX3_turn.data.toList.drop 70 = dktX3_turn_3 := dk_seg dksX3_turn_2 24 rfl rfl
theorem dX3_turn_0 : decode cX3_turn 0 = .ok (.iload_n 2, 1) := dk_28 (dk_at dksX3_turn_0 0 rfl rfl)
theorem dX3_turn_1 : decode cX3_turn 1 = .ok (.ifCond .ne 48, 3) := dk_154 0 48 (dk_at dksX3_turn_0 1 rfl rfl)
theorem dX3_turn_4 : decode cX3_turn 4 = .ok (.aload_n 1, 1) := dk_43 (dk_at dksX3_turn_0 4 rfl rfl)
theorem dX3_turn_5 : decode cX3_turn 5 = .ok (.aload_n 0, 1) := dk_42 (dk_at dksX3_turn_0 5 rfl rfl)
theorem dX3_turn_6 : decode cX3_turn 6 = .ok (.getfield 13, 3) := dk_180 0 13 (dk_at dksX3_turn_0 6 rfl rfl)
theorem dX3_turn_9 : decode cX3_turn 9 = .ok (.iconst 1, 1) := dk_4 (dk_at dksX3_turn_0 9 rfl rfl)
theorem dX3_turn_10 : decode cX3_turn 10 = .ok (.isub, 1) := dk_100 (dk_at dksX3_turn_0 10 rfl rfl)
theorem dX3_turn_11 : decode cX3_turn 11 = .ok (.iaload, 1) := dk_46 (dk_at dksX3_turn_0 11 rfl rfl)
theorem dX3_turn_12 : decode cX3_turn 12 = .ok (.istore_n 3, 1) := dk_62 (dk_at dksX3_turn_0 12 rfl rfl)
theorem dX3_turn_13 : decode cX3_turn 13 = .ok (.aload_n 0, 1) := dk_42 (dk_at dksX3_turn_0 13 rfl rfl)
theorem dX3_turn_14 : decode cX3_turn 14 = .ok (.getfield 13, 3) := dk_180 0 13 (dk_at dksX3_turn_0 14 rfl rfl)
theorem dX3_turn_17 : decode cX3_turn 17 = .ok (.iconst 1, 1) := dk_4 (dk_at dksX3_turn_0 17 rfl rfl)
theorem dX3_turn_18 : decode cX3_turn 18 = .ok (.isub, 1) := dk_100 (dk_at dksX3_turn_0 18 rfl rfl)
theorem dX3_turn_19 : decode cX3_turn 19 = .ok (.istore 4, 2) := dk_54 4 (dk_at dksX3_turn_0 19 rfl rfl)
theorem dX3_turn_21 : decode cX3_turn 21 = .ok (.iload 4, 2) := dk_21 4 (dk_at dksX3_turn_0 21 rfl rfl)
theorem dX3_turn_23 : decode cX3_turn 23 = .ok (.ifCond .le 19, 3) := dk_158 0 19 (dk_at dksX3_turn_1 0 rfl rfl)
theorem dX3_turn_26 : decode cX3_turn 26 = .ok (.aload_n 1, 1) := dk_43 (dk_at dksX3_turn_1 3 rfl rfl)
theorem dX3_turn_27 : decode cX3_turn 27 = .ok (.iload 4, 2) := dk_21 4 (dk_at dksX3_turn_1 4 rfl rfl)
theorem dX3_turn_29 : decode cX3_turn 29 = .ok (.aload_n 1, 1) := dk_43 (dk_at dksX3_turn_1 6 rfl rfl)
theorem dX3_turn_30 : decode cX3_turn 30 = .ok (.iload 4, 2) := dk_21 4 (dk_at dksX3_turn_1 7 rfl rfl)
theorem dX3_turn_32 : decode cX3_turn 32 = .ok (.iconst 1, 1) := dk_4 (dk_at dksX3_turn_1 9 rfl rfl)
theorem dX3_turn_33 : decode cX3_turn 33 = .ok (.isub, 1) := dk_100 (dk_at dksX3_turn_1 10 rfl rfl)
theorem dX3_turn_34 : decode cX3_turn 34 = .ok (.iaload, 1) := dk_46 (dk_at dksX3_turn_1 11 rfl rfl)
theorem dX3_turn_35 : decode cX3_turn 35 = .ok (.iastore, 1) := dk_79 (dk_at dksX3_turn_1 12 rfl rfl)
theorem dX3_turn_36 : decode cX3_turn 36 = .ok (.iinc 4 (-1), 3) := dk_132 4 255 (dk_at dksX3_turn_1 13 rfl rfl)
theorem dX3_turn_39 : decode cX3_turn 39 = .ok (.goto (-18), 3) := dk_167 255 238 (dk_at dksX3_turn_1 16 rfl rfl)
theorem dX3_turn_42 : decode cX3_turn 42 = .ok (.aload_n 1, 1) := dk_43 (dk_at dksX3_turn_1 19 rfl rfl)
theorem dX3_turn_43 : decode cX3_turn 43 = .ok (.iconst 0, 1) := dk_3 (dk_at dksX3_turn_1 20 rfl rfl)
theorem dX3_turn_44 : decode cX3_turn 44 = .ok (.iload_n 3, 1) := dk_29 (dk_at dksX3_turn_1 21 rfl rfl)
theorem dX3_turn_45 : decode cX3_turn 45 = .ok (.iastore, 1) := dk_79 (dk_at dksX3_turn_1 22 rfl rfl)
theorem dX3_turn_46 : decode cX3_turn 46 = .ok (.goto 46, 3) := dk_167 0 46 (dk_at dksX3_turn_2 0 rfl rfl)
theorem dX3_turn_49 : decode cX3_turn 49 = .ok (.aload_n 1, 1) := dk_43 (dk_at dksX3_turn_2 3 rfl rfl)
theorem dX3_turn_50 : decode cX3_turn 50 = .ok (.iconst 0, 1) := dk_3 (dk_at dksX3_turn_2 4 rfl rfl)
theorem dX3_turn_51 : decode cX3_turn 51 = .ok (.iaload, 1) := dk_46 (dk_at dksX3_turn_2 5 rfl rfl)
theorem dX3_turn_52 : decode cX3_turn 52 = .ok (.istore_n 3, 1) := dk_62 (dk_at dksX3_turn_2 6 rfl rfl)
theorem dX3_turn_53 : decode cX3_turn 53 = .ok (.iconst 0, 1) := dk_3 (dk_at dksX3_turn_2 7 rfl rfl)
theorem dX3_turn_54 : decode cX3_turn 54 = .ok (.istore 4, 2) := dk_54 4 (dk_at dksX3_turn_2 8 rfl rfl)
theorem dX3_turn_56 : decode cX3_turn 56 = .ok (.iload 4, 2) := dk_21 4 (dk_at dksX3_turn_2 10 rfl rfl)
theorem dX3_turn_58 : decode cX3_turn 58 = .ok (.aload_n 0, 1) := dk_42 (dk_at dksX3_turn_2 12 rfl rfl)
theorem dX3_turn_59 : decode cX3_turn 59 = .ok (.getfield 13, 3) := dk_180 0 13 (dk_at dksX3_turn_2 13 rfl rfl)
theorem dX3_turn_62 : decode cX3_turn 62 = .ok (.iconst 1, 1) := dk_4 (dk_at dksX3_turn_2 16 rfl rfl)
theorem dX3_turn_63 : decode cX3_turn 63 = .ok (.isub, 1) := dk_100 (dk_at dksX3_turn_2 17 rfl rfl)
theorem dX3_turn_64 : decode cX3_turn 64 = .ok (.if_icmp .ge 19, 3) := dk_162 0 19 (dk_at dksX3_turn_2 18 rfl rfl)
theorem dX3_turn_67 : decode cX3_turn 67 = .ok (.aload_n 1, 1) := dk_43 (dk_at dksX3_turn_2 21 rfl rfl)
theorem dX3_turn_68 : decode cX3_turn 68 = .ok (.iload 4, 2) := dk_21 4 (dk_at dksX3_turn_2 22 rfl rfl)
theorem dX3_turn_70 : decode cX3_turn 70 = .ok (.aload_n 1, 1) := dk_43 (dk_at dksX3_turn_3 0 rfl rfl)
theorem dX3_turn_71 : decode cX3_turn 71 = .ok (.iload 4, 2) := dk_21 4 (dk_at dksX3_turn_3 1 rfl rfl)
theorem dX3_turn_73 : decode cX3_turn 73 = .ok (.iconst 1, 1) := dk_4 (dk_at dksX3_turn_3 3 rfl rfl)
theorem dX3_turn_74 : decode cX3_turn 74 = .ok (.iadd, 1) := dk_96 (dk_at dksX3_turn_3 4 rfl rfl)
theorem dX3_turn_75 : decode cX3_turn 75 = .ok (.iaload, 1) := dk_46 (dk_at dksX3_turn_3 5 rfl rfl)
theorem dX3_turn_76 : decode cX3_turn 76 = .ok (.iastore, 1) := dk_79 (dk_at dksX3_turn_3 6 rfl rfl)
theorem dX3_turn_77 : decode cX3_turn 77 = .ok (.iinc 4 1, 3) := dk_132 4 1 (dk_at dksX3_turn_3 7 rfl rfl)
theorem dX3_turn_80 : decode cX3_turn 80 = .ok (.goto (-24), 3) := dk_167 255 232 (dk_at dksX3_turn_3 10 rfl rfl)
theorem dX3_turn_83 : decode cX3_turn 83 = .ok (.aload_n 1, 1) := dk_43 (dk_at dksX3_turn_3 13 rfl rfl)
theorem dX3_turn_84 : decode cX3_turn 84 = .ok (.aload_n 0, 1) := dk_42 (dk_at dksX3_turn_3 14 rfl rfl)
theorem dX3_turn_85 : decode cX3_turn 85 = .ok (.getfield 13, 3) := dk_180 0 13 (dk_at dksX3_turn_3 15 rfl rfl)
theorem dX3_turn_88 : decode cX3_turn 88 = .ok (.iconst 1, 1) := dk_4 (dk_at dksX3_turn_3 18 rfl rfl)
theorem dX3_turn_89 : decode cX3_turn 89 = .ok (.isub, 1) := dk_100 (dk_at dksX3_turn_3 19 rfl rfl)
theorem dX3_turn_90 : decode cX3_turn 90 = .ok (.iload_n 3, 1) := dk_29 (dk_at dksX3_turn_3 20 rfl rfl)
theorem dX3_turn_91 : decode cX3_turn 91 = .ok (.iastore, 1) := dk_79 (dk_at dksX3_turn_3 21 rfl rfl)
theorem dX3_turn_92 : decode cX3_turn 92 = .ok (.return_, 1) := dk_177 (dk_at dksX3_turn_3 22 rfl rfl)
abbrev cX3_step : ByteArray := prog_17_method_19_code
def yX3_step : MethodName := ⟨RX3, "step", "(I)I"⟩
def dkwX3_step_1 : List UInt8 := [2, 172]
abbrev dktX3_step_1 : List UInt8 := dkwX3_step_1 ++ []
def dkwX3_step_0 : List UInt8 := [42, 27, 3, 42, 180, 0, 54, 4, 100, 182, 0, 195, 153, 0, 12, 42, 180, 0, 60, 27, 46, 167, 0, 4]
abbrev dktX3_step_0 : List UInt8 := dkwX3_step_0 ++ dktX3_step_1
theorem dksX3_step_0 : cX3_step.data.toList.drop 0 = dktX3_step_0 := by decide +kernel
theorem dksX3_step_1 : cX3_step.data.toList.drop 24 = dktX3_step_1 := dk_seg dksX3_step_0 24 rfl rfl
theorem dX3_step_0 : decode cX3_step 0 = .ok (.aload_n 0, 1) := dk_42 (dk_at dksX3_step_0 0 rfl rfl)
theorem dX3_step_1 : decode cX3_step 1 = .ok (.iload_n 1, 1) := dk_27 (dk_at dksX3_step_0 1 rfl rfl)
theorem dX3_step_2 : decode cX3_step 2 = .ok (.iconst 0, 1) := dk_3 (dk_at dksX3_step_0 2 rfl rfl)
theorem dX3_step_3 : decode cX3_step 3 = .ok (.aload_n 0, 1) := dk_42 (dk_at dksX3_step_0 3 rfl rfl)
theorem dX3_step_4 : decode cX3_step 4 = .ok (.getfield 54, 3) := dk_180 0 54 (dk_at dksX3_step_0 4 rfl rfl)
theorem dX3_step_7 : decode cX3_step 7 = .ok (.iconst 1, 1) := dk_4 (dk_at dksX3_step_0 7 rfl rfl)
theorem dX3_step_8 : decode cX3_step 8 = .ok (.isub, 1) := dk_100 (dk_at dksX3_step_0 8 rfl rfl)
theorem dX3_step_9 : decode cX3_step 9 = .ok (.invokevirtual 195, 3) := dk_182 0 195 (dk_at dksX3_step_0 9 rfl rfl)
theorem dX3_step_12 : decode cX3_step 12 = .ok (.ifCond .eq 12, 3) := dk_153 0 12 (dk_at dksX3_step_0 12 rfl rfl)
theorem dX3_step_15 : decode cX3_step 15 = .ok (.aload_n 0, 1) := dk_42 (dk_at dksX3_step_0 15 rfl rfl)
theorem dX3_step_16 : decode cX3_step 16 = .ok (.getfield 60, 3) := dk_180 0 60 (dk_at dksX3_step_0 16 rfl rfl)
theorem dX3_step_19 : decode cX3_step 19 = .ok (.iload_n 1, 1) := dk_27 (dk_at dksX3_step_0 19 rfl rfl)
theorem dX3_step_20 : decode cX3_step 20 = .ok (.iaload, 1) := dk_46 (dk_at dksX3_step_0 20 rfl rfl)
theorem dX3_step_21 : decode cX3_step 21 = .ok (.goto 4, 3) := dk_167 0 4 (dk_at dksX3_step_0 21 rfl rfl)
theorem dX3_step_24 : decode cX3_step 24 = .ok (.iconst (-1), 1) := dk_2 (dk_at dksX3_step_1 0 rfl rfl)
theorem dX3_step_25 : decode cX3_step 25 = .ok (.ireturn, 1) := dk_172 (dk_at dksX3_step_1 1 rfl rfl)
abbrev cX3_rows : ByteArray := prog_17_method_20_code
def yX3_rows : MethodName := ⟨RX3, "rows", "()I"⟩
theorem dX3_rows_0 : decode cX3_rows 0 = .ok (.aload_n 0, 1) := by decide +kernel
theorem dX3_rows_1 : decode cX3_rows 1 = .ok (.getfield 57, 3) := by decide +kernel
theorem dX3_rows_4 : decode cX3_rows 4 = .ok (.ireturn, 1) := by decide +kernel
abbrev cX3_cloth : ByteArray := prog_17_method_22_code
def yX3_cloth : MethodName := ⟨RX3, "cloth", "(III)I"⟩
def dkwX3_cloth_3 : List UInt8 := [42, 180, 0, 41, 42, 27, 28, 182, 0, 222, 46, 172]
abbrev dktX3_cloth_3 : List UInt8 := dkwX3_cloth_3 ++ []
def dkwX3_cloth_2 : List UInt8 := [96, 46, 167, 0, 33, 29, 4, 160, 0, 17, 42, 180, 0, 69, 16, 9, 27, 104, 28, 96, 46, 167, 0, 14]
abbrev dktX3_cloth_2 : List UInt8 := dkwX3_cloth_2 ++ dktX3_cloth_3
def dkwX3_cloth_1 : List UInt8 := [29, 3, 5, 182, 0, 195, 154, 0, 5, 2, 172, 29, 154, 0, 17, 42, 180, 0, 66, 16, 9, 27, 104, 28]
abbrev dktX3_cloth_1 : List UInt8 := dkwX3_cloth_1 ++ dktX3_cloth_2
def dkwX3_cloth_0 : List UInt8 := [42, 27, 3, 42, 180, 0, 57, 4, 100, 182, 0, 195, 153, 0, 21, 42, 28, 182, 0, 199, 153, 0, 13, 42]
abbrev dktX3_cloth_0 : List UInt8 := dkwX3_cloth_0 ++ dktX3_cloth_1
theorem dksX3_cloth_0 : cX3_cloth.data.toList.drop 0 = dktX3_cloth_0 := by decide +kernel
theorem dksX3_cloth_1 : cX3_cloth.data.toList.drop 24 = dktX3_cloth_1 := dk_seg dksX3_cloth_0 24 rfl rfl
theorem dksX3_cloth_2 : cX3_cloth.data.toList.drop 48 = dktX3_cloth_2 := dk_seg dksX3_cloth_1 24 rfl rfl
theorem dksX3_cloth_3 : cX3_cloth.data.toList.drop 72 = dktX3_cloth_3 := dk_seg dksX3_cloth_2 24 rfl rfl
theorem dX3_cloth_0 : decode cX3_cloth 0 = .ok (.aload_n 0, 1) := dk_42 (dk_at dksX3_cloth_0 0 rfl rfl)
theorem dX3_cloth_1 : decode cX3_cloth 1 = .ok (.iload_n 1, 1) := dk_27 (dk_at dksX3_cloth_0 1 rfl rfl)
theorem dX3_cloth_2 : decode cX3_cloth 2 = .ok (.iconst 0, 1) := dk_3 (dk_at dksX3_cloth_0 2 rfl rfl)
theorem dX3_cloth_3 : decode cX3_cloth 3 = .ok (.aload_n 0, 1) := dk_42 (dk_at dksX3_cloth_0 3 rfl rfl)
theorem dX3_cloth_4 : decode cX3_cloth 4 = .ok (.getfield 57, 3) := dk_180 0 57 (dk_at dksX3_cloth_0 4 rfl rfl)
theorem dX3_cloth_7 : decode cX3_cloth 7 = .ok (.iconst 1, 1) := dk_4 (dk_at dksX3_cloth_0 7 rfl rfl)
theorem dX3_cloth_8 : decode cX3_cloth 8 = .ok (.isub, 1) := dk_100 (dk_at dksX3_cloth_0 8 rfl rfl)
theorem dX3_cloth_9 : decode cX3_cloth 9 = .ok (.invokevirtual 195, 3) := dk_182 0 195 (dk_at dksX3_cloth_0 9 rfl rfl)
theorem dX3_cloth_12 : decode cX3_cloth 12 = .ok (.ifCond .eq 21, 3) := dk_153 0 21 (dk_at dksX3_cloth_0 12 rfl rfl)
theorem dX3_cloth_15 : decode cX3_cloth 15 = .ok (.aload_n 0, 1) := dk_42 (dk_at dksX3_cloth_0 15 rfl rfl)
theorem dX3_cloth_16 : decode cX3_cloth 16 = .ok (.iload_n 2, 1) := dk_28 (dk_at dksX3_cloth_0 16 rfl rfl)
theorem dX3_cloth_17 : decode cX3_cloth 17 = .ok (.invokevirtual 199, 3) := dk_182 0 199 (dk_at dksX3_cloth_0 17 rfl rfl)
theorem dX3_cloth_20 : decode cX3_cloth 20 = .ok (.ifCond .eq 13, 3) := dk_153 0 13 (dk_at dksX3_cloth_0 20 rfl rfl)
theorem dX3_cloth_23 : decode cX3_cloth 23 = .ok (.aload_n 0, 1) := dk_42 (dk_at dksX3_cloth_0 23 rfl rfl)
theorem dX3_cloth_24 : decode cX3_cloth 24 = .ok (.iload_n 3, 1) := dk_29 (dk_at dksX3_cloth_1 0 rfl rfl)
theorem dX3_cloth_25 : decode cX3_cloth 25 = .ok (.iconst 0, 1) := dk_3 (dk_at dksX3_cloth_1 1 rfl rfl)
theorem dX3_cloth_26 : decode cX3_cloth 26 = .ok (.iconst 2, 1) := dk_5 (dk_at dksX3_cloth_1 2 rfl rfl)
theorem dX3_cloth_27 : decode cX3_cloth 27 = .ok (.invokevirtual 195, 3) := dk_182 0 195 (dk_at dksX3_cloth_1 3 rfl rfl)
theorem dX3_cloth_30 : decode cX3_cloth 30 = .ok (.ifCond .ne 5, 3) := dk_154 0 5 (dk_at dksX3_cloth_1 6 rfl rfl)
theorem dX3_cloth_33 : decode cX3_cloth 33 = .ok (.iconst (-1), 1) := dk_2 (dk_at dksX3_cloth_1 9 rfl rfl)
theorem dX3_cloth_34 : decode cX3_cloth 34 = .ok (.ireturn, 1) := dk_172 (dk_at dksX3_cloth_1 10 rfl rfl)
theorem dX3_cloth_35 : decode cX3_cloth 35 = .ok (.iload_n 3, 1) := dk_29 (dk_at dksX3_cloth_1 11 rfl rfl)
theorem dX3_cloth_36 : decode cX3_cloth 36 = .ok (.ifCond .ne 17, 3) := dk_154 0 17 (dk_at dksX3_cloth_1 12 rfl rfl)
theorem dX3_cloth_39 : decode cX3_cloth 39 = .ok (.aload_n 0, 1) := dk_42 (dk_at dksX3_cloth_1 15 rfl rfl)
theorem dX3_cloth_40 : decode cX3_cloth 40 = .ok (.getfield 66, 3) := dk_180 0 66 (dk_at dksX3_cloth_1 16 rfl rfl)
theorem dX3_cloth_43 : decode cX3_cloth 43 = .ok (.bipush 9, 2) := dk_16 9 (dk_at dksX3_cloth_1 19 rfl rfl)
theorem dX3_cloth_45 : decode cX3_cloth 45 = .ok (.iload_n 1, 1) := dk_27 (dk_at dksX3_cloth_1 21 rfl rfl)
theorem dX3_cloth_46 : decode cX3_cloth 46 = .ok (.imul, 1) := dk_104 (dk_at dksX3_cloth_1 22 rfl rfl)
theorem dX3_cloth_47 : decode cX3_cloth 47 = .ok (.iload_n 2, 1) := dk_28 (dk_at dksX3_cloth_1 23 rfl rfl)
theorem dX3_cloth_48 : decode cX3_cloth 48 = .ok (.iadd, 1) := dk_96 (dk_at dksX3_cloth_2 0 rfl rfl)
theorem dX3_cloth_49 : decode cX3_cloth 49 = .ok (.iaload, 1) := dk_46 (dk_at dksX3_cloth_2 1 rfl rfl)
theorem dX3_cloth_50 : decode cX3_cloth 50 = .ok (.goto 33, 3) := dk_167 0 33 (dk_at dksX3_cloth_2 2 rfl rfl)
theorem dX3_cloth_53 : decode cX3_cloth 53 = .ok (.iload_n 3, 1) := dk_29 (dk_at dksX3_cloth_2 5 rfl rfl)
theorem dX3_cloth_54 : decode cX3_cloth 54 = .ok (.iconst 1, 1) := dk_4 (dk_at dksX3_cloth_2 6 rfl rfl)
theorem dX3_cloth_55 : decode cX3_cloth 55 = .ok (.if_icmp .ne 17, 3) := dk_160 0 17 (dk_at dksX3_cloth_2 7 rfl rfl)
theorem dX3_cloth_58 : decode cX3_cloth 58 = .ok (.aload_n 0, 1) := dk_42 (dk_at dksX3_cloth_2 10 rfl rfl)
theorem dX3_cloth_59 : decode cX3_cloth 59 = .ok (.getfield 69, 3) := dk_180 0 69 (dk_at dksX3_cloth_2 11 rfl rfl)
theorem dX3_cloth_62 : decode cX3_cloth 62 = .ok (.bipush 9, 2) := dk_16 9 (dk_at dksX3_cloth_2 14 rfl rfl)
theorem dX3_cloth_64 : decode cX3_cloth 64 = .ok (.iload_n 1, 1) := dk_27 (dk_at dksX3_cloth_2 16 rfl rfl)
theorem dX3_cloth_65 : decode cX3_cloth 65 = .ok (.imul, 1) := dk_104 (dk_at dksX3_cloth_2 17 rfl rfl)
theorem dX3_cloth_66 : decode cX3_cloth 66 = .ok (.iload_n 2, 1) := dk_28 (dk_at dksX3_cloth_2 18 rfl rfl)
theorem dX3_cloth_67 : decode cX3_cloth 67 = .ok (.iadd, 1) := dk_96 (dk_at dksX3_cloth_2 19 rfl rfl)
theorem dX3_cloth_68 : decode cX3_cloth 68 = .ok (.iaload, 1) := dk_46 (dk_at dksX3_cloth_2 20 rfl rfl)
theorem dX3_cloth_69 : decode cX3_cloth 69 = .ok (.goto 14, 3) := dk_167 0 14 (dk_at dksX3_cloth_2 21 rfl rfl)
theorem dX3_cloth_72 : decode cX3_cloth 72 = .ok (.aload_n 0, 1) := dk_42 (dk_at dksX3_cloth_3 0 rfl rfl)
theorem dX3_cloth_73 : decode cX3_cloth 73 = .ok (.getfield 41, 3) := dk_180 0 41 (dk_at dksX3_cloth_3 1 rfl rfl)
theorem dX3_cloth_76 : decode cX3_cloth 76 = .ok (.aload_n 0, 1) := dk_42 (dk_at dksX3_cloth_3 4 rfl rfl)
theorem dX3_cloth_77 : decode cX3_cloth 77 = .ok (.iload_n 1, 1) := dk_27 (dk_at dksX3_cloth_3 5 rfl rfl)
theorem dX3_cloth_78 : decode cX3_cloth 78 = .ok (.iload_n 2, 1) := dk_28 (dk_at dksX3_cloth_3 6 rfl rfl)
theorem dX3_cloth_79 : decode cX3_cloth 79 = .ok (.invokevirtual 222, 3) := dk_182 0 222 (dk_at dksX3_cloth_3 7 rfl rfl)
theorem dX3_cloth_82 : decode cX3_cloth 82 = .ok (.iaload, 1) := dk_46 (dk_at dksX3_cloth_3 10 rfl rfl)
theorem dX3_cloth_83 : decode cX3_cloth 83 = .ok (.ireturn, 1) := dk_172 (dk_at dksX3_cloth_3 11 rfl rfl)
abbrev cX3_topRibbon : ByteArray := prog_17_method_21_code
def yX3_topRibbon : MethodName := ⟨RX3, "topRibbon", "(II)I"⟩
def dkwX3_topRibbon_2 : List UInt8 := [46, 167, 0, 14, 42, 180, 0, 66, 16, 9, 27, 104, 28, 96, 46, 172]
abbrev dktX3_topRibbon_2 : List UInt8 := dkwX3_topRibbon_2 ++ []
def dkwX3_topRibbon_1 : List UInt8 := [28, 182, 0, 219, 96, 46, 5, 159, 0, 21, 42, 180, 0, 66, 16, 9, 27, 104, 42, 28, 182, 0, 207, 96]
abbrev dktX3_topRibbon_1 : List UInt8 := dkwX3_topRibbon_1 ++ dktX3_topRibbon_2
def dkwX3_topRibbon_0 : List UInt8 := [42, 180, 0, 69, 16, 9, 27, 104, 28, 96, 46, 4, 160, 0, 40, 42, 180, 0, 69, 16, 9, 27, 104, 42]
abbrev dktX3_topRibbon_0 : List UInt8 := dkwX3_topRibbon_0 ++ dktX3_topRibbon_1
theorem dksX3_topRibbon_0 : cX3_topRibbon.data.toList.drop 0 = dktX3_topRibbon_0 := by decide +kernel
theorem dksX3_topRibbon_1 : cX3_topRibbon.data.toList.drop 24 = dktX3_topRibbon_1 := dk_seg dksX3_topRibbon_0 24 rfl rfl
theorem dksX3_topRibbon_2 : cX3_topRibbon.data.toList.drop 48 = dktX3_topRibbon_2 := dk_seg dksX3_topRibbon_1 24 rfl rfl
theorem dX3_topRibbon_0 : decode cX3_topRibbon 0 = .ok (.aload_n 0, 1) := dk_42 (dk_at dksX3_topRibbon_0 0 rfl rfl)
theorem dX3_topRibbon_1 : decode cX3_topRibbon 1 = .ok (.getfield 69, 3) := dk_180 0 69 (dk_at dksX3_topRibbon_0 1 rfl rfl)
theorem dX3_topRibbon_4 : decode cX3_topRibbon 4 = .ok (.bipush 9, 2) := dk_16 9 (dk_at dksX3_topRibbon_0 4 rfl rfl)
theorem dX3_topRibbon_6 : decode cX3_topRibbon 6 = .ok (.iload_n 1, 1) := dk_27 (dk_at dksX3_topRibbon_0 6 rfl rfl)
theorem dX3_topRibbon_7 : decode cX3_topRibbon 7 = .ok (.imul, 1) := dk_104 (dk_at dksX3_topRibbon_0 7 rfl rfl)
theorem dX3_topRibbon_8 : decode cX3_topRibbon 8 = .ok (.iload_n 2, 1) := dk_28 (dk_at dksX3_topRibbon_0 8 rfl rfl)
theorem dX3_topRibbon_9 : decode cX3_topRibbon 9 = .ok (.iadd, 1) := dk_96 (dk_at dksX3_topRibbon_0 9 rfl rfl)
theorem dX3_topRibbon_10 : decode cX3_topRibbon 10 = .ok (.iaload, 1) := dk_46 (dk_at dksX3_topRibbon_0 10 rfl rfl)
theorem dX3_topRibbon_11 : decode cX3_topRibbon 11 = .ok (.iconst 1, 1) := dk_4 (dk_at dksX3_topRibbon_0 11 rfl rfl)
theorem dX3_topRibbon_12 : decode cX3_topRibbon 12 = .ok (.if_icmp .ne 40, 3) := dk_160 0 40 (dk_at dksX3_topRibbon_0 12 rfl rfl)
theorem dX3_topRibbon_15 : decode cX3_topRibbon 15 = .ok (.aload_n 0, 1) := dk_42 (dk_at dksX3_topRibbon_0 15 rfl rfl)
theorem dX3_topRibbon_16 : decode cX3_topRibbon 16 = .ok (.getfield 69, 3) := dk_180 0 69 (dk_at dksX3_topRibbon_0 16 rfl rfl)
theorem dX3_topRibbon_19 : decode cX3_topRibbon 19 = .ok (.bipush 9, 2) := dk_16 9 (dk_at dksX3_topRibbon_0 19 rfl rfl)
theorem dX3_topRibbon_21 : decode cX3_topRibbon 21 = .ok (.iload_n 1, 1) := dk_27 (dk_at dksX3_topRibbon_0 21 rfl rfl)
theorem dX3_topRibbon_22 : decode cX3_topRibbon 22 = .ok (.imul, 1) := dk_104 (dk_at dksX3_topRibbon_0 22 rfl rfl)
theorem dX3_topRibbon_23 : decode cX3_topRibbon 23 = .ok (.aload_n 0, 1) := dk_42 (dk_at dksX3_topRibbon_0 23 rfl rfl)
theorem dX3_topRibbon_24 : decode cX3_topRibbon 24 = .ok (.iload_n 2, 1) := dk_28 (dk_at dksX3_topRibbon_1 0 rfl rfl)
theorem dX3_topRibbon_25 : decode cX3_topRibbon 25 = .ok (.invokevirtual 219, 3) := dk_182 0 219 (dk_at dksX3_topRibbon_1 1 rfl rfl)
theorem dX3_topRibbon_28 : decode cX3_topRibbon 28 = .ok (.iadd, 1) := dk_96 (dk_at dksX3_topRibbon_1 4 rfl rfl)
theorem dX3_topRibbon_29 : decode cX3_topRibbon 29 = .ok (.iaload, 1) := dk_46 (dk_at dksX3_topRibbon_1 5 rfl rfl)
theorem dX3_topRibbon_30 : decode cX3_topRibbon 30 = .ok (.iconst 2, 1) := dk_5 (dk_at dksX3_topRibbon_1 6 rfl rfl)
theorem dX3_topRibbon_31 : decode cX3_topRibbon 31 = .ok (.if_icmp .eq 21, 3) := dk_159 0 21 (dk_at dksX3_topRibbon_1 7 rfl rfl)
theorem dX3_topRibbon_34 : decode cX3_topRibbon 34 = .ok (.aload_n 0, 1) := dk_42 (dk_at dksX3_topRibbon_1 10 rfl rfl)
theorem dX3_topRibbon_35 : decode cX3_topRibbon 35 = .ok (.getfield 66, 3) := dk_180 0 66 (dk_at dksX3_topRibbon_1 11 rfl rfl)
theorem dX3_topRibbon_38 : decode cX3_topRibbon 38 = .ok (.bipush 9, 2) := dk_16 9 (dk_at dksX3_topRibbon_1 14 rfl rfl)
theorem dX3_topRibbon_40 : decode cX3_topRibbon 40 = .ok (.iload_n 1, 1) := dk_27 (dk_at dksX3_topRibbon_1 16 rfl rfl)
theorem dX3_topRibbon_41 : decode cX3_topRibbon 41 = .ok (.imul, 1) := dk_104 (dk_at dksX3_topRibbon_1 17 rfl rfl)
theorem dX3_topRibbon_42 : decode cX3_topRibbon 42 = .ok (.aload_n 0, 1) := dk_42 (dk_at dksX3_topRibbon_1 18 rfl rfl)
theorem dX3_topRibbon_43 : decode cX3_topRibbon 43 = .ok (.iload_n 2, 1) := dk_28 (dk_at dksX3_topRibbon_1 19 rfl rfl)
theorem dX3_topRibbon_44 : decode cX3_topRibbon 44 = .ok (.invokevirtual 207, 3) := dk_182 0 207 (dk_at dksX3_topRibbon_1 20 rfl rfl)
theorem dX3_topRibbon_47 : decode cX3_topRibbon 47 = .ok (.iadd, 1) := dk_96 (dk_at dksX3_topRibbon_1 23 rfl rfl)
theorem dX3_topRibbon_48 : decode cX3_topRibbon 48 = .ok (.iaload, 1) := dk_46 (dk_at dksX3_topRibbon_2 0 rfl rfl)
theorem dX3_topRibbon_49 : decode cX3_topRibbon 49 = .ok (.goto 14, 3) := dk_167 0 14 (dk_at dksX3_topRibbon_2 1 rfl rfl)
theorem dX3_topRibbon_52 : decode cX3_topRibbon 52 = .ok (.aload_n 0, 1) := dk_42 (dk_at dksX3_topRibbon_2 4 rfl rfl)
theorem dX3_topRibbon_53 : decode cX3_topRibbon 53 = .ok (.getfield 66, 3) := dk_180 0 66 (dk_at dksX3_topRibbon_2 5 rfl rfl)
theorem dX3_topRibbon_56 : decode cX3_topRibbon 56 = .ok (.bipush 9, 2) := dk_16 9 (dk_at dksX3_topRibbon_2 8 rfl rfl)
theorem dX3_topRibbon_58 : decode cX3_topRibbon 58 = .ok (.iload_n 1, 1) := dk_27 (dk_at dksX3_topRibbon_2 10 rfl rfl)
theorem dX3_topRibbon_59 : decode cX3_topRibbon 59 = .ok (.imul, 1) := dk_104 (dk_at dksX3_topRibbon_2 11 rfl rfl)
theorem dX3_topRibbon_60 : decode cX3_topRibbon 60 = .ok (.iload_n 2, 1) := dk_28 (dk_at dksX3_topRibbon_2 12 rfl rfl)
theorem dX3_topRibbon_61 : decode cX3_topRibbon 61 = .ok (.iadd, 1) := dk_96 (dk_at dksX3_topRibbon_2 13 rfl rfl)
theorem dX3_topRibbon_62 : decode cX3_topRibbon 62 = .ok (.iaload, 1) := dk_46 (dk_at dksX3_topRibbon_2 14 rfl rfl)
theorem dX3_topRibbon_63 : decode cX3_topRibbon 63 = .ok (.ireturn, 1) := dk_172 (dk_at dksX3_topRibbon_2 15 rfl rfl)
abbrev cX3_ahead : ByteArray := prog_17_method_14_code
def yX3_ahead : MethodName := ⟨RX3, "ahead", "(I)I"⟩
def dkwX3_ahead_0 : List UInt8 := [27, 154, 0, 12, 42, 180, 0, 13, 4, 100, 167, 0, 6, 27, 4, 100, 172]
abbrev dktX3_ahead_0 : List UInt8 := dkwX3_ahead_0 ++ []
theorem dksX3_ahead_0 : cX3_ahead.data.toList.drop 0 = dktX3_ahead_0 := by decide +kernel
theorem dX3_ahead_0 : decode cX3_ahead 0 = .ok (.iload_n 1, 1) := dk_27 (dk_at dksX3_ahead_0 0 rfl rfl)
theorem dX3_ahead_1 : decode cX3_ahead 1 = .ok (.ifCond .ne 12, 3) := dk_154 0 12 (dk_at dksX3_ahead_0 1 rfl rfl)
theorem dX3_ahead_4 : decode cX3_ahead 4 = .ok (.aload_n 0, 1) := dk_42 (dk_at dksX3_ahead_0 4 rfl rfl)
theorem dX3_ahead_5 : decode cX3_ahead 5 = .ok (.getfield 13, 3) := dk_180 0 13 (dk_at dksX3_ahead_0 5 rfl rfl)
theorem dX3_ahead_8 : decode cX3_ahead 8 = .ok (.iconst 1, 1) := dk_4 (dk_at dksX3_ahead_0 8 rfl rfl)
theorem dX3_ahead_9 : decode cX3_ahead 9 = .ok (.isub, 1) := dk_100 (dk_at dksX3_ahead_0 9 rfl rfl)
theorem dX3_ahead_10 : decode cX3_ahead 10 = .ok (.goto 6, 3) := dk_167 0 6 (dk_at dksX3_ahead_0 10 rfl rfl)
theorem dX3_ahead_13 : decode cX3_ahead 13 = .ok (.iload_n 1, 1) := dk_27 (dk_at dksX3_ahead_0 13 rfl rfl)
theorem dX3_ahead_14 : decode cX3_ahead 14 = .ok (.iconst 1, 1) := dk_4 (dk_at dksX3_ahead_0 14 rfl rfl)
theorem dX3_ahead_15 : decode cX3_ahead 15 = .ok (.isub, 1) := dk_100 (dk_at dksX3_ahead_0 15 rfl rfl)
theorem dX3_ahead_16 : decode cX3_ahead 16 = .ok (.ireturn, 1) := dk_172 (dk_at dksX3_ahead_0 16 rfl rfl)
abbrev cX3_beat : ByteArray := prog_17_method_24_code
def yX3_beat : MethodName := ⟨RX3, "beat", "()I"⟩
def dkwX3_beat_3 : List UInt8 := [180, 0, 57, 172]
abbrev dktX3_beat_3 : List UInt8 := dkwX3_beat_3 ++ []
def dkwX3_beat_2 : List UInt8 := [167, 0, 4, 3, 61, 132, 3, 1, 167, 255, 224, 28, 153, 0, 5, 27, 172, 132, 1, 1, 167, 255, 200, 42]
abbrev dktX3_beat_2 : List UInt8 := dkwX3_beat_2 ++ dktX3_beat_3
def dkwX3_beat_1 : List UInt8 := [29, 42, 180, 0, 57, 162, 0, 30, 28, 153, 0, 18, 42, 29, 29, 27, 100, 182, 0, 226, 153, 0, 7, 4]
abbrev dktX3_beat_1 : List UInt8 := dkwX3_beat_1 ++ dktX3_beat_2
def dkwX3_beat_0 : List UInt8 := [42, 180, 0, 57, 154, 0, 6, 16, 253, 172, 4, 60, 27, 42, 180, 0, 57, 162, 0, 54, 4, 61, 27, 62]
abbrev dktX3_beat_0 : List UInt8 := dkwX3_beat_0 ++ dktX3_beat_1
theorem dksX3_beat_0 : cX3_beat.data.toList.drop 0 = dktX3_beat_0 := by decide +kernel
theorem dksX3_beat_1 : cX3_beat.data.toList.drop 24 = dktX3_beat_1 := dk_seg dksX3_beat_0 24 rfl rfl
theorem dksX3_beat_2 : cX3_beat.data.toList.drop 48 = dktX3_beat_2 := dk_seg dksX3_beat_1 24 rfl rfl
theorem dksX3_beat_3 : cX3_beat.data.toList.drop 72 = dktX3_beat_3 := dk_seg dksX3_beat_2 24 rfl rfl
theorem dX3_beat_0 : decode cX3_beat 0 = .ok (.aload_n 0, 1) := dk_42 (dk_at dksX3_beat_0 0 rfl rfl)
theorem dX3_beat_1 : decode cX3_beat 1 = .ok (.getfield 57, 3) := dk_180 0 57 (dk_at dksX3_beat_0 1 rfl rfl)
theorem dX3_beat_4 : decode cX3_beat 4 = .ok (.ifCond .ne 6, 3) := dk_154 0 6 (dk_at dksX3_beat_0 4 rfl rfl)
theorem dX3_beat_7 : decode cX3_beat 7 = .ok (.bipush (-3), 2) := dk_16 253 (dk_at dksX3_beat_0 7 rfl rfl)
theorem dX3_beat_9 : decode cX3_beat 9 = .ok (.ireturn, 1) := dk_172 (dk_at dksX3_beat_0 9 rfl rfl)
theorem dX3_beat_10 : decode cX3_beat 10 = .ok (.iconst 1, 1) := dk_4 (dk_at dksX3_beat_0 10 rfl rfl)
theorem dX3_beat_11 : decode cX3_beat 11 = .ok (.istore_n 1, 1) := dk_60 (dk_at dksX3_beat_0 11 rfl rfl)
theorem dX3_beat_12 : decode cX3_beat 12 = .ok (.iload_n 1, 1) := dk_27 (dk_at dksX3_beat_0 12 rfl rfl)
theorem dX3_beat_13 : decode cX3_beat 13 = .ok (.aload_n 0, 1) := dk_42 (dk_at dksX3_beat_0 13 rfl rfl)
theorem dX3_beat_14 : decode cX3_beat 14 = .ok (.getfield 57, 3) := dk_180 0 57 (dk_at dksX3_beat_0 14 rfl rfl)
theorem dX3_beat_17 : decode cX3_beat 17 = .ok (.if_icmp .ge 54, 3) := dk_162 0 54 (dk_at dksX3_beat_0 17 rfl rfl)
theorem dX3_beat_20 : decode cX3_beat 20 = .ok (.iconst 1, 1) := dk_4 (dk_at dksX3_beat_0 20 rfl rfl)
theorem dX3_beat_21 : decode cX3_beat 21 = .ok (.istore_n 2, 1) := dk_61 (dk_at dksX3_beat_0 21 rfl rfl)
theorem dX3_beat_22 : decode cX3_beat 22 = .ok (.iload_n 1, 1) := dk_27 (dk_at dksX3_beat_0 22 rfl rfl)
theorem dX3_beat_23 : decode cX3_beat 23 = .ok (.istore_n 3, 1) := dk_62 (dk_at dksX3_beat_0 23 rfl rfl)
theorem dX3_beat_24 : decode cX3_beat 24 = .ok (.iload_n 3, 1) := dk_29 (dk_at dksX3_beat_1 0 rfl rfl)
theorem dX3_beat_25 : decode cX3_beat 25 = .ok (.aload_n 0, 1) := dk_42 (dk_at dksX3_beat_1 1 rfl rfl)
theorem dX3_beat_26 : decode cX3_beat 26 = .ok (.getfield 57, 3) := dk_180 0 57 (dk_at dksX3_beat_1 2 rfl rfl)
theorem dX3_beat_29 : decode cX3_beat 29 = .ok (.if_icmp .ge 30, 3) := dk_162 0 30 (dk_at dksX3_beat_1 5 rfl rfl)
theorem dX3_beat_32 : decode cX3_beat 32 = .ok (.iload_n 2, 1) := dk_28 (dk_at dksX3_beat_1 8 rfl rfl)
theorem dX3_beat_33 : decode cX3_beat 33 = .ok (.ifCond .eq 18, 3) := dk_153 0 18 (dk_at dksX3_beat_1 9 rfl rfl)
theorem dX3_beat_36 : decode cX3_beat 36 = .ok (.aload_n 0, 1) := dk_42 (dk_at dksX3_beat_1 12 rfl rfl)
theorem dX3_beat_37 : decode cX3_beat 37 = .ok (.iload_n 3, 1) := dk_29 (dk_at dksX3_beat_1 13 rfl rfl)
theorem dX3_beat_38 : decode cX3_beat 38 = .ok (.iload_n 3, 1) := dk_29 (dk_at dksX3_beat_1 14 rfl rfl)
theorem dX3_beat_39 : decode cX3_beat 39 = .ok (.iload_n 1, 1) := dk_27 (dk_at dksX3_beat_1 15 rfl rfl)
theorem dX3_beat_40 : decode cX3_beat 40 = .ok (.isub, 1) := dk_100 (dk_at dksX3_beat_1 16 rfl rfl)
theorem dX3_beat_41 : decode cX3_beat 41 = .ok (.invokevirtual 226, 3) := dk_182 0 226 (dk_at dksX3_beat_1 17 rfl rfl)
theorem dX3_beat_44 : decode cX3_beat 44 = .ok (.ifCond .eq 7, 3) := dk_153 0 7 (dk_at dksX3_beat_1 20 rfl rfl)
theorem dX3_beat_47 : decode cX3_beat 47 = .ok (.iconst 1, 1) := dk_4 (dk_at dksX3_beat_1 23 rfl rfl)
theorem dX3_beat_48 : decode cX3_beat 48 = .ok (.goto 4, 3) := dk_167 0 4 (dk_at dksX3_beat_2 0 rfl rfl)
theorem dX3_beat_51 : decode cX3_beat 51 = .ok (.iconst 0, 1) := dk_3 (dk_at dksX3_beat_2 3 rfl rfl)
theorem dX3_beat_52 : decode cX3_beat 52 = .ok (.istore_n 2, 1) := dk_61 (dk_at dksX3_beat_2 4 rfl rfl)
theorem dX3_beat_53 : decode cX3_beat 53 = .ok (.iinc 3 1, 3) := dk_132 3 1 (dk_at dksX3_beat_2 5 rfl rfl)
theorem dX3_beat_56 : decode cX3_beat 56 = .ok (.goto (-32), 3) := dk_167 255 224 (dk_at dksX3_beat_2 8 rfl rfl)
theorem dX3_beat_59 : decode cX3_beat 59 = .ok (.iload_n 2, 1) := dk_28 (dk_at dksX3_beat_2 11 rfl rfl)
theorem dX3_beat_60 : decode cX3_beat 60 = .ok (.ifCond .eq 5, 3) := dk_153 0 5 (dk_at dksX3_beat_2 12 rfl rfl)
theorem dX3_beat_63 : decode cX3_beat 63 = .ok (.iload_n 1, 1) := dk_27 (dk_at dksX3_beat_2 15 rfl rfl)
theorem dX3_beat_64 : decode cX3_beat 64 = .ok (.ireturn, 1) := dk_172 (dk_at dksX3_beat_2 16 rfl rfl)
theorem dX3_beat_65 : decode cX3_beat 65 = .ok (.iinc 1 1, 3) := dk_132 1 1 (dk_at dksX3_beat_2 17 rfl rfl)
theorem dX3_beat_68 : decode cX3_beat 68 = .ok (.goto (-56), 3) := dk_167 255 200 (dk_at dksX3_beat_2 20 rfl rfl)
theorem dX3_beat_71 : decode cX3_beat 71 = .ok (.aload_n 0, 1) := dk_42 (dk_at dksX3_beat_2 23 rfl rfl)
theorem dX3_beat_72 : decode cX3_beat 72 = .ok (.getfield 57, 3) := dk_180 0 57 (dk_at dksX3_beat_3 0 rfl rfl)
theorem dX3_beat_75 : decode cX3_beat 75 = .ok (.ireturn, 1) := dk_172 (dk_at dksX3_beat_3 3 rfl rfl)
abbrev cX3_areLike : ByteArray := prog_17_method_23_code
def yX3_areLike : MethodName := ⟨RX3, "areLike", "(II)Z"⟩
def dkwX3_areLike_2 : List UInt8 := [167, 0, 4, 3, 62, 132, 4, 1, 167, 255, 207, 29, 172]
abbrev dktX3_areLike_2 : List UInt8 := dkwX3_areLike_2 ++ []
def dkwX3_areLike_1 : List UInt8 := [21, 4, 182, 0, 222, 46, 42, 180, 0, 41, 42, 28, 21, 4, 182, 0, 222, 46, 160, 0, 7, 4]
abbrev dktX3_areLike_1 : List UInt8 := dkwX3_areLike_1 ++ dktX3_areLike_2
def dkwX3_areLike_0 : List UInt8 := [4, 62, 3, 54, 4, 21, 4, 42, 180, 0, 13, 162, 0, 46, 29, 153, 0, 34, 42, 180, 0, 41, 42, 27]
abbrev dktX3_areLike_0 : List UInt8 := dkwX3_areLike_0 ++ dktX3_areLike_1
theorem dksX3_areLike_0 : cX3_areLike.data.toList.drop 0 = dktX3_areLike_0 := by decide +kernel
theorem dksX3_areLike_1 : cX3_areLike.data.toList.drop 24 = dktX3_areLike_1 := dk_seg dksX3_areLike_0 24 rfl rfl
theorem dksX3_areLike_2 : cX3_areLike.data.toList.drop 46 = dktX3_areLike_2 := dk_seg dksX3_areLike_1 22 rfl rfl
theorem dX3_areLike_0 : decode cX3_areLike 0 = .ok (.iconst 1, 1) := dk_4 (dk_at dksX3_areLike_0 0 rfl rfl)
theorem dX3_areLike_1 : decode cX3_areLike 1 = .ok (.istore_n 3, 1) := dk_62 (dk_at dksX3_areLike_0 1 rfl rfl)
theorem dX3_areLike_2 : decode cX3_areLike 2 = .ok (.iconst 0, 1) := dk_3 (dk_at dksX3_areLike_0 2 rfl rfl)
theorem dX3_areLike_3 : decode cX3_areLike 3 = .ok (.istore 4, 2) := dk_54 4 (dk_at dksX3_areLike_0 3 rfl rfl)
theorem dX3_areLike_5 : decode cX3_areLike 5 = .ok (.iload 4, 2) := dk_21 4 (dk_at dksX3_areLike_0 5 rfl rfl)
theorem dX3_areLike_7 : decode cX3_areLike 7 = .ok (.aload_n 0, 1) := dk_42 (dk_at dksX3_areLike_0 7 rfl rfl)
theorem dX3_areLike_8 : decode cX3_areLike 8 = .ok (.getfield 13, 3) := dk_180 0 13 (dk_at dksX3_areLike_0 8 rfl rfl)
theorem dX3_areLike_11 : decode cX3_areLike 11 = .ok (.if_icmp .ge 46, 3) := dk_162 0 46 (dk_at dksX3_areLike_0 11 rfl rfl)
theorem dX3_areLike_14 : decode cX3_areLike 14 = .ok (.iload_n 3, 1) := dk_29 (dk_at dksX3_areLike_0 14 rfl rfl)
theorem dX3_areLike_15 : decode cX3_areLike 15 = .ok (.ifCond .eq 34, 3) := dk_153 0 34 (dk_at dksX3_areLike_0 15 rfl rfl)
theorem dX3_areLike_18 : decode cX3_areLike 18 = .ok (.aload_n 0, 1) := dk_42 (dk_at dksX3_areLike_0 18 rfl rfl)
theorem dX3_areLike_19 : decode cX3_areLike 19 = .ok (.getfield 41, 3) := dk_180 0 41 (dk_at dksX3_areLike_0 19 rfl rfl)
theorem dX3_areLike_22 : decode cX3_areLike 22 = .ok (.aload_n 0, 1) := dk_42 (dk_at dksX3_areLike_0 22 rfl rfl)
theorem dX3_areLike_23 : decode cX3_areLike 23 = .ok (.iload_n 1, 1) := dk_27 (dk_at dksX3_areLike_0 23 rfl rfl)
theorem dX3_areLike_24 : decode cX3_areLike 24 = .ok (.iload 4, 2) := dk_21 4 (dk_at dksX3_areLike_1 0 rfl rfl)
theorem dX3_areLike_26 : decode cX3_areLike 26 = .ok (.invokevirtual 222, 3) := dk_182 0 222 (dk_at dksX3_areLike_1 2 rfl rfl)
theorem dX3_areLike_29 : decode cX3_areLike 29 = .ok (.iaload, 1) := dk_46 (dk_at dksX3_areLike_1 5 rfl rfl)
theorem dX3_areLike_30 : decode cX3_areLike 30 = .ok (.aload_n 0, 1) := dk_42 (dk_at dksX3_areLike_1 6 rfl rfl)
theorem dX3_areLike_31 : decode cX3_areLike 31 = .ok (.getfield 41, 3) := dk_180 0 41 (dk_at dksX3_areLike_1 7 rfl rfl)
theorem dX3_areLike_34 : decode cX3_areLike 34 = .ok (.aload_n 0, 1) := dk_42 (dk_at dksX3_areLike_1 10 rfl rfl)
theorem dX3_areLike_35 : decode cX3_areLike 35 = .ok (.iload_n 2, 1) := dk_28 (dk_at dksX3_areLike_1 11 rfl rfl)
theorem dX3_areLike_36 : decode cX3_areLike 36 = .ok (.iload 4, 2) := dk_21 4 (dk_at dksX3_areLike_1 12 rfl rfl)
theorem dX3_areLike_38 : decode cX3_areLike 38 = .ok (.invokevirtual 222, 3) := dk_182 0 222 (dk_at dksX3_areLike_1 14 rfl rfl)
theorem dX3_areLike_41 : decode cX3_areLike 41 = .ok (.iaload, 1) := dk_46 (dk_at dksX3_areLike_1 17 rfl rfl)
theorem dX3_areLike_42 : decode cX3_areLike 42 = .ok (.if_icmp .ne 7, 3) := dk_160 0 7 (dk_at dksX3_areLike_1 18 rfl rfl)
theorem dX3_areLike_45 : decode cX3_areLike 45 = .ok (.iconst 1, 1) := dk_4 (dk_at dksX3_areLike_1 21 rfl rfl)
theorem dX3_areLike_46 : decode cX3_areLike 46 = .ok (.goto 4, 3) := dk_167 0 4 (dk_at dksX3_areLike_2 0 rfl rfl)
theorem dX3_areLike_49 : decode cX3_areLike 49 = .ok (.iconst 0, 1) := dk_3 (dk_at dksX3_areLike_2 3 rfl rfl)
theorem dX3_areLike_50 : decode cX3_areLike 50 = .ok (.istore_n 3, 1) := dk_62 (dk_at dksX3_areLike_2 4 rfl rfl)
theorem dX3_areLike_51 : decode cX3_areLike 51 = .ok (.iinc 4 1, 3) := dk_132 4 1 (dk_at dksX3_areLike_2 5 rfl rfl)
theorem dX3_areLike_54 : decode cX3_areLike 54 = .ok (.goto (-49), 3) := dk_167 255 207 (dk_at dksX3_areLike_2 8 rfl rfl)
theorem dX3_areLike_57 : decode cX3_areLike 57 = .ok (.iload_n 3, 1) := dk_29 (dk_at dksX3_areLike_2 11 rfl rfl)
theorem dX3_areLike_58 : decode cX3_areLike 58 = .ok (.ireturn, 1) := dk_172 (dk_at dksX3_areLike_2 12 rfl rfl)
abbrev cX3_picture : ByteArray := prog_17_method_25_code
def yX3_picture : MethodName := ⟨RX3, "picture", "(III)I"⟩
def dkwX3_picture_3 : List UInt8 := [180, 0, 81, 42, 180, 0, 72, 29, 79, 42, 89, 180, 0, 72, 4, 96, 181, 0, 72, 42, 180, 0, 72, 172]
abbrev dktX3_picture_3 : List UInt8 := dkwX3_picture_3 ++ []
def dkwX3_picture_2 : List UInt8 := [16, 252, 172, 42, 180, 0, 75, 42, 180, 0, 72, 27, 79, 42, 180, 0, 78, 42, 180, 0, 72, 28, 79, 42]
abbrev dktX3_picture_2 : List UInt8 := dkwX3_picture_2 ++ dktX3_picture_3
def dkwX3_picture_1 : List UInt8 := [42, 29, 3, 16, 7, 182, 0, 195, 154, 0, 6, 16, 254, 172, 42, 180, 0, 72, 16, 40, 160, 0, 6]
abbrev dktX3_picture_1 : List UInt8 := dkwX3_picture_1 ++ dktX3_picture_2
def dkwX3_picture_0 : List UInt8 := [42, 27, 3, 16, 99, 182, 0, 195, 153, 0, 14, 42, 28, 3, 16, 8, 182, 0, 195, 154, 0, 5, 2, 172]
abbrev dktX3_picture_0 : List UInt8 := dkwX3_picture_0 ++ dktX3_picture_1
theorem dksX3_picture_0 : cX3_picture.data.toList.drop 0 = dktX3_picture_0 := by decide +kernel
theorem dksX3_picture_1 : cX3_picture.data.toList.drop 24 = dktX3_picture_1 := dk_seg dksX3_picture_0 24 rfl rfl
theorem dksX3_picture_2 : cX3_picture.data.toList.drop 47 = dktX3_picture_2 := dk_seg dksX3_picture_1 23 rfl rfl
theorem dksX3_picture_3 : cX3_picture.data.toList.drop 71 = dktX3_picture_3 := dk_seg dksX3_picture_2 24 rfl rfl
theorem dX3_picture_0 : decode cX3_picture 0 = .ok (.aload_n 0, 1) := dk_42 (dk_at dksX3_picture_0 0 rfl rfl)
theorem dX3_picture_1 : decode cX3_picture 1 = .ok (.iload_n 1, 1) := dk_27 (dk_at dksX3_picture_0 1 rfl rfl)
theorem dX3_picture_2 : decode cX3_picture 2 = .ok (.iconst 0, 1) := dk_3 (dk_at dksX3_picture_0 2 rfl rfl)
theorem dX3_picture_3 : decode cX3_picture 3 = .ok (.bipush 99, 2) := dk_16 99 (dk_at dksX3_picture_0 3 rfl rfl)
theorem dX3_picture_5 : decode cX3_picture 5 = .ok (.invokevirtual 195, 3) := dk_182 0 195 (dk_at dksX3_picture_0 5 rfl rfl)
theorem dX3_picture_8 : decode cX3_picture 8 = .ok (.ifCond .eq 14, 3) := dk_153 0 14 (dk_at dksX3_picture_0 8 rfl rfl)
theorem dX3_picture_11 : decode cX3_picture 11 = .ok (.aload_n 0, 1) := dk_42 (dk_at dksX3_picture_0 11 rfl rfl)
theorem dX3_picture_12 : decode cX3_picture 12 = .ok (.iload_n 2, 1) := dk_28 (dk_at dksX3_picture_0 12 rfl rfl)
theorem dX3_picture_13 : decode cX3_picture 13 = .ok (.iconst 0, 1) := dk_3 (dk_at dksX3_picture_0 13 rfl rfl)
theorem dX3_picture_14 : decode cX3_picture 14 = .ok (.bipush 8, 2) := dk_16 8 (dk_at dksX3_picture_0 14 rfl rfl)
theorem dX3_picture_16 : decode cX3_picture 16 = .ok (.invokevirtual 195, 3) := dk_182 0 195 (dk_at dksX3_picture_0 16 rfl rfl)
theorem dX3_picture_19 : decode cX3_picture 19 = .ok (.ifCond .ne 5, 3) := dk_154 0 5 (dk_at dksX3_picture_0 19 rfl rfl)
theorem dX3_picture_22 : decode cX3_picture 22 = .ok (.iconst (-1), 1) := dk_2 (dk_at dksX3_picture_0 22 rfl rfl)
theorem dX3_picture_23 : decode cX3_picture 23 = .ok (.ireturn, 1) := dk_172 (dk_at dksX3_picture_0 23 rfl rfl)
theorem dX3_picture_24 : decode cX3_picture 24 = .ok (.aload_n 0, 1) := dk_42 (dk_at dksX3_picture_1 0 rfl rfl)
theorem dX3_picture_25 : decode cX3_picture 25 = .ok (.iload_n 3, 1) := dk_29 (dk_at dksX3_picture_1 1 rfl rfl)
theorem dX3_picture_26 : decode cX3_picture 26 = .ok (.iconst 0, 1) := dk_3 (dk_at dksX3_picture_1 2 rfl rfl)
theorem dX3_picture_27 : decode cX3_picture 27 = .ok (.bipush 7, 2) := dk_16 7 (dk_at dksX3_picture_1 3 rfl rfl)
theorem dX3_picture_29 : decode cX3_picture 29 = .ok (.invokevirtual 195, 3) := dk_182 0 195 (dk_at dksX3_picture_1 5 rfl rfl)
theorem dX3_picture_32 : decode cX3_picture 32 = .ok (.ifCond .ne 6, 3) := dk_154 0 6 (dk_at dksX3_picture_1 8 rfl rfl)
theorem dX3_picture_35 : decode cX3_picture 35 = .ok (.bipush (-2), 2) := dk_16 254 (dk_at dksX3_picture_1 11 rfl rfl)
theorem dX3_picture_37 : decode cX3_picture 37 = .ok (.ireturn, 1) := dk_172 (dk_at dksX3_picture_1 13 rfl rfl)
theorem dX3_picture_38 : decode cX3_picture 38 = .ok (.aload_n 0, 1) := dk_42 (dk_at dksX3_picture_1 14 rfl rfl)
theorem dX3_picture_39 : decode cX3_picture 39 = .ok (.getfield 72, 3) := dk_180 0 72 (dk_at dksX3_picture_1 15 rfl rfl)
theorem dX3_picture_42 : decode cX3_picture 42 = .ok (.bipush 40, 2) := dk_16 40 (dk_at dksX3_picture_1 18 rfl rfl)
theorem dX3_picture_44 : decode cX3_picture 44 = .ok (.if_icmp .ne 6, 3) := dk_160 0 6 (dk_at dksX3_picture_1 20 rfl rfl)
theorem dX3_picture_47 : decode cX3_picture 47 = .ok (.bipush (-4), 2) := dk_16 252 (dk_at dksX3_picture_2 0 rfl rfl)
theorem dX3_picture_49 : decode cX3_picture 49 = .ok (.ireturn, 1) := dk_172 (dk_at dksX3_picture_2 2 rfl rfl)
theorem dX3_picture_50 : decode cX3_picture 50 = .ok (.aload_n 0, 1) := dk_42 (dk_at dksX3_picture_2 3 rfl rfl)
theorem dX3_picture_51 : decode cX3_picture 51 = .ok (.getfield 75, 3) := dk_180 0 75 (dk_at dksX3_picture_2 4 rfl rfl)
theorem dX3_picture_54 : decode cX3_picture 54 = .ok (.aload_n 0, 1) := dk_42 (dk_at dksX3_picture_2 7 rfl rfl)
theorem dX3_picture_55 : decode cX3_picture 55 = .ok (.getfield 72, 3) := dk_180 0 72 (dk_at dksX3_picture_2 8 rfl rfl)
theorem dX3_picture_58 : decode cX3_picture 58 = .ok (.iload_n 1, 1) := dk_27 (dk_at dksX3_picture_2 11 rfl rfl)
theorem dX3_picture_59 : decode cX3_picture 59 = .ok (.iastore, 1) := dk_79 (dk_at dksX3_picture_2 12 rfl rfl)
theorem dX3_picture_60 : decode cX3_picture 60 = .ok (.aload_n 0, 1) := dk_42 (dk_at dksX3_picture_2 13 rfl rfl)
theorem dX3_picture_61 : decode cX3_picture 61 = .ok (.getfield 78, 3) := dk_180 0 78 (dk_at dksX3_picture_2 14 rfl rfl)
theorem dX3_picture_64 : decode cX3_picture 64 = .ok (.aload_n 0, 1) := dk_42 (dk_at dksX3_picture_2 17 rfl rfl)
theorem dX3_picture_65 : decode cX3_picture 65 = .ok (.getfield 72, 3) := dk_180 0 72 (dk_at dksX3_picture_2 18 rfl rfl)
theorem dX3_picture_68 : decode cX3_picture 68 = .ok (.iload_n 2, 1) := dk_28 (dk_at dksX3_picture_2 21 rfl rfl)
theorem dX3_picture_69 : decode cX3_picture 69 = .ok (.iastore, 1) := dk_79 (dk_at dksX3_picture_2 22 rfl rfl)
theorem dX3_picture_70 : decode cX3_picture 70 = .ok (.aload_n 0, 1) := dk_42 (dk_at dksX3_picture_2 23 rfl rfl)
theorem dX3_picture_71 : decode cX3_picture 71 = .ok (.getfield 81, 3) := dk_180 0 81 (dk_at dksX3_picture_3 0 rfl rfl)
theorem dX3_picture_74 : decode cX3_picture 74 = .ok (.aload_n 0, 1) := dk_42 (dk_at dksX3_picture_3 3 rfl rfl)
theorem dX3_picture_75 : decode cX3_picture 75 = .ok (.getfield 72, 3) := dk_180 0 72 (dk_at dksX3_picture_3 4 rfl rfl)
theorem dX3_picture_78 : decode cX3_picture 78 = .ok (.iload_n 3, 1) := dk_29 (dk_at dksX3_picture_3 7 rfl rfl)
theorem dX3_picture_79 : decode cX3_picture 79 = .ok (.iastore, 1) := dk_79 (dk_at dksX3_picture_3 8 rfl rfl)
theorem dX3_picture_80 : decode cX3_picture 80 = .ok (.aload_n 0, 1) := dk_42 (dk_at dksX3_picture_3 9 rfl rfl)
theorem dX3_picture_81 : decode cX3_picture 81 = .ok (.dup, 1) := dk_89 (dk_at dksX3_picture_3 10 rfl rfl)
theorem dX3_picture_82 : decode cX3_picture 82 = .ok (.getfield 72, 3) := dk_180 0 72 (dk_at dksX3_picture_3 11 rfl rfl)
theorem dX3_picture_85 : decode cX3_picture 85 = .ok (.iconst 1, 1) := dk_4 (dk_at dksX3_picture_3 14 rfl rfl)
theorem dX3_picture_86 : decode cX3_picture 86 = .ok (.iadd, 1) := dk_96 (dk_at dksX3_picture_3 15 rfl rfl)
theorem dX3_picture_87 : decode cX3_picture 87 = .ok (.putfield 72, 3) := dk_181 0 72 (dk_at dksX3_picture_3 16 rfl rfl)
theorem dX3_picture_90 : decode cX3_picture 90 = .ok (.aload_n 0, 1) := dk_42 (dk_at dksX3_picture_3 19 rfl rfl)
theorem dX3_picture_91 : decode cX3_picture 91 = .ok (.getfield 72, 3) := dk_180 0 72 (dk_at dksX3_picture_3 20 rfl rfl)
theorem dX3_picture_94 : decode cX3_picture 94 = .ok (.ireturn, 1) := dk_172 (dk_at dksX3_picture_3 23 rfl rfl)
abbrev cX3_pictureless : ByteArray := prog_17_method_26_code
def yX3_pictureless : MethodName := ⟨RX3, "pictureless", "()I"⟩
def dkwX3_pictureless_0 : List UInt8 := [42, 180, 0, 72, 60, 42, 3, 181, 0, 72, 27, 172]
abbrev dktX3_pictureless_0 : List UInt8 := dkwX3_pictureless_0 ++ []
theorem dksX3_pictureless_0 : cX3_pictureless.data.toList.drop 0 = dktX3_pictureless_0 := by decide +kernel
theorem dX3_pictureless_0 : decode cX3_pictureless 0 = .ok (.aload_n 0, 1) := dk_42 (dk_at dksX3_pictureless_0 0 rfl rfl)
theorem dX3_pictureless_1 : decode cX3_pictureless 1 = .ok (.getfield 72, 3) := dk_180 0 72 (dk_at dksX3_pictureless_0 1 rfl rfl)
theorem dX3_pictureless_4 : decode cX3_pictureless 4 = .ok (.istore_n 1, 1) := dk_60 (dk_at dksX3_pictureless_0 4 rfl rfl)
theorem dX3_pictureless_5 : decode cX3_pictureless 5 = .ok (.aload_n 0, 1) := dk_42 (dk_at dksX3_pictureless_0 5 rfl rfl)
theorem dX3_pictureless_6 : decode cX3_pictureless 6 = .ok (.iconst 0, 1) := dk_3 (dk_at dksX3_pictureless_0 6 rfl rfl)
theorem dX3_pictureless_7 : decode cX3_pictureless 7 = .ok (.putfield 72, 3) := dk_181 0 72 (dk_at dksX3_pictureless_0 7 rfl rfl)
theorem dX3_pictureless_10 : decode cX3_pictureless 10 = .ok (.iload_n 1, 1) := dk_27 (dk_at dksX3_pictureless_0 10 rfl rfl)
theorem dX3_pictureless_11 : decode cX3_pictureless 11 = .ok (.ireturn, 1) := dk_172 (dk_at dksX3_pictureless_0 11 rfl rfl)
abbrev cX3_wrong : ByteArray := prog_17_method_28_code
def yX3_wrong : MethodName := ⟨RX3, "wrong", "()I"⟩
def dkwX3_wrong_0 : List UInt8 := [42, 42, 180, 0, 41, 182, 0, 230, 172]
abbrev dktX3_wrong_0 : List UInt8 := dkwX3_wrong_0 ++ []
theorem dksX3_wrong_0 : cX3_wrong.data.toList.drop 0 = dktX3_wrong_0 := by decide +kernel
theorem dX3_wrong_0 : decode cX3_wrong 0 = .ok (.aload_n 0, 1) := dk_42 (dk_at dksX3_wrong_0 0 rfl rfl)
theorem dX3_wrong_1 : decode cX3_wrong 1 = .ok (.aload_n 0, 1) := dk_42 (dk_at dksX3_wrong_0 1 rfl rfl)
theorem dX3_wrong_2 : decode cX3_wrong 2 = .ok (.getfield 41, 3) := dk_180 0 41 (dk_at dksX3_wrong_0 2 rfl rfl)
theorem dX3_wrong_5 : decode cX3_wrong 5 = .ok (.invokevirtual 230, 3) := dk_182 0 230 (dk_at dksX3_wrong_0 5 rfl rfl)
theorem dX3_wrong_8 : decode cX3_wrong 8 = .ok (.ireturn, 1) := dk_172 (dk_at dksX3_wrong_0 8 rfl rfl)
abbrev cX3_wrongWith : ByteArray := prog_17_method_27_code
def yX3_wrongWith : MethodName := ⟨RX3, "wrongWith", "([I)I"⟩
def dkwX3_wrongWith_3 : List UInt8 := [96, 61, 132, 3, 1, 167, 255, 184, 28, 172]
abbrev dktX3_wrongWith_3 : List UInt8 := dkwX3_wrongWith_3 ++ []
def dkwX3_wrongWith_2 : List UInt8 := [42, 180, 0, 78, 29, 46, 182, 0, 222, 46, 42, 180, 0, 81, 29, 46, 159, 0, 7, 4, 167, 0, 4, 3]
abbrev dktX3_wrongWith_2 : List UInt8 := dkwX3_wrongWith_2 ++ dktX3_wrongWith_3
def dkwX3_wrongWith_1 : List UInt8 := [162, 0, 43, 42, 180, 0, 78, 29, 46, 42, 180, 0, 13, 162, 0, 30, 43, 42, 42, 180, 0, 75, 29, 46]
abbrev dktX3_wrongWith_1 : List UInt8 := dkwX3_wrongWith_1 ++ dktX3_wrongWith_2
def dkwX3_wrongWith_0 : List UInt8 := [3, 61, 3, 62, 29, 42, 180, 0, 72, 162, 0, 70, 28, 42, 180, 0, 75, 29, 46, 42, 180, 0, 57]
abbrev dktX3_wrongWith_0 : List UInt8 := dkwX3_wrongWith_0 ++ dktX3_wrongWith_1
theorem dksX3_wrongWith_0 : cX3_wrongWith.data.toList.drop 0 = dktX3_wrongWith_0 := by decide +kernel
theorem dksX3_wrongWith_1 : cX3_wrongWith.data.toList.drop 23 = dktX3_wrongWith_1 := dk_seg dksX3_wrongWith_0 23 rfl rfl
theorem dksX3_wrongWith_2 : cX3_wrongWith.data.toList.drop 47 = dktX3_wrongWith_2 := dk_seg dksX3_wrongWith_1 24 rfl rfl
theorem dksX3_wrongWith_3 : cX3_wrongWith.data.toList.drop 71 = dktX3_wrongWith_3 := dk_seg dksX3_wrongWith_2 24 rfl rfl
theorem dX3_wrongWith_0 : decode cX3_wrongWith 0 = .ok (.iconst 0, 1) := dk_3 (dk_at dksX3_wrongWith_0 0 rfl rfl)
theorem dX3_wrongWith_1 : decode cX3_wrongWith 1 = .ok (.istore_n 2, 1) := dk_61 (dk_at dksX3_wrongWith_0 1 rfl rfl)
theorem dX3_wrongWith_2 : decode cX3_wrongWith 2 = .ok (.iconst 0, 1) := dk_3 (dk_at dksX3_wrongWith_0 2 rfl rfl)
theorem dX3_wrongWith_3 : decode cX3_wrongWith 3 = .ok (.istore_n 3, 1) := dk_62 (dk_at dksX3_wrongWith_0 3 rfl rfl)
theorem dX3_wrongWith_4 : decode cX3_wrongWith 4 = .ok (.iload_n 3, 1) := dk_29 (dk_at dksX3_wrongWith_0 4 rfl rfl)
theorem dX3_wrongWith_5 : decode cX3_wrongWith 5 = .ok (.aload_n 0, 1) := dk_42 (dk_at dksX3_wrongWith_0 5 rfl rfl)
theorem dX3_wrongWith_6 : decode cX3_wrongWith 6 = .ok (.getfield 72, 3) := dk_180 0 72 (dk_at dksX3_wrongWith_0 6 rfl rfl)
theorem dX3_wrongWith_9 : decode cX3_wrongWith 9 = .ok (.if_icmp .ge 70, 3) := dk_162 0 70 (dk_at dksX3_wrongWith_0 9 rfl rfl)
theorem dX3_wrongWith_12 : decode cX3_wrongWith 12 = .ok (.iload_n 2, 1) := dk_28 (dk_at dksX3_wrongWith_0 12 rfl rfl)
theorem dX3_wrongWith_13 : decode cX3_wrongWith 13 = .ok (.aload_n 0, 1) := dk_42 (dk_at dksX3_wrongWith_0 13 rfl rfl)
theorem dX3_wrongWith_14 : decode cX3_wrongWith 14 = .ok (.getfield 75, 3) := dk_180 0 75 (dk_at dksX3_wrongWith_0 14 rfl rfl)
theorem dX3_wrongWith_17 : decode cX3_wrongWith 17 = .ok (.iload_n 3, 1) := dk_29 (dk_at dksX3_wrongWith_0 17 rfl rfl)
theorem dX3_wrongWith_18 : decode cX3_wrongWith 18 = .ok (.iaload, 1) := dk_46 (dk_at dksX3_wrongWith_0 18 rfl rfl)
theorem dX3_wrongWith_19 : decode cX3_wrongWith 19 = .ok (.aload_n 0, 1) := dk_42 (dk_at dksX3_wrongWith_0 19 rfl rfl)
theorem dX3_wrongWith_20 : decode cX3_wrongWith 20 = .ok (.getfield 57, 3) := dk_180 0 57 (dk_at dksX3_wrongWith_0 20 rfl rfl)
theorem dX3_wrongWith_23 : decode cX3_wrongWith 23 = .ok (.if_icmp .ge 43, 3) := dk_162 0 43 (dk_at dksX3_wrongWith_1 0 rfl rfl)
theorem dX3_wrongWith_26 : decode cX3_wrongWith 26 = .ok (.aload_n 0, 1) := dk_42 (dk_at dksX3_wrongWith_1 3 rfl rfl)
theorem dX3_wrongWith_27 : decode cX3_wrongWith 27 = .ok (.getfield 78, 3) := dk_180 0 78 (dk_at dksX3_wrongWith_1 4 rfl rfl)
theorem dX3_wrongWith_30 : decode cX3_wrongWith 30 = .ok (.iload_n 3, 1) := dk_29 (dk_at dksX3_wrongWith_1 7 rfl rfl)
theorem dX3_wrongWith_31 : decode cX3_wrongWith 31 = .ok (.iaload, 1) := dk_46 (dk_at dksX3_wrongWith_1 8 rfl rfl)
theorem dX3_wrongWith_32 : decode cX3_wrongWith 32 = .ok (.aload_n 0, 1) := dk_42 (dk_at dksX3_wrongWith_1 9 rfl rfl)
theorem dX3_wrongWith_33 : decode cX3_wrongWith 33 = .ok (.getfield 13, 3) := dk_180 0 13 (dk_at dksX3_wrongWith_1 10 rfl rfl)
theorem dX3_wrongWith_36 : decode cX3_wrongWith 36 = .ok (.if_icmp .ge 30, 3) := dk_162 0 30 (dk_at dksX3_wrongWith_1 13 rfl rfl)
theorem dX3_wrongWith_39 : decode cX3_wrongWith 39 = .ok (.aload_n 1, 1) := dk_43 (dk_at dksX3_wrongWith_1 16 rfl rfl)
theorem dX3_wrongWith_40 : decode cX3_wrongWith 40 = .ok (.aload_n 0, 1) := dk_42 (dk_at dksX3_wrongWith_1 17 rfl rfl)
theorem dX3_wrongWith_41 : decode cX3_wrongWith 41 = .ok (.aload_n 0, 1) := dk_42 (dk_at dksX3_wrongWith_1 18 rfl rfl)
theorem dX3_wrongWith_42 : decode cX3_wrongWith 42 = .ok (.getfield 75, 3) := dk_180 0 75 (dk_at dksX3_wrongWith_1 19 rfl rfl)
theorem dX3_wrongWith_45 : decode cX3_wrongWith 45 = .ok (.iload_n 3, 1) := dk_29 (dk_at dksX3_wrongWith_1 22 rfl rfl)
theorem dX3_wrongWith_46 : decode cX3_wrongWith 46 = .ok (.iaload, 1) := dk_46 (dk_at dksX3_wrongWith_1 23 rfl rfl)
theorem dX3_wrongWith_47 : decode cX3_wrongWith 47 = .ok (.aload_n 0, 1) := dk_42 (dk_at dksX3_wrongWith_2 0 rfl rfl)
theorem dX3_wrongWith_48 : decode cX3_wrongWith 48 = .ok (.getfield 78, 3) := dk_180 0 78 (dk_at dksX3_wrongWith_2 1 rfl rfl)
theorem dX3_wrongWith_51 : decode cX3_wrongWith 51 = .ok (.iload_n 3, 1) := dk_29 (dk_at dksX3_wrongWith_2 4 rfl rfl)
theorem dX3_wrongWith_52 : decode cX3_wrongWith 52 = .ok (.iaload, 1) := dk_46 (dk_at dksX3_wrongWith_2 5 rfl rfl)
theorem dX3_wrongWith_53 : decode cX3_wrongWith 53 = .ok (.invokevirtual 222, 3) := dk_182 0 222 (dk_at dksX3_wrongWith_2 6 rfl rfl)
theorem dX3_wrongWith_56 : decode cX3_wrongWith 56 = .ok (.iaload, 1) := dk_46 (dk_at dksX3_wrongWith_2 9 rfl rfl)
theorem dX3_wrongWith_57 : decode cX3_wrongWith 57 = .ok (.aload_n 0, 1) := dk_42 (dk_at dksX3_wrongWith_2 10 rfl rfl)
theorem dX3_wrongWith_58 : decode cX3_wrongWith 58 = .ok (.getfield 81, 3) := dk_180 0 81 (dk_at dksX3_wrongWith_2 11 rfl rfl)
theorem dX3_wrongWith_61 : decode cX3_wrongWith 61 = .ok (.iload_n 3, 1) := dk_29 (dk_at dksX3_wrongWith_2 14 rfl rfl)
theorem dX3_wrongWith_62 : decode cX3_wrongWith 62 = .ok (.iaload, 1) := dk_46 (dk_at dksX3_wrongWith_2 15 rfl rfl)
theorem dX3_wrongWith_63 : decode cX3_wrongWith 63 = .ok (.if_icmp .eq 7, 3) := dk_159 0 7 (dk_at dksX3_wrongWith_2 16 rfl rfl)
theorem dX3_wrongWith_66 : decode cX3_wrongWith 66 = .ok (.iconst 1, 1) := dk_4 (dk_at dksX3_wrongWith_2 19 rfl rfl)
theorem dX3_wrongWith_67 : decode cX3_wrongWith 67 = .ok (.goto 4, 3) := dk_167 0 4 (dk_at dksX3_wrongWith_2 20 rfl rfl)
theorem dX3_wrongWith_70 : decode cX3_wrongWith 70 = .ok (.iconst 0, 1) := dk_3 (dk_at dksX3_wrongWith_2 23 rfl rfl)
theorem dX3_wrongWith_71 : decode cX3_wrongWith 71 = .ok (.iadd, 1) := dk_96 (dk_at dksX3_wrongWith_3 0 rfl rfl)
theorem dX3_wrongWith_72 : decode cX3_wrongWith 72 = .ok (.istore_n 2, 1) := dk_61 (dk_at dksX3_wrongWith_3 1 rfl rfl)
theorem dX3_wrongWith_73 : decode cX3_wrongWith 73 = .ok (.iinc 3 1, 3) := dk_132 3 1 (dk_at dksX3_wrongWith_3 2 rfl rfl)
theorem dX3_wrongWith_76 : decode cX3_wrongWith 76 = .ok (.goto (-72), 3) := dk_167 255 184 (dk_at dksX3_wrongWith_3 5 rfl rfl)
theorem dX3_wrongWith_79 : decode cX3_wrongWith 79 = .ok (.iload_n 2, 1) := dk_28 (dk_at dksX3_wrongWith_3 8 rfl rfl)
theorem dX3_wrongWith_80 : decode cX3_wrongWith 80 = .ok (.ireturn, 1) := dk_172 (dk_at dksX3_wrongWith_3 9 rfl rfl)
abbrev cX3_colours : ByteArray := prog_17_method_29_code
def yX3_colours : MethodName := ⟨RX3, "colours", "(II)I"⟩
def dkwX3_colours_8 : List UInt8 := [167, 255, 151, 28, 156, 0, 8, 21, 4, 167, 0, 9, 42, 180, 0, 87, 28, 46, 172]
abbrev dktX3_colours_8 : List UInt8 := dkwX3_colours_8 ++ []
def dkwX3_colours_7 : List UInt8 := [42, 180, 0, 87, 21, 8, 42, 180, 0, 84, 21, 8, 46, 79, 132, 8, 1, 167, 255, 230, 132, 5, 1]
abbrev dktX3_colours_7 : List UInt8 := dkwX3_colours_7 ++ dktX3_colours_8
def dkwX3_colours_6 : List UInt8 := [21, 4, 161, 0, 6, 167, 0, 39, 21, 7, 54, 4, 3, 54, 8, 21, 8, 42, 180, 0, 13, 162, 0, 23]
abbrev dktX3_colours_6 : List UInt8 := dkwX3_colours_6 ++ dktX3_colours_7
def dkwX3_colours_5 : List UInt8 := [21, 6, 27, 108, 54, 6, 132, 7, 255, 167, 255, 231, 42, 42, 180, 0, 84, 182, 0, 230, 54, 7, 21, 7]
abbrev dktX3_colours_5 : List UInt8 := dkwX3_colours_5 ++ dktX3_colours_6
def dkwX3_colours_4 : List UInt8 := [180, 0, 13, 4, 100, 54, 7, 21, 7, 155, 0, 26, 42, 180, 0, 84, 21, 7, 21, 6, 27, 112, 79]
abbrev dktX3_colours_4 : List UInt8 := dkwX3_colours_4 ++ dktX3_colours_5
def dkwX3_colours_3 : List UInt8 := [167, 255, 240, 17, 3, 232, 54, 4, 3, 54, 5, 21, 5, 29, 162, 0, 105, 21, 5, 54, 6, 42]
abbrev dktX3_colours_3 : List UInt8 := dkwX3_colours_3 ++ dktX3_colours_4
def dkwX3_colours_2 : List UInt8 := [172, 4, 62, 3, 54, 4, 21, 4, 42, 180, 0, 13, 162, 0, 13, 29, 27, 104, 62, 132, 4, 1]
abbrev dktX3_colours_2 : List UInt8 := dkwX3_colours_2 ++ dktX3_colours_3
def dkwX3_colours_1 : List UInt8 := [154, 0, 6, 16, 254, 172, 42, 180, 0, 57, 153, 0, 12, 42, 180, 0, 13, 16, 6, 164, 0, 6, 16, 253]
abbrev dktX3_colours_1 : List UInt8 := dkwX3_colours_1 ++ dktX3_colours_2
def dkwX3_colours_0 : List UInt8 := [42, 28, 2, 42, 180, 0, 13, 4, 100, 182, 0, 195, 154, 0, 5, 2, 172, 42, 27, 4, 7, 182, 0, 195]
abbrev dktX3_colours_0 : List UInt8 := dkwX3_colours_0 ++ dktX3_colours_1
theorem dksX3_colours_0 : cX3_colours.data.toList.drop 0 = dktX3_colours_0 := by decide +kernel
theorem dksX3_colours_1 : cX3_colours.data.toList.drop 24 = dktX3_colours_1 := dk_seg dksX3_colours_0 24 rfl rfl
theorem dksX3_colours_2 : cX3_colours.data.toList.drop 48 = dktX3_colours_2 := dk_seg dksX3_colours_1 24 rfl rfl
theorem dksX3_colours_3 : cX3_colours.data.toList.drop 70 = dktX3_colours_3 := dk_seg dksX3_colours_2 22 rfl rfl
theorem dksX3_colours_4 : cX3_colours.data.toList.drop 92 = dktX3_colours_4 := dk_seg dksX3_colours_3 22 rfl rfl
theorem dksX3_colours_5 : cX3_colours.data.toList.drop 115 = dktX3_colours_5 := dk_seg dksX3_colours_4 23 rfl rfl
theorem dksX3_colours_6 : cX3_colours.data.toList.drop 139 = dktX3_colours_6 := dk_seg dksX3_colours_5 24 rfl rfl
theorem dksX3_colours_7 : cX3_colours.data.toList.drop 163 = dktX3_colours_7 := dk_seg dksX3_colours_6 24 rfl rfl
theorem dksX3_colours_8 : cX3_colours.data.toList.drop 186 = dktX3_colours_8 := dk_seg dksX3_colours_7 23 rfl rfl
theorem dX3_colours_0 : decode cX3_colours 0 = .ok (.aload_n 0, 1) := dk_42 (dk_at dksX3_colours_0 0 rfl rfl)
theorem dX3_colours_1 : decode cX3_colours 1 = .ok (.iload_n 2, 1) := dk_28 (dk_at dksX3_colours_0 1 rfl rfl)
theorem dX3_colours_2 : decode cX3_colours 2 = .ok (.iconst (-1), 1) := dk_2 (dk_at dksX3_colours_0 2 rfl rfl)
theorem dX3_colours_3 : decode cX3_colours 3 = .ok (.aload_n 0, 1) := dk_42 (dk_at dksX3_colours_0 3 rfl rfl)
theorem dX3_colours_4 : decode cX3_colours 4 = .ok (.getfield 13, 3) := dk_180 0 13 (dk_at dksX3_colours_0 4 rfl rfl)
theorem dX3_colours_7 : decode cX3_colours 7 = .ok (.iconst 1, 1) := dk_4 (dk_at dksX3_colours_0 7 rfl rfl)
theorem dX3_colours_8 : decode cX3_colours 8 = .ok (.isub, 1) := dk_100 (dk_at dksX3_colours_0 8 rfl rfl)
theorem dX3_colours_9 : decode cX3_colours 9 = .ok (.invokevirtual 195, 3) := dk_182 0 195 (dk_at dksX3_colours_0 9 rfl rfl)
theorem dX3_colours_12 : decode cX3_colours 12 = .ok (.ifCond .ne 5, 3) := dk_154 0 5 (dk_at dksX3_colours_0 12 rfl rfl)
theorem dX3_colours_15 : decode cX3_colours 15 = .ok (.iconst (-1), 1) := dk_2 (dk_at dksX3_colours_0 15 rfl rfl)
theorem dX3_colours_16 : decode cX3_colours 16 = .ok (.ireturn, 1) := dk_172 (dk_at dksX3_colours_0 16 rfl rfl)
theorem dX3_colours_17 : decode cX3_colours 17 = .ok (.aload_n 0, 1) := dk_42 (dk_at dksX3_colours_0 17 rfl rfl)
theorem dX3_colours_18 : decode cX3_colours 18 = .ok (.iload_n 1, 1) := dk_27 (dk_at dksX3_colours_0 18 rfl rfl)
theorem dX3_colours_19 : decode cX3_colours 19 = .ok (.iconst 1, 1) := dk_4 (dk_at dksX3_colours_0 19 rfl rfl)
theorem dX3_colours_20 : decode cX3_colours 20 = .ok (.iconst 4, 1) := dk_7 (dk_at dksX3_colours_0 20 rfl rfl)
theorem dX3_colours_21 : decode cX3_colours 21 = .ok (.invokevirtual 195, 3) := dk_182 0 195 (dk_at dksX3_colours_0 21 rfl rfl)
theorem dX3_colours_24 : decode cX3_colours 24 = .ok (.ifCond .ne 6, 3) := dk_154 0 6 (dk_at dksX3_colours_1 0 rfl rfl)
theorem dX3_colours_27 : decode cX3_colours 27 = .ok (.bipush (-2), 2) := dk_16 254 (dk_at dksX3_colours_1 3 rfl rfl)
theorem dX3_colours_29 : decode cX3_colours 29 = .ok (.ireturn, 1) := dk_172 (dk_at dksX3_colours_1 5 rfl rfl)
theorem dX3_colours_30 : decode cX3_colours 30 = .ok (.aload_n 0, 1) := dk_42 (dk_at dksX3_colours_1 6 rfl rfl)
theorem dX3_colours_31 : decode cX3_colours 31 = .ok (.getfield 57, 3) := dk_180 0 57 (dk_at dksX3_colours_1 7 rfl rfl)
theorem dX3_colours_34 : decode cX3_colours 34 = .ok (.ifCond .eq 12, 3) := dk_153 0 12 (dk_at dksX3_colours_1 10 rfl rfl)
theorem dX3_colours_37 : decode cX3_colours 37 = .ok (.aload_n 0, 1) := dk_42 (dk_at dksX3_colours_1 13 rfl rfl)
theorem dX3_colours_38 : decode cX3_colours 38 = .ok (.getfield 13, 3) := dk_180 0 13 (dk_at dksX3_colours_1 14 rfl rfl)
theorem dX3_colours_41 : decode cX3_colours 41 = .ok (.bipush 6, 2) := dk_16 6 (dk_at dksX3_colours_1 17 rfl rfl)
theorem dX3_colours_43 : decode cX3_colours 43 = .ok (.if_icmp .le 6, 3) := dk_164 0 6 (dk_at dksX3_colours_1 19 rfl rfl)
theorem dX3_colours_46 : decode cX3_colours 46 = .ok (.bipush (-3), 2) := dk_16 253 (dk_at dksX3_colours_1 22 rfl rfl)
theorem dX3_colours_48 : decode cX3_colours 48 = .ok (.ireturn, 1) := dk_172 (dk_at dksX3_colours_2 0 rfl rfl)
theorem dX3_colours_49 : decode cX3_colours 49 = .ok (.iconst 1, 1) := dk_4 (dk_at dksX3_colours_2 1 rfl rfl)
theorem dX3_colours_50 : decode cX3_colours 50 = .ok (.istore_n 3, 1) := dk_62 (dk_at dksX3_colours_2 2 rfl rfl)
theorem dX3_colours_51 : decode cX3_colours 51 = .ok (.iconst 0, 1) := dk_3 (dk_at dksX3_colours_2 3 rfl rfl)
theorem dX3_colours_52 : decode cX3_colours 52 = .ok (.istore 4, 2) := dk_54 4 (dk_at dksX3_colours_2 4 rfl rfl)
theorem dX3_colours_54 : decode cX3_colours 54 = .ok (.iload 4, 2) := dk_21 4 (dk_at dksX3_colours_2 6 rfl rfl)
theorem dX3_colours_56 : decode cX3_colours 56 = .ok (.aload_n 0, 1) := dk_42 (dk_at dksX3_colours_2 8 rfl rfl)
theorem dX3_colours_57 : decode cX3_colours 57 = .ok (.getfield 13, 3) := dk_180 0 13 (dk_at dksX3_colours_2 9 rfl rfl)
theorem dX3_colours_60 : decode cX3_colours 60 = .ok (.if_icmp .ge 13, 3) := dk_162 0 13 (dk_at dksX3_colours_2 12 rfl rfl)
theorem dX3_colours_63 : decode cX3_colours 63 = .ok (.iload_n 3, 1) := dk_29 (dk_at dksX3_colours_2 15 rfl rfl)
theorem dX3_colours_64 : decode cX3_colours 64 = .ok (.iload_n 1, 1) := dk_27 (dk_at dksX3_colours_2 16 rfl rfl)
theorem dX3_colours_65 : decode cX3_colours 65 = .ok (.imul, 1) := dk_104 (dk_at dksX3_colours_2 17 rfl rfl)
theorem dX3_colours_66 : decode cX3_colours 66 = .ok (.istore_n 3, 1) := dk_62 (dk_at dksX3_colours_2 18 rfl rfl)
theorem dX3_colours_67 : decode cX3_colours 67 = .ok (.iinc 4 1, 3) := dk_132 4 1 (dk_at dksX3_colours_2 19 rfl rfl)
theorem dX3_colours_70 : decode cX3_colours 70 = .ok (.goto (-16), 3) := dk_167 255 240 (dk_at dksX3_colours_3 0 rfl rfl)
theorem dX3_colours_73 : decode cX3_colours 73 = .ok (.sipush 1000, 3) := dk_17 3 232 (dk_at dksX3_colours_3 3 rfl rfl)
theorem dX3_colours_76 : decode cX3_colours 76 = .ok (.istore 4, 2) := dk_54 4 (dk_at dksX3_colours_3 6 rfl rfl)
theorem dX3_colours_78 : decode cX3_colours 78 = .ok (.iconst 0, 1) := dk_3 (dk_at dksX3_colours_3 8 rfl rfl)
theorem dX3_colours_79 : decode cX3_colours 79 = .ok (.istore 5, 2) := dk_54 5 (dk_at dksX3_colours_3 9 rfl rfl)
theorem dX3_colours_81 : decode cX3_colours 81 = .ok (.iload 5, 2) := dk_21 5 (dk_at dksX3_colours_3 11 rfl rfl)
theorem dX3_colours_83 : decode cX3_colours 83 = .ok (.iload_n 3, 1) := dk_29 (dk_at dksX3_colours_3 13 rfl rfl)
theorem dX3_colours_84 : decode cX3_colours 84 = .ok (.if_icmp .ge 105, 3) := dk_162 0 105 (dk_at dksX3_colours_3 14 rfl rfl)
theorem dX3_colours_87 : decode cX3_colours 87 = .ok (.iload 5, 2) := dk_21 5 (dk_at dksX3_colours_3 17 rfl rfl)
theorem dX3_colours_89 : decode cX3_colours 89 = .ok (.istore 6, 2) := dk_54 6 (dk_at dksX3_colours_3 19 rfl rfl)
theorem dX3_colours_91 : decode cX3_colours 91 = .ok (.aload_n 0, 1) := dk_42 (dk_at dksX3_colours_3 21 rfl rfl)
theorem dX3_colours_92 : decode cX3_colours 92 = .ok (.getfield 13, 3) := dk_180 0 13 (dk_at dksX3_colours_4 0 rfl rfl)
theorem dX3_colours_95 : decode cX3_colours 95 = .ok (.iconst 1, 1) := dk_4 (dk_at dksX3_colours_4 3 rfl rfl)
theorem dX3_colours_96 : decode cX3_colours 96 = .ok (.isub, 1) := dk_100 (dk_at dksX3_colours_4 4 rfl rfl)
theorem dX3_colours_97 : decode cX3_colours 97 = .ok (.istore 7, 2) := dk_54 7 (dk_at dksX3_colours_4 5 rfl rfl)
theorem dX3_colours_99 : decode cX3_colours 99 = .ok (.iload 7, 2) := dk_21 7 (dk_at dksX3_colours_4 7 rfl rfl)
theorem dX3_colours_101 : decode cX3_colours 101 = .ok (.ifCond .lt 26, 3) := dk_155 0 26 (dk_at dksX3_colours_4 9 rfl rfl)
theorem dX3_colours_104 : decode cX3_colours 104 = .ok (.aload_n 0, 1) := dk_42 (dk_at dksX3_colours_4 12 rfl rfl)
theorem dX3_colours_105 : decode cX3_colours 105 = .ok (.getfield 84, 3) := dk_180 0 84 (dk_at dksX3_colours_4 13 rfl rfl)
theorem dX3_colours_108 : decode cX3_colours 108 = .ok (.iload 7, 2) := dk_21 7 (dk_at dksX3_colours_4 16 rfl rfl)
theorem dX3_colours_110 : decode cX3_colours 110 = .ok (.iload 6, 2) := dk_21 6 (dk_at dksX3_colours_4 18 rfl rfl)
theorem dX3_colours_112 : decode cX3_colours 112 = .ok (.iload_n 1, 1) := dk_27 (dk_at dksX3_colours_4 20 rfl rfl)
theorem dX3_colours_113 : decode cX3_colours 113 = .ok (.irem, 1) := dk_112 (dk_at dksX3_colours_4 21 rfl rfl)
theorem dX3_colours_114 : decode cX3_colours 114 = .ok (.iastore, 1) := dk_79 (dk_at dksX3_colours_4 22 rfl rfl)
theorem dX3_colours_115 : decode cX3_colours 115 = .ok (.iload 6, 2) := dk_21 6 (dk_at dksX3_colours_5 0 rfl rfl)
theorem dX3_colours_117 : decode cX3_colours 117 = .ok (.iload_n 1, 1) := dk_27 (dk_at dksX3_colours_5 2 rfl rfl)
theorem dX3_colours_118 : decode cX3_colours 118 = .ok (.idiv, 1) := dk_108 (dk_at dksX3_colours_5 3 rfl rfl)
theorem dX3_colours_119 : decode cX3_colours 119 = .ok (.istore 6, 2) := dk_54 6 (dk_at dksX3_colours_5 4 rfl rfl)
theorem dX3_colours_121 : decode cX3_colours 121 = .ok (.iinc 7 (-1), 3) := dk_132 7 255 (dk_at dksX3_colours_5 6 rfl rfl)
theorem dX3_colours_124 : decode cX3_colours 124 = .ok (.goto (-25), 3) := dk_167 255 231 (dk_at dksX3_colours_5 9 rfl rfl)
theorem dX3_colours_127 : decode cX3_colours 127 = .ok (.aload_n 0, 1) := dk_42 (dk_at dksX3_colours_5 12 rfl rfl)
theorem dX3_colours_128 : decode cX3_colours 128 = .ok (.aload_n 0, 1) := dk_42 (dk_at dksX3_colours_5 13 rfl rfl)
theorem dX3_colours_129 : decode cX3_colours 129 = .ok (.getfield 84, 3) := dk_180 0 84 (dk_at dksX3_colours_5 14 rfl rfl)
theorem dX3_colours_132 : decode cX3_colours 132 = .ok (.invokevirtual 230, 3) := dk_182 0 230 (dk_at dksX3_colours_5 17 rfl rfl)
theorem dX3_colours_135 : decode cX3_colours 135 = .ok (.istore 7, 2) := dk_54 7 (dk_at dksX3_colours_5 20 rfl rfl)
theorem dX3_colours_137 : decode cX3_colours 137 = .ok (.iload 7, 2) := dk_21 7 (dk_at dksX3_colours_5 22 rfl rfl)
theorem dX3_colours_139 : decode cX3_colours 139 = .ok (.iload 4, 2) := dk_21 4 (dk_at dksX3_colours_6 0 rfl rfl)
theorem dX3_colours_141 : decode cX3_colours 141 = .ok (.if_icmp .lt 6, 3) := dk_161 0 6 (dk_at dksX3_colours_6 2 rfl rfl)
theorem dX3_colours_144 : decode cX3_colours 144 = .ok (.goto 39, 3) := dk_167 0 39 (dk_at dksX3_colours_6 5 rfl rfl)
theorem dX3_colours_147 : decode cX3_colours 147 = .ok (.iload 7, 2) := dk_21 7 (dk_at dksX3_colours_6 8 rfl rfl)
theorem dX3_colours_149 : decode cX3_colours 149 = .ok (.istore 4, 2) := dk_54 4 (dk_at dksX3_colours_6 10 rfl rfl)
theorem dX3_colours_151 : decode cX3_colours 151 = .ok (.iconst 0, 1) := dk_3 (dk_at dksX3_colours_6 12 rfl rfl)
theorem dX3_colours_152 : decode cX3_colours 152 = .ok (.istore 8, 2) := dk_54 8 (dk_at dksX3_colours_6 13 rfl rfl)
theorem dX3_colours_154 : decode cX3_colours 154 = .ok (.iload 8, 2) := dk_21 8 (dk_at dksX3_colours_6 15 rfl rfl)
theorem dX3_colours_156 : decode cX3_colours 156 = .ok (.aload_n 0, 1) := dk_42 (dk_at dksX3_colours_6 17 rfl rfl)
theorem dX3_colours_157 : decode cX3_colours 157 = .ok (.getfield 13, 3) := dk_180 0 13 (dk_at dksX3_colours_6 18 rfl rfl)
theorem dX3_colours_160 : decode cX3_colours 160 = .ok (.if_icmp .ge 23, 3) := dk_162 0 23 (dk_at dksX3_colours_6 21 rfl rfl)
theorem dX3_colours_163 : decode cX3_colours 163 = .ok (.aload_n 0, 1) := dk_42 (dk_at dksX3_colours_7 0 rfl rfl)
theorem dX3_colours_164 : decode cX3_colours 164 = .ok (.getfield 87, 3) := dk_180 0 87 (dk_at dksX3_colours_7 1 rfl rfl)
theorem dX3_colours_167 : decode cX3_colours 167 = .ok (.iload 8, 2) := dk_21 8 (dk_at dksX3_colours_7 4 rfl rfl)
theorem dX3_colours_169 : decode cX3_colours 169 = .ok (.aload_n 0, 1) := dk_42 (dk_at dksX3_colours_7 6 rfl rfl)
theorem dX3_colours_170 : decode cX3_colours 170 = .ok (.getfield 84, 3) := dk_180 0 84 (dk_at dksX3_colours_7 7 rfl rfl)
theorem dX3_colours_173 : decode cX3_colours 173 = .ok (.iload 8, 2) := dk_21 8 (dk_at dksX3_colours_7 10 rfl rfl)
theorem dX3_colours_175 : decode cX3_colours 175 = .ok (.iaload, 1) := dk_46 (dk_at dksX3_colours_7 12 rfl rfl)
theorem dX3_colours_176 : decode cX3_colours 176 = .ok (.iastore, 1) := dk_79 (dk_at dksX3_colours_7 13 rfl rfl)
theorem dX3_colours_177 : decode cX3_colours 177 = .ok (.iinc 8 1, 3) := dk_132 8 1 (dk_at dksX3_colours_7 14 rfl rfl)
theorem dX3_colours_180 : decode cX3_colours 180 = .ok (.goto (-26), 3) := dk_167 255 230 (dk_at dksX3_colours_7 17 rfl rfl)
theorem dX3_colours_183 : decode cX3_colours 183 = .ok (.iinc 5 1, 3) := dk_132 5 1 (dk_at dksX3_colours_7 20 rfl rfl)
theorem dX3_colours_186 : decode cX3_colours 186 = .ok (.goto (-105), 3) := dk_167 255 151 (dk_at dksX3_colours_8 0 rfl rfl)
theorem dX3_colours_189 : decode cX3_colours 189 = .ok (.iload_n 2, 1) := dk_28 (dk_at dksX3_colours_8 3 rfl rfl)
theorem dX3_colours_190 : decode cX3_colours 190 = .ok (.ifCond .ge 8, 3) := dk_156 0 8 (dk_at dksX3_colours_8 4 rfl rfl)
theorem dX3_colours_193 : decode cX3_colours 193 = .ok (.iload 4, 2) := dk_21 4 (dk_at dksX3_colours_8 7 rfl rfl)
theorem dX3_colours_195 : decode cX3_colours 195 = .ok (.goto 9, 3) := dk_167 0 9 (dk_at dksX3_colours_8 9 rfl rfl)
theorem dX3_colours_198 : decode cX3_colours 198 = .ok (.aload_n 0, 1) := dk_42 (dk_at dksX3_colours_8 12 rfl rfl)
theorem dX3_colours_199 : decode cX3_colours 199 = .ok (.getfield 87, 3) := dk_180 0 87 (dk_at dksX3_colours_8 13 rfl rfl)
theorem dX3_colours_202 : decode cX3_colours 202 = .ok (.iload_n 2, 1) := dk_28 (dk_at dksX3_colours_8 16 rfl rfl)
theorem dX3_colours_203 : decode cX3_colours 203 = .ok (.iaload, 1) := dk_46 (dk_at dksX3_colours_8 17 rfl rfl)
theorem dX3_colours_204 : decode cX3_colours 204 = .ok (.ireturn, 1) := dk_172 (dk_at dksX3_colours_8 18 rfl rfl)
abbrev cX3_feed : ByteArray := prog_17_method_31_code
def yX3_feed : MethodName := ⟨RX3, "feed", "(II)I"⟩
def dkwX3_feed_2 : List UInt8 := [122, 145, 79, 42, 89, 180, 0, 93, 4, 96, 181, 0, 93, 132, 3, 255, 167, 255, 223, 42, 180, 0, 93, 172]
abbrev dktX3_feed_2 : List UInt8 := dkwX3_feed_2 ++ []
def dkwX3_feed_1 : List UInt8 := [16, 252, 172, 28, 4, 100, 62, 29, 155, 0, 35, 42, 180, 0, 102, 42, 180, 0, 93, 27, 16, 8, 29, 104]
abbrev dktX3_feed_1 : List UInt8 := dkwX3_feed_1 ++ dktX3_feed_2
def dkwX3_feed_0 : List UInt8 := [42, 28, 3, 7, 182, 0, 195, 154, 0, 6, 16, 254, 172, 42, 180, 0, 93, 28, 96, 16, 80, 164, 0, 6]
abbrev dktX3_feed_0 : List UInt8 := dkwX3_feed_0 ++ dktX3_feed_1
theorem dksX3_feed_0 : cX3_feed.data.toList.drop 0 = dktX3_feed_0 := by decide +kernel
theorem dksX3_feed_1 : cX3_feed.data.toList.drop 24 = dktX3_feed_1 := dk_seg dksX3_feed_0 24 rfl rfl
theorem dksX3_feed_2 : cX3_feed.data.toList.drop 48 = dktX3_feed_2 := dk_seg dksX3_feed_1 24 rfl rfl
theorem dX3_feed_0 : decode cX3_feed 0 = .ok (.aload_n 0, 1) := dk_42 (dk_at dksX3_feed_0 0 rfl rfl)
theorem dX3_feed_1 : decode cX3_feed 1 = .ok (.iload_n 2, 1) := dk_28 (dk_at dksX3_feed_0 1 rfl rfl)
theorem dX3_feed_2 : decode cX3_feed 2 = .ok (.iconst 0, 1) := dk_3 (dk_at dksX3_feed_0 2 rfl rfl)
theorem dX3_feed_3 : decode cX3_feed 3 = .ok (.iconst 4, 1) := dk_7 (dk_at dksX3_feed_0 3 rfl rfl)
theorem dX3_feed_4 : decode cX3_feed 4 = .ok (.invokevirtual 195, 3) := dk_182 0 195 (dk_at dksX3_feed_0 4 rfl rfl)
theorem dX3_feed_7 : decode cX3_feed 7 = .ok (.ifCond .ne 6, 3) := dk_154 0 6 (dk_at dksX3_feed_0 7 rfl rfl)
theorem dX3_feed_10 : decode cX3_feed 10 = .ok (.bipush (-2), 2) := dk_16 254 (dk_at dksX3_feed_0 10 rfl rfl)
theorem dX3_feed_12 : decode cX3_feed 12 = .ok (.ireturn, 1) := dk_172 (dk_at dksX3_feed_0 12 rfl rfl)
theorem dX3_feed_13 : decode cX3_feed 13 = .ok (.aload_n 0, 1) := dk_42 (dk_at dksX3_feed_0 13 rfl rfl)
theorem dX3_feed_14 : decode cX3_feed 14 = .ok (.getfield 93, 3) := dk_180 0 93 (dk_at dksX3_feed_0 14 rfl rfl)
theorem dX3_feed_17 : decode cX3_feed 17 = .ok (.iload_n 2, 1) := dk_28 (dk_at dksX3_feed_0 17 rfl rfl)
theorem dX3_feed_18 : decode cX3_feed 18 = .ok (.iadd, 1) := dk_96 (dk_at dksX3_feed_0 18 rfl rfl)
theorem dX3_feed_19 : decode cX3_feed 19 = .ok (.bipush 80, 2) := dk_16 80 (dk_at dksX3_feed_0 19 rfl rfl)
theorem dX3_feed_21 : decode cX3_feed 21 = .ok (.if_icmp .le 6, 3) := dk_164 0 6 (dk_at dksX3_feed_0 21 rfl rfl)
theorem dX3_feed_24 : decode cX3_feed 24 = .ok (.bipush (-4), 2) := dk_16 252 (dk_at dksX3_feed_1 0 rfl rfl)
theorem dX3_feed_26 : decode cX3_feed 26 = .ok (.ireturn, 1) := dk_172 (dk_at dksX3_feed_1 2 rfl rfl)
theorem dX3_feed_27 : decode cX3_feed 27 = .ok (.iload_n 2, 1) := dk_28 (dk_at dksX3_feed_1 3 rfl rfl)
theorem dX3_feed_28 : decode cX3_feed 28 = .ok (.iconst 1, 1) := dk_4 (dk_at dksX3_feed_1 4 rfl rfl)
theorem dX3_feed_29 : decode cX3_feed 29 = .ok (.isub, 1) := dk_100 (dk_at dksX3_feed_1 5 rfl rfl)
theorem dX3_feed_30 : decode cX3_feed 30 = .ok (.istore_n 3, 1) := dk_62 (dk_at dksX3_feed_1 6 rfl rfl)
theorem dX3_feed_31 : decode cX3_feed 31 = .ok (.iload_n 3, 1) := dk_29 (dk_at dksX3_feed_1 7 rfl rfl)
theorem dX3_feed_32 : decode cX3_feed 32 = .ok (.ifCond .lt 35, 3) := dk_155 0 35 (dk_at dksX3_feed_1 8 rfl rfl)
theorem dX3_feed_35 : decode cX3_feed 35 = .ok (.aload_n 0, 1) := dk_42 (dk_at dksX3_feed_1 11 rfl rfl)
theorem dX3_feed_36 : decode cX3_feed 36 = .ok (.getfield 102, 3) := dk_180 0 102 (dk_at dksX3_feed_1 12 rfl rfl)
theorem dX3_feed_39 : decode cX3_feed 39 = .ok (.aload_n 0, 1) := dk_42 (dk_at dksX3_feed_1 15 rfl rfl)
theorem dX3_feed_40 : decode cX3_feed 40 = .ok (.getfield 93, 3) := dk_180 0 93 (dk_at dksX3_feed_1 16 rfl rfl)
theorem dX3_feed_43 : decode cX3_feed 43 = .ok (.iload_n 1, 1) := dk_27 (dk_at dksX3_feed_1 19 rfl rfl)
theorem dX3_feed_44 : decode cX3_feed 44 = .ok (.bipush 8, 2) := dk_16 8 (dk_at dksX3_feed_1 20 rfl rfl)
theorem dX3_feed_46 : decode cX3_feed 46 = .ok (.iload_n 3, 1) := dk_29 (dk_at dksX3_feed_1 22 rfl rfl)
theorem dX3_feed_47 : decode cX3_feed 47 = .ok (.imul, 1) := dk_104 (dk_at dksX3_feed_1 23 rfl rfl)
theorem dX3_feed_48 : decode cX3_feed 48 = .ok (.ishr, 1) := dk_122 (dk_at dksX3_feed_2 0 rfl rfl)
theorem dX3_feed_49 : decode cX3_feed 49 = .ok (.i2b, 1) := dk_145 (dk_at dksX3_feed_2 1 rfl rfl)
theorem dX3_feed_50 : decode cX3_feed 50 = .ok (.iastore, 1) := dk_79 (dk_at dksX3_feed_2 2 rfl rfl)
theorem dX3_feed_51 : decode cX3_feed 51 = .ok (.aload_n 0, 1) := dk_42 (dk_at dksX3_feed_2 3 rfl rfl)
theorem dX3_feed_52 : decode cX3_feed 52 = .ok (.dup, 1) := dk_89 (dk_at dksX3_feed_2 4 rfl rfl)
theorem dX3_feed_53 : decode cX3_feed 53 = .ok (.getfield 93, 3) := dk_180 0 93 (dk_at dksX3_feed_2 5 rfl rfl)
theorem dX3_feed_56 : decode cX3_feed 56 = .ok (.iconst 1, 1) := dk_4 (dk_at dksX3_feed_2 8 rfl rfl)
theorem dX3_feed_57 : decode cX3_feed 57 = .ok (.iadd, 1) := dk_96 (dk_at dksX3_feed_2 9 rfl rfl)
theorem dX3_feed_58 : decode cX3_feed 58 = .ok (.putfield 93, 3) := dk_181 0 93 (dk_at dksX3_feed_2 10 rfl rfl)
theorem dX3_feed_61 : decode cX3_feed 61 = .ok (.iinc 3 (-1), 3) := dk_132 3 255 (dk_at dksX3_feed_2 13 rfl rfl)
theorem dX3_feed_64 : decode cX3_feed 64 = .ok (.goto (-33), 3) := dk_167 255 223 (dk_at dksX3_feed_2 16 rfl rfl)
theorem dX3_feed_67 : decode cX3_feed 67 = .ok (.aload_n 0, 1) := dk_42 (dk_at dksX3_feed_2 19 rfl rfl)
theorem dX3_feed_68 : decode cX3_feed 68 = .ok (.getfield 93, 3) := dk_180 0 93 (dk_at dksX3_feed_2 20 rfl rfl)
theorem dX3_feed_71 : decode cX3_feed 71 = .ok (.ireturn, 1) := dk_172 (dk_at dksX3_feed_2 23 rfl rfl)
abbrev cX3_figure : ByteArray := prog_17_method_38_code
def yX3_figure : MethodName := ⟨RX3, "figure", "()I"⟩
def dkwX3_figure_5 : List UInt8 := [180, 0, 90, 4, 100, 172]
abbrev dktX3_figure_5 : List UInt8 := dkwX3_figure_5 ++ []
def dkwX3_figure_4 : List UInt8 := [17, 11, 184, 28, 96, 46, 79, 132, 2, 1, 167, 255, 217, 42, 89, 180, 0, 90, 4, 96, 181, 0, 90, 42]
abbrev dktX3_figure_4 : List UInt8 := dkwX3_figure_4 ++ dktX3_figure_5
def dkwX3_figure_3 : List UInt8 := [46, 162, 0, 34, 42, 180, 0, 99, 17, 1, 44, 42, 180, 0, 90, 104, 28, 96, 42, 180, 0, 99]
abbrev dktX3_figure_3 : List UInt8 := dkwX3_figure_3 ++ dktX3_figure_4
def dkwX3_figure_2 : List UInt8 := [180, 0, 96, 42, 180, 0, 90, 42, 180, 0, 96, 16, 10, 46, 79, 3, 61, 28, 42, 180, 0, 96, 16, 10]
abbrev dktX3_figure_2 : List UInt8 := dkwX3_figure_2 ++ dktX3_figure_3
def dkwX3_figure_1 : List UInt8 := [154, 0, 11, 16, 246, 42, 180, 0, 105, 100, 172, 42, 180, 0, 108, 153, 0, 6, 16, 254, 172, 42]
abbrev dktX3_figure_1 : List UInt8 := dkwX3_figure_1 ++ dktX3_figure_2
def dkwX3_figure_0 : List UInt8 := [42, 180, 0, 90, 16, 10, 160, 0, 6, 16, 252, 172, 42, 182, 0, 254, 60, 42, 3, 181, 0, 93, 27]
abbrev dktX3_figure_0 : List UInt8 := dkwX3_figure_0 ++ dktX3_figure_1
theorem dksX3_figure_0 : cX3_figure.data.toList.drop 0 = dktX3_figure_0 := by decide +kernel
theorem dksX3_figure_1 : cX3_figure.data.toList.drop 23 = dktX3_figure_1 := dk_seg dksX3_figure_0 23 rfl rfl
theorem dksX3_figure_2 : cX3_figure.data.toList.drop 45 = dktX3_figure_2 := dk_seg dksX3_figure_1 22 rfl rfl
theorem dksX3_figure_3 : cX3_figure.data.toList.drop 69 = dktX3_figure_3 := dk_seg dksX3_figure_2 24 rfl rfl
theorem dksX3_figure_4 : cX3_figure.data.toList.drop 91 = dktX3_figure_4 := dk_seg dksX3_figure_3 22 rfl rfl
theorem dksX3_figure_5 : cX3_figure.data.toList.drop 115 = dktX3_figure_5 := dk_seg dksX3_figure_4 24 rfl rfl
theorem dX3_figure_0 : decode cX3_figure 0 = .ok (.aload_n 0, 1) := dk_42 (dk_at dksX3_figure_0 0 rfl rfl)
theorem dX3_figure_1 : decode cX3_figure 1 = .ok (.getfield 90, 3) := dk_180 0 90 (dk_at dksX3_figure_0 1 rfl rfl)
theorem dX3_figure_4 : decode cX3_figure 4 = .ok (.bipush 10, 2) := dk_16 10 (dk_at dksX3_figure_0 4 rfl rfl)
theorem dX3_figure_6 : decode cX3_figure 6 = .ok (.if_icmp .ne 6, 3) := dk_160 0 6 (dk_at dksX3_figure_0 6 rfl rfl)
theorem dX3_figure_9 : decode cX3_figure 9 = .ok (.bipush (-4), 2) := dk_16 252 (dk_at dksX3_figure_0 9 rfl rfl)
theorem dX3_figure_11 : decode cX3_figure 11 = .ok (.ireturn, 1) := dk_172 (dk_at dksX3_figure_0 11 rfl rfl)
theorem dX3_figure_12 : decode cX3_figure 12 = .ok (.aload_n 0, 1) := dk_42 (dk_at dksX3_figure_0 12 rfl rfl)
theorem dX3_figure_13 : decode cX3_figure 13 = .ok (.invokevirtual 254, 3) := dk_182 0 254 (dk_at dksX3_figure_0 13 rfl rfl)
theorem dX3_figure_16 : decode cX3_figure 16 = .ok (.istore_n 1, 1) := dk_60 (dk_at dksX3_figure_0 16 rfl rfl)
theorem dX3_figure_17 : decode cX3_figure 17 = .ok (.aload_n 0, 1) := dk_42 (dk_at dksX3_figure_0 17 rfl rfl)
theorem dX3_figure_18 : decode cX3_figure 18 = .ok (.iconst 0, 1) := dk_3 (dk_at dksX3_figure_0 18 rfl rfl)
theorem dX3_figure_19 : decode cX3_figure 19 = .ok (.putfield 93, 3) := dk_181 0 93 (dk_at dksX3_figure_0 19 rfl rfl)
theorem dX3_figure_22 : decode cX3_figure 22 = .ok (.iload_n 1, 1) := dk_27 (dk_at dksX3_figure_0 22 rfl rfl)
theorem dX3_figure_23 : decode cX3_figure 23 = .ok (.ifCond .ne 11, 3) := dk_154 0 11 (dk_at dksX3_figure_1 0 rfl rfl)
theorem dX3_figure_26 : decode cX3_figure 26 = .ok (.bipush (-10), 2) := dk_16 246 (dk_at dksX3_figure_1 3 rfl rfl)
theorem dX3_figure_28 : decode cX3_figure 28 = .ok (.aload_n 0, 1) := dk_42 (dk_at dksX3_figure_1 5 rfl rfl)
theorem dX3_figure_29 : decode cX3_figure 29 = .ok (.getfield 105, 3) := dk_180 0 105 (dk_at dksX3_figure_1 6 rfl rfl)
theorem dX3_figure_32 : decode cX3_figure 32 = .ok (.isub, 1) := dk_100 (dk_at dksX3_figure_1 9 rfl rfl)
theorem dX3_figure_33 : decode cX3_figure 33 = .ok (.ireturn, 1) := dk_172 (dk_at dksX3_figure_1 10 rfl rfl)
theorem dX3_figure_34 : decode cX3_figure 34 = .ok (.aload_n 0, 1) := dk_42 (dk_at dksX3_figure_1 11 rfl rfl)
theorem dX3_figure_35 : decode cX3_figure 35 = .ok (.getfield 108, 3) := dk_180 0 108 (dk_at dksX3_figure_1 12 rfl rfl)
theorem dX3_figure_38 : decode cX3_figure 38 = .ok (.ifCond .eq 6, 3) := dk_153 0 6 (dk_at dksX3_figure_1 15 rfl rfl)
theorem dX3_figure_41 : decode cX3_figure 41 = .ok (.bipush (-2), 2) := dk_16 254 (dk_at dksX3_figure_1 18 rfl rfl)
theorem dX3_figure_43 : decode cX3_figure 43 = .ok (.ireturn, 1) := dk_172 (dk_at dksX3_figure_1 20 rfl rfl)
theorem dX3_figure_44 : decode cX3_figure 44 = .ok (.aload_n 0, 1) := dk_42 (dk_at dksX3_figure_1 21 rfl rfl)
theorem dX3_figure_45 : decode cX3_figure 45 = .ok (.getfield 96, 3) := dk_180 0 96 (dk_at dksX3_figure_2 0 rfl rfl)
theorem dX3_figure_48 : decode cX3_figure 48 = .ok (.aload_n 0, 1) := dk_42 (dk_at dksX3_figure_2 3 rfl rfl)
theorem dX3_figure_49 : decode cX3_figure 49 = .ok (.getfield 90, 3) := dk_180 0 90 (dk_at dksX3_figure_2 4 rfl rfl)
theorem dX3_figure_52 : decode cX3_figure 52 = .ok (.aload_n 0, 1) := dk_42 (dk_at dksX3_figure_2 7 rfl rfl)
theorem dX3_figure_53 : decode cX3_figure 53 = .ok (.getfield 96, 3) := dk_180 0 96 (dk_at dksX3_figure_2 8 rfl rfl)
theorem dX3_figure_56 : decode cX3_figure 56 = .ok (.bipush 10, 2) := dk_16 10 (dk_at dksX3_figure_2 11 rfl rfl)
theorem dX3_figure_58 : decode cX3_figure 58 = .ok (.iaload, 1) := dk_46 (dk_at dksX3_figure_2 13 rfl rfl)
theorem dX3_figure_59 : decode cX3_figure 59 = .ok (.iastore, 1) := dk_79 (dk_at dksX3_figure_2 14 rfl rfl)
theorem dX3_figure_60 : decode cX3_figure 60 = .ok (.iconst 0, 1) := dk_3 (dk_at dksX3_figure_2 15 rfl rfl)
theorem dX3_figure_61 : decode cX3_figure 61 = .ok (.istore_n 2, 1) := dk_61 (dk_at dksX3_figure_2 16 rfl rfl)
theorem dX3_figure_62 : decode cX3_figure 62 = .ok (.iload_n 2, 1) := dk_28 (dk_at dksX3_figure_2 17 rfl rfl)
theorem dX3_figure_63 : decode cX3_figure 63 = .ok (.aload_n 0, 1) := dk_42 (dk_at dksX3_figure_2 18 rfl rfl)
theorem dX3_figure_64 : decode cX3_figure 64 = .ok (.getfield 96, 3) := dk_180 0 96 (dk_at dksX3_figure_2 19 rfl rfl)
theorem dX3_figure_67 : decode cX3_figure 67 = .ok (.bipush 10, 2) := dk_16 10 (dk_at dksX3_figure_2 22 rfl rfl)
theorem dX3_figure_69 : decode cX3_figure 69 = .ok (.iaload, 1) := dk_46 (dk_at dksX3_figure_3 0 rfl rfl)
theorem dX3_figure_70 : decode cX3_figure 70 = .ok (.if_icmp .ge 34, 3) := dk_162 0 34 (dk_at dksX3_figure_3 1 rfl rfl)
theorem dX3_figure_73 : decode cX3_figure 73 = .ok (.aload_n 0, 1) := dk_42 (dk_at dksX3_figure_3 4 rfl rfl)
theorem dX3_figure_74 : decode cX3_figure 74 = .ok (.getfield 99, 3) := dk_180 0 99 (dk_at dksX3_figure_3 5 rfl rfl)
theorem dX3_figure_77 : decode cX3_figure 77 = .ok (.sipush 300, 3) := dk_17 1 44 (dk_at dksX3_figure_3 8 rfl rfl)
theorem dX3_figure_80 : decode cX3_figure 80 = .ok (.aload_n 0, 1) := dk_42 (dk_at dksX3_figure_3 11 rfl rfl)
theorem dX3_figure_81 : decode cX3_figure 81 = .ok (.getfield 90, 3) := dk_180 0 90 (dk_at dksX3_figure_3 12 rfl rfl)
theorem dX3_figure_84 : decode cX3_figure 84 = .ok (.imul, 1) := dk_104 (dk_at dksX3_figure_3 15 rfl rfl)
theorem dX3_figure_85 : decode cX3_figure 85 = .ok (.iload_n 2, 1) := dk_28 (dk_at dksX3_figure_3 16 rfl rfl)
theorem dX3_figure_86 : decode cX3_figure 86 = .ok (.iadd, 1) := dk_96 (dk_at dksX3_figure_3 17 rfl rfl)
theorem dX3_figure_87 : decode cX3_figure 87 = .ok (.aload_n 0, 1) := dk_42 (dk_at dksX3_figure_3 18 rfl rfl)
theorem dX3_figure_88 : decode cX3_figure 88 = .ok (.getfield 99, 3) := dk_180 0 99 (dk_at dksX3_figure_3 19 rfl rfl)
theorem dX3_figure_91 : decode cX3_figure 91 = .ok (.sipush 3000, 3) := dk_17 11 184 (dk_at dksX3_figure_4 0 rfl rfl)
theorem dX3_figure_94 : decode cX3_figure 94 = .ok (.iload_n 2, 1) := dk_28 (dk_at dksX3_figure_4 3 rfl rfl)
theorem dX3_figure_95 : decode cX3_figure 95 = .ok (.iadd, 1) := dk_96 (dk_at dksX3_figure_4 4 rfl rfl)
theorem dX3_figure_96 : decode cX3_figure 96 = .ok (.iaload, 1) := dk_46 (dk_at dksX3_figure_4 5 rfl rfl)
theorem dX3_figure_97 : decode cX3_figure 97 = .ok (.iastore, 1) := dk_79 (dk_at dksX3_figure_4 6 rfl rfl)
theorem dX3_figure_98 : decode cX3_figure 98 = .ok (.iinc 2 1, 3) := dk_132 2 1 (dk_at dksX3_figure_4 7 rfl rfl)
theorem dX3_figure_101 : decode cX3_figure 101 = .ok (.goto (-39), 3) := dk_167 255 217 (dk_at dksX3_figure_4 10 rfl rfl)
theorem dX3_figure_104 : decode cX3_figure 104 = .ok (.aload_n 0, 1) := dk_42 (dk_at dksX3_figure_4 13 rfl rfl)
theorem dX3_figure_105 : decode cX3_figure 105 = .ok (.dup, 1) := dk_89 (dk_at dksX3_figure_4 14 rfl rfl)
theorem dX3_figure_106 : decode cX3_figure 106 = .ok (.getfield 90, 3) := dk_180 0 90 (dk_at dksX3_figure_4 15 rfl rfl)
theorem dX3_figure_109 : decode cX3_figure 109 = .ok (.iconst 1, 1) := dk_4 (dk_at dksX3_figure_4 18 rfl rfl)
theorem dX3_figure_110 : decode cX3_figure 110 = .ok (.iadd, 1) := dk_96 (dk_at dksX3_figure_4 19 rfl rfl)
theorem dX3_figure_111 : decode cX3_figure 111 = .ok (.putfield 90, 3) := dk_181 0 90 (dk_at dksX3_figure_4 20 rfl rfl)
theorem dX3_figure_114 : decode cX3_figure 114 = .ok (.aload_n 0, 1) := dk_42 (dk_at dksX3_figure_4 23 rfl rfl)
theorem dX3_figure_115 : decode cX3_figure 115 = .ok (.getfield 90, 3) := dk_180 0 90 (dk_at dksX3_figure_5 0 rfl rfl)
theorem dX3_figure_118 : decode cX3_figure 118 = .ok (.iconst 1, 1) := dk_4 (dk_at dksX3_figure_5 3 rfl rfl)
theorem dX3_figure_119 : decode cX3_figure 119 = .ok (.isub, 1) := dk_100 (dk_at dksX3_figure_5 4 rfl rfl)
theorem dX3_figure_120 : decode cX3_figure 120 = .ok (.ireturn, 1) := dk_172 (dk_at dksX3_figure_5 5 rfl rfl)
abbrev cX3_reads : ByteArray := prog_17_method_37_code
def yX3_reads : MethodName := ⟨RX3, "reads", "()Z"⟩
def dkwX3_reads_16 : List UInt8 := [3, 46, 158, 0, 7, 4, 167, 0, 4, 3, 172]
abbrev dktX3_reads_16 : List UInt8 := dkwX3_reads_16 ++ []
def dkwX3_reads_15 : List UInt8 := [4, 96, 79, 42, 89, 180, 0, 105, 4, 96, 181, 0, 105, 167, 254, 174, 27, 154, 0, 16, 42, 180, 0, 114]
abbrev dktX3_reads_15 : List UInt8 := dkwX3_reads_15 ++ dktX3_reads_16
def dkwX3_reads_14 : List UInt8 := [46, 182, 0, 251, 167, 0, 5, 3, 172, 132, 1, 255, 167, 0, 5, 3, 172, 42, 180, 0, 114, 27, 92, 46]
abbrev dktX3_reads_14 : List UInt8 := dkwX3_reads_14 ++ dktX3_reads_15
def dkwX3_reads_13 : List UInt8 := [16, 48, 100, 182, 0, 247, 167, 0, 27, 42, 182, 0, 241, 16, 45, 160, 0, 16, 42, 42, 180, 0, 111, 27]
abbrev dktX3_reads_13 : List UInt8 := dkwX3_reads_13 ++ dktX3_reads_14
def dkwX3_reads_12 : List UInt8 := [182, 0, 241, 16, 50, 16, 57, 182, 0, 195, 153, 0, 23, 42, 42, 180, 0, 111, 27, 46, 42, 182, 0, 241]
abbrev dktX3_reads_12 : List UInt8 := dkwX3_reads_12 ++ dktX3_reads_13
def dkwX3_reads_11 : List UInt8 := [158, 0, 87, 42, 180, 0, 114, 27, 46, 158, 0, 78, 42, 89, 180, 0, 105, 4, 96, 181, 0, 105, 42, 42]
abbrev dktX3_reads_11 : List UInt8 := dkwX3_reads_11 ++ dktX3_reads_12
def dkwX3_reads_10 : List UInt8 := [180, 0, 96, 16, 10, 46, 79, 42, 180, 0, 114, 27, 2, 79, 167, 0, 99, 28, 16, 41, 160, 0, 91, 27]
abbrev dktX3_reads_10 : List UInt8 := dkwX3_reads_10 ++ dktX3_reads_11
def dkwX3_reads_9 : List UInt8 := [167, 0, 136, 28, 16, 40, 160, 0, 34, 27, 7, 162, 0, 29, 132, 1, 1, 42, 180, 0, 111, 27, 42]
abbrev dktX3_reads_9 : List UInt8 := dkwX3_reads_9 ++ dktX3_reads_10
def dkwX3_reads_8 : List UInt8 := [180, 0, 99, 17, 1, 44, 28, 16, 65, 100, 104, 29, 96, 46, 182, 0, 237, 132, 3, 1, 167, 255, 221]
abbrev dktX3_reads_8 : List UInt8 := dkwX3_reads_8 ++ dktX3_reads_9
def dkwX3_reads_7 : List UInt8 := [182, 0, 244, 153, 0, 46, 3, 62, 29, 42, 180, 0, 96, 28, 16, 65, 100, 46, 162, 0, 28, 42, 42]
abbrev dktX3_reads_7 : List UInt8 := dkwX3_reads_7 ++ dktX3_reads_8
def dkwX3_reads_6 : List UInt8 := [182, 0, 237, 167, 0, 202, 42, 28, 16, 65, 16, 74, 182, 0, 195, 153, 0, 57, 42, 28, 16, 65, 100]
abbrev dktX3_reads_6 : List UInt8 := dkwX3_reads_6 ++ dktX3_reads_7
def dkwX3_reads_5 : List UInt8 := [159, 0, 9, 28, 16, 118, 160, 0, 23, 42, 28, 16, 119, 160, 0, 8, 16, 100, 167, 0, 5, 16, 101]
abbrev dktX3_reads_5 : List UInt8 := dkwX3_reads_5 ++ dktX3_reads_6
def dkwX3_reads_4 : List UInt8 := [182, 0, 241, 16, 60, 160, 0, 7, 3, 167, 0, 4, 4, 96, 182, 0, 237, 167, 0, 234, 28, 16, 119]
abbrev dktX3_reads_4 : List UInt8 := dkwX3_reads_4 ++ dktX3_reads_5
def dkwX3_reads_3 : List UInt8 := [159, 0, 14, 42, 182, 0, 241, 16, 62, 159, 0, 5, 3, 172, 42, 16, 10, 28, 16, 48, 100, 104, 42]
abbrev dktX3_reads_3 : List UInt8 := dkwX3_reads_3 ++ dktX3_reads_4
def dkwX3_reads_2 : List UInt8 := [16, 57, 182, 0, 195, 153, 0, 62, 42, 89, 180, 0, 105, 4, 96, 181, 0, 105, 42, 182, 0, 241, 16, 60]
abbrev dktX3_reads_2 : List UInt8 := dkwX3_reads_2 ++ dktX3_reads_3
def dkwX3_reads_1 : List UInt8 := [3, 3, 79, 42, 180, 0, 105, 42, 180, 0, 93, 162, 1, 77, 42, 182, 0, 241, 61, 42, 28, 16, 48]
abbrev dktX3_reads_1 : List UInt8 := dkwX3_reads_1 ++ dktX3_reads_2
def dkwX3_reads_0 : List UInt8 := [42, 3, 181, 0, 105, 42, 180, 0, 96, 16, 10, 3, 79, 42, 3, 181, 0, 108, 3, 60, 42, 180, 0, 114]
abbrev dktX3_reads_0 : List UInt8 := dkwX3_reads_0 ++ dktX3_reads_1
theorem dksX3_reads_0 : cX3_reads.data.toList.drop 0 = dktX3_reads_0 := by decide +kernel
theorem dksX3_reads_1 : cX3_reads.data.toList.drop 24 = dktX3_reads_1 := dk_seg dksX3_reads_0 24 rfl rfl
theorem dksX3_reads_2 : cX3_reads.data.toList.drop 47 = dktX3_reads_2 := dk_seg dksX3_reads_1 23 rfl rfl
theorem dksX3_reads_3 : cX3_reads.data.toList.drop 71 = dktX3_reads_3 := dk_seg dksX3_reads_2 24 rfl rfl
theorem dksX3_reads_4 : cX3_reads.data.toList.drop 94 = dktX3_reads_4 := dk_seg dksX3_reads_3 23 rfl rfl
theorem dksX3_reads_5 : cX3_reads.data.toList.drop 117 = dktX3_reads_5 := dk_seg dksX3_reads_4 23 rfl rfl
theorem dksX3_reads_6 : cX3_reads.data.toList.drop 140 = dktX3_reads_6 := dk_seg dksX3_reads_5 23 rfl rfl
theorem dksX3_reads_7 : cX3_reads.data.toList.drop 163 = dktX3_reads_7 := dk_seg dksX3_reads_6 23 rfl rfl
theorem dksX3_reads_8 : cX3_reads.data.toList.drop 186 = dktX3_reads_8 := dk_seg dksX3_reads_7 23 rfl rfl
theorem dksX3_reads_9 : cX3_reads.data.toList.drop 209 = dktX3_reads_9 := dk_seg dksX3_reads_8 23 rfl rfl
theorem dksX3_reads_10 : cX3_reads.data.toList.drop 232 = dktX3_reads_10 := dk_seg dksX3_reads_9 23 rfl rfl
theorem dksX3_reads_11 : cX3_reads.data.toList.drop 256 = dktX3_reads_11 := dk_seg dksX3_reads_10 24 rfl rfl
theorem dksX3_reads_12 : cX3_reads.data.toList.drop 280 = dktX3_reads_12 := dk_seg dksX3_reads_11 24 rfl rfl
theorem dksX3_reads_13 : cX3_reads.data.toList.drop 304 = dktX3_reads_13 := dk_seg dksX3_reads_12 24 rfl rfl
theorem dksX3_reads_14 : cX3_reads.data.toList.drop 328 = dktX3_reads_14 := dk_seg dksX3_reads_13 24 rfl rfl
theorem dksX3_reads_15 : cX3_reads.data.toList.drop 352 = dktX3_reads_15 := dk_seg dksX3_reads_14 24 rfl rfl
theorem dksX3_reads_16 : cX3_reads.data.toList.drop 376 = dktX3_reads_16 := dk_seg dksX3_reads_15 24 rfl rfl
theorem dX3_reads_0 : decode cX3_reads 0 = .ok (.aload_n 0, 1) := dk_42 (dk_at dksX3_reads_0 0 rfl rfl)
theorem dX3_reads_1 : decode cX3_reads 1 = .ok (.iconst 0, 1) := dk_3 (dk_at dksX3_reads_0 1 rfl rfl)
theorem dX3_reads_2 : decode cX3_reads 2 = .ok (.putfield 105, 3) := dk_181 0 105 (dk_at dksX3_reads_0 2 rfl rfl)
theorem dX3_reads_5 : decode cX3_reads 5 = .ok (.aload_n 0, 1) := dk_42 (dk_at dksX3_reads_0 5 rfl rfl)
theorem dX3_reads_6 : decode cX3_reads 6 = .ok (.getfield 96, 3) := dk_180 0 96 (dk_at dksX3_reads_0 6 rfl rfl)
theorem dX3_reads_9 : decode cX3_reads 9 = .ok (.bipush 10, 2) := dk_16 10 (dk_at dksX3_reads_0 9 rfl rfl)
theorem dX3_reads_11 : decode cX3_reads 11 = .ok (.iconst 0, 1) := dk_3 (dk_at dksX3_reads_0 11 rfl rfl)
theorem dX3_reads_12 : decode cX3_reads 12 = .ok (.iastore, 1) := dk_79 (dk_at dksX3_reads_0 12 rfl rfl)
theorem dX3_reads_13 : decode cX3_reads 13 = .ok (.aload_n 0, 1) := dk_42 (dk_at dksX3_reads_0 13 rfl rfl)
theorem dX3_reads_14 : decode cX3_reads 14 = .ok (.iconst 0, 1) := dk_3 (dk_at dksX3_reads_0 14 rfl rfl)
theorem dX3_reads_15 : decode cX3_reads 15 = .ok (.putfield 108, 3) := dk_181 0 108 (dk_at dksX3_reads_0 15 rfl rfl)
theorem dX3_reads_18 : decode cX3_reads 18 = .ok (.iconst 0, 1) := dk_3 (dk_at dksX3_reads_0 18 rfl rfl)
theorem dX3_reads_19 : decode cX3_reads 19 = .ok (.istore_n 1, 1) := dk_60 (dk_at dksX3_reads_0 19 rfl rfl)
theorem dX3_reads_20 : decode cX3_reads 20 = .ok (.aload_n 0, 1) := dk_42 (dk_at dksX3_reads_0 20 rfl rfl)
theorem dX3_reads_21 : decode cX3_reads 21 = .ok (.getfield 114, 3) := dk_180 0 114 (dk_at dksX3_reads_0 21 rfl rfl)
theorem dX3_reads_24 : decode cX3_reads 24 = .ok (.iconst 0, 1) := dk_3 (dk_at dksX3_reads_1 0 rfl rfl)
theorem dX3_reads_25 : decode cX3_reads 25 = .ok (.iconst 0, 1) := dk_3 (dk_at dksX3_reads_1 1 rfl rfl)
theorem dX3_reads_26 : decode cX3_reads 26 = .ok (.iastore, 1) := dk_79 (dk_at dksX3_reads_1 2 rfl rfl)
theorem dX3_reads_27 : decode cX3_reads 27 = .ok (.aload_n 0, 1) := dk_42 (dk_at dksX3_reads_1 3 rfl rfl)
theorem dX3_reads_28 : decode cX3_reads 28 = .ok (.getfield 105, 3) := dk_180 0 105 (dk_at dksX3_reads_1 4 rfl rfl)
theorem dX3_reads_31 : decode cX3_reads 31 = .ok (.aload_n 0, 1) := dk_42 (dk_at dksX3_reads_1 7 rfl rfl)
theorem dX3_reads_32 : decode cX3_reads 32 = .ok (.getfield 93, 3) := dk_180 0 93 (dk_at dksX3_reads_1 8 rfl rfl)
theorem dX3_reads_35 : decode cX3_reads 35 = .ok (.if_icmp .ge 333, 3) := dk_162 1 77 (dk_at dksX3_reads_1 11 rfl rfl)
theorem dX3_reads_38 : decode cX3_reads 38 = .ok (.aload_n 0, 1) := dk_42 (dk_at dksX3_reads_1 14 rfl rfl)
theorem dX3_reads_39 : decode cX3_reads 39 = .ok (.invokevirtual 241, 3) := dk_182 0 241 (dk_at dksX3_reads_1 15 rfl rfl)
theorem dX3_reads_42 : decode cX3_reads 42 = .ok (.istore_n 2, 1) := dk_61 (dk_at dksX3_reads_1 18 rfl rfl)
theorem dX3_reads_43 : decode cX3_reads 43 = .ok (.aload_n 0, 1) := dk_42 (dk_at dksX3_reads_1 19 rfl rfl)
theorem dX3_reads_44 : decode cX3_reads 44 = .ok (.iload_n 2, 1) := dk_28 (dk_at dksX3_reads_1 20 rfl rfl)
theorem dX3_reads_45 : decode cX3_reads 45 = .ok (.bipush 48, 2) := dk_16 48 (dk_at dksX3_reads_1 21 rfl rfl)
theorem dX3_reads_47 : decode cX3_reads 47 = .ok (.bipush 57, 2) := dk_16 57 (dk_at dksX3_reads_2 0 rfl rfl)
theorem dX3_reads_49 : decode cX3_reads 49 = .ok (.invokevirtual 195, 3) := dk_182 0 195 (dk_at dksX3_reads_2 2 rfl rfl)
theorem dX3_reads_52 : decode cX3_reads 52 = .ok (.ifCond .eq 62, 3) := dk_153 0 62 (dk_at dksX3_reads_2 5 rfl rfl)
theorem dX3_reads_55 : decode cX3_reads 55 = .ok (.aload_n 0, 1) := dk_42 (dk_at dksX3_reads_2 8 rfl rfl)
theorem dX3_reads_56 : decode cX3_reads 56 = .ok (.dup, 1) := dk_89 (dk_at dksX3_reads_2 9 rfl rfl)
theorem dX3_reads_57 : decode cX3_reads 57 = .ok (.getfield 105, 3) := dk_180 0 105 (dk_at dksX3_reads_2 10 rfl rfl)
theorem dX3_reads_60 : decode cX3_reads 60 = .ok (.iconst 1, 1) := dk_4 (dk_at dksX3_reads_2 13 rfl rfl)
theorem dX3_reads_61 : decode cX3_reads 61 = .ok (.iadd, 1) := dk_96 (dk_at dksX3_reads_2 14 rfl rfl)
theorem dX3_reads_62 : decode cX3_reads 62 = .ok (.putfield 105, 3) := dk_181 0 105 (dk_at dksX3_reads_2 15 rfl rfl)
theorem dX3_reads_65 : decode cX3_reads 65 = .ok (.aload_n 0, 1) := dk_42 (dk_at dksX3_reads_2 18 rfl rfl)
theorem dX3_reads_66 : decode cX3_reads 66 = .ok (.invokevirtual 241, 3) := dk_182 0 241 (dk_at dksX3_reads_2 19 rfl rfl)
theorem dX3_reads_69 : decode cX3_reads 69 = .ok (.bipush 60, 2) := dk_16 60 (dk_at dksX3_reads_2 22 rfl rfl)
theorem dX3_reads_71 : decode cX3_reads 71 = .ok (.if_icmp .eq 14, 3) := dk_159 0 14 (dk_at dksX3_reads_3 0 rfl rfl)
theorem dX3_reads_74 : decode cX3_reads 74 = .ok (.aload_n 0, 1) := dk_42 (dk_at dksX3_reads_3 3 rfl rfl)
theorem dX3_reads_75 : decode cX3_reads 75 = .ok (.invokevirtual 241, 3) := dk_182 0 241 (dk_at dksX3_reads_3 4 rfl rfl)
theorem dX3_reads_78 : decode cX3_reads 78 = .ok (.bipush 62, 2) := dk_16 62 (dk_at dksX3_reads_3 7 rfl rfl)
theorem dX3_reads_80 : decode cX3_reads 80 = .ok (.if_icmp .eq 5, 3) := dk_159 0 5 (dk_at dksX3_reads_3 9 rfl rfl)
theorem dX3_reads_83 : decode cX3_reads 83 = .ok (.iconst 0, 1) := dk_3 (dk_at dksX3_reads_3 12 rfl rfl)
theorem dX3_reads_84 : decode cX3_reads 84 = .ok (.ireturn, 1) := dk_172 (dk_at dksX3_reads_3 13 rfl rfl)
theorem dX3_reads_85 : decode cX3_reads 85 = .ok (.aload_n 0, 1) := dk_42 (dk_at dksX3_reads_3 14 rfl rfl)
theorem dX3_reads_86 : decode cX3_reads 86 = .ok (.bipush 10, 2) := dk_16 10 (dk_at dksX3_reads_3 15 rfl rfl)
theorem dX3_reads_88 : decode cX3_reads 88 = .ok (.iload_n 2, 1) := dk_28 (dk_at dksX3_reads_3 17 rfl rfl)
theorem dX3_reads_89 : decode cX3_reads 89 = .ok (.bipush 48, 2) := dk_16 48 (dk_at dksX3_reads_3 18 rfl rfl)
theorem dX3_reads_91 : decode cX3_reads 91 = .ok (.isub, 1) := dk_100 (dk_at dksX3_reads_3 20 rfl rfl)
theorem dX3_reads_92 : decode cX3_reads 92 = .ok (.imul, 1) := dk_104 (dk_at dksX3_reads_3 21 rfl rfl)
theorem dX3_reads_93 : decode cX3_reads 93 = .ok (.aload_n 0, 1) := dk_42 (dk_at dksX3_reads_3 22 rfl rfl)
theorem dX3_reads_94 : decode cX3_reads 94 = .ok (.invokevirtual 241, 3) := dk_182 0 241 (dk_at dksX3_reads_4 0 rfl rfl)
theorem dX3_reads_97 : decode cX3_reads 97 = .ok (.bipush 60, 2) := dk_16 60 (dk_at dksX3_reads_4 3 rfl rfl)
theorem dX3_reads_99 : decode cX3_reads 99 = .ok (.if_icmp .ne 7, 3) := dk_160 0 7 (dk_at dksX3_reads_4 5 rfl rfl)
theorem dX3_reads_102 : decode cX3_reads 102 = .ok (.iconst 0, 1) := dk_3 (dk_at dksX3_reads_4 8 rfl rfl)
theorem dX3_reads_103 : decode cX3_reads 103 = .ok (.goto 4, 3) := dk_167 0 4 (dk_at dksX3_reads_4 9 rfl rfl)
theorem dX3_reads_106 : decode cX3_reads 106 = .ok (.iconst 1, 1) := dk_4 (dk_at dksX3_reads_4 12 rfl rfl)
theorem dX3_reads_107 : decode cX3_reads 107 = .ok (.iadd, 1) := dk_96 (dk_at dksX3_reads_4 13 rfl rfl)
theorem dX3_reads_108 : decode cX3_reads 108 = .ok (.invokevirtual 237, 3) := dk_182 0 237 (dk_at dksX3_reads_4 14 rfl rfl)
theorem dX3_reads_111 : decode cX3_reads 111 = .ok (.goto 234, 3) := dk_167 0 234 (dk_at dksX3_reads_4 17 rfl rfl)
theorem dX3_reads_114 : decode cX3_reads 114 = .ok (.iload_n 2, 1) := dk_28 (dk_at dksX3_reads_4 20 rfl rfl)
theorem dX3_reads_115 : decode cX3_reads 115 = .ok (.bipush 119, 2) := dk_16 119 (dk_at dksX3_reads_4 21 rfl rfl)
theorem dX3_reads_117 : decode cX3_reads 117 = .ok (.if_icmp .eq 9, 3) := dk_159 0 9 (dk_at dksX3_reads_5 0 rfl rfl)
theorem dX3_reads_120 : decode cX3_reads 120 = .ok (.iload_n 2, 1) := dk_28 (dk_at dksX3_reads_5 3 rfl rfl)
theorem dX3_reads_121 : decode cX3_reads 121 = .ok (.bipush 118, 2) := dk_16 118 (dk_at dksX3_reads_5 4 rfl rfl)
theorem dX3_reads_123 : decode cX3_reads 123 = .ok (.if_icmp .ne 23, 3) := dk_160 0 23 (dk_at dksX3_reads_5 6 rfl rfl)
theorem dX3_reads_126 : decode cX3_reads 126 = .ok (.aload_n 0, 1) := dk_42 (dk_at dksX3_reads_5 9 rfl rfl)
theorem dX3_reads_127 : decode cX3_reads 127 = .ok (.iload_n 2, 1) := dk_28 (dk_at dksX3_reads_5 10 rfl rfl)
theorem dX3_reads_128 : decode cX3_reads 128 = .ok (.bipush 119, 2) := dk_16 119 (dk_at dksX3_reads_5 11 rfl rfl)
theorem dX3_reads_130 : decode cX3_reads 130 = .ok (.if_icmp .ne 8, 3) := dk_160 0 8 (dk_at dksX3_reads_5 13 rfl rfl)
theorem dX3_reads_133 : decode cX3_reads 133 = .ok (.bipush 100, 2) := dk_16 100 (dk_at dksX3_reads_5 16 rfl rfl)
theorem dX3_reads_135 : decode cX3_reads 135 = .ok (.goto 5, 3) := dk_167 0 5 (dk_at dksX3_reads_5 18 rfl rfl)
theorem dX3_reads_138 : decode cX3_reads 138 = .ok (.bipush 101, 2) := dk_16 101 (dk_at dksX3_reads_5 21 rfl rfl)
theorem dX3_reads_140 : decode cX3_reads 140 = .ok (.invokevirtual 237, 3) := dk_182 0 237 (dk_at dksX3_reads_6 0 rfl rfl)
theorem dX3_reads_143 : decode cX3_reads 143 = .ok (.goto 202, 3) := dk_167 0 202 (dk_at dksX3_reads_6 3 rfl rfl)
theorem dX3_reads_146 : decode cX3_reads 146 = .ok (.aload_n 0, 1) := dk_42 (dk_at dksX3_reads_6 6 rfl rfl)
theorem dX3_reads_147 : decode cX3_reads 147 = .ok (.iload_n 2, 1) := dk_28 (dk_at dksX3_reads_6 7 rfl rfl)
theorem dX3_reads_148 : decode cX3_reads 148 = .ok (.bipush 65, 2) := dk_16 65 (dk_at dksX3_reads_6 8 rfl rfl)
theorem dX3_reads_150 : decode cX3_reads 150 = .ok (.bipush 74, 2) := dk_16 74 (dk_at dksX3_reads_6 10 rfl rfl)
theorem dX3_reads_152 : decode cX3_reads 152 = .ok (.invokevirtual 195, 3) := dk_182 0 195 (dk_at dksX3_reads_6 12 rfl rfl)
theorem dX3_reads_155 : decode cX3_reads 155 = .ok (.ifCond .eq 57, 3) := dk_153 0 57 (dk_at dksX3_reads_6 15 rfl rfl)
theorem dX3_reads_158 : decode cX3_reads 158 = .ok (.aload_n 0, 1) := dk_42 (dk_at dksX3_reads_6 18 rfl rfl)
theorem dX3_reads_159 : decode cX3_reads 159 = .ok (.iload_n 2, 1) := dk_28 (dk_at dksX3_reads_6 19 rfl rfl)
theorem dX3_reads_160 : decode cX3_reads 160 = .ok (.bipush 65, 2) := dk_16 65 (dk_at dksX3_reads_6 20 rfl rfl)
theorem dX3_reads_162 : decode cX3_reads 162 = .ok (.isub, 1) := dk_100 (dk_at dksX3_reads_6 22 rfl rfl)
theorem dX3_reads_163 : decode cX3_reads 163 = .ok (.invokevirtual 244, 3) := dk_182 0 244 (dk_at dksX3_reads_7 0 rfl rfl)
theorem dX3_reads_166 : decode cX3_reads 166 = .ok (.ifCond .eq 46, 3) := dk_153 0 46 (dk_at dksX3_reads_7 3 rfl rfl)
theorem dX3_reads_169 : decode cX3_reads 169 = .ok (.iconst 0, 1) := dk_3 (dk_at dksX3_reads_7 6 rfl rfl)
theorem dX3_reads_170 : decode cX3_reads 170 = .ok (.istore_n 3, 1) := dk_62 (dk_at dksX3_reads_7 7 rfl rfl)
theorem dX3_reads_171 : decode cX3_reads 171 = .ok (.iload_n 3, 1) := dk_29 (dk_at dksX3_reads_7 8 rfl rfl)
theorem dX3_reads_172 : decode cX3_reads 172 = .ok (.aload_n 0, 1) := dk_42 (dk_at dksX3_reads_7 9 rfl rfl)
theorem dX3_reads_173 : decode cX3_reads 173 = .ok (.getfield 96, 3) := dk_180 0 96 (dk_at dksX3_reads_7 10 rfl rfl)
theorem dX3_reads_176 : decode cX3_reads 176 = .ok (.iload_n 2, 1) := dk_28 (dk_at dksX3_reads_7 13 rfl rfl)
theorem dX3_reads_177 : decode cX3_reads 177 = .ok (.bipush 65, 2) := dk_16 65 (dk_at dksX3_reads_7 14 rfl rfl)
theorem dX3_reads_179 : decode cX3_reads 179 = .ok (.isub, 1) := dk_100 (dk_at dksX3_reads_7 16 rfl rfl)
theorem dX3_reads_180 : decode cX3_reads 180 = .ok (.iaload, 1) := dk_46 (dk_at dksX3_reads_7 17 rfl rfl)
theorem dX3_reads_181 : decode cX3_reads 181 = .ok (.if_icmp .ge 28, 3) := dk_162 0 28 (dk_at dksX3_reads_7 18 rfl rfl)
theorem dX3_reads_184 : decode cX3_reads 184 = .ok (.aload_n 0, 1) := dk_42 (dk_at dksX3_reads_7 21 rfl rfl)
theorem dX3_reads_185 : decode cX3_reads 185 = .ok (.aload_n 0, 1) := dk_42 (dk_at dksX3_reads_7 22 rfl rfl)
theorem dX3_reads_186 : decode cX3_reads 186 = .ok (.getfield 99, 3) := dk_180 0 99 (dk_at dksX3_reads_8 0 rfl rfl)
theorem dX3_reads_189 : decode cX3_reads 189 = .ok (.sipush 300, 3) := dk_17 1 44 (dk_at dksX3_reads_8 3 rfl rfl)
theorem dX3_reads_192 : decode cX3_reads 192 = .ok (.iload_n 2, 1) := dk_28 (dk_at dksX3_reads_8 6 rfl rfl)
theorem dX3_reads_193 : decode cX3_reads 193 = .ok (.bipush 65, 2) := dk_16 65 (dk_at dksX3_reads_8 7 rfl rfl)
theorem dX3_reads_195 : decode cX3_reads 195 = .ok (.isub, 1) := dk_100 (dk_at dksX3_reads_8 9 rfl rfl)
theorem dX3_reads_196 : decode cX3_reads 196 = .ok (.imul, 1) := dk_104 (dk_at dksX3_reads_8 10 rfl rfl)
theorem dX3_reads_197 : decode cX3_reads 197 = .ok (.iload_n 3, 1) := dk_29 (dk_at dksX3_reads_8 11 rfl rfl)
theorem dX3_reads_198 : decode cX3_reads 198 = .ok (.iadd, 1) := dk_96 (dk_at dksX3_reads_8 12 rfl rfl)
theorem dX3_reads_199 : decode cX3_reads 199 = .ok (.iaload, 1) := dk_46 (dk_at dksX3_reads_8 13 rfl rfl)
theorem dX3_reads_200 : decode cX3_reads 200 = .ok (.invokevirtual 237, 3) := dk_182 0 237 (dk_at dksX3_reads_8 14 rfl rfl)
theorem dX3_reads_203 : decode cX3_reads 203 = .ok (.iinc 3 1, 3) := dk_132 3 1 (dk_at dksX3_reads_8 17 rfl rfl)
theorem dX3_reads_206 : decode cX3_reads 206 = .ok (.goto (-35), 3) := dk_167 255 221 (dk_at dksX3_reads_8 20 rfl rfl)
theorem dX3_reads_209 : decode cX3_reads 209 = .ok (.goto 136, 3) := dk_167 0 136 (dk_at dksX3_reads_9 0 rfl rfl)
theorem dX3_reads_212 : decode cX3_reads 212 = .ok (.iload_n 2, 1) := dk_28 (dk_at dksX3_reads_9 3 rfl rfl)
theorem dX3_reads_213 : decode cX3_reads 213 = .ok (.bipush 40, 2) := dk_16 40 (dk_at dksX3_reads_9 4 rfl rfl)
theorem dX3_reads_215 : decode cX3_reads 215 = .ok (.if_icmp .ne 34, 3) := dk_160 0 34 (dk_at dksX3_reads_9 6 rfl rfl)
theorem dX3_reads_218 : decode cX3_reads 218 = .ok (.iload_n 1, 1) := dk_27 (dk_at dksX3_reads_9 9 rfl rfl)
theorem dX3_reads_219 : decode cX3_reads 219 = .ok (.iconst 4, 1) := dk_7 (dk_at dksX3_reads_9 10 rfl rfl)
theorem dX3_reads_220 : decode cX3_reads 220 = .ok (.if_icmp .ge 29, 3) := dk_162 0 29 (dk_at dksX3_reads_9 11 rfl rfl)
theorem dX3_reads_223 : decode cX3_reads 223 = .ok (.iinc 1 1, 3) := dk_132 1 1 (dk_at dksX3_reads_9 14 rfl rfl)
theorem dX3_reads_226 : decode cX3_reads 226 = .ok (.aload_n 0, 1) := dk_42 (dk_at dksX3_reads_9 17 rfl rfl)
theorem dX3_reads_227 : decode cX3_reads 227 = .ok (.getfield 111, 3) := dk_180 0 111 (dk_at dksX3_reads_9 18 rfl rfl)
theorem dX3_reads_230 : decode cX3_reads 230 = .ok (.iload_n 1, 1) := dk_27 (dk_at dksX3_reads_9 21 rfl rfl)
theorem dX3_reads_231 : decode cX3_reads 231 = .ok (.aload_n 0, 1) := dk_42 (dk_at dksX3_reads_9 22 rfl rfl)
theorem dX3_reads_232 : decode cX3_reads 232 = .ok (.getfield 96, 3) := dk_180 0 96 (dk_at dksX3_reads_10 0 rfl rfl)
theorem dX3_reads_235 : decode cX3_reads 235 = .ok (.bipush 10, 2) := dk_16 10 (dk_at dksX3_reads_10 3 rfl rfl)
theorem dX3_reads_237 : decode cX3_reads 237 = .ok (.iaload, 1) := dk_46 (dk_at dksX3_reads_10 5 rfl rfl)
theorem dX3_reads_238 : decode cX3_reads 238 = .ok (.iastore, 1) := dk_79 (dk_at dksX3_reads_10 6 rfl rfl)
theorem dX3_reads_239 : decode cX3_reads 239 = .ok (.aload_n 0, 1) := dk_42 (dk_at dksX3_reads_10 7 rfl rfl)
theorem dX3_reads_240 : decode cX3_reads 240 = .ok (.getfield 114, 3) := dk_180 0 114 (dk_at dksX3_reads_10 8 rfl rfl)
theorem dX3_reads_243 : decode cX3_reads 243 = .ok (.iload_n 1, 1) := dk_27 (dk_at dksX3_reads_10 11 rfl rfl)
theorem dX3_reads_244 : decode cX3_reads 244 = .ok (.iconst (-1), 1) := dk_2 (dk_at dksX3_reads_10 12 rfl rfl)
theorem dX3_reads_245 : decode cX3_reads 245 = .ok (.iastore, 1) := dk_79 (dk_at dksX3_reads_10 13 rfl rfl)
theorem dX3_reads_246 : decode cX3_reads 246 = .ok (.goto 99, 3) := dk_167 0 99 (dk_at dksX3_reads_10 14 rfl rfl)
theorem dX3_reads_249 : decode cX3_reads 249 = .ok (.iload_n 2, 1) := dk_28 (dk_at dksX3_reads_10 17 rfl rfl)
theorem dX3_reads_250 : decode cX3_reads 250 = .ok (.bipush 41, 2) := dk_16 41 (dk_at dksX3_reads_10 18 rfl rfl)
theorem dX3_reads_252 : decode cX3_reads 252 = .ok (.if_icmp .ne 91, 3) := dk_160 0 91 (dk_at dksX3_reads_10 20 rfl rfl)
theorem dX3_reads_255 : decode cX3_reads 255 = .ok (.iload_n 1, 1) := dk_27 (dk_at dksX3_reads_10 23 rfl rfl)
theorem dX3_reads_256 : decode cX3_reads 256 = .ok (.ifCond .le 87, 3) := dk_158 0 87 (dk_at dksX3_reads_11 0 rfl rfl)
theorem dX3_reads_259 : decode cX3_reads 259 = .ok (.aload_n 0, 1) := dk_42 (dk_at dksX3_reads_11 3 rfl rfl)
theorem dX3_reads_260 : decode cX3_reads 260 = .ok (.getfield 114, 3) := dk_180 0 114 (dk_at dksX3_reads_11 4 rfl rfl)
theorem dX3_reads_263 : decode cX3_reads 263 = .ok (.iload_n 1, 1) := dk_27 (dk_at dksX3_reads_11 7 rfl rfl)
theorem dX3_reads_264 : decode cX3_reads 264 = .ok (.iaload, 1) := dk_46 (dk_at dksX3_reads_11 8 rfl rfl)
theorem dX3_reads_265 : decode cX3_reads 265 = .ok (.ifCond .le 78, 3) := dk_158 0 78 (dk_at dksX3_reads_11 9 rfl rfl)
theorem dX3_reads_268 : decode cX3_reads 268 = .ok (.aload_n 0, 1) := dk_42 (dk_at dksX3_reads_11 12 rfl rfl)
theorem dX3_reads_269 : decode cX3_reads 269 = .ok (.dup, 1) := dk_89 (dk_at dksX3_reads_11 13 rfl rfl)
theorem dX3_reads_270 : decode cX3_reads 270 = .ok (.getfield 105, 3) := dk_180 0 105 (dk_at dksX3_reads_11 14 rfl rfl)
theorem dX3_reads_273 : decode cX3_reads 273 = .ok (.iconst 1, 1) := dk_4 (dk_at dksX3_reads_11 17 rfl rfl)
theorem dX3_reads_274 : decode cX3_reads 274 = .ok (.iadd, 1) := dk_96 (dk_at dksX3_reads_11 18 rfl rfl)
theorem dX3_reads_275 : decode cX3_reads 275 = .ok (.putfield 105, 3) := dk_181 0 105 (dk_at dksX3_reads_11 19 rfl rfl)
theorem dX3_reads_278 : decode cX3_reads 278 = .ok (.aload_n 0, 1) := dk_42 (dk_at dksX3_reads_11 22 rfl rfl)
theorem dX3_reads_279 : decode cX3_reads 279 = .ok (.aload_n 0, 1) := dk_42 (dk_at dksX3_reads_11 23 rfl rfl)
theorem dX3_reads_280 : decode cX3_reads 280 = .ok (.invokevirtual 241, 3) := dk_182 0 241 (dk_at dksX3_reads_12 0 rfl rfl)
theorem dX3_reads_283 : decode cX3_reads 283 = .ok (.bipush 50, 2) := dk_16 50 (dk_at dksX3_reads_12 3 rfl rfl)
theorem dX3_reads_285 : decode cX3_reads 285 = .ok (.bipush 57, 2) := dk_16 57 (dk_at dksX3_reads_12 5 rfl rfl)
theorem dX3_reads_287 : decode cX3_reads 287 = .ok (.invokevirtual 195, 3) := dk_182 0 195 (dk_at dksX3_reads_12 7 rfl rfl)
theorem dX3_reads_290 : decode cX3_reads 290 = .ok (.ifCond .eq 23, 3) := dk_153 0 23 (dk_at dksX3_reads_12 10 rfl rfl)
theorem dX3_reads_293 : decode cX3_reads 293 = .ok (.aload_n 0, 1) := dk_42 (dk_at dksX3_reads_12 13 rfl rfl)
theorem dX3_reads_294 : decode cX3_reads 294 = .ok (.aload_n 0, 1) := dk_42 (dk_at dksX3_reads_12 14 rfl rfl)
theorem dX3_reads_295 : decode cX3_reads 295 = .ok (.getfield 111, 3) := dk_180 0 111 (dk_at dksX3_reads_12 15 rfl rfl)
theorem dX3_reads_298 : decode cX3_reads 298 = .ok (.iload_n 1, 1) := dk_27 (dk_at dksX3_reads_12 18 rfl rfl)
theorem dX3_reads_299 : decode cX3_reads 299 = .ok (.iaload, 1) := dk_46 (dk_at dksX3_reads_12 19 rfl rfl)
theorem dX3_reads_300 : decode cX3_reads 300 = .ok (.aload_n 0, 1) := dk_42 (dk_at dksX3_reads_12 20 rfl rfl)
theorem dX3_reads_301 : decode cX3_reads 301 = .ok (.invokevirtual 241, 3) := dk_182 0 241 (dk_at dksX3_reads_12 21 rfl rfl)
theorem dX3_reads_304 : decode cX3_reads 304 = .ok (.bipush 48, 2) := dk_16 48 (dk_at dksX3_reads_13 0 rfl rfl)
theorem dX3_reads_306 : decode cX3_reads 306 = .ok (.isub, 1) := dk_100 (dk_at dksX3_reads_13 2 rfl rfl)
theorem dX3_reads_307 : decode cX3_reads 307 = .ok (.invokevirtual 247, 3) := dk_182 0 247 (dk_at dksX3_reads_13 3 rfl rfl)
theorem dX3_reads_310 : decode cX3_reads 310 = .ok (.goto 27, 3) := dk_167 0 27 (dk_at dksX3_reads_13 6 rfl rfl)
theorem dX3_reads_313 : decode cX3_reads 313 = .ok (.aload_n 0, 1) := dk_42 (dk_at dksX3_reads_13 9 rfl rfl)
theorem dX3_reads_314 : decode cX3_reads 314 = .ok (.invokevirtual 241, 3) := dk_182 0 241 (dk_at dksX3_reads_13 10 rfl rfl)
theorem dX3_reads_317 : decode cX3_reads 317 = .ok (.bipush 45, 2) := dk_16 45 (dk_at dksX3_reads_13 13 rfl rfl)
theorem dX3_reads_319 : decode cX3_reads 319 = .ok (.if_icmp .ne 16, 3) := dk_160 0 16 (dk_at dksX3_reads_13 15 rfl rfl)
theorem dX3_reads_322 : decode cX3_reads 322 = .ok (.aload_n 0, 1) := dk_42 (dk_at dksX3_reads_13 18 rfl rfl)
theorem dX3_reads_323 : decode cX3_reads 323 = .ok (.aload_n 0, 1) := dk_42 (dk_at dksX3_reads_13 19 rfl rfl)
theorem dX3_reads_324 : decode cX3_reads 324 = .ok (.getfield 111, 3) := dk_180 0 111 (dk_at dksX3_reads_13 20 rfl rfl)
theorem dX3_reads_327 : decode cX3_reads 327 = .ok (.iload_n 1, 1) := dk_27 (dk_at dksX3_reads_13 23 rfl rfl)
theorem dX3_reads_328 : decode cX3_reads 328 = .ok (.iaload, 1) := dk_46 (dk_at dksX3_reads_14 0 rfl rfl)
theorem dX3_reads_329 : decode cX3_reads 329 = .ok (.invokevirtual 251, 3) := dk_182 0 251 (dk_at dksX3_reads_14 1 rfl rfl)
theorem dX3_reads_332 : decode cX3_reads 332 = .ok (.goto 5, 3) := dk_167 0 5 (dk_at dksX3_reads_14 4 rfl rfl)
theorem dX3_reads_335 : decode cX3_reads 335 = .ok (.iconst 0, 1) := dk_3 (dk_at dksX3_reads_14 7 rfl rfl)
theorem dX3_reads_336 : decode cX3_reads 336 = .ok (.ireturn, 1) := dk_172 (dk_at dksX3_reads_14 8 rfl rfl)
theorem dX3_reads_337 : decode cX3_reads 337 = .ok (.iinc 1 (-1), 3) := dk_132 1 255 (dk_at dksX3_reads_14 9 rfl rfl)
theorem dX3_reads_340 : decode cX3_reads 340 = .ok (.goto 5, 3) := dk_167 0 5 (dk_at dksX3_reads_14 12 rfl rfl)
theorem dX3_reads_343 : decode cX3_reads 343 = .ok (.iconst 0, 1) := dk_3 (dk_at dksX3_reads_14 15 rfl rfl)
theorem dX3_reads_344 : decode cX3_reads 344 = .ok (.ireturn, 1) := dk_172 (dk_at dksX3_reads_14 16 rfl rfl)
theorem dX3_reads_345 : decode cX3_reads 345 = .ok (.aload_n 0, 1) := dk_42 (dk_at dksX3_reads_14 17 rfl rfl)
theorem dX3_reads_346 : decode cX3_reads 346 = .ok (.getfield 114, 3) := dk_180 0 114 (dk_at dksX3_reads_14 18 rfl rfl)
theorem dX3_reads_349 : decode cX3_reads 349 = .ok (.iload_n 1, 1) := dk_27 (dk_at dksX3_reads_14 21 rfl rfl)
theorem dX3_reads_350 : decode cX3_reads 350 = .ok (.dup2, 1) := dk_92 (dk_at dksX3_reads_14 22 rfl rfl)
theorem dX3_reads_351 : decode cX3_reads 351 = .ok (.iaload, 1) := dk_46 (dk_at dksX3_reads_14 23 rfl rfl)
theorem dX3_reads_352 : decode cX3_reads 352 = .ok (.iconst 1, 1) := dk_4 (dk_at dksX3_reads_15 0 rfl rfl)
theorem dX3_reads_353 : decode cX3_reads 353 = .ok (.iadd, 1) := dk_96 (dk_at dksX3_reads_15 1 rfl rfl)
theorem dX3_reads_354 : decode cX3_reads 354 = .ok (.iastore, 1) := dk_79 (dk_at dksX3_reads_15 2 rfl rfl)
theorem dX3_reads_355 : decode cX3_reads 355 = .ok (.aload_n 0, 1) := dk_42 (dk_at dksX3_reads_15 3 rfl rfl)
theorem dX3_reads_356 : decode cX3_reads 356 = .ok (.dup, 1) := dk_89 (dk_at dksX3_reads_15 4 rfl rfl)
theorem dX3_reads_357 : decode cX3_reads 357 = .ok (.getfield 105, 3) := dk_180 0 105 (dk_at dksX3_reads_15 5 rfl rfl)
theorem dX3_reads_360 : decode cX3_reads 360 = .ok (.iconst 1, 1) := dk_4 (dk_at dksX3_reads_15 8 rfl rfl)
theorem dX3_reads_361 : decode cX3_reads 361 = .ok (.iadd, 1) := dk_96 (dk_at dksX3_reads_15 9 rfl rfl)
theorem dX3_reads_362 : decode cX3_reads 362 = .ok (.putfield 105, 3) := dk_181 0 105 (dk_at dksX3_reads_15 10 rfl rfl)
theorem dX3_reads_365 : decode cX3_reads 365 = .ok (.goto (-338), 3) := dk_167 254 174 (dk_at dksX3_reads_15 13 rfl rfl)
theorem dX3_reads_368 : decode cX3_reads 368 = .ok (.iload_n 1, 1) := dk_27 (dk_at dksX3_reads_15 16 rfl rfl)
theorem dX3_reads_369 : decode cX3_reads 369 = .ok (.ifCond .ne 16, 3) := dk_154 0 16 (dk_at dksX3_reads_15 17 rfl rfl)
theorem dX3_reads_372 : decode cX3_reads 372 = .ok (.aload_n 0, 1) := dk_42 (dk_at dksX3_reads_15 20 rfl rfl)
theorem dX3_reads_373 : decode cX3_reads 373 = .ok (.getfield 114, 3) := dk_180 0 114 (dk_at dksX3_reads_15 21 rfl rfl)
theorem dX3_reads_376 : decode cX3_reads 376 = .ok (.iconst 0, 1) := dk_3 (dk_at dksX3_reads_16 0 rfl rfl)
theorem dX3_reads_377 : decode cX3_reads 377 = .ok (.iaload, 1) := dk_46 (dk_at dksX3_reads_16 1 rfl rfl)
theorem dX3_reads_378 : decode cX3_reads 378 = .ok (.ifCond .le 7, 3) := dk_158 0 7 (dk_at dksX3_reads_16 2 rfl rfl)
theorem dX3_reads_381 : decode cX3_reads 381 = .ok (.iconst 1, 1) := dk_4 (dk_at dksX3_reads_16 5 rfl rfl)
theorem dX3_reads_382 : decode cX3_reads 382 = .ok (.goto 4, 3) := dk_167 0 4 (dk_at dksX3_reads_16 6 rfl rfl)
theorem dX3_reads_385 : decode cX3_reads 385 = .ok (.iconst 0, 1) := dk_3 (dk_at dksX3_reads_16 9 rfl rfl)
theorem dX3_reads_386 : decode cX3_reads 386 = .ok (.ireturn, 1) := dk_172 (dk_at dksX3_reads_16 10 rfl rfl)
abbrev cX3_next : ByteArray := prog_17_method_36_code
def yX3_next : MethodName := ⟨RX3, "next", "()I"⟩
def dkwX3_next_1 : List UInt8 := [172]
abbrev dktX3_next_1 : List UInt8 := dkwX3_next_1 ++ []
def dkwX3_next_0 : List UInt8 := [42, 180, 0, 105, 42, 180, 0, 93, 162, 0, 15, 42, 180, 0, 102, 42, 180, 0, 105, 46, 167, 0, 4, 2]
abbrev dktX3_next_0 : List UInt8 := dkwX3_next_0 ++ dktX3_next_1
theorem dksX3_next_0 : cX3_next.data.toList.drop 0 = dktX3_next_0 := by decide +kernel
theorem dksX3_next_1 : cX3_next.data.toList.drop 24 = dktX3_next_1 := dk_seg dksX3_next_0 24 rfl rfl
theorem dX3_next_0 : decode cX3_next 0 = .ok (.aload_n 0, 1) := dk_42 (dk_at dksX3_next_0 0 rfl rfl)
theorem dX3_next_1 : decode cX3_next 1 = .ok (.getfield 105, 3) := dk_180 0 105 (dk_at dksX3_next_0 1 rfl rfl)
theorem dX3_next_4 : decode cX3_next 4 = .ok (.aload_n 0, 1) := dk_42 (dk_at dksX3_next_0 4 rfl rfl)
theorem dX3_next_5 : decode cX3_next 5 = .ok (.getfield 93, 3) := dk_180 0 93 (dk_at dksX3_next_0 5 rfl rfl)
theorem dX3_next_8 : decode cX3_next 8 = .ok (.if_icmp .ge 15, 3) := dk_162 0 15 (dk_at dksX3_next_0 8 rfl rfl)
theorem dX3_next_11 : decode cX3_next 11 = .ok (.aload_n 0, 1) := dk_42 (dk_at dksX3_next_0 11 rfl rfl)
theorem dX3_next_12 : decode cX3_next 12 = .ok (.getfield 102, 3) := dk_180 0 102 (dk_at dksX3_next_0 12 rfl rfl)
theorem dX3_next_15 : decode cX3_next 15 = .ok (.aload_n 0, 1) := dk_42 (dk_at dksX3_next_0 15 rfl rfl)
theorem dX3_next_16 : decode cX3_next 16 = .ok (.getfield 105, 3) := dk_180 0 105 (dk_at dksX3_next_0 16 rfl rfl)
theorem dX3_next_19 : decode cX3_next 19 = .ok (.iaload, 1) := dk_46 (dk_at dksX3_next_0 19 rfl rfl)
theorem dX3_next_20 : decode cX3_next 20 = .ok (.goto 4, 3) := dk_167 0 4 (dk_at dksX3_next_0 20 rfl rfl)
theorem dX3_next_23 : decode cX3_next 23 = .ok (.iconst (-1), 1) := dk_2 (dk_at dksX3_next_0 23 rfl rfl)
theorem dX3_next_24 : decode cX3_next 24 = .ok (.ireturn, 1) := dk_172 (dk_at dksX3_next_1 0 rfl rfl)
abbrev cX3_add : ByteArray := prog_17_method_32_code
def yX3_add : MethodName := ⟨RX3, "add", "(I)V"⟩
def dkwX3_add_2 : List UInt8 := [177]
abbrev dktX3_add_2 : List UInt8 := dkwX3_add_2 ++ []
def dkwX3_add_1 : List UInt8 := [17, 11, 184, 42, 180, 0, 96, 16, 10, 46, 96, 27, 79, 42, 180, 0, 96, 16, 10, 92, 46, 4, 96, 79]
abbrev dktX3_add_1 : List UInt8 := dkwX3_add_1 ++ dktX3_add_2
def dkwX3_add_0 : List UInt8 := [42, 180, 0, 96, 16, 10, 46, 17, 1, 44, 160, 0, 9, 42, 4, 181, 0, 108, 177, 42, 180, 0, 99]
abbrev dktX3_add_0 : List UInt8 := dkwX3_add_0 ++ dktX3_add_1
theorem dksX3_add_0 : cX3_add.data.toList.drop 0 = dktX3_add_0 := by decide +kernel
theorem dksX3_add_1 : cX3_add.data.toList.drop 23 = dktX3_add_1 := dk_seg dksX3_add_0 23 rfl rfl
theorem dksX3_add_2 : cX3_add.data.toList.drop 47 = dktX3_add_2 := dk_seg dksX3_add_1 24 rfl rfl
theorem dX3_add_0 : decode cX3_add 0 = .ok (.aload_n 0, 1) := dk_42 (dk_at dksX3_add_0 0 rfl rfl)
theorem dX3_add_1 : decode cX3_add 1 = .ok (.getfield 96, 3) := dk_180 0 96 (dk_at dksX3_add_0 1 rfl rfl)
theorem dX3_add_4 : decode cX3_add 4 = .ok (.bipush 10, 2) := dk_16 10 (dk_at dksX3_add_0 4 rfl rfl)
theorem dX3_add_6 : decode cX3_add 6 = .ok (.iaload, 1) := dk_46 (dk_at dksX3_add_0 6 rfl rfl)
theorem dX3_add_7 : decode cX3_add 7 = .ok (.sipush 300, 3) := dk_17 1 44 (dk_at dksX3_add_0 7 rfl rfl)
theorem dX3_add_10 : decode cX3_add 10 = .ok (.if_icmp .ne 9, 3) := dk_160 0 9 (dk_at dksX3_add_0 10 rfl rfl)
theorem dX3_add_13 : decode cX3_add 13 = .ok (.aload_n 0, 1) := dk_42 (dk_at dksX3_add_0 13 rfl rfl)
theorem dX3_add_14 : decode cX3_add 14 = .ok (.iconst 1, 1) := dk_4 (dk_at dksX3_add_0 14 rfl rfl)
theorem dX3_add_15 : decode cX3_add 15 = .ok (.putfield 108, 3) := dk_181 0 108 (dk_at dksX3_add_0 15 rfl rfl)
theorem dX3_add_18 : decode cX3_add 18 = .ok (.return_, 1) := dk_177 (dk_at dksX3_add_0 18 rfl rfl)
theorem dX3_add_19 : decode cX3_add 19 = .ok (.aload_n 0, 1) := dk_42 (dk_at dksX3_add_0 19 rfl rfl)
theorem dX3_add_20 : decode cX3_add 20 = .ok (.getfield 99, 3) := dk_180 0 99 (dk_at dksX3_add_0 20 rfl rfl)
theorem dX3_add_23 : decode cX3_add 23 = .ok (.sipush 3000, 3) := dk_17 11 184 (dk_at dksX3_add_1 0 rfl rfl)
theorem dX3_add_26 : decode cX3_add 26 = .ok (.aload_n 0, 1) := dk_42 (dk_at dksX3_add_1 3 rfl rfl)
theorem dX3_add_27 : decode cX3_add 27 = .ok (.getfield 96, 3) := dk_180 0 96 (dk_at dksX3_add_1 4 rfl rfl)
theorem dX3_add_30 : decode cX3_add 30 = .ok (.bipush 10, 2) := dk_16 10 (dk_at dksX3_add_1 7 rfl rfl)
theorem dX3_add_32 : decode cX3_add 32 = .ok (.iaload, 1) := dk_46 (dk_at dksX3_add_1 9 rfl rfl)
theorem dX3_add_33 : decode cX3_add 33 = .ok (.iadd, 1) := dk_96 (dk_at dksX3_add_1 10 rfl rfl)
theorem dX3_add_34 : decode cX3_add 34 = .ok (.iload_n 1, 1) := dk_27 (dk_at dksX3_add_1 11 rfl rfl)
theorem dX3_add_35 : decode cX3_add 35 = .ok (.iastore, 1) := dk_79 (dk_at dksX3_add_1 12 rfl rfl)
theorem dX3_add_36 : decode cX3_add 36 = .ok (.aload_n 0, 1) := dk_42 (dk_at dksX3_add_1 13 rfl rfl)
theorem dX3_add_37 : decode cX3_add 37 = .ok (.getfield 96, 3) := dk_180 0 96 (dk_at dksX3_add_1 14 rfl rfl)
theorem dX3_add_40 : decode cX3_add 40 = .ok (.bipush 10, 2) := dk_16 10 (dk_at dksX3_add_1 17 rfl rfl)
theorem dX3_add_42 : decode cX3_add 42 = .ok (.dup2, 1) := dk_92 (dk_at dksX3_add_1 19 rfl rfl)
theorem dX3_add_43 : decode cX3_add 43 = .ok (.iaload, 1) := dk_46 (dk_at dksX3_add_1 20 rfl rfl)
theorem dX3_add_44 : decode cX3_add 44 = .ok (.iconst 1, 1) := dk_4 (dk_at dksX3_add_1 21 rfl rfl)
theorem dX3_add_45 : decode cX3_add 45 = .ok (.iadd, 1) := dk_96 (dk_at dksX3_add_1 22 rfl rfl)
theorem dX3_add_46 : decode cX3_add 46 = .ok (.iastore, 1) := dk_79 (dk_at dksX3_add_1 23 rfl rfl)
theorem dX3_add_47 : decode cX3_add 47 = .ok (.return_, 1) := dk_177 (dk_at dksX3_add_2 0 rfl rfl)
abbrev cX3_isFigure : ByteArray := prog_17_method_30_code
def yX3_isFigure : MethodName := ⟨RX3, "isFigure", "(I)Z"⟩
def dkwX3_isFigure_0 : List UInt8 := [42, 27, 3, 42, 180, 0, 90, 4, 100, 182, 0, 195, 172]
abbrev dktX3_isFigure_0 : List UInt8 := dkwX3_isFigure_0 ++ []
theorem dksX3_isFigure_0 : cX3_isFigure.data.toList.drop 0 = dktX3_isFigure_0 := by decide +kernel
theorem dX3_isFigure_0 : decode cX3_isFigure 0 = .ok (.aload_n 0, 1) := dk_42 (dk_at dksX3_isFigure_0 0 rfl rfl)
theorem dX3_isFigure_1 : decode cX3_isFigure 1 = .ok (.iload_n 1, 1) := dk_27 (dk_at dksX3_isFigure_0 1 rfl rfl)
theorem dX3_isFigure_2 : decode cX3_isFigure 2 = .ok (.iconst 0, 1) := dk_3 (dk_at dksX3_isFigure_0 2 rfl rfl)
theorem dX3_isFigure_3 : decode cX3_isFigure 3 = .ok (.aload_n 0, 1) := dk_42 (dk_at dksX3_isFigure_0 3 rfl rfl)
theorem dX3_isFigure_4 : decode cX3_isFigure 4 = .ok (.getfield 90, 3) := dk_180 0 90 (dk_at dksX3_isFigure_0 4 rfl rfl)
theorem dX3_isFigure_7 : decode cX3_isFigure 7 = .ok (.iconst 1, 1) := dk_4 (dk_at dksX3_isFigure_0 7 rfl rfl)
theorem dX3_isFigure_8 : decode cX3_isFigure 8 = .ok (.isub, 1) := dk_100 (dk_at dksX3_isFigure_0 8 rfl rfl)
theorem dX3_isFigure_9 : decode cX3_isFigure 9 = .ok (.invokevirtual 195, 3) := dk_182 0 195 (dk_at dksX3_isFigure_0 9 rfl rfl)
theorem dX3_isFigure_12 : decode cX3_isFigure 12 = .ok (.ireturn, 1) := dk_172 (dk_at dksX3_isFigure_0 12 rfl rfl)
abbrev cX3_repeat : ByteArray := prog_17_method_35_code
def yX3_repeat : MethodName := ⟨RX3, "repeat", "(II)V"⟩
def dkwX3_repeat_2 : List UInt8 := [132, 5, 1, 167, 255, 232, 132, 4, 1, 167, 255, 210, 177]
abbrev dktX3_repeat_2 : List UInt8 := dkwX3_repeat_2 ++ []
def dkwX3_repeat_1 : List UInt8 := [27, 54, 5, 21, 5, 29, 162, 0, 24, 42, 42, 180, 0, 99, 17, 11, 184, 21, 5, 96, 46, 182, 0, 237]
abbrev dktX3_repeat_1 : List UInt8 := dkwX3_repeat_1 ++ dktX3_repeat_2
def dkwX3_repeat_0 : List UInt8 := [42, 180, 0, 96, 16, 10, 46, 62, 4, 54, 4, 21, 4, 28, 162, 0, 46, 42, 180, 0, 108, 154, 0, 39]
abbrev dktX3_repeat_0 : List UInt8 := dkwX3_repeat_0 ++ dktX3_repeat_1
theorem dksX3_repeat_0 : cX3_repeat.data.toList.drop 0 = dktX3_repeat_0 := by decide +kernel
theorem dksX3_repeat_1 : cX3_repeat.data.toList.drop 24 = dktX3_repeat_1 := dk_seg dksX3_repeat_0 24 rfl rfl
theorem dksX3_repeat_2 : cX3_repeat.data.toList.drop 48 = dktX3_repeat_2 := dk_seg dksX3_repeat_1 24 rfl rfl
theorem dX3_repeat_0 : decode cX3_repeat 0 = .ok (.aload_n 0, 1) := dk_42 (dk_at dksX3_repeat_0 0 rfl rfl)
theorem dX3_repeat_1 : decode cX3_repeat 1 = .ok (.getfield 96, 3) := dk_180 0 96 (dk_at dksX3_repeat_0 1 rfl rfl)
theorem dX3_repeat_4 : decode cX3_repeat 4 = .ok (.bipush 10, 2) := dk_16 10 (dk_at dksX3_repeat_0 4 rfl rfl)
theorem dX3_repeat_6 : decode cX3_repeat 6 = .ok (.iaload, 1) := dk_46 (dk_at dksX3_repeat_0 6 rfl rfl)
theorem dX3_repeat_7 : decode cX3_repeat 7 = .ok (.istore_n 3, 1) := dk_62 (dk_at dksX3_repeat_0 7 rfl rfl)
theorem dX3_repeat_8 : decode cX3_repeat 8 = .ok (.iconst 1, 1) := dk_4 (dk_at dksX3_repeat_0 8 rfl rfl)
theorem dX3_repeat_9 : decode cX3_repeat 9 = .ok (.istore 4, 2) := dk_54 4 (dk_at dksX3_repeat_0 9 rfl rfl)
theorem dX3_repeat_11 : decode cX3_repeat 11 = .ok (.iload 4, 2) := dk_21 4 (dk_at dksX3_repeat_0 11 rfl rfl)
theorem dX3_repeat_13 : decode cX3_repeat 13 = .ok (.iload_n 2, 1) := dk_28 (dk_at dksX3_repeat_0 13 rfl rfl)
theorem dX3_repeat_14 : decode cX3_repeat 14 = .ok (.if_icmp .ge 46, 3) := dk_162 0 46 (dk_at dksX3_repeat_0 14 rfl rfl)
theorem dX3_repeat_17 : decode cX3_repeat 17 = .ok (.aload_n 0, 1) := dk_42 (dk_at dksX3_repeat_0 17 rfl rfl)
theorem dX3_repeat_18 : decode cX3_repeat 18 = .ok (.getfield 108, 3) := dk_180 0 108 (dk_at dksX3_repeat_0 18 rfl rfl)
theorem dX3_repeat_21 : decode cX3_repeat 21 = .ok (.ifCond .ne 39, 3) := dk_154 0 39 (dk_at dksX3_repeat_0 21 rfl rfl)
theorem dX3_repeat_24 : decode cX3_repeat 24 = .ok (.iload_n 1, 1) := dk_27 (dk_at dksX3_repeat_1 0 rfl rfl)
theorem dX3_repeat_25 : decode cX3_repeat 25 = .ok (.istore 5, 2) := dk_54 5 (dk_at dksX3_repeat_1 1 rfl rfl)
theorem dX3_repeat_27 : decode cX3_repeat 27 = .ok (.iload 5, 2) := dk_21 5 (dk_at dksX3_repeat_1 3 rfl rfl)
theorem dX3_repeat_29 : decode cX3_repeat 29 = .ok (.iload_n 3, 1) := dk_29 (dk_at dksX3_repeat_1 5 rfl rfl)
theorem dX3_repeat_30 : decode cX3_repeat 30 = .ok (.if_icmp .ge 24, 3) := dk_162 0 24 (dk_at dksX3_repeat_1 6 rfl rfl)
theorem dX3_repeat_33 : decode cX3_repeat 33 = .ok (.aload_n 0, 1) := dk_42 (dk_at dksX3_repeat_1 9 rfl rfl)
theorem dX3_repeat_34 : decode cX3_repeat 34 = .ok (.aload_n 0, 1) := dk_42 (dk_at dksX3_repeat_1 10 rfl rfl)
theorem dX3_repeat_35 : decode cX3_repeat 35 = .ok (.getfield 99, 3) := dk_180 0 99 (dk_at dksX3_repeat_1 11 rfl rfl)
theorem dX3_repeat_38 : decode cX3_repeat 38 = .ok (.sipush 3000, 3) := dk_17 11 184 (dk_at dksX3_repeat_1 14 rfl rfl)
theorem dX3_repeat_41 : decode cX3_repeat 41 = .ok (.iload 5, 2) := dk_21 5 (dk_at dksX3_repeat_1 17 rfl rfl)
theorem dX3_repeat_43 : decode cX3_repeat 43 = .ok (.iadd, 1) := dk_96 (dk_at dksX3_repeat_1 19 rfl rfl)
theorem dX3_repeat_44 : decode cX3_repeat 44 = .ok (.iaload, 1) := dk_46 (dk_at dksX3_repeat_1 20 rfl rfl)
theorem dX3_repeat_45 : decode cX3_repeat 45 = .ok (.invokevirtual 237, 3) := dk_182 0 237 (dk_at dksX3_repeat_1 21 rfl rfl)
theorem dX3_repeat_48 : decode cX3_repeat 48 = .ok (.iinc 5 1, 3) := dk_132 5 1 (dk_at dksX3_repeat_2 0 rfl rfl)
theorem dX3_repeat_51 : decode cX3_repeat 51 = .ok (.goto (-24), 3) := dk_167 255 232 (dk_at dksX3_repeat_2 3 rfl rfl)
theorem dX3_repeat_54 : decode cX3_repeat 54 = .ok (.iinc 4 1, 3) := dk_132 4 1 (dk_at dksX3_repeat_2 6 rfl rfl)
theorem dX3_repeat_57 : decode cX3_repeat 57 = .ok (.goto (-46), 3) := dk_167 255 210 (dk_at dksX3_repeat_2 9 rfl rfl)
theorem dX3_repeat_60 : decode cX3_repeat 60 = .ok (.return_, 1) := dk_177 (dk_at dksX3_repeat_2 12 rfl rfl)
abbrev cX3_undo : ByteArray := prog_17_method_34_code
def yX3_undo : MethodName := ⟨RX3, "undo", "(I)V"⟩
def dkwX3_undo_3 : List UInt8 := [160, 0, 19, 42, 180, 0, 99, 28, 42, 42, 180, 0, 99, 28, 46, 182, 0, 234, 79, 177]
abbrev dktX3_undo_3 : List UInt8 := dkwX3_undo_3 ++ []
def dkwX3_undo_2 : List UInt8 := [180, 0, 99, 29, 42, 21, 4, 182, 0, 234, 79, 132, 2, 1, 132, 3, 255, 167, 255, 209, 28, 29]
abbrev dktX3_undo_2 : List UInt8 := dkwX3_undo_2 ++ dktX3_undo_3
def dkwX3_undo_1 : List UInt8 := [180, 0, 99, 28, 46, 54, 4, 42, 180, 0, 99, 28, 42, 42, 180, 0, 99, 29, 46, 182, 0, 234, 79, 42]
abbrev dktX3_undo_1 : List UInt8 := dkwX3_undo_1 ++ dktX3_undo_2
def dkwX3_undo_0 : List UInt8 := [17, 11, 184, 27, 96, 61, 17, 11, 183, 42, 180, 0, 96, 16, 10, 46, 96, 62, 28, 29, 162, 0, 48, 42]
abbrev dktX3_undo_0 : List UInt8 := dkwX3_undo_0 ++ dktX3_undo_1
theorem dksX3_undo_0 : cX3_undo.data.toList.drop 0 = dktX3_undo_0 := by decide +kernel
theorem dksX3_undo_1 : cX3_undo.data.toList.drop 24 = dktX3_undo_1 := dk_seg dksX3_undo_0 24 rfl rfl
theorem dksX3_undo_2 : cX3_undo.data.toList.drop 48 = dktX3_undo_2 := dk_seg dksX3_undo_1 24 rfl rfl
theorem dksX3_undo_3 : cX3_undo.data.toList.drop 70 = dktX3_undo_3 := dk_seg dksX3_undo_2 22 rfl rfl
theorem dX3_undo_0 : decode cX3_undo 0 = .ok (.sipush 3000, 3) := dk_17 11 184 (dk_at dksX3_undo_0 0 rfl rfl)
theorem dX3_undo_3 : decode cX3_undo 3 = .ok (.iload_n 1, 1) := dk_27 (dk_at dksX3_undo_0 3 rfl rfl)
theorem dX3_undo_4 : decode cX3_undo 4 = .ok (.iadd, 1) := dk_96 (dk_at dksX3_undo_0 4 rfl rfl)
theorem dX3_undo_5 : decode cX3_undo 5 = .ok (.istore_n 2, 1) := dk_61 (dk_at dksX3_undo_0 5 rfl rfl)
theorem dX3_undo_6 : decode cX3_undo 6 = .ok (.sipush 2999, 3) := dk_17 11 183 (dk_at dksX3_undo_0 6 rfl rfl)
theorem dX3_undo_9 : decode cX3_undo 9 = .ok (.aload_n 0, 1) := dk_42 (dk_at dksX3_undo_0 9 rfl rfl)
theorem dX3_undo_10 : decode cX3_undo 10 = .ok (.getfield 96, 3) := dk_180 0 96 (dk_at dksX3_undo_0 10 rfl rfl)
theorem dX3_undo_13 : decode cX3_undo 13 = .ok (.bipush 10, 2) := dk_16 10 (dk_at dksX3_undo_0 13 rfl rfl)
theorem dX3_undo_15 : decode cX3_undo 15 = .ok (.iaload, 1) := dk_46 (dk_at dksX3_undo_0 15 rfl rfl)
theorem dX3_undo_16 : decode cX3_undo 16 = .ok (.iadd, 1) := dk_96 (dk_at dksX3_undo_0 16 rfl rfl)
theorem dX3_undo_17 : decode cX3_undo 17 = .ok (.istore_n 3, 1) := dk_62 (dk_at dksX3_undo_0 17 rfl rfl)
theorem dX3_undo_18 : decode cX3_undo 18 = .ok (.iload_n 2, 1) := dk_28 (dk_at dksX3_undo_0 18 rfl rfl)
theorem dX3_undo_19 : decode cX3_undo 19 = .ok (.iload_n 3, 1) := dk_29 (dk_at dksX3_undo_0 19 rfl rfl)
theorem dX3_undo_20 : decode cX3_undo 20 = .ok (.if_icmp .ge 48, 3) := dk_162 0 48 (dk_at dksX3_undo_0 20 rfl rfl)
theorem dX3_undo_23 : decode cX3_undo 23 = .ok (.aload_n 0, 1) := dk_42 (dk_at dksX3_undo_0 23 rfl rfl)
theorem dX3_undo_24 : decode cX3_undo 24 = .ok (.getfield 99, 3) := dk_180 0 99 (dk_at dksX3_undo_1 0 rfl rfl)
theorem dX3_undo_27 : decode cX3_undo 27 = .ok (.iload_n 2, 1) := dk_28 (dk_at dksX3_undo_1 3 rfl rfl)
theorem dX3_undo_28 : decode cX3_undo 28 = .ok (.iaload, 1) := dk_46 (dk_at dksX3_undo_1 4 rfl rfl)
theorem dX3_undo_29 : decode cX3_undo 29 = .ok (.istore 4, 2) := dk_54 4 (dk_at dksX3_undo_1 5 rfl rfl)
theorem dX3_undo_31 : decode cX3_undo 31 = .ok (.aload_n 0, 1) := dk_42 (dk_at dksX3_undo_1 7 rfl rfl)
theorem dX3_undo_32 : decode cX3_undo 32 = .ok (.getfield 99, 3) := dk_180 0 99 (dk_at dksX3_undo_1 8 rfl rfl)
theorem dX3_undo_35 : decode cX3_undo 35 = .ok (.iload_n 2, 1) := dk_28 (dk_at dksX3_undo_1 11 rfl rfl)
theorem dX3_undo_36 : decode cX3_undo 36 = .ok (.aload_n 0, 1) := dk_42 (dk_at dksX3_undo_1 12 rfl rfl)
theorem dX3_undo_37 : decode cX3_undo 37 = .ok (.aload_n 0, 1) := dk_42 (dk_at dksX3_undo_1 13 rfl rfl)
theorem dX3_undo_38 : decode cX3_undo 38 = .ok (.getfield 99, 3) := dk_180 0 99 (dk_at dksX3_undo_1 14 rfl rfl)
theorem dX3_undo_41 : decode cX3_undo 41 = .ok (.iload_n 3, 1) := dk_29 (dk_at dksX3_undo_1 17 rfl rfl)
theorem dX3_undo_42 : decode cX3_undo 42 = .ok (.iaload, 1) := dk_46 (dk_at dksX3_undo_1 18 rfl rfl)
theorem dX3_undo_43 : decode cX3_undo 43 = .ok (.invokevirtual 234, 3) := dk_182 0 234 (dk_at dksX3_undo_1 19 rfl rfl)
theorem dX3_undo_46 : decode cX3_undo 46 = .ok (.iastore, 1) := dk_79 (dk_at dksX3_undo_1 22 rfl rfl)
theorem dX3_undo_47 : decode cX3_undo 47 = .ok (.aload_n 0, 1) := dk_42 (dk_at dksX3_undo_1 23 rfl rfl)
theorem dX3_undo_48 : decode cX3_undo 48 = .ok (.getfield 99, 3) := dk_180 0 99 (dk_at dksX3_undo_2 0 rfl rfl)
theorem dX3_undo_51 : decode cX3_undo 51 = .ok (.iload_n 3, 1) := dk_29 (dk_at dksX3_undo_2 3 rfl rfl)
theorem dX3_undo_52 : decode cX3_undo 52 = .ok (.aload_n 0, 1) := dk_42 (dk_at dksX3_undo_2 4 rfl rfl)
theorem dX3_undo_53 : decode cX3_undo 53 = .ok (.iload 4, 2) := dk_21 4 (dk_at dksX3_undo_2 5 rfl rfl)
theorem dX3_undo_55 : decode cX3_undo 55 = .ok (.invokevirtual 234, 3) := dk_182 0 234 (dk_at dksX3_undo_2 7 rfl rfl)
theorem dX3_undo_58 : decode cX3_undo 58 = .ok (.iastore, 1) := dk_79 (dk_at dksX3_undo_2 10 rfl rfl)
theorem dX3_undo_59 : decode cX3_undo 59 = .ok (.iinc 2 1, 3) := dk_132 2 1 (dk_at dksX3_undo_2 11 rfl rfl)
theorem dX3_undo_62 : decode cX3_undo 62 = .ok (.iinc 3 (-1), 3) := dk_132 3 255 (dk_at dksX3_undo_2 14 rfl rfl)
theorem dX3_undo_65 : decode cX3_undo 65 = .ok (.goto (-47), 3) := dk_167 255 209 (dk_at dksX3_undo_2 17 rfl rfl)
theorem dX3_undo_68 : decode cX3_undo 68 = .ok (.iload_n 2, 1) := dk_28 (dk_at dksX3_undo_2 20 rfl rfl)
theorem dX3_undo_69 : decode cX3_undo 69 = .ok (.iload_n 3, 1) := dk_29 (dk_at dksX3_undo_2 21 rfl rfl)
theorem dX3_undo_70 : decode cX3_undo 70 = .ok (.if_icmp .ne 19, 3) := dk_160 0 19 (dk_at dksX3_undo_3 0 rfl rfl)
theorem dX3_undo_73 : decode cX3_undo 73 = .ok (.aload_n 0, 1) := dk_42 (dk_at dksX3_undo_3 3 rfl rfl)
theorem dX3_undo_74 : decode cX3_undo 74 = .ok (.getfield 99, 3) := dk_180 0 99 (dk_at dksX3_undo_3 4 rfl rfl)
theorem dX3_undo_77 : decode cX3_undo 77 = .ok (.iload_n 2, 1) := dk_28 (dk_at dksX3_undo_3 7 rfl rfl)
theorem dX3_undo_78 : decode cX3_undo 78 = .ok (.aload_n 0, 1) := dk_42 (dk_at dksX3_undo_3 8 rfl rfl)
theorem dX3_undo_79 : decode cX3_undo 79 = .ok (.aload_n 0, 1) := dk_42 (dk_at dksX3_undo_3 9 rfl rfl)
theorem dX3_undo_80 : decode cX3_undo 80 = .ok (.getfield 99, 3) := dk_180 0 99 (dk_at dksX3_undo_3 10 rfl rfl)
theorem dX3_undo_83 : decode cX3_undo 83 = .ok (.iload_n 2, 1) := dk_28 (dk_at dksX3_undo_3 13 rfl rfl)
theorem dX3_undo_84 : decode cX3_undo 84 = .ok (.iaload, 1) := dk_46 (dk_at dksX3_undo_3 14 rfl rfl)
theorem dX3_undo_85 : decode cX3_undo 85 = .ok (.invokevirtual 234, 3) := dk_182 0 234 (dk_at dksX3_undo_3 15 rfl rfl)
theorem dX3_undo_88 : decode cX3_undo 88 = .ok (.iastore, 1) := dk_79 (dk_at dksX3_undo_3 18 rfl rfl)
theorem dX3_undo_89 : decode cX3_undo 89 = .ok (.return_, 1) := dk_177 (dk_at dksX3_undo_3 19 rfl rfl)
abbrev cX3_undoing : ByteArray := prog_17_method_33_code
def yX3_undoing : MethodName := ⟨RX3, "undoing", "(I)I"⟩
def dkwX3_undoing_0 : List UInt8 := [27, 16, 100, 161, 0, 11, 17, 0, 201, 27, 100, 167, 0, 6, 27, 4, 130, 172]
abbrev dktX3_undoing_0 : List UInt8 := dkwX3_undoing_0 ++ []
theorem dksX3_undoing_0 : cX3_undoing.data.toList.drop 0 = dktX3_undoing_0 := by decide +kernel
theorem dX3_undoing_0 : decode cX3_undoing 0 = .ok (.iload_n 1, 1) := dk_27 (dk_at dksX3_undoing_0 0 rfl rfl)
theorem dX3_undoing_1 : decode cX3_undoing 1 = .ok (.bipush 100, 2) := dk_16 100 (dk_at dksX3_undoing_0 1 rfl rfl)
theorem dX3_undoing_3 : decode cX3_undoing 3 = .ok (.if_icmp .lt 11, 3) := dk_161 0 11 (dk_at dksX3_undoing_0 3 rfl rfl)
theorem dX3_undoing_6 : decode cX3_undoing 6 = .ok (.sipush 201, 3) := dk_17 0 201 (dk_at dksX3_undoing_0 6 rfl rfl)
theorem dX3_undoing_9 : decode cX3_undoing 9 = .ok (.iload_n 1, 1) := dk_27 (dk_at dksX3_undoing_0 9 rfl rfl)
theorem dX3_undoing_10 : decode cX3_undoing 10 = .ok (.isub, 1) := dk_100 (dk_at dksX3_undoing_0 10 rfl rfl)
theorem dX3_undoing_11 : decode cX3_undoing 11 = .ok (.goto 6, 3) := dk_167 0 6 (dk_at dksX3_undoing_0 11 rfl rfl)
theorem dX3_undoing_14 : decode cX3_undoing 14 = .ok (.iload_n 1, 1) := dk_27 (dk_at dksX3_undoing_0 14 rfl rfl)
theorem dX3_undoing_15 : decode cX3_undoing 15 = .ok (.iconst 1, 1) := dk_4 (dk_at dksX3_undoing_0 15 rfl rfl)
theorem dX3_undoing_16 : decode cX3_undoing 16 = .ok (.ixor, 1) := dk_130 (dk_at dksX3_undoing_0 16 rfl rfl)
theorem dX3_undoing_17 : decode cX3_undoing 17 = .ok (.ireturn, 1) := dk_172 (dk_at dksX3_undoing_0 17 rfl rfl)
abbrev cX3_told : ByteArray := prog_17_method_39_code
def yX3_told : MethodName := ⟨RX3, "told", "(II)I"⟩
def dkwX3_told_2 : List UInt8 := [17, 1, 44, 27, 104, 28, 96, 46, 167, 0, 4, 2, 172]
abbrev dktX3_told_2 : List UInt8 := dkwX3_told_2 ++ []
def dkwX3_told_1 : List UInt8 := [167, 0, 36, 42, 28, 3, 42, 180, 0, 96, 27, 46, 4, 100, 182, 0, 195, 153, 0, 18, 42, 180, 0, 99]
abbrev dktX3_told_1 : List UInt8 := dkwX3_told_1 ++ dktX3_told_2
def dkwX3_told_0 : List UInt8 := [42, 27, 182, 0, 244, 154, 0, 7, 2, 167, 0, 50, 28, 2, 160, 0, 12, 42, 180, 0, 96, 27, 46]
abbrev dktX3_told_0 : List UInt8 := dkwX3_told_0 ++ dktX3_told_1
theorem dksX3_told_0 : cX3_told.data.toList.drop 0 = dktX3_told_0 := by decide +kernel
theorem dksX3_told_1 : cX3_told.data.toList.drop 23 = dktX3_told_1 := dk_seg dksX3_told_0 23 rfl rfl
theorem dksX3_told_2 : cX3_told.data.toList.drop 47 = dktX3_told_2 := dk_seg dksX3_told_1 24 rfl rfl
theorem dX3_told_0 : decode cX3_told 0 = .ok (.aload_n 0, 1) := dk_42 (dk_at dksX3_told_0 0 rfl rfl)
theorem dX3_told_1 : decode cX3_told 1 = .ok (.iload_n 1, 1) := dk_27 (dk_at dksX3_told_0 1 rfl rfl)
theorem dX3_told_2 : decode cX3_told 2 = .ok (.invokevirtual 244, 3) := dk_182 0 244 (dk_at dksX3_told_0 2 rfl rfl)
theorem dX3_told_5 : decode cX3_told 5 = .ok (.ifCond .ne 7, 3) := dk_154 0 7 (dk_at dksX3_told_0 5 rfl rfl)
theorem dX3_told_8 : decode cX3_told 8 = .ok (.iconst (-1), 1) := dk_2 (dk_at dksX3_told_0 8 rfl rfl)
theorem dX3_told_9 : decode cX3_told 9 = .ok (.goto 50, 3) := dk_167 0 50 (dk_at dksX3_told_0 9 rfl rfl)
theorem dX3_told_12 : decode cX3_told 12 = .ok (.iload_n 2, 1) := dk_28 (dk_at dksX3_told_0 12 rfl rfl)
theorem dX3_told_13 : decode cX3_told 13 = .ok (.iconst (-1), 1) := dk_2 (dk_at dksX3_told_0 13 rfl rfl)
theorem dX3_told_14 : decode cX3_told 14 = .ok (.if_icmp .ne 12, 3) := dk_160 0 12 (dk_at dksX3_told_0 14 rfl rfl)
theorem dX3_told_17 : decode cX3_told 17 = .ok (.aload_n 0, 1) := dk_42 (dk_at dksX3_told_0 17 rfl rfl)
theorem dX3_told_18 : decode cX3_told 18 = .ok (.getfield 96, 3) := dk_180 0 96 (dk_at dksX3_told_0 18 rfl rfl)
theorem dX3_told_21 : decode cX3_told 21 = .ok (.iload_n 1, 1) := dk_27 (dk_at dksX3_told_0 21 rfl rfl)
theorem dX3_told_22 : decode cX3_told 22 = .ok (.iaload, 1) := dk_46 (dk_at dksX3_told_0 22 rfl rfl)
theorem dX3_told_23 : decode cX3_told 23 = .ok (.goto 36, 3) := dk_167 0 36 (dk_at dksX3_told_1 0 rfl rfl)
theorem dX3_told_26 : decode cX3_told 26 = .ok (.aload_n 0, 1) := dk_42 (dk_at dksX3_told_1 3 rfl rfl)
theorem dX3_told_27 : decode cX3_told 27 = .ok (.iload_n 2, 1) := dk_28 (dk_at dksX3_told_1 4 rfl rfl)
theorem dX3_told_28 : decode cX3_told 28 = .ok (.iconst 0, 1) := dk_3 (dk_at dksX3_told_1 5 rfl rfl)
theorem dX3_told_29 : decode cX3_told 29 = .ok (.aload_n 0, 1) := dk_42 (dk_at dksX3_told_1 6 rfl rfl)
theorem dX3_told_30 : decode cX3_told 30 = .ok (.getfield 96, 3) := dk_180 0 96 (dk_at dksX3_told_1 7 rfl rfl)
theorem dX3_told_33 : decode cX3_told 33 = .ok (.iload_n 1, 1) := dk_27 (dk_at dksX3_told_1 10 rfl rfl)
theorem dX3_told_34 : decode cX3_told 34 = .ok (.iaload, 1) := dk_46 (dk_at dksX3_told_1 11 rfl rfl)
theorem dX3_told_35 : decode cX3_told 35 = .ok (.iconst 1, 1) := dk_4 (dk_at dksX3_told_1 12 rfl rfl)
theorem dX3_told_36 : decode cX3_told 36 = .ok (.isub, 1) := dk_100 (dk_at dksX3_told_1 13 rfl rfl)
theorem dX3_told_37 : decode cX3_told 37 = .ok (.invokevirtual 195, 3) := dk_182 0 195 (dk_at dksX3_told_1 14 rfl rfl)
theorem dX3_told_40 : decode cX3_told 40 = .ok (.ifCond .eq 18, 3) := dk_153 0 18 (dk_at dksX3_told_1 17 rfl rfl)
theorem dX3_told_43 : decode cX3_told 43 = .ok (.aload_n 0, 1) := dk_42 (dk_at dksX3_told_1 20 rfl rfl)
theorem dX3_told_44 : decode cX3_told 44 = .ok (.getfield 99, 3) := dk_180 0 99 (dk_at dksX3_told_1 21 rfl rfl)
theorem dX3_told_47 : decode cX3_told 47 = .ok (.sipush 300, 3) := dk_17 1 44 (dk_at dksX3_told_2 0 rfl rfl)
theorem dX3_told_50 : decode cX3_told 50 = .ok (.iload_n 1, 1) := dk_27 (dk_at dksX3_told_2 3 rfl rfl)
theorem dX3_told_51 : decode cX3_told 51 = .ok (.imul, 1) := dk_104 (dk_at dksX3_told_2 4 rfl rfl)
theorem dX3_told_52 : decode cX3_told 52 = .ok (.iload_n 2, 1) := dk_28 (dk_at dksX3_told_2 5 rfl rfl)
theorem dX3_told_53 : decode cX3_told 53 = .ok (.iadd, 1) := dk_96 (dk_at dksX3_told_2 6 rfl rfl)
theorem dX3_told_54 : decode cX3_told 54 = .ok (.iaload, 1) := dk_46 (dk_at dksX3_told_2 7 rfl rfl)
theorem dX3_told_55 : decode cX3_told 55 = .ok (.goto 4, 3) := dk_167 0 4 (dk_at dksX3_told_2 8 rfl rfl)
theorem dX3_told_58 : decode cX3_told 58 = .ok (.iconst (-1), 1) := dk_2 (dk_at dksX3_told_2 11 rfl rfl)
theorem dX3_told_59 : decode cX3_told 59 = .ok (.ireturn, 1) := dk_172 (dk_at dksX3_told_2 12 rfl rfl)
abbrev cX3_dance : ByteArray := prog_17_method_40_code
def yX3_dance : MethodName := ⟨RX3, "dance", "(I)I"⟩
def dkwX3_dance_4 : List UInt8 := [153, 0, 7, 4, 167, 0, 4, 3, 96, 61, 167, 255, 174, 28, 172]
abbrev dktX3_dance_4 : List UInt8 := dkwX3_dance_4 ++ []
def dkwX3_dance_3 : List UInt8 := [21, 4, 16, 10, 108, 21, 4, 16, 10, 112, 182, 1, 5, 158, 0, 7, 4, 167, 0, 4, 3, 62, 28, 29]
abbrev dktX3_dance_3 : List UInt8 := dkwX3_dance_3 ++ dktX3_dance_4
def dkwX3_dance_2 : List UInt8 := [96, 46, 54, 4, 21, 4, 16, 100, 161, 0, 15, 42, 21, 4, 16, 100, 100, 182, 1, 2, 167, 0, 17, 42]
abbrev dktX3_dance_2 : List UInt8 := dkwX3_dance_2 ++ dktX3_dance_3
def dkwX3_dance_1 : List UInt8 := [29, 153, 0, 84, 28, 42, 180, 0, 96, 27, 46, 162, 0, 74, 42, 180, 0, 99, 17, 1, 44, 27, 104, 28]
abbrev dktX3_dance_1 : List UInt8 := dkwX3_dance_1 ++ dktX3_dance_2
def dkwX3_dance_0 : List UInt8 := [42, 27, 182, 0, 244, 154, 0, 5, 2, 172, 42, 180, 0, 44, 154, 0, 6, 16, 253, 172, 3, 61, 4, 62]
abbrev dktX3_dance_0 : List UInt8 := dkwX3_dance_0 ++ dktX3_dance_1
theorem dksX3_dance_0 : cX3_dance.data.toList.drop 0 = dktX3_dance_0 := by decide +kernel
theorem dksX3_dance_1 : cX3_dance.data.toList.drop 24 = dktX3_dance_1 := dk_seg dksX3_dance_0 24 rfl rfl
theorem dksX3_dance_2 : cX3_dance.data.toList.drop 48 = dktX3_dance_2 := dk_seg dksX3_dance_1 24 rfl rfl
theorem dksX3_dance_3 : cX3_dance.data.toList.drop 72 = dktX3_dance_3 := dk_seg dksX3_dance_2 24 rfl rfl
theorem dksX3_dance_4 : cX3_dance.data.toList.drop 96 = dktX3_dance_4 := dk_seg dksX3_dance_3 24 rfl rfl
theorem dX3_dance_0 : decode cX3_dance 0 = .ok (.aload_n 0, 1) := dk_42 (dk_at dksX3_dance_0 0 rfl rfl)
theorem dX3_dance_1 : decode cX3_dance 1 = .ok (.iload_n 1, 1) := dk_27 (dk_at dksX3_dance_0 1 rfl rfl)
theorem dX3_dance_2 : decode cX3_dance 2 = .ok (.invokevirtual 244, 3) := dk_182 0 244 (dk_at dksX3_dance_0 2 rfl rfl)
theorem dX3_dance_5 : decode cX3_dance 5 = .ok (.ifCond .ne 5, 3) := dk_154 0 5 (dk_at dksX3_dance_0 5 rfl rfl)
theorem dX3_dance_8 : decode cX3_dance 8 = .ok (.iconst (-1), 1) := dk_2 (dk_at dksX3_dance_0 8 rfl rfl)
theorem dX3_dance_9 : decode cX3_dance 9 = .ok (.ireturn, 1) := dk_172 (dk_at dksX3_dance_0 9 rfl rfl)
theorem dX3_dance_10 : decode cX3_dance 10 = .ok (.aload_n 0, 1) := dk_42 (dk_at dksX3_dance_0 10 rfl rfl)
theorem dX3_dance_11 : decode cX3_dance 11 = .ok (.getfield 44, 3) := dk_180 0 44 (dk_at dksX3_dance_0 11 rfl rfl)
theorem dX3_dance_14 : decode cX3_dance 14 = .ok (.ifCond .ne 6, 3) := dk_154 0 6 (dk_at dksX3_dance_0 14 rfl rfl)
theorem dX3_dance_17 : decode cX3_dance 17 = .ok (.bipush (-3), 2) := dk_16 253 (dk_at dksX3_dance_0 17 rfl rfl)
theorem dX3_dance_19 : decode cX3_dance 19 = .ok (.ireturn, 1) := dk_172 (dk_at dksX3_dance_0 19 rfl rfl)
theorem dX3_dance_20 : decode cX3_dance 20 = .ok (.iconst 0, 1) := dk_3 (dk_at dksX3_dance_0 20 rfl rfl)
theorem dX3_dance_21 : decode cX3_dance 21 = .ok (.istore_n 2, 1) := dk_61 (dk_at dksX3_dance_0 21 rfl rfl)
theorem dX3_dance_22 : decode cX3_dance 22 = .ok (.iconst 1, 1) := dk_4 (dk_at dksX3_dance_0 22 rfl rfl)
theorem dX3_dance_23 : decode cX3_dance 23 = .ok (.istore_n 3, 1) := dk_62 (dk_at dksX3_dance_0 23 rfl rfl)
theorem dX3_dance_24 : decode cX3_dance 24 = .ok (.iload_n 3, 1) := dk_29 (dk_at dksX3_dance_1 0 rfl rfl)
theorem dX3_dance_25 : decode cX3_dance 25 = .ok (.ifCond .eq 84, 3) := dk_153 0 84 (dk_at dksX3_dance_1 1 rfl rfl)
theorem dX3_dance_28 : decode cX3_dance 28 = .ok (.iload_n 2, 1) := dk_28 (dk_at dksX3_dance_1 4 rfl rfl)
theorem dX3_dance_29 : decode cX3_dance 29 = .ok (.aload_n 0, 1) := dk_42 (dk_at dksX3_dance_1 5 rfl rfl)
theorem dX3_dance_30 : decode cX3_dance 30 = .ok (.getfield 96, 3) := dk_180 0 96 (dk_at dksX3_dance_1 6 rfl rfl)
theorem dX3_dance_33 : decode cX3_dance 33 = .ok (.iload_n 1, 1) := dk_27 (dk_at dksX3_dance_1 9 rfl rfl)
theorem dX3_dance_34 : decode cX3_dance 34 = .ok (.iaload, 1) := dk_46 (dk_at dksX3_dance_1 10 rfl rfl)
theorem dX3_dance_35 : decode cX3_dance 35 = .ok (.if_icmp .ge 74, 3) := dk_162 0 74 (dk_at dksX3_dance_1 11 rfl rfl)
theorem dX3_dance_38 : decode cX3_dance 38 = .ok (.aload_n 0, 1) := dk_42 (dk_at dksX3_dance_1 14 rfl rfl)
theorem dX3_dance_39 : decode cX3_dance 39 = .ok (.getfield 99, 3) := dk_180 0 99 (dk_at dksX3_dance_1 15 rfl rfl)
theorem dX3_dance_42 : decode cX3_dance 42 = .ok (.sipush 300, 3) := dk_17 1 44 (dk_at dksX3_dance_1 18 rfl rfl)
theorem dX3_dance_45 : decode cX3_dance 45 = .ok (.iload_n 1, 1) := dk_27 (dk_at dksX3_dance_1 21 rfl rfl)
theorem dX3_dance_46 : decode cX3_dance 46 = .ok (.imul, 1) := dk_104 (dk_at dksX3_dance_1 22 rfl rfl)
theorem dX3_dance_47 : decode cX3_dance 47 = .ok (.iload_n 2, 1) := dk_28 (dk_at dksX3_dance_1 23 rfl rfl)
theorem dX3_dance_48 : decode cX3_dance 48 = .ok (.iadd, 1) := dk_96 (dk_at dksX3_dance_2 0 rfl rfl)
theorem dX3_dance_49 : decode cX3_dance 49 = .ok (.iaload, 1) := dk_46 (dk_at dksX3_dance_2 1 rfl rfl)
theorem dX3_dance_50 : decode cX3_dance 50 = .ok (.istore 4, 2) := dk_54 4 (dk_at dksX3_dance_2 2 rfl rfl)
theorem dX3_dance_52 : decode cX3_dance 52 = .ok (.iload 4, 2) := dk_21 4 (dk_at dksX3_dance_2 4 rfl rfl)
theorem dX3_dance_54 : decode cX3_dance 54 = .ok (.bipush 100, 2) := dk_16 100 (dk_at dksX3_dance_2 6 rfl rfl)
theorem dX3_dance_56 : decode cX3_dance 56 = .ok (.if_icmp .lt 15, 3) := dk_161 0 15 (dk_at dksX3_dance_2 8 rfl rfl)
theorem dX3_dance_59 : decode cX3_dance 59 = .ok (.aload_n 0, 1) := dk_42 (dk_at dksX3_dance_2 11 rfl rfl)
theorem dX3_dance_60 : decode cX3_dance 60 = .ok (.iload 4, 2) := dk_21 4 (dk_at dksX3_dance_2 12 rfl rfl)
theorem dX3_dance_62 : decode cX3_dance 62 = .ok (.bipush 100, 2) := dk_16 100 (dk_at dksX3_dance_2 14 rfl rfl)
theorem dX3_dance_64 : decode cX3_dance 64 = .ok (.isub, 1) := dk_100 (dk_at dksX3_dance_2 16 rfl rfl)
theorem dX3_dance_65 : decode cX3_dance 65 = .ok (.invokevirtual 258, 3) := dk_182 1 2 (dk_at dksX3_dance_2 17 rfl rfl)
theorem dX3_dance_68 : decode cX3_dance 68 = .ok (.goto 17, 3) := dk_167 0 17 (dk_at dksX3_dance_2 20 rfl rfl)
theorem dX3_dance_71 : decode cX3_dance 71 = .ok (.aload_n 0, 1) := dk_42 (dk_at dksX3_dance_2 23 rfl rfl)
theorem dX3_dance_72 : decode cX3_dance 72 = .ok (.iload 4, 2) := dk_21 4 (dk_at dksX3_dance_3 0 rfl rfl)
theorem dX3_dance_74 : decode cX3_dance 74 = .ok (.bipush 10, 2) := dk_16 10 (dk_at dksX3_dance_3 2 rfl rfl)
theorem dX3_dance_76 : decode cX3_dance 76 = .ok (.idiv, 1) := dk_108 (dk_at dksX3_dance_3 4 rfl rfl)
theorem dX3_dance_77 : decode cX3_dance 77 = .ok (.iload 4, 2) := dk_21 4 (dk_at dksX3_dance_3 5 rfl rfl)
theorem dX3_dance_79 : decode cX3_dance 79 = .ok (.bipush 10, 2) := dk_16 10 (dk_at dksX3_dance_3 7 rfl rfl)
theorem dX3_dance_81 : decode cX3_dance 81 = .ok (.irem, 1) := dk_112 (dk_at dksX3_dance_3 9 rfl rfl)
theorem dX3_dance_82 : decode cX3_dance 82 = .ok (.invokevirtual 261, 3) := dk_182 1 5 (dk_at dksX3_dance_3 10 rfl rfl)
theorem dX3_dance_85 : decode cX3_dance 85 = .ok (.ifCond .le 7, 3) := dk_158 0 7 (dk_at dksX3_dance_3 13 rfl rfl)
theorem dX3_dance_88 : decode cX3_dance 88 = .ok (.iconst 1, 1) := dk_4 (dk_at dksX3_dance_3 16 rfl rfl)
theorem dX3_dance_89 : decode cX3_dance 89 = .ok (.goto 4, 3) := dk_167 0 4 (dk_at dksX3_dance_3 17 rfl rfl)
theorem dX3_dance_92 : decode cX3_dance 92 = .ok (.iconst 0, 1) := dk_3 (dk_at dksX3_dance_3 20 rfl rfl)
theorem dX3_dance_93 : decode cX3_dance 93 = .ok (.istore_n 3, 1) := dk_62 (dk_at dksX3_dance_3 21 rfl rfl)
theorem dX3_dance_94 : decode cX3_dance 94 = .ok (.iload_n 2, 1) := dk_28 (dk_at dksX3_dance_3 22 rfl rfl)
theorem dX3_dance_95 : decode cX3_dance 95 = .ok (.iload_n 3, 1) := dk_29 (dk_at dksX3_dance_3 23 rfl rfl)
theorem dX3_dance_96 : decode cX3_dance 96 = .ok (.ifCond .eq 7, 3) := dk_153 0 7 (dk_at dksX3_dance_4 0 rfl rfl)
theorem dX3_dance_99 : decode cX3_dance 99 = .ok (.iconst 1, 1) := dk_4 (dk_at dksX3_dance_4 3 rfl rfl)
theorem dX3_dance_100 : decode cX3_dance 100 = .ok (.goto 4, 3) := dk_167 0 4 (dk_at dksX3_dance_4 4 rfl rfl)
theorem dX3_dance_103 : decode cX3_dance 103 = .ok (.iconst 0, 1) := dk_3 (dk_at dksX3_dance_4 7 rfl rfl)
theorem dX3_dance_104 : decode cX3_dance 104 = .ok (.iadd, 1) := dk_96 (dk_at dksX3_dance_4 8 rfl rfl)
theorem dX3_dance_105 : decode cX3_dance 105 = .ok (.istore_n 2, 1) := dk_61 (dk_at dksX3_dance_4 9 rfl rfl)
theorem dX3_dance_106 : decode cX3_dance 106 = .ok (.goto (-82), 3) := dk_167 255 174 (dk_at dksX3_dance_4 10 rfl rfl)
theorem dX3_dance_109 : decode cX3_dance 109 = .ok (.iload_n 2, 1) := dk_28 (dk_at dksX3_dance_4 13 rfl rfl)
theorem dX3_dance_110 : decode cX3_dance 110 = .ok (.ireturn, 1) := dk_172 (dk_at dksX3_dance_4 14 rfl rfl)
abbrev cX3_form : ByteArray := prog_17_method_47_code
def yX3_form : MethodName := ⟨RX3, "form", "(II)I"⟩
def dkwX3_form_3 : List UInt8 := [180, 0, 123, 162, 0, 12, 42, 180, 0, 117, 28, 46, 167, 0, 5, 16, 157, 172]
abbrev dktX3_form_3 : List UInt8 := dkwX3_form_3 ++ []
def dkwX3_form_2 : List UInt8 := [160, 0, 10, 42, 180, 0, 126, 167, 0, 34, 28, 2, 160, 0, 10, 42, 180, 0, 123, 167, 0, 22, 28, 42]
abbrev dktX3_form_2 : List UInt8 := dkwX3_form_2 ++ dktX3_form_3
def dkwX3_form_1 : List UInt8 := [180, 0, 13, 154, 0, 6, 16, 158, 172, 42, 27, 182, 1, 26, 154, 0, 6, 16, 159, 172, 28, 16, 254]
abbrev dktX3_form_1 : List UInt8 := dkwX3_form_1 ++ dktX3_form_2
def dkwX3_form_0 : List UInt8 := [27, 2, 159, 0, 11, 42, 27, 182, 0, 244, 153, 0, 9, 28, 16, 254, 162, 0, 6, 16, 157, 172, 42]
abbrev dktX3_form_0 : List UInt8 := dkwX3_form_0 ++ dktX3_form_1
theorem dksX3_form_0 : cX3_form.data.toList.drop 0 = dktX3_form_0 := by decide +kernel
theorem dksX3_form_1 : cX3_form.data.toList.drop 23 = dktX3_form_1 := dk_seg dksX3_form_0 23 rfl rfl
theorem dksX3_form_2 : cX3_form.data.toList.drop 46 = dktX3_form_2 := dk_seg dksX3_form_1 23 rfl rfl
theorem dksX3_form_3 : cX3_form.data.toList.drop 70 = dktX3_form_3 := dk_seg dksX3_form_2 24 rfl rfl
theorem dX3_form_0 : decode cX3_form 0 = .ok (.iload_n 1, 1) := dk_27 (dk_at dksX3_form_0 0 rfl rfl)
theorem dX3_form_1 : decode cX3_form 1 = .ok (.iconst (-1), 1) := dk_2 (dk_at dksX3_form_0 1 rfl rfl)
theorem dX3_form_2 : decode cX3_form 2 = .ok (.if_icmp .eq 11, 3) := dk_159 0 11 (dk_at dksX3_form_0 2 rfl rfl)
theorem dX3_form_5 : decode cX3_form 5 = .ok (.aload_n 0, 1) := dk_42 (dk_at dksX3_form_0 5 rfl rfl)
theorem dX3_form_6 : decode cX3_form 6 = .ok (.iload_n 1, 1) := dk_27 (dk_at dksX3_form_0 6 rfl rfl)
theorem dX3_form_7 : decode cX3_form 7 = .ok (.invokevirtual 244, 3) := dk_182 0 244 (dk_at dksX3_form_0 7 rfl rfl)
theorem dX3_form_10 : decode cX3_form 10 = .ok (.ifCond .eq 9, 3) := dk_153 0 9 (dk_at dksX3_form_0 10 rfl rfl)
theorem dX3_form_13 : decode cX3_form 13 = .ok (.iload_n 2, 1) := dk_28 (dk_at dksX3_form_0 13 rfl rfl)
theorem dX3_form_14 : decode cX3_form 14 = .ok (.bipush (-2), 2) := dk_16 254 (dk_at dksX3_form_0 14 rfl rfl)
theorem dX3_form_16 : decode cX3_form 16 = .ok (.if_icmp .ge 6, 3) := dk_162 0 6 (dk_at dksX3_form_0 16 rfl rfl)
theorem dX3_form_19 : decode cX3_form 19 = .ok (.bipush (-99), 2) := dk_16 157 (dk_at dksX3_form_0 19 rfl rfl)
theorem dX3_form_21 : decode cX3_form 21 = .ok (.ireturn, 1) := dk_172 (dk_at dksX3_form_0 21 rfl rfl)
theorem dX3_form_22 : decode cX3_form 22 = .ok (.aload_n 0, 1) := dk_42 (dk_at dksX3_form_0 22 rfl rfl)
theorem dX3_form_23 : decode cX3_form 23 = .ok (.getfield 13, 3) := dk_180 0 13 (dk_at dksX3_form_1 0 rfl rfl)
theorem dX3_form_26 : decode cX3_form 26 = .ok (.ifCond .ne 6, 3) := dk_154 0 6 (dk_at dksX3_form_1 3 rfl rfl)
theorem dX3_form_29 : decode cX3_form 29 = .ok (.bipush (-98), 2) := dk_16 158 (dk_at dksX3_form_1 6 rfl rfl)
theorem dX3_form_31 : decode cX3_form 31 = .ok (.ireturn, 1) := dk_172 (dk_at dksX3_form_1 8 rfl rfl)
theorem dX3_form_32 : decode cX3_form 32 = .ok (.aload_n 0, 1) := dk_42 (dk_at dksX3_form_1 9 rfl rfl)
theorem dX3_form_33 : decode cX3_form 33 = .ok (.iload_n 1, 1) := dk_27 (dk_at dksX3_form_1 10 rfl rfl)
theorem dX3_form_34 : decode cX3_form 34 = .ok (.invokevirtual 282, 3) := dk_182 1 26 (dk_at dksX3_form_1 11 rfl rfl)
theorem dX3_form_37 : decode cX3_form 37 = .ok (.ifCond .ne 6, 3) := dk_154 0 6 (dk_at dksX3_form_1 14 rfl rfl)
theorem dX3_form_40 : decode cX3_form 40 = .ok (.bipush (-97), 2) := dk_16 159 (dk_at dksX3_form_1 17 rfl rfl)
theorem dX3_form_42 : decode cX3_form 42 = .ok (.ireturn, 1) := dk_172 (dk_at dksX3_form_1 19 rfl rfl)
theorem dX3_form_43 : decode cX3_form 43 = .ok (.iload_n 2, 1) := dk_28 (dk_at dksX3_form_1 20 rfl rfl)
theorem dX3_form_44 : decode cX3_form 44 = .ok (.bipush (-2), 2) := dk_16 254 (dk_at dksX3_form_1 21 rfl rfl)
theorem dX3_form_46 : decode cX3_form 46 = .ok (.if_icmp .ne 10, 3) := dk_160 0 10 (dk_at dksX3_form_2 0 rfl rfl)
theorem dX3_form_49 : decode cX3_form 49 = .ok (.aload_n 0, 1) := dk_42 (dk_at dksX3_form_2 3 rfl rfl)
theorem dX3_form_50 : decode cX3_form 50 = .ok (.getfield 126, 3) := dk_180 0 126 (dk_at dksX3_form_2 4 rfl rfl)
theorem dX3_form_53 : decode cX3_form 53 = .ok (.goto 34, 3) := dk_167 0 34 (dk_at dksX3_form_2 7 rfl rfl)
theorem dX3_form_56 : decode cX3_form 56 = .ok (.iload_n 2, 1) := dk_28 (dk_at dksX3_form_2 10 rfl rfl)
theorem dX3_form_57 : decode cX3_form 57 = .ok (.iconst (-1), 1) := dk_2 (dk_at dksX3_form_2 11 rfl rfl)
theorem dX3_form_58 : decode cX3_form 58 = .ok (.if_icmp .ne 10, 3) := dk_160 0 10 (dk_at dksX3_form_2 12 rfl rfl)
theorem dX3_form_61 : decode cX3_form 61 = .ok (.aload_n 0, 1) := dk_42 (dk_at dksX3_form_2 15 rfl rfl)
theorem dX3_form_62 : decode cX3_form 62 = .ok (.getfield 123, 3) := dk_180 0 123 (dk_at dksX3_form_2 16 rfl rfl)
theorem dX3_form_65 : decode cX3_form 65 = .ok (.goto 22, 3) := dk_167 0 22 (dk_at dksX3_form_2 19 rfl rfl)
theorem dX3_form_68 : decode cX3_form 68 = .ok (.iload_n 2, 1) := dk_28 (dk_at dksX3_form_2 22 rfl rfl)
theorem dX3_form_69 : decode cX3_form 69 = .ok (.aload_n 0, 1) := dk_42 (dk_at dksX3_form_2 23 rfl rfl)
theorem dX3_form_70 : decode cX3_form 70 = .ok (.getfield 123, 3) := dk_180 0 123 (dk_at dksX3_form_3 0 rfl rfl)
theorem dX3_form_73 : decode cX3_form 73 = .ok (.if_icmp .ge 12, 3) := dk_162 0 12 (dk_at dksX3_form_3 3 rfl rfl)
theorem dX3_form_76 : decode cX3_form 76 = .ok (.aload_n 0, 1) := dk_42 (dk_at dksX3_form_3 6 rfl rfl)
theorem dX3_form_77 : decode cX3_form 77 = .ok (.getfield 117, 3) := dk_180 0 117 (dk_at dksX3_form_3 7 rfl rfl)
theorem dX3_form_80 : decode cX3_form 80 = .ok (.iload_n 2, 1) := dk_28 (dk_at dksX3_form_3 10 rfl rfl)
theorem dX3_form_81 : decode cX3_form 81 = .ok (.iaload, 1) := dk_46 (dk_at dksX3_form_3 11 rfl rfl)
theorem dX3_form_82 : decode cX3_form 82 = .ok (.goto 5, 3) := dk_167 0 5 (dk_at dksX3_form_3 12 rfl rfl)
theorem dX3_form_85 : decode cX3_form 85 = .ok (.bipush (-99), 2) := dk_16 157 (dk_at dksX3_form_3 15 rfl rfl)
theorem dX3_form_87 : decode cX3_form 87 = .ok (.ireturn, 1) := dk_172 (dk_at dksX3_form_3 17 rfl rfl)
abbrev cX3_findForm : ByteArray := prog_17_method_44_code
def yX3_findForm : MethodName := ⟨RX3, "findForm", "(I)Z"⟩
def dkwX3_findForm_5 : List UInt8 := [28, 42, 180, 0, 123, 162, 0, 14, 42, 28, 182, 1, 20, 132, 2, 1, 167, 255, 240, 4, 172]
abbrev dktX3_findForm_5 : List UInt8 := dkwX3_findForm_5 ++ []
def dkwX3_findForm_4 : List UInt8 := [54, 4, 42, 16, 10, 21, 4, 104, 29, 16, 10, 112, 96, 182, 1, 17, 132, 2, 1, 167, 255, 155, 3, 61]
abbrev dktX3_findForm_4 : List UInt8 := dkwX3_findForm_4 ++ dktX3_findForm_5
def dkwX3_findForm_3 : List UInt8 := [29, 16, 10, 108, 42, 180, 0, 126, 100, 42, 180, 0, 13, 112, 42, 180, 0, 13, 96, 42, 180, 0, 13, 112]
abbrev dktX3_findForm_3 : List UInt8 := dkwX3_findForm_3 ++ dktX3_findForm_4
def dkwX3_findForm_2 : List UInt8 := [167, 0, 4, 2, 96, 181, 0, 126, 167, 0, 56, 29, 16, 10, 108, 42, 180, 0, 13, 161, 0, 5, 3, 172]
abbrev dktX3_findForm_2 : List UInt8 := dkwX3_findForm_2 ++ dktX3_findForm_3
def dkwX3_findForm_1 : List UInt8 := [182, 1, 14, 62, 29, 16, 100, 161, 0, 26, 42, 89, 180, 0, 126, 29, 16, 100, 160, 0, 7, 4]
abbrev dktX3_findForm_1 : List UInt8 := dkwX3_findForm_1 ++ dktX3_findForm_2
def dkwX3_findForm_0 : List UInt8 := [42, 3, 181, 0, 126, 42, 3, 181, 0, 123, 3, 61, 28, 42, 27, 182, 1, 11, 162, 0, 98, 42, 27, 28]
abbrev dktX3_findForm_0 : List UInt8 := dkwX3_findForm_0 ++ dktX3_findForm_1
theorem dksX3_findForm_0 : cX3_findForm.data.toList.drop 0 = dktX3_findForm_0 := by decide +kernel
theorem dksX3_findForm_1 : cX3_findForm.data.toList.drop 24 = dktX3_findForm_1 := dk_seg dksX3_findForm_0 24 rfl rfl
theorem dksX3_findForm_2 : cX3_findForm.data.toList.drop 46 = dktX3_findForm_2 := dk_seg dksX3_findForm_1 22 rfl rfl
theorem dksX3_findForm_3 : cX3_findForm.data.toList.drop 70 = dktX3_findForm_3 := dk_seg dksX3_findForm_2 24 rfl rfl
theorem dksX3_findForm_4 : cX3_findForm.data.toList.drop 94 = dktX3_findForm_4 := dk_seg dksX3_findForm_3 24 rfl rfl
theorem dksX3_findForm_5 : cX3_findForm.data.toList.drop 118 = dktX3_findForm_5 := dk_seg dksX3_findForm_4 24 rfl rfl
theorem dX3_findForm_0 : decode cX3_findForm 0 = .ok (.aload_n 0, 1) := dk_42 (dk_at dksX3_findForm_0 0 rfl rfl)
theorem dX3_findForm_1 : decode cX3_findForm 1 = .ok (.iconst 0, 1) := dk_3 (dk_at dksX3_findForm_0 1 rfl rfl)
theorem dX3_findForm_2 : decode cX3_findForm 2 = .ok (.putfield 126, 3) := dk_181 0 126 (dk_at dksX3_findForm_0 2 rfl rfl)
theorem dX3_findForm_5 : decode cX3_findForm 5 = .ok (.aload_n 0, 1) := dk_42 (dk_at dksX3_findForm_0 5 rfl rfl)
theorem dX3_findForm_6 : decode cX3_findForm 6 = .ok (.iconst 0, 1) := dk_3 (dk_at dksX3_findForm_0 6 rfl rfl)
theorem dX3_findForm_7 : decode cX3_findForm 7 = .ok (.putfield 123, 3) := dk_181 0 123 (dk_at dksX3_findForm_0 7 rfl rfl)
theorem dX3_findForm_10 : decode cX3_findForm 10 = .ok (.iconst 0, 1) := dk_3 (dk_at dksX3_findForm_0 10 rfl rfl)
theorem dX3_findForm_11 : decode cX3_findForm 11 = .ok (.istore_n 2, 1) := dk_61 (dk_at dksX3_findForm_0 11 rfl rfl)
theorem dX3_findForm_12 : decode cX3_findForm 12 = .ok (.iload_n 2, 1) := dk_28 (dk_at dksX3_findForm_0 12 rfl rfl)
theorem dX3_findForm_13 : decode cX3_findForm 13 = .ok (.aload_n 0, 1) := dk_42 (dk_at dksX3_findForm_0 13 rfl rfl)
theorem dX3_findForm_14 : decode cX3_findForm 14 = .ok (.iload_n 1, 1) := dk_27 (dk_at dksX3_findForm_0 14 rfl rfl)
theorem dX3_findForm_15 : decode cX3_findForm 15 = .ok (.invokevirtual 267, 3) := dk_182 1 11 (dk_at dksX3_findForm_0 15 rfl rfl)
theorem dX3_findForm_18 : decode cX3_findForm 18 = .ok (.if_icmp .ge 98, 3) := dk_162 0 98 (dk_at dksX3_findForm_0 18 rfl rfl)
theorem dX3_findForm_21 : decode cX3_findForm 21 = .ok (.aload_n 0, 1) := dk_42 (dk_at dksX3_findForm_0 21 rfl rfl)
theorem dX3_findForm_22 : decode cX3_findForm 22 = .ok (.iload_n 1, 1) := dk_27 (dk_at dksX3_findForm_0 22 rfl rfl)
theorem dX3_findForm_23 : decode cX3_findForm 23 = .ok (.iload_n 2, 1) := dk_28 (dk_at dksX3_findForm_0 23 rfl rfl)
theorem dX3_findForm_24 : decode cX3_findForm 24 = .ok (.invokevirtual 270, 3) := dk_182 1 14 (dk_at dksX3_findForm_1 0 rfl rfl)
theorem dX3_findForm_27 : decode cX3_findForm 27 = .ok (.istore_n 3, 1) := dk_62 (dk_at dksX3_findForm_1 3 rfl rfl)
theorem dX3_findForm_28 : decode cX3_findForm 28 = .ok (.iload_n 3, 1) := dk_29 (dk_at dksX3_findForm_1 4 rfl rfl)
theorem dX3_findForm_29 : decode cX3_findForm 29 = .ok (.bipush 100, 2) := dk_16 100 (dk_at dksX3_findForm_1 5 rfl rfl)
theorem dX3_findForm_31 : decode cX3_findForm 31 = .ok (.if_icmp .lt 26, 3) := dk_161 0 26 (dk_at dksX3_findForm_1 7 rfl rfl)
theorem dX3_findForm_34 : decode cX3_findForm 34 = .ok (.aload_n 0, 1) := dk_42 (dk_at dksX3_findForm_1 10 rfl rfl)
theorem dX3_findForm_35 : decode cX3_findForm 35 = .ok (.dup, 1) := dk_89 (dk_at dksX3_findForm_1 11 rfl rfl)
theorem dX3_findForm_36 : decode cX3_findForm 36 = .ok (.getfield 126, 3) := dk_180 0 126 (dk_at dksX3_findForm_1 12 rfl rfl)
theorem dX3_findForm_39 : decode cX3_findForm 39 = .ok (.iload_n 3, 1) := dk_29 (dk_at dksX3_findForm_1 15 rfl rfl)
theorem dX3_findForm_40 : decode cX3_findForm 40 = .ok (.bipush 100, 2) := dk_16 100 (dk_at dksX3_findForm_1 16 rfl rfl)
theorem dX3_findForm_42 : decode cX3_findForm 42 = .ok (.if_icmp .ne 7, 3) := dk_160 0 7 (dk_at dksX3_findForm_1 18 rfl rfl)
theorem dX3_findForm_45 : decode cX3_findForm 45 = .ok (.iconst 1, 1) := dk_4 (dk_at dksX3_findForm_1 21 rfl rfl)
theorem dX3_findForm_46 : decode cX3_findForm 46 = .ok (.goto 4, 3) := dk_167 0 4 (dk_at dksX3_findForm_2 0 rfl rfl)
theorem dX3_findForm_49 : decode cX3_findForm 49 = .ok (.iconst (-1), 1) := dk_2 (dk_at dksX3_findForm_2 3 rfl rfl)
theorem dX3_findForm_50 : decode cX3_findForm 50 = .ok (.iadd, 1) := dk_96 (dk_at dksX3_findForm_2 4 rfl rfl)
theorem dX3_findForm_51 : decode cX3_findForm 51 = .ok (.putfield 126, 3) := dk_181 0 126 (dk_at dksX3_findForm_2 5 rfl rfl)
theorem dX3_findForm_54 : decode cX3_findForm 54 = .ok (.goto 56, 3) := dk_167 0 56 (dk_at dksX3_findForm_2 8 rfl rfl)
theorem dX3_findForm_57 : decode cX3_findForm 57 = .ok (.iload_n 3, 1) := dk_29 (dk_at dksX3_findForm_2 11 rfl rfl)
theorem dX3_findForm_58 : decode cX3_findForm 58 = .ok (.bipush 10, 2) := dk_16 10 (dk_at dksX3_findForm_2 12 rfl rfl)
theorem dX3_findForm_60 : decode cX3_findForm 60 = .ok (.idiv, 1) := dk_108 (dk_at dksX3_findForm_2 14 rfl rfl)
theorem dX3_findForm_61 : decode cX3_findForm 61 = .ok (.aload_n 0, 1) := dk_42 (dk_at dksX3_findForm_2 15 rfl rfl)
theorem dX3_findForm_62 : decode cX3_findForm 62 = .ok (.getfield 13, 3) := dk_180 0 13 (dk_at dksX3_findForm_2 16 rfl rfl)
theorem dX3_findForm_65 : decode cX3_findForm 65 = .ok (.if_icmp .lt 5, 3) := dk_161 0 5 (dk_at dksX3_findForm_2 19 rfl rfl)
theorem dX3_findForm_68 : decode cX3_findForm 68 = .ok (.iconst 0, 1) := dk_3 (dk_at dksX3_findForm_2 22 rfl rfl)
theorem dX3_findForm_69 : decode cX3_findForm 69 = .ok (.ireturn, 1) := dk_172 (dk_at dksX3_findForm_2 23 rfl rfl)
theorem dX3_findForm_70 : decode cX3_findForm 70 = .ok (.iload_n 3, 1) := dk_29 (dk_at dksX3_findForm_3 0 rfl rfl)
theorem dX3_findForm_71 : decode cX3_findForm 71 = .ok (.bipush 10, 2) := dk_16 10 (dk_at dksX3_findForm_3 1 rfl rfl)
theorem dX3_findForm_73 : decode cX3_findForm 73 = .ok (.idiv, 1) := dk_108 (dk_at dksX3_findForm_3 3 rfl rfl)
theorem dX3_findForm_74 : decode cX3_findForm 74 = .ok (.aload_n 0, 1) := dk_42 (dk_at dksX3_findForm_3 4 rfl rfl)
theorem dX3_findForm_75 : decode cX3_findForm 75 = .ok (.getfield 126, 3) := dk_180 0 126 (dk_at dksX3_findForm_3 5 rfl rfl)
theorem dX3_findForm_78 : decode cX3_findForm 78 = .ok (.isub, 1) := dk_100 (dk_at dksX3_findForm_3 8 rfl rfl)
theorem dX3_findForm_79 : decode cX3_findForm 79 = .ok (.aload_n 0, 1) := dk_42 (dk_at dksX3_findForm_3 9 rfl rfl)
theorem dX3_findForm_80 : decode cX3_findForm 80 = .ok (.getfield 13, 3) := dk_180 0 13 (dk_at dksX3_findForm_3 10 rfl rfl)
theorem dX3_findForm_83 : decode cX3_findForm 83 = .ok (.irem, 1) := dk_112 (dk_at dksX3_findForm_3 13 rfl rfl)
theorem dX3_findForm_84 : decode cX3_findForm 84 = .ok (.aload_n 0, 1) := dk_42 (dk_at dksX3_findForm_3 14 rfl rfl)
theorem dX3_findForm_85 : decode cX3_findForm 85 = .ok (.getfield 13, 3) := dk_180 0 13 (dk_at dksX3_findForm_3 15 rfl rfl)
theorem dX3_findForm_88 : decode cX3_findForm 88 = .ok (.iadd, 1) := dk_96 (dk_at dksX3_findForm_3 18 rfl rfl)
theorem dX3_findForm_89 : decode cX3_findForm 89 = .ok (.aload_n 0, 1) := dk_42 (dk_at dksX3_findForm_3 19 rfl rfl)
theorem dX3_findForm_90 : decode cX3_findForm 90 = .ok (.getfield 13, 3) := dk_180 0 13 (dk_at dksX3_findForm_3 20 rfl rfl)
theorem dX3_findForm_93 : decode cX3_findForm 93 = .ok (.irem, 1) := dk_112 (dk_at dksX3_findForm_3 23 rfl rfl)
theorem dX3_findForm_94 : decode cX3_findForm 94 = .ok (.istore 4, 2) := dk_54 4 (dk_at dksX3_findForm_4 0 rfl rfl)
theorem dX3_findForm_96 : decode cX3_findForm 96 = .ok (.aload_n 0, 1) := dk_42 (dk_at dksX3_findForm_4 2 rfl rfl)
theorem dX3_findForm_97 : decode cX3_findForm 97 = .ok (.bipush 10, 2) := dk_16 10 (dk_at dksX3_findForm_4 3 rfl rfl)
theorem dX3_findForm_99 : decode cX3_findForm 99 = .ok (.iload 4, 2) := dk_21 4 (dk_at dksX3_findForm_4 5 rfl rfl)
theorem dX3_findForm_101 : decode cX3_findForm 101 = .ok (.imul, 1) := dk_104 (dk_at dksX3_findForm_4 7 rfl rfl)
theorem dX3_findForm_102 : decode cX3_findForm 102 = .ok (.iload_n 3, 1) := dk_29 (dk_at dksX3_findForm_4 8 rfl rfl)
theorem dX3_findForm_103 : decode cX3_findForm 103 = .ok (.bipush 10, 2) := dk_16 10 (dk_at dksX3_findForm_4 9 rfl rfl)
theorem dX3_findForm_105 : decode cX3_findForm 105 = .ok (.irem, 1) := dk_112 (dk_at dksX3_findForm_4 11 rfl rfl)
theorem dX3_findForm_106 : decode cX3_findForm 106 = .ok (.iadd, 1) := dk_96 (dk_at dksX3_findForm_4 12 rfl rfl)
theorem dX3_findForm_107 : decode cX3_findForm 107 = .ok (.invokevirtual 273, 3) := dk_182 1 17 (dk_at dksX3_findForm_4 13 rfl rfl)
theorem dX3_findForm_110 : decode cX3_findForm 110 = .ok (.iinc 2 1, 3) := dk_132 2 1 (dk_at dksX3_findForm_4 16 rfl rfl)
theorem dX3_findForm_113 : decode cX3_findForm 113 = .ok (.goto (-101), 3) := dk_167 255 155 (dk_at dksX3_findForm_4 19 rfl rfl)
theorem dX3_findForm_116 : decode cX3_findForm 116 = .ok (.iconst 0, 1) := dk_3 (dk_at dksX3_findForm_4 22 rfl rfl)
theorem dX3_findForm_117 : decode cX3_findForm 117 = .ok (.istore_n 2, 1) := dk_61 (dk_at dksX3_findForm_4 23 rfl rfl)
theorem dX3_findForm_118 : decode cX3_findForm 118 = .ok (.iload_n 2, 1) := dk_28 (dk_at dksX3_findForm_5 0 rfl rfl)
theorem dX3_findForm_119 : decode cX3_findForm 119 = .ok (.aload_n 0, 1) := dk_42 (dk_at dksX3_findForm_5 1 rfl rfl)
theorem dX3_findForm_120 : decode cX3_findForm 120 = .ok (.getfield 123, 3) := dk_180 0 123 (dk_at dksX3_findForm_5 2 rfl rfl)
theorem dX3_findForm_123 : decode cX3_findForm 123 = .ok (.if_icmp .ge 14, 3) := dk_162 0 14 (dk_at dksX3_findForm_5 5 rfl rfl)
theorem dX3_findForm_126 : decode cX3_findForm 126 = .ok (.aload_n 0, 1) := dk_42 (dk_at dksX3_findForm_5 8 rfl rfl)
theorem dX3_findForm_127 : decode cX3_findForm 127 = .ok (.iload_n 2, 1) := dk_28 (dk_at dksX3_findForm_5 9 rfl rfl)
theorem dX3_findForm_128 : decode cX3_findForm 128 = .ok (.invokevirtual 276, 3) := dk_182 1 20 (dk_at dksX3_findForm_5 10 rfl rfl)
theorem dX3_findForm_131 : decode cX3_findForm 131 = .ok (.iinc 2 1, 3) := dk_132 2 1 (dk_at dksX3_findForm_5 13 rfl rfl)
theorem dX3_findForm_134 : decode cX3_findForm 134 = .ok (.goto (-16), 3) := dk_167 255 240 (dk_at dksX3_findForm_5 16 rfl rfl)
theorem dX3_findForm_137 : decode cX3_findForm 137 = .ok (.iconst 1, 1) := dk_4 (dk_at dksX3_findForm_5 19 rfl rfl)
theorem dX3_findForm_138 : decode cX3_findForm 138 = .ok (.ireturn, 1) := dk_172 (dk_at dksX3_findForm_5 20 rfl rfl)
abbrev cX3_stepsOf : ByteArray := prog_17_method_42_code
def yX3_stepsOf : MethodName := ⟨RX3, "stepsOf", "(I)I"⟩
def dkwX3_stepsOf_0 : List UInt8 := [27, 156, 0, 10, 42, 180, 0, 54, 167, 0, 9, 42, 180, 0, 96, 27, 46, 172]
abbrev dktX3_stepsOf_0 : List UInt8 := dkwX3_stepsOf_0 ++ []
theorem dksX3_stepsOf_0 : cX3_stepsOf.data.toList.drop 0 = dktX3_stepsOf_0 := by decide +kernel
theorem dX3_stepsOf_0 : decode cX3_stepsOf 0 = .ok (.iload_n 1, 1) := dk_27 (dk_at dksX3_stepsOf_0 0 rfl rfl)
theorem dX3_stepsOf_1 : decode cX3_stepsOf 1 = .ok (.ifCond .ge 10, 3) := dk_156 0 10 (dk_at dksX3_stepsOf_0 1 rfl rfl)
theorem dX3_stepsOf_4 : decode cX3_stepsOf 4 = .ok (.aload_n 0, 1) := dk_42 (dk_at dksX3_stepsOf_0 4 rfl rfl)
theorem dX3_stepsOf_5 : decode cX3_stepsOf 5 = .ok (.getfield 54, 3) := dk_180 0 54 (dk_at dksX3_stepsOf_0 5 rfl rfl)
theorem dX3_stepsOf_8 : decode cX3_stepsOf 8 = .ok (.goto 9, 3) := dk_167 0 9 (dk_at dksX3_stepsOf_0 8 rfl rfl)
theorem dX3_stepsOf_11 : decode cX3_stepsOf 11 = .ok (.aload_n 0, 1) := dk_42 (dk_at dksX3_stepsOf_0 11 rfl rfl)
theorem dX3_stepsOf_12 : decode cX3_stepsOf 12 = .ok (.getfield 96, 3) := dk_180 0 96 (dk_at dksX3_stepsOf_0 12 rfl rfl)
theorem dX3_stepsOf_15 : decode cX3_stepsOf 15 = .ok (.iload_n 1, 1) := dk_27 (dk_at dksX3_stepsOf_0 15 rfl rfl)
theorem dX3_stepsOf_16 : decode cX3_stepsOf 16 = .ok (.iaload, 1) := dk_46 (dk_at dksX3_stepsOf_0 16 rfl rfl)
theorem dX3_stepsOf_17 : decode cX3_stepsOf 17 = .ok (.ireturn, 1) := dk_172 (dk_at dksX3_stepsOf_0 17 rfl rfl)
abbrev cX3_stepOf : ByteArray := prog_17_method_41_code
def yX3_stepOf : MethodName := ⟨RX3, "stepOf", "(II)I"⟩
def dkwX3_stepOf_1 : List UInt8 := [46, 172]
abbrev dktX3_stepOf_1 : List UInt8 := dkwX3_stepOf_1 ++ []
def dkwX3_stepOf_0 : List UInt8 := [27, 156, 0, 12, 42, 180, 0, 60, 28, 46, 167, 0, 15, 42, 180, 0, 99, 17, 1, 44, 27, 104, 28, 96]
abbrev dktX3_stepOf_0 : List UInt8 := dkwX3_stepOf_0 ++ dktX3_stepOf_1
theorem dksX3_stepOf_0 : cX3_stepOf.data.toList.drop 0 = dktX3_stepOf_0 := by decide +kernel
theorem dksX3_stepOf_1 : cX3_stepOf.data.toList.drop 24 = dktX3_stepOf_1 := dk_seg dksX3_stepOf_0 24 rfl rfl
theorem dX3_stepOf_0 : decode cX3_stepOf 0 = .ok (.iload_n 1, 1) := dk_27 (dk_at dksX3_stepOf_0 0 rfl rfl)
theorem dX3_stepOf_1 : decode cX3_stepOf 1 = .ok (.ifCond .ge 12, 3) := dk_156 0 12 (dk_at dksX3_stepOf_0 1 rfl rfl)
theorem dX3_stepOf_4 : decode cX3_stepOf 4 = .ok (.aload_n 0, 1) := dk_42 (dk_at dksX3_stepOf_0 4 rfl rfl)
theorem dX3_stepOf_5 : decode cX3_stepOf 5 = .ok (.getfield 60, 3) := dk_180 0 60 (dk_at dksX3_stepOf_0 5 rfl rfl)
theorem dX3_stepOf_8 : decode cX3_stepOf 8 = .ok (.iload_n 2, 1) := dk_28 (dk_at dksX3_stepOf_0 8 rfl rfl)
theorem dX3_stepOf_9 : decode cX3_stepOf 9 = .ok (.iaload, 1) := dk_46 (dk_at dksX3_stepOf_0 9 rfl rfl)
theorem dX3_stepOf_10 : decode cX3_stepOf 10 = .ok (.goto 15, 3) := dk_167 0 15 (dk_at dksX3_stepOf_0 10 rfl rfl)
theorem dX3_stepOf_13 : decode cX3_stepOf 13 = .ok (.aload_n 0, 1) := dk_42 (dk_at dksX3_stepOf_0 13 rfl rfl)
theorem dX3_stepOf_14 : decode cX3_stepOf 14 = .ok (.getfield 99, 3) := dk_180 0 99 (dk_at dksX3_stepOf_0 14 rfl rfl)
theorem dX3_stepOf_17 : decode cX3_stepOf 17 = .ok (.sipush 300, 3) := dk_17 1 44 (dk_at dksX3_stepOf_0 17 rfl rfl)
theorem dX3_stepOf_20 : decode cX3_stepOf 20 = .ok (.iload_n 1, 1) := dk_27 (dk_at dksX3_stepOf_0 20 rfl rfl)
theorem dX3_stepOf_21 : decode cX3_stepOf 21 = .ok (.imul, 1) := dk_104 (dk_at dksX3_stepOf_0 21 rfl rfl)
theorem dX3_stepOf_22 : decode cX3_stepOf 22 = .ok (.iload_n 2, 1) := dk_28 (dk_at dksX3_stepOf_0 22 rfl rfl)
theorem dX3_stepOf_23 : decode cX3_stepOf 23 = .ok (.iadd, 1) := dk_96 (dk_at dksX3_stepOf_0 23 rfl rfl)
theorem dX3_stepOf_24 : decode cX3_stepOf 24 = .ok (.iaload, 1) := dk_46 (dk_at dksX3_stepOf_1 0 rfl rfl)
theorem dX3_stepOf_25 : decode cX3_stepOf 25 = .ok (.ireturn, 1) := dk_172 (dk_at dksX3_stepOf_1 1 rfl rfl)
abbrev cX3_take : ByteArray := prog_17_method_45_code
def yX3_take : MethodName := ⟨RX3, "take", "(I)V"⟩
def dkwX3_take_4 : List UInt8 := [42, 180, 0, 117, 42, 180, 0, 123, 27, 79, 42, 89, 180, 0, 123, 4, 96, 181, 0, 123, 177]
abbrev dktX3_take_4 : List UInt8 := dkwX3_take_4 ++ []
def dkwX3_take_3 : List UInt8 := [162, 0, 23, 42, 180, 0, 117, 29, 42, 180, 0, 117, 29, 4, 96, 46, 79, 132, 3, 1, 167, 255, 231, 177]
abbrev dktX3_take_3 : List UInt8 := dkwX3_take_3 ++ dktX3_take_4
def dkwX3_take_2 : List UInt8 := [4, 130, 160, 0, 44, 42, 89, 180, 0, 123, 4, 100, 181, 0, 123, 28, 62, 29, 42, 180, 0, 123]
abbrev dktX3_take_2 : List UInt8 := dkwX3_take_2 ++ dktX3_take_3
def dkwX3_take_1 : List UInt8 := [108, 182, 1, 23, 153, 0, 9, 132, 2, 255, 167, 255, 229, 28, 155, 0, 56, 42, 180, 0, 117, 28, 46, 27]
abbrev dktX3_take_1 : List UInt8 := dkwX3_take_1 ++ dktX3_take_2
def dkwX3_take_0 : List UInt8 := [42, 180, 0, 123, 4, 100, 61, 28, 155, 0, 29, 42, 42, 180, 0, 117, 28, 46, 16, 10, 108, 27, 16, 10]
abbrev dktX3_take_0 : List UInt8 := dkwX3_take_0 ++ dktX3_take_1
theorem dksX3_take_0 : cX3_take.data.toList.drop 0 = dktX3_take_0 := by decide +kernel
theorem dksX3_take_1 : cX3_take.data.toList.drop 24 = dktX3_take_1 := dk_seg dksX3_take_0 24 rfl rfl
theorem dksX3_take_2 : cX3_take.data.toList.drop 48 = dktX3_take_2 := dk_seg dksX3_take_1 24 rfl rfl
theorem dksX3_take_3 : cX3_take.data.toList.drop 70 = dktX3_take_3 := dk_seg dksX3_take_2 22 rfl rfl
theorem dksX3_take_4 : cX3_take.data.toList.drop 94 = dktX3_take_4 := dk_seg dksX3_take_3 24 rfl rfl
theorem dX3_take_0 : decode cX3_take 0 = .ok (.aload_n 0, 1) := dk_42 (dk_at dksX3_take_0 0 rfl rfl)
theorem dX3_take_1 : decode cX3_take 1 = .ok (.getfield 123, 3) := dk_180 0 123 (dk_at dksX3_take_0 1 rfl rfl)
theorem dX3_take_4 : decode cX3_take 4 = .ok (.iconst 1, 1) := dk_4 (dk_at dksX3_take_0 4 rfl rfl)
theorem dX3_take_5 : decode cX3_take 5 = .ok (.isub, 1) := dk_100 (dk_at dksX3_take_0 5 rfl rfl)
theorem dX3_take_6 : decode cX3_take 6 = .ok (.istore_n 2, 1) := dk_61 (dk_at dksX3_take_0 6 rfl rfl)
theorem dX3_take_7 : decode cX3_take 7 = .ok (.iload_n 2, 1) := dk_28 (dk_at dksX3_take_0 7 rfl rfl)
theorem dX3_take_8 : decode cX3_take 8 = .ok (.ifCond .lt 29, 3) := dk_155 0 29 (dk_at dksX3_take_0 8 rfl rfl)
theorem dX3_take_11 : decode cX3_take 11 = .ok (.aload_n 0, 1) := dk_42 (dk_at dksX3_take_0 11 rfl rfl)
theorem dX3_take_12 : decode cX3_take 12 = .ok (.aload_n 0, 1) := dk_42 (dk_at dksX3_take_0 12 rfl rfl)
theorem dX3_take_13 : decode cX3_take 13 = .ok (.getfield 117, 3) := dk_180 0 117 (dk_at dksX3_take_0 13 rfl rfl)
theorem dX3_take_16 : decode cX3_take 16 = .ok (.iload_n 2, 1) := dk_28 (dk_at dksX3_take_0 16 rfl rfl)
theorem dX3_take_17 : decode cX3_take 17 = .ok (.iaload, 1) := dk_46 (dk_at dksX3_take_0 17 rfl rfl)
theorem dX3_take_18 : decode cX3_take 18 = .ok (.bipush 10, 2) := dk_16 10 (dk_at dksX3_take_0 18 rfl rfl)
theorem dX3_take_20 : decode cX3_take 20 = .ok (.idiv, 1) := dk_108 (dk_at dksX3_take_0 20 rfl rfl)
theorem dX3_take_21 : decode cX3_take 21 = .ok (.iload_n 1, 1) := dk_27 (dk_at dksX3_take_0 21 rfl rfl)
theorem dX3_take_22 : decode cX3_take 22 = .ok (.bipush 10, 2) := dk_16 10 (dk_at dksX3_take_0 22 rfl rfl)
theorem dX3_take_24 : decode cX3_take 24 = .ok (.idiv, 1) := dk_108 (dk_at dksX3_take_1 0 rfl rfl)
theorem dX3_take_25 : decode cX3_take 25 = .ok (.invokevirtual 279, 3) := dk_182 1 23 (dk_at dksX3_take_1 1 rfl rfl)
theorem dX3_take_28 : decode cX3_take 28 = .ok (.ifCond .eq 9, 3) := dk_153 0 9 (dk_at dksX3_take_1 4 rfl rfl)
theorem dX3_take_31 : decode cX3_take 31 = .ok (.iinc 2 (-1), 3) := dk_132 2 255 (dk_at dksX3_take_1 7 rfl rfl)
theorem dX3_take_34 : decode cX3_take 34 = .ok (.goto (-27), 3) := dk_167 255 229 (dk_at dksX3_take_1 10 rfl rfl)
theorem dX3_take_37 : decode cX3_take 37 = .ok (.iload_n 2, 1) := dk_28 (dk_at dksX3_take_1 13 rfl rfl)
theorem dX3_take_38 : decode cX3_take 38 = .ok (.ifCond .lt 56, 3) := dk_155 0 56 (dk_at dksX3_take_1 14 rfl rfl)
theorem dX3_take_41 : decode cX3_take 41 = .ok (.aload_n 0, 1) := dk_42 (dk_at dksX3_take_1 17 rfl rfl)
theorem dX3_take_42 : decode cX3_take 42 = .ok (.getfield 117, 3) := dk_180 0 117 (dk_at dksX3_take_1 18 rfl rfl)
theorem dX3_take_45 : decode cX3_take 45 = .ok (.iload_n 2, 1) := dk_28 (dk_at dksX3_take_1 21 rfl rfl)
theorem dX3_take_46 : decode cX3_take 46 = .ok (.iaload, 1) := dk_46 (dk_at dksX3_take_1 22 rfl rfl)
theorem dX3_take_47 : decode cX3_take 47 = .ok (.iload_n 1, 1) := dk_27 (dk_at dksX3_take_1 23 rfl rfl)
theorem dX3_take_48 : decode cX3_take 48 = .ok (.iconst 1, 1) := dk_4 (dk_at dksX3_take_2 0 rfl rfl)
theorem dX3_take_49 : decode cX3_take 49 = .ok (.ixor, 1) := dk_130 (dk_at dksX3_take_2 1 rfl rfl)
theorem dX3_take_50 : decode cX3_take 50 = .ok (.if_icmp .ne 44, 3) := dk_160 0 44 (dk_at dksX3_take_2 2 rfl rfl)
theorem dX3_take_53 : decode cX3_take 53 = .ok (.aload_n 0, 1) := dk_42 (dk_at dksX3_take_2 5 rfl rfl)
theorem dX3_take_54 : decode cX3_take 54 = .ok (.dup, 1) := dk_89 (dk_at dksX3_take_2 6 rfl rfl)
theorem dX3_take_55 : decode cX3_take 55 = .ok (.getfield 123, 3) := dk_180 0 123 (dk_at dksX3_take_2 7 rfl rfl)
theorem dX3_take_58 : decode cX3_take 58 = .ok (.iconst 1, 1) := dk_4 (dk_at dksX3_take_2 10 rfl rfl)
theorem dX3_take_59 : decode cX3_take 59 = .ok (.isub, 1) := dk_100 (dk_at dksX3_take_2 11 rfl rfl)
theorem dX3_take_60 : decode cX3_take 60 = .ok (.putfield 123, 3) := dk_181 0 123 (dk_at dksX3_take_2 12 rfl rfl)
theorem dX3_take_63 : decode cX3_take 63 = .ok (.iload_n 2, 1) := dk_28 (dk_at dksX3_take_2 15 rfl rfl)
theorem dX3_take_64 : decode cX3_take 64 = .ok (.istore_n 3, 1) := dk_62 (dk_at dksX3_take_2 16 rfl rfl)
theorem dX3_take_65 : decode cX3_take 65 = .ok (.iload_n 3, 1) := dk_29 (dk_at dksX3_take_2 17 rfl rfl)
theorem dX3_take_66 : decode cX3_take 66 = .ok (.aload_n 0, 1) := dk_42 (dk_at dksX3_take_2 18 rfl rfl)
theorem dX3_take_67 : decode cX3_take 67 = .ok (.getfield 123, 3) := dk_180 0 123 (dk_at dksX3_take_2 19 rfl rfl)
theorem dX3_take_70 : decode cX3_take 70 = .ok (.if_icmp .ge 23, 3) := dk_162 0 23 (dk_at dksX3_take_3 0 rfl rfl)
theorem dX3_take_73 : decode cX3_take 73 = .ok (.aload_n 0, 1) := dk_42 (dk_at dksX3_take_3 3 rfl rfl)
theorem dX3_take_74 : decode cX3_take 74 = .ok (.getfield 117, 3) := dk_180 0 117 (dk_at dksX3_take_3 4 rfl rfl)
theorem dX3_take_77 : decode cX3_take 77 = .ok (.iload_n 3, 1) := dk_29 (dk_at dksX3_take_3 7 rfl rfl)
theorem dX3_take_78 : decode cX3_take 78 = .ok (.aload_n 0, 1) := dk_42 (dk_at dksX3_take_3 8 rfl rfl)
theorem dX3_take_79 : decode cX3_take 79 = .ok (.getfield 117, 3) := dk_180 0 117 (dk_at dksX3_take_3 9 rfl rfl)
theorem dX3_take_82 : decode cX3_take 82 = .ok (.iload_n 3, 1) := dk_29 (dk_at dksX3_take_3 12 rfl rfl)
theorem dX3_take_83 : decode cX3_take 83 = .ok (.iconst 1, 1) := dk_4 (dk_at dksX3_take_3 13 rfl rfl)
theorem dX3_take_84 : decode cX3_take 84 = .ok (.iadd, 1) := dk_96 (dk_at dksX3_take_3 14 rfl rfl)
theorem dX3_take_85 : decode cX3_take 85 = .ok (.iaload, 1) := dk_46 (dk_at dksX3_take_3 15 rfl rfl)
theorem dX3_take_86 : decode cX3_take 86 = .ok (.iastore, 1) := dk_79 (dk_at dksX3_take_3 16 rfl rfl)
theorem dX3_take_87 : decode cX3_take 87 = .ok (.iinc 3 1, 3) := dk_132 3 1 (dk_at dksX3_take_3 17 rfl rfl)
theorem dX3_take_90 : decode cX3_take 90 = .ok (.goto (-25), 3) := dk_167 255 231 (dk_at dksX3_take_3 20 rfl rfl)
theorem dX3_take_93 : decode cX3_take 93 = .ok (.return_, 1) := dk_177 (dk_at dksX3_take_3 23 rfl rfl)
theorem dX3_take_94 : decode cX3_take 94 = .ok (.aload_n 0, 1) := dk_42 (dk_at dksX3_take_4 0 rfl rfl)
theorem dX3_take_95 : decode cX3_take 95 = .ok (.getfield 117, 3) := dk_180 0 117 (dk_at dksX3_take_4 1 rfl rfl)
theorem dX3_take_98 : decode cX3_take 98 = .ok (.aload_n 0, 1) := dk_42 (dk_at dksX3_take_4 4 rfl rfl)
theorem dX3_take_99 : decode cX3_take 99 = .ok (.getfield 123, 3) := dk_180 0 123 (dk_at dksX3_take_4 5 rfl rfl)
theorem dX3_take_102 : decode cX3_take 102 = .ok (.iload_n 1, 1) := dk_27 (dk_at dksX3_take_4 8 rfl rfl)
theorem dX3_take_103 : decode cX3_take 103 = .ok (.iastore, 1) := dk_79 (dk_at dksX3_take_4 9 rfl rfl)
theorem dX3_take_104 : decode cX3_take 104 = .ok (.aload_n 0, 1) := dk_42 (dk_at dksX3_take_4 10 rfl rfl)
theorem dX3_take_105 : decode cX3_take 105 = .ok (.dup, 1) := dk_89 (dk_at dksX3_take_4 11 rfl rfl)
theorem dX3_take_106 : decode cX3_take 106 = .ok (.getfield 123, 3) := dk_180 0 123 (dk_at dksX3_take_4 12 rfl rfl)
theorem dX3_take_109 : decode cX3_take 109 = .ok (.iconst 1, 1) := dk_4 (dk_at dksX3_take_4 15 rfl rfl)
theorem dX3_take_110 : decode cX3_take 110 = .ok (.iadd, 1) := dk_96 (dk_at dksX3_take_4 16 rfl rfl)
theorem dX3_take_111 : decode cX3_take 111 = .ok (.putfield 123, 3) := dk_181 0 123 (dk_at dksX3_take_4 17 rfl rfl)
theorem dX3_take_114 : decode cX3_take 114 = .ok (.return_, 1) := dk_177 (dk_at dksX3_take_4 20 rfl rfl)
abbrev cX3_areFar : ByteArray := prog_17_method_43_code
def yX3_areFar : MethodName := ⟨RX3, "areFar", "(II)Z"⟩
def dkwX3_areFar_1 : List UInt8 := [167, 0, 4, 3, 172]
abbrev dktX3_areFar_1 : List UInt8 := dkwX3_areFar_1 ++ []
def dkwX3_areFar_0 : List UInt8 := [42, 27, 28, 100, 182, 1, 8, 62, 29, 4, 164, 0, 17, 29, 42, 180, 0, 13, 4, 100, 162, 0, 7, 4]
abbrev dktX3_areFar_0 : List UInt8 := dkwX3_areFar_0 ++ dktX3_areFar_1
theorem dksX3_areFar_0 : cX3_areFar.data.toList.drop 0 = dktX3_areFar_0 := by decide +kernel
theorem dksX3_areFar_1 : cX3_areFar.data.toList.drop 24 = dktX3_areFar_1 := dk_seg dksX3_areFar_0 24 rfl rfl
theorem dX3_areFar_0 : decode cX3_areFar 0 = .ok (.aload_n 0, 1) := dk_42 (dk_at dksX3_areFar_0 0 rfl rfl)
theorem dX3_areFar_1 : decode cX3_areFar 1 = .ok (.iload_n 1, 1) := dk_27 (dk_at dksX3_areFar_0 1 rfl rfl)
theorem dX3_areFar_2 : decode cX3_areFar 2 = .ok (.iload_n 2, 1) := dk_28 (dk_at dksX3_areFar_0 2 rfl rfl)
theorem dX3_areFar_3 : decode cX3_areFar 3 = .ok (.isub, 1) := dk_100 (dk_at dksX3_areFar_0 3 rfl rfl)
theorem dX3_areFar_4 : decode cX3_areFar 4 = .ok (.invokevirtual 264, 3) := dk_182 1 8 (dk_at dksX3_areFar_0 4 rfl rfl)
theorem dX3_areFar_7 : decode cX3_areFar 7 = .ok (.istore_n 3, 1) := dk_62 (dk_at dksX3_areFar_0 7 rfl rfl)
theorem dX3_areFar_8 : decode cX3_areFar 8 = .ok (.iload_n 3, 1) := dk_29 (dk_at dksX3_areFar_0 8 rfl rfl)
theorem dX3_areFar_9 : decode cX3_areFar 9 = .ok (.iconst 1, 1) := dk_4 (dk_at dksX3_areFar_0 9 rfl rfl)
theorem dX3_areFar_10 : decode cX3_areFar 10 = .ok (.if_icmp .le 17, 3) := dk_164 0 17 (dk_at dksX3_areFar_0 10 rfl rfl)
theorem dX3_areFar_13 : decode cX3_areFar 13 = .ok (.iload_n 3, 1) := dk_29 (dk_at dksX3_areFar_0 13 rfl rfl)
theorem dX3_areFar_14 : decode cX3_areFar 14 = .ok (.aload_n 0, 1) := dk_42 (dk_at dksX3_areFar_0 14 rfl rfl)
theorem dX3_areFar_15 : decode cX3_areFar 15 = .ok (.getfield 13, 3) := dk_180 0 13 (dk_at dksX3_areFar_0 15 rfl rfl)
theorem dX3_areFar_18 : decode cX3_areFar 18 = .ok (.iconst 1, 1) := dk_4 (dk_at dksX3_areFar_0 18 rfl rfl)
theorem dX3_areFar_19 : decode cX3_areFar 19 = .ok (.isub, 1) := dk_100 (dk_at dksX3_areFar_0 19 rfl rfl)
theorem dX3_areFar_20 : decode cX3_areFar 20 = .ok (.if_icmp .ge 7, 3) := dk_162 0 7 (dk_at dksX3_areFar_0 20 rfl rfl)
theorem dX3_areFar_23 : decode cX3_areFar 23 = .ok (.iconst 1, 1) := dk_4 (dk_at dksX3_areFar_0 23 rfl rfl)
theorem dX3_areFar_24 : decode cX3_areFar 24 = .ok (.goto 4, 3) := dk_167 0 4 (dk_at dksX3_areFar_1 0 rfl rfl)
theorem dX3_areFar_27 : decode cX3_areFar 27 = .ok (.iconst 0, 1) := dk_3 (dk_at dksX3_areFar_1 3 rfl rfl)
theorem dX3_areFar_28 : decode cX3_areFar 28 = .ok (.ireturn, 1) := dk_172 (dk_at dksX3_areFar_1 4 rfl rfl)
abbrev cX3_abs : ByteArray := prog_17_method_3_code
def yX3_abs : MethodName := ⟨RX3, "abs", "(I)I"⟩
def dkwX3_abs_0 : List UInt8 := [27, 156, 0, 8, 27, 116, 167, 0, 4, 27, 172]
abbrev dktX3_abs_0 : List UInt8 := dkwX3_abs_0 ++ []
theorem dksX3_abs_0 : cX3_abs.data.toList.drop 0 = dktX3_abs_0 := by decide +kernel
theorem dX3_abs_0 : decode cX3_abs 0 = .ok (.iload_n 1, 1) := dk_27 (dk_at dksX3_abs_0 0 rfl rfl)
theorem dX3_abs_1 : decode cX3_abs 1 = .ok (.ifCond .ge 8, 3) := dk_156 0 8 (dk_at dksX3_abs_0 1 rfl rfl)
theorem dX3_abs_4 : decode cX3_abs 4 = .ok (.iload_n 1, 1) := dk_27 (dk_at dksX3_abs_0 4 rfl rfl)
theorem dX3_abs_5 : decode cX3_abs 5 = .ok (.ineg, 1) := dk_116 (dk_at dksX3_abs_0 5 rfl rfl)
theorem dX3_abs_6 : decode cX3_abs 6 = .ok (.goto 4, 3) := dk_167 0 4 (dk_at dksX3_abs_0 6 rfl rfl)
theorem dX3_abs_9 : decode cX3_abs 9 = .ok (.iload_n 1, 1) := dk_27 (dk_at dksX3_abs_0 9 rfl rfl)
theorem dX3_abs_10 : decode cX3_abs 10 = .ok (.ireturn, 1) := dk_172 (dk_at dksX3_abs_0 10 rfl rfl)
abbrev cX3_bringLeast : ByteArray := prog_17_method_46_code
def yX3_bringLeast : MethodName := ⟨RX3, "bringLeast", "(I)V"⟩
def dkwX3_bringLeast_6 : List UInt8 := [180, 0, 117, 27, 29, 79, 177]
abbrev dktX3_bringLeast_6 : List UInt8 := dkwX3_bringLeast_6 ++ []
def dkwX3_bringLeast_5 : List UInt8 := [42, 180, 0, 117, 21, 4, 42, 180, 0, 117, 21, 4, 4, 100, 46, 79, 132, 4, 255, 167, 255, 231, 42]
abbrev dktX3_bringLeast_5 : List UInt8 := dkwX3_bringLeast_5 ++ dktX3_bringLeast_6
def dkwX3_bringLeast_4 : List UInt8 := [29, 61, 132, 3, 1, 167, 255, 163, 42, 180, 0, 117, 28, 46, 62, 28, 54, 4, 21, 4, 27, 164, 0, 25]
abbrev dktX3_bringLeast_4 : List UInt8 := dkwX3_bringLeast_4 ++ dktX3_bringLeast_5
def dkwX3_bringLeast_3 : List UInt8 := [182, 1, 23, 153, 0, 7, 4, 167, 0, 4, 3, 54, 4, 132, 5, 1, 167, 255, 209, 21, 4, 153, 0, 5]
abbrev dktX3_bringLeast_3 : List UInt8 := dkwX3_bringLeast_3 ++ dktX3_bringLeast_4
def dkwX3_bringLeast_2 : List UInt8 := [153, 0, 33, 42, 42, 180, 0, 117, 21, 5, 46, 16, 10, 108, 42, 180, 0, 117, 29, 46, 16, 10, 108]
abbrev dktX3_bringLeast_2 : List UInt8 := dkwX3_bringLeast_2 ++ dktX3_bringLeast_3
def dkwX3_bringLeast_1 : List UInt8 := [28, 46, 162, 0, 7, 4, 167, 0, 4, 3, 54, 4, 27, 54, 5, 21, 5, 29, 162, 0, 47, 21, 4]
abbrev dktX3_bringLeast_1 : List UInt8 := dkwX3_bringLeast_1 ++ dktX3_bringLeast_2
def dkwX3_bringLeast_0 : List UInt8 := [27, 61, 27, 4, 96, 62, 29, 42, 180, 0, 123, 162, 0, 91, 42, 180, 0, 117, 29, 46, 42, 180, 0, 117]
abbrev dktX3_bringLeast_0 : List UInt8 := dkwX3_bringLeast_0 ++ dktX3_bringLeast_1
theorem dksX3_bringLeast_0 : cX3_bringLeast.data.toList.drop 0 = dktX3_bringLeast_0 := by decide +kernel
theorem dksX3_bringLeast_1 : cX3_bringLeast.data.toList.drop 24 = dktX3_bringLeast_1 := dk_seg dksX3_bringLeast_0 24 rfl rfl
theorem dksX3_bringLeast_2 : cX3_bringLeast.data.toList.drop 47 = dktX3_bringLeast_2 := dk_seg dksX3_bringLeast_1 23 rfl rfl
theorem dksX3_bringLeast_3 : cX3_bringLeast.data.toList.drop 70 = dktX3_bringLeast_3 := dk_seg dksX3_bringLeast_2 23 rfl rfl
theorem dksX3_bringLeast_4 : cX3_bringLeast.data.toList.drop 94 = dktX3_bringLeast_4 := dk_seg dksX3_bringLeast_3 24 rfl rfl
theorem dksX3_bringLeast_5 : cX3_bringLeast.data.toList.drop 118 = dktX3_bringLeast_5 := dk_seg dksX3_bringLeast_4 24 rfl rfl
theorem dksX3_bringLeast_6 : cX3_bringLeast.data.toList.drop 141 = dktX3_bringLeast_6 := dk_seg dksX3_bringLeast_5 23 rfl rfl
theorem dX3_bringLeast_0 : decode cX3_bringLeast 0 = .ok (.iload_n 1, 1) := dk_27 (dk_at dksX3_bringLeast_0 0 rfl rfl)
theorem dX3_bringLeast_1 : decode cX3_bringLeast 1 = .ok (.istore_n 2, 1) := dk_61 (dk_at dksX3_bringLeast_0 1 rfl rfl)
theorem dX3_bringLeast_2 : decode cX3_bringLeast 2 = .ok (.iload_n 1, 1) := dk_27 (dk_at dksX3_bringLeast_0 2 rfl rfl)
theorem dX3_bringLeast_3 : decode cX3_bringLeast 3 = .ok (.iconst 1, 1) := dk_4 (dk_at dksX3_bringLeast_0 3 rfl rfl)
theorem dX3_bringLeast_4 : decode cX3_bringLeast 4 = .ok (.iadd, 1) := dk_96 (dk_at dksX3_bringLeast_0 4 rfl rfl)
theorem dX3_bringLeast_5 : decode cX3_bringLeast 5 = .ok (.istore_n 3, 1) := dk_62 (dk_at dksX3_bringLeast_0 5 rfl rfl)
theorem dX3_bringLeast_6 : decode cX3_bringLeast 6 = .ok (.iload_n 3, 1) := dk_29 (dk_at dksX3_bringLeast_0 6 rfl rfl)
theorem dX3_bringLeast_7 : decode cX3_bringLeast 7 = .ok (.aload_n 0, 1) := dk_42 (dk_at dksX3_bringLeast_0 7 rfl rfl)
theorem dX3_bringLeast_8 : decode cX3_bringLeast 8 = .ok (.getfield 123, 3) := dk_180 0 123 (dk_at dksX3_bringLeast_0 8 rfl rfl)
theorem dX3_bringLeast_11 : decode cX3_bringLeast 11 = .ok (.if_icmp .ge 91, 3) := dk_162 0 91 (dk_at dksX3_bringLeast_0 11 rfl rfl)
theorem dX3_bringLeast_14 : decode cX3_bringLeast 14 = .ok (.aload_n 0, 1) := dk_42 (dk_at dksX3_bringLeast_0 14 rfl rfl)
theorem dX3_bringLeast_15 : decode cX3_bringLeast 15 = .ok (.getfield 117, 3) := dk_180 0 117 (dk_at dksX3_bringLeast_0 15 rfl rfl)
theorem dX3_bringLeast_18 : decode cX3_bringLeast 18 = .ok (.iload_n 3, 1) := dk_29 (dk_at dksX3_bringLeast_0 18 rfl rfl)
theorem dX3_bringLeast_19 : decode cX3_bringLeast 19 = .ok (.iaload, 1) := dk_46 (dk_at dksX3_bringLeast_0 19 rfl rfl)
theorem dX3_bringLeast_20 : decode cX3_bringLeast 20 = .ok (.aload_n 0, 1) := dk_42 (dk_at dksX3_bringLeast_0 20 rfl rfl)
theorem dX3_bringLeast_21 : decode cX3_bringLeast 21 = .ok (.getfield 117, 3) := dk_180 0 117 (dk_at dksX3_bringLeast_0 21 rfl rfl)
theorem dX3_bringLeast_24 : decode cX3_bringLeast 24 = .ok (.iload_n 2, 1) := dk_28 (dk_at dksX3_bringLeast_1 0 rfl rfl)
theorem dX3_bringLeast_25 : decode cX3_bringLeast 25 = .ok (.iaload, 1) := dk_46 (dk_at dksX3_bringLeast_1 1 rfl rfl)
theorem dX3_bringLeast_26 : decode cX3_bringLeast 26 = .ok (.if_icmp .ge 7, 3) := dk_162 0 7 (dk_at dksX3_bringLeast_1 2 rfl rfl)
theorem dX3_bringLeast_29 : decode cX3_bringLeast 29 = .ok (.iconst 1, 1) := dk_4 (dk_at dksX3_bringLeast_1 5 rfl rfl)
theorem dX3_bringLeast_30 : decode cX3_bringLeast 30 = .ok (.goto 4, 3) := dk_167 0 4 (dk_at dksX3_bringLeast_1 6 rfl rfl)
theorem dX3_bringLeast_33 : decode cX3_bringLeast 33 = .ok (.iconst 0, 1) := dk_3 (dk_at dksX3_bringLeast_1 9 rfl rfl)
theorem dX3_bringLeast_34 : decode cX3_bringLeast 34 = .ok (.istore 4, 2) := dk_54 4 (dk_at dksX3_bringLeast_1 10 rfl rfl)
theorem dX3_bringLeast_36 : decode cX3_bringLeast 36 = .ok (.iload_n 1, 1) := dk_27 (dk_at dksX3_bringLeast_1 12 rfl rfl)
theorem dX3_bringLeast_37 : decode cX3_bringLeast 37 = .ok (.istore 5, 2) := dk_54 5 (dk_at dksX3_bringLeast_1 13 rfl rfl)
theorem dX3_bringLeast_39 : decode cX3_bringLeast 39 = .ok (.iload 5, 2) := dk_21 5 (dk_at dksX3_bringLeast_1 15 rfl rfl)
theorem dX3_bringLeast_41 : decode cX3_bringLeast 41 = .ok (.iload_n 3, 1) := dk_29 (dk_at dksX3_bringLeast_1 17 rfl rfl)
theorem dX3_bringLeast_42 : decode cX3_bringLeast 42 = .ok (.if_icmp .ge 47, 3) := dk_162 0 47 (dk_at dksX3_bringLeast_1 18 rfl rfl)
theorem dX3_bringLeast_45 : decode cX3_bringLeast 45 = .ok (.iload 4, 2) := dk_21 4 (dk_at dksX3_bringLeast_1 21 rfl rfl)
theorem dX3_bringLeast_47 : decode cX3_bringLeast 47 = .ok (.ifCond .eq 33, 3) := dk_153 0 33 (dk_at dksX3_bringLeast_2 0 rfl rfl)
theorem dX3_bringLeast_50 : decode cX3_bringLeast 50 = .ok (.aload_n 0, 1) := dk_42 (dk_at dksX3_bringLeast_2 3 rfl rfl)
theorem dX3_bringLeast_51 : decode cX3_bringLeast 51 = .ok (.aload_n 0, 1) := dk_42 (dk_at dksX3_bringLeast_2 4 rfl rfl)
theorem dX3_bringLeast_52 : decode cX3_bringLeast 52 = .ok (.getfield 117, 3) := dk_180 0 117 (dk_at dksX3_bringLeast_2 5 rfl rfl)
theorem dX3_bringLeast_55 : decode cX3_bringLeast 55 = .ok (.iload 5, 2) := dk_21 5 (dk_at dksX3_bringLeast_2 8 rfl rfl)
theorem dX3_bringLeast_57 : decode cX3_bringLeast 57 = .ok (.iaload, 1) := dk_46 (dk_at dksX3_bringLeast_2 10 rfl rfl)
theorem dX3_bringLeast_58 : decode cX3_bringLeast 58 = .ok (.bipush 10, 2) := dk_16 10 (dk_at dksX3_bringLeast_2 11 rfl rfl)
theorem dX3_bringLeast_60 : decode cX3_bringLeast 60 = .ok (.idiv, 1) := dk_108 (dk_at dksX3_bringLeast_2 13 rfl rfl)
theorem dX3_bringLeast_61 : decode cX3_bringLeast 61 = .ok (.aload_n 0, 1) := dk_42 (dk_at dksX3_bringLeast_2 14 rfl rfl)
theorem dX3_bringLeast_62 : decode cX3_bringLeast 62 = .ok (.getfield 117, 3) := dk_180 0 117 (dk_at dksX3_bringLeast_2 15 rfl rfl)
theorem dX3_bringLeast_65 : decode cX3_bringLeast 65 = .ok (.iload_n 3, 1) := dk_29 (dk_at dksX3_bringLeast_2 18 rfl rfl)
theorem dX3_bringLeast_66 : decode cX3_bringLeast 66 = .ok (.iaload, 1) := dk_46 (dk_at dksX3_bringLeast_2 19 rfl rfl)
theorem dX3_bringLeast_67 : decode cX3_bringLeast 67 = .ok (.bipush 10, 2) := dk_16 10 (dk_at dksX3_bringLeast_2 20 rfl rfl)
theorem dX3_bringLeast_69 : decode cX3_bringLeast 69 = .ok (.idiv, 1) := dk_108 (dk_at dksX3_bringLeast_2 22 rfl rfl)
theorem dX3_bringLeast_70 : decode cX3_bringLeast 70 = .ok (.invokevirtual 279, 3) := dk_182 1 23 (dk_at dksX3_bringLeast_3 0 rfl rfl)
theorem dX3_bringLeast_73 : decode cX3_bringLeast 73 = .ok (.ifCond .eq 7, 3) := dk_153 0 7 (dk_at dksX3_bringLeast_3 3 rfl rfl)
theorem dX3_bringLeast_76 : decode cX3_bringLeast 76 = .ok (.iconst 1, 1) := dk_4 (dk_at dksX3_bringLeast_3 6 rfl rfl)
theorem dX3_bringLeast_77 : decode cX3_bringLeast 77 = .ok (.goto 4, 3) := dk_167 0 4 (dk_at dksX3_bringLeast_3 7 rfl rfl)
theorem dX3_bringLeast_80 : decode cX3_bringLeast 80 = .ok (.iconst 0, 1) := dk_3 (dk_at dksX3_bringLeast_3 10 rfl rfl)
theorem dX3_bringLeast_81 : decode cX3_bringLeast 81 = .ok (.istore 4, 2) := dk_54 4 (dk_at dksX3_bringLeast_3 11 rfl rfl)
theorem dX3_bringLeast_83 : decode cX3_bringLeast 83 = .ok (.iinc 5 1, 3) := dk_132 5 1 (dk_at dksX3_bringLeast_3 13 rfl rfl)
theorem dX3_bringLeast_86 : decode cX3_bringLeast 86 = .ok (.goto (-47), 3) := dk_167 255 209 (dk_at dksX3_bringLeast_3 16 rfl rfl)
theorem dX3_bringLeast_89 : decode cX3_bringLeast 89 = .ok (.iload 4, 2) := dk_21 4 (dk_at dksX3_bringLeast_3 19 rfl rfl)
theorem dX3_bringLeast_91 : decode cX3_bringLeast 91 = .ok (.ifCond .eq 5, 3) := dk_153 0 5 (dk_at dksX3_bringLeast_3 21 rfl rfl)
theorem dX3_bringLeast_94 : decode cX3_bringLeast 94 = .ok (.iload_n 3, 1) := dk_29 (dk_at dksX3_bringLeast_4 0 rfl rfl)
theorem dX3_bringLeast_95 : decode cX3_bringLeast 95 = .ok (.istore_n 2, 1) := dk_61 (dk_at dksX3_bringLeast_4 1 rfl rfl)
theorem dX3_bringLeast_96 : decode cX3_bringLeast 96 = .ok (.iinc 3 1, 3) := dk_132 3 1 (dk_at dksX3_bringLeast_4 2 rfl rfl)
theorem dX3_bringLeast_99 : decode cX3_bringLeast 99 = .ok (.goto (-93), 3) := dk_167 255 163 (dk_at dksX3_bringLeast_4 5 rfl rfl)
theorem dX3_bringLeast_102 : decode cX3_bringLeast 102 = .ok (.aload_n 0, 1) := dk_42 (dk_at dksX3_bringLeast_4 8 rfl rfl)
theorem dX3_bringLeast_103 : decode cX3_bringLeast 103 = .ok (.getfield 117, 3) := dk_180 0 117 (dk_at dksX3_bringLeast_4 9 rfl rfl)
theorem dX3_bringLeast_106 : decode cX3_bringLeast 106 = .ok (.iload_n 2, 1) := dk_28 (dk_at dksX3_bringLeast_4 12 rfl rfl)
theorem dX3_bringLeast_107 : decode cX3_bringLeast 107 = .ok (.iaload, 1) := dk_46 (dk_at dksX3_bringLeast_4 13 rfl rfl)
theorem dX3_bringLeast_108 : decode cX3_bringLeast 108 = .ok (.istore_n 3, 1) := dk_62 (dk_at dksX3_bringLeast_4 14 rfl rfl)
theorem dX3_bringLeast_109 : decode cX3_bringLeast 109 = .ok (.iload_n 2, 1) := dk_28 (dk_at dksX3_bringLeast_4 15 rfl rfl)
theorem dX3_bringLeast_110 : decode cX3_bringLeast 110 = .ok (.istore 4, 2) := dk_54 4 (dk_at dksX3_bringLeast_4 16 rfl rfl)
theorem dX3_bringLeast_112 : decode cX3_bringLeast 112 = .ok (.iload 4, 2) := dk_21 4 (dk_at dksX3_bringLeast_4 18 rfl rfl)
theorem dX3_bringLeast_114 : decode cX3_bringLeast 114 = .ok (.iload_n 1, 1) := dk_27 (dk_at dksX3_bringLeast_4 20 rfl rfl)
theorem dX3_bringLeast_115 : decode cX3_bringLeast 115 = .ok (.if_icmp .le 25, 3) := dk_164 0 25 (dk_at dksX3_bringLeast_4 21 rfl rfl)
theorem dX3_bringLeast_118 : decode cX3_bringLeast 118 = .ok (.aload_n 0, 1) := dk_42 (dk_at dksX3_bringLeast_5 0 rfl rfl)
theorem dX3_bringLeast_119 : decode cX3_bringLeast 119 = .ok (.getfield 117, 3) := dk_180 0 117 (dk_at dksX3_bringLeast_5 1 rfl rfl)
theorem dX3_bringLeast_122 : decode cX3_bringLeast 122 = .ok (.iload 4, 2) := dk_21 4 (dk_at dksX3_bringLeast_5 4 rfl rfl)
theorem dX3_bringLeast_124 : decode cX3_bringLeast 124 = .ok (.aload_n 0, 1) := dk_42 (dk_at dksX3_bringLeast_5 6 rfl rfl)
theorem dX3_bringLeast_125 : decode cX3_bringLeast 125 = .ok (.getfield 117, 3) := dk_180 0 117 (dk_at dksX3_bringLeast_5 7 rfl rfl)
theorem dX3_bringLeast_128 : decode cX3_bringLeast 128 = .ok (.iload 4, 2) := dk_21 4 (dk_at dksX3_bringLeast_5 10 rfl rfl)
theorem dX3_bringLeast_130 : decode cX3_bringLeast 130 = .ok (.iconst 1, 1) := dk_4 (dk_at dksX3_bringLeast_5 12 rfl rfl)
theorem dX3_bringLeast_131 : decode cX3_bringLeast 131 = .ok (.isub, 1) := dk_100 (dk_at dksX3_bringLeast_5 13 rfl rfl)
theorem dX3_bringLeast_132 : decode cX3_bringLeast 132 = .ok (.iaload, 1) := dk_46 (dk_at dksX3_bringLeast_5 14 rfl rfl)
theorem dX3_bringLeast_133 : decode cX3_bringLeast 133 = .ok (.iastore, 1) := dk_79 (dk_at dksX3_bringLeast_5 15 rfl rfl)
theorem dX3_bringLeast_134 : decode cX3_bringLeast 134 = .ok (.iinc 4 (-1), 3) := dk_132 4 255 (dk_at dksX3_bringLeast_5 16 rfl rfl)
theorem dX3_bringLeast_137 : decode cX3_bringLeast 137 = .ok (.goto (-25), 3) := dk_167 255 231 (dk_at dksX3_bringLeast_5 19 rfl rfl)
theorem dX3_bringLeast_140 : decode cX3_bringLeast 140 = .ok (.aload_n 0, 1) := dk_42 (dk_at dksX3_bringLeast_5 22 rfl rfl)
theorem dX3_bringLeast_141 : decode cX3_bringLeast 141 = .ok (.getfield 117, 3) := dk_180 0 117 (dk_at dksX3_bringLeast_6 0 rfl rfl)
theorem dX3_bringLeast_144 : decode cX3_bringLeast 144 = .ok (.iload_n 1, 1) := dk_27 (dk_at dksX3_bringLeast_6 3 rfl rfl)
theorem dX3_bringLeast_145 : decode cX3_bringLeast 145 = .ok (.iload_n 3, 1) := dk_29 (dk_at dksX3_bringLeast_6 4 rfl rfl)
theorem dX3_bringLeast_146 : decode cX3_bringLeast 146 = .ok (.iastore, 1) := dk_79 (dk_at dksX3_bringLeast_6 5 rfl rfl)
theorem dX3_bringLeast_147 : decode cX3_bringLeast 147 = .ok (.return_, 1) := dk_177 (dk_at dksX3_bringLeast_6 6 rfl rfl)
abbrev cX3_akin : ByteArray := prog_17_method_48_code
def yX3_akin : MethodName := ⟨RX3, "akin", "(II)I"⟩
def dkwX3_akin_7 : List UInt8 := [21, 5, 153, 0, 7, 4, 167, 0, 4, 3, 172]
abbrev dktX3_akin_7 : List UInt8 := dkwX3_akin_7 ++ []
def dkwX3_akin_6 : List UInt8 := [46, 42, 180, 0, 120, 21, 6, 46, 160, 0, 7, 4, 167, 0, 4, 3, 54, 5, 132, 6, 1, 167, 255, 217]
abbrev dktX3_akin_6 : List UInt8 := dkwX3_akin_6 ++ dktX3_akin_7
def dkwX3_akin_5 : List UInt8 := [3, 54, 5, 3, 54, 6, 21, 6, 21, 4, 162, 0, 38, 21, 5, 153, 0, 33, 42, 180, 0, 117, 21, 6]
abbrev dktX3_akin_5 : List UInt8 := dkwX3_akin_5 ++ dktX3_akin_6
def dkwX3_akin_4 : List UInt8 := [16, 253, 172, 29, 42, 180, 0, 126, 160, 0, 16, 21, 4, 42, 180, 0, 123, 160, 0, 7, 4, 167, 0, 4]
abbrev dktX3_akin_4 : List UInt8 := dkwX3_akin_4 ++ dktX3_akin_5
def dkwX3_akin_3 : List UInt8 := [21, 5, 42, 180, 0, 117, 21, 5, 46, 79, 132, 5, 1, 167, 255, 232, 42, 28, 182, 1, 26, 154, 0, 6]
abbrev dktX3_akin_3 : List UInt8 := dkwX3_akin_3 ++ dktX3_akin_4
def dkwX3_akin_2 : List UInt8 := [180, 0, 126, 62, 42, 180, 0, 123, 54, 4, 3, 54, 5, 21, 5, 21, 4, 162, 0, 23, 42, 180, 0, 120]
abbrev dktX3_akin_2 : List UInt8 := dkwX3_akin_2 ++ dktX3_akin_3
def dkwX3_akin_1 : List UInt8 := [154, 0, 5, 2, 172, 42, 180, 0, 13, 153, 0, 11, 42, 27, 182, 1, 26, 154, 0, 6, 16, 253, 172, 42]
abbrev dktX3_akin_1 : List UInt8 := dkwX3_akin_1 ++ dktX3_akin_2
def dkwX3_akin_0 : List UInt8 := [27, 2, 159, 0, 11, 42, 27, 182, 0, 244, 153, 0, 16, 28, 2, 159, 0, 13, 42, 28, 182, 0, 244]
abbrev dktX3_akin_0 : List UInt8 := dkwX3_akin_0 ++ dktX3_akin_1
theorem dksX3_akin_0 : cX3_akin.data.toList.drop 0 = dktX3_akin_0 := by decide +kernel
theorem dksX3_akin_1 : cX3_akin.data.toList.drop 23 = dktX3_akin_1 := dk_seg dksX3_akin_0 23 rfl rfl
theorem dksX3_akin_2 : cX3_akin.data.toList.drop 47 = dktX3_akin_2 := dk_seg dksX3_akin_1 24 rfl rfl
theorem dksX3_akin_3 : cX3_akin.data.toList.drop 71 = dktX3_akin_3 := dk_seg dksX3_akin_2 24 rfl rfl
theorem dksX3_akin_4 : cX3_akin.data.toList.drop 95 = dktX3_akin_4 := dk_seg dksX3_akin_3 24 rfl rfl
theorem dksX3_akin_5 : cX3_akin.data.toList.drop 119 = dktX3_akin_5 := dk_seg dksX3_akin_4 24 rfl rfl
theorem dksX3_akin_6 : cX3_akin.data.toList.drop 143 = dktX3_akin_6 := dk_seg dksX3_akin_5 24 rfl rfl
theorem dksX3_akin_7 : cX3_akin.data.toList.drop 167 = dktX3_akin_7 := dk_seg dksX3_akin_6 24 rfl rfl
theorem dX3_akin_0 : decode cX3_akin 0 = .ok (.iload_n 1, 1) := dk_27 (dk_at dksX3_akin_0 0 rfl rfl)
theorem dX3_akin_1 : decode cX3_akin 1 = .ok (.iconst (-1), 1) := dk_2 (dk_at dksX3_akin_0 1 rfl rfl)
theorem dX3_akin_2 : decode cX3_akin 2 = .ok (.if_icmp .eq 11, 3) := dk_159 0 11 (dk_at dksX3_akin_0 2 rfl rfl)
theorem dX3_akin_5 : decode cX3_akin 5 = .ok (.aload_n 0, 1) := dk_42 (dk_at dksX3_akin_0 5 rfl rfl)
theorem dX3_akin_6 : decode cX3_akin 6 = .ok (.iload_n 1, 1) := dk_27 (dk_at dksX3_akin_0 6 rfl rfl)
theorem dX3_akin_7 : decode cX3_akin 7 = .ok (.invokevirtual 244, 3) := dk_182 0 244 (dk_at dksX3_akin_0 7 rfl rfl)
theorem dX3_akin_10 : decode cX3_akin 10 = .ok (.ifCond .eq 16, 3) := dk_153 0 16 (dk_at dksX3_akin_0 10 rfl rfl)
theorem dX3_akin_13 : decode cX3_akin 13 = .ok (.iload_n 2, 1) := dk_28 (dk_at dksX3_akin_0 13 rfl rfl)
theorem dX3_akin_14 : decode cX3_akin 14 = .ok (.iconst (-1), 1) := dk_2 (dk_at dksX3_akin_0 14 rfl rfl)
theorem dX3_akin_15 : decode cX3_akin 15 = .ok (.if_icmp .eq 13, 3) := dk_159 0 13 (dk_at dksX3_akin_0 15 rfl rfl)
theorem dX3_akin_18 : decode cX3_akin 18 = .ok (.aload_n 0, 1) := dk_42 (dk_at dksX3_akin_0 18 rfl rfl)
theorem dX3_akin_19 : decode cX3_akin 19 = .ok (.iload_n 2, 1) := dk_28 (dk_at dksX3_akin_0 19 rfl rfl)
theorem dX3_akin_20 : decode cX3_akin 20 = .ok (.invokevirtual 244, 3) := dk_182 0 244 (dk_at dksX3_akin_0 20 rfl rfl)
theorem dX3_akin_23 : decode cX3_akin 23 = .ok (.ifCond .ne 5, 3) := dk_154 0 5 (dk_at dksX3_akin_1 0 rfl rfl)
theorem dX3_akin_26 : decode cX3_akin 26 = .ok (.iconst (-1), 1) := dk_2 (dk_at dksX3_akin_1 3 rfl rfl)
theorem dX3_akin_27 : decode cX3_akin 27 = .ok (.ireturn, 1) := dk_172 (dk_at dksX3_akin_1 4 rfl rfl)
theorem dX3_akin_28 : decode cX3_akin 28 = .ok (.aload_n 0, 1) := dk_42 (dk_at dksX3_akin_1 5 rfl rfl)
theorem dX3_akin_29 : decode cX3_akin 29 = .ok (.getfield 13, 3) := dk_180 0 13 (dk_at dksX3_akin_1 6 rfl rfl)
theorem dX3_akin_32 : decode cX3_akin 32 = .ok (.ifCond .eq 11, 3) := dk_153 0 11 (dk_at dksX3_akin_1 9 rfl rfl)
theorem dX3_akin_35 : decode cX3_akin 35 = .ok (.aload_n 0, 1) := dk_42 (dk_at dksX3_akin_1 12 rfl rfl)
theorem dX3_akin_36 : decode cX3_akin 36 = .ok (.iload_n 1, 1) := dk_27 (dk_at dksX3_akin_1 13 rfl rfl)
theorem dX3_akin_37 : decode cX3_akin 37 = .ok (.invokevirtual 282, 3) := dk_182 1 26 (dk_at dksX3_akin_1 14 rfl rfl)
theorem dX3_akin_40 : decode cX3_akin 40 = .ok (.ifCond .ne 6, 3) := dk_154 0 6 (dk_at dksX3_akin_1 17 rfl rfl)
theorem dX3_akin_43 : decode cX3_akin 43 = .ok (.bipush (-3), 2) := dk_16 253 (dk_at dksX3_akin_1 20 rfl rfl)
theorem dX3_akin_45 : decode cX3_akin 45 = .ok (.ireturn, 1) := dk_172 (dk_at dksX3_akin_1 22 rfl rfl)
theorem dX3_akin_46 : decode cX3_akin 46 = .ok (.aload_n 0, 1) := dk_42 (dk_at dksX3_akin_1 23 rfl rfl)
theorem dX3_akin_47 : decode cX3_akin 47 = .ok (.getfield 126, 3) := dk_180 0 126 (dk_at dksX3_akin_2 0 rfl rfl)
theorem dX3_akin_50 : decode cX3_akin 50 = .ok (.istore_n 3, 1) := dk_62 (dk_at dksX3_akin_2 3 rfl rfl)
theorem dX3_akin_51 : decode cX3_akin 51 = .ok (.aload_n 0, 1) := dk_42 (dk_at dksX3_akin_2 4 rfl rfl)
theorem dX3_akin_52 : decode cX3_akin 52 = .ok (.getfield 123, 3) := dk_180 0 123 (dk_at dksX3_akin_2 5 rfl rfl)
theorem dX3_akin_55 : decode cX3_akin 55 = .ok (.istore 4, 2) := dk_54 4 (dk_at dksX3_akin_2 8 rfl rfl)
theorem dX3_akin_57 : decode cX3_akin 57 = .ok (.iconst 0, 1) := dk_3 (dk_at dksX3_akin_2 10 rfl rfl)
theorem dX3_akin_58 : decode cX3_akin 58 = .ok (.istore 5, 2) := dk_54 5 (dk_at dksX3_akin_2 11 rfl rfl)
theorem dX3_akin_60 : decode cX3_akin 60 = .ok (.iload 5, 2) := dk_21 5 (dk_at dksX3_akin_2 13 rfl rfl)
theorem dX3_akin_62 : decode cX3_akin 62 = .ok (.iload 4, 2) := dk_21 4 (dk_at dksX3_akin_2 15 rfl rfl)
theorem dX3_akin_64 : decode cX3_akin 64 = .ok (.if_icmp .ge 23, 3) := dk_162 0 23 (dk_at dksX3_akin_2 17 rfl rfl)
theorem dX3_akin_67 : decode cX3_akin 67 = .ok (.aload_n 0, 1) := dk_42 (dk_at dksX3_akin_2 20 rfl rfl)
theorem dX3_akin_68 : decode cX3_akin 68 = .ok (.getfield 120, 3) := dk_180 0 120 (dk_at dksX3_akin_2 21 rfl rfl)
theorem dX3_akin_71 : decode cX3_akin 71 = .ok (.iload 5, 2) := dk_21 5 (dk_at dksX3_akin_3 0 rfl rfl)
theorem dX3_akin_73 : decode cX3_akin 73 = .ok (.aload_n 0, 1) := dk_42 (dk_at dksX3_akin_3 2 rfl rfl)
theorem dX3_akin_74 : decode cX3_akin 74 = .ok (.getfield 117, 3) := dk_180 0 117 (dk_at dksX3_akin_3 3 rfl rfl)
theorem dX3_akin_77 : decode cX3_akin 77 = .ok (.iload 5, 2) := dk_21 5 (dk_at dksX3_akin_3 6 rfl rfl)
theorem dX3_akin_79 : decode cX3_akin 79 = .ok (.iaload, 1) := dk_46 (dk_at dksX3_akin_3 8 rfl rfl)
theorem dX3_akin_80 : decode cX3_akin 80 = .ok (.iastore, 1) := dk_79 (dk_at dksX3_akin_3 9 rfl rfl)
theorem dX3_akin_81 : decode cX3_akin 81 = .ok (.iinc 5 1, 3) := dk_132 5 1 (dk_at dksX3_akin_3 10 rfl rfl)
theorem dX3_akin_84 : decode cX3_akin 84 = .ok (.goto (-24), 3) := dk_167 255 232 (dk_at dksX3_akin_3 13 rfl rfl)
theorem dX3_akin_87 : decode cX3_akin 87 = .ok (.aload_n 0, 1) := dk_42 (dk_at dksX3_akin_3 16 rfl rfl)
theorem dX3_akin_88 : decode cX3_akin 88 = .ok (.iload_n 2, 1) := dk_28 (dk_at dksX3_akin_3 17 rfl rfl)
theorem dX3_akin_89 : decode cX3_akin 89 = .ok (.invokevirtual 282, 3) := dk_182 1 26 (dk_at dksX3_akin_3 18 rfl rfl)
theorem dX3_akin_92 : decode cX3_akin 92 = .ok (.ifCond .ne 6, 3) := dk_154 0 6 (dk_at dksX3_akin_3 21 rfl rfl)
theorem dX3_akin_95 : decode cX3_akin 95 = .ok (.bipush (-3), 2) := dk_16 253 (dk_at dksX3_akin_4 0 rfl rfl)
theorem dX3_akin_97 : decode cX3_akin 97 = .ok (.ireturn, 1) := dk_172 (dk_at dksX3_akin_4 2 rfl rfl)
theorem dX3_akin_98 : decode cX3_akin 98 = .ok (.iload_n 3, 1) := dk_29 (dk_at dksX3_akin_4 3 rfl rfl)
theorem dX3_akin_99 : decode cX3_akin 99 = .ok (.aload_n 0, 1) := dk_42 (dk_at dksX3_akin_4 4 rfl rfl)
theorem dX3_akin_100 : decode cX3_akin 100 = .ok (.getfield 126, 3) := dk_180 0 126 (dk_at dksX3_akin_4 5 rfl rfl)
theorem dX3_akin_103 : decode cX3_akin 103 = .ok (.if_icmp .ne 16, 3) := dk_160 0 16 (dk_at dksX3_akin_4 8 rfl rfl)
theorem dX3_akin_106 : decode cX3_akin 106 = .ok (.iload 4, 2) := dk_21 4 (dk_at dksX3_akin_4 11 rfl rfl)
theorem dX3_akin_108 : decode cX3_akin 108 = .ok (.aload_n 0, 1) := dk_42 (dk_at dksX3_akin_4 13 rfl rfl)
theorem dX3_akin_109 : decode cX3_akin 109 = .ok (.getfield 123, 3) := dk_180 0 123 (dk_at dksX3_akin_4 14 rfl rfl)
theorem dX3_akin_112 : decode cX3_akin 112 = .ok (.if_icmp .ne 7, 3) := dk_160 0 7 (dk_at dksX3_akin_4 17 rfl rfl)
theorem dX3_akin_115 : decode cX3_akin 115 = .ok (.iconst 1, 1) := dk_4 (dk_at dksX3_akin_4 20 rfl rfl)
theorem dX3_akin_116 : decode cX3_akin 116 = .ok (.goto 4, 3) := dk_167 0 4 (dk_at dksX3_akin_4 21 rfl rfl)
theorem dX3_akin_119 : decode cX3_akin 119 = .ok (.iconst 0, 1) := dk_3 (dk_at dksX3_akin_5 0 rfl rfl)
theorem dX3_akin_120 : decode cX3_akin 120 = .ok (.istore 5, 2) := dk_54 5 (dk_at dksX3_akin_5 1 rfl rfl)
theorem dX3_akin_122 : decode cX3_akin 122 = .ok (.iconst 0, 1) := dk_3 (dk_at dksX3_akin_5 3 rfl rfl)
theorem dX3_akin_123 : decode cX3_akin 123 = .ok (.istore 6, 2) := dk_54 6 (dk_at dksX3_akin_5 4 rfl rfl)
theorem dX3_akin_125 : decode cX3_akin 125 = .ok (.iload 6, 2) := dk_21 6 (dk_at dksX3_akin_5 6 rfl rfl)
theorem dX3_akin_127 : decode cX3_akin 127 = .ok (.iload 4, 2) := dk_21 4 (dk_at dksX3_akin_5 8 rfl rfl)
theorem dX3_akin_129 : decode cX3_akin 129 = .ok (.if_icmp .ge 38, 3) := dk_162 0 38 (dk_at dksX3_akin_5 10 rfl rfl)
theorem dX3_akin_132 : decode cX3_akin 132 = .ok (.iload 5, 2) := dk_21 5 (dk_at dksX3_akin_5 13 rfl rfl)
theorem dX3_akin_134 : decode cX3_akin 134 = .ok (.ifCond .eq 33, 3) := dk_153 0 33 (dk_at dksX3_akin_5 15 rfl rfl)
theorem dX3_akin_137 : decode cX3_akin 137 = .ok (.aload_n 0, 1) := dk_42 (dk_at dksX3_akin_5 18 rfl rfl)
theorem dX3_akin_138 : decode cX3_akin 138 = .ok (.getfield 117, 3) := dk_180 0 117 (dk_at dksX3_akin_5 19 rfl rfl)
theorem dX3_akin_141 : decode cX3_akin 141 = .ok (.iload 6, 2) := dk_21 6 (dk_at dksX3_akin_5 22 rfl rfl)
theorem dX3_akin_143 : decode cX3_akin 143 = .ok (.iaload, 1) := dk_46 (dk_at dksX3_akin_6 0 rfl rfl)
theorem dX3_akin_144 : decode cX3_akin 144 = .ok (.aload_n 0, 1) := dk_42 (dk_at dksX3_akin_6 1 rfl rfl)
theorem dX3_akin_145 : decode cX3_akin 145 = .ok (.getfield 120, 3) := dk_180 0 120 (dk_at dksX3_akin_6 2 rfl rfl)
theorem dX3_akin_148 : decode cX3_akin 148 = .ok (.iload 6, 2) := dk_21 6 (dk_at dksX3_akin_6 5 rfl rfl)
theorem dX3_akin_150 : decode cX3_akin 150 = .ok (.iaload, 1) := dk_46 (dk_at dksX3_akin_6 7 rfl rfl)
theorem dX3_akin_151 : decode cX3_akin 151 = .ok (.if_icmp .ne 7, 3) := dk_160 0 7 (dk_at dksX3_akin_6 8 rfl rfl)
theorem dX3_akin_154 : decode cX3_akin 154 = .ok (.iconst 1, 1) := dk_4 (dk_at dksX3_akin_6 11 rfl rfl)
theorem dX3_akin_155 : decode cX3_akin 155 = .ok (.goto 4, 3) := dk_167 0 4 (dk_at dksX3_akin_6 12 rfl rfl)
theorem dX3_akin_158 : decode cX3_akin 158 = .ok (.iconst 0, 1) := dk_3 (dk_at dksX3_akin_6 15 rfl rfl)
theorem dX3_akin_159 : decode cX3_akin 159 = .ok (.istore 5, 2) := dk_54 5 (dk_at dksX3_akin_6 16 rfl rfl)
theorem dX3_akin_161 : decode cX3_akin 161 = .ok (.iinc 6 1, 3) := dk_132 6 1 (dk_at dksX3_akin_6 18 rfl rfl)
theorem dX3_akin_164 : decode cX3_akin 164 = .ok (.goto (-39), 3) := dk_167 255 217 (dk_at dksX3_akin_6 21 rfl rfl)
theorem dX3_akin_167 : decode cX3_akin 167 = .ok (.iload 5, 2) := dk_21 5 (dk_at dksX3_akin_7 0 rfl rfl)
theorem dX3_akin_169 : decode cX3_akin 169 = .ok (.ifCond .eq 7, 3) := dk_153 0 7 (dk_at dksX3_akin_7 2 rfl rfl)
theorem dX3_akin_172 : decode cX3_akin 172 = .ok (.iconst 1, 1) := dk_4 (dk_at dksX3_akin_7 5 rfl rfl)
theorem dX3_akin_173 : decode cX3_akin 173 = .ok (.goto 4, 3) := dk_167 0 4 (dk_at dksX3_akin_7 6 rfl rfl)
theorem dX3_akin_176 : decode cX3_akin 176 = .ok (.iconst 0, 1) := dk_3 (dk_at dksX3_akin_7 9 rfl rfl)
theorem dX3_akin_177 : decode cX3_akin 177 = .ok (.ireturn, 1) := dk_172 (dk_at dksX3_akin_7 10 rfl rfl)
abbrev cX3_right : ByteArray := prog_17_method_54_code
def yX3_right : MethodName := ⟨RX3, "right", "(I)I"⟩
def dkwX3_right_1 : List UInt8 := [182, 1, 41, 153, 0, 7, 4, 167, 0, 4, 3, 172]
abbrev dktX3_right_1 : List UInt8 := dkwX3_right_1 ++ []
def dkwX3_right_0 : List UInt8 := [42, 27, 182, 0, 244, 154, 0, 5, 2, 172, 42, 180, 0, 44, 154, 0, 6, 16, 253, 172, 42, 27, 2, 2]
abbrev dktX3_right_0 : List UInt8 := dkwX3_right_0 ++ dktX3_right_1
theorem dksX3_right_0 : cX3_right.data.toList.drop 0 = dktX3_right_0 := by decide +kernel
theorem dksX3_right_1 : cX3_right.data.toList.drop 24 = dktX3_right_1 := dk_seg dksX3_right_0 24 rfl rfl
theorem dX3_right_0 : decode cX3_right 0 = .ok (.aload_n 0, 1) := dk_42 (dk_at dksX3_right_0 0 rfl rfl)
theorem dX3_right_1 : decode cX3_right 1 = .ok (.iload_n 1, 1) := dk_27 (dk_at dksX3_right_0 1 rfl rfl)
theorem dX3_right_2 : decode cX3_right 2 = .ok (.invokevirtual 244, 3) := dk_182 0 244 (dk_at dksX3_right_0 2 rfl rfl)
theorem dX3_right_5 : decode cX3_right 5 = .ok (.ifCond .ne 5, 3) := dk_154 0 5 (dk_at dksX3_right_0 5 rfl rfl)
theorem dX3_right_8 : decode cX3_right 8 = .ok (.iconst (-1), 1) := dk_2 (dk_at dksX3_right_0 8 rfl rfl)
theorem dX3_right_9 : decode cX3_right 9 = .ok (.ireturn, 1) := dk_172 (dk_at dksX3_right_0 9 rfl rfl)
theorem dX3_right_10 : decode cX3_right 10 = .ok (.aload_n 0, 1) := dk_42 (dk_at dksX3_right_0 10 rfl rfl)
theorem dX3_right_11 : decode cX3_right 11 = .ok (.getfield 44, 3) := dk_180 0 44 (dk_at dksX3_right_0 11 rfl rfl)
theorem dX3_right_14 : decode cX3_right 14 = .ok (.ifCond .ne 6, 3) := dk_154 0 6 (dk_at dksX3_right_0 14 rfl rfl)
theorem dX3_right_17 : decode cX3_right 17 = .ok (.bipush (-3), 2) := dk_16 253 (dk_at dksX3_right_0 17 rfl rfl)
theorem dX3_right_19 : decode cX3_right 19 = .ok (.ireturn, 1) := dk_172 (dk_at dksX3_right_0 19 rfl rfl)
theorem dX3_right_20 : decode cX3_right 20 = .ok (.aload_n 0, 1) := dk_42 (dk_at dksX3_right_0 20 rfl rfl)
theorem dX3_right_21 : decode cX3_right 21 = .ok (.iload_n 1, 1) := dk_27 (dk_at dksX3_right_0 21 rfl rfl)
theorem dX3_right_22 : decode cX3_right 22 = .ok (.iconst (-1), 1) := dk_2 (dk_at dksX3_right_0 22 rfl rfl)
theorem dX3_right_23 : decode cX3_right 23 = .ok (.iconst (-1), 1) := dk_2 (dk_at dksX3_right_0 23 rfl rfl)
theorem dX3_right_24 : decode cX3_right 24 = .ok (.invokevirtual 297, 3) := dk_182 1 41 (dk_at dksX3_right_1 0 rfl rfl)
theorem dX3_right_27 : decode cX3_right 27 = .ok (.ifCond .eq 7, 3) := dk_153 0 7 (dk_at dksX3_right_1 3 rfl rfl)
theorem dX3_right_30 : decode cX3_right 30 = .ok (.iconst 1, 1) := dk_4 (dk_at dksX3_right_1 6 rfl rfl)
theorem dX3_right_31 : decode cX3_right 31 = .ok (.goto 4, 3) := dk_167 0 4 (dk_at dksX3_right_1 7 rfl rfl)
theorem dX3_right_34 : decode cX3_right 34 = .ok (.iconst 0, 1) := dk_3 (dk_at dksX3_right_1 10 rfl rfl)
theorem dX3_right_35 : decode cX3_right 35 = .ok (.ireturn, 1) := dk_172 (dk_at dksX3_right_1 11 rfl rfl)
abbrev cX3_makes : ByteArray := prog_17_method_53_code
def yX3_makes : MethodName := ⟨RX3, "makes", "(III)Z"⟩
def dkwX3_makes_5 : List UInt8 := [160, 0, 7, 4, 167, 0, 4, 3, 172]
abbrev dktX3_makes_5 : List UInt8 := dkwX3_makes_5 ++ []
def dkwX3_makes_4 : List UInt8 := [182, 1, 38, 154, 0, 5, 3, 172, 132, 4, 1, 167, 255, 161, 42, 180, 0, 138, 42, 180, 0, 57]
abbrev dktX3_makes_4 : List UInt8 := dkwX3_makes_4 ++ dktX3_makes_5
def dkwX3_makes_3 : List UInt8 := [182, 1, 38, 154, 0, 5, 3, 172, 21, 4, 28, 160, 0, 19, 29, 5, 160, 0, 14, 42, 21, 5]
abbrev dktX3_makes_3 : List UInt8 := dkwX3_makes_3 ++ dktX3_makes_4
def dkwX3_makes_2 : List UInt8 := [42, 21, 4, 28, 160, 0, 17, 29, 4, 160, 0, 12, 42, 21, 5, 182, 0, 234, 167, 0, 5, 21, 5]
abbrev dktX3_makes_2 : List UInt8 := dkwX3_makes_2 ++ dktX3_makes_3
def dkwX3_makes_1 : List UInt8 := [17, 1, 44, 27, 104, 21, 4, 96, 46, 54, 5, 21, 4, 28, 160, 0, 10, 29, 154, 0, 6, 167, 0, 56]
abbrev dktX3_makes_1 : List UInt8 := dkwX3_makes_1 ++ dktX3_makes_2
def dkwX3_makes_0 : List UInt8 := [42, 182, 1, 35, 3, 54, 4, 21, 4, 42, 180, 0, 96, 27, 46, 162, 0, 90, 42, 180, 0, 99]
abbrev dktX3_makes_0 : List UInt8 := dkwX3_makes_0 ++ dktX3_makes_1
theorem dksX3_makes_0 : cX3_makes.data.toList.drop 0 = dktX3_makes_0 := by decide +kernel
theorem dksX3_makes_1 : cX3_makes.data.toList.drop 22 = dktX3_makes_1 := dk_seg dksX3_makes_0 22 rfl rfl
theorem dksX3_makes_2 : cX3_makes.data.toList.drop 46 = dktX3_makes_2 := dk_seg dksX3_makes_1 24 rfl rfl
theorem dksX3_makes_3 : cX3_makes.data.toList.drop 69 = dktX3_makes_3 := dk_seg dksX3_makes_2 23 rfl rfl
theorem dksX3_makes_4 : cX3_makes.data.toList.drop 91 = dktX3_makes_4 := dk_seg dksX3_makes_3 22 rfl rfl
theorem dksX3_makes_5 : cX3_makes.data.toList.drop 113 = dktX3_makes_5 := dk_seg dksX3_makes_4 22 rfl rfl
theorem dX3_makes_0 : decode cX3_makes 0 = .ok (.aload_n 0, 1) := dk_42 (dk_at dksX3_makes_0 0 rfl rfl)
theorem dX3_makes_1 : decode cX3_makes 1 = .ok (.invokevirtual 291, 3) := dk_182 1 35 (dk_at dksX3_makes_0 1 rfl rfl)
theorem dX3_makes_4 : decode cX3_makes 4 = .ok (.iconst 0, 1) := dk_3 (dk_at dksX3_makes_0 4 rfl rfl)
theorem dX3_makes_5 : decode cX3_makes 5 = .ok (.istore 4, 2) := dk_54 4 (dk_at dksX3_makes_0 5 rfl rfl)
theorem dX3_makes_7 : decode cX3_makes 7 = .ok (.iload 4, 2) := dk_21 4 (dk_at dksX3_makes_0 7 rfl rfl)
theorem dX3_makes_9 : decode cX3_makes 9 = .ok (.aload_n 0, 1) := dk_42 (dk_at dksX3_makes_0 9 rfl rfl)
theorem dX3_makes_10 : decode cX3_makes 10 = .ok (.getfield 96, 3) := dk_180 0 96 (dk_at dksX3_makes_0 10 rfl rfl)
theorem dX3_makes_13 : decode cX3_makes 13 = .ok (.iload_n 1, 1) := dk_27 (dk_at dksX3_makes_0 13 rfl rfl)
theorem dX3_makes_14 : decode cX3_makes 14 = .ok (.iaload, 1) := dk_46 (dk_at dksX3_makes_0 14 rfl rfl)
theorem dX3_makes_15 : decode cX3_makes 15 = .ok (.if_icmp .ge 90, 3) := dk_162 0 90 (dk_at dksX3_makes_0 15 rfl rfl)
theorem dX3_makes_18 : decode cX3_makes 18 = .ok (.aload_n 0, 1) := dk_42 (dk_at dksX3_makes_0 18 rfl rfl)
theorem dX3_makes_19 : decode cX3_makes 19 = .ok (.getfield 99, 3) := dk_180 0 99 (dk_at dksX3_makes_0 19 rfl rfl)
theorem dX3_makes_22 : decode cX3_makes 22 = .ok (.sipush 300, 3) := dk_17 1 44 (dk_at dksX3_makes_1 0 rfl rfl)
theorem dX3_makes_25 : decode cX3_makes 25 = .ok (.iload_n 1, 1) := dk_27 (dk_at dksX3_makes_1 3 rfl rfl)
theorem dX3_makes_26 : decode cX3_makes 26 = .ok (.imul, 1) := dk_104 (dk_at dksX3_makes_1 4 rfl rfl)
theorem dX3_makes_27 : decode cX3_makes 27 = .ok (.iload 4, 2) := dk_21 4 (dk_at dksX3_makes_1 5 rfl rfl)
theorem dX3_makes_29 : decode cX3_makes 29 = .ok (.iadd, 1) := dk_96 (dk_at dksX3_makes_1 7 rfl rfl)
theorem dX3_makes_30 : decode cX3_makes 30 = .ok (.iaload, 1) := dk_46 (dk_at dksX3_makes_1 8 rfl rfl)
theorem dX3_makes_31 : decode cX3_makes 31 = .ok (.istore 5, 2) := dk_54 5 (dk_at dksX3_makes_1 9 rfl rfl)
theorem dX3_makes_33 : decode cX3_makes 33 = .ok (.iload 4, 2) := dk_21 4 (dk_at dksX3_makes_1 11 rfl rfl)
theorem dX3_makes_35 : decode cX3_makes 35 = .ok (.iload_n 2, 1) := dk_28 (dk_at dksX3_makes_1 13 rfl rfl)
theorem dX3_makes_36 : decode cX3_makes 36 = .ok (.if_icmp .ne 10, 3) := dk_160 0 10 (dk_at dksX3_makes_1 14 rfl rfl)
theorem dX3_makes_39 : decode cX3_makes 39 = .ok (.iload_n 3, 1) := dk_29 (dk_at dksX3_makes_1 17 rfl rfl)
theorem dX3_makes_40 : decode cX3_makes 40 = .ok (.ifCond .ne 6, 3) := dk_154 0 6 (dk_at dksX3_makes_1 18 rfl rfl)
theorem dX3_makes_43 : decode cX3_makes 43 = .ok (.goto 56, 3) := dk_167 0 56 (dk_at dksX3_makes_1 21 rfl rfl)
theorem dX3_makes_46 : decode cX3_makes 46 = .ok (.aload_n 0, 1) := dk_42 (dk_at dksX3_makes_2 0 rfl rfl)
theorem dX3_makes_47 : decode cX3_makes 47 = .ok (.iload 4, 2) := dk_21 4 (dk_at dksX3_makes_2 1 rfl rfl)
theorem dX3_makes_49 : decode cX3_makes 49 = .ok (.iload_n 2, 1) := dk_28 (dk_at dksX3_makes_2 3 rfl rfl)
theorem dX3_makes_50 : decode cX3_makes 50 = .ok (.if_icmp .ne 17, 3) := dk_160 0 17 (dk_at dksX3_makes_2 4 rfl rfl)
theorem dX3_makes_53 : decode cX3_makes 53 = .ok (.iload_n 3, 1) := dk_29 (dk_at dksX3_makes_2 7 rfl rfl)
theorem dX3_makes_54 : decode cX3_makes 54 = .ok (.iconst 1, 1) := dk_4 (dk_at dksX3_makes_2 8 rfl rfl)
theorem dX3_makes_55 : decode cX3_makes 55 = .ok (.if_icmp .ne 12, 3) := dk_160 0 12 (dk_at dksX3_makes_2 9 rfl rfl)
theorem dX3_makes_58 : decode cX3_makes 58 = .ok (.aload_n 0, 1) := dk_42 (dk_at dksX3_makes_2 12 rfl rfl)
theorem dX3_makes_59 : decode cX3_makes 59 = .ok (.iload 5, 2) := dk_21 5 (dk_at dksX3_makes_2 13 rfl rfl)
theorem dX3_makes_61 : decode cX3_makes 61 = .ok (.invokevirtual 234, 3) := dk_182 0 234 (dk_at dksX3_makes_2 15 rfl rfl)
theorem dX3_makes_64 : decode cX3_makes 64 = .ok (.goto 5, 3) := dk_167 0 5 (dk_at dksX3_makes_2 18 rfl rfl)
theorem dX3_makes_67 : decode cX3_makes 67 = .ok (.iload 5, 2) := dk_21 5 (dk_at dksX3_makes_2 21 rfl rfl)
theorem dX3_makes_69 : decode cX3_makes 69 = .ok (.invokevirtual 294, 3) := dk_182 1 38 (dk_at dksX3_makes_3 0 rfl rfl)
theorem dX3_makes_72 : decode cX3_makes 72 = .ok (.ifCond .ne 5, 3) := dk_154 0 5 (dk_at dksX3_makes_3 3 rfl rfl)
theorem dX3_makes_75 : decode cX3_makes 75 = .ok (.iconst 0, 1) := dk_3 (dk_at dksX3_makes_3 6 rfl rfl)
theorem dX3_makes_76 : decode cX3_makes 76 = .ok (.ireturn, 1) := dk_172 (dk_at dksX3_makes_3 7 rfl rfl)
theorem dX3_makes_77 : decode cX3_makes 77 = .ok (.iload 4, 2) := dk_21 4 (dk_at dksX3_makes_3 8 rfl rfl)
theorem dX3_makes_79 : decode cX3_makes 79 = .ok (.iload_n 2, 1) := dk_28 (dk_at dksX3_makes_3 10 rfl rfl)
theorem dX3_makes_80 : decode cX3_makes 80 = .ok (.if_icmp .ne 19, 3) := dk_160 0 19 (dk_at dksX3_makes_3 11 rfl rfl)
theorem dX3_makes_83 : decode cX3_makes 83 = .ok (.iload_n 3, 1) := dk_29 (dk_at dksX3_makes_3 14 rfl rfl)
theorem dX3_makes_84 : decode cX3_makes 84 = .ok (.iconst 2, 1) := dk_5 (dk_at dksX3_makes_3 15 rfl rfl)
theorem dX3_makes_85 : decode cX3_makes 85 = .ok (.if_icmp .ne 14, 3) := dk_160 0 14 (dk_at dksX3_makes_3 16 rfl rfl)
theorem dX3_makes_88 : decode cX3_makes 88 = .ok (.aload_n 0, 1) := dk_42 (dk_at dksX3_makes_3 19 rfl rfl)
theorem dX3_makes_89 : decode cX3_makes 89 = .ok (.iload 5, 2) := dk_21 5 (dk_at dksX3_makes_3 20 rfl rfl)
theorem dX3_makes_91 : decode cX3_makes 91 = .ok (.invokevirtual 294, 3) := dk_182 1 38 (dk_at dksX3_makes_4 0 rfl rfl)
theorem dX3_makes_94 : decode cX3_makes 94 = .ok (.ifCond .ne 5, 3) := dk_154 0 5 (dk_at dksX3_makes_4 3 rfl rfl)
theorem dX3_makes_97 : decode cX3_makes 97 = .ok (.iconst 0, 1) := dk_3 (dk_at dksX3_makes_4 6 rfl rfl)
theorem dX3_makes_98 : decode cX3_makes 98 = .ok (.ireturn, 1) := dk_172 (dk_at dksX3_makes_4 7 rfl rfl)
theorem dX3_makes_99 : decode cX3_makes 99 = .ok (.iinc 4 1, 3) := dk_132 4 1 (dk_at dksX3_makes_4 8 rfl rfl)
theorem dX3_makes_102 : decode cX3_makes 102 = .ok (.goto (-95), 3) := dk_167 255 161 (dk_at dksX3_makes_4 11 rfl rfl)
theorem dX3_makes_105 : decode cX3_makes 105 = .ok (.aload_n 0, 1) := dk_42 (dk_at dksX3_makes_4 14 rfl rfl)
theorem dX3_makes_106 : decode cX3_makes 106 = .ok (.getfield 138, 3) := dk_180 0 138 (dk_at dksX3_makes_4 15 rfl rfl)
theorem dX3_makes_109 : decode cX3_makes 109 = .ok (.aload_n 0, 1) := dk_42 (dk_at dksX3_makes_4 18 rfl rfl)
theorem dX3_makes_110 : decode cX3_makes 110 = .ok (.getfield 57, 3) := dk_180 0 57 (dk_at dksX3_makes_4 19 rfl rfl)
theorem dX3_makes_113 : decode cX3_makes 113 = .ok (.if_icmp .ne 7, 3) := dk_160 0 7 (dk_at dksX3_makes_5 0 rfl rfl)
theorem dX3_makes_116 : decode cX3_makes 116 = .ok (.iconst 1, 1) := dk_4 (dk_at dksX3_makes_5 3 rfl rfl)
theorem dX3_makes_117 : decode cX3_makes 117 = .ok (.goto 4, 3) := dk_167 0 4 (dk_at dksX3_makes_5 4 rfl rfl)
theorem dX3_makes_120 : decode cX3_makes 120 = .ok (.iconst 0, 1) := dk_3 (dk_at dksX3_makes_5 7 rfl rfl)
theorem dX3_makes_121 : decode cX3_makes 121 = .ok (.ireturn, 1) := dk_172 (dk_at dksX3_makes_5 8 rfl rfl)
abbrev cX3_tryBegin : ByteArray := prog_17_method_49_code
def yX3_tryBegin : MethodName := ⟨RX3, "tryBegin", "()V"⟩
def dkwX3_tryBegin_2 : List UInt8 := [132, 1, 1, 167, 255, 219, 177]
abbrev dktX3_tryBegin_2 : List UInt8 := dkwX3_tryBegin_2 ++ []
def dkwX3_tryBegin_1 : List UInt8 := [27, 27, 79, 42, 180, 0, 132, 27, 42, 180, 0, 38, 27, 46, 79, 42, 180, 0, 135, 27, 3, 79]
abbrev dktX3_tryBegin_1 : List UInt8 := dkwX3_tryBegin_1 ++ dktX3_tryBegin_2
def dkwX3_tryBegin_0 : List UInt8 := [42, 3, 181, 0, 138, 42, 3, 181, 0, 141, 3, 60, 27, 42, 180, 0, 13, 162, 0, 35, 42, 180, 0, 129]
abbrev dktX3_tryBegin_0 : List UInt8 := dkwX3_tryBegin_0 ++ dktX3_tryBegin_1
theorem dksX3_tryBegin_0 : cX3_tryBegin.data.toList.drop 0 = dktX3_tryBegin_0 := by decide +kernel
theorem dksX3_tryBegin_1 : cX3_tryBegin.data.toList.drop 24 = dktX3_tryBegin_1 := dk_seg dksX3_tryBegin_0 24 rfl rfl
theorem dksX3_tryBegin_2 : cX3_tryBegin.data.toList.drop 46 = dktX3_tryBegin_2 := dk_seg dksX3_tryBegin_1 22 rfl rfl
theorem dX3_tryBegin_0 : decode cX3_tryBegin 0 = .ok (.aload_n 0, 1) := dk_42 (dk_at dksX3_tryBegin_0 0 rfl rfl)
theorem dX3_tryBegin_1 : decode cX3_tryBegin 1 = .ok (.iconst 0, 1) := dk_3 (dk_at dksX3_tryBegin_0 1 rfl rfl)
theorem dX3_tryBegin_2 : decode cX3_tryBegin 2 = .ok (.putfield 138, 3) := dk_181 0 138 (dk_at dksX3_tryBegin_0 2 rfl rfl)
theorem dX3_tryBegin_5 : decode cX3_tryBegin 5 = .ok (.aload_n 0, 1) := dk_42 (dk_at dksX3_tryBegin_0 5 rfl rfl)
theorem dX3_tryBegin_6 : decode cX3_tryBegin 6 = .ok (.iconst 0, 1) := dk_3 (dk_at dksX3_tryBegin_0 6 rfl rfl)
theorem dX3_tryBegin_7 : decode cX3_tryBegin 7 = .ok (.putfield 141, 3) := dk_181 0 141 (dk_at dksX3_tryBegin_0 7 rfl rfl)
theorem dX3_tryBegin_10 : decode cX3_tryBegin 10 = .ok (.iconst 0, 1) := dk_3 (dk_at dksX3_tryBegin_0 10 rfl rfl)
theorem dX3_tryBegin_11 : decode cX3_tryBegin 11 = .ok (.istore_n 1, 1) := dk_60 (dk_at dksX3_tryBegin_0 11 rfl rfl)
theorem dX3_tryBegin_12 : decode cX3_tryBegin 12 = .ok (.iload_n 1, 1) := dk_27 (dk_at dksX3_tryBegin_0 12 rfl rfl)
theorem dX3_tryBegin_13 : decode cX3_tryBegin 13 = .ok (.aload_n 0, 1) := dk_42 (dk_at dksX3_tryBegin_0 13 rfl rfl)
theorem dX3_tryBegin_14 : decode cX3_tryBegin 14 = .ok (.getfield 13, 3) := dk_180 0 13 (dk_at dksX3_tryBegin_0 14 rfl rfl)
theorem dX3_tryBegin_17 : decode cX3_tryBegin 17 = .ok (.if_icmp .ge 35, 3) := dk_162 0 35 (dk_at dksX3_tryBegin_0 17 rfl rfl)
theorem dX3_tryBegin_20 : decode cX3_tryBegin 20 = .ok (.aload_n 0, 1) := dk_42 (dk_at dksX3_tryBegin_0 20 rfl rfl)
theorem dX3_tryBegin_21 : decode cX3_tryBegin 21 = .ok (.getfield 129, 3) := dk_180 0 129 (dk_at dksX3_tryBegin_0 21 rfl rfl)
theorem dX3_tryBegin_24 : decode cX3_tryBegin 24 = .ok (.iload_n 1, 1) := dk_27 (dk_at dksX3_tryBegin_1 0 rfl rfl)
theorem dX3_tryBegin_25 : decode cX3_tryBegin 25 = .ok (.iload_n 1, 1) := dk_27 (dk_at dksX3_tryBegin_1 1 rfl rfl)
theorem dX3_tryBegin_26 : decode cX3_tryBegin 26 = .ok (.iastore, 1) := dk_79 (dk_at dksX3_tryBegin_1 2 rfl rfl)
theorem dX3_tryBegin_27 : decode cX3_tryBegin 27 = .ok (.aload_n 0, 1) := dk_42 (dk_at dksX3_tryBegin_1 3 rfl rfl)
theorem dX3_tryBegin_28 : decode cX3_tryBegin 28 = .ok (.getfield 132, 3) := dk_180 0 132 (dk_at dksX3_tryBegin_1 4 rfl rfl)
theorem dX3_tryBegin_31 : decode cX3_tryBegin 31 = .ok (.iload_n 1, 1) := dk_27 (dk_at dksX3_tryBegin_1 7 rfl rfl)
theorem dX3_tryBegin_32 : decode cX3_tryBegin 32 = .ok (.aload_n 0, 1) := dk_42 (dk_at dksX3_tryBegin_1 8 rfl rfl)
theorem dX3_tryBegin_33 : decode cX3_tryBegin 33 = .ok (.getfield 38, 3) := dk_180 0 38 (dk_at dksX3_tryBegin_1 9 rfl rfl)
theorem dX3_tryBegin_36 : decode cX3_tryBegin 36 = .ok (.iload_n 1, 1) := dk_27 (dk_at dksX3_tryBegin_1 12 rfl rfl)
theorem dX3_tryBegin_37 : decode cX3_tryBegin 37 = .ok (.iaload, 1) := dk_46 (dk_at dksX3_tryBegin_1 13 rfl rfl)
theorem dX3_tryBegin_38 : decode cX3_tryBegin 38 = .ok (.iastore, 1) := dk_79 (dk_at dksX3_tryBegin_1 14 rfl rfl)
theorem dX3_tryBegin_39 : decode cX3_tryBegin 39 = .ok (.aload_n 0, 1) := dk_42 (dk_at dksX3_tryBegin_1 15 rfl rfl)
theorem dX3_tryBegin_40 : decode cX3_tryBegin 40 = .ok (.getfield 135, 3) := dk_180 0 135 (dk_at dksX3_tryBegin_1 16 rfl rfl)
theorem dX3_tryBegin_43 : decode cX3_tryBegin 43 = .ok (.iload_n 1, 1) := dk_27 (dk_at dksX3_tryBegin_1 19 rfl rfl)
theorem dX3_tryBegin_44 : decode cX3_tryBegin 44 = .ok (.iconst 0, 1) := dk_3 (dk_at dksX3_tryBegin_1 20 rfl rfl)
theorem dX3_tryBegin_45 : decode cX3_tryBegin 45 = .ok (.iastore, 1) := dk_79 (dk_at dksX3_tryBegin_1 21 rfl rfl)
theorem dX3_tryBegin_46 : decode cX3_tryBegin 46 = .ok (.iinc 1 1, 3) := dk_132 1 1 (dk_at dksX3_tryBegin_2 0 rfl rfl)
theorem dX3_tryBegin_49 : decode cX3_tryBegin 49 = .ok (.goto (-37), 3) := dk_167 255 219 (dk_at dksX3_tryBegin_2 3 rfl rfl)
theorem dX3_tryBegin_52 : decode cX3_tryBegin 52 = .ok (.return_, 1) := dk_177 (dk_at dksX3_tryBegin_2 6 rfl rfl)
abbrev cX3_tryStep : ByteArray := prog_17_method_52_code
def yX3_tryStep : MethodName := ⟨RX3, "tryStep", "(I)Z"⟩
def dkwX3_tryStep_2 : List UInt8 := [112, 182, 1, 32, 172]
abbrev dktX3_tryStep_2 : List UInt8 := dkwX3_tryStep_2 ++ []
def dkwX3_tryStep_1 : List UInt8 := [16, 100, 161, 0, 14, 42, 27, 16, 100, 100, 182, 1, 29, 167, 0, 15, 42, 27, 16, 10, 108, 27, 16, 10]
abbrev dktX3_tryStep_1 : List UInt8 := dkwX3_tryStep_1 ++ dktX3_tryStep_2
def dkwX3_tryStep_0 : List UInt8 := [42, 180, 0, 141, 17, 1, 44, 160, 0, 5, 3, 172, 42, 89, 180, 0, 141, 4, 96, 181, 0, 141, 27]
abbrev dktX3_tryStep_0 : List UInt8 := dkwX3_tryStep_0 ++ dktX3_tryStep_1
theorem dksX3_tryStep_0 : cX3_tryStep.data.toList.drop 0 = dktX3_tryStep_0 := by decide +kernel
theorem dksX3_tryStep_1 : cX3_tryStep.data.toList.drop 23 = dktX3_tryStep_1 := dk_seg dksX3_tryStep_0 23 rfl rfl
theorem dksX3_tryStep_2 : cX3_tryStep.data.toList.drop 47 = dktX3_tryStep_2 := dk_seg dksX3_tryStep_1 24 rfl rfl
theorem dX3_tryStep_0 : decode cX3_tryStep 0 = .ok (.aload_n 0, 1) := dk_42 (dk_at dksX3_tryStep_0 0 rfl rfl)
theorem dX3_tryStep_1 : decode cX3_tryStep 1 = .ok (.getfield 141, 3) := dk_180 0 141 (dk_at dksX3_tryStep_0 1 rfl rfl)
theorem dX3_tryStep_4 : decode cX3_tryStep 4 = .ok (.sipush 300, 3) := dk_17 1 44 (dk_at dksX3_tryStep_0 4 rfl rfl)
theorem dX3_tryStep_7 : decode cX3_tryStep 7 = .ok (.if_icmp .ne 5, 3) := dk_160 0 5 (dk_at dksX3_tryStep_0 7 rfl rfl)
theorem dX3_tryStep_10 : decode cX3_tryStep 10 = .ok (.iconst 0, 1) := dk_3 (dk_at dksX3_tryStep_0 10 rfl rfl)
theorem dX3_tryStep_11 : decode cX3_tryStep 11 = .ok (.ireturn, 1) := dk_172 (dk_at dksX3_tryStep_0 11 rfl rfl)
theorem dX3_tryStep_12 : decode cX3_tryStep 12 = .ok (.aload_n 0, 1) := dk_42 (dk_at dksX3_tryStep_0 12 rfl rfl)
theorem dX3_tryStep_13 : decode cX3_tryStep 13 = .ok (.dup, 1) := dk_89 (dk_at dksX3_tryStep_0 13 rfl rfl)
theorem dX3_tryStep_14 : decode cX3_tryStep 14 = .ok (.getfield 141, 3) := dk_180 0 141 (dk_at dksX3_tryStep_0 14 rfl rfl)
theorem dX3_tryStep_17 : decode cX3_tryStep 17 = .ok (.iconst 1, 1) := dk_4 (dk_at dksX3_tryStep_0 17 rfl rfl)
theorem dX3_tryStep_18 : decode cX3_tryStep 18 = .ok (.iadd, 1) := dk_96 (dk_at dksX3_tryStep_0 18 rfl rfl)
theorem dX3_tryStep_19 : decode cX3_tryStep 19 = .ok (.putfield 141, 3) := dk_181 0 141 (dk_at dksX3_tryStep_0 19 rfl rfl)
theorem dX3_tryStep_22 : decode cX3_tryStep 22 = .ok (.iload_n 1, 1) := dk_27 (dk_at dksX3_tryStep_0 22 rfl rfl)
theorem dX3_tryStep_23 : decode cX3_tryStep 23 = .ok (.bipush 100, 2) := dk_16 100 (dk_at dksX3_tryStep_1 0 rfl rfl)
theorem dX3_tryStep_25 : decode cX3_tryStep 25 = .ok (.if_icmp .lt 14, 3) := dk_161 0 14 (dk_at dksX3_tryStep_1 2 rfl rfl)
theorem dX3_tryStep_28 : decode cX3_tryStep 28 = .ok (.aload_n 0, 1) := dk_42 (dk_at dksX3_tryStep_1 5 rfl rfl)
theorem dX3_tryStep_29 : decode cX3_tryStep 29 = .ok (.iload_n 1, 1) := dk_27 (dk_at dksX3_tryStep_1 6 rfl rfl)
theorem dX3_tryStep_30 : decode cX3_tryStep 30 = .ok (.bipush 100, 2) := dk_16 100 (dk_at dksX3_tryStep_1 7 rfl rfl)
theorem dX3_tryStep_32 : decode cX3_tryStep 32 = .ok (.isub, 1) := dk_100 (dk_at dksX3_tryStep_1 9 rfl rfl)
theorem dX3_tryStep_33 : decode cX3_tryStep 33 = .ok (.invokevirtual 285, 3) := dk_182 1 29 (dk_at dksX3_tryStep_1 10 rfl rfl)
theorem dX3_tryStep_36 : decode cX3_tryStep 36 = .ok (.goto 15, 3) := dk_167 0 15 (dk_at dksX3_tryStep_1 13 rfl rfl)
theorem dX3_tryStep_39 : decode cX3_tryStep 39 = .ok (.aload_n 0, 1) := dk_42 (dk_at dksX3_tryStep_1 16 rfl rfl)
theorem dX3_tryStep_40 : decode cX3_tryStep 40 = .ok (.iload_n 1, 1) := dk_27 (dk_at dksX3_tryStep_1 17 rfl rfl)
theorem dX3_tryStep_41 : decode cX3_tryStep 41 = .ok (.bipush 10, 2) := dk_16 10 (dk_at dksX3_tryStep_1 18 rfl rfl)
theorem dX3_tryStep_43 : decode cX3_tryStep 43 = .ok (.idiv, 1) := dk_108 (dk_at dksX3_tryStep_1 20 rfl rfl)
theorem dX3_tryStep_44 : decode cX3_tryStep 44 = .ok (.iload_n 1, 1) := dk_27 (dk_at dksX3_tryStep_1 21 rfl rfl)
theorem dX3_tryStep_45 : decode cX3_tryStep 45 = .ok (.bipush 10, 2) := dk_16 10 (dk_at dksX3_tryStep_1 22 rfl rfl)
theorem dX3_tryStep_47 : decode cX3_tryStep 47 = .ok (.irem, 1) := dk_112 (dk_at dksX3_tryStep_2 0 rfl rfl)
theorem dX3_tryStep_48 : decode cX3_tryStep 48 = .ok (.invokevirtual 288, 3) := dk_182 1 32 (dk_at dksX3_tryStep_2 1 rfl rfl)
theorem dX3_tryStep_51 : decode cX3_tryStep 51 = .ok (.ireturn, 1) := dk_172 (dk_at dksX3_tryStep_2 4 rfl rfl)
abbrev cX3_tryWalk : ByteArray := prog_17_method_51_code
def yX3_tryWalk : MethodName := ⟨RX3, "tryWalk", "(I)Z"⟩
def dkwX3_tryWalk_8 : List UInt8 := [4, 96, 181, 0, 138, 29, 172]
abbrev dktX3_tryWalk_8 : List UInt8 := dkwX3_tryWalk_8 ++ []
def dkwX3_tryWalk_7 : List UInt8 := [167, 0, 4, 3, 62, 42, 180, 0, 135, 21, 4, 3, 79, 132, 4, 1, 167, 255, 165, 42, 89, 180, 0, 138]
abbrev dktX3_tryWalk_7 : List UInt8 := dkwX3_tryWalk_7 ++ dktX3_tryWalk_8
def dkwX3_tryWalk_6 : List UInt8 := [21, 4, 46, 42, 180, 0, 69, 16, 9, 42, 180, 0, 138, 104, 21, 4, 96, 46, 160, 0, 7, 4]
abbrev dktX3_tryWalk_6 : List UInt8 := dkwX3_tryWalk_6 ++ dktX3_tryWalk_7
def dkwX3_tryWalk_5 : List UInt8 := [46, 42, 180, 0, 66, 16, 9, 42, 180, 0, 138, 104, 21, 4, 96, 46, 160, 0, 32, 42, 180, 0, 135]
abbrev dktX3_tryWalk_5 : List UInt8 := dkwX3_tryWalk_5 ++ dktX3_tryWalk_6
def dkwX3_tryWalk_4 : List UInt8 := [162, 0, 88, 42, 180, 0, 132, 21, 4, 92, 46, 28, 100, 79, 29, 153, 0, 57, 42, 180, 0, 129, 21, 4]
abbrev dktX3_tryWalk_4 : List UInt8 := dkwX3_tryWalk_4 ++ dktX3_tryWalk_5
def dkwX3_tryWalk_3 : List UInt8 := [154, 0, 5, 3, 172, 42, 42, 180, 0, 129, 27, 182, 0, 215, 3, 54, 4, 21, 4, 42, 180, 0, 13]
abbrev dktX3_tryWalk_3 : List UInt8 := dkwX3_tryWalk_3 ++ dktX3_tryWalk_4
def dkwX3_tryWalk_2 : List UInt8 := [180, 0, 132, 21, 4, 46, 28, 161, 0, 7, 4, 167, 0, 4, 3, 62, 132, 4, 1, 167, 255, 223, 29]
abbrev dktX3_tryWalk_2 : List UInt8 := dkwX3_tryWalk_2 ++ dktX3_tryWalk_3
def dkwX3_tryWalk_1 : List UInt8 := [167, 0, 4, 3, 62, 3, 54, 4, 21, 4, 42, 180, 0, 13, 162, 0, 30, 29, 153, 0, 18, 42]
abbrev dktX3_tryWalk_1 : List UInt8 := dkwX3_tryWalk_1 ++ dktX3_tryWalk_2
def dkwX3_tryWalk_0 : List UInt8 := [16, 10, 42, 180, 0, 138, 6, 108, 96, 61, 42, 180, 0, 138, 42, 180, 0, 57, 162, 0, 7, 4]
abbrev dktX3_tryWalk_0 : List UInt8 := dkwX3_tryWalk_0 ++ dktX3_tryWalk_1
theorem dksX3_tryWalk_0 : cX3_tryWalk.data.toList.drop 0 = dktX3_tryWalk_0 := by decide +kernel
theorem dksX3_tryWalk_1 : cX3_tryWalk.data.toList.drop 22 = dktX3_tryWalk_1 := dk_seg dksX3_tryWalk_0 22 rfl rfl
theorem dksX3_tryWalk_2 : cX3_tryWalk.data.toList.drop 44 = dktX3_tryWalk_2 := dk_seg dksX3_tryWalk_1 22 rfl rfl
theorem dksX3_tryWalk_3 : cX3_tryWalk.data.toList.drop 67 = dktX3_tryWalk_3 := dk_seg dksX3_tryWalk_2 23 rfl rfl
theorem dksX3_tryWalk_4 : cX3_tryWalk.data.toList.drop 90 = dktX3_tryWalk_4 := dk_seg dksX3_tryWalk_3 23 rfl rfl
theorem dksX3_tryWalk_5 : cX3_tryWalk.data.toList.drop 114 = dktX3_tryWalk_5 := dk_seg dksX3_tryWalk_4 24 rfl rfl
theorem dksX3_tryWalk_6 : cX3_tryWalk.data.toList.drop 137 = dktX3_tryWalk_6 := dk_seg dksX3_tryWalk_5 23 rfl rfl
theorem dksX3_tryWalk_7 : cX3_tryWalk.data.toList.drop 159 = dktX3_tryWalk_7 := dk_seg dksX3_tryWalk_6 22 rfl rfl
theorem dksX3_tryWalk_8 : cX3_tryWalk.data.toList.drop 183 = dktX3_tryWalk_8 := dk_seg dksX3_tryWalk_7 24 rfl rfl
theorem dX3_tryWalk_0 : decode cX3_tryWalk 0 = .ok (.bipush 10, 2) := dk_16 10 (dk_at dksX3_tryWalk_0 0 rfl rfl)
theorem dX3_tryWalk_2 : decode cX3_tryWalk 2 = .ok (.aload_n 0, 1) := dk_42 (dk_at dksX3_tryWalk_0 2 rfl rfl)
theorem dX3_tryWalk_3 : decode cX3_tryWalk 3 = .ok (.getfield 138, 3) := dk_180 0 138 (dk_at dksX3_tryWalk_0 3 rfl rfl)
theorem dX3_tryWalk_6 : decode cX3_tryWalk 6 = .ok (.iconst 3, 1) := dk_6 (dk_at dksX3_tryWalk_0 6 rfl rfl)
theorem dX3_tryWalk_7 : decode cX3_tryWalk 7 = .ok (.idiv, 1) := dk_108 (dk_at dksX3_tryWalk_0 7 rfl rfl)
theorem dX3_tryWalk_8 : decode cX3_tryWalk 8 = .ok (.iadd, 1) := dk_96 (dk_at dksX3_tryWalk_0 8 rfl rfl)
theorem dX3_tryWalk_9 : decode cX3_tryWalk 9 = .ok (.istore_n 2, 1) := dk_61 (dk_at dksX3_tryWalk_0 9 rfl rfl)
theorem dX3_tryWalk_10 : decode cX3_tryWalk 10 = .ok (.aload_n 0, 1) := dk_42 (dk_at dksX3_tryWalk_0 10 rfl rfl)
theorem dX3_tryWalk_11 : decode cX3_tryWalk 11 = .ok (.getfield 138, 3) := dk_180 0 138 (dk_at dksX3_tryWalk_0 11 rfl rfl)
theorem dX3_tryWalk_14 : decode cX3_tryWalk 14 = .ok (.aload_n 0, 1) := dk_42 (dk_at dksX3_tryWalk_0 14 rfl rfl)
theorem dX3_tryWalk_15 : decode cX3_tryWalk 15 = .ok (.getfield 57, 3) := dk_180 0 57 (dk_at dksX3_tryWalk_0 15 rfl rfl)
theorem dX3_tryWalk_18 : decode cX3_tryWalk 18 = .ok (.if_icmp .ge 7, 3) := dk_162 0 7 (dk_at dksX3_tryWalk_0 18 rfl rfl)
theorem dX3_tryWalk_21 : decode cX3_tryWalk 21 = .ok (.iconst 1, 1) := dk_4 (dk_at dksX3_tryWalk_0 21 rfl rfl)
theorem dX3_tryWalk_22 : decode cX3_tryWalk 22 = .ok (.goto 4, 3) := dk_167 0 4 (dk_at dksX3_tryWalk_1 0 rfl rfl)
theorem dX3_tryWalk_25 : decode cX3_tryWalk 25 = .ok (.iconst 0, 1) := dk_3 (dk_at dksX3_tryWalk_1 3 rfl rfl)
theorem dX3_tryWalk_26 : decode cX3_tryWalk 26 = .ok (.istore_n 3, 1) := dk_62 (dk_at dksX3_tryWalk_1 4 rfl rfl)
theorem dX3_tryWalk_27 : decode cX3_tryWalk 27 = .ok (.iconst 0, 1) := dk_3 (dk_at dksX3_tryWalk_1 5 rfl rfl)
theorem dX3_tryWalk_28 : decode cX3_tryWalk 28 = .ok (.istore 4, 2) := dk_54 4 (dk_at dksX3_tryWalk_1 6 rfl rfl)
theorem dX3_tryWalk_30 : decode cX3_tryWalk 30 = .ok (.iload 4, 2) := dk_21 4 (dk_at dksX3_tryWalk_1 8 rfl rfl)
theorem dX3_tryWalk_32 : decode cX3_tryWalk 32 = .ok (.aload_n 0, 1) := dk_42 (dk_at dksX3_tryWalk_1 10 rfl rfl)
theorem dX3_tryWalk_33 : decode cX3_tryWalk 33 = .ok (.getfield 13, 3) := dk_180 0 13 (dk_at dksX3_tryWalk_1 11 rfl rfl)
theorem dX3_tryWalk_36 : decode cX3_tryWalk 36 = .ok (.if_icmp .ge 30, 3) := dk_162 0 30 (dk_at dksX3_tryWalk_1 14 rfl rfl)
theorem dX3_tryWalk_39 : decode cX3_tryWalk 39 = .ok (.iload_n 3, 1) := dk_29 (dk_at dksX3_tryWalk_1 17 rfl rfl)
theorem dX3_tryWalk_40 : decode cX3_tryWalk 40 = .ok (.ifCond .eq 18, 3) := dk_153 0 18 (dk_at dksX3_tryWalk_1 18 rfl rfl)
theorem dX3_tryWalk_43 : decode cX3_tryWalk 43 = .ok (.aload_n 0, 1) := dk_42 (dk_at dksX3_tryWalk_1 21 rfl rfl)
theorem dX3_tryWalk_44 : decode cX3_tryWalk 44 = .ok (.getfield 132, 3) := dk_180 0 132 (dk_at dksX3_tryWalk_2 0 rfl rfl)
theorem dX3_tryWalk_47 : decode cX3_tryWalk 47 = .ok (.iload 4, 2) := dk_21 4 (dk_at dksX3_tryWalk_2 3 rfl rfl)
theorem dX3_tryWalk_49 : decode cX3_tryWalk 49 = .ok (.iaload, 1) := dk_46 (dk_at dksX3_tryWalk_2 5 rfl rfl)
theorem dX3_tryWalk_50 : decode cX3_tryWalk 50 = .ok (.iload_n 2, 1) := dk_28 (dk_at dksX3_tryWalk_2 6 rfl rfl)
theorem dX3_tryWalk_51 : decode cX3_tryWalk 51 = .ok (.if_icmp .lt 7, 3) := dk_161 0 7 (dk_at dksX3_tryWalk_2 7 rfl rfl)
theorem dX3_tryWalk_54 : decode cX3_tryWalk 54 = .ok (.iconst 1, 1) := dk_4 (dk_at dksX3_tryWalk_2 10 rfl rfl)
theorem dX3_tryWalk_55 : decode cX3_tryWalk 55 = .ok (.goto 4, 3) := dk_167 0 4 (dk_at dksX3_tryWalk_2 11 rfl rfl)
theorem dX3_tryWalk_58 : decode cX3_tryWalk 58 = .ok (.iconst 0, 1) := dk_3 (dk_at dksX3_tryWalk_2 14 rfl rfl)
theorem dX3_tryWalk_59 : decode cX3_tryWalk 59 = .ok (.istore_n 3, 1) := dk_62 (dk_at dksX3_tryWalk_2 15 rfl rfl)
theorem dX3_tryWalk_60 : decode cX3_tryWalk 60 = .ok (.iinc 4 1, 3) := dk_132 4 1 (dk_at dksX3_tryWalk_2 16 rfl rfl)
theorem dX3_tryWalk_63 : decode cX3_tryWalk 63 = .ok (.goto (-33), 3) := dk_167 255 223 (dk_at dksX3_tryWalk_2 19 rfl rfl)
theorem dX3_tryWalk_66 : decode cX3_tryWalk 66 = .ok (.iload_n 3, 1) := dk_29 (dk_at dksX3_tryWalk_2 22 rfl rfl)
theorem dX3_tryWalk_67 : decode cX3_tryWalk 67 = .ok (.ifCond .ne 5, 3) := dk_154 0 5 (dk_at dksX3_tryWalk_3 0 rfl rfl)
theorem dX3_tryWalk_70 : decode cX3_tryWalk 70 = .ok (.iconst 0, 1) := dk_3 (dk_at dksX3_tryWalk_3 3 rfl rfl)
theorem dX3_tryWalk_71 : decode cX3_tryWalk 71 = .ok (.ireturn, 1) := dk_172 (dk_at dksX3_tryWalk_3 4 rfl rfl)
theorem dX3_tryWalk_72 : decode cX3_tryWalk 72 = .ok (.aload_n 0, 1) := dk_42 (dk_at dksX3_tryWalk_3 5 rfl rfl)
theorem dX3_tryWalk_73 : decode cX3_tryWalk 73 = .ok (.aload_n 0, 1) := dk_42 (dk_at dksX3_tryWalk_3 6 rfl rfl)
theorem dX3_tryWalk_74 : decode cX3_tryWalk 74 = .ok (.getfield 129, 3) := dk_180 0 129 (dk_at dksX3_tryWalk_3 7 rfl rfl)
theorem dX3_tryWalk_77 : decode cX3_tryWalk 77 = .ok (.iload_n 1, 1) := dk_27 (dk_at dksX3_tryWalk_3 10 rfl rfl)
theorem dX3_tryWalk_78 : decode cX3_tryWalk 78 = .ok (.invokevirtual 215, 3) := dk_182 0 215 (dk_at dksX3_tryWalk_3 11 rfl rfl)
theorem dX3_tryWalk_81 : decode cX3_tryWalk 81 = .ok (.iconst 0, 1) := dk_3 (dk_at dksX3_tryWalk_3 14 rfl rfl)
theorem dX3_tryWalk_82 : decode cX3_tryWalk 82 = .ok (.istore 4, 2) := dk_54 4 (dk_at dksX3_tryWalk_3 15 rfl rfl)
theorem dX3_tryWalk_84 : decode cX3_tryWalk 84 = .ok (.iload 4, 2) := dk_21 4 (dk_at dksX3_tryWalk_3 17 rfl rfl)
theorem dX3_tryWalk_86 : decode cX3_tryWalk 86 = .ok (.aload_n 0, 1) := dk_42 (dk_at dksX3_tryWalk_3 19 rfl rfl)
theorem dX3_tryWalk_87 : decode cX3_tryWalk 87 = .ok (.getfield 13, 3) := dk_180 0 13 (dk_at dksX3_tryWalk_3 20 rfl rfl)
theorem dX3_tryWalk_90 : decode cX3_tryWalk 90 = .ok (.if_icmp .ge 88, 3) := dk_162 0 88 (dk_at dksX3_tryWalk_4 0 rfl rfl)
theorem dX3_tryWalk_93 : decode cX3_tryWalk 93 = .ok (.aload_n 0, 1) := dk_42 (dk_at dksX3_tryWalk_4 3 rfl rfl)
theorem dX3_tryWalk_94 : decode cX3_tryWalk 94 = .ok (.getfield 132, 3) := dk_180 0 132 (dk_at dksX3_tryWalk_4 4 rfl rfl)
theorem dX3_tryWalk_97 : decode cX3_tryWalk 97 = .ok (.iload 4, 2) := dk_21 4 (dk_at dksX3_tryWalk_4 7 rfl rfl)
theorem dX3_tryWalk_99 : decode cX3_tryWalk 99 = .ok (.dup2, 1) := dk_92 (dk_at dksX3_tryWalk_4 9 rfl rfl)
theorem dX3_tryWalk_100 : decode cX3_tryWalk 100 = .ok (.iaload, 1) := dk_46 (dk_at dksX3_tryWalk_4 10 rfl rfl)
theorem dX3_tryWalk_101 : decode cX3_tryWalk 101 = .ok (.iload_n 2, 1) := dk_28 (dk_at dksX3_tryWalk_4 11 rfl rfl)
theorem dX3_tryWalk_102 : decode cX3_tryWalk 102 = .ok (.isub, 1) := dk_100 (dk_at dksX3_tryWalk_4 12 rfl rfl)
theorem dX3_tryWalk_103 : decode cX3_tryWalk 103 = .ok (.iastore, 1) := dk_79 (dk_at dksX3_tryWalk_4 13 rfl rfl)
theorem dX3_tryWalk_104 : decode cX3_tryWalk 104 = .ok (.iload_n 3, 1) := dk_29 (dk_at dksX3_tryWalk_4 14 rfl rfl)
theorem dX3_tryWalk_105 : decode cX3_tryWalk 105 = .ok (.ifCond .eq 57, 3) := dk_153 0 57 (dk_at dksX3_tryWalk_4 15 rfl rfl)
theorem dX3_tryWalk_108 : decode cX3_tryWalk 108 = .ok (.aload_n 0, 1) := dk_42 (dk_at dksX3_tryWalk_4 18 rfl rfl)
theorem dX3_tryWalk_109 : decode cX3_tryWalk 109 = .ok (.getfield 129, 3) := dk_180 0 129 (dk_at dksX3_tryWalk_4 19 rfl rfl)
theorem dX3_tryWalk_112 : decode cX3_tryWalk 112 = .ok (.iload 4, 2) := dk_21 4 (dk_at dksX3_tryWalk_4 22 rfl rfl)
theorem dX3_tryWalk_114 : decode cX3_tryWalk 114 = .ok (.iaload, 1) := dk_46 (dk_at dksX3_tryWalk_5 0 rfl rfl)
theorem dX3_tryWalk_115 : decode cX3_tryWalk 115 = .ok (.aload_n 0, 1) := dk_42 (dk_at dksX3_tryWalk_5 1 rfl rfl)
theorem dX3_tryWalk_116 : decode cX3_tryWalk 116 = .ok (.getfield 66, 3) := dk_180 0 66 (dk_at dksX3_tryWalk_5 2 rfl rfl)
theorem dX3_tryWalk_119 : decode cX3_tryWalk 119 = .ok (.bipush 9, 2) := dk_16 9 (dk_at dksX3_tryWalk_5 5 rfl rfl)
theorem dX3_tryWalk_121 : decode cX3_tryWalk 121 = .ok (.aload_n 0, 1) := dk_42 (dk_at dksX3_tryWalk_5 7 rfl rfl)
theorem dX3_tryWalk_122 : decode cX3_tryWalk 122 = .ok (.getfield 138, 3) := dk_180 0 138 (dk_at dksX3_tryWalk_5 8 rfl rfl)
theorem dX3_tryWalk_125 : decode cX3_tryWalk 125 = .ok (.imul, 1) := dk_104 (dk_at dksX3_tryWalk_5 11 rfl rfl)
theorem dX3_tryWalk_126 : decode cX3_tryWalk 126 = .ok (.iload 4, 2) := dk_21 4 (dk_at dksX3_tryWalk_5 12 rfl rfl)
theorem dX3_tryWalk_128 : decode cX3_tryWalk 128 = .ok (.iadd, 1) := dk_96 (dk_at dksX3_tryWalk_5 14 rfl rfl)
theorem dX3_tryWalk_129 : decode cX3_tryWalk 129 = .ok (.iaload, 1) := dk_46 (dk_at dksX3_tryWalk_5 15 rfl rfl)
theorem dX3_tryWalk_130 : decode cX3_tryWalk 130 = .ok (.if_icmp .ne 32, 3) := dk_160 0 32 (dk_at dksX3_tryWalk_5 16 rfl rfl)
theorem dX3_tryWalk_133 : decode cX3_tryWalk 133 = .ok (.aload_n 0, 1) := dk_42 (dk_at dksX3_tryWalk_5 19 rfl rfl)
theorem dX3_tryWalk_134 : decode cX3_tryWalk 134 = .ok (.getfield 135, 3) := dk_180 0 135 (dk_at dksX3_tryWalk_5 20 rfl rfl)
theorem dX3_tryWalk_137 : decode cX3_tryWalk 137 = .ok (.iload 4, 2) := dk_21 4 (dk_at dksX3_tryWalk_6 0 rfl rfl)
theorem dX3_tryWalk_139 : decode cX3_tryWalk 139 = .ok (.iaload, 1) := dk_46 (dk_at dksX3_tryWalk_6 2 rfl rfl)
theorem dX3_tryWalk_140 : decode cX3_tryWalk 140 = .ok (.aload_n 0, 1) := dk_42 (dk_at dksX3_tryWalk_6 3 rfl rfl)
theorem dX3_tryWalk_141 : decode cX3_tryWalk 141 = .ok (.getfield 69, 3) := dk_180 0 69 (dk_at dksX3_tryWalk_6 4 rfl rfl)
theorem dX3_tryWalk_144 : decode cX3_tryWalk 144 = .ok (.bipush 9, 2) := dk_16 9 (dk_at dksX3_tryWalk_6 7 rfl rfl)
theorem dX3_tryWalk_146 : decode cX3_tryWalk 146 = .ok (.aload_n 0, 1) := dk_42 (dk_at dksX3_tryWalk_6 9 rfl rfl)
theorem dX3_tryWalk_147 : decode cX3_tryWalk 147 = .ok (.getfield 138, 3) := dk_180 0 138 (dk_at dksX3_tryWalk_6 10 rfl rfl)
theorem dX3_tryWalk_150 : decode cX3_tryWalk 150 = .ok (.imul, 1) := dk_104 (dk_at dksX3_tryWalk_6 13 rfl rfl)
theorem dX3_tryWalk_151 : decode cX3_tryWalk 151 = .ok (.iload 4, 2) := dk_21 4 (dk_at dksX3_tryWalk_6 14 rfl rfl)
theorem dX3_tryWalk_153 : decode cX3_tryWalk 153 = .ok (.iadd, 1) := dk_96 (dk_at dksX3_tryWalk_6 16 rfl rfl)
theorem dX3_tryWalk_154 : decode cX3_tryWalk 154 = .ok (.iaload, 1) := dk_46 (dk_at dksX3_tryWalk_6 17 rfl rfl)
theorem dX3_tryWalk_155 : decode cX3_tryWalk 155 = .ok (.if_icmp .ne 7, 3) := dk_160 0 7 (dk_at dksX3_tryWalk_6 18 rfl rfl)
theorem dX3_tryWalk_158 : decode cX3_tryWalk 158 = .ok (.iconst 1, 1) := dk_4 (dk_at dksX3_tryWalk_6 21 rfl rfl)
theorem dX3_tryWalk_159 : decode cX3_tryWalk 159 = .ok (.goto 4, 3) := dk_167 0 4 (dk_at dksX3_tryWalk_7 0 rfl rfl)
theorem dX3_tryWalk_162 : decode cX3_tryWalk 162 = .ok (.iconst 0, 1) := dk_3 (dk_at dksX3_tryWalk_7 3 rfl rfl)
theorem dX3_tryWalk_163 : decode cX3_tryWalk 163 = .ok (.istore_n 3, 1) := dk_62 (dk_at dksX3_tryWalk_7 4 rfl rfl)
theorem dX3_tryWalk_164 : decode cX3_tryWalk 164 = .ok (.aload_n 0, 1) := dk_42 (dk_at dksX3_tryWalk_7 5 rfl rfl)
theorem dX3_tryWalk_165 : decode cX3_tryWalk 165 = .ok (.getfield 135, 3) := dk_180 0 135 (dk_at dksX3_tryWalk_7 6 rfl rfl)
theorem dX3_tryWalk_168 : decode cX3_tryWalk 168 = .ok (.iload 4, 2) := dk_21 4 (dk_at dksX3_tryWalk_7 9 rfl rfl)
theorem dX3_tryWalk_170 : decode cX3_tryWalk 170 = .ok (.iconst 0, 1) := dk_3 (dk_at dksX3_tryWalk_7 11 rfl rfl)
theorem dX3_tryWalk_171 : decode cX3_tryWalk 171 = .ok (.iastore, 1) := dk_79 (dk_at dksX3_tryWalk_7 12 rfl rfl)
theorem dX3_tryWalk_172 : decode cX3_tryWalk 172 = .ok (.iinc 4 1, 3) := dk_132 4 1 (dk_at dksX3_tryWalk_7 13 rfl rfl)
theorem dX3_tryWalk_175 : decode cX3_tryWalk 175 = .ok (.goto (-91), 3) := dk_167 255 165 (dk_at dksX3_tryWalk_7 16 rfl rfl)
theorem dX3_tryWalk_178 : decode cX3_tryWalk 178 = .ok (.aload_n 0, 1) := dk_42 (dk_at dksX3_tryWalk_7 19 rfl rfl)
theorem dX3_tryWalk_179 : decode cX3_tryWalk 179 = .ok (.dup, 1) := dk_89 (dk_at dksX3_tryWalk_7 20 rfl rfl)
theorem dX3_tryWalk_180 : decode cX3_tryWalk 180 = .ok (.getfield 138, 3) := dk_180 0 138 (dk_at dksX3_tryWalk_7 21 rfl rfl)
theorem dX3_tryWalk_183 : decode cX3_tryWalk 183 = .ok (.iconst 1, 1) := dk_4 (dk_at dksX3_tryWalk_8 0 rfl rfl)
theorem dX3_tryWalk_184 : decode cX3_tryWalk 184 = .ok (.iadd, 1) := dk_96 (dk_at dksX3_tryWalk_8 1 rfl rfl)
theorem dX3_tryWalk_185 : decode cX3_tryWalk 185 = .ok (.putfield 138, 3) := dk_181 0 138 (dk_at dksX3_tryWalk_8 2 rfl rfl)
theorem dX3_tryWalk_188 : decode cX3_tryWalk 188 = .ok (.iload_n 3, 1) := dk_29 (dk_at dksX3_tryWalk_8 5 rfl rfl)
theorem dX3_tryWalk_189 : decode cX3_tryWalk 189 = .ok (.ireturn, 1) := dk_172 (dk_at dksX3_tryWalk_8 6 rfl rfl)
abbrev cX3_tryPass : ByteArray := prog_17_method_50_code
def yX3_tryPass : MethodName := ⟨RX3, "tryPass", "(II)Z"⟩
def dkwX3_tryPass_6 : List UInt8 := [172]
abbrev dktX3_tryPass_6 : List UInt8 := dkwX3_tryPass_6 ++ []
def dkwX3_tryPass_5 : List UInt8 := [180, 0, 129, 29, 46, 79, 42, 180, 0, 129, 29, 21, 6, 79, 42, 180, 0, 135, 27, 28, 4, 96, 79, 4]
abbrev dktX3_tryPass_5 : List UInt8 := dkwX3_tryPass_5 ++ dktX3_tryPass_6
def dkwX3_tryPass_4 : List UInt8 := [180, 0, 132, 21, 5, 92, 46, 5, 100, 79, 42, 180, 0, 129, 27, 46, 54, 6, 42, 180, 0, 129, 27, 42]
abbrev dktX3_tryPass_4 : List UInt8 := dkwX3_tryPass_4 ++ dktX3_tryPass_5
def dkwX3_tryPass_3 : List UInt8 := [180, 0, 132, 21, 5, 46, 5, 162, 0, 5, 3, 172, 42, 180, 0, 132, 21, 4, 92, 46, 4, 100, 79, 42]
abbrev dktX3_tryPass_3 : List UInt8 := dkwX3_tryPass_3 ++ dktX3_tryPass_4
def dkwX3_tryPass_2 : List UInt8 := [167, 0, 9, 42, 180, 0, 129, 27, 46, 54, 5, 42, 180, 0, 132, 21, 4, 46, 4, 161, 0, 14, 42]
abbrev dktX3_tryPass_2 : List UInt8 := dkwX3_tryPass_2 ++ dktX3_tryPass_3
def dkwX3_tryPass_1 : List UInt8 := [27, 46, 167, 0, 9, 42, 180, 0, 129, 29, 46, 54, 4, 28, 154, 0, 12, 42, 180, 0, 129, 29, 46]
abbrev dktX3_tryPass_1 : List UInt8 := dkwX3_tryPass_1 ++ dktX3_tryPass_2
def dkwX3_tryPass_0 : List UInt8 := [27, 42, 180, 0, 13, 161, 0, 5, 3, 172, 42, 27, 182, 0, 207, 62, 28, 154, 0, 12, 42, 180, 0, 129]
abbrev dktX3_tryPass_0 : List UInt8 := dkwX3_tryPass_0 ++ dktX3_tryPass_1
theorem dksX3_tryPass_0 : cX3_tryPass.data.toList.drop 0 = dktX3_tryPass_0 := by decide +kernel
theorem dksX3_tryPass_1 : cX3_tryPass.data.toList.drop 24 = dktX3_tryPass_1 := dk_seg dksX3_tryPass_0 24 rfl rfl
theorem dksX3_tryPass_2 : cX3_tryPass.data.toList.drop 47 = dktX3_tryPass_2 := dk_seg dksX3_tryPass_1 23 rfl rfl
theorem dksX3_tryPass_3 : cX3_tryPass.data.toList.drop 70 = dktX3_tryPass_3 := dk_seg dksX3_tryPass_2 23 rfl rfl
theorem dksX3_tryPass_4 : cX3_tryPass.data.toList.drop 94 = dktX3_tryPass_4 := dk_seg dksX3_tryPass_3 24 rfl rfl
theorem dksX3_tryPass_5 : cX3_tryPass.data.toList.drop 118 = dktX3_tryPass_5 := dk_seg dksX3_tryPass_4 24 rfl rfl
theorem dksX3_tryPass_6 : cX3_tryPass.data.toList.drop 142 = dktX3_tryPass_6 := dk_seg dksX3_tryPass_5 24 rfl rfl
theorem dX3_tryPass_0 : decode cX3_tryPass 0 = .ok (.iload_n 1, 1) := dk_27 (dk_at dksX3_tryPass_0 0 rfl rfl)
theorem dX3_tryPass_1 : decode cX3_tryPass 1 = .ok (.aload_n 0, 1) := dk_42 (dk_at dksX3_tryPass_0 1 rfl rfl)
theorem dX3_tryPass_2 : decode cX3_tryPass 2 = .ok (.getfield 13, 3) := dk_180 0 13 (dk_at dksX3_tryPass_0 2 rfl rfl)
theorem dX3_tryPass_5 : decode cX3_tryPass 5 = .ok (.if_icmp .lt 5, 3) := dk_161 0 5 (dk_at dksX3_tryPass_0 5 rfl rfl)
theorem dX3_tryPass_8 : decode cX3_tryPass 8 = .ok (.iconst 0, 1) := dk_3 (dk_at dksX3_tryPass_0 8 rfl rfl)
theorem dX3_tryPass_9 : decode cX3_tryPass 9 = .ok (.ireturn, 1) := dk_172 (dk_at dksX3_tryPass_0 9 rfl rfl)
theorem dX3_tryPass_10 : decode cX3_tryPass 10 = .ok (.aload_n 0, 1) := dk_42 (dk_at dksX3_tryPass_0 10 rfl rfl)
theorem dX3_tryPass_11 : decode cX3_tryPass 11 = .ok (.iload_n 1, 1) := dk_27 (dk_at dksX3_tryPass_0 11 rfl rfl)
theorem dX3_tryPass_12 : decode cX3_tryPass 12 = .ok (.invokevirtual 207, 3) := dk_182 0 207 (dk_at dksX3_tryPass_0 12 rfl rfl)
theorem dX3_tryPass_15 : decode cX3_tryPass 15 = .ok (.istore_n 3, 1) := dk_62 (dk_at dksX3_tryPass_0 15 rfl rfl)
theorem dX3_tryPass_16 : decode cX3_tryPass 16 = .ok (.iload_n 2, 1) := dk_28 (dk_at dksX3_tryPass_0 16 rfl rfl)
theorem dX3_tryPass_17 : decode cX3_tryPass 17 = .ok (.ifCond .ne 12, 3) := dk_154 0 12 (dk_at dksX3_tryPass_0 17 rfl rfl)
theorem dX3_tryPass_20 : decode cX3_tryPass 20 = .ok (.aload_n 0, 1) := dk_42 (dk_at dksX3_tryPass_0 20 rfl rfl)
theorem dX3_tryPass_21 : decode cX3_tryPass 21 = .ok (.getfield 129, 3) := dk_180 0 129 (dk_at dksX3_tryPass_0 21 rfl rfl)
theorem dX3_tryPass_24 : decode cX3_tryPass 24 = .ok (.iload_n 1, 1) := dk_27 (dk_at dksX3_tryPass_1 0 rfl rfl)
theorem dX3_tryPass_25 : decode cX3_tryPass 25 = .ok (.iaload, 1) := dk_46 (dk_at dksX3_tryPass_1 1 rfl rfl)
theorem dX3_tryPass_26 : decode cX3_tryPass 26 = .ok (.goto 9, 3) := dk_167 0 9 (dk_at dksX3_tryPass_1 2 rfl rfl)
theorem dX3_tryPass_29 : decode cX3_tryPass 29 = .ok (.aload_n 0, 1) := dk_42 (dk_at dksX3_tryPass_1 5 rfl rfl)
theorem dX3_tryPass_30 : decode cX3_tryPass 30 = .ok (.getfield 129, 3) := dk_180 0 129 (dk_at dksX3_tryPass_1 6 rfl rfl)
theorem dX3_tryPass_33 : decode cX3_tryPass 33 = .ok (.iload_n 3, 1) := dk_29 (dk_at dksX3_tryPass_1 9 rfl rfl)
theorem dX3_tryPass_34 : decode cX3_tryPass 34 = .ok (.iaload, 1) := dk_46 (dk_at dksX3_tryPass_1 10 rfl rfl)
theorem dX3_tryPass_35 : decode cX3_tryPass 35 = .ok (.istore 4, 2) := dk_54 4 (dk_at dksX3_tryPass_1 11 rfl rfl)
theorem dX3_tryPass_37 : decode cX3_tryPass 37 = .ok (.iload_n 2, 1) := dk_28 (dk_at dksX3_tryPass_1 13 rfl rfl)
theorem dX3_tryPass_38 : decode cX3_tryPass 38 = .ok (.ifCond .ne 12, 3) := dk_154 0 12 (dk_at dksX3_tryPass_1 14 rfl rfl)
theorem dX3_tryPass_41 : decode cX3_tryPass 41 = .ok (.aload_n 0, 1) := dk_42 (dk_at dksX3_tryPass_1 17 rfl rfl)
theorem dX3_tryPass_42 : decode cX3_tryPass 42 = .ok (.getfield 129, 3) := dk_180 0 129 (dk_at dksX3_tryPass_1 18 rfl rfl)
theorem dX3_tryPass_45 : decode cX3_tryPass 45 = .ok (.iload_n 3, 1) := dk_29 (dk_at dksX3_tryPass_1 21 rfl rfl)
theorem dX3_tryPass_46 : decode cX3_tryPass 46 = .ok (.iaload, 1) := dk_46 (dk_at dksX3_tryPass_1 22 rfl rfl)
theorem dX3_tryPass_47 : decode cX3_tryPass 47 = .ok (.goto 9, 3) := dk_167 0 9 (dk_at dksX3_tryPass_2 0 rfl rfl)
theorem dX3_tryPass_50 : decode cX3_tryPass 50 = .ok (.aload_n 0, 1) := dk_42 (dk_at dksX3_tryPass_2 3 rfl rfl)
theorem dX3_tryPass_51 : decode cX3_tryPass 51 = .ok (.getfield 129, 3) := dk_180 0 129 (dk_at dksX3_tryPass_2 4 rfl rfl)
theorem dX3_tryPass_54 : decode cX3_tryPass 54 = .ok (.iload_n 1, 1) := dk_27 (dk_at dksX3_tryPass_2 7 rfl rfl)
theorem dX3_tryPass_55 : decode cX3_tryPass 55 = .ok (.iaload, 1) := dk_46 (dk_at dksX3_tryPass_2 8 rfl rfl)
theorem dX3_tryPass_56 : decode cX3_tryPass 56 = .ok (.istore 5, 2) := dk_54 5 (dk_at dksX3_tryPass_2 9 rfl rfl)
theorem dX3_tryPass_58 : decode cX3_tryPass 58 = .ok (.aload_n 0, 1) := dk_42 (dk_at dksX3_tryPass_2 11 rfl rfl)
theorem dX3_tryPass_59 : decode cX3_tryPass 59 = .ok (.getfield 132, 3) := dk_180 0 132 (dk_at dksX3_tryPass_2 12 rfl rfl)
theorem dX3_tryPass_62 : decode cX3_tryPass 62 = .ok (.iload 4, 2) := dk_21 4 (dk_at dksX3_tryPass_2 15 rfl rfl)
theorem dX3_tryPass_64 : decode cX3_tryPass 64 = .ok (.iaload, 1) := dk_46 (dk_at dksX3_tryPass_2 17 rfl rfl)
theorem dX3_tryPass_65 : decode cX3_tryPass 65 = .ok (.iconst 1, 1) := dk_4 (dk_at dksX3_tryPass_2 18 rfl rfl)
theorem dX3_tryPass_66 : decode cX3_tryPass 66 = .ok (.if_icmp .lt 14, 3) := dk_161 0 14 (dk_at dksX3_tryPass_2 19 rfl rfl)
theorem dX3_tryPass_69 : decode cX3_tryPass 69 = .ok (.aload_n 0, 1) := dk_42 (dk_at dksX3_tryPass_2 22 rfl rfl)
theorem dX3_tryPass_70 : decode cX3_tryPass 70 = .ok (.getfield 132, 3) := dk_180 0 132 (dk_at dksX3_tryPass_3 0 rfl rfl)
theorem dX3_tryPass_73 : decode cX3_tryPass 73 = .ok (.iload 5, 2) := dk_21 5 (dk_at dksX3_tryPass_3 3 rfl rfl)
theorem dX3_tryPass_75 : decode cX3_tryPass 75 = .ok (.iaload, 1) := dk_46 (dk_at dksX3_tryPass_3 5 rfl rfl)
theorem dX3_tryPass_76 : decode cX3_tryPass 76 = .ok (.iconst 2, 1) := dk_5 (dk_at dksX3_tryPass_3 6 rfl rfl)
theorem dX3_tryPass_77 : decode cX3_tryPass 77 = .ok (.if_icmp .ge 5, 3) := dk_162 0 5 (dk_at dksX3_tryPass_3 7 rfl rfl)
theorem dX3_tryPass_80 : decode cX3_tryPass 80 = .ok (.iconst 0, 1) := dk_3 (dk_at dksX3_tryPass_3 10 rfl rfl)
theorem dX3_tryPass_81 : decode cX3_tryPass 81 = .ok (.ireturn, 1) := dk_172 (dk_at dksX3_tryPass_3 11 rfl rfl)
theorem dX3_tryPass_82 : decode cX3_tryPass 82 = .ok (.aload_n 0, 1) := dk_42 (dk_at dksX3_tryPass_3 12 rfl rfl)
theorem dX3_tryPass_83 : decode cX3_tryPass 83 = .ok (.getfield 132, 3) := dk_180 0 132 (dk_at dksX3_tryPass_3 13 rfl rfl)
theorem dX3_tryPass_86 : decode cX3_tryPass 86 = .ok (.iload 4, 2) := dk_21 4 (dk_at dksX3_tryPass_3 16 rfl rfl)
theorem dX3_tryPass_88 : decode cX3_tryPass 88 = .ok (.dup2, 1) := dk_92 (dk_at dksX3_tryPass_3 18 rfl rfl)
theorem dX3_tryPass_89 : decode cX3_tryPass 89 = .ok (.iaload, 1) := dk_46 (dk_at dksX3_tryPass_3 19 rfl rfl)
theorem dX3_tryPass_90 : decode cX3_tryPass 90 = .ok (.iconst 1, 1) := dk_4 (dk_at dksX3_tryPass_3 20 rfl rfl)
theorem dX3_tryPass_91 : decode cX3_tryPass 91 = .ok (.isub, 1) := dk_100 (dk_at dksX3_tryPass_3 21 rfl rfl)
theorem dX3_tryPass_92 : decode cX3_tryPass 92 = .ok (.iastore, 1) := dk_79 (dk_at dksX3_tryPass_3 22 rfl rfl)
theorem dX3_tryPass_93 : decode cX3_tryPass 93 = .ok (.aload_n 0, 1) := dk_42 (dk_at dksX3_tryPass_3 23 rfl rfl)
theorem dX3_tryPass_94 : decode cX3_tryPass 94 = .ok (.getfield 132, 3) := dk_180 0 132 (dk_at dksX3_tryPass_4 0 rfl rfl)
theorem dX3_tryPass_97 : decode cX3_tryPass 97 = .ok (.iload 5, 2) := dk_21 5 (dk_at dksX3_tryPass_4 3 rfl rfl)
theorem dX3_tryPass_99 : decode cX3_tryPass 99 = .ok (.dup2, 1) := dk_92 (dk_at dksX3_tryPass_4 5 rfl rfl)
theorem dX3_tryPass_100 : decode cX3_tryPass 100 = .ok (.iaload, 1) := dk_46 (dk_at dksX3_tryPass_4 6 rfl rfl)
theorem dX3_tryPass_101 : decode cX3_tryPass 101 = .ok (.iconst 2, 1) := dk_5 (dk_at dksX3_tryPass_4 7 rfl rfl)
theorem dX3_tryPass_102 : decode cX3_tryPass 102 = .ok (.isub, 1) := dk_100 (dk_at dksX3_tryPass_4 8 rfl rfl)
theorem dX3_tryPass_103 : decode cX3_tryPass 103 = .ok (.iastore, 1) := dk_79 (dk_at dksX3_tryPass_4 9 rfl rfl)
theorem dX3_tryPass_104 : decode cX3_tryPass 104 = .ok (.aload_n 0, 1) := dk_42 (dk_at dksX3_tryPass_4 10 rfl rfl)
theorem dX3_tryPass_105 : decode cX3_tryPass 105 = .ok (.getfield 129, 3) := dk_180 0 129 (dk_at dksX3_tryPass_4 11 rfl rfl)
theorem dX3_tryPass_108 : decode cX3_tryPass 108 = .ok (.iload_n 1, 1) := dk_27 (dk_at dksX3_tryPass_4 14 rfl rfl)
theorem dX3_tryPass_109 : decode cX3_tryPass 109 = .ok (.iaload, 1) := dk_46 (dk_at dksX3_tryPass_4 15 rfl rfl)
theorem dX3_tryPass_110 : decode cX3_tryPass 110 = .ok (.istore 6, 2) := dk_54 6 (dk_at dksX3_tryPass_4 16 rfl rfl)
theorem dX3_tryPass_112 : decode cX3_tryPass 112 = .ok (.aload_n 0, 1) := dk_42 (dk_at dksX3_tryPass_4 18 rfl rfl)
theorem dX3_tryPass_113 : decode cX3_tryPass 113 = .ok (.getfield 129, 3) := dk_180 0 129 (dk_at dksX3_tryPass_4 19 rfl rfl)
theorem dX3_tryPass_116 : decode cX3_tryPass 116 = .ok (.iload_n 1, 1) := dk_27 (dk_at dksX3_tryPass_4 22 rfl rfl)
theorem dX3_tryPass_117 : decode cX3_tryPass 117 = .ok (.aload_n 0, 1) := dk_42 (dk_at dksX3_tryPass_4 23 rfl rfl)
theorem dX3_tryPass_118 : decode cX3_tryPass 118 = .ok (.getfield 129, 3) := dk_180 0 129 (dk_at dksX3_tryPass_5 0 rfl rfl)
theorem dX3_tryPass_121 : decode cX3_tryPass 121 = .ok (.iload_n 3, 1) := dk_29 (dk_at dksX3_tryPass_5 3 rfl rfl)
theorem dX3_tryPass_122 : decode cX3_tryPass 122 = .ok (.iaload, 1) := dk_46 (dk_at dksX3_tryPass_5 4 rfl rfl)
theorem dX3_tryPass_123 : decode cX3_tryPass 123 = .ok (.iastore, 1) := dk_79 (dk_at dksX3_tryPass_5 5 rfl rfl)
theorem dX3_tryPass_124 : decode cX3_tryPass 124 = .ok (.aload_n 0, 1) := dk_42 (dk_at dksX3_tryPass_5 6 rfl rfl)
theorem dX3_tryPass_125 : decode cX3_tryPass 125 = .ok (.getfield 129, 3) := dk_180 0 129 (dk_at dksX3_tryPass_5 7 rfl rfl)
theorem dX3_tryPass_128 : decode cX3_tryPass 128 = .ok (.iload_n 3, 1) := dk_29 (dk_at dksX3_tryPass_5 10 rfl rfl)
theorem dX3_tryPass_129 : decode cX3_tryPass 129 = .ok (.iload 6, 2) := dk_21 6 (dk_at dksX3_tryPass_5 11 rfl rfl)
theorem dX3_tryPass_131 : decode cX3_tryPass 131 = .ok (.iastore, 1) := dk_79 (dk_at dksX3_tryPass_5 13 rfl rfl)
theorem dX3_tryPass_132 : decode cX3_tryPass 132 = .ok (.aload_n 0, 1) := dk_42 (dk_at dksX3_tryPass_5 14 rfl rfl)
theorem dX3_tryPass_133 : decode cX3_tryPass 133 = .ok (.getfield 135, 3) := dk_180 0 135 (dk_at dksX3_tryPass_5 15 rfl rfl)
theorem dX3_tryPass_136 : decode cX3_tryPass 136 = .ok (.iload_n 1, 1) := dk_27 (dk_at dksX3_tryPass_5 18 rfl rfl)
theorem dX3_tryPass_137 : decode cX3_tryPass 137 = .ok (.iload_n 2, 1) := dk_28 (dk_at dksX3_tryPass_5 19 rfl rfl)
theorem dX3_tryPass_138 : decode cX3_tryPass 138 = .ok (.iconst 1, 1) := dk_4 (dk_at dksX3_tryPass_5 20 rfl rfl)
theorem dX3_tryPass_139 : decode cX3_tryPass 139 = .ok (.iadd, 1) := dk_96 (dk_at dksX3_tryPass_5 21 rfl rfl)
theorem dX3_tryPass_140 : decode cX3_tryPass 140 = .ok (.iastore, 1) := dk_79 (dk_at dksX3_tryPass_5 22 rfl rfl)
theorem dX3_tryPass_141 : decode cX3_tryPass 141 = .ok (.iconst 1, 1) := dk_4 (dk_at dksX3_tryPass_5 23 rfl rfl)
theorem dX3_tryPass_142 : decode cX3_tryPass 142 = .ok (.ireturn, 1) := dk_172 (dk_at dksX3_tryPass_6 0 rfl rfl)
abbrev cX3_slips : ByteArray := prog_17_method_55_code
def yX3_slips : MethodName := ⟨RX3, "slips", "(II)I"⟩
def dkwX3_slips_4 : List UInt8 := [167, 0, 4, 2, 172]
abbrev dktX3_slips_4 : List UInt8 := dkwX3_slips_4 ++ []
def dkwX3_slips_3 : List UInt8 := [108, 104, 21, 4, 6, 112, 96, 172, 132, 3, 1, 132, 4, 1, 167, 255, 200, 28, 2, 160, 0, 7, 29]
abbrev dktX3_slips_3 : List UInt8 := dkwX3_slips_3 ++ dktX3_slips_4
def dkwX3_slips_2 : List UInt8 := [108, 21, 4, 6, 112, 182, 1, 41, 154, 0, 6, 167, 0, 24, 29, 28, 160, 0, 16, 16, 10, 21, 4, 6]
abbrev dktX3_slips_2 : List UInt8 := dkwX3_slips_2 ++ dktX3_slips_3
def dkwX3_slips_1 : List UInt8 := [172, 3, 62, 3, 54, 4, 21, 4, 6, 42, 180, 0, 96, 27, 46, 104, 162, 0, 49, 42, 27, 21, 4, 6]
abbrev dktX3_slips_1 : List UInt8 := dkwX3_slips_1 ++ dktX3_slips_2
def dkwX3_slips_0 : List UInt8 := [42, 27, 182, 0, 244, 153, 0, 8, 28, 2, 162, 0, 5, 2, 172, 42, 180, 0, 44, 154, 0, 6, 16, 253]
abbrev dktX3_slips_0 : List UInt8 := dkwX3_slips_0 ++ dktX3_slips_1
theorem dksX3_slips_0 : cX3_slips.data.toList.drop 0 = dktX3_slips_0 := by decide +kernel
theorem dksX3_slips_1 : cX3_slips.data.toList.drop 24 = dktX3_slips_1 := dk_seg dksX3_slips_0 24 rfl rfl
theorem dksX3_slips_2 : cX3_slips.data.toList.drop 48 = dktX3_slips_2 := dk_seg dksX3_slips_1 24 rfl rfl
theorem dksX3_slips_3 : cX3_slips.data.toList.drop 72 = dktX3_slips_3 := dk_seg dksX3_slips_2 24 rfl rfl
theorem dksX3_slips_4 : cX3_slips.data.toList.drop 95 = dktX3_slips_4 := dk_seg dksX3_slips_3 23 rfl rfl
theorem dX3_slips_0 : decode cX3_slips 0 = .ok (.aload_n 0, 1) := dk_42 (dk_at dksX3_slips_0 0 rfl rfl)
theorem dX3_slips_1 : decode cX3_slips 1 = .ok (.iload_n 1, 1) := dk_27 (dk_at dksX3_slips_0 1 rfl rfl)
theorem dX3_slips_2 : decode cX3_slips 2 = .ok (.invokevirtual 244, 3) := dk_182 0 244 (dk_at dksX3_slips_0 2 rfl rfl)
theorem dX3_slips_5 : decode cX3_slips 5 = .ok (.ifCond .eq 8, 3) := dk_153 0 8 (dk_at dksX3_slips_0 5 rfl rfl)
theorem dX3_slips_8 : decode cX3_slips 8 = .ok (.iload_n 2, 1) := dk_28 (dk_at dksX3_slips_0 8 rfl rfl)
theorem dX3_slips_9 : decode cX3_slips 9 = .ok (.iconst (-1), 1) := dk_2 (dk_at dksX3_slips_0 9 rfl rfl)
theorem dX3_slips_10 : decode cX3_slips 10 = .ok (.if_icmp .ge 5, 3) := dk_162 0 5 (dk_at dksX3_slips_0 10 rfl rfl)
theorem dX3_slips_13 : decode cX3_slips 13 = .ok (.iconst (-1), 1) := dk_2 (dk_at dksX3_slips_0 13 rfl rfl)
theorem dX3_slips_14 : decode cX3_slips 14 = .ok (.ireturn, 1) := dk_172 (dk_at dksX3_slips_0 14 rfl rfl)
theorem dX3_slips_15 : decode cX3_slips 15 = .ok (.aload_n 0, 1) := dk_42 (dk_at dksX3_slips_0 15 rfl rfl)
theorem dX3_slips_16 : decode cX3_slips 16 = .ok (.getfield 44, 3) := dk_180 0 44 (dk_at dksX3_slips_0 16 rfl rfl)
theorem dX3_slips_19 : decode cX3_slips 19 = .ok (.ifCond .ne 6, 3) := dk_154 0 6 (dk_at dksX3_slips_0 19 rfl rfl)
theorem dX3_slips_22 : decode cX3_slips 22 = .ok (.bipush (-3), 2) := dk_16 253 (dk_at dksX3_slips_0 22 rfl rfl)
theorem dX3_slips_24 : decode cX3_slips 24 = .ok (.ireturn, 1) := dk_172 (dk_at dksX3_slips_1 0 rfl rfl)
theorem dX3_slips_25 : decode cX3_slips 25 = .ok (.iconst 0, 1) := dk_3 (dk_at dksX3_slips_1 1 rfl rfl)
theorem dX3_slips_26 : decode cX3_slips 26 = .ok (.istore_n 3, 1) := dk_62 (dk_at dksX3_slips_1 2 rfl rfl)
theorem dX3_slips_27 : decode cX3_slips 27 = .ok (.iconst 0, 1) := dk_3 (dk_at dksX3_slips_1 3 rfl rfl)
theorem dX3_slips_28 : decode cX3_slips 28 = .ok (.istore 4, 2) := dk_54 4 (dk_at dksX3_slips_1 4 rfl rfl)
theorem dX3_slips_30 : decode cX3_slips 30 = .ok (.iload 4, 2) := dk_21 4 (dk_at dksX3_slips_1 6 rfl rfl)
theorem dX3_slips_32 : decode cX3_slips 32 = .ok (.iconst 3, 1) := dk_6 (dk_at dksX3_slips_1 8 rfl rfl)
theorem dX3_slips_33 : decode cX3_slips 33 = .ok (.aload_n 0, 1) := dk_42 (dk_at dksX3_slips_1 9 rfl rfl)
theorem dX3_slips_34 : decode cX3_slips 34 = .ok (.getfield 96, 3) := dk_180 0 96 (dk_at dksX3_slips_1 10 rfl rfl)
theorem dX3_slips_37 : decode cX3_slips 37 = .ok (.iload_n 1, 1) := dk_27 (dk_at dksX3_slips_1 13 rfl rfl)
theorem dX3_slips_38 : decode cX3_slips 38 = .ok (.iaload, 1) := dk_46 (dk_at dksX3_slips_1 14 rfl rfl)
theorem dX3_slips_39 : decode cX3_slips 39 = .ok (.imul, 1) := dk_104 (dk_at dksX3_slips_1 15 rfl rfl)
theorem dX3_slips_40 : decode cX3_slips 40 = .ok (.if_icmp .ge 49, 3) := dk_162 0 49 (dk_at dksX3_slips_1 16 rfl rfl)
theorem dX3_slips_43 : decode cX3_slips 43 = .ok (.aload_n 0, 1) := dk_42 (dk_at dksX3_slips_1 19 rfl rfl)
theorem dX3_slips_44 : decode cX3_slips 44 = .ok (.iload_n 1, 1) := dk_27 (dk_at dksX3_slips_1 20 rfl rfl)
theorem dX3_slips_45 : decode cX3_slips 45 = .ok (.iload 4, 2) := dk_21 4 (dk_at dksX3_slips_1 21 rfl rfl)
theorem dX3_slips_47 : decode cX3_slips 47 = .ok (.iconst 3, 1) := dk_6 (dk_at dksX3_slips_1 23 rfl rfl)
theorem dX3_slips_48 : decode cX3_slips 48 = .ok (.idiv, 1) := dk_108 (dk_at dksX3_slips_2 0 rfl rfl)
theorem dX3_slips_49 : decode cX3_slips 49 = .ok (.iload 4, 2) := dk_21 4 (dk_at dksX3_slips_2 1 rfl rfl)
theorem dX3_slips_51 : decode cX3_slips 51 = .ok (.iconst 3, 1) := dk_6 (dk_at dksX3_slips_2 3 rfl rfl)
theorem dX3_slips_52 : decode cX3_slips 52 = .ok (.irem, 1) := dk_112 (dk_at dksX3_slips_2 4 rfl rfl)
theorem dX3_slips_53 : decode cX3_slips 53 = .ok (.invokevirtual 297, 3) := dk_182 1 41 (dk_at dksX3_slips_2 5 rfl rfl)
theorem dX3_slips_56 : decode cX3_slips 56 = .ok (.ifCond .ne 6, 3) := dk_154 0 6 (dk_at dksX3_slips_2 8 rfl rfl)
theorem dX3_slips_59 : decode cX3_slips 59 = .ok (.goto 24, 3) := dk_167 0 24 (dk_at dksX3_slips_2 11 rfl rfl)
theorem dX3_slips_62 : decode cX3_slips 62 = .ok (.iload_n 3, 1) := dk_29 (dk_at dksX3_slips_2 14 rfl rfl)
theorem dX3_slips_63 : decode cX3_slips 63 = .ok (.iload_n 2, 1) := dk_28 (dk_at dksX3_slips_2 15 rfl rfl)
theorem dX3_slips_64 : decode cX3_slips 64 = .ok (.if_icmp .ne 16, 3) := dk_160 0 16 (dk_at dksX3_slips_2 16 rfl rfl)
theorem dX3_slips_67 : decode cX3_slips 67 = .ok (.bipush 10, 2) := dk_16 10 (dk_at dksX3_slips_2 19 rfl rfl)
theorem dX3_slips_69 : decode cX3_slips 69 = .ok (.iload 4, 2) := dk_21 4 (dk_at dksX3_slips_2 21 rfl rfl)
theorem dX3_slips_71 : decode cX3_slips 71 = .ok (.iconst 3, 1) := dk_6 (dk_at dksX3_slips_2 23 rfl rfl)
theorem dX3_slips_72 : decode cX3_slips 72 = .ok (.idiv, 1) := dk_108 (dk_at dksX3_slips_3 0 rfl rfl)
theorem dX3_slips_73 : decode cX3_slips 73 = .ok (.imul, 1) := dk_104 (dk_at dksX3_slips_3 1 rfl rfl)
theorem dX3_slips_74 : decode cX3_slips 74 = .ok (.iload 4, 2) := dk_21 4 (dk_at dksX3_slips_3 2 rfl rfl)
theorem dX3_slips_76 : decode cX3_slips 76 = .ok (.iconst 3, 1) := dk_6 (dk_at dksX3_slips_3 4 rfl rfl)
theorem dX3_slips_77 : decode cX3_slips 77 = .ok (.irem, 1) := dk_112 (dk_at dksX3_slips_3 5 rfl rfl)
theorem dX3_slips_78 : decode cX3_slips 78 = .ok (.iadd, 1) := dk_96 (dk_at dksX3_slips_3 6 rfl rfl)
theorem dX3_slips_79 : decode cX3_slips 79 = .ok (.ireturn, 1) := dk_172 (dk_at dksX3_slips_3 7 rfl rfl)
theorem dX3_slips_80 : decode cX3_slips 80 = .ok (.iinc 3 1, 3) := dk_132 3 1 (dk_at dksX3_slips_3 8 rfl rfl)
theorem dX3_slips_83 : decode cX3_slips 83 = .ok (.iinc 4 1, 3) := dk_132 4 1 (dk_at dksX3_slips_3 11 rfl rfl)
theorem dX3_slips_86 : decode cX3_slips 86 = .ok (.goto (-56), 3) := dk_167 255 200 (dk_at dksX3_slips_3 14 rfl rfl)
theorem dX3_slips_89 : decode cX3_slips 89 = .ok (.iload_n 2, 1) := dk_28 (dk_at dksX3_slips_3 17 rfl rfl)
theorem dX3_slips_90 : decode cX3_slips 90 = .ok (.iconst (-1), 1) := dk_2 (dk_at dksX3_slips_3 18 rfl rfl)
theorem dX3_slips_91 : decode cX3_slips 91 = .ok (.if_icmp .ne 7, 3) := dk_160 0 7 (dk_at dksX3_slips_3 19 rfl rfl)
theorem dX3_slips_94 : decode cX3_slips 94 = .ok (.iload_n 3, 1) := dk_29 (dk_at dksX3_slips_3 22 rfl rfl)
theorem dX3_slips_95 : decode cX3_slips 95 = .ok (.goto 4, 3) := dk_167 0 4 (dk_at dksX3_slips_4 0 rfl rfl)
theorem dX3_slips_98 : decode cX3_slips 98 = .ok (.iconst (-1), 1) := dk_2 (dk_at dksX3_slips_4 3 rfl rfl)
theorem dX3_slips_99 : decode cX3_slips 99 = .ok (.ireturn, 1) := dk_172 (dk_at dksX3_slips_4 4 rfl rfl)
abbrev cX3_fewest : ByteArray := prog_17_method_60_code
def yX3_fewest : MethodName := ⟨RX3, "fewest", "(II)I"⟩
def dkwX3_fewest_14 : List UInt8 := [46, 167, 0, 4, 2, 172]
abbrev dktX3_fewest_14 : List UInt8 := dkwX3_fewest_14 ++ []
def dkwX3_fewest_13 : List UInt8 := [2, 160, 0, 10, 42, 180, 0, 159, 167, 0, 21, 28, 42, 180, 0, 159, 162, 0, 12, 42, 180, 0, 156, 28]
abbrev dktX3_fewest_13 : List UInt8 := dkwX3_fewest_13 ++ dktX3_fewest_14
def dkwX3_fewest_12 : List UInt8 := [180, 0, 156, 42, 180, 0, 159, 21, 5, 79, 42, 89, 180, 0, 159, 4, 96, 181, 0, 159, 167, 255, 146, 28]
abbrev dktX3_fewest_12 : List UInt8 := dkwX3_fewest_12 ++ dktX3_fewest_13
def dkwX3_fewest_11 : List UInt8 := [21, 5, 182, 1, 51, 132, 5, 1, 42, 42, 180, 0, 144, 21, 5, 182, 1, 51, 167, 255, 213, 42]
abbrev dktX3_fewest_11 : List UInt8 := dkwX3_fewest_11 ++ dktX3_fewest_12
def dkwX3_fewest_10 : List UInt8 := [180, 0, 150, 42, 42, 180, 0, 144, 182, 1, 44, 46, 21, 4, 4, 100, 159, 0, 29, 42, 42, 180, 0, 144]
abbrev dktX3_fewest_10 : List UInt8 := dkwX3_fewest_10 ++ dktX3_fewest_11
def dkwX3_fewest_9 : List UInt8 := [42, 180, 0, 144, 182, 1, 44, 46, 54, 4, 3, 54, 5, 42, 42, 180, 0, 144, 3, 182, 1, 51, 42]
abbrev dktX3_fewest_9 : List UInt8 := dkwX3_fewest_9 ++ dktX3_fewest_10
def dkwX3_fewest_8 : List UInt8 := [181, 0, 159, 42, 180, 0, 150, 42, 42, 180, 0, 144, 182, 1, 44, 46, 158, 0, 100, 42, 180, 0, 150, 42]
abbrev dktX3_fewest_8 : List UInt8 := dkwX3_fewest_8 ++ dktX3_fewest_9
def dkwX3_fewest_7 : List UInt8 := [42, 180, 0, 144, 21, 4, 42, 180, 0, 29, 21, 4, 46, 79, 132, 4, 1, 167, 255, 230, 42, 3]
abbrev dktX3_fewest_7 : List UInt8 := dkwX3_fewest_7 ++ dktX3_fewest_8
def dkwX3_fewest_6 : List UInt8 := [4, 100, 159, 0, 6, 16, 254, 172, 42, 182, 1, 57, 3, 54, 4, 21, 4, 42, 180, 0, 13, 162, 0, 23]
abbrev dktX3_fewest_6 : List UInt8 := dkwX3_fewest_6 ++ dktX3_fewest_7
def dkwX3_fewest_5 : List UInt8 := [128, 62, 42, 180, 0, 147, 21, 4, 21, 5, 79, 132, 4, 1, 167, 255, 202, 29, 4, 42, 180, 0, 13, 120]
abbrev dktX3_fewest_5 : List UInt8 := dkwX3_fewest_5 ++ dktX3_fewest_6
def dkwX3_fewest_4 : List UInt8 := [104, 21, 4, 96, 46, 54, 5, 42, 21, 5, 182, 0, 199, 154, 0, 6, 16, 254, 172, 29, 4, 21, 5, 120]
abbrev dktX3_fewest_4 : List UInt8 := dkwX3_fewest_4 ++ dktX3_fewest_5
def dkwX3_fewest_3 : List UInt8 := [16, 243, 172, 3, 62, 3, 54, 4, 21, 4, 42, 180, 0, 13, 162, 0, 51, 42, 180, 0, 189, 16, 60, 27]
abbrev dktX3_fewest_3 : List UInt8 := dkwX3_fewest_3 ++ dktX3_fewest_4
def dkwX3_fewest_2 : List UInt8 := [180, 0, 183, 27, 46, 153, 0, 6, 16, 244, 172, 42, 180, 0, 186, 27, 46, 42, 180, 0, 13, 162, 0, 6]
abbrev dktX3_fewest_2 : List UInt8 := dkwX3_fewest_2 ++ dktX3_fewest_3
def dkwX3_fewest_1 : List UInt8 := [180, 0, 13, 16, 7, 164, 0, 6, 16, 253, 172, 42, 180, 0, 183, 27, 46, 156, 0, 6, 16, 245, 172, 42]
abbrev dktX3_fewest_1 : List UInt8 := dkwX3_fewest_1 ++ dktX3_fewest_2
def dkwX3_fewest_0 : List UInt8 := [42, 27, 182, 1, 54, 153, 0, 8, 28, 2, 162, 0, 5, 2, 172, 42, 180, 0, 13, 153, 0, 12, 42]
abbrev dktX3_fewest_0 : List UInt8 := dkwX3_fewest_0 ++ dktX3_fewest_1
theorem dksX3_fewest_0 : cX3_fewest.data.toList.drop 0 = dktX3_fewest_0 := by decide +kernel
theorem dksX3_fewest_1 : cX3_fewest.data.toList.drop 23 = dktX3_fewest_1 := dk_seg dksX3_fewest_0 23 rfl rfl
theorem dksX3_fewest_2 : cX3_fewest.data.toList.drop 47 = dktX3_fewest_2 := dk_seg dksX3_fewest_1 24 rfl rfl
theorem dksX3_fewest_3 : cX3_fewest.data.toList.drop 71 = dktX3_fewest_3 := dk_seg dksX3_fewest_2 24 rfl rfl
theorem dksX3_fewest_4 : cX3_fewest.data.toList.drop 95 = dktX3_fewest_4 := dk_seg dksX3_fewest_3 24 rfl rfl
theorem dksX3_fewest_5 : cX3_fewest.data.toList.drop 119 = dktX3_fewest_5 := dk_seg dksX3_fewest_4 24 rfl rfl
theorem dksX3_fewest_6 : cX3_fewest.data.toList.drop 143 = dktX3_fewest_6 := dk_seg dksX3_fewest_5 24 rfl rfl
theorem dksX3_fewest_7 : cX3_fewest.data.toList.drop 167 = dktX3_fewest_7 := dk_seg dksX3_fewest_6 24 rfl rfl
theorem dksX3_fewest_8 : cX3_fewest.data.toList.drop 189 = dktX3_fewest_8 := dk_seg dksX3_fewest_7 22 rfl rfl
theorem dksX3_fewest_9 : cX3_fewest.data.toList.drop 213 = dktX3_fewest_9 := dk_seg dksX3_fewest_8 24 rfl rfl
theorem dksX3_fewest_10 : cX3_fewest.data.toList.drop 236 = dktX3_fewest_10 := dk_seg dksX3_fewest_9 23 rfl rfl
theorem dksX3_fewest_11 : cX3_fewest.data.toList.drop 260 = dktX3_fewest_11 := dk_seg dksX3_fewest_10 24 rfl rfl
theorem dksX3_fewest_12 : cX3_fewest.data.toList.drop 282 = dktX3_fewest_12 := dk_seg dksX3_fewest_11 22 rfl rfl
theorem dksX3_fewest_13 : cX3_fewest.data.toList.drop 306 = dktX3_fewest_13 := dk_seg dksX3_fewest_12 24 rfl rfl
theorem dksX3_fewest_14 : cX3_fewest.data.toList.drop 330 = dktX3_fewest_14 := dk_seg dksX3_fewest_13 24 rfl rfl
theorem dX3_fewest_0 : decode cX3_fewest 0 = .ok (.aload_n 0, 1) := dk_42 (dk_at dksX3_fewest_0 0 rfl rfl)
theorem dX3_fewest_1 : decode cX3_fewest 1 = .ok (.iload_n 1, 1) := dk_27 (dk_at dksX3_fewest_0 1 rfl rfl)
theorem dX3_fewest_2 : decode cX3_fewest 2 = .ok (.invokevirtual 310, 3) := dk_182 1 54 (dk_at dksX3_fewest_0 2 rfl rfl)
theorem dX3_fewest_5 : decode cX3_fewest 5 = .ok (.ifCond .eq 8, 3) := dk_153 0 8 (dk_at dksX3_fewest_0 5 rfl rfl)
theorem dX3_fewest_8 : decode cX3_fewest 8 = .ok (.iload_n 2, 1) := dk_28 (dk_at dksX3_fewest_0 8 rfl rfl)
theorem dX3_fewest_9 : decode cX3_fewest 9 = .ok (.iconst (-1), 1) := dk_2 (dk_at dksX3_fewest_0 9 rfl rfl)
theorem dX3_fewest_10 : decode cX3_fewest 10 = .ok (.if_icmp .ge 5, 3) := dk_162 0 5 (dk_at dksX3_fewest_0 10 rfl rfl)
theorem dX3_fewest_13 : decode cX3_fewest 13 = .ok (.iconst (-1), 1) := dk_2 (dk_at dksX3_fewest_0 13 rfl rfl)
theorem dX3_fewest_14 : decode cX3_fewest 14 = .ok (.ireturn, 1) := dk_172 (dk_at dksX3_fewest_0 14 rfl rfl)
theorem dX3_fewest_15 : decode cX3_fewest 15 = .ok (.aload_n 0, 1) := dk_42 (dk_at dksX3_fewest_0 15 rfl rfl)
theorem dX3_fewest_16 : decode cX3_fewest 16 = .ok (.getfield 13, 3) := dk_180 0 13 (dk_at dksX3_fewest_0 16 rfl rfl)
theorem dX3_fewest_19 : decode cX3_fewest 19 = .ok (.ifCond .eq 12, 3) := dk_153 0 12 (dk_at dksX3_fewest_0 19 rfl rfl)
theorem dX3_fewest_22 : decode cX3_fewest 22 = .ok (.aload_n 0, 1) := dk_42 (dk_at dksX3_fewest_0 22 rfl rfl)
theorem dX3_fewest_23 : decode cX3_fewest 23 = .ok (.getfield 13, 3) := dk_180 0 13 (dk_at dksX3_fewest_1 0 rfl rfl)
theorem dX3_fewest_26 : decode cX3_fewest 26 = .ok (.bipush 7, 2) := dk_16 7 (dk_at dksX3_fewest_1 3 rfl rfl)
theorem dX3_fewest_28 : decode cX3_fewest 28 = .ok (.if_icmp .le 6, 3) := dk_164 0 6 (dk_at dksX3_fewest_1 5 rfl rfl)
theorem dX3_fewest_31 : decode cX3_fewest 31 = .ok (.bipush (-3), 2) := dk_16 253 (dk_at dksX3_fewest_1 8 rfl rfl)
theorem dX3_fewest_33 : decode cX3_fewest 33 = .ok (.ireturn, 1) := dk_172 (dk_at dksX3_fewest_1 10 rfl rfl)
theorem dX3_fewest_34 : decode cX3_fewest 34 = .ok (.aload_n 0, 1) := dk_42 (dk_at dksX3_fewest_1 11 rfl rfl)
theorem dX3_fewest_35 : decode cX3_fewest 35 = .ok (.getfield 183, 3) := dk_180 0 183 (dk_at dksX3_fewest_1 12 rfl rfl)
theorem dX3_fewest_38 : decode cX3_fewest 38 = .ok (.iload_n 1, 1) := dk_27 (dk_at dksX3_fewest_1 15 rfl rfl)
theorem dX3_fewest_39 : decode cX3_fewest 39 = .ok (.iaload, 1) := dk_46 (dk_at dksX3_fewest_1 16 rfl rfl)
theorem dX3_fewest_40 : decode cX3_fewest 40 = .ok (.ifCond .ge 6, 3) := dk_156 0 6 (dk_at dksX3_fewest_1 17 rfl rfl)
theorem dX3_fewest_43 : decode cX3_fewest 43 = .ok (.bipush (-11), 2) := dk_16 245 (dk_at dksX3_fewest_1 20 rfl rfl)
theorem dX3_fewest_45 : decode cX3_fewest 45 = .ok (.ireturn, 1) := dk_172 (dk_at dksX3_fewest_1 22 rfl rfl)
theorem dX3_fewest_46 : decode cX3_fewest 46 = .ok (.aload_n 0, 1) := dk_42 (dk_at dksX3_fewest_1 23 rfl rfl)
theorem dX3_fewest_47 : decode cX3_fewest 47 = .ok (.getfield 183, 3) := dk_180 0 183 (dk_at dksX3_fewest_2 0 rfl rfl)
theorem dX3_fewest_50 : decode cX3_fewest 50 = .ok (.iload_n 1, 1) := dk_27 (dk_at dksX3_fewest_2 3 rfl rfl)
theorem dX3_fewest_51 : decode cX3_fewest 51 = .ok (.iaload, 1) := dk_46 (dk_at dksX3_fewest_2 4 rfl rfl)
theorem dX3_fewest_52 : decode cX3_fewest 52 = .ok (.ifCond .eq 6, 3) := dk_153 0 6 (dk_at dksX3_fewest_2 5 rfl rfl)
theorem dX3_fewest_55 : decode cX3_fewest 55 = .ok (.bipush (-12), 2) := dk_16 244 (dk_at dksX3_fewest_2 8 rfl rfl)
theorem dX3_fewest_57 : decode cX3_fewest 57 = .ok (.ireturn, 1) := dk_172 (dk_at dksX3_fewest_2 10 rfl rfl)
theorem dX3_fewest_58 : decode cX3_fewest 58 = .ok (.aload_n 0, 1) := dk_42 (dk_at dksX3_fewest_2 11 rfl rfl)
theorem dX3_fewest_59 : decode cX3_fewest 59 = .ok (.getfield 186, 3) := dk_180 0 186 (dk_at dksX3_fewest_2 12 rfl rfl)
theorem dX3_fewest_62 : decode cX3_fewest 62 = .ok (.iload_n 1, 1) := dk_27 (dk_at dksX3_fewest_2 15 rfl rfl)
theorem dX3_fewest_63 : decode cX3_fewest 63 = .ok (.iaload, 1) := dk_46 (dk_at dksX3_fewest_2 16 rfl rfl)
theorem dX3_fewest_64 : decode cX3_fewest 64 = .ok (.aload_n 0, 1) := dk_42 (dk_at dksX3_fewest_2 17 rfl rfl)
theorem dX3_fewest_65 : decode cX3_fewest 65 = .ok (.getfield 13, 3) := dk_180 0 13 (dk_at dksX3_fewest_2 18 rfl rfl)
theorem dX3_fewest_68 : decode cX3_fewest 68 = .ok (.if_icmp .ge 6, 3) := dk_162 0 6 (dk_at dksX3_fewest_2 21 rfl rfl)
theorem dX3_fewest_71 : decode cX3_fewest 71 = .ok (.bipush (-13), 2) := dk_16 243 (dk_at dksX3_fewest_3 0 rfl rfl)
theorem dX3_fewest_73 : decode cX3_fewest 73 = .ok (.ireturn, 1) := dk_172 (dk_at dksX3_fewest_3 2 rfl rfl)
theorem dX3_fewest_74 : decode cX3_fewest 74 = .ok (.iconst 0, 1) := dk_3 (dk_at dksX3_fewest_3 3 rfl rfl)
theorem dX3_fewest_75 : decode cX3_fewest 75 = .ok (.istore_n 3, 1) := dk_62 (dk_at dksX3_fewest_3 4 rfl rfl)
theorem dX3_fewest_76 : decode cX3_fewest 76 = .ok (.iconst 0, 1) := dk_3 (dk_at dksX3_fewest_3 5 rfl rfl)
theorem dX3_fewest_77 : decode cX3_fewest 77 = .ok (.istore 4, 2) := dk_54 4 (dk_at dksX3_fewest_3 6 rfl rfl)
theorem dX3_fewest_79 : decode cX3_fewest 79 = .ok (.iload 4, 2) := dk_21 4 (dk_at dksX3_fewest_3 8 rfl rfl)
theorem dX3_fewest_81 : decode cX3_fewest 81 = .ok (.aload_n 0, 1) := dk_42 (dk_at dksX3_fewest_3 10 rfl rfl)
theorem dX3_fewest_82 : decode cX3_fewest 82 = .ok (.getfield 13, 3) := dk_180 0 13 (dk_at dksX3_fewest_3 11 rfl rfl)
theorem dX3_fewest_85 : decode cX3_fewest 85 = .ok (.if_icmp .ge 51, 3) := dk_162 0 51 (dk_at dksX3_fewest_3 14 rfl rfl)
theorem dX3_fewest_88 : decode cX3_fewest 88 = .ok (.aload_n 0, 1) := dk_42 (dk_at dksX3_fewest_3 17 rfl rfl)
theorem dX3_fewest_89 : decode cX3_fewest 89 = .ok (.getfield 189, 3) := dk_180 0 189 (dk_at dksX3_fewest_3 18 rfl rfl)
theorem dX3_fewest_92 : decode cX3_fewest 92 = .ok (.bipush 60, 2) := dk_16 60 (dk_at dksX3_fewest_3 21 rfl rfl)
theorem dX3_fewest_94 : decode cX3_fewest 94 = .ok (.iload_n 1, 1) := dk_27 (dk_at dksX3_fewest_3 23 rfl rfl)
theorem dX3_fewest_95 : decode cX3_fewest 95 = .ok (.imul, 1) := dk_104 (dk_at dksX3_fewest_4 0 rfl rfl)
theorem dX3_fewest_96 : decode cX3_fewest 96 = .ok (.iload 4, 2) := dk_21 4 (dk_at dksX3_fewest_4 1 rfl rfl)
theorem dX3_fewest_98 : decode cX3_fewest 98 = .ok (.iadd, 1) := dk_96 (dk_at dksX3_fewest_4 3 rfl rfl)
theorem dX3_fewest_99 : decode cX3_fewest 99 = .ok (.iaload, 1) := dk_46 (dk_at dksX3_fewest_4 4 rfl rfl)
theorem dX3_fewest_100 : decode cX3_fewest 100 = .ok (.istore 5, 2) := dk_54 5 (dk_at dksX3_fewest_4 5 rfl rfl)
theorem dX3_fewest_102 : decode cX3_fewest 102 = .ok (.aload_n 0, 1) := dk_42 (dk_at dksX3_fewest_4 7 rfl rfl)
theorem dX3_fewest_103 : decode cX3_fewest 103 = .ok (.iload 5, 2) := dk_21 5 (dk_at dksX3_fewest_4 8 rfl rfl)
theorem dX3_fewest_105 : decode cX3_fewest 105 = .ok (.invokevirtual 199, 3) := dk_182 0 199 (dk_at dksX3_fewest_4 10 rfl rfl)
theorem dX3_fewest_108 : decode cX3_fewest 108 = .ok (.ifCond .ne 6, 3) := dk_154 0 6 (dk_at dksX3_fewest_4 13 rfl rfl)
theorem dX3_fewest_111 : decode cX3_fewest 111 = .ok (.bipush (-2), 2) := dk_16 254 (dk_at dksX3_fewest_4 16 rfl rfl)
theorem dX3_fewest_113 : decode cX3_fewest 113 = .ok (.ireturn, 1) := dk_172 (dk_at dksX3_fewest_4 18 rfl rfl)
theorem dX3_fewest_114 : decode cX3_fewest 114 = .ok (.iload_n 3, 1) := dk_29 (dk_at dksX3_fewest_4 19 rfl rfl)
theorem dX3_fewest_115 : decode cX3_fewest 115 = .ok (.iconst 1, 1) := dk_4 (dk_at dksX3_fewest_4 20 rfl rfl)
theorem dX3_fewest_116 : decode cX3_fewest 116 = .ok (.iload 5, 2) := dk_21 5 (dk_at dksX3_fewest_4 21 rfl rfl)
theorem dX3_fewest_118 : decode cX3_fewest 118 = .ok (.ishl, 1) := dk_120 (dk_at dksX3_fewest_4 23 rfl rfl)
theorem dX3_fewest_119 : decode cX3_fewest 119 = .ok (.ior, 1) := dk_128 (dk_at dksX3_fewest_5 0 rfl rfl)
theorem dX3_fewest_120 : decode cX3_fewest 120 = .ok (.istore_n 3, 1) := dk_62 (dk_at dksX3_fewest_5 1 rfl rfl)
theorem dX3_fewest_121 : decode cX3_fewest 121 = .ok (.aload_n 0, 1) := dk_42 (dk_at dksX3_fewest_5 2 rfl rfl)
theorem dX3_fewest_122 : decode cX3_fewest 122 = .ok (.getfield 147, 3) := dk_180 0 147 (dk_at dksX3_fewest_5 3 rfl rfl)
theorem dX3_fewest_125 : decode cX3_fewest 125 = .ok (.iload 4, 2) := dk_21 4 (dk_at dksX3_fewest_5 6 rfl rfl)
theorem dX3_fewest_127 : decode cX3_fewest 127 = .ok (.iload 5, 2) := dk_21 5 (dk_at dksX3_fewest_5 8 rfl rfl)
theorem dX3_fewest_129 : decode cX3_fewest 129 = .ok (.iastore, 1) := dk_79 (dk_at dksX3_fewest_5 10 rfl rfl)
theorem dX3_fewest_130 : decode cX3_fewest 130 = .ok (.iinc 4 1, 3) := dk_132 4 1 (dk_at dksX3_fewest_5 11 rfl rfl)
theorem dX3_fewest_133 : decode cX3_fewest 133 = .ok (.goto (-54), 3) := dk_167 255 202 (dk_at dksX3_fewest_5 14 rfl rfl)
theorem dX3_fewest_136 : decode cX3_fewest 136 = .ok (.iload_n 3, 1) := dk_29 (dk_at dksX3_fewest_5 17 rfl rfl)
theorem dX3_fewest_137 : decode cX3_fewest 137 = .ok (.iconst 1, 1) := dk_4 (dk_at dksX3_fewest_5 18 rfl rfl)
theorem dX3_fewest_138 : decode cX3_fewest 138 = .ok (.aload_n 0, 1) := dk_42 (dk_at dksX3_fewest_5 19 rfl rfl)
theorem dX3_fewest_139 : decode cX3_fewest 139 = .ok (.getfield 13, 3) := dk_180 0 13 (dk_at dksX3_fewest_5 20 rfl rfl)
theorem dX3_fewest_142 : decode cX3_fewest 142 = .ok (.ishl, 1) := dk_120 (dk_at dksX3_fewest_5 23 rfl rfl)
theorem dX3_fewest_143 : decode cX3_fewest 143 = .ok (.iconst 1, 1) := dk_4 (dk_at dksX3_fewest_6 0 rfl rfl)
theorem dX3_fewest_144 : decode cX3_fewest 144 = .ok (.isub, 1) := dk_100 (dk_at dksX3_fewest_6 1 rfl rfl)
theorem dX3_fewest_145 : decode cX3_fewest 145 = .ok (.if_icmp .eq 6, 3) := dk_159 0 6 (dk_at dksX3_fewest_6 2 rfl rfl)
theorem dX3_fewest_148 : decode cX3_fewest 148 = .ok (.bipush (-2), 2) := dk_16 254 (dk_at dksX3_fewest_6 5 rfl rfl)
theorem dX3_fewest_150 : decode cX3_fewest 150 = .ok (.ireturn, 1) := dk_172 (dk_at dksX3_fewest_6 7 rfl rfl)
theorem dX3_fewest_151 : decode cX3_fewest 151 = .ok (.aload_n 0, 1) := dk_42 (dk_at dksX3_fewest_6 8 rfl rfl)
theorem dX3_fewest_152 : decode cX3_fewest 152 = .ok (.invokevirtual 313, 3) := dk_182 1 57 (dk_at dksX3_fewest_6 9 rfl rfl)
theorem dX3_fewest_155 : decode cX3_fewest 155 = .ok (.iconst 0, 1) := dk_3 (dk_at dksX3_fewest_6 12 rfl rfl)
theorem dX3_fewest_156 : decode cX3_fewest 156 = .ok (.istore 4, 2) := dk_54 4 (dk_at dksX3_fewest_6 13 rfl rfl)
theorem dX3_fewest_158 : decode cX3_fewest 158 = .ok (.iload 4, 2) := dk_21 4 (dk_at dksX3_fewest_6 15 rfl rfl)
theorem dX3_fewest_160 : decode cX3_fewest 160 = .ok (.aload_n 0, 1) := dk_42 (dk_at dksX3_fewest_6 17 rfl rfl)
theorem dX3_fewest_161 : decode cX3_fewest 161 = .ok (.getfield 13, 3) := dk_180 0 13 (dk_at dksX3_fewest_6 18 rfl rfl)
theorem dX3_fewest_164 : decode cX3_fewest 164 = .ok (.if_icmp .ge 23, 3) := dk_162 0 23 (dk_at dksX3_fewest_6 21 rfl rfl)
theorem dX3_fewest_167 : decode cX3_fewest 167 = .ok (.aload_n 0, 1) := dk_42 (dk_at dksX3_fewest_7 0 rfl rfl)
theorem dX3_fewest_168 : decode cX3_fewest 168 = .ok (.getfield 144, 3) := dk_180 0 144 (dk_at dksX3_fewest_7 1 rfl rfl)
theorem dX3_fewest_171 : decode cX3_fewest 171 = .ok (.iload 4, 2) := dk_21 4 (dk_at dksX3_fewest_7 4 rfl rfl)
theorem dX3_fewest_173 : decode cX3_fewest 173 = .ok (.aload_n 0, 1) := dk_42 (dk_at dksX3_fewest_7 6 rfl rfl)
theorem dX3_fewest_174 : decode cX3_fewest 174 = .ok (.getfield 29, 3) := dk_180 0 29 (dk_at dksX3_fewest_7 7 rfl rfl)
theorem dX3_fewest_177 : decode cX3_fewest 177 = .ok (.iload 4, 2) := dk_21 4 (dk_at dksX3_fewest_7 10 rfl rfl)
theorem dX3_fewest_179 : decode cX3_fewest 179 = .ok (.iaload, 1) := dk_46 (dk_at dksX3_fewest_7 12 rfl rfl)
theorem dX3_fewest_180 : decode cX3_fewest 180 = .ok (.iastore, 1) := dk_79 (dk_at dksX3_fewest_7 13 rfl rfl)
theorem dX3_fewest_181 : decode cX3_fewest 181 = .ok (.iinc 4 1, 3) := dk_132 4 1 (dk_at dksX3_fewest_7 14 rfl rfl)
theorem dX3_fewest_184 : decode cX3_fewest 184 = .ok (.goto (-26), 3) := dk_167 255 230 (dk_at dksX3_fewest_7 17 rfl rfl)
theorem dX3_fewest_187 : decode cX3_fewest 187 = .ok (.aload_n 0, 1) := dk_42 (dk_at dksX3_fewest_7 20 rfl rfl)
theorem dX3_fewest_188 : decode cX3_fewest 188 = .ok (.iconst 0, 1) := dk_3 (dk_at dksX3_fewest_7 21 rfl rfl)
theorem dX3_fewest_189 : decode cX3_fewest 189 = .ok (.putfield 159, 3) := dk_181 0 159 (dk_at dksX3_fewest_8 0 rfl rfl)
theorem dX3_fewest_192 : decode cX3_fewest 192 = .ok (.aload_n 0, 1) := dk_42 (dk_at dksX3_fewest_8 3 rfl rfl)
theorem dX3_fewest_193 : decode cX3_fewest 193 = .ok (.getfield 150, 3) := dk_180 0 150 (dk_at dksX3_fewest_8 4 rfl rfl)
theorem dX3_fewest_196 : decode cX3_fewest 196 = .ok (.aload_n 0, 1) := dk_42 (dk_at dksX3_fewest_8 7 rfl rfl)
theorem dX3_fewest_197 : decode cX3_fewest 197 = .ok (.aload_n 0, 1) := dk_42 (dk_at dksX3_fewest_8 8 rfl rfl)
theorem dX3_fewest_198 : decode cX3_fewest 198 = .ok (.getfield 144, 3) := dk_180 0 144 (dk_at dksX3_fewest_8 9 rfl rfl)
theorem dX3_fewest_201 : decode cX3_fewest 201 = .ok (.invokevirtual 300, 3) := dk_182 1 44 (dk_at dksX3_fewest_8 12 rfl rfl)
theorem dX3_fewest_204 : decode cX3_fewest 204 = .ok (.iaload, 1) := dk_46 (dk_at dksX3_fewest_8 15 rfl rfl)
theorem dX3_fewest_205 : decode cX3_fewest 205 = .ok (.ifCond .le 100, 3) := dk_158 0 100 (dk_at dksX3_fewest_8 16 rfl rfl)
theorem dX3_fewest_208 : decode cX3_fewest 208 = .ok (.aload_n 0, 1) := dk_42 (dk_at dksX3_fewest_8 19 rfl rfl)
theorem dX3_fewest_209 : decode cX3_fewest 209 = .ok (.getfield 150, 3) := dk_180 0 150 (dk_at dksX3_fewest_8 20 rfl rfl)
theorem dX3_fewest_212 : decode cX3_fewest 212 = .ok (.aload_n 0, 1) := dk_42 (dk_at dksX3_fewest_8 23 rfl rfl)
theorem dX3_fewest_213 : decode cX3_fewest 213 = .ok (.aload_n 0, 1) := dk_42 (dk_at dksX3_fewest_9 0 rfl rfl)
theorem dX3_fewest_214 : decode cX3_fewest 214 = .ok (.getfield 144, 3) := dk_180 0 144 (dk_at dksX3_fewest_9 1 rfl rfl)
theorem dX3_fewest_217 : decode cX3_fewest 217 = .ok (.invokevirtual 300, 3) := dk_182 1 44 (dk_at dksX3_fewest_9 4 rfl rfl)
theorem dX3_fewest_220 : decode cX3_fewest 220 = .ok (.iaload, 1) := dk_46 (dk_at dksX3_fewest_9 7 rfl rfl)
theorem dX3_fewest_221 : decode cX3_fewest 221 = .ok (.istore 4, 2) := dk_54 4 (dk_at dksX3_fewest_9 8 rfl rfl)
theorem dX3_fewest_223 : decode cX3_fewest 223 = .ok (.iconst 0, 1) := dk_3 (dk_at dksX3_fewest_9 10 rfl rfl)
theorem dX3_fewest_224 : decode cX3_fewest 224 = .ok (.istore 5, 2) := dk_54 5 (dk_at dksX3_fewest_9 11 rfl rfl)
theorem dX3_fewest_226 : decode cX3_fewest 226 = .ok (.aload_n 0, 1) := dk_42 (dk_at dksX3_fewest_9 13 rfl rfl)
theorem dX3_fewest_227 : decode cX3_fewest 227 = .ok (.aload_n 0, 1) := dk_42 (dk_at dksX3_fewest_9 14 rfl rfl)
theorem dX3_fewest_228 : decode cX3_fewest 228 = .ok (.getfield 144, 3) := dk_180 0 144 (dk_at dksX3_fewest_9 15 rfl rfl)
theorem dX3_fewest_231 : decode cX3_fewest 231 = .ok (.iconst 0, 1) := dk_3 (dk_at dksX3_fewest_9 18 rfl rfl)
theorem dX3_fewest_232 : decode cX3_fewest 232 = .ok (.invokevirtual 307, 3) := dk_182 1 51 (dk_at dksX3_fewest_9 19 rfl rfl)
theorem dX3_fewest_235 : decode cX3_fewest 235 = .ok (.aload_n 0, 1) := dk_42 (dk_at dksX3_fewest_9 22 rfl rfl)
theorem dX3_fewest_236 : decode cX3_fewest 236 = .ok (.getfield 150, 3) := dk_180 0 150 (dk_at dksX3_fewest_10 0 rfl rfl)
theorem dX3_fewest_239 : decode cX3_fewest 239 = .ok (.aload_n 0, 1) := dk_42 (dk_at dksX3_fewest_10 3 rfl rfl)
theorem dX3_fewest_240 : decode cX3_fewest 240 = .ok (.aload_n 0, 1) := dk_42 (dk_at dksX3_fewest_10 4 rfl rfl)
theorem dX3_fewest_241 : decode cX3_fewest 241 = .ok (.getfield 144, 3) := dk_180 0 144 (dk_at dksX3_fewest_10 5 rfl rfl)
theorem dX3_fewest_244 : decode cX3_fewest 244 = .ok (.invokevirtual 300, 3) := dk_182 1 44 (dk_at dksX3_fewest_10 8 rfl rfl)
theorem dX3_fewest_247 : decode cX3_fewest 247 = .ok (.iaload, 1) := dk_46 (dk_at dksX3_fewest_10 11 rfl rfl)
theorem dX3_fewest_248 : decode cX3_fewest 248 = .ok (.iload 4, 2) := dk_21 4 (dk_at dksX3_fewest_10 12 rfl rfl)
theorem dX3_fewest_250 : decode cX3_fewest 250 = .ok (.iconst 1, 1) := dk_4 (dk_at dksX3_fewest_10 14 rfl rfl)
theorem dX3_fewest_251 : decode cX3_fewest 251 = .ok (.isub, 1) := dk_100 (dk_at dksX3_fewest_10 15 rfl rfl)
theorem dX3_fewest_252 : decode cX3_fewest 252 = .ok (.if_icmp .eq 29, 3) := dk_159 0 29 (dk_at dksX3_fewest_10 16 rfl rfl)
theorem dX3_fewest_255 : decode cX3_fewest 255 = .ok (.aload_n 0, 1) := dk_42 (dk_at dksX3_fewest_10 19 rfl rfl)
theorem dX3_fewest_256 : decode cX3_fewest 256 = .ok (.aload_n 0, 1) := dk_42 (dk_at dksX3_fewest_10 20 rfl rfl)
theorem dX3_fewest_257 : decode cX3_fewest 257 = .ok (.getfield 144, 3) := dk_180 0 144 (dk_at dksX3_fewest_10 21 rfl rfl)
theorem dX3_fewest_260 : decode cX3_fewest 260 = .ok (.iload 5, 2) := dk_21 5 (dk_at dksX3_fewest_11 0 rfl rfl)
theorem dX3_fewest_262 : decode cX3_fewest 262 = .ok (.invokevirtual 307, 3) := dk_182 1 51 (dk_at dksX3_fewest_11 2 rfl rfl)
theorem dX3_fewest_265 : decode cX3_fewest 265 = .ok (.iinc 5 1, 3) := dk_132 5 1 (dk_at dksX3_fewest_11 5 rfl rfl)
theorem dX3_fewest_268 : decode cX3_fewest 268 = .ok (.aload_n 0, 1) := dk_42 (dk_at dksX3_fewest_11 8 rfl rfl)
theorem dX3_fewest_269 : decode cX3_fewest 269 = .ok (.aload_n 0, 1) := dk_42 (dk_at dksX3_fewest_11 9 rfl rfl)
theorem dX3_fewest_270 : decode cX3_fewest 270 = .ok (.getfield 144, 3) := dk_180 0 144 (dk_at dksX3_fewest_11 10 rfl rfl)
theorem dX3_fewest_273 : decode cX3_fewest 273 = .ok (.iload 5, 2) := dk_21 5 (dk_at dksX3_fewest_11 13 rfl rfl)
theorem dX3_fewest_275 : decode cX3_fewest 275 = .ok (.invokevirtual 307, 3) := dk_182 1 51 (dk_at dksX3_fewest_11 15 rfl rfl)
theorem dX3_fewest_278 : decode cX3_fewest 278 = .ok (.goto (-43), 3) := dk_167 255 213 (dk_at dksX3_fewest_11 18 rfl rfl)
theorem dX3_fewest_281 : decode cX3_fewest 281 = .ok (.aload_n 0, 1) := dk_42 (dk_at dksX3_fewest_11 21 rfl rfl)
theorem dX3_fewest_282 : decode cX3_fewest 282 = .ok (.getfield 156, 3) := dk_180 0 156 (dk_at dksX3_fewest_12 0 rfl rfl)
theorem dX3_fewest_285 : decode cX3_fewest 285 = .ok (.aload_n 0, 1) := dk_42 (dk_at dksX3_fewest_12 3 rfl rfl)
theorem dX3_fewest_286 : decode cX3_fewest 286 = .ok (.getfield 159, 3) := dk_180 0 159 (dk_at dksX3_fewest_12 4 rfl rfl)
theorem dX3_fewest_289 : decode cX3_fewest 289 = .ok (.iload 5, 2) := dk_21 5 (dk_at dksX3_fewest_12 7 rfl rfl)
theorem dX3_fewest_291 : decode cX3_fewest 291 = .ok (.iastore, 1) := dk_79 (dk_at dksX3_fewest_12 9 rfl rfl)
theorem dX3_fewest_292 : decode cX3_fewest 292 = .ok (.aload_n 0, 1) := dk_42 (dk_at dksX3_fewest_12 10 rfl rfl)
theorem dX3_fewest_293 : decode cX3_fewest 293 = .ok (.dup, 1) := dk_89 (dk_at dksX3_fewest_12 11 rfl rfl)
theorem dX3_fewest_294 : decode cX3_fewest 294 = .ok (.getfield 159, 3) := dk_180 0 159 (dk_at dksX3_fewest_12 12 rfl rfl)
theorem dX3_fewest_297 : decode cX3_fewest 297 = .ok (.iconst 1, 1) := dk_4 (dk_at dksX3_fewest_12 15 rfl rfl)
theorem dX3_fewest_298 : decode cX3_fewest 298 = .ok (.iadd, 1) := dk_96 (dk_at dksX3_fewest_12 16 rfl rfl)
theorem dX3_fewest_299 : decode cX3_fewest 299 = .ok (.putfield 159, 3) := dk_181 0 159 (dk_at dksX3_fewest_12 17 rfl rfl)
theorem dX3_fewest_302 : decode cX3_fewest 302 = .ok (.goto (-110), 3) := dk_167 255 146 (dk_at dksX3_fewest_12 20 rfl rfl)
theorem dX3_fewest_305 : decode cX3_fewest 305 = .ok (.iload_n 2, 1) := dk_28 (dk_at dksX3_fewest_12 23 rfl rfl)
theorem dX3_fewest_306 : decode cX3_fewest 306 = .ok (.iconst (-1), 1) := dk_2 (dk_at dksX3_fewest_13 0 rfl rfl)
theorem dX3_fewest_307 : decode cX3_fewest 307 = .ok (.if_icmp .ne 10, 3) := dk_160 0 10 (dk_at dksX3_fewest_13 1 rfl rfl)
theorem dX3_fewest_310 : decode cX3_fewest 310 = .ok (.aload_n 0, 1) := dk_42 (dk_at dksX3_fewest_13 4 rfl rfl)
theorem dX3_fewest_311 : decode cX3_fewest 311 = .ok (.getfield 159, 3) := dk_180 0 159 (dk_at dksX3_fewest_13 5 rfl rfl)
theorem dX3_fewest_314 : decode cX3_fewest 314 = .ok (.goto 21, 3) := dk_167 0 21 (dk_at dksX3_fewest_13 8 rfl rfl)
theorem dX3_fewest_317 : decode cX3_fewest 317 = .ok (.iload_n 2, 1) := dk_28 (dk_at dksX3_fewest_13 11 rfl rfl)
theorem dX3_fewest_318 : decode cX3_fewest 318 = .ok (.aload_n 0, 1) := dk_42 (dk_at dksX3_fewest_13 12 rfl rfl)
theorem dX3_fewest_319 : decode cX3_fewest 319 = .ok (.getfield 159, 3) := dk_180 0 159 (dk_at dksX3_fewest_13 13 rfl rfl)
theorem dX3_fewest_322 : decode cX3_fewest 322 = .ok (.if_icmp .ge 12, 3) := dk_162 0 12 (dk_at dksX3_fewest_13 16 rfl rfl)
theorem dX3_fewest_325 : decode cX3_fewest 325 = .ok (.aload_n 0, 1) := dk_42 (dk_at dksX3_fewest_13 19 rfl rfl)
theorem dX3_fewest_326 : decode cX3_fewest 326 = .ok (.getfield 156, 3) := dk_180 0 156 (dk_at dksX3_fewest_13 20 rfl rfl)
theorem dX3_fewest_329 : decode cX3_fewest 329 = .ok (.iload_n 2, 1) := dk_28 (dk_at dksX3_fewest_13 23 rfl rfl)
theorem dX3_fewest_330 : decode cX3_fewest 330 = .ok (.iaload, 1) := dk_46 (dk_at dksX3_fewest_14 0 rfl rfl)
theorem dX3_fewest_331 : decode cX3_fewest 331 = .ok (.goto 4, 3) := dk_167 0 4 (dk_at dksX3_fewest_14 1 rfl rfl)
theorem dX3_fewest_334 : decode cX3_fewest 334 = .ok (.iconst (-1), 1) := dk_2 (dk_at dksX3_fewest_14 4 rfl rfl)
theorem dX3_fewest_335 : decode cX3_fewest 335 = .ok (.ireturn, 1) := dk_172 (dk_at dksX3_fewest_14 5 rfl rfl)
abbrev cX3_isTape : ByteArray := prog_17_method_76_code
def yX3_isTape : MethodName := ⟨RX3, "isTape", "(I)Z"⟩
def dkwX3_isTape_0 : List UInt8 := [42, 27, 3, 8, 182, 0, 195, 172]
abbrev dktX3_isTape_0 : List UInt8 := dkwX3_isTape_0 ++ []
theorem dksX3_isTape_0 : cX3_isTape.data.toList.drop 0 = dktX3_isTape_0 := by decide +kernel
theorem dX3_isTape_0 : decode cX3_isTape 0 = .ok (.aload_n 0, 1) := dk_42 (dk_at dksX3_isTape_0 0 rfl rfl)
theorem dX3_isTape_1 : decode cX3_isTape 1 = .ok (.iload_n 1, 1) := dk_27 (dk_at dksX3_isTape_0 1 rfl rfl)
theorem dX3_isTape_2 : decode cX3_isTape 2 = .ok (.iconst 0, 1) := dk_3 (dk_at dksX3_isTape_0 2 rfl rfl)
theorem dX3_isTape_3 : decode cX3_isTape 3 = .ok (.iconst 5, 1) := dk_8 (dk_at dksX3_isTape_0 3 rfl rfl)
theorem dX3_isTape_4 : decode cX3_isTape 4 = .ok (.invokevirtual 195, 3) := dk_182 0 195 (dk_at dksX3_isTape_0 4 rfl rfl)
theorem dX3_isTape_7 : decode cX3_isTape 7 = .ok (.ireturn, 1) := dk_172 (dk_at dksX3_isTape_0 7 rfl rfl)
abbrev cX3_findFar : ByteArray := prog_17_method_59_code
def yX3_findFar : MethodName := ⟨RX3, "findFar", "()V"⟩
def dkwX3_findFar_7 : List UInt8 := [79, 132, 3, 1, 42, 42, 180, 0, 144, 21, 5, 182, 1, 51, 132, 5, 1, 167, 255, 182, 167, 255, 141, 177]
abbrev dktX3_findFar_7 : List UInt8 := dkwX3_findFar_7 ++ []
def dkwX3_findFar_6 : List UInt8 := [21, 6, 46, 156, 0, 25, 42, 180, 0, 150, 21, 6, 21, 4, 4, 96, 79, 42, 180, 0, 153, 29, 21, 6]
abbrev dktX3_findFar_6 : List UInt8 := dkwX3_findFar_6 ++ dktX3_findFar_7
def dkwX3_findFar_5 : List UInt8 := [42, 42, 180, 0, 144, 21, 5, 182, 1, 51, 42, 42, 180, 0, 144, 182, 1, 44, 54, 6, 42, 180, 0, 150]
abbrev dktX3_findFar_5 : List UInt8 := dkwX3_findFar_5 ++ dktX3_findFar_6
def dkwX3_findFar_4 : List UInt8 := [28, 46, 42, 180, 0, 144, 182, 1, 47, 132, 2, 1, 3, 54, 5, 21, 5, 42, 180, 0, 13, 162, 0, 71]
abbrev dktX3_findFar_4 : List UInt8 := dkwX3_findFar_4 ++ dktX3_findFar_5
def dkwX3_findFar_3 : List UInt8 := [79, 28, 29, 162, 0, 116, 42, 180, 0, 150, 42, 180, 0, 153, 28, 46, 46, 54, 4, 42, 42, 180, 0, 153]
abbrev dktX3_findFar_3 : List UInt8 := dkwX3_findFar_3 ++ dktX3_findFar_4
def dkwX3_findFar_2 : List UInt8 := [180, 0, 153, 3, 42, 42, 180, 0, 147, 182, 1, 44, 79, 42, 180, 0, 150, 42, 180, 0, 153, 3, 46, 3]
abbrev dktX3_findFar_2 : List UInt8 := dkwX3_findFar_2 ++ dktX3_findFar_3
def dkwX3_findFar_1 : List UInt8 := [28, 27, 162, 0, 16, 42, 180, 0, 150, 28, 2, 79, 132, 2, 1, 167, 255, 241, 3, 61, 4, 62, 42]
abbrev dktX3_findFar_1 : List UInt8 := dkwX3_findFar_1 ++ dktX3_findFar_2
def dkwX3_findFar_0 : List UInt8 := [4, 60, 5, 61, 28, 42, 180, 0, 13, 163, 0, 13, 27, 28, 104, 60, 132, 2, 1, 167, 255, 241, 3, 61]
abbrev dktX3_findFar_0 : List UInt8 := dkwX3_findFar_0 ++ dktX3_findFar_1
theorem dksX3_findFar_0 : cX3_findFar.data.toList.drop 0 = dktX3_findFar_0 := by decide +kernel
theorem dksX3_findFar_1 : cX3_findFar.data.toList.drop 24 = dktX3_findFar_1 := dk_seg dksX3_findFar_0 24 rfl rfl
theorem dksX3_findFar_2 : cX3_findFar.data.toList.drop 47 = dktX3_findFar_2 := dk_seg dksX3_findFar_1 23 rfl rfl
theorem dksX3_findFar_3 : cX3_findFar.data.toList.drop 71 = dktX3_findFar_3 := dk_seg dksX3_findFar_2 24 rfl rfl
theorem dksX3_findFar_4 : cX3_findFar.data.toList.drop 95 = dktX3_findFar_4 := dk_seg dksX3_findFar_3 24 rfl rfl
theorem dksX3_findFar_5 : cX3_findFar.data.toList.drop 119 = dktX3_findFar_5 := dk_seg dksX3_findFar_4 24 rfl rfl
theorem dksX3_findFar_6 : cX3_findFar.data.toList.drop 143 = dktX3_findFar_6 := dk_seg dksX3_findFar_5 24 rfl rfl
theorem dksX3_findFar_7 : cX3_findFar.data.toList.drop 167 = dktX3_findFar_7 := dk_seg dksX3_findFar_6 24 rfl rfl
theorem dX3_findFar_0 : decode cX3_findFar 0 = .ok (.iconst 1, 1) := dk_4 (dk_at dksX3_findFar_0 0 rfl rfl)
theorem dX3_findFar_1 : decode cX3_findFar 1 = .ok (.istore_n 1, 1) := dk_60 (dk_at dksX3_findFar_0 1 rfl rfl)
theorem dX3_findFar_2 : decode cX3_findFar 2 = .ok (.iconst 2, 1) := dk_5 (dk_at dksX3_findFar_0 2 rfl rfl)
theorem dX3_findFar_3 : decode cX3_findFar 3 = .ok (.istore_n 2, 1) := dk_61 (dk_at dksX3_findFar_0 3 rfl rfl)
theorem dX3_findFar_4 : decode cX3_findFar 4 = .ok (.iload_n 2, 1) := dk_28 (dk_at dksX3_findFar_0 4 rfl rfl)
theorem dX3_findFar_5 : decode cX3_findFar 5 = .ok (.aload_n 0, 1) := dk_42 (dk_at dksX3_findFar_0 5 rfl rfl)
theorem dX3_findFar_6 : decode cX3_findFar 6 = .ok (.getfield 13, 3) := dk_180 0 13 (dk_at dksX3_findFar_0 6 rfl rfl)
theorem dX3_findFar_9 : decode cX3_findFar 9 = .ok (.if_icmp .gt 13, 3) := dk_163 0 13 (dk_at dksX3_findFar_0 9 rfl rfl)
theorem dX3_findFar_12 : decode cX3_findFar 12 = .ok (.iload_n 1, 1) := dk_27 (dk_at dksX3_findFar_0 12 rfl rfl)
theorem dX3_findFar_13 : decode cX3_findFar 13 = .ok (.iload_n 2, 1) := dk_28 (dk_at dksX3_findFar_0 13 rfl rfl)
theorem dX3_findFar_14 : decode cX3_findFar 14 = .ok (.imul, 1) := dk_104 (dk_at dksX3_findFar_0 14 rfl rfl)
theorem dX3_findFar_15 : decode cX3_findFar 15 = .ok (.istore_n 1, 1) := dk_60 (dk_at dksX3_findFar_0 15 rfl rfl)
theorem dX3_findFar_16 : decode cX3_findFar 16 = .ok (.iinc 2 1, 3) := dk_132 2 1 (dk_at dksX3_findFar_0 16 rfl rfl)
theorem dX3_findFar_19 : decode cX3_findFar 19 = .ok (.goto (-15), 3) := dk_167 255 241 (dk_at dksX3_findFar_0 19 rfl rfl)
theorem dX3_findFar_22 : decode cX3_findFar 22 = .ok (.iconst 0, 1) := dk_3 (dk_at dksX3_findFar_0 22 rfl rfl)
theorem dX3_findFar_23 : decode cX3_findFar 23 = .ok (.istore_n 2, 1) := dk_61 (dk_at dksX3_findFar_0 23 rfl rfl)
theorem dX3_findFar_24 : decode cX3_findFar 24 = .ok (.iload_n 2, 1) := dk_28 (dk_at dksX3_findFar_1 0 rfl rfl)
theorem dX3_findFar_25 : decode cX3_findFar 25 = .ok (.iload_n 1, 1) := dk_27 (dk_at dksX3_findFar_1 1 rfl rfl)
theorem dX3_findFar_26 : decode cX3_findFar 26 = .ok (.if_icmp .ge 16, 3) := dk_162 0 16 (dk_at dksX3_findFar_1 2 rfl rfl)
theorem dX3_findFar_29 : decode cX3_findFar 29 = .ok (.aload_n 0, 1) := dk_42 (dk_at dksX3_findFar_1 5 rfl rfl)
theorem dX3_findFar_30 : decode cX3_findFar 30 = .ok (.getfield 150, 3) := dk_180 0 150 (dk_at dksX3_findFar_1 6 rfl rfl)
theorem dX3_findFar_33 : decode cX3_findFar 33 = .ok (.iload_n 2, 1) := dk_28 (dk_at dksX3_findFar_1 9 rfl rfl)
theorem dX3_findFar_34 : decode cX3_findFar 34 = .ok (.iconst (-1), 1) := dk_2 (dk_at dksX3_findFar_1 10 rfl rfl)
theorem dX3_findFar_35 : decode cX3_findFar 35 = .ok (.iastore, 1) := dk_79 (dk_at dksX3_findFar_1 11 rfl rfl)
theorem dX3_findFar_36 : decode cX3_findFar 36 = .ok (.iinc 2 1, 3) := dk_132 2 1 (dk_at dksX3_findFar_1 12 rfl rfl)
theorem dX3_findFar_39 : decode cX3_findFar 39 = .ok (.goto (-15), 3) := dk_167 255 241 (dk_at dksX3_findFar_1 15 rfl rfl)
theorem dX3_findFar_42 : decode cX3_findFar 42 = .ok (.iconst 0, 1) := dk_3 (dk_at dksX3_findFar_1 18 rfl rfl)
theorem dX3_findFar_43 : decode cX3_findFar 43 = .ok (.istore_n 2, 1) := dk_61 (dk_at dksX3_findFar_1 19 rfl rfl)
theorem dX3_findFar_44 : decode cX3_findFar 44 = .ok (.iconst 1, 1) := dk_4 (dk_at dksX3_findFar_1 20 rfl rfl)
theorem dX3_findFar_45 : decode cX3_findFar 45 = .ok (.istore_n 3, 1) := dk_62 (dk_at dksX3_findFar_1 21 rfl rfl)
theorem dX3_findFar_46 : decode cX3_findFar 46 = .ok (.aload_n 0, 1) := dk_42 (dk_at dksX3_findFar_1 22 rfl rfl)
theorem dX3_findFar_47 : decode cX3_findFar 47 = .ok (.getfield 153, 3) := dk_180 0 153 (dk_at dksX3_findFar_2 0 rfl rfl)
theorem dX3_findFar_50 : decode cX3_findFar 50 = .ok (.iconst 0, 1) := dk_3 (dk_at dksX3_findFar_2 3 rfl rfl)
theorem dX3_findFar_51 : decode cX3_findFar 51 = .ok (.aload_n 0, 1) := dk_42 (dk_at dksX3_findFar_2 4 rfl rfl)
theorem dX3_findFar_52 : decode cX3_findFar 52 = .ok (.aload_n 0, 1) := dk_42 (dk_at dksX3_findFar_2 5 rfl rfl)
theorem dX3_findFar_53 : decode cX3_findFar 53 = .ok (.getfield 147, 3) := dk_180 0 147 (dk_at dksX3_findFar_2 6 rfl rfl)
theorem dX3_findFar_56 : decode cX3_findFar 56 = .ok (.invokevirtual 300, 3) := dk_182 1 44 (dk_at dksX3_findFar_2 9 rfl rfl)
theorem dX3_findFar_59 : decode cX3_findFar 59 = .ok (.iastore, 1) := dk_79 (dk_at dksX3_findFar_2 12 rfl rfl)
theorem dX3_findFar_60 : decode cX3_findFar 60 = .ok (.aload_n 0, 1) := dk_42 (dk_at dksX3_findFar_2 13 rfl rfl)
theorem dX3_findFar_61 : decode cX3_findFar 61 = .ok (.getfield 150, 3) := dk_180 0 150 (dk_at dksX3_findFar_2 14 rfl rfl)
theorem dX3_findFar_64 : decode cX3_findFar 64 = .ok (.aload_n 0, 1) := dk_42 (dk_at dksX3_findFar_2 17 rfl rfl)
theorem dX3_findFar_65 : decode cX3_findFar 65 = .ok (.getfield 153, 3) := dk_180 0 153 (dk_at dksX3_findFar_2 18 rfl rfl)
theorem dX3_findFar_68 : decode cX3_findFar 68 = .ok (.iconst 0, 1) := dk_3 (dk_at dksX3_findFar_2 21 rfl rfl)
theorem dX3_findFar_69 : decode cX3_findFar 69 = .ok (.iaload, 1) := dk_46 (dk_at dksX3_findFar_2 22 rfl rfl)
theorem dX3_findFar_70 : decode cX3_findFar 70 = .ok (.iconst 0, 1) := dk_3 (dk_at dksX3_findFar_2 23 rfl rfl)
theorem dX3_findFar_71 : decode cX3_findFar 71 = .ok (.iastore, 1) := dk_79 (dk_at dksX3_findFar_3 0 rfl rfl)
theorem dX3_findFar_72 : decode cX3_findFar 72 = .ok (.iload_n 2, 1) := dk_28 (dk_at dksX3_findFar_3 1 rfl rfl)
theorem dX3_findFar_73 : decode cX3_findFar 73 = .ok (.iload_n 3, 1) := dk_29 (dk_at dksX3_findFar_3 2 rfl rfl)
theorem dX3_findFar_74 : decode cX3_findFar 74 = .ok (.if_icmp .ge 116, 3) := dk_162 0 116 (dk_at dksX3_findFar_3 3 rfl rfl)
theorem dX3_findFar_77 : decode cX3_findFar 77 = .ok (.aload_n 0, 1) := dk_42 (dk_at dksX3_findFar_3 6 rfl rfl)
theorem dX3_findFar_78 : decode cX3_findFar 78 = .ok (.getfield 150, 3) := dk_180 0 150 (dk_at dksX3_findFar_3 7 rfl rfl)
theorem dX3_findFar_81 : decode cX3_findFar 81 = .ok (.aload_n 0, 1) := dk_42 (dk_at dksX3_findFar_3 10 rfl rfl)
theorem dX3_findFar_82 : decode cX3_findFar 82 = .ok (.getfield 153, 3) := dk_180 0 153 (dk_at dksX3_findFar_3 11 rfl rfl)
theorem dX3_findFar_85 : decode cX3_findFar 85 = .ok (.iload_n 2, 1) := dk_28 (dk_at dksX3_findFar_3 14 rfl rfl)
theorem dX3_findFar_86 : decode cX3_findFar 86 = .ok (.iaload, 1) := dk_46 (dk_at dksX3_findFar_3 15 rfl rfl)
theorem dX3_findFar_87 : decode cX3_findFar 87 = .ok (.iaload, 1) := dk_46 (dk_at dksX3_findFar_3 16 rfl rfl)
theorem dX3_findFar_88 : decode cX3_findFar 88 = .ok (.istore 4, 2) := dk_54 4 (dk_at dksX3_findFar_3 17 rfl rfl)
theorem dX3_findFar_90 : decode cX3_findFar 90 = .ok (.aload_n 0, 1) := dk_42 (dk_at dksX3_findFar_3 19 rfl rfl)
theorem dX3_findFar_91 : decode cX3_findFar 91 = .ok (.aload_n 0, 1) := dk_42 (dk_at dksX3_findFar_3 20 rfl rfl)
theorem dX3_findFar_92 : decode cX3_findFar 92 = .ok (.getfield 153, 3) := dk_180 0 153 (dk_at dksX3_findFar_3 21 rfl rfl)
theorem dX3_findFar_95 : decode cX3_findFar 95 = .ok (.iload_n 2, 1) := dk_28 (dk_at dksX3_findFar_4 0 rfl rfl)
theorem dX3_findFar_96 : decode cX3_findFar 96 = .ok (.iaload, 1) := dk_46 (dk_at dksX3_findFar_4 1 rfl rfl)
theorem dX3_findFar_97 : decode cX3_findFar 97 = .ok (.aload_n 0, 1) := dk_42 (dk_at dksX3_findFar_4 2 rfl rfl)
theorem dX3_findFar_98 : decode cX3_findFar 98 = .ok (.getfield 144, 3) := dk_180 0 144 (dk_at dksX3_findFar_4 3 rfl rfl)
theorem dX3_findFar_101 : decode cX3_findFar 101 = .ok (.invokevirtual 303, 3) := dk_182 1 47 (dk_at dksX3_findFar_4 6 rfl rfl)
theorem dX3_findFar_104 : decode cX3_findFar 104 = .ok (.iinc 2 1, 3) := dk_132 2 1 (dk_at dksX3_findFar_4 9 rfl rfl)
theorem dX3_findFar_107 : decode cX3_findFar 107 = .ok (.iconst 0, 1) := dk_3 (dk_at dksX3_findFar_4 12 rfl rfl)
theorem dX3_findFar_108 : decode cX3_findFar 108 = .ok (.istore 5, 2) := dk_54 5 (dk_at dksX3_findFar_4 13 rfl rfl)
theorem dX3_findFar_110 : decode cX3_findFar 110 = .ok (.iload 5, 2) := dk_21 5 (dk_at dksX3_findFar_4 15 rfl rfl)
theorem dX3_findFar_112 : decode cX3_findFar 112 = .ok (.aload_n 0, 1) := dk_42 (dk_at dksX3_findFar_4 17 rfl rfl)
theorem dX3_findFar_113 : decode cX3_findFar 113 = .ok (.getfield 13, 3) := dk_180 0 13 (dk_at dksX3_findFar_4 18 rfl rfl)
theorem dX3_findFar_116 : decode cX3_findFar 116 = .ok (.if_icmp .ge 71, 3) := dk_162 0 71 (dk_at dksX3_findFar_4 21 rfl rfl)
theorem dX3_findFar_119 : decode cX3_findFar 119 = .ok (.aload_n 0, 1) := dk_42 (dk_at dksX3_findFar_5 0 rfl rfl)
theorem dX3_findFar_120 : decode cX3_findFar 120 = .ok (.aload_n 0, 1) := dk_42 (dk_at dksX3_findFar_5 1 rfl rfl)
theorem dX3_findFar_121 : decode cX3_findFar 121 = .ok (.getfield 144, 3) := dk_180 0 144 (dk_at dksX3_findFar_5 2 rfl rfl)
theorem dX3_findFar_124 : decode cX3_findFar 124 = .ok (.iload 5, 2) := dk_21 5 (dk_at dksX3_findFar_5 5 rfl rfl)
theorem dX3_findFar_126 : decode cX3_findFar 126 = .ok (.invokevirtual 307, 3) := dk_182 1 51 (dk_at dksX3_findFar_5 7 rfl rfl)
theorem dX3_findFar_129 : decode cX3_findFar 129 = .ok (.aload_n 0, 1) := dk_42 (dk_at dksX3_findFar_5 10 rfl rfl)
theorem dX3_findFar_130 : decode cX3_findFar 130 = .ok (.aload_n 0, 1) := dk_42 (dk_at dksX3_findFar_5 11 rfl rfl)
theorem dX3_findFar_131 : decode cX3_findFar 131 = .ok (.getfield 144, 3) := dk_180 0 144 (dk_at dksX3_findFar_5 12 rfl rfl)
theorem dX3_findFar_134 : decode cX3_findFar 134 = .ok (.invokevirtual 300, 3) := dk_182 1 44 (dk_at dksX3_findFar_5 15 rfl rfl)
theorem dX3_findFar_137 : decode cX3_findFar 137 = .ok (.istore 6, 2) := dk_54 6 (dk_at dksX3_findFar_5 18 rfl rfl)
theorem dX3_findFar_139 : decode cX3_findFar 139 = .ok (.aload_n 0, 1) := dk_42 (dk_at dksX3_findFar_5 20 rfl rfl)
theorem dX3_findFar_140 : decode cX3_findFar 140 = .ok (.getfield 150, 3) := dk_180 0 150 (dk_at dksX3_findFar_5 21 rfl rfl)
theorem dX3_findFar_143 : decode cX3_findFar 143 = .ok (.iload 6, 2) := dk_21 6 (dk_at dksX3_findFar_6 0 rfl rfl)
theorem dX3_findFar_145 : decode cX3_findFar 145 = .ok (.iaload, 1) := dk_46 (dk_at dksX3_findFar_6 2 rfl rfl)
theorem dX3_findFar_146 : decode cX3_findFar 146 = .ok (.ifCond .ge 25, 3) := dk_156 0 25 (dk_at dksX3_findFar_6 3 rfl rfl)
theorem dX3_findFar_149 : decode cX3_findFar 149 = .ok (.aload_n 0, 1) := dk_42 (dk_at dksX3_findFar_6 6 rfl rfl)
theorem dX3_findFar_150 : decode cX3_findFar 150 = .ok (.getfield 150, 3) := dk_180 0 150 (dk_at dksX3_findFar_6 7 rfl rfl)
theorem dX3_findFar_153 : decode cX3_findFar 153 = .ok (.iload 6, 2) := dk_21 6 (dk_at dksX3_findFar_6 10 rfl rfl)
theorem dX3_findFar_155 : decode cX3_findFar 155 = .ok (.iload 4, 2) := dk_21 4 (dk_at dksX3_findFar_6 12 rfl rfl)
theorem dX3_findFar_157 : decode cX3_findFar 157 = .ok (.iconst 1, 1) := dk_4 (dk_at dksX3_findFar_6 14 rfl rfl)
theorem dX3_findFar_158 : decode cX3_findFar 158 = .ok (.iadd, 1) := dk_96 (dk_at dksX3_findFar_6 15 rfl rfl)
theorem dX3_findFar_159 : decode cX3_findFar 159 = .ok (.iastore, 1) := dk_79 (dk_at dksX3_findFar_6 16 rfl rfl)
theorem dX3_findFar_160 : decode cX3_findFar 160 = .ok (.aload_n 0, 1) := dk_42 (dk_at dksX3_findFar_6 17 rfl rfl)
theorem dX3_findFar_161 : decode cX3_findFar 161 = .ok (.getfield 153, 3) := dk_180 0 153 (dk_at dksX3_findFar_6 18 rfl rfl)
theorem dX3_findFar_164 : decode cX3_findFar 164 = .ok (.iload_n 3, 1) := dk_29 (dk_at dksX3_findFar_6 21 rfl rfl)
theorem dX3_findFar_165 : decode cX3_findFar 165 = .ok (.iload 6, 2) := dk_21 6 (dk_at dksX3_findFar_6 22 rfl rfl)
theorem dX3_findFar_167 : decode cX3_findFar 167 = .ok (.iastore, 1) := dk_79 (dk_at dksX3_findFar_7 0 rfl rfl)
theorem dX3_findFar_168 : decode cX3_findFar 168 = .ok (.iinc 3 1, 3) := dk_132 3 1 (dk_at dksX3_findFar_7 1 rfl rfl)
theorem dX3_findFar_171 : decode cX3_findFar 171 = .ok (.aload_n 0, 1) := dk_42 (dk_at dksX3_findFar_7 4 rfl rfl)
theorem dX3_findFar_172 : decode cX3_findFar 172 = .ok (.aload_n 0, 1) := dk_42 (dk_at dksX3_findFar_7 5 rfl rfl)
theorem dX3_findFar_173 : decode cX3_findFar 173 = .ok (.getfield 144, 3) := dk_180 0 144 (dk_at dksX3_findFar_7 6 rfl rfl)
theorem dX3_findFar_176 : decode cX3_findFar 176 = .ok (.iload 5, 2) := dk_21 5 (dk_at dksX3_findFar_7 9 rfl rfl)
theorem dX3_findFar_178 : decode cX3_findFar 178 = .ok (.invokevirtual 307, 3) := dk_182 1 51 (dk_at dksX3_findFar_7 11 rfl rfl)
theorem dX3_findFar_181 : decode cX3_findFar 181 = .ok (.iinc 5 1, 3) := dk_132 5 1 (dk_at dksX3_findFar_7 14 rfl rfl)
theorem dX3_findFar_184 : decode cX3_findFar 184 = .ok (.goto (-74), 3) := dk_167 255 182 (dk_at dksX3_findFar_7 17 rfl rfl)
theorem dX3_findFar_187 : decode cX3_findFar 187 = .ok (.goto (-115), 3) := dk_167 255 141 (dk_at dksX3_findFar_7 20 rfl rfl)
theorem dX3_findFar_190 : decode cX3_findFar 190 = .ok (.return_, 1) := dk_177 (dk_at dksX3_findFar_7 23 rfl rfl)
abbrev cX3_rank : ByteArray := prog_17_method_56_code
def yX3_rank : MethodName := ⟨RX3, "rank", "([I)I"⟩
def dkwX3_rank_3 : List UInt8 := [167, 255, 190, 28, 172]
abbrev dktX3_rank_3 : List UInt8 := dkwX3_rank_3 ++ []
def dkwX3_rank_2 : List UInt8 := [54, 4, 132, 5, 1, 167, 255, 224, 28, 42, 180, 0, 13, 29, 100, 104, 21, 4, 96, 61, 132, 3, 1]
abbrev dktX3_rank_2 : List UInt8 := dkwX3_rank_2 ++ dktX3_rank_3
def dkwX3_rank_1 : List UInt8 := [180, 0, 13, 162, 0, 29, 21, 4, 43, 21, 5, 46, 43, 29, 46, 162, 0, 7, 4, 167, 0, 4, 3, 96]
abbrev dktX3_rank_1 : List UInt8 := dkwX3_rank_1 ++ dktX3_rank_2
def dkwX3_rank_0 : List UInt8 := [3, 61, 3, 62, 29, 42, 180, 0, 13, 162, 0, 64, 3, 54, 4, 29, 4, 96, 54, 5, 21, 5, 42]
abbrev dktX3_rank_0 : List UInt8 := dkwX3_rank_0 ++ dktX3_rank_1
theorem dksX3_rank_0 : cX3_rank.data.toList.drop 0 = dktX3_rank_0 := by decide +kernel
theorem dksX3_rank_1 : cX3_rank.data.toList.drop 23 = dktX3_rank_1 := dk_seg dksX3_rank_0 23 rfl rfl
theorem dksX3_rank_2 : cX3_rank.data.toList.drop 47 = dktX3_rank_2 := dk_seg dksX3_rank_1 24 rfl rfl
theorem dksX3_rank_3 : cX3_rank.data.toList.drop 70 = dktX3_rank_3 := dk_seg dksX3_rank_2 23 rfl rfl
theorem dX3_rank_0 : decode cX3_rank 0 = .ok (.iconst 0, 1) := dk_3 (dk_at dksX3_rank_0 0 rfl rfl)
theorem dX3_rank_1 : decode cX3_rank 1 = .ok (.istore_n 2, 1) := dk_61 (dk_at dksX3_rank_0 1 rfl rfl)
theorem dX3_rank_2 : decode cX3_rank 2 = .ok (.iconst 0, 1) := dk_3 (dk_at dksX3_rank_0 2 rfl rfl)
theorem dX3_rank_3 : decode cX3_rank 3 = .ok (.istore_n 3, 1) := dk_62 (dk_at dksX3_rank_0 3 rfl rfl)
theorem dX3_rank_4 : decode cX3_rank 4 = .ok (.iload_n 3, 1) := dk_29 (dk_at dksX3_rank_0 4 rfl rfl)
theorem dX3_rank_5 : decode cX3_rank 5 = .ok (.aload_n 0, 1) := dk_42 (dk_at dksX3_rank_0 5 rfl rfl)
theorem dX3_rank_6 : decode cX3_rank 6 = .ok (.getfield 13, 3) := dk_180 0 13 (dk_at dksX3_rank_0 6 rfl rfl)
theorem dX3_rank_9 : decode cX3_rank 9 = .ok (.if_icmp .ge 64, 3) := dk_162 0 64 (dk_at dksX3_rank_0 9 rfl rfl)
theorem dX3_rank_12 : decode cX3_rank 12 = .ok (.iconst 0, 1) := dk_3 (dk_at dksX3_rank_0 12 rfl rfl)
theorem dX3_rank_13 : decode cX3_rank 13 = .ok (.istore 4, 2) := dk_54 4 (dk_at dksX3_rank_0 13 rfl rfl)
theorem dX3_rank_15 : decode cX3_rank 15 = .ok (.iload_n 3, 1) := dk_29 (dk_at dksX3_rank_0 15 rfl rfl)
theorem dX3_rank_16 : decode cX3_rank 16 = .ok (.iconst 1, 1) := dk_4 (dk_at dksX3_rank_0 16 rfl rfl)
theorem dX3_rank_17 : decode cX3_rank 17 = .ok (.iadd, 1) := dk_96 (dk_at dksX3_rank_0 17 rfl rfl)
theorem dX3_rank_18 : decode cX3_rank 18 = .ok (.istore 5, 2) := dk_54 5 (dk_at dksX3_rank_0 18 rfl rfl)
theorem dX3_rank_20 : decode cX3_rank 20 = .ok (.iload 5, 2) := dk_21 5 (dk_at dksX3_rank_0 20 rfl rfl)
theorem dX3_rank_22 : decode cX3_rank 22 = .ok (.aload_n 0, 1) := dk_42 (dk_at dksX3_rank_0 22 rfl rfl)
theorem dX3_rank_23 : decode cX3_rank 23 = .ok (.getfield 13, 3) := dk_180 0 13 (dk_at dksX3_rank_1 0 rfl rfl)
theorem dX3_rank_26 : decode cX3_rank 26 = .ok (.if_icmp .ge 29, 3) := dk_162 0 29 (dk_at dksX3_rank_1 3 rfl rfl)
theorem dX3_rank_29 : decode cX3_rank 29 = .ok (.iload 4, 2) := dk_21 4 (dk_at dksX3_rank_1 6 rfl rfl)
theorem dX3_rank_31 : decode cX3_rank 31 = .ok (.aload_n 1, 1) := dk_43 (dk_at dksX3_rank_1 8 rfl rfl)
theorem dX3_rank_32 : decode cX3_rank 32 = .ok (.iload 5, 2) := dk_21 5 (dk_at dksX3_rank_1 9 rfl rfl)
theorem dX3_rank_34 : decode cX3_rank 34 = .ok (.iaload, 1) := dk_46 (dk_at dksX3_rank_1 11 rfl rfl)
theorem dX3_rank_35 : decode cX3_rank 35 = .ok (.aload_n 1, 1) := dk_43 (dk_at dksX3_rank_1 12 rfl rfl)
theorem dX3_rank_36 : decode cX3_rank 36 = .ok (.iload_n 3, 1) := dk_29 (dk_at dksX3_rank_1 13 rfl rfl)
theorem dX3_rank_37 : decode cX3_rank 37 = .ok (.iaload, 1) := dk_46 (dk_at dksX3_rank_1 14 rfl rfl)
theorem dX3_rank_38 : decode cX3_rank 38 = .ok (.if_icmp .ge 7, 3) := dk_162 0 7 (dk_at dksX3_rank_1 15 rfl rfl)
theorem dX3_rank_41 : decode cX3_rank 41 = .ok (.iconst 1, 1) := dk_4 (dk_at dksX3_rank_1 18 rfl rfl)
theorem dX3_rank_42 : decode cX3_rank 42 = .ok (.goto 4, 3) := dk_167 0 4 (dk_at dksX3_rank_1 19 rfl rfl)
theorem dX3_rank_45 : decode cX3_rank 45 = .ok (.iconst 0, 1) := dk_3 (dk_at dksX3_rank_1 22 rfl rfl)
theorem dX3_rank_46 : decode cX3_rank 46 = .ok (.iadd, 1) := dk_96 (dk_at dksX3_rank_1 23 rfl rfl)
theorem dX3_rank_47 : decode cX3_rank 47 = .ok (.istore 4, 2) := dk_54 4 (dk_at dksX3_rank_2 0 rfl rfl)
theorem dX3_rank_49 : decode cX3_rank 49 = .ok (.iinc 5 1, 3) := dk_132 5 1 (dk_at dksX3_rank_2 2 rfl rfl)
theorem dX3_rank_52 : decode cX3_rank 52 = .ok (.goto (-32), 3) := dk_167 255 224 (dk_at dksX3_rank_2 5 rfl rfl)
theorem dX3_rank_55 : decode cX3_rank 55 = .ok (.iload_n 2, 1) := dk_28 (dk_at dksX3_rank_2 8 rfl rfl)
theorem dX3_rank_56 : decode cX3_rank 56 = .ok (.aload_n 0, 1) := dk_42 (dk_at dksX3_rank_2 9 rfl rfl)
theorem dX3_rank_57 : decode cX3_rank 57 = .ok (.getfield 13, 3) := dk_180 0 13 (dk_at dksX3_rank_2 10 rfl rfl)
theorem dX3_rank_60 : decode cX3_rank 60 = .ok (.iload_n 3, 1) := dk_29 (dk_at dksX3_rank_2 13 rfl rfl)
theorem dX3_rank_61 : decode cX3_rank 61 = .ok (.isub, 1) := dk_100 (dk_at dksX3_rank_2 14 rfl rfl)
theorem dX3_rank_62 : decode cX3_rank 62 = .ok (.imul, 1) := dk_104 (dk_at dksX3_rank_2 15 rfl rfl)
theorem dX3_rank_63 : decode cX3_rank 63 = .ok (.iload 4, 2) := dk_21 4 (dk_at dksX3_rank_2 16 rfl rfl)
theorem dX3_rank_65 : decode cX3_rank 65 = .ok (.iadd, 1) := dk_96 (dk_at dksX3_rank_2 18 rfl rfl)
theorem dX3_rank_66 : decode cX3_rank 66 = .ok (.istore_n 2, 1) := dk_61 (dk_at dksX3_rank_2 19 rfl rfl)
theorem dX3_rank_67 : decode cX3_rank 67 = .ok (.iinc 3 1, 3) := dk_132 3 1 (dk_at dksX3_rank_2 20 rfl rfl)
theorem dX3_rank_70 : decode cX3_rank 70 = .ok (.goto (-66), 3) := dk_167 255 190 (dk_at dksX3_rank_3 0 rfl rfl)
theorem dX3_rank_73 : decode cX3_rank 73 = .ok (.iload_n 2, 1) := dk_28 (dk_at dksX3_rank_3 3 rfl rfl)
theorem dX3_rank_74 : decode cX3_rank 74 = .ok (.ireturn, 1) := dk_172 (dk_at dksX3_rank_3 4 rfl rfl)
abbrev cX3_unrank : ByteArray := prog_17_method_57_code
def yX3_unrank : MethodName := ⟨RX3, "unrank", "(I[I)V"⟩
def dkwX3_unrank_5 : List UInt8 := [21, 5, 21, 6, 79, 21, 4, 4, 21, 6, 120, 128, 54, 4, 132, 5, 1, 167, 255, 174, 177]
abbrev dktX3_unrank_5 : List UInt8 := dkwX3_unrank_5 ++ []
def dkwX3_unrank_4 : List UInt8 := [21, 6, 122, 4, 126, 4, 160, 0, 7, 3, 167, 0, 4, 4, 100, 54, 7, 132, 6, 1, 167, 255, 216, 44]
abbrev dktX3_unrank_4 : List UInt8 := dkwX3_unrank_4 ++ dktX3_unrank_5
def dkwX3_unrank_3 : List UInt8 := [46, 54, 7, 21, 4, 21, 6, 122, 4, 126, 4, 159, 0, 8, 21, 7, 158, 0, 30, 21, 7, 21, 4]
abbrev dktX3_unrank_3 : List UInt8 := dkwX3_unrank_3 ++ dktX3_unrank_4
def dkwX3_unrank_2 : List UInt8 := [3, 54, 4, 3, 54, 5, 21, 5, 42, 180, 0, 13, 162, 0, 79, 3, 54, 6, 42, 180, 0, 162, 21, 5]
abbrev dktX3_unrank_2 : List UInt8 := dkwX3_unrank_2 ++ dktX3_unrank_3
def dkwX3_unrank_1 : List UInt8 := [180, 0, 13, 21, 4, 100, 112, 79, 29, 42, 180, 0, 13, 21, 4, 100, 108, 62, 132, 4, 255, 167, 255, 222]
abbrev dktX3_unrank_1 : List UInt8 := dkwX3_unrank_1 ++ dktX3_unrank_2
def dkwX3_unrank_0 : List UInt8 := [27, 62, 42, 180, 0, 13, 4, 100, 54, 4, 21, 4, 155, 0, 35, 42, 180, 0, 162, 21, 4, 29, 42]
abbrev dktX3_unrank_0 : List UInt8 := dkwX3_unrank_0 ++ dktX3_unrank_1
theorem dksX3_unrank_0 : cX3_unrank.data.toList.drop 0 = dktX3_unrank_0 := by decide +kernel
theorem dksX3_unrank_1 : cX3_unrank.data.toList.drop 23 = dktX3_unrank_1 := dk_seg dksX3_unrank_0 23 rfl rfl
theorem dksX3_unrank_2 : cX3_unrank.data.toList.drop 47 = dktX3_unrank_2 := dk_seg dksX3_unrank_1 24 rfl rfl
theorem dksX3_unrank_3 : cX3_unrank.data.toList.drop 71 = dktX3_unrank_3 := dk_seg dksX3_unrank_2 24 rfl rfl
theorem dksX3_unrank_4 : cX3_unrank.data.toList.drop 94 = dktX3_unrank_4 := dk_seg dksX3_unrank_3 23 rfl rfl
theorem dksX3_unrank_5 : cX3_unrank.data.toList.drop 118 = dktX3_unrank_5 := dk_seg dksX3_unrank_4 24 rfl rfl
theorem dX3_unrank_0 : decode cX3_unrank 0 = .ok (.iload_n 1, 1) := dk_27 (dk_at dksX3_unrank_0 0 rfl rfl)
theorem dX3_unrank_1 : decode cX3_unrank 1 = .ok (.istore_n 3, 1) := dk_62 (dk_at dksX3_unrank_0 1 rfl rfl)
theorem dX3_unrank_2 : decode cX3_unrank 2 = .ok (.aload_n 0, 1) := dk_42 (dk_at dksX3_unrank_0 2 rfl rfl)
theorem dX3_unrank_3 : decode cX3_unrank 3 = .ok (.getfield 13, 3) := dk_180 0 13 (dk_at dksX3_unrank_0 3 rfl rfl)
theorem dX3_unrank_6 : decode cX3_unrank 6 = .ok (.iconst 1, 1) := dk_4 (dk_at dksX3_unrank_0 6 rfl rfl)
theorem dX3_unrank_7 : decode cX3_unrank 7 = .ok (.isub, 1) := dk_100 (dk_at dksX3_unrank_0 7 rfl rfl)
theorem dX3_unrank_8 : decode cX3_unrank 8 = .ok (.istore 4, 2) := dk_54 4 (dk_at dksX3_unrank_0 8 rfl rfl)
theorem dX3_unrank_10 : decode cX3_unrank 10 = .ok (.iload 4, 2) := dk_21 4 (dk_at dksX3_unrank_0 10 rfl rfl)
theorem dX3_unrank_12 : decode cX3_unrank 12 = .ok (.ifCond .lt 35, 3) := dk_155 0 35 (dk_at dksX3_unrank_0 12 rfl rfl)
theorem dX3_unrank_15 : decode cX3_unrank 15 = .ok (.aload_n 0, 1) := dk_42 (dk_at dksX3_unrank_0 15 rfl rfl)
theorem dX3_unrank_16 : decode cX3_unrank 16 = .ok (.getfield 162, 3) := dk_180 0 162 (dk_at dksX3_unrank_0 16 rfl rfl)
theorem dX3_unrank_19 : decode cX3_unrank 19 = .ok (.iload 4, 2) := dk_21 4 (dk_at dksX3_unrank_0 19 rfl rfl)
theorem dX3_unrank_21 : decode cX3_unrank 21 = .ok (.iload_n 3, 1) := dk_29 (dk_at dksX3_unrank_0 21 rfl rfl)
theorem dX3_unrank_22 : decode cX3_unrank 22 = .ok (.aload_n 0, 1) := dk_42 (dk_at dksX3_unrank_0 22 rfl rfl)
theorem dX3_unrank_23 : decode cX3_unrank 23 = .ok (.getfield 13, 3) := dk_180 0 13 (dk_at dksX3_unrank_1 0 rfl rfl)
theorem dX3_unrank_26 : decode cX3_unrank 26 = .ok (.iload 4, 2) := dk_21 4 (dk_at dksX3_unrank_1 3 rfl rfl)
theorem dX3_unrank_28 : decode cX3_unrank 28 = .ok (.isub, 1) := dk_100 (dk_at dksX3_unrank_1 5 rfl rfl)
theorem dX3_unrank_29 : decode cX3_unrank 29 = .ok (.irem, 1) := dk_112 (dk_at dksX3_unrank_1 6 rfl rfl)
theorem dX3_unrank_30 : decode cX3_unrank 30 = .ok (.iastore, 1) := dk_79 (dk_at dksX3_unrank_1 7 rfl rfl)
theorem dX3_unrank_31 : decode cX3_unrank 31 = .ok (.iload_n 3, 1) := dk_29 (dk_at dksX3_unrank_1 8 rfl rfl)
theorem dX3_unrank_32 : decode cX3_unrank 32 = .ok (.aload_n 0, 1) := dk_42 (dk_at dksX3_unrank_1 9 rfl rfl)
theorem dX3_unrank_33 : decode cX3_unrank 33 = .ok (.getfield 13, 3) := dk_180 0 13 (dk_at dksX3_unrank_1 10 rfl rfl)
theorem dX3_unrank_36 : decode cX3_unrank 36 = .ok (.iload 4, 2) := dk_21 4 (dk_at dksX3_unrank_1 13 rfl rfl)
theorem dX3_unrank_38 : decode cX3_unrank 38 = .ok (.isub, 1) := dk_100 (dk_at dksX3_unrank_1 15 rfl rfl)
theorem dX3_unrank_39 : decode cX3_unrank 39 = .ok (.idiv, 1) := dk_108 (dk_at dksX3_unrank_1 16 rfl rfl)
theorem dX3_unrank_40 : decode cX3_unrank 40 = .ok (.istore_n 3, 1) := dk_62 (dk_at dksX3_unrank_1 17 rfl rfl)
theorem dX3_unrank_41 : decode cX3_unrank 41 = .ok (.iinc 4 (-1), 3) := dk_132 4 255 (dk_at dksX3_unrank_1 18 rfl rfl)
theorem dX3_unrank_44 : decode cX3_unrank 44 = .ok (.goto (-34), 3) := dk_167 255 222 (dk_at dksX3_unrank_1 21 rfl rfl)
theorem dX3_unrank_47 : decode cX3_unrank 47 = .ok (.iconst 0, 1) := dk_3 (dk_at dksX3_unrank_2 0 rfl rfl)
theorem dX3_unrank_48 : decode cX3_unrank 48 = .ok (.istore 4, 2) := dk_54 4 (dk_at dksX3_unrank_2 1 rfl rfl)
theorem dX3_unrank_50 : decode cX3_unrank 50 = .ok (.iconst 0, 1) := dk_3 (dk_at dksX3_unrank_2 3 rfl rfl)
theorem dX3_unrank_51 : decode cX3_unrank 51 = .ok (.istore 5, 2) := dk_54 5 (dk_at dksX3_unrank_2 4 rfl rfl)
theorem dX3_unrank_53 : decode cX3_unrank 53 = .ok (.iload 5, 2) := dk_21 5 (dk_at dksX3_unrank_2 6 rfl rfl)
theorem dX3_unrank_55 : decode cX3_unrank 55 = .ok (.aload_n 0, 1) := dk_42 (dk_at dksX3_unrank_2 8 rfl rfl)
theorem dX3_unrank_56 : decode cX3_unrank 56 = .ok (.getfield 13, 3) := dk_180 0 13 (dk_at dksX3_unrank_2 9 rfl rfl)
theorem dX3_unrank_59 : decode cX3_unrank 59 = .ok (.if_icmp .ge 79, 3) := dk_162 0 79 (dk_at dksX3_unrank_2 12 rfl rfl)
theorem dX3_unrank_62 : decode cX3_unrank 62 = .ok (.iconst 0, 1) := dk_3 (dk_at dksX3_unrank_2 15 rfl rfl)
theorem dX3_unrank_63 : decode cX3_unrank 63 = .ok (.istore 6, 2) := dk_54 6 (dk_at dksX3_unrank_2 16 rfl rfl)
theorem dX3_unrank_65 : decode cX3_unrank 65 = .ok (.aload_n 0, 1) := dk_42 (dk_at dksX3_unrank_2 18 rfl rfl)
theorem dX3_unrank_66 : decode cX3_unrank 66 = .ok (.getfield 162, 3) := dk_180 0 162 (dk_at dksX3_unrank_2 19 rfl rfl)
theorem dX3_unrank_69 : decode cX3_unrank 69 = .ok (.iload 5, 2) := dk_21 5 (dk_at dksX3_unrank_2 22 rfl rfl)
theorem dX3_unrank_71 : decode cX3_unrank 71 = .ok (.iaload, 1) := dk_46 (dk_at dksX3_unrank_3 0 rfl rfl)
theorem dX3_unrank_72 : decode cX3_unrank 72 = .ok (.istore 7, 2) := dk_54 7 (dk_at dksX3_unrank_3 1 rfl rfl)
theorem dX3_unrank_74 : decode cX3_unrank 74 = .ok (.iload 4, 2) := dk_21 4 (dk_at dksX3_unrank_3 3 rfl rfl)
theorem dX3_unrank_76 : decode cX3_unrank 76 = .ok (.iload 6, 2) := dk_21 6 (dk_at dksX3_unrank_3 5 rfl rfl)
theorem dX3_unrank_78 : decode cX3_unrank 78 = .ok (.ishr, 1) := dk_122 (dk_at dksX3_unrank_3 7 rfl rfl)
theorem dX3_unrank_79 : decode cX3_unrank 79 = .ok (.iconst 1, 1) := dk_4 (dk_at dksX3_unrank_3 8 rfl rfl)
theorem dX3_unrank_80 : decode cX3_unrank 80 = .ok (.iand, 1) := dk_126 (dk_at dksX3_unrank_3 9 rfl rfl)
theorem dX3_unrank_81 : decode cX3_unrank 81 = .ok (.iconst 1, 1) := dk_4 (dk_at dksX3_unrank_3 10 rfl rfl)
theorem dX3_unrank_82 : decode cX3_unrank 82 = .ok (.if_icmp .eq 8, 3) := dk_159 0 8 (dk_at dksX3_unrank_3 11 rfl rfl)
theorem dX3_unrank_85 : decode cX3_unrank 85 = .ok (.iload 7, 2) := dk_21 7 (dk_at dksX3_unrank_3 14 rfl rfl)
theorem dX3_unrank_87 : decode cX3_unrank 87 = .ok (.ifCond .le 30, 3) := dk_158 0 30 (dk_at dksX3_unrank_3 16 rfl rfl)
theorem dX3_unrank_90 : decode cX3_unrank 90 = .ok (.iload 7, 2) := dk_21 7 (dk_at dksX3_unrank_3 19 rfl rfl)
theorem dX3_unrank_92 : decode cX3_unrank 92 = .ok (.iload 4, 2) := dk_21 4 (dk_at dksX3_unrank_3 21 rfl rfl)
theorem dX3_unrank_94 : decode cX3_unrank 94 = .ok (.iload 6, 2) := dk_21 6 (dk_at dksX3_unrank_4 0 rfl rfl)
theorem dX3_unrank_96 : decode cX3_unrank 96 = .ok (.ishr, 1) := dk_122 (dk_at dksX3_unrank_4 2 rfl rfl)
theorem dX3_unrank_97 : decode cX3_unrank 97 = .ok (.iconst 1, 1) := dk_4 (dk_at dksX3_unrank_4 3 rfl rfl)
theorem dX3_unrank_98 : decode cX3_unrank 98 = .ok (.iand, 1) := dk_126 (dk_at dksX3_unrank_4 4 rfl rfl)
theorem dX3_unrank_99 : decode cX3_unrank 99 = .ok (.iconst 1, 1) := dk_4 (dk_at dksX3_unrank_4 5 rfl rfl)
theorem dX3_unrank_100 : decode cX3_unrank 100 = .ok (.if_icmp .ne 7, 3) := dk_160 0 7 (dk_at dksX3_unrank_4 6 rfl rfl)
theorem dX3_unrank_103 : decode cX3_unrank 103 = .ok (.iconst 0, 1) := dk_3 (dk_at dksX3_unrank_4 9 rfl rfl)
theorem dX3_unrank_104 : decode cX3_unrank 104 = .ok (.goto 4, 3) := dk_167 0 4 (dk_at dksX3_unrank_4 10 rfl rfl)
theorem dX3_unrank_107 : decode cX3_unrank 107 = .ok (.iconst 1, 1) := dk_4 (dk_at dksX3_unrank_4 13 rfl rfl)
theorem dX3_unrank_108 : decode cX3_unrank 108 = .ok (.isub, 1) := dk_100 (dk_at dksX3_unrank_4 14 rfl rfl)
theorem dX3_unrank_109 : decode cX3_unrank 109 = .ok (.istore 7, 2) := dk_54 7 (dk_at dksX3_unrank_4 15 rfl rfl)
theorem dX3_unrank_111 : decode cX3_unrank 111 = .ok (.iinc 6 1, 3) := dk_132 6 1 (dk_at dksX3_unrank_4 17 rfl rfl)
theorem dX3_unrank_114 : decode cX3_unrank 114 = .ok (.goto (-40), 3) := dk_167 255 216 (dk_at dksX3_unrank_4 20 rfl rfl)
theorem dX3_unrank_117 : decode cX3_unrank 117 = .ok (.aload_n 2, 1) := dk_44 (dk_at dksX3_unrank_4 23 rfl rfl)
theorem dX3_unrank_118 : decode cX3_unrank 118 = .ok (.iload 5, 2) := dk_21 5 (dk_at dksX3_unrank_5 0 rfl rfl)
theorem dX3_unrank_120 : decode cX3_unrank 120 = .ok (.iload 6, 2) := dk_21 6 (dk_at dksX3_unrank_5 2 rfl rfl)
theorem dX3_unrank_122 : decode cX3_unrank 122 = .ok (.iastore, 1) := dk_79 (dk_at dksX3_unrank_5 4 rfl rfl)
theorem dX3_unrank_123 : decode cX3_unrank 123 = .ok (.iload 4, 2) := dk_21 4 (dk_at dksX3_unrank_5 5 rfl rfl)
theorem dX3_unrank_125 : decode cX3_unrank 125 = .ok (.iconst 1, 1) := dk_4 (dk_at dksX3_unrank_5 7 rfl rfl)
theorem dX3_unrank_126 : decode cX3_unrank 126 = .ok (.iload 6, 2) := dk_21 6 (dk_at dksX3_unrank_5 8 rfl rfl)
theorem dX3_unrank_128 : decode cX3_unrank 128 = .ok (.ishl, 1) := dk_120 (dk_at dksX3_unrank_5 10 rfl rfl)
theorem dX3_unrank_129 : decode cX3_unrank 129 = .ok (.ior, 1) := dk_128 (dk_at dksX3_unrank_5 11 rfl rfl)
theorem dX3_unrank_130 : decode cX3_unrank 130 = .ok (.istore 4, 2) := dk_54 4 (dk_at dksX3_unrank_5 12 rfl rfl)
theorem dX3_unrank_132 : decode cX3_unrank 132 = .ok (.iinc 5 1, 3) := dk_132 5 1 (dk_at dksX3_unrank_5 14 rfl rfl)
theorem dX3_unrank_135 : decode cX3_unrank 135 = .ok (.goto (-82), 3) := dk_167 255 174 (dk_at dksX3_unrank_5 17 rfl rfl)
theorem dX3_unrank_138 : decode cX3_unrank 138 = .ok (.return_, 1) := dk_177 (dk_at dksX3_unrank_5 20 rfl rfl)
abbrev cX3_swap : ByteArray := prog_17_method_58_code
def yX3_swap : MethodName := ⟨RX3, "swap", "([II)V"⟩
def dkwX3_swap_0 : List UInt8 := [43, 28, 46, 62, 43, 28, 43, 42, 28, 182, 0, 207, 46, 79, 43, 42, 28, 182, 0, 207, 29, 79, 177]
abbrev dktX3_swap_0 : List UInt8 := dkwX3_swap_0 ++ []
theorem dksX3_swap_0 : cX3_swap.data.toList.drop 0 = dktX3_swap_0 := by decide +kernel
theorem dX3_swap_0 : decode cX3_swap 0 = .ok (.aload_n 1, 1) := dk_43 (dk_at dksX3_swap_0 0 rfl rfl)
theorem dX3_swap_1 : decode cX3_swap 1 = .ok (.iload_n 2, 1) := dk_28 (dk_at dksX3_swap_0 1 rfl rfl)
theorem dX3_swap_2 : decode cX3_swap 2 = .ok (.iaload, 1) := dk_46 (dk_at dksX3_swap_0 2 rfl rfl)
theorem dX3_swap_3 : decode cX3_swap 3 = .ok (.istore_n 3, 1) := dk_62 (dk_at dksX3_swap_0 3 rfl rfl)
theorem dX3_swap_4 : decode cX3_swap 4 = .ok (.aload_n 1, 1) := dk_43 (dk_at dksX3_swap_0 4 rfl rfl)
theorem dX3_swap_5 : decode cX3_swap 5 = .ok (.iload_n 2, 1) := dk_28 (dk_at dksX3_swap_0 5 rfl rfl)
theorem dX3_swap_6 : decode cX3_swap 6 = .ok (.aload_n 1, 1) := dk_43 (dk_at dksX3_swap_0 6 rfl rfl)
theorem dX3_swap_7 : decode cX3_swap 7 = .ok (.aload_n 0, 1) := dk_42 (dk_at dksX3_swap_0 7 rfl rfl)
theorem dX3_swap_8 : decode cX3_swap 8 = .ok (.iload_n 2, 1) := dk_28 (dk_at dksX3_swap_0 8 rfl rfl)
theorem dX3_swap_9 : decode cX3_swap 9 = .ok (.invokevirtual 207, 3) := dk_182 0 207 (dk_at dksX3_swap_0 9 rfl rfl)
theorem dX3_swap_12 : decode cX3_swap 12 = .ok (.iaload, 1) := dk_46 (dk_at dksX3_swap_0 12 rfl rfl)
theorem dX3_swap_13 : decode cX3_swap 13 = .ok (.iastore, 1) := dk_79 (dk_at dksX3_swap_0 13 rfl rfl)
theorem dX3_swap_14 : decode cX3_swap 14 = .ok (.aload_n 1, 1) := dk_43 (dk_at dksX3_swap_0 14 rfl rfl)
theorem dX3_swap_15 : decode cX3_swap 15 = .ok (.aload_n 0, 1) := dk_42 (dk_at dksX3_swap_0 15 rfl rfl)
theorem dX3_swap_16 : decode cX3_swap 16 = .ok (.iload_n 2, 1) := dk_28 (dk_at dksX3_swap_0 16 rfl rfl)
theorem dX3_swap_17 : decode cX3_swap 17 = .ok (.invokevirtual 207, 3) := dk_182 0 207 (dk_at dksX3_swap_0 17 rfl rfl)
theorem dX3_swap_20 : decode cX3_swap 20 = .ok (.iload_n 3, 1) := dk_29 (dk_at dksX3_swap_0 20 rfl rfl)
theorem dX3_swap_21 : decode cX3_swap 21 = .ok (.iastore, 1) := dk_79 (dk_at dksX3_swap_0 21 rfl rfl)
theorem dX3_swap_22 : decode cX3_swap 22 = .ok (.return_, 1) := dk_177 (dk_at dksX3_swap_0 22 rfl rfl)
abbrev cX3_set : ByteArray := prog_17_method_62_code
def yX3_set : MethodName := ⟨RX3, "set", "(II)I"⟩
def dkwX3_set_2 : List UInt8 := [2, 172]
abbrev dktX3_set_2 : List UInt8 := dkwX3_set_2 ++ []
def dkwX3_set_1 : List UInt8 := [42, 28, 3, 42, 180, 0, 13, 4, 100, 182, 0, 195, 153, 0, 12, 42, 180, 0, 171, 28, 46, 167, 0, 4]
abbrev dktX3_set_1 : List UInt8 := dkwX3_set_1 ++ dktX3_set_2
def dkwX3_set_0 : List UInt8 := [42, 27, 182, 1, 61, 62, 29, 153, 0, 5, 29, 172, 28, 2, 160, 0, 10, 42, 180, 0, 174, 167, 0, 28]
abbrev dktX3_set_0 : List UInt8 := dkwX3_set_0 ++ dktX3_set_1
theorem dksX3_set_0 : cX3_set.data.toList.drop 0 = dktX3_set_0 := by decide +kernel
theorem dksX3_set_1 : cX3_set.data.toList.drop 24 = dktX3_set_1 := dk_seg dksX3_set_0 24 rfl rfl
theorem dksX3_set_2 : cX3_set.data.toList.drop 48 = dktX3_set_2 := dk_seg dksX3_set_1 24 rfl rfl
theorem dX3_set_0 : decode cX3_set 0 = .ok (.aload_n 0, 1) := dk_42 (dk_at dksX3_set_0 0 rfl rfl)
theorem dX3_set_1 : decode cX3_set 1 = .ok (.iload_n 1, 1) := dk_27 (dk_at dksX3_set_0 1 rfl rfl)
theorem dX3_set_2 : decode cX3_set 2 = .ok (.invokevirtual 317, 3) := dk_182 1 61 (dk_at dksX3_set_0 2 rfl rfl)
theorem dX3_set_5 : decode cX3_set 5 = .ok (.istore_n 3, 1) := dk_62 (dk_at dksX3_set_0 5 rfl rfl)
theorem dX3_set_6 : decode cX3_set 6 = .ok (.iload_n 3, 1) := dk_29 (dk_at dksX3_set_0 6 rfl rfl)
theorem dX3_set_7 : decode cX3_set 7 = .ok (.ifCond .eq 5, 3) := dk_153 0 5 (dk_at dksX3_set_0 7 rfl rfl)
theorem dX3_set_10 : decode cX3_set 10 = .ok (.iload_n 3, 1) := dk_29 (dk_at dksX3_set_0 10 rfl rfl)
theorem dX3_set_11 : decode cX3_set 11 = .ok (.ireturn, 1) := dk_172 (dk_at dksX3_set_0 11 rfl rfl)
theorem dX3_set_12 : decode cX3_set 12 = .ok (.iload_n 2, 1) := dk_28 (dk_at dksX3_set_0 12 rfl rfl)
theorem dX3_set_13 : decode cX3_set 13 = .ok (.iconst (-1), 1) := dk_2 (dk_at dksX3_set_0 13 rfl rfl)
theorem dX3_set_14 : decode cX3_set 14 = .ok (.if_icmp .ne 10, 3) := dk_160 0 10 (dk_at dksX3_set_0 14 rfl rfl)
theorem dX3_set_17 : decode cX3_set 17 = .ok (.aload_n 0, 1) := dk_42 (dk_at dksX3_set_0 17 rfl rfl)
theorem dX3_set_18 : decode cX3_set 18 = .ok (.getfield 174, 3) := dk_180 0 174 (dk_at dksX3_set_0 18 rfl rfl)
theorem dX3_set_21 : decode cX3_set 21 = .ok (.goto 28, 3) := dk_167 0 28 (dk_at dksX3_set_0 21 rfl rfl)
theorem dX3_set_24 : decode cX3_set 24 = .ok (.aload_n 0, 1) := dk_42 (dk_at dksX3_set_1 0 rfl rfl)
theorem dX3_set_25 : decode cX3_set 25 = .ok (.iload_n 2, 1) := dk_28 (dk_at dksX3_set_1 1 rfl rfl)
theorem dX3_set_26 : decode cX3_set 26 = .ok (.iconst 0, 1) := dk_3 (dk_at dksX3_set_1 2 rfl rfl)
theorem dX3_set_27 : decode cX3_set 27 = .ok (.aload_n 0, 1) := dk_42 (dk_at dksX3_set_1 3 rfl rfl)
theorem dX3_set_28 : decode cX3_set 28 = .ok (.getfield 13, 3) := dk_180 0 13 (dk_at dksX3_set_1 4 rfl rfl)
theorem dX3_set_31 : decode cX3_set 31 = .ok (.iconst 1, 1) := dk_4 (dk_at dksX3_set_1 7 rfl rfl)
theorem dX3_set_32 : decode cX3_set 32 = .ok (.isub, 1) := dk_100 (dk_at dksX3_set_1 8 rfl rfl)
theorem dX3_set_33 : decode cX3_set 33 = .ok (.invokevirtual 195, 3) := dk_182 0 195 (dk_at dksX3_set_1 9 rfl rfl)
theorem dX3_set_36 : decode cX3_set 36 = .ok (.ifCond .eq 12, 3) := dk_153 0 12 (dk_at dksX3_set_1 12 rfl rfl)
theorem dX3_set_39 : decode cX3_set 39 = .ok (.aload_n 0, 1) := dk_42 (dk_at dksX3_set_1 15 rfl rfl)
theorem dX3_set_40 : decode cX3_set 40 = .ok (.getfield 171, 3) := dk_180 0 171 (dk_at dksX3_set_1 16 rfl rfl)
theorem dX3_set_43 : decode cX3_set 43 = .ok (.iload_n 2, 1) := dk_28 (dk_at dksX3_set_1 19 rfl rfl)
theorem dX3_set_44 : decode cX3_set 44 = .ok (.iaload, 1) := dk_46 (dk_at dksX3_set_1 20 rfl rfl)
theorem dX3_set_45 : decode cX3_set 45 = .ok (.goto 4, 3) := dk_167 0 4 (dk_at dksX3_set_1 21 rfl rfl)
theorem dX3_set_48 : decode cX3_set 48 = .ok (.iconst (-1), 1) := dk_2 (dk_at dksX3_set_2 0 rfl rfl)
theorem dX3_set_49 : decode cX3_set 49 = .ok (.ireturn, 1) := dk_172 (dk_at dksX3_set_2 1 rfl rfl)
abbrev cX3_findSet : ByteArray := prog_17_method_61_code
def yX3_findSet : MethodName := ⟨RX3, "findSet", "(I)I"⟩
def dkwX3_findSet_12 : List UInt8 := [132, 6, 1, 167, 255, 225, 132, 4, 1, 167, 255, 113, 3, 172]
abbrev dktX3_findSet_12 : List UInt8 := dkwX3_findSet_12 ++ []
def dkwX3_findSet_11 : List UInt8 := [162, 0, 28, 42, 180, 0, 171, 21, 6, 42, 180, 0, 165, 42, 180, 0, 168, 21, 6, 46, 46, 79]
abbrev dktX3_findSet_11 : List UInt8 := dkwX3_findSet_11 ++ dktX3_findSet_12
def dkwX3_findSet_10 : List UInt8 := [180, 0, 174, 161, 0, 6, 167, 0, 46, 42, 21, 5, 181, 0, 174, 3, 54, 6, 21, 6, 42, 180, 0, 13]
abbrev dktX3_findSet_10 : List UInt8 := dkwX3_findSet_10 ++ dktX3_findSet_11
def dkwX3_findSet_9 : List UInt8 := [182, 0, 207, 46, 46, 46, 100, 182, 1, 8, 96, 54, 5, 132, 6, 1, 167, 255, 196, 21, 5, 42]
abbrev dktX3_findSet_9 : List UInt8 := dkwX3_findSet_9 ++ dktX3_findSet_10
def dkwX3_findSet_8 : List UInt8 := [180, 0, 168, 21, 6, 46, 46, 46, 42, 180, 0, 20, 42, 180, 0, 165, 42, 180, 0, 168, 42, 21, 6]
abbrev dktX3_findSet_8 : List UInt8 := dkwX3_findSet_8 ++ dktX3_findSet_9
def dkwX3_findSet_7 : List UInt8 := [54, 6, 21, 6, 42, 180, 0, 13, 162, 0, 57, 21, 5, 42, 42, 180, 0, 20, 42, 180, 0, 165, 42]
abbrev dktX3_findSet_7 : List UInt8 := dkwX3_findSet_7 ++ dktX3_findSet_8
def dkwX3_findSet_6 : List UInt8 := [3, 54, 4, 21, 4, 29, 162, 0, 143, 42, 21, 4, 42, 180, 0, 168, 182, 1, 47, 3, 54, 5, 3]
abbrev dktX3_findSet_6 : List UInt8 := dkwX3_findSet_6 ++ dktX3_findSet_7
def dkwX3_findSet_5 : List UInt8 := [180, 0, 13, 163, 0, 14, 29, 21, 4, 104, 62, 132, 4, 1, 167, 255, 239, 42, 19, 1, 60, 181, 0, 174]
abbrev dktX3_findSet_5 : List UInt8 := dkwX3_findSet_5 ++ dktX3_findSet_6
def dkwX3_findSet_4 : List UInt8 := [167, 255, 203, 28, 42, 180, 0, 13, 159, 0, 6, 16, 254, 172, 4, 62, 5, 54, 4, 21, 4, 42]
abbrev dktX3_findSet_4 : List UInt8 := dkwX3_findSet_4 ++ dktX3_findSet_5
def dkwX3_findSet_3 : List UInt8 := [180, 0, 13, 160, 0, 6, 16, 254, 172, 42, 180, 0, 165, 28, 29, 79, 132, 2, 1, 132, 3, 1]
abbrev dktX3_findSet_3 : List UInt8 := dkwX3_findSet_3 ++ dktX3_findSet_4
def dkwX3_findSet_2 : List UInt8 := [29, 122, 4, 126, 154, 0, 6, 167, 0, 34, 42, 180, 0, 16, 29, 46, 7, 159, 0, 11, 28, 42]
abbrev dktX3_findSet_2 : List UInt8 := dkwX3_findSet_2 ++ dktX3_findSet_3
def dkwX3_findSet_1 : List UInt8 := [42, 180, 0, 7, 122, 153, 0, 6, 16, 254, 172, 3, 61, 3, 62, 29, 42, 180, 0, 7, 162, 0, 51, 27]
abbrev dktX3_findSet_1 : List UInt8 := dkwX3_findSet_1 ++ dktX3_findSet_2
def dkwX3_findSet_0 : List UInt8 := [42, 180, 0, 13, 153, 0, 12, 42, 180, 0, 13, 16, 7, 164, 0, 6, 16, 253, 172, 27, 155, 0, 12, 27]
abbrev dktX3_findSet_0 : List UInt8 := dkwX3_findSet_0 ++ dktX3_findSet_1
theorem dksX3_findSet_0 : cX3_findSet.data.toList.drop 0 = dktX3_findSet_0 := by decide +kernel
theorem dksX3_findSet_1 : cX3_findSet.data.toList.drop 24 = dktX3_findSet_1 := dk_seg dksX3_findSet_0 24 rfl rfl
theorem dksX3_findSet_2 : cX3_findSet.data.toList.drop 48 = dktX3_findSet_2 := dk_seg dksX3_findSet_1 24 rfl rfl
theorem dksX3_findSet_3 : cX3_findSet.data.toList.drop 70 = dktX3_findSet_3 := dk_seg dksX3_findSet_2 22 rfl rfl
theorem dksX3_findSet_4 : cX3_findSet.data.toList.drop 92 = dktX3_findSet_4 := dk_seg dksX3_findSet_3 22 rfl rfl
theorem dksX3_findSet_5 : cX3_findSet.data.toList.drop 114 = dktX3_findSet_5 := dk_seg dksX3_findSet_4 22 rfl rfl
theorem dksX3_findSet_6 : cX3_findSet.data.toList.drop 138 = dktX3_findSet_6 := dk_seg dksX3_findSet_5 24 rfl rfl
theorem dksX3_findSet_7 : cX3_findSet.data.toList.drop 161 = dktX3_findSet_7 := dk_seg dksX3_findSet_6 23 rfl rfl
theorem dksX3_findSet_8 : cX3_findSet.data.toList.drop 184 = dktX3_findSet_8 := dk_seg dksX3_findSet_7 23 rfl rfl
theorem dksX3_findSet_9 : cX3_findSet.data.toList.drop 207 = dktX3_findSet_9 := dk_seg dksX3_findSet_8 23 rfl rfl
theorem dksX3_findSet_10 : cX3_findSet.data.toList.drop 229 = dktX3_findSet_10 := dk_seg dksX3_findSet_9 22 rfl rfl
theorem dksX3_findSet_11 : cX3_findSet.data.toList.drop 253 = dktX3_findSet_11 := dk_seg dksX3_findSet_10 24 rfl rfl
theorem dksX3_findSet_12 : cX3_findSet.data.toList.drop 275 = dktX3_findSet_12 := dk_seg dksX3_findSet_11 22 rfl rfl
theorem dX3_findSet_0 : decode cX3_findSet 0 = .ok (.aload_n 0, 1) := dk_42 (dk_at dksX3_findSet_0 0 rfl rfl)
theorem dX3_findSet_1 : decode cX3_findSet 1 = .ok (.getfield 13, 3) := dk_180 0 13 (dk_at dksX3_findSet_0 1 rfl rfl)
theorem dX3_findSet_4 : decode cX3_findSet 4 = .ok (.ifCond .eq 12, 3) := dk_153 0 12 (dk_at dksX3_findSet_0 4 rfl rfl)
theorem dX3_findSet_7 : decode cX3_findSet 7 = .ok (.aload_n 0, 1) := dk_42 (dk_at dksX3_findSet_0 7 rfl rfl)
theorem dX3_findSet_8 : decode cX3_findSet 8 = .ok (.getfield 13, 3) := dk_180 0 13 (dk_at dksX3_findSet_0 8 rfl rfl)
theorem dX3_findSet_11 : decode cX3_findSet 11 = .ok (.bipush 7, 2) := dk_16 7 (dk_at dksX3_findSet_0 11 rfl rfl)
theorem dX3_findSet_13 : decode cX3_findSet 13 = .ok (.if_icmp .le 6, 3) := dk_164 0 6 (dk_at dksX3_findSet_0 13 rfl rfl)
theorem dX3_findSet_16 : decode cX3_findSet 16 = .ok (.bipush (-3), 2) := dk_16 253 (dk_at dksX3_findSet_0 16 rfl rfl)
theorem dX3_findSet_18 : decode cX3_findSet 18 = .ok (.ireturn, 1) := dk_172 (dk_at dksX3_findSet_0 18 rfl rfl)
theorem dX3_findSet_19 : decode cX3_findSet 19 = .ok (.iload_n 1, 1) := dk_27 (dk_at dksX3_findSet_0 19 rfl rfl)
theorem dX3_findSet_20 : decode cX3_findSet 20 = .ok (.ifCond .lt 12, 3) := dk_155 0 12 (dk_at dksX3_findSet_0 20 rfl rfl)
theorem dX3_findSet_23 : decode cX3_findSet 23 = .ok (.iload_n 1, 1) := dk_27 (dk_at dksX3_findSet_0 23 rfl rfl)
theorem dX3_findSet_24 : decode cX3_findSet 24 = .ok (.aload_n 0, 1) := dk_42 (dk_at dksX3_findSet_1 0 rfl rfl)
theorem dX3_findSet_25 : decode cX3_findSet 25 = .ok (.getfield 7, 3) := dk_180 0 7 (dk_at dksX3_findSet_1 1 rfl rfl)
theorem dX3_findSet_28 : decode cX3_findSet 28 = .ok (.ishr, 1) := dk_122 (dk_at dksX3_findSet_1 4 rfl rfl)
theorem dX3_findSet_29 : decode cX3_findSet 29 = .ok (.ifCond .eq 6, 3) := dk_153 0 6 (dk_at dksX3_findSet_1 5 rfl rfl)
theorem dX3_findSet_32 : decode cX3_findSet 32 = .ok (.bipush (-2), 2) := dk_16 254 (dk_at dksX3_findSet_1 8 rfl rfl)
theorem dX3_findSet_34 : decode cX3_findSet 34 = .ok (.ireturn, 1) := dk_172 (dk_at dksX3_findSet_1 10 rfl rfl)
theorem dX3_findSet_35 : decode cX3_findSet 35 = .ok (.iconst 0, 1) := dk_3 (dk_at dksX3_findSet_1 11 rfl rfl)
theorem dX3_findSet_36 : decode cX3_findSet 36 = .ok (.istore_n 2, 1) := dk_61 (dk_at dksX3_findSet_1 12 rfl rfl)
theorem dX3_findSet_37 : decode cX3_findSet 37 = .ok (.iconst 0, 1) := dk_3 (dk_at dksX3_findSet_1 13 rfl rfl)
theorem dX3_findSet_38 : decode cX3_findSet 38 = .ok (.istore_n 3, 1) := dk_62 (dk_at dksX3_findSet_1 14 rfl rfl)
theorem dX3_findSet_39 : decode cX3_findSet 39 = .ok (.iload_n 3, 1) := dk_29 (dk_at dksX3_findSet_1 15 rfl rfl)
theorem dX3_findSet_40 : decode cX3_findSet 40 = .ok (.aload_n 0, 1) := dk_42 (dk_at dksX3_findSet_1 16 rfl rfl)
theorem dX3_findSet_41 : decode cX3_findSet 41 = .ok (.getfield 7, 3) := dk_180 0 7 (dk_at dksX3_findSet_1 17 rfl rfl)
theorem dX3_findSet_44 : decode cX3_findSet 44 = .ok (.if_icmp .ge 51, 3) := dk_162 0 51 (dk_at dksX3_findSet_1 20 rfl rfl)
theorem dX3_findSet_47 : decode cX3_findSet 47 = .ok (.iload_n 1, 1) := dk_27 (dk_at dksX3_findSet_1 23 rfl rfl)
theorem dX3_findSet_48 : decode cX3_findSet 48 = .ok (.iload_n 3, 1) := dk_29 (dk_at dksX3_findSet_2 0 rfl rfl)
theorem dX3_findSet_49 : decode cX3_findSet 49 = .ok (.ishr, 1) := dk_122 (dk_at dksX3_findSet_2 1 rfl rfl)
theorem dX3_findSet_50 : decode cX3_findSet 50 = .ok (.iconst 1, 1) := dk_4 (dk_at dksX3_findSet_2 2 rfl rfl)
theorem dX3_findSet_51 : decode cX3_findSet 51 = .ok (.iand, 1) := dk_126 (dk_at dksX3_findSet_2 3 rfl rfl)
theorem dX3_findSet_52 : decode cX3_findSet 52 = .ok (.ifCond .ne 6, 3) := dk_154 0 6 (dk_at dksX3_findSet_2 4 rfl rfl)
theorem dX3_findSet_55 : decode cX3_findSet 55 = .ok (.goto 34, 3) := dk_167 0 34 (dk_at dksX3_findSet_2 7 rfl rfl)
theorem dX3_findSet_58 : decode cX3_findSet 58 = .ok (.aload_n 0, 1) := dk_42 (dk_at dksX3_findSet_2 10 rfl rfl)
theorem dX3_findSet_59 : decode cX3_findSet 59 = .ok (.getfield 16, 3) := dk_180 0 16 (dk_at dksX3_findSet_2 11 rfl rfl)
theorem dX3_findSet_62 : decode cX3_findSet 62 = .ok (.iload_n 3, 1) := dk_29 (dk_at dksX3_findSet_2 14 rfl rfl)
theorem dX3_findSet_63 : decode cX3_findSet 63 = .ok (.iaload, 1) := dk_46 (dk_at dksX3_findSet_2 15 rfl rfl)
theorem dX3_findSet_64 : decode cX3_findSet 64 = .ok (.iconst 4, 1) := dk_7 (dk_at dksX3_findSet_2 16 rfl rfl)
theorem dX3_findSet_65 : decode cX3_findSet 65 = .ok (.if_icmp .eq 11, 3) := dk_159 0 11 (dk_at dksX3_findSet_2 17 rfl rfl)
theorem dX3_findSet_68 : decode cX3_findSet 68 = .ok (.iload_n 2, 1) := dk_28 (dk_at dksX3_findSet_2 20 rfl rfl)
theorem dX3_findSet_69 : decode cX3_findSet 69 = .ok (.aload_n 0, 1) := dk_42 (dk_at dksX3_findSet_2 21 rfl rfl)
theorem dX3_findSet_70 : decode cX3_findSet 70 = .ok (.getfield 13, 3) := dk_180 0 13 (dk_at dksX3_findSet_3 0 rfl rfl)
theorem dX3_findSet_73 : decode cX3_findSet 73 = .ok (.if_icmp .ne 6, 3) := dk_160 0 6 (dk_at dksX3_findSet_3 3 rfl rfl)
theorem dX3_findSet_76 : decode cX3_findSet 76 = .ok (.bipush (-2), 2) := dk_16 254 (dk_at dksX3_findSet_3 6 rfl rfl)
theorem dX3_findSet_78 : decode cX3_findSet 78 = .ok (.ireturn, 1) := dk_172 (dk_at dksX3_findSet_3 8 rfl rfl)
theorem dX3_findSet_79 : decode cX3_findSet 79 = .ok (.aload_n 0, 1) := dk_42 (dk_at dksX3_findSet_3 9 rfl rfl)
theorem dX3_findSet_80 : decode cX3_findSet 80 = .ok (.getfield 165, 3) := dk_180 0 165 (dk_at dksX3_findSet_3 10 rfl rfl)
theorem dX3_findSet_83 : decode cX3_findSet 83 = .ok (.iload_n 2, 1) := dk_28 (dk_at dksX3_findSet_3 13 rfl rfl)
theorem dX3_findSet_84 : decode cX3_findSet 84 = .ok (.iload_n 3, 1) := dk_29 (dk_at dksX3_findSet_3 14 rfl rfl)
theorem dX3_findSet_85 : decode cX3_findSet 85 = .ok (.iastore, 1) := dk_79 (dk_at dksX3_findSet_3 15 rfl rfl)
theorem dX3_findSet_86 : decode cX3_findSet 86 = .ok (.iinc 2 1, 3) := dk_132 2 1 (dk_at dksX3_findSet_3 16 rfl rfl)
theorem dX3_findSet_89 : decode cX3_findSet 89 = .ok (.iinc 3 1, 3) := dk_132 3 1 (dk_at dksX3_findSet_3 19 rfl rfl)
theorem dX3_findSet_92 : decode cX3_findSet 92 = .ok (.goto (-53), 3) := dk_167 255 203 (dk_at dksX3_findSet_4 0 rfl rfl)
theorem dX3_findSet_95 : decode cX3_findSet 95 = .ok (.iload_n 2, 1) := dk_28 (dk_at dksX3_findSet_4 3 rfl rfl)
theorem dX3_findSet_96 : decode cX3_findSet 96 = .ok (.aload_n 0, 1) := dk_42 (dk_at dksX3_findSet_4 4 rfl rfl)
theorem dX3_findSet_97 : decode cX3_findSet 97 = .ok (.getfield 13, 3) := dk_180 0 13 (dk_at dksX3_findSet_4 5 rfl rfl)
theorem dX3_findSet_100 : decode cX3_findSet 100 = .ok (.if_icmp .eq 6, 3) := dk_159 0 6 (dk_at dksX3_findSet_4 8 rfl rfl)
theorem dX3_findSet_103 : decode cX3_findSet 103 = .ok (.bipush (-2), 2) := dk_16 254 (dk_at dksX3_findSet_4 11 rfl rfl)
theorem dX3_findSet_105 : decode cX3_findSet 105 = .ok (.ireturn, 1) := dk_172 (dk_at dksX3_findSet_4 13 rfl rfl)
theorem dX3_findSet_106 : decode cX3_findSet 106 = .ok (.iconst 1, 1) := dk_4 (dk_at dksX3_findSet_4 14 rfl rfl)
theorem dX3_findSet_107 : decode cX3_findSet 107 = .ok (.istore_n 3, 1) := dk_62 (dk_at dksX3_findSet_4 15 rfl rfl)
theorem dX3_findSet_108 : decode cX3_findSet 108 = .ok (.iconst 2, 1) := dk_5 (dk_at dksX3_findSet_4 16 rfl rfl)
theorem dX3_findSet_109 : decode cX3_findSet 109 = .ok (.istore 4, 2) := dk_54 4 (dk_at dksX3_findSet_4 17 rfl rfl)
theorem dX3_findSet_111 : decode cX3_findSet 111 = .ok (.iload 4, 2) := dk_21 4 (dk_at dksX3_findSet_4 19 rfl rfl)
theorem dX3_findSet_113 : decode cX3_findSet 113 = .ok (.aload_n 0, 1) := dk_42 (dk_at dksX3_findSet_4 21 rfl rfl)
theorem dX3_findSet_114 : decode cX3_findSet 114 = .ok (.getfield 13, 3) := dk_180 0 13 (dk_at dksX3_findSet_5 0 rfl rfl)
theorem dX3_findSet_117 : decode cX3_findSet 117 = .ok (.if_icmp .gt 14, 3) := dk_163 0 14 (dk_at dksX3_findSet_5 3 rfl rfl)
theorem dX3_findSet_120 : decode cX3_findSet 120 = .ok (.iload_n 3, 1) := dk_29 (dk_at dksX3_findSet_5 6 rfl rfl)
theorem dX3_findSet_121 : decode cX3_findSet 121 = .ok (.iload 4, 2) := dk_21 4 (dk_at dksX3_findSet_5 7 rfl rfl)
theorem dX3_findSet_123 : decode cX3_findSet 123 = .ok (.imul, 1) := dk_104 (dk_at dksX3_findSet_5 9 rfl rfl)
theorem dX3_findSet_124 : decode cX3_findSet 124 = .ok (.istore_n 3, 1) := dk_62 (dk_at dksX3_findSet_5 10 rfl rfl)
theorem dX3_findSet_125 : decode cX3_findSet 125 = .ok (.iinc 4 1, 3) := dk_132 4 1 (dk_at dksX3_findSet_5 11 rfl rfl)
theorem dX3_findSet_128 : decode cX3_findSet 128 = .ok (.goto (-17), 3) := dk_167 255 239 (dk_at dksX3_findSet_5 14 rfl rfl)
theorem dX3_findSet_131 : decode cX3_findSet 131 = .ok (.aload_n 0, 1) := dk_42 (dk_at dksX3_findSet_5 17 rfl rfl)
theorem dX3_findSet_132 : decode cX3_findSet 132 = .ok (.ldc_w 316, 3) := dk_19 1 60 (dk_at dksX3_findSet_5 18 rfl rfl)
theorem dX3_findSet_135 : decode cX3_findSet 135 = .ok (.putfield 174, 3) := dk_181 0 174 (dk_at dksX3_findSet_5 21 rfl rfl)
theorem dX3_findSet_138 : decode cX3_findSet 138 = .ok (.iconst 0, 1) := dk_3 (dk_at dksX3_findSet_6 0 rfl rfl)
theorem dX3_findSet_139 : decode cX3_findSet 139 = .ok (.istore 4, 2) := dk_54 4 (dk_at dksX3_findSet_6 1 rfl rfl)
theorem dX3_findSet_141 : decode cX3_findSet 141 = .ok (.iload 4, 2) := dk_21 4 (dk_at dksX3_findSet_6 3 rfl rfl)
theorem dX3_findSet_143 : decode cX3_findSet 143 = .ok (.iload_n 3, 1) := dk_29 (dk_at dksX3_findSet_6 5 rfl rfl)
theorem dX3_findSet_144 : decode cX3_findSet 144 = .ok (.if_icmp .ge 143, 3) := dk_162 0 143 (dk_at dksX3_findSet_6 6 rfl rfl)
theorem dX3_findSet_147 : decode cX3_findSet 147 = .ok (.aload_n 0, 1) := dk_42 (dk_at dksX3_findSet_6 9 rfl rfl)
theorem dX3_findSet_148 : decode cX3_findSet 148 = .ok (.iload 4, 2) := dk_21 4 (dk_at dksX3_findSet_6 10 rfl rfl)
theorem dX3_findSet_150 : decode cX3_findSet 150 = .ok (.aload_n 0, 1) := dk_42 (dk_at dksX3_findSet_6 12 rfl rfl)
theorem dX3_findSet_151 : decode cX3_findSet 151 = .ok (.getfield 168, 3) := dk_180 0 168 (dk_at dksX3_findSet_6 13 rfl rfl)
theorem dX3_findSet_154 : decode cX3_findSet 154 = .ok (.invokevirtual 303, 3) := dk_182 1 47 (dk_at dksX3_findSet_6 16 rfl rfl)
theorem dX3_findSet_157 : decode cX3_findSet 157 = .ok (.iconst 0, 1) := dk_3 (dk_at dksX3_findSet_6 19 rfl rfl)
theorem dX3_findSet_158 : decode cX3_findSet 158 = .ok (.istore 5, 2) := dk_54 5 (dk_at dksX3_findSet_6 20 rfl rfl)
theorem dX3_findSet_160 : decode cX3_findSet 160 = .ok (.iconst 0, 1) := dk_3 (dk_at dksX3_findSet_6 22 rfl rfl)
theorem dX3_findSet_161 : decode cX3_findSet 161 = .ok (.istore 6, 2) := dk_54 6 (dk_at dksX3_findSet_7 0 rfl rfl)
theorem dX3_findSet_163 : decode cX3_findSet 163 = .ok (.iload 6, 2) := dk_21 6 (dk_at dksX3_findSet_7 2 rfl rfl)
theorem dX3_findSet_165 : decode cX3_findSet 165 = .ok (.aload_n 0, 1) := dk_42 (dk_at dksX3_findSet_7 4 rfl rfl)
theorem dX3_findSet_166 : decode cX3_findSet 166 = .ok (.getfield 13, 3) := dk_180 0 13 (dk_at dksX3_findSet_7 5 rfl rfl)
theorem dX3_findSet_169 : decode cX3_findSet 169 = .ok (.if_icmp .ge 57, 3) := dk_162 0 57 (dk_at dksX3_findSet_7 8 rfl rfl)
theorem dX3_findSet_172 : decode cX3_findSet 172 = .ok (.iload 5, 2) := dk_21 5 (dk_at dksX3_findSet_7 11 rfl rfl)
theorem dX3_findSet_174 : decode cX3_findSet 174 = .ok (.aload_n 0, 1) := dk_42 (dk_at dksX3_findSet_7 13 rfl rfl)
theorem dX3_findSet_175 : decode cX3_findSet 175 = .ok (.aload_n 0, 1) := dk_42 (dk_at dksX3_findSet_7 14 rfl rfl)
theorem dX3_findSet_176 : decode cX3_findSet 176 = .ok (.getfield 20, 3) := dk_180 0 20 (dk_at dksX3_findSet_7 15 rfl rfl)
theorem dX3_findSet_179 : decode cX3_findSet 179 = .ok (.aload_n 0, 1) := dk_42 (dk_at dksX3_findSet_7 18 rfl rfl)
theorem dX3_findSet_180 : decode cX3_findSet 180 = .ok (.getfield 165, 3) := dk_180 0 165 (dk_at dksX3_findSet_7 19 rfl rfl)
theorem dX3_findSet_183 : decode cX3_findSet 183 = .ok (.aload_n 0, 1) := dk_42 (dk_at dksX3_findSet_7 22 rfl rfl)
theorem dX3_findSet_184 : decode cX3_findSet 184 = .ok (.getfield 168, 3) := dk_180 0 168 (dk_at dksX3_findSet_8 0 rfl rfl)
theorem dX3_findSet_187 : decode cX3_findSet 187 = .ok (.iload 6, 2) := dk_21 6 (dk_at dksX3_findSet_8 3 rfl rfl)
theorem dX3_findSet_189 : decode cX3_findSet 189 = .ok (.iaload, 1) := dk_46 (dk_at dksX3_findSet_8 5 rfl rfl)
theorem dX3_findSet_190 : decode cX3_findSet 190 = .ok (.iaload, 1) := dk_46 (dk_at dksX3_findSet_8 6 rfl rfl)
theorem dX3_findSet_191 : decode cX3_findSet 191 = .ok (.iaload, 1) := dk_46 (dk_at dksX3_findSet_8 7 rfl rfl)
theorem dX3_findSet_192 : decode cX3_findSet 192 = .ok (.aload_n 0, 1) := dk_42 (dk_at dksX3_findSet_8 8 rfl rfl)
theorem dX3_findSet_193 : decode cX3_findSet 193 = .ok (.getfield 20, 3) := dk_180 0 20 (dk_at dksX3_findSet_8 9 rfl rfl)
theorem dX3_findSet_196 : decode cX3_findSet 196 = .ok (.aload_n 0, 1) := dk_42 (dk_at dksX3_findSet_8 12 rfl rfl)
theorem dX3_findSet_197 : decode cX3_findSet 197 = .ok (.getfield 165, 3) := dk_180 0 165 (dk_at dksX3_findSet_8 13 rfl rfl)
theorem dX3_findSet_200 : decode cX3_findSet 200 = .ok (.aload_n 0, 1) := dk_42 (dk_at dksX3_findSet_8 16 rfl rfl)
theorem dX3_findSet_201 : decode cX3_findSet 201 = .ok (.getfield 168, 3) := dk_180 0 168 (dk_at dksX3_findSet_8 17 rfl rfl)
theorem dX3_findSet_204 : decode cX3_findSet 204 = .ok (.aload_n 0, 1) := dk_42 (dk_at dksX3_findSet_8 20 rfl rfl)
theorem dX3_findSet_205 : decode cX3_findSet 205 = .ok (.iload 6, 2) := dk_21 6 (dk_at dksX3_findSet_8 21 rfl rfl)
theorem dX3_findSet_207 : decode cX3_findSet 207 = .ok (.invokevirtual 207, 3) := dk_182 0 207 (dk_at dksX3_findSet_9 0 rfl rfl)
theorem dX3_findSet_210 : decode cX3_findSet 210 = .ok (.iaload, 1) := dk_46 (dk_at dksX3_findSet_9 3 rfl rfl)
theorem dX3_findSet_211 : decode cX3_findSet 211 = .ok (.iaload, 1) := dk_46 (dk_at dksX3_findSet_9 4 rfl rfl)
theorem dX3_findSet_212 : decode cX3_findSet 212 = .ok (.iaload, 1) := dk_46 (dk_at dksX3_findSet_9 5 rfl rfl)
theorem dX3_findSet_213 : decode cX3_findSet 213 = .ok (.isub, 1) := dk_100 (dk_at dksX3_findSet_9 6 rfl rfl)
theorem dX3_findSet_214 : decode cX3_findSet 214 = .ok (.invokevirtual 264, 3) := dk_182 1 8 (dk_at dksX3_findSet_9 7 rfl rfl)
theorem dX3_findSet_217 : decode cX3_findSet 217 = .ok (.iadd, 1) := dk_96 (dk_at dksX3_findSet_9 10 rfl rfl)
theorem dX3_findSet_218 : decode cX3_findSet 218 = .ok (.istore 5, 2) := dk_54 5 (dk_at dksX3_findSet_9 11 rfl rfl)
theorem dX3_findSet_220 : decode cX3_findSet 220 = .ok (.iinc 6 1, 3) := dk_132 6 1 (dk_at dksX3_findSet_9 13 rfl rfl)
theorem dX3_findSet_223 : decode cX3_findSet 223 = .ok (.goto (-60), 3) := dk_167 255 196 (dk_at dksX3_findSet_9 16 rfl rfl)
theorem dX3_findSet_226 : decode cX3_findSet 226 = .ok (.iload 5, 2) := dk_21 5 (dk_at dksX3_findSet_9 19 rfl rfl)
theorem dX3_findSet_228 : decode cX3_findSet 228 = .ok (.aload_n 0, 1) := dk_42 (dk_at dksX3_findSet_9 21 rfl rfl)
theorem dX3_findSet_229 : decode cX3_findSet 229 = .ok (.getfield 174, 3) := dk_180 0 174 (dk_at dksX3_findSet_10 0 rfl rfl)
theorem dX3_findSet_232 : decode cX3_findSet 232 = .ok (.if_icmp .lt 6, 3) := dk_161 0 6 (dk_at dksX3_findSet_10 3 rfl rfl)
theorem dX3_findSet_235 : decode cX3_findSet 235 = .ok (.goto 46, 3) := dk_167 0 46 (dk_at dksX3_findSet_10 6 rfl rfl)
theorem dX3_findSet_238 : decode cX3_findSet 238 = .ok (.aload_n 0, 1) := dk_42 (dk_at dksX3_findSet_10 9 rfl rfl)
theorem dX3_findSet_239 : decode cX3_findSet 239 = .ok (.iload 5, 2) := dk_21 5 (dk_at dksX3_findSet_10 10 rfl rfl)
theorem dX3_findSet_241 : decode cX3_findSet 241 = .ok (.putfield 174, 3) := dk_181 0 174 (dk_at dksX3_findSet_10 12 rfl rfl)
theorem dX3_findSet_244 : decode cX3_findSet 244 = .ok (.iconst 0, 1) := dk_3 (dk_at dksX3_findSet_10 15 rfl rfl)
theorem dX3_findSet_245 : decode cX3_findSet 245 = .ok (.istore 6, 2) := dk_54 6 (dk_at dksX3_findSet_10 16 rfl rfl)
theorem dX3_findSet_247 : decode cX3_findSet 247 = .ok (.iload 6, 2) := dk_21 6 (dk_at dksX3_findSet_10 18 rfl rfl)
theorem dX3_findSet_249 : decode cX3_findSet 249 = .ok (.aload_n 0, 1) := dk_42 (dk_at dksX3_findSet_10 20 rfl rfl)
theorem dX3_findSet_250 : decode cX3_findSet 250 = .ok (.getfield 13, 3) := dk_180 0 13 (dk_at dksX3_findSet_10 21 rfl rfl)
theorem dX3_findSet_253 : decode cX3_findSet 253 = .ok (.if_icmp .ge 28, 3) := dk_162 0 28 (dk_at dksX3_findSet_11 0 rfl rfl)
theorem dX3_findSet_256 : decode cX3_findSet 256 = .ok (.aload_n 0, 1) := dk_42 (dk_at dksX3_findSet_11 3 rfl rfl)
theorem dX3_findSet_257 : decode cX3_findSet 257 = .ok (.getfield 171, 3) := dk_180 0 171 (dk_at dksX3_findSet_11 4 rfl rfl)
theorem dX3_findSet_260 : decode cX3_findSet 260 = .ok (.iload 6, 2) := dk_21 6 (dk_at dksX3_findSet_11 7 rfl rfl)
theorem dX3_findSet_262 : decode cX3_findSet 262 = .ok (.aload_n 0, 1) := dk_42 (dk_at dksX3_findSet_11 9 rfl rfl)
theorem dX3_findSet_263 : decode cX3_findSet 263 = .ok (.getfield 165, 3) := dk_180 0 165 (dk_at dksX3_findSet_11 10 rfl rfl)
theorem dX3_findSet_266 : decode cX3_findSet 266 = .ok (.aload_n 0, 1) := dk_42 (dk_at dksX3_findSet_11 13 rfl rfl)
theorem dX3_findSet_267 : decode cX3_findSet 267 = .ok (.getfield 168, 3) := dk_180 0 168 (dk_at dksX3_findSet_11 14 rfl rfl)
theorem dX3_findSet_270 : decode cX3_findSet 270 = .ok (.iload 6, 2) := dk_21 6 (dk_at dksX3_findSet_11 17 rfl rfl)
theorem dX3_findSet_272 : decode cX3_findSet 272 = .ok (.iaload, 1) := dk_46 (dk_at dksX3_findSet_11 19 rfl rfl)
theorem dX3_findSet_273 : decode cX3_findSet 273 = .ok (.iaload, 1) := dk_46 (dk_at dksX3_findSet_11 20 rfl rfl)
theorem dX3_findSet_274 : decode cX3_findSet 274 = .ok (.iastore, 1) := dk_79 (dk_at dksX3_findSet_11 21 rfl rfl)
theorem dX3_findSet_275 : decode cX3_findSet 275 = .ok (.iinc 6 1, 3) := dk_132 6 1 (dk_at dksX3_findSet_12 0 rfl rfl)
theorem dX3_findSet_278 : decode cX3_findSet 278 = .ok (.goto (-31), 3) := dk_167 255 225 (dk_at dksX3_findSet_12 3 rfl rfl)
theorem dX3_findSet_281 : decode cX3_findSet 281 = .ok (.iinc 4 1, 3) := dk_132 4 1 (dk_at dksX3_findSet_12 6 rfl rfl)
theorem dX3_findSet_284 : decode cX3_findSet 284 = .ok (.goto (-143), 3) := dk_167 255 113 (dk_at dksX3_findSet_12 9 rfl rfl)
theorem dX3_findSet_287 : decode cX3_findSet 287 = .ok (.iconst 0, 1) := dk_3 (dk_at dksX3_findSet_12 12 rfl rfl)
theorem dX3_findSet_288 : decode cX3_findSet 288 = .ok (.ireturn, 1) := dk_172 (dk_at dksX3_findSet_12 13 rfl rfl)
abbrev cX3_spent : ByteArray := prog_17_method_63_code
def yX3_spent : MethodName := ⟨RX3, "spent", "(II)I"⟩
def dkwX3_spent_9 : List UInt8 := [167, 255, 134, 21, 4, 172]
abbrev dktX3_spent_9 : List UInt8 := dkwX3_spent_9 ++ []
def dkwX3_spent_8 : List UInt8 := [182, 0, 207, 46, 46, 96, 96, 54, 4, 42, 42, 180, 0, 171, 21, 8, 182, 1, 51, 132, 6, 1]
abbrev dktX3_spent_8 : List UInt8 := dkwX3_spent_8 ++ dktX3_spent_9
def dkwX3_spent_7 : List UInt8 := [42, 180, 0, 23, 42, 180, 0, 171, 21, 8, 46, 46, 42, 180, 0, 23, 42, 180, 0, 171, 42, 21, 8]
abbrev dktX3_spent_7 : List UInt8 := dkwX3_spent_7 ++ dktX3_spent_8
def dkwX3_spent_6 : List UInt8 := [167, 0, 66, 21, 7, 16, 10, 108, 54, 8, 21, 8, 42, 180, 0, 13, 161, 0, 6, 16, 253, 172, 21, 4]
abbrev dktX3_spent_6 : List UInt8 := dkwX3_spent_6 ++ dktX3_spent_7
def dkwX3_spent_5 : List UInt8 := [161, 0, 26, 21, 4, 21, 5, 96, 54, 4, 42, 42, 180, 0, 171, 21, 7, 16, 100, 100, 182, 0, 215]
abbrev dktX3_spent_5 : List UInt8 := dkwX3_spent_5 ++ dktX3_spent_6
def dkwX3_spent_4 : List UInt8 := [162, 0, 117, 42, 180, 0, 99, 17, 1, 44, 28, 104, 21, 6, 96, 46, 54, 7, 21, 7, 16, 100]
abbrev dktX3_spent_4 : List UInt8 := dkwX3_spent_4 ++ dktX3_spent_5
def dkwX3_spent_3 : List UInt8 := [167, 0, 5, 21, 5, 54, 5, 132, 6, 1, 167, 255, 208, 3, 54, 6, 21, 6, 42, 180, 0, 96, 28, 46]
abbrev dktX3_spent_3 : List UInt8 := dkwX3_spent_3 ++ dktX3_spent_4
def dkwX3_spent_2 : List UInt8 := [180, 0, 171, 21, 6, 46, 46, 21, 5, 164, 0, 18, 42, 180, 0, 23, 42, 180, 0, 171, 21, 6, 46, 46]
abbrev dktX3_spent_2 : List UInt8 := dkwX3_spent_2 ++ dktX3_spent_3
def dkwX3_spent_1 : List UInt8 := [54, 4, 3, 54, 5, 3, 54, 6, 21, 6, 42, 180, 0, 13, 162, 0, 45, 42, 180, 0, 23, 42]
abbrev dktX3_spent_1 : List UInt8 := dkwX3_spent_1 ++ dktX3_spent_2
def dkwX3_spent_0 : List UInt8 := [42, 28, 182, 0, 244, 154, 0, 5, 2, 172, 42, 27, 182, 1, 61, 62, 29, 153, 0, 5, 29, 172, 3]
abbrev dktX3_spent_0 : List UInt8 := dkwX3_spent_0 ++ dktX3_spent_1
theorem dksX3_spent_0 : cX3_spent.data.toList.drop 0 = dktX3_spent_0 := by decide +kernel
theorem dksX3_spent_1 : cX3_spent.data.toList.drop 23 = dktX3_spent_1 := dk_seg dksX3_spent_0 23 rfl rfl
theorem dksX3_spent_2 : cX3_spent.data.toList.drop 45 = dktX3_spent_2 := dk_seg dksX3_spent_1 22 rfl rfl
theorem dksX3_spent_3 : cX3_spent.data.toList.drop 69 = dktX3_spent_3 := dk_seg dksX3_spent_2 24 rfl rfl
theorem dksX3_spent_4 : cX3_spent.data.toList.drop 93 = dktX3_spent_4 := dk_seg dksX3_spent_3 24 rfl rfl
theorem dksX3_spent_5 : cX3_spent.data.toList.drop 115 = dktX3_spent_5 := dk_seg dksX3_spent_4 22 rfl rfl
theorem dksX3_spent_6 : cX3_spent.data.toList.drop 138 = dktX3_spent_6 := dk_seg dksX3_spent_5 23 rfl rfl
theorem dksX3_spent_7 : cX3_spent.data.toList.drop 162 = dktX3_spent_7 := dk_seg dksX3_spent_6 24 rfl rfl
theorem dksX3_spent_8 : cX3_spent.data.toList.drop 185 = dktX3_spent_8 := dk_seg dksX3_spent_7 23 rfl rfl
theorem dksX3_spent_9 : cX3_spent.data.toList.drop 207 = dktX3_spent_9 := dk_seg dksX3_spent_8 22 rfl rfl
theorem dX3_spent_0 : decode cX3_spent 0 = .ok (.aload_n 0, 1) := dk_42 (dk_at dksX3_spent_0 0 rfl rfl)
theorem dX3_spent_1 : decode cX3_spent 1 = .ok (.iload_n 2, 1) := dk_28 (dk_at dksX3_spent_0 1 rfl rfl)
theorem dX3_spent_2 : decode cX3_spent 2 = .ok (.invokevirtual 244, 3) := dk_182 0 244 (dk_at dksX3_spent_0 2 rfl rfl)
theorem dX3_spent_5 : decode cX3_spent 5 = .ok (.ifCond .ne 5, 3) := dk_154 0 5 (dk_at dksX3_spent_0 5 rfl rfl)
theorem dX3_spent_8 : decode cX3_spent 8 = .ok (.iconst (-1), 1) := dk_2 (dk_at dksX3_spent_0 8 rfl rfl)
theorem dX3_spent_9 : decode cX3_spent 9 = .ok (.ireturn, 1) := dk_172 (dk_at dksX3_spent_0 9 rfl rfl)
theorem dX3_spent_10 : decode cX3_spent 10 = .ok (.aload_n 0, 1) := dk_42 (dk_at dksX3_spent_0 10 rfl rfl)
theorem dX3_spent_11 : decode cX3_spent 11 = .ok (.iload_n 1, 1) := dk_27 (dk_at dksX3_spent_0 11 rfl rfl)
theorem dX3_spent_12 : decode cX3_spent 12 = .ok (.invokevirtual 317, 3) := dk_182 1 61 (dk_at dksX3_spent_0 12 rfl rfl)
theorem dX3_spent_15 : decode cX3_spent 15 = .ok (.istore_n 3, 1) := dk_62 (dk_at dksX3_spent_0 15 rfl rfl)
theorem dX3_spent_16 : decode cX3_spent 16 = .ok (.iload_n 3, 1) := dk_29 (dk_at dksX3_spent_0 16 rfl rfl)
theorem dX3_spent_17 : decode cX3_spent 17 = .ok (.ifCond .eq 5, 3) := dk_153 0 5 (dk_at dksX3_spent_0 17 rfl rfl)
theorem dX3_spent_20 : decode cX3_spent 20 = .ok (.iload_n 3, 1) := dk_29 (dk_at dksX3_spent_0 20 rfl rfl)
theorem dX3_spent_21 : decode cX3_spent 21 = .ok (.ireturn, 1) := dk_172 (dk_at dksX3_spent_0 21 rfl rfl)
theorem dX3_spent_22 : decode cX3_spent 22 = .ok (.iconst 0, 1) := dk_3 (dk_at dksX3_spent_0 22 rfl rfl)
theorem dX3_spent_23 : decode cX3_spent 23 = .ok (.istore 4, 2) := dk_54 4 (dk_at dksX3_spent_1 0 rfl rfl)
theorem dX3_spent_25 : decode cX3_spent 25 = .ok (.iconst 0, 1) := dk_3 (dk_at dksX3_spent_1 2 rfl rfl)
theorem dX3_spent_26 : decode cX3_spent 26 = .ok (.istore 5, 2) := dk_54 5 (dk_at dksX3_spent_1 3 rfl rfl)
theorem dX3_spent_28 : decode cX3_spent 28 = .ok (.iconst 0, 1) := dk_3 (dk_at dksX3_spent_1 5 rfl rfl)
theorem dX3_spent_29 : decode cX3_spent 29 = .ok (.istore 6, 2) := dk_54 6 (dk_at dksX3_spent_1 6 rfl rfl)
theorem dX3_spent_31 : decode cX3_spent 31 = .ok (.iload 6, 2) := dk_21 6 (dk_at dksX3_spent_1 8 rfl rfl)
theorem dX3_spent_33 : decode cX3_spent 33 = .ok (.aload_n 0, 1) := dk_42 (dk_at dksX3_spent_1 10 rfl rfl)
theorem dX3_spent_34 : decode cX3_spent 34 = .ok (.getfield 13, 3) := dk_180 0 13 (dk_at dksX3_spent_1 11 rfl rfl)
theorem dX3_spent_37 : decode cX3_spent 37 = .ok (.if_icmp .ge 45, 3) := dk_162 0 45 (dk_at dksX3_spent_1 14 rfl rfl)
theorem dX3_spent_40 : decode cX3_spent 40 = .ok (.aload_n 0, 1) := dk_42 (dk_at dksX3_spent_1 17 rfl rfl)
theorem dX3_spent_41 : decode cX3_spent 41 = .ok (.getfield 23, 3) := dk_180 0 23 (dk_at dksX3_spent_1 18 rfl rfl)
theorem dX3_spent_44 : decode cX3_spent 44 = .ok (.aload_n 0, 1) := dk_42 (dk_at dksX3_spent_1 21 rfl rfl)
theorem dX3_spent_45 : decode cX3_spent 45 = .ok (.getfield 171, 3) := dk_180 0 171 (dk_at dksX3_spent_2 0 rfl rfl)
theorem dX3_spent_48 : decode cX3_spent 48 = .ok (.iload 6, 2) := dk_21 6 (dk_at dksX3_spent_2 3 rfl rfl)
theorem dX3_spent_50 : decode cX3_spent 50 = .ok (.iaload, 1) := dk_46 (dk_at dksX3_spent_2 5 rfl rfl)
theorem dX3_spent_51 : decode cX3_spent 51 = .ok (.iaload, 1) := dk_46 (dk_at dksX3_spent_2 6 rfl rfl)
theorem dX3_spent_52 : decode cX3_spent 52 = .ok (.iload 5, 2) := dk_21 5 (dk_at dksX3_spent_2 7 rfl rfl)
theorem dX3_spent_54 : decode cX3_spent 54 = .ok (.if_icmp .le 18, 3) := dk_164 0 18 (dk_at dksX3_spent_2 9 rfl rfl)
theorem dX3_spent_57 : decode cX3_spent 57 = .ok (.aload_n 0, 1) := dk_42 (dk_at dksX3_spent_2 12 rfl rfl)
theorem dX3_spent_58 : decode cX3_spent 58 = .ok (.getfield 23, 3) := dk_180 0 23 (dk_at dksX3_spent_2 13 rfl rfl)
theorem dX3_spent_61 : decode cX3_spent 61 = .ok (.aload_n 0, 1) := dk_42 (dk_at dksX3_spent_2 16 rfl rfl)
theorem dX3_spent_62 : decode cX3_spent 62 = .ok (.getfield 171, 3) := dk_180 0 171 (dk_at dksX3_spent_2 17 rfl rfl)
theorem dX3_spent_65 : decode cX3_spent 65 = .ok (.iload 6, 2) := dk_21 6 (dk_at dksX3_spent_2 20 rfl rfl)
theorem dX3_spent_67 : decode cX3_spent 67 = .ok (.iaload, 1) := dk_46 (dk_at dksX3_spent_2 22 rfl rfl)
theorem dX3_spent_68 : decode cX3_spent 68 = .ok (.iaload, 1) := dk_46 (dk_at dksX3_spent_2 23 rfl rfl)
theorem dX3_spent_69 : decode cX3_spent 69 = .ok (.goto 5, 3) := dk_167 0 5 (dk_at dksX3_spent_3 0 rfl rfl)
theorem dX3_spent_72 : decode cX3_spent 72 = .ok (.iload 5, 2) := dk_21 5 (dk_at dksX3_spent_3 3 rfl rfl)
theorem dX3_spent_74 : decode cX3_spent 74 = .ok (.istore 5, 2) := dk_54 5 (dk_at dksX3_spent_3 5 rfl rfl)
theorem dX3_spent_76 : decode cX3_spent 76 = .ok (.iinc 6 1, 3) := dk_132 6 1 (dk_at dksX3_spent_3 7 rfl rfl)
theorem dX3_spent_79 : decode cX3_spent 79 = .ok (.goto (-48), 3) := dk_167 255 208 (dk_at dksX3_spent_3 10 rfl rfl)
theorem dX3_spent_82 : decode cX3_spent 82 = .ok (.iconst 0, 1) := dk_3 (dk_at dksX3_spent_3 13 rfl rfl)
theorem dX3_spent_83 : decode cX3_spent 83 = .ok (.istore 6, 2) := dk_54 6 (dk_at dksX3_spent_3 14 rfl rfl)
theorem dX3_spent_85 : decode cX3_spent 85 = .ok (.iload 6, 2) := dk_21 6 (dk_at dksX3_spent_3 16 rfl rfl)
theorem dX3_spent_87 : decode cX3_spent 87 = .ok (.aload_n 0, 1) := dk_42 (dk_at dksX3_spent_3 18 rfl rfl)
theorem dX3_spent_88 : decode cX3_spent 88 = .ok (.getfield 96, 3) := dk_180 0 96 (dk_at dksX3_spent_3 19 rfl rfl)
theorem dX3_spent_91 : decode cX3_spent 91 = .ok (.iload_n 2, 1) := dk_28 (dk_at dksX3_spent_3 22 rfl rfl)
theorem dX3_spent_92 : decode cX3_spent 92 = .ok (.iaload, 1) := dk_46 (dk_at dksX3_spent_3 23 rfl rfl)
theorem dX3_spent_93 : decode cX3_spent 93 = .ok (.if_icmp .ge 117, 3) := dk_162 0 117 (dk_at dksX3_spent_4 0 rfl rfl)
theorem dX3_spent_96 : decode cX3_spent 96 = .ok (.aload_n 0, 1) := dk_42 (dk_at dksX3_spent_4 3 rfl rfl)
theorem dX3_spent_97 : decode cX3_spent 97 = .ok (.getfield 99, 3) := dk_180 0 99 (dk_at dksX3_spent_4 4 rfl rfl)
theorem dX3_spent_100 : decode cX3_spent 100 = .ok (.sipush 300, 3) := dk_17 1 44 (dk_at dksX3_spent_4 7 rfl rfl)
theorem dX3_spent_103 : decode cX3_spent 103 = .ok (.iload_n 2, 1) := dk_28 (dk_at dksX3_spent_4 10 rfl rfl)
theorem dX3_spent_104 : decode cX3_spent 104 = .ok (.imul, 1) := dk_104 (dk_at dksX3_spent_4 11 rfl rfl)
theorem dX3_spent_105 : decode cX3_spent 105 = .ok (.iload 6, 2) := dk_21 6 (dk_at dksX3_spent_4 12 rfl rfl)
theorem dX3_spent_107 : decode cX3_spent 107 = .ok (.iadd, 1) := dk_96 (dk_at dksX3_spent_4 14 rfl rfl)
theorem dX3_spent_108 : decode cX3_spent 108 = .ok (.iaload, 1) := dk_46 (dk_at dksX3_spent_4 15 rfl rfl)
theorem dX3_spent_109 : decode cX3_spent 109 = .ok (.istore 7, 2) := dk_54 7 (dk_at dksX3_spent_4 16 rfl rfl)
theorem dX3_spent_111 : decode cX3_spent 111 = .ok (.iload 7, 2) := dk_21 7 (dk_at dksX3_spent_4 18 rfl rfl)
theorem dX3_spent_113 : decode cX3_spent 113 = .ok (.bipush 100, 2) := dk_16 100 (dk_at dksX3_spent_4 20 rfl rfl)
theorem dX3_spent_115 : decode cX3_spent 115 = .ok (.if_icmp .lt 26, 3) := dk_161 0 26 (dk_at dksX3_spent_5 0 rfl rfl)
theorem dX3_spent_118 : decode cX3_spent 118 = .ok (.iload 4, 2) := dk_21 4 (dk_at dksX3_spent_5 3 rfl rfl)
theorem dX3_spent_120 : decode cX3_spent 120 = .ok (.iload 5, 2) := dk_21 5 (dk_at dksX3_spent_5 5 rfl rfl)
theorem dX3_spent_122 : decode cX3_spent 122 = .ok (.iadd, 1) := dk_96 (dk_at dksX3_spent_5 7 rfl rfl)
theorem dX3_spent_123 : decode cX3_spent 123 = .ok (.istore 4, 2) := dk_54 4 (dk_at dksX3_spent_5 8 rfl rfl)
theorem dX3_spent_125 : decode cX3_spent 125 = .ok (.aload_n 0, 1) := dk_42 (dk_at dksX3_spent_5 10 rfl rfl)
theorem dX3_spent_126 : decode cX3_spent 126 = .ok (.aload_n 0, 1) := dk_42 (dk_at dksX3_spent_5 11 rfl rfl)
theorem dX3_spent_127 : decode cX3_spent 127 = .ok (.getfield 171, 3) := dk_180 0 171 (dk_at dksX3_spent_5 12 rfl rfl)
theorem dX3_spent_130 : decode cX3_spent 130 = .ok (.iload 7, 2) := dk_21 7 (dk_at dksX3_spent_5 15 rfl rfl)
theorem dX3_spent_132 : decode cX3_spent 132 = .ok (.bipush 100, 2) := dk_16 100 (dk_at dksX3_spent_5 17 rfl rfl)
theorem dX3_spent_134 : decode cX3_spent 134 = .ok (.isub, 1) := dk_100 (dk_at dksX3_spent_5 19 rfl rfl)
theorem dX3_spent_135 : decode cX3_spent 135 = .ok (.invokevirtual 215, 3) := dk_182 0 215 (dk_at dksX3_spent_5 20 rfl rfl)
theorem dX3_spent_138 : decode cX3_spent 138 = .ok (.goto 66, 3) := dk_167 0 66 (dk_at dksX3_spent_6 0 rfl rfl)
theorem dX3_spent_141 : decode cX3_spent 141 = .ok (.iload 7, 2) := dk_21 7 (dk_at dksX3_spent_6 3 rfl rfl)
theorem dX3_spent_143 : decode cX3_spent 143 = .ok (.bipush 10, 2) := dk_16 10 (dk_at dksX3_spent_6 5 rfl rfl)
theorem dX3_spent_145 : decode cX3_spent 145 = .ok (.idiv, 1) := dk_108 (dk_at dksX3_spent_6 7 rfl rfl)
theorem dX3_spent_146 : decode cX3_spent 146 = .ok (.istore 8, 2) := dk_54 8 (dk_at dksX3_spent_6 8 rfl rfl)
theorem dX3_spent_148 : decode cX3_spent 148 = .ok (.iload 8, 2) := dk_21 8 (dk_at dksX3_spent_6 10 rfl rfl)
theorem dX3_spent_150 : decode cX3_spent 150 = .ok (.aload_n 0, 1) := dk_42 (dk_at dksX3_spent_6 12 rfl rfl)
theorem dX3_spent_151 : decode cX3_spent 151 = .ok (.getfield 13, 3) := dk_180 0 13 (dk_at dksX3_spent_6 13 rfl rfl)
theorem dX3_spent_154 : decode cX3_spent 154 = .ok (.if_icmp .lt 6, 3) := dk_161 0 6 (dk_at dksX3_spent_6 16 rfl rfl)
theorem dX3_spent_157 : decode cX3_spent 157 = .ok (.bipush (-3), 2) := dk_16 253 (dk_at dksX3_spent_6 19 rfl rfl)
theorem dX3_spent_159 : decode cX3_spent 159 = .ok (.ireturn, 1) := dk_172 (dk_at dksX3_spent_6 21 rfl rfl)
theorem dX3_spent_160 : decode cX3_spent 160 = .ok (.iload 4, 2) := dk_21 4 (dk_at dksX3_spent_6 22 rfl rfl)
theorem dX3_spent_162 : decode cX3_spent 162 = .ok (.aload_n 0, 1) := dk_42 (dk_at dksX3_spent_7 0 rfl rfl)
theorem dX3_spent_163 : decode cX3_spent 163 = .ok (.getfield 23, 3) := dk_180 0 23 (dk_at dksX3_spent_7 1 rfl rfl)
theorem dX3_spent_166 : decode cX3_spent 166 = .ok (.aload_n 0, 1) := dk_42 (dk_at dksX3_spent_7 4 rfl rfl)
theorem dX3_spent_167 : decode cX3_spent 167 = .ok (.getfield 171, 3) := dk_180 0 171 (dk_at dksX3_spent_7 5 rfl rfl)
theorem dX3_spent_170 : decode cX3_spent 170 = .ok (.iload 8, 2) := dk_21 8 (dk_at dksX3_spent_7 8 rfl rfl)
theorem dX3_spent_172 : decode cX3_spent 172 = .ok (.iaload, 1) := dk_46 (dk_at dksX3_spent_7 10 rfl rfl)
theorem dX3_spent_173 : decode cX3_spent 173 = .ok (.iaload, 1) := dk_46 (dk_at dksX3_spent_7 11 rfl rfl)
theorem dX3_spent_174 : decode cX3_spent 174 = .ok (.aload_n 0, 1) := dk_42 (dk_at dksX3_spent_7 12 rfl rfl)
theorem dX3_spent_175 : decode cX3_spent 175 = .ok (.getfield 23, 3) := dk_180 0 23 (dk_at dksX3_spent_7 13 rfl rfl)
theorem dX3_spent_178 : decode cX3_spent 178 = .ok (.aload_n 0, 1) := dk_42 (dk_at dksX3_spent_7 16 rfl rfl)
theorem dX3_spent_179 : decode cX3_spent 179 = .ok (.getfield 171, 3) := dk_180 0 171 (dk_at dksX3_spent_7 17 rfl rfl)
theorem dX3_spent_182 : decode cX3_spent 182 = .ok (.aload_n 0, 1) := dk_42 (dk_at dksX3_spent_7 20 rfl rfl)
theorem dX3_spent_183 : decode cX3_spent 183 = .ok (.iload 8, 2) := dk_21 8 (dk_at dksX3_spent_7 21 rfl rfl)
theorem dX3_spent_185 : decode cX3_spent 185 = .ok (.invokevirtual 207, 3) := dk_182 0 207 (dk_at dksX3_spent_8 0 rfl rfl)
theorem dX3_spent_188 : decode cX3_spent 188 = .ok (.iaload, 1) := dk_46 (dk_at dksX3_spent_8 3 rfl rfl)
theorem dX3_spent_189 : decode cX3_spent 189 = .ok (.iaload, 1) := dk_46 (dk_at dksX3_spent_8 4 rfl rfl)
theorem dX3_spent_190 : decode cX3_spent 190 = .ok (.iadd, 1) := dk_96 (dk_at dksX3_spent_8 5 rfl rfl)
theorem dX3_spent_191 : decode cX3_spent 191 = .ok (.iadd, 1) := dk_96 (dk_at dksX3_spent_8 6 rfl rfl)
theorem dX3_spent_192 : decode cX3_spent 192 = .ok (.istore 4, 2) := dk_54 4 (dk_at dksX3_spent_8 7 rfl rfl)
theorem dX3_spent_194 : decode cX3_spent 194 = .ok (.aload_n 0, 1) := dk_42 (dk_at dksX3_spent_8 9 rfl rfl)
theorem dX3_spent_195 : decode cX3_spent 195 = .ok (.aload_n 0, 1) := dk_42 (dk_at dksX3_spent_8 10 rfl rfl)
theorem dX3_spent_196 : decode cX3_spent 196 = .ok (.getfield 171, 3) := dk_180 0 171 (dk_at dksX3_spent_8 11 rfl rfl)
theorem dX3_spent_199 : decode cX3_spent 199 = .ok (.iload 8, 2) := dk_21 8 (dk_at dksX3_spent_8 14 rfl rfl)
theorem dX3_spent_201 : decode cX3_spent 201 = .ok (.invokevirtual 307, 3) := dk_182 1 51 (dk_at dksX3_spent_8 16 rfl rfl)
theorem dX3_spent_204 : decode cX3_spent 204 = .ok (.iinc 6 1, 3) := dk_132 6 1 (dk_at dksX3_spent_8 19 rfl rfl)
theorem dX3_spent_207 : decode cX3_spent 207 = .ok (.goto (-122), 3) := dk_167 255 134 (dk_at dksX3_spent_9 0 rfl rfl)
theorem dX3_spent_210 : decode cX3_spent 210 = .ok (.iload 4, 2) := dk_21 4 (dk_at dksX3_spent_9 3 rfl rfl)
theorem dX3_spent_212 : decode cX3_spent 212 = .ok (.ireturn, 1) := dk_172 (dk_at dksX3_spent_9 5 rfl rfl)
abbrev cX3_act : ByteArray := prog_17_method_72_code
def yX3_act : MethodName := ⟨RX3, "act", "(III)I"⟩
def dkwX3_act_2 : List UInt8 := [182, 1, 79, 167, 0, 9, 42, 27, 29, 182, 1, 85, 172]
abbrev dktX3_act_2 : List UInt8 := dkwX3_act_2 ++ []
def dkwX3_act_1 : List UInt8 := [172, 28, 154, 0, 12, 42, 27, 29, 182, 1, 70, 167, 0, 23, 28, 4, 160, 0, 12, 42, 27, 29]
abbrev dktX3_act_1 : List UInt8 := dkwX3_act_1 ++ dktX3_act_2
def dkwX3_act_0 : List UInt8 := [42, 3, 181, 0, 177, 42, 27, 182, 0, 203, 153, 0, 13, 42, 28, 3, 5, 182, 0, 195, 154, 0, 5, 3]
abbrev dktX3_act_0 : List UInt8 := dkwX3_act_0 ++ dktX3_act_1
theorem dksX3_act_0 : cX3_act.data.toList.drop 0 = dktX3_act_0 := by decide +kernel
theorem dksX3_act_1 : cX3_act.data.toList.drop 24 = dktX3_act_1 := dk_seg dksX3_act_0 24 rfl rfl
theorem dksX3_act_2 : cX3_act.data.toList.drop 46 = dktX3_act_2 := dk_seg dksX3_act_1 22 rfl rfl
theorem dX3_act_0 : decode cX3_act 0 = .ok (.aload_n 0, 1) := dk_42 (dk_at dksX3_act_0 0 rfl rfl)
theorem dX3_act_1 : decode cX3_act 1 = .ok (.iconst 0, 1) := dk_3 (dk_at dksX3_act_0 1 rfl rfl)
theorem dX3_act_2 : decode cX3_act 2 = .ok (.putfield 177, 3) := dk_181 0 177 (dk_at dksX3_act_0 2 rfl rfl)
theorem dX3_act_5 : decode cX3_act 5 = .ok (.aload_n 0, 1) := dk_42 (dk_at dksX3_act_0 5 rfl rfl)
theorem dX3_act_6 : decode cX3_act 6 = .ok (.iload_n 1, 1) := dk_27 (dk_at dksX3_act_0 6 rfl rfl)
theorem dX3_act_7 : decode cX3_act 7 = .ok (.invokevirtual 203, 3) := dk_182 0 203 (dk_at dksX3_act_0 7 rfl rfl)
theorem dX3_act_10 : decode cX3_act 10 = .ok (.ifCond .eq 13, 3) := dk_153 0 13 (dk_at dksX3_act_0 10 rfl rfl)
theorem dX3_act_13 : decode cX3_act 13 = .ok (.aload_n 0, 1) := dk_42 (dk_at dksX3_act_0 13 rfl rfl)
theorem dX3_act_14 : decode cX3_act 14 = .ok (.iload_n 2, 1) := dk_28 (dk_at dksX3_act_0 14 rfl rfl)
theorem dX3_act_15 : decode cX3_act 15 = .ok (.iconst 0, 1) := dk_3 (dk_at dksX3_act_0 15 rfl rfl)
theorem dX3_act_16 : decode cX3_act 16 = .ok (.iconst 2, 1) := dk_5 (dk_at dksX3_act_0 16 rfl rfl)
theorem dX3_act_17 : decode cX3_act 17 = .ok (.invokevirtual 195, 3) := dk_182 0 195 (dk_at dksX3_act_0 17 rfl rfl)
theorem dX3_act_20 : decode cX3_act 20 = .ok (.ifCond .ne 5, 3) := dk_154 0 5 (dk_at dksX3_act_0 20 rfl rfl)
theorem dX3_act_23 : decode cX3_act 23 = .ok (.iconst 0, 1) := dk_3 (dk_at dksX3_act_0 23 rfl rfl)
theorem dX3_act_24 : decode cX3_act 24 = .ok (.ireturn, 1) := dk_172 (dk_at dksX3_act_1 0 rfl rfl)
theorem dX3_act_25 : decode cX3_act 25 = .ok (.iload_n 2, 1) := dk_28 (dk_at dksX3_act_1 1 rfl rfl)
theorem dX3_act_26 : decode cX3_act 26 = .ok (.ifCond .ne 12, 3) := dk_154 0 12 (dk_at dksX3_act_1 2 rfl rfl)
theorem dX3_act_29 : decode cX3_act 29 = .ok (.aload_n 0, 1) := dk_42 (dk_at dksX3_act_1 5 rfl rfl)
theorem dX3_act_30 : decode cX3_act 30 = .ok (.iload_n 1, 1) := dk_27 (dk_at dksX3_act_1 6 rfl rfl)
theorem dX3_act_31 : decode cX3_act 31 = .ok (.iload_n 3, 1) := dk_29 (dk_at dksX3_act_1 7 rfl rfl)
theorem dX3_act_32 : decode cX3_act 32 = .ok (.invokevirtual 326, 3) := dk_182 1 70 (dk_at dksX3_act_1 8 rfl rfl)
theorem dX3_act_35 : decode cX3_act 35 = .ok (.goto 23, 3) := dk_167 0 23 (dk_at dksX3_act_1 11 rfl rfl)
theorem dX3_act_38 : decode cX3_act 38 = .ok (.iload_n 2, 1) := dk_28 (dk_at dksX3_act_1 14 rfl rfl)
theorem dX3_act_39 : decode cX3_act 39 = .ok (.iconst 1, 1) := dk_4 (dk_at dksX3_act_1 15 rfl rfl)
theorem dX3_act_40 : decode cX3_act 40 = .ok (.if_icmp .ne 12, 3) := dk_160 0 12 (dk_at dksX3_act_1 16 rfl rfl)
theorem dX3_act_43 : decode cX3_act 43 = .ok (.aload_n 0, 1) := dk_42 (dk_at dksX3_act_1 19 rfl rfl)
theorem dX3_act_44 : decode cX3_act 44 = .ok (.iload_n 1, 1) := dk_27 (dk_at dksX3_act_1 20 rfl rfl)
theorem dX3_act_45 : decode cX3_act 45 = .ok (.iload_n 3, 1) := dk_29 (dk_at dksX3_act_1 21 rfl rfl)
theorem dX3_act_46 : decode cX3_act 46 = .ok (.invokevirtual 335, 3) := dk_182 1 79 (dk_at dksX3_act_2 0 rfl rfl)
theorem dX3_act_49 : decode cX3_act 49 = .ok (.goto 9, 3) := dk_167 0 9 (dk_at dksX3_act_2 3 rfl rfl)
theorem dX3_act_52 : decode cX3_act 52 = .ok (.aload_n 0, 1) := dk_42 (dk_at dksX3_act_2 6 rfl rfl)
theorem dX3_act_53 : decode cX3_act 53 = .ok (.iload_n 1, 1) := dk_27 (dk_at dksX3_act_2 7 rfl rfl)
theorem dX3_act_54 : decode cX3_act 54 = .ok (.iload_n 3, 1) := dk_29 (dk_at dksX3_act_2 8 rfl rfl)
theorem dX3_act_55 : decode cX3_act 55 = .ok (.invokevirtual 341, 3) := dk_182 1 85 (dk_at dksX3_act_2 9 rfl rfl)
theorem dX3_act_58 : decode cX3_act 58 = .ok (.ireturn, 1) := dk_172 (dk_at dksX3_act_2 12 rfl rfl)
abbrev cX3_greetsOf : ByteArray := prog_17_method_66_code
def yX3_greetsOf : MethodName := ⟨RX3, "greetsOf", "(II)I"⟩
def dkwX3_greetsOf_2 : List UInt8 := [182, 1, 67, 172, 42, 27, 28, 182, 1, 67, 172]
abbrev dktX3_greetsOf_2 : List UInt8 := dkwX3_greetsOf_2 ++ []
def dkwX3_greetsOf_1 : List UInt8 := [172, 42, 180, 0, 16, 27, 46, 6, 160, 0, 18, 42, 16, 40, 182, 1, 64, 42, 27, 28, 6, 104]
abbrev dktX3_greetsOf_1 : List UInt8 := dkwX3_greetsOf_1 ++ dktX3_greetsOf_2
def dkwX3_greetsOf_0 : List UInt8 := [42, 180, 0, 16, 27, 46, 4, 160, 0, 18, 42, 16, 20, 182, 1, 64, 42, 27, 28, 182, 1, 67, 7, 100]
abbrev dktX3_greetsOf_0 : List UInt8 := dkwX3_greetsOf_0 ++ dktX3_greetsOf_1
theorem dksX3_greetsOf_0 : cX3_greetsOf.data.toList.drop 0 = dktX3_greetsOf_0 := by decide +kernel
theorem dksX3_greetsOf_1 : cX3_greetsOf.data.toList.drop 24 = dktX3_greetsOf_1 := dk_seg dksX3_greetsOf_0 24 rfl rfl
theorem dksX3_greetsOf_2 : cX3_greetsOf.data.toList.drop 46 = dktX3_greetsOf_2 := dk_seg dksX3_greetsOf_1 22 rfl rfl
theorem dX3_greetsOf_0 : decode cX3_greetsOf 0 = .ok (.aload_n 0, 1) := dk_42 (dk_at dksX3_greetsOf_0 0 rfl rfl)
theorem dX3_greetsOf_1 : decode cX3_greetsOf 1 = .ok (.getfield 16, 3) := dk_180 0 16 (dk_at dksX3_greetsOf_0 1 rfl rfl)
theorem dX3_greetsOf_4 : decode cX3_greetsOf 4 = .ok (.iload_n 1, 1) := dk_27 (dk_at dksX3_greetsOf_0 4 rfl rfl)
theorem dX3_greetsOf_5 : decode cX3_greetsOf 5 = .ok (.iaload, 1) := dk_46 (dk_at dksX3_greetsOf_0 5 rfl rfl)
theorem dX3_greetsOf_6 : decode cX3_greetsOf 6 = .ok (.iconst 1, 1) := dk_4 (dk_at dksX3_greetsOf_0 6 rfl rfl)
theorem dX3_greetsOf_7 : decode cX3_greetsOf 7 = .ok (.if_icmp .ne 18, 3) := dk_160 0 18 (dk_at dksX3_greetsOf_0 7 rfl rfl)
theorem dX3_greetsOf_10 : decode cX3_greetsOf 10 = .ok (.aload_n 0, 1) := dk_42 (dk_at dksX3_greetsOf_0 10 rfl rfl)
theorem dX3_greetsOf_11 : decode cX3_greetsOf 11 = .ok (.bipush 20, 2) := dk_16 20 (dk_at dksX3_greetsOf_0 11 rfl rfl)
theorem dX3_greetsOf_13 : decode cX3_greetsOf 13 = .ok (.invokevirtual 320, 3) := dk_182 1 64 (dk_at dksX3_greetsOf_0 13 rfl rfl)
theorem dX3_greetsOf_16 : decode cX3_greetsOf 16 = .ok (.aload_n 0, 1) := dk_42 (dk_at dksX3_greetsOf_0 16 rfl rfl)
theorem dX3_greetsOf_17 : decode cX3_greetsOf 17 = .ok (.iload_n 1, 1) := dk_27 (dk_at dksX3_greetsOf_0 17 rfl rfl)
theorem dX3_greetsOf_18 : decode cX3_greetsOf 18 = .ok (.iload_n 2, 1) := dk_28 (dk_at dksX3_greetsOf_0 18 rfl rfl)
theorem dX3_greetsOf_19 : decode cX3_greetsOf 19 = .ok (.invokevirtual 323, 3) := dk_182 1 67 (dk_at dksX3_greetsOf_0 19 rfl rfl)
theorem dX3_greetsOf_22 : decode cX3_greetsOf 22 = .ok (.iconst 4, 1) := dk_7 (dk_at dksX3_greetsOf_0 22 rfl rfl)
theorem dX3_greetsOf_23 : decode cX3_greetsOf 23 = .ok (.isub, 1) := dk_100 (dk_at dksX3_greetsOf_0 23 rfl rfl)
theorem dX3_greetsOf_24 : decode cX3_greetsOf 24 = .ok (.ireturn, 1) := dk_172 (dk_at dksX3_greetsOf_1 0 rfl rfl)
theorem dX3_greetsOf_25 : decode cX3_greetsOf 25 = .ok (.aload_n 0, 1) := dk_42 (dk_at dksX3_greetsOf_1 1 rfl rfl)
theorem dX3_greetsOf_26 : decode cX3_greetsOf 26 = .ok (.getfield 16, 3) := dk_180 0 16 (dk_at dksX3_greetsOf_1 2 rfl rfl)
theorem dX3_greetsOf_29 : decode cX3_greetsOf 29 = .ok (.iload_n 1, 1) := dk_27 (dk_at dksX3_greetsOf_1 5 rfl rfl)
theorem dX3_greetsOf_30 : decode cX3_greetsOf 30 = .ok (.iaload, 1) := dk_46 (dk_at dksX3_greetsOf_1 6 rfl rfl)
theorem dX3_greetsOf_31 : decode cX3_greetsOf 31 = .ok (.iconst 3, 1) := dk_6 (dk_at dksX3_greetsOf_1 7 rfl rfl)
theorem dX3_greetsOf_32 : decode cX3_greetsOf 32 = .ok (.if_icmp .ne 18, 3) := dk_160 0 18 (dk_at dksX3_greetsOf_1 8 rfl rfl)
theorem dX3_greetsOf_35 : decode cX3_greetsOf 35 = .ok (.aload_n 0, 1) := dk_42 (dk_at dksX3_greetsOf_1 11 rfl rfl)
theorem dX3_greetsOf_36 : decode cX3_greetsOf 36 = .ok (.bipush 40, 2) := dk_16 40 (dk_at dksX3_greetsOf_1 12 rfl rfl)
theorem dX3_greetsOf_38 : decode cX3_greetsOf 38 = .ok (.invokevirtual 320, 3) := dk_182 1 64 (dk_at dksX3_greetsOf_1 14 rfl rfl)
theorem dX3_greetsOf_41 : decode cX3_greetsOf 41 = .ok (.aload_n 0, 1) := dk_42 (dk_at dksX3_greetsOf_1 17 rfl rfl)
theorem dX3_greetsOf_42 : decode cX3_greetsOf 42 = .ok (.iload_n 1, 1) := dk_27 (dk_at dksX3_greetsOf_1 18 rfl rfl)
theorem dX3_greetsOf_43 : decode cX3_greetsOf 43 = .ok (.iload_n 2, 1) := dk_28 (dk_at dksX3_greetsOf_1 19 rfl rfl)
theorem dX3_greetsOf_44 : decode cX3_greetsOf 44 = .ok (.iconst 3, 1) := dk_6 (dk_at dksX3_greetsOf_1 20 rfl rfl)
theorem dX3_greetsOf_45 : decode cX3_greetsOf 45 = .ok (.imul, 1) := dk_104 (dk_at dksX3_greetsOf_1 21 rfl rfl)
theorem dX3_greetsOf_46 : decode cX3_greetsOf 46 = .ok (.invokevirtual 323, 3) := dk_182 1 67 (dk_at dksX3_greetsOf_2 0 rfl rfl)
theorem dX3_greetsOf_49 : decode cX3_greetsOf 49 = .ok (.ireturn, 1) := dk_172 (dk_at dksX3_greetsOf_2 3 rfl rfl)
theorem dX3_greetsOf_50 : decode cX3_greetsOf 50 = .ok (.aload_n 0, 1) := dk_42 (dk_at dksX3_greetsOf_2 4 rfl rfl)
theorem dX3_greetsOf_51 : decode cX3_greetsOf 51 = .ok (.iload_n 1, 1) := dk_27 (dk_at dksX3_greetsOf_2 5 rfl rfl)
theorem dX3_greetsOf_52 : decode cX3_greetsOf 52 = .ok (.iload_n 2, 1) := dk_28 (dk_at dksX3_greetsOf_2 6 rfl rfl)
theorem dX3_greetsOf_53 : decode cX3_greetsOf 53 = .ok (.invokevirtual 323, 3) := dk_182 1 67 (dk_at dksX3_greetsOf_2 7 rfl rfl)
theorem dX3_greetsOf_56 : decode cX3_greetsOf 56 = .ok (.ireturn, 1) := dk_172 (dk_at dksX3_greetsOf_2 10 rfl rfl)
abbrev cX3_body : ByteArray := prog_17_method_64_code
def yX3_body : MethodName := ⟨RX3, "body", "(I)V"⟩
def dkwX3_body_1 : List UInt8 := [4, 96, 181, 0, 177, 177]
abbrev dktX3_body_1 : List UInt8 := dkwX3_body_1 ++ []
def dkwX3_body_0 : List UInt8 := [42, 180, 0, 177, 16, 20, 162, 0, 13, 42, 180, 0, 180, 42, 180, 0, 177, 27, 79, 42, 89, 180, 0, 177]
abbrev dktX3_body_0 : List UInt8 := dkwX3_body_0 ++ dktX3_body_1
theorem dksX3_body_0 : cX3_body.data.toList.drop 0 = dktX3_body_0 := by decide +kernel
theorem dksX3_body_1 : cX3_body.data.toList.drop 24 = dktX3_body_1 := dk_seg dksX3_body_0 24 rfl rfl
theorem dX3_body_0 : decode cX3_body 0 = .ok (.aload_n 0, 1) := dk_42 (dk_at dksX3_body_0 0 rfl rfl)
theorem dX3_body_1 : decode cX3_body 1 = .ok (.getfield 177, 3) := dk_180 0 177 (dk_at dksX3_body_0 1 rfl rfl)
theorem dX3_body_4 : decode cX3_body 4 = .ok (.bipush 20, 2) := dk_16 20 (dk_at dksX3_body_0 4 rfl rfl)
theorem dX3_body_6 : decode cX3_body 6 = .ok (.if_icmp .ge 13, 3) := dk_162 0 13 (dk_at dksX3_body_0 6 rfl rfl)
theorem dX3_body_9 : decode cX3_body 9 = .ok (.aload_n 0, 1) := dk_42 (dk_at dksX3_body_0 9 rfl rfl)
theorem dX3_body_10 : decode cX3_body 10 = .ok (.getfield 180, 3) := dk_180 0 180 (dk_at dksX3_body_0 10 rfl rfl)
theorem dX3_body_13 : decode cX3_body 13 = .ok (.aload_n 0, 1) := dk_42 (dk_at dksX3_body_0 13 rfl rfl)
theorem dX3_body_14 : decode cX3_body 14 = .ok (.getfield 177, 3) := dk_180 0 177 (dk_at dksX3_body_0 14 rfl rfl)
theorem dX3_body_17 : decode cX3_body 17 = .ok (.iload_n 1, 1) := dk_27 (dk_at dksX3_body_0 17 rfl rfl)
theorem dX3_body_18 : decode cX3_body 18 = .ok (.iastore, 1) := dk_79 (dk_at dksX3_body_0 18 rfl rfl)
theorem dX3_body_19 : decode cX3_body 19 = .ok (.aload_n 0, 1) := dk_42 (dk_at dksX3_body_0 19 rfl rfl)
theorem dX3_body_20 : decode cX3_body 20 = .ok (.dup, 1) := dk_89 (dk_at dksX3_body_0 20 rfl rfl)
theorem dX3_body_21 : decode cX3_body 21 = .ok (.getfield 177, 3) := dk_180 0 177 (dk_at dksX3_body_0 21 rfl rfl)
theorem dX3_body_24 : decode cX3_body 24 = .ok (.iconst 1, 1) := dk_4 (dk_at dksX3_body_1 0 rfl rfl)
theorem dX3_body_25 : decode cX3_body 25 = .ok (.iadd, 1) := dk_96 (dk_at dksX3_body_1 1 rfl rfl)
theorem dX3_body_26 : decode cX3_body 26 = .ok (.putfield 177, 3) := dk_181 0 177 (dk_at dksX3_body_1 2 rfl rfl)
theorem dX3_body_29 : decode cX3_body 29 = .ok (.return_, 1) := dk_177 (dk_at dksX3_body_1 5 rfl rfl)
abbrev cX3_plainGreets : ByteArray := prog_17_method_65_code
def yX3_plainGreets : MethodName := ⟨RX3, "plainGreets", "(II)I"⟩
def dkwX3_plainGreets_0 : List UInt8 := [42, 16, 10, 182, 1, 64, 28, 42, 180, 0, 20, 27, 46, 96, 172]
abbrev dktX3_plainGreets_0 : List UInt8 := dkwX3_plainGreets_0 ++ []
theorem dksX3_plainGreets_0 : cX3_plainGreets.data.toList.drop 0 = dktX3_plainGreets_0 := by decide +kernel
theorem dX3_plainGreets_0 : decode cX3_plainGreets 0 = .ok (.aload_n 0, 1) := dk_42 (dk_at dksX3_plainGreets_0 0 rfl rfl)
theorem dX3_plainGreets_1 : decode cX3_plainGreets 1 = .ok (.bipush 10, 2) := dk_16 10 (dk_at dksX3_plainGreets_0 1 rfl rfl)
theorem dX3_plainGreets_3 : decode cX3_plainGreets 3 = .ok (.invokevirtual 320, 3) := dk_182 1 64 (dk_at dksX3_plainGreets_0 3 rfl rfl)
theorem dX3_plainGreets_6 : decode cX3_plainGreets 6 = .ok (.iload_n 2, 1) := dk_28 (dk_at dksX3_plainGreets_0 6 rfl rfl)
theorem dX3_plainGreets_7 : decode cX3_plainGreets 7 = .ok (.aload_n 0, 1) := dk_42 (dk_at dksX3_plainGreets_0 7 rfl rfl)
theorem dX3_plainGreets_8 : decode cX3_plainGreets 8 = .ok (.getfield 20, 3) := dk_180 0 20 (dk_at dksX3_plainGreets_0 8 rfl rfl)
theorem dX3_plainGreets_11 : decode cX3_plainGreets 11 = .ok (.iload_n 1, 1) := dk_27 (dk_at dksX3_plainGreets_0 11 rfl rfl)
theorem dX3_plainGreets_12 : decode cX3_plainGreets 12 = .ok (.iaload, 1) := dk_46 (dk_at dksX3_plainGreets_0 12 rfl rfl)
theorem dX3_plainGreets_13 : decode cX3_plainGreets 13 = .ok (.iadd, 1) := dk_96 (dk_at dksX3_plainGreets_0 13 rfl rfl)
theorem dX3_plainGreets_14 : decode cX3_plainGreets 14 = .ok (.ireturn, 1) := dk_172 (dk_at dksX3_plainGreets_0 14 rfl rfl)
abbrev cX3_leadsOf : ByteArray := prog_17_method_69_code
def yX3_leadsOf : MethodName := ⟨RX3, "leadsOf", "(II)I"⟩
def dkwX3_leadsOf_1 : List UInt8 := [160, 0, 17, 42, 16, 41, 182, 1, 64, 42, 27, 28, 182, 1, 76, 116, 172, 42, 27, 28, 182, 1, 73, 172]
abbrev dktX3_leadsOf_1 : List UInt8 := dkwX3_leadsOf_1 ++ []
def dkwX3_leadsOf_0 : List UInt8 := [42, 180, 0, 16, 27, 46, 5, 160, 0, 10, 42, 27, 28, 182, 1, 76, 172, 42, 180, 0, 16, 27, 46, 6]
abbrev dktX3_leadsOf_0 : List UInt8 := dkwX3_leadsOf_0 ++ dktX3_leadsOf_1
theorem dksX3_leadsOf_0 : cX3_leadsOf.data.toList.drop 0 = dktX3_leadsOf_0 := by decide +kernel
theorem dksX3_leadsOf_1 : cX3_leadsOf.data.toList.drop 24 = dktX3_leadsOf_1 := dk_seg dksX3_leadsOf_0 24 rfl rfl
theorem dX3_leadsOf_0 : decode cX3_leadsOf 0 = .ok (.aload_n 0, 1) := dk_42 (dk_at dksX3_leadsOf_0 0 rfl rfl)
theorem dX3_leadsOf_1 : decode cX3_leadsOf 1 = .ok (.getfield 16, 3) := dk_180 0 16 (dk_at dksX3_leadsOf_0 1 rfl rfl)
theorem dX3_leadsOf_4 : decode cX3_leadsOf 4 = .ok (.iload_n 1, 1) := dk_27 (dk_at dksX3_leadsOf_0 4 rfl rfl)
theorem dX3_leadsOf_5 : decode cX3_leadsOf 5 = .ok (.iaload, 1) := dk_46 (dk_at dksX3_leadsOf_0 5 rfl rfl)
theorem dX3_leadsOf_6 : decode cX3_leadsOf 6 = .ok (.iconst 2, 1) := dk_5 (dk_at dksX3_leadsOf_0 6 rfl rfl)
theorem dX3_leadsOf_7 : decode cX3_leadsOf 7 = .ok (.if_icmp .ne 10, 3) := dk_160 0 10 (dk_at dksX3_leadsOf_0 7 rfl rfl)
theorem dX3_leadsOf_10 : decode cX3_leadsOf 10 = .ok (.aload_n 0, 1) := dk_42 (dk_at dksX3_leadsOf_0 10 rfl rfl)
theorem dX3_leadsOf_11 : decode cX3_leadsOf 11 = .ok (.iload_n 1, 1) := dk_27 (dk_at dksX3_leadsOf_0 11 rfl rfl)
theorem dX3_leadsOf_12 : decode cX3_leadsOf 12 = .ok (.iload_n 2, 1) := dk_28 (dk_at dksX3_leadsOf_0 12 rfl rfl)
theorem dX3_leadsOf_13 : decode cX3_leadsOf 13 = .ok (.invokevirtual 332, 3) := dk_182 1 76 (dk_at dksX3_leadsOf_0 13 rfl rfl)
theorem dX3_leadsOf_16 : decode cX3_leadsOf 16 = .ok (.ireturn, 1) := dk_172 (dk_at dksX3_leadsOf_0 16 rfl rfl)
theorem dX3_leadsOf_17 : decode cX3_leadsOf 17 = .ok (.aload_n 0, 1) := dk_42 (dk_at dksX3_leadsOf_0 17 rfl rfl)
theorem dX3_leadsOf_18 : decode cX3_leadsOf 18 = .ok (.getfield 16, 3) := dk_180 0 16 (dk_at dksX3_leadsOf_0 18 rfl rfl)
theorem dX3_leadsOf_21 : decode cX3_leadsOf 21 = .ok (.iload_n 1, 1) := dk_27 (dk_at dksX3_leadsOf_0 21 rfl rfl)
theorem dX3_leadsOf_22 : decode cX3_leadsOf 22 = .ok (.iaload, 1) := dk_46 (dk_at dksX3_leadsOf_0 22 rfl rfl)
theorem dX3_leadsOf_23 : decode cX3_leadsOf 23 = .ok (.iconst 3, 1) := dk_6 (dk_at dksX3_leadsOf_0 23 rfl rfl)
theorem dX3_leadsOf_24 : decode cX3_leadsOf 24 = .ok (.if_icmp .ne 17, 3) := dk_160 0 17 (dk_at dksX3_leadsOf_1 0 rfl rfl)
theorem dX3_leadsOf_27 : decode cX3_leadsOf 27 = .ok (.aload_n 0, 1) := dk_42 (dk_at dksX3_leadsOf_1 3 rfl rfl)
theorem dX3_leadsOf_28 : decode cX3_leadsOf 28 = .ok (.bipush 41, 2) := dk_16 41 (dk_at dksX3_leadsOf_1 4 rfl rfl)
theorem dX3_leadsOf_30 : decode cX3_leadsOf 30 = .ok (.invokevirtual 320, 3) := dk_182 1 64 (dk_at dksX3_leadsOf_1 6 rfl rfl)
theorem dX3_leadsOf_33 : decode cX3_leadsOf 33 = .ok (.aload_n 0, 1) := dk_42 (dk_at dksX3_leadsOf_1 9 rfl rfl)
theorem dX3_leadsOf_34 : decode cX3_leadsOf 34 = .ok (.iload_n 1, 1) := dk_27 (dk_at dksX3_leadsOf_1 10 rfl rfl)
theorem dX3_leadsOf_35 : decode cX3_leadsOf 35 = .ok (.iload_n 2, 1) := dk_28 (dk_at dksX3_leadsOf_1 11 rfl rfl)
theorem dX3_leadsOf_36 : decode cX3_leadsOf 36 = .ok (.invokevirtual 332, 3) := dk_182 1 76 (dk_at dksX3_leadsOf_1 12 rfl rfl)
theorem dX3_leadsOf_39 : decode cX3_leadsOf 39 = .ok (.ineg, 1) := dk_116 (dk_at dksX3_leadsOf_1 15 rfl rfl)
theorem dX3_leadsOf_40 : decode cX3_leadsOf 40 = .ok (.ireturn, 1) := dk_172 (dk_at dksX3_leadsOf_1 16 rfl rfl)
theorem dX3_leadsOf_41 : decode cX3_leadsOf 41 = .ok (.aload_n 0, 1) := dk_42 (dk_at dksX3_leadsOf_1 17 rfl rfl)
theorem dX3_leadsOf_42 : decode cX3_leadsOf 42 = .ok (.iload_n 1, 1) := dk_27 (dk_at dksX3_leadsOf_1 18 rfl rfl)
theorem dX3_leadsOf_43 : decode cX3_leadsOf 43 = .ok (.iload_n 2, 1) := dk_28 (dk_at dksX3_leadsOf_1 19 rfl rfl)
theorem dX3_leadsOf_44 : decode cX3_leadsOf 44 = .ok (.invokevirtual 329, 3) := dk_182 1 73 (dk_at dksX3_leadsOf_1 20 rfl rfl)
theorem dX3_leadsOf_47 : decode cX3_leadsOf 47 = .ok (.ireturn, 1) := dk_172 (dk_at dksX3_leadsOf_1 23 rfl rfl)
abbrev cX3_leaderLeads : ByteArray := prog_17_method_68_code
def yX3_leaderLeads : MethodName := ⟨RX3, "leaderLeads", "(II)I"⟩
def dkwX3_leaderLeads_0 : List UInt8 := [42, 16, 30, 182, 1, 64, 42, 27, 28, 182, 1, 73, 62, 29, 42, 27, 28, 182, 1, 70, 96, 172]
abbrev dktX3_leaderLeads_0 : List UInt8 := dkwX3_leaderLeads_0 ++ []
theorem dksX3_leaderLeads_0 : cX3_leaderLeads.data.toList.drop 0 = dktX3_leaderLeads_0 := by decide +kernel
theorem dX3_leaderLeads_0 : decode cX3_leaderLeads 0 = .ok (.aload_n 0, 1) := dk_42 (dk_at dksX3_leaderLeads_0 0 rfl rfl)
theorem dX3_leaderLeads_1 : decode cX3_leaderLeads 1 = .ok (.bipush 30, 2) := dk_16 30 (dk_at dksX3_leaderLeads_0 1 rfl rfl)
theorem dX3_leaderLeads_3 : decode cX3_leaderLeads 3 = .ok (.invokevirtual 320, 3) := dk_182 1 64 (dk_at dksX3_leaderLeads_0 3 rfl rfl)
theorem dX3_leaderLeads_6 : decode cX3_leaderLeads 6 = .ok (.aload_n 0, 1) := dk_42 (dk_at dksX3_leaderLeads_0 6 rfl rfl)
theorem dX3_leaderLeads_7 : decode cX3_leaderLeads 7 = .ok (.iload_n 1, 1) := dk_27 (dk_at dksX3_leaderLeads_0 7 rfl rfl)
theorem dX3_leaderLeads_8 : decode cX3_leaderLeads 8 = .ok (.iload_n 2, 1) := dk_28 (dk_at dksX3_leaderLeads_0 8 rfl rfl)
theorem dX3_leaderLeads_9 : decode cX3_leaderLeads 9 = .ok (.invokevirtual 329, 3) := dk_182 1 73 (dk_at dksX3_leaderLeads_0 9 rfl rfl)
theorem dX3_leaderLeads_12 : decode cX3_leaderLeads 12 = .ok (.istore_n 3, 1) := dk_62 (dk_at dksX3_leaderLeads_0 12 rfl rfl)
theorem dX3_leaderLeads_13 : decode cX3_leaderLeads 13 = .ok (.iload_n 3, 1) := dk_29 (dk_at dksX3_leaderLeads_0 13 rfl rfl)
theorem dX3_leaderLeads_14 : decode cX3_leaderLeads 14 = .ok (.aload_n 0, 1) := dk_42 (dk_at dksX3_leaderLeads_0 14 rfl rfl)
theorem dX3_leaderLeads_15 : decode cX3_leaderLeads 15 = .ok (.iload_n 1, 1) := dk_27 (dk_at dksX3_leaderLeads_0 15 rfl rfl)
theorem dX3_leaderLeads_16 : decode cX3_leaderLeads 16 = .ok (.iload_n 2, 1) := dk_28 (dk_at dksX3_leaderLeads_0 16 rfl rfl)
theorem dX3_leaderLeads_17 : decode cX3_leaderLeads 17 = .ok (.invokevirtual 326, 3) := dk_182 1 70 (dk_at dksX3_leaderLeads_0 17 rfl rfl)
theorem dX3_leaderLeads_20 : decode cX3_leaderLeads 20 = .ok (.iadd, 1) := dk_96 (dk_at dksX3_leaderLeads_0 20 rfl rfl)
theorem dX3_leaderLeads_21 : decode cX3_leaderLeads 21 = .ok (.ireturn, 1) := dk_172 (dk_at dksX3_leaderLeads_0 21 rfl rfl)
abbrev cX3_plainLeads : ByteArray := prog_17_method_67_code
def yX3_plainLeads : MethodName := ⟨RX3, "plainLeads", "(II)I"⟩
def dkwX3_plainLeads_0 : List UInt8 := [42, 16, 11, 182, 1, 64, 42, 27, 28, 182, 1, 70, 42, 180, 0, 23, 27, 46, 100, 172]
abbrev dktX3_plainLeads_0 : List UInt8 := dkwX3_plainLeads_0 ++ []
theorem dksX3_plainLeads_0 : cX3_plainLeads.data.toList.drop 0 = dktX3_plainLeads_0 := by decide +kernel
theorem dX3_plainLeads_0 : decode cX3_plainLeads 0 = .ok (.aload_n 0, 1) := dk_42 (dk_at dksX3_plainLeads_0 0 rfl rfl)
theorem dX3_plainLeads_1 : decode cX3_plainLeads 1 = .ok (.bipush 11, 2) := dk_16 11 (dk_at dksX3_plainLeads_0 1 rfl rfl)
theorem dX3_plainLeads_3 : decode cX3_plainLeads 3 = .ok (.invokevirtual 320, 3) := dk_182 1 64 (dk_at dksX3_plainLeads_0 3 rfl rfl)
theorem dX3_plainLeads_6 : decode cX3_plainLeads 6 = .ok (.aload_n 0, 1) := dk_42 (dk_at dksX3_plainLeads_0 6 rfl rfl)
theorem dX3_plainLeads_7 : decode cX3_plainLeads 7 = .ok (.iload_n 1, 1) := dk_27 (dk_at dksX3_plainLeads_0 7 rfl rfl)
theorem dX3_plainLeads_8 : decode cX3_plainLeads 8 = .ok (.iload_n 2, 1) := dk_28 (dk_at dksX3_plainLeads_0 8 rfl rfl)
theorem dX3_plainLeads_9 : decode cX3_plainLeads 9 = .ok (.invokevirtual 326, 3) := dk_182 1 70 (dk_at dksX3_plainLeads_0 9 rfl rfl)
theorem dX3_plainLeads_12 : decode cX3_plainLeads 12 = .ok (.aload_n 0, 1) := dk_42 (dk_at dksX3_plainLeads_0 12 rfl rfl)
theorem dX3_plainLeads_13 : decode cX3_plainLeads 13 = .ok (.getfield 23, 3) := dk_180 0 23 (dk_at dksX3_plainLeads_0 13 rfl rfl)
theorem dX3_plainLeads_16 : decode cX3_plainLeads 16 = .ok (.iload_n 1, 1) := dk_27 (dk_at dksX3_plainLeads_0 16 rfl rfl)
theorem dX3_plainLeads_17 : decode cX3_plainLeads 17 = .ok (.iaload, 1) := dk_46 (dk_at dksX3_plainLeads_0 17 rfl rfl)
theorem dX3_plainLeads_18 : decode cX3_plainLeads 18 = .ok (.isub, 1) := dk_100 (dk_at dksX3_plainLeads_0 18 rfl rfl)
theorem dX3_plainLeads_19 : decode cX3_plainLeads 19 = .ok (.ireturn, 1) := dk_172 (dk_at dksX3_plainLeads_0 19 rfl rfl)
abbrev cX3_restsOf : ByteArray := prog_17_method_71_code
def yX3_restsOf : MethodName := ⟨RX3, "restsOf", "(II)I"⟩
def dkwX3_restsOf_1 : List UInt8 := [27, 28, 182, 1, 79, 62, 29, 42, 27, 28, 4, 100, 182, 1, 82, 96, 172]
abbrev dktX3_restsOf_1 : List UInt8 := dkwX3_restsOf_1 ++ []
def dkwX3_restsOf_0 : List UInt8 := [42, 180, 0, 16, 27, 46, 7, 159, 0, 10, 42, 27, 28, 182, 1, 82, 172, 42, 16, 50, 182, 1, 64, 42]
abbrev dktX3_restsOf_0 : List UInt8 := dkwX3_restsOf_0 ++ dktX3_restsOf_1
theorem dksX3_restsOf_0 : cX3_restsOf.data.toList.drop 0 = dktX3_restsOf_0 := by decide +kernel
theorem dksX3_restsOf_1 : cX3_restsOf.data.toList.drop 24 = dktX3_restsOf_1 := dk_seg dksX3_restsOf_0 24 rfl rfl
theorem dX3_restsOf_0 : decode cX3_restsOf 0 = .ok (.aload_n 0, 1) := dk_42 (dk_at dksX3_restsOf_0 0 rfl rfl)
theorem dX3_restsOf_1 : decode cX3_restsOf 1 = .ok (.getfield 16, 3) := dk_180 0 16 (dk_at dksX3_restsOf_0 1 rfl rfl)
theorem dX3_restsOf_4 : decode cX3_restsOf 4 = .ok (.iload_n 1, 1) := dk_27 (dk_at dksX3_restsOf_0 4 rfl rfl)
theorem dX3_restsOf_5 : decode cX3_restsOf 5 = .ok (.iaload, 1) := dk_46 (dk_at dksX3_restsOf_0 5 rfl rfl)
theorem dX3_restsOf_6 : decode cX3_restsOf 6 = .ok (.iconst 4, 1) := dk_7 (dk_at dksX3_restsOf_0 6 rfl rfl)
theorem dX3_restsOf_7 : decode cX3_restsOf 7 = .ok (.if_icmp .eq 10, 3) := dk_159 0 10 (dk_at dksX3_restsOf_0 7 rfl rfl)
theorem dX3_restsOf_10 : decode cX3_restsOf 10 = .ok (.aload_n 0, 1) := dk_42 (dk_at dksX3_restsOf_0 10 rfl rfl)
theorem dX3_restsOf_11 : decode cX3_restsOf 11 = .ok (.iload_n 1, 1) := dk_27 (dk_at dksX3_restsOf_0 11 rfl rfl)
theorem dX3_restsOf_12 : decode cX3_restsOf 12 = .ok (.iload_n 2, 1) := dk_28 (dk_at dksX3_restsOf_0 12 rfl rfl)
theorem dX3_restsOf_13 : decode cX3_restsOf 13 = .ok (.invokevirtual 338, 3) := dk_182 1 82 (dk_at dksX3_restsOf_0 13 rfl rfl)
theorem dX3_restsOf_16 : decode cX3_restsOf 16 = .ok (.ireturn, 1) := dk_172 (dk_at dksX3_restsOf_0 16 rfl rfl)
theorem dX3_restsOf_17 : decode cX3_restsOf 17 = .ok (.aload_n 0, 1) := dk_42 (dk_at dksX3_restsOf_0 17 rfl rfl)
theorem dX3_restsOf_18 : decode cX3_restsOf 18 = .ok (.bipush 50, 2) := dk_16 50 (dk_at dksX3_restsOf_0 18 rfl rfl)
theorem dX3_restsOf_20 : decode cX3_restsOf 20 = .ok (.invokevirtual 320, 3) := dk_182 1 64 (dk_at dksX3_restsOf_0 20 rfl rfl)
theorem dX3_restsOf_23 : decode cX3_restsOf 23 = .ok (.aload_n 0, 1) := dk_42 (dk_at dksX3_restsOf_0 23 rfl rfl)
theorem dX3_restsOf_24 : decode cX3_restsOf 24 = .ok (.iload_n 1, 1) := dk_27 (dk_at dksX3_restsOf_1 0 rfl rfl)
theorem dX3_restsOf_25 : decode cX3_restsOf 25 = .ok (.iload_n 2, 1) := dk_28 (dk_at dksX3_restsOf_1 1 rfl rfl)
theorem dX3_restsOf_26 : decode cX3_restsOf 26 = .ok (.invokevirtual 335, 3) := dk_182 1 79 (dk_at dksX3_restsOf_1 2 rfl rfl)
theorem dX3_restsOf_29 : decode cX3_restsOf 29 = .ok (.istore_n 3, 1) := dk_62 (dk_at dksX3_restsOf_1 5 rfl rfl)
theorem dX3_restsOf_30 : decode cX3_restsOf 30 = .ok (.iload_n 3, 1) := dk_29 (dk_at dksX3_restsOf_1 6 rfl rfl)
theorem dX3_restsOf_31 : decode cX3_restsOf 31 = .ok (.aload_n 0, 1) := dk_42 (dk_at dksX3_restsOf_1 7 rfl rfl)
theorem dX3_restsOf_32 : decode cX3_restsOf 32 = .ok (.iload_n 1, 1) := dk_27 (dk_at dksX3_restsOf_1 8 rfl rfl)
theorem dX3_restsOf_33 : decode cX3_restsOf 33 = .ok (.iload_n 2, 1) := dk_28 (dk_at dksX3_restsOf_1 9 rfl rfl)
theorem dX3_restsOf_34 : decode cX3_restsOf 34 = .ok (.iconst 1, 1) := dk_4 (dk_at dksX3_restsOf_1 10 rfl rfl)
theorem dX3_restsOf_35 : decode cX3_restsOf 35 = .ok (.isub, 1) := dk_100 (dk_at dksX3_restsOf_1 11 rfl rfl)
theorem dX3_restsOf_36 : decode cX3_restsOf 36 = .ok (.invokevirtual 338, 3) := dk_182 1 82 (dk_at dksX3_restsOf_1 12 rfl rfl)
theorem dX3_restsOf_39 : decode cX3_restsOf 39 = .ok (.iadd, 1) := dk_96 (dk_at dksX3_restsOf_1 15 rfl rfl)
theorem dX3_restsOf_40 : decode cX3_restsOf 40 = .ok (.ireturn, 1) := dk_172 (dk_at dksX3_restsOf_1 16 rfl rfl)
abbrev cX3_plainRests : ByteArray := prog_17_method_70_code
def yX3_plainRests : MethodName := ⟨RX3, "plainRests", "(II)I"⟩
def dkwX3_plainRests_0 : List UInt8 := [42, 16, 12, 182, 1, 64, 42, 27, 28, 182, 1, 79, 27, 130, 172]
abbrev dktX3_plainRests_0 : List UInt8 := dkwX3_plainRests_0 ++ []
theorem dksX3_plainRests_0 : cX3_plainRests.data.toList.drop 0 = dktX3_plainRests_0 := by decide +kernel
theorem dX3_plainRests_0 : decode cX3_plainRests 0 = .ok (.aload_n 0, 1) := dk_42 (dk_at dksX3_plainRests_0 0 rfl rfl)
theorem dX3_plainRests_1 : decode cX3_plainRests 1 = .ok (.bipush 12, 2) := dk_16 12 (dk_at dksX3_plainRests_0 1 rfl rfl)
theorem dX3_plainRests_3 : decode cX3_plainRests 3 = .ok (.invokevirtual 320, 3) := dk_182 1 64 (dk_at dksX3_plainRests_0 3 rfl rfl)
theorem dX3_plainRests_6 : decode cX3_plainRests 6 = .ok (.aload_n 0, 1) := dk_42 (dk_at dksX3_plainRests_0 6 rfl rfl)
theorem dX3_plainRests_7 : decode cX3_plainRests 7 = .ok (.iload_n 1, 1) := dk_27 (dk_at dksX3_plainRests_0 7 rfl rfl)
theorem dX3_plainRests_8 : decode cX3_plainRests 8 = .ok (.iload_n 2, 1) := dk_28 (dk_at dksX3_plainRests_0 8 rfl rfl)
theorem dX3_plainRests_9 : decode cX3_plainRests 9 = .ok (.invokevirtual 335, 3) := dk_182 1 79 (dk_at dksX3_plainRests_0 9 rfl rfl)
theorem dX3_plainRests_12 : decode cX3_plainRests 12 = .ok (.iload_n 1, 1) := dk_27 (dk_at dksX3_plainRests_0 12 rfl rfl)
theorem dX3_plainRests_13 : decode cX3_plainRests 13 = .ok (.ixor, 1) := dk_130 (dk_at dksX3_plainRests_0 13 rfl rfl)
theorem dX3_plainRests_14 : decode cX3_plainRests 14 = .ok (.ireturn, 1) := dk_172 (dk_at dksX3_plainRests_0 14 rfl rfl)
abbrev cX3_trace : ByteArray := prog_17_method_73_code
def yX3_trace : MethodName := ⟨RX3, "trace", "(I)I"⟩
def dkwX3_trace_1 : List UInt8 := [46, 167, 0, 4, 2, 172]
abbrev dktX3_trace_1 : List UInt8 := dkwX3_trace_1 ++ []
def dkwX3_trace_0 : List UInt8 := [42, 27, 3, 16, 19, 182, 0, 195, 153, 0, 20, 27, 42, 180, 0, 177, 162, 0, 12, 42, 180, 0, 180, 27]
abbrev dktX3_trace_0 : List UInt8 := dkwX3_trace_0 ++ dktX3_trace_1
theorem dksX3_trace_0 : cX3_trace.data.toList.drop 0 = dktX3_trace_0 := by decide +kernel
theorem dksX3_trace_1 : cX3_trace.data.toList.drop 24 = dktX3_trace_1 := dk_seg dksX3_trace_0 24 rfl rfl
theorem dX3_trace_0 : decode cX3_trace 0 = .ok (.aload_n 0, 1) := dk_42 (dk_at dksX3_trace_0 0 rfl rfl)
theorem dX3_trace_1 : decode cX3_trace 1 = .ok (.iload_n 1, 1) := dk_27 (dk_at dksX3_trace_0 1 rfl rfl)
theorem dX3_trace_2 : decode cX3_trace 2 = .ok (.iconst 0, 1) := dk_3 (dk_at dksX3_trace_0 2 rfl rfl)
theorem dX3_trace_3 : decode cX3_trace 3 = .ok (.bipush 19, 2) := dk_16 19 (dk_at dksX3_trace_0 3 rfl rfl)
theorem dX3_trace_5 : decode cX3_trace 5 = .ok (.invokevirtual 195, 3) := dk_182 0 195 (dk_at dksX3_trace_0 5 rfl rfl)
theorem dX3_trace_8 : decode cX3_trace 8 = .ok (.ifCond .eq 20, 3) := dk_153 0 20 (dk_at dksX3_trace_0 8 rfl rfl)
theorem dX3_trace_11 : decode cX3_trace 11 = .ok (.iload_n 1, 1) := dk_27 (dk_at dksX3_trace_0 11 rfl rfl)
theorem dX3_trace_12 : decode cX3_trace 12 = .ok (.aload_n 0, 1) := dk_42 (dk_at dksX3_trace_0 12 rfl rfl)
theorem dX3_trace_13 : decode cX3_trace 13 = .ok (.getfield 177, 3) := dk_180 0 177 (dk_at dksX3_trace_0 13 rfl rfl)
theorem dX3_trace_16 : decode cX3_trace 16 = .ok (.if_icmp .ge 12, 3) := dk_162 0 12 (dk_at dksX3_trace_0 16 rfl rfl)
theorem dX3_trace_19 : decode cX3_trace 19 = .ok (.aload_n 0, 1) := dk_42 (dk_at dksX3_trace_0 19 rfl rfl)
theorem dX3_trace_20 : decode cX3_trace 20 = .ok (.getfield 180, 3) := dk_180 0 180 (dk_at dksX3_trace_0 20 rfl rfl)
theorem dX3_trace_23 : decode cX3_trace 23 = .ok (.iload_n 1, 1) := dk_27 (dk_at dksX3_trace_0 23 rfl rfl)
theorem dX3_trace_24 : decode cX3_trace 24 = .ok (.iaload, 1) := dk_46 (dk_at dksX3_trace_1 0 rfl rfl)
theorem dX3_trace_25 : decode cX3_trace 25 = .ok (.goto 4, 3) := dk_167 0 4 (dk_at dksX3_trace_1 1 rfl rfl)
theorem dX3_trace_28 : decode cX3_trace 28 = .ok (.iconst (-1), 1) := dk_2 (dk_at dksX3_trace_1 4 rfl rfl)
theorem dX3_trace_29 : decode cX3_trace 29 = .ok (.ireturn, 1) := dk_172 (dk_at dksX3_trace_1 5 rfl rfl)
abbrev cX3_taken : ByteArray := prog_17_method_74_code
def yX3_taken : MethodName := ⟨RX3, "taken", "(II)I"⟩
def dkwX3_taken_2 : List UInt8 := [46, 6, 160, 0, 12, 42, 180, 0, 16, 27, 46, 167, 0, 5, 16, 244, 172]
abbrev dktX3_taken_2 : List UInt8 := dkwX3_taken_2 ++ []
def dkwX3_taken_1 : List UInt8 := [28, 153, 0, 28, 42, 180, 0, 16, 27, 46, 28, 159, 0, 18, 28, 5, 160, 0, 22, 42, 180, 0, 16, 27]
abbrev dktX3_taken_1 : List UInt8 := dkwX3_taken_1 ++ dktX3_taken_2
def dkwX3_taken_0 : List UInt8 := [42, 28, 3, 7, 182, 0, 195, 154, 0, 6, 16, 254, 172, 42, 27, 182, 0, 203, 154, 0, 6, 16, 245, 172]
abbrev dktX3_taken_0 : List UInt8 := dkwX3_taken_0 ++ dktX3_taken_1
theorem dksX3_taken_0 : cX3_taken.data.toList.drop 0 = dktX3_taken_0 := by decide +kernel
theorem dksX3_taken_1 : cX3_taken.data.toList.drop 24 = dktX3_taken_1 := dk_seg dksX3_taken_0 24 rfl rfl
theorem dksX3_taken_2 : cX3_taken.data.toList.drop 48 = dktX3_taken_2 := dk_seg dksX3_taken_1 24 rfl rfl
theorem dX3_taken_0 : decode cX3_taken 0 = .ok (.aload_n 0, 1) := dk_42 (dk_at dksX3_taken_0 0 rfl rfl)
theorem dX3_taken_1 : decode cX3_taken 1 = .ok (.iload_n 2, 1) := dk_28 (dk_at dksX3_taken_0 1 rfl rfl)
theorem dX3_taken_2 : decode cX3_taken 2 = .ok (.iconst 0, 1) := dk_3 (dk_at dksX3_taken_0 2 rfl rfl)
theorem dX3_taken_3 : decode cX3_taken 3 = .ok (.iconst 4, 1) := dk_7 (dk_at dksX3_taken_0 3 rfl rfl)
theorem dX3_taken_4 : decode cX3_taken 4 = .ok (.invokevirtual 195, 3) := dk_182 0 195 (dk_at dksX3_taken_0 4 rfl rfl)
theorem dX3_taken_7 : decode cX3_taken 7 = .ok (.ifCond .ne 6, 3) := dk_154 0 6 (dk_at dksX3_taken_0 7 rfl rfl)
theorem dX3_taken_10 : decode cX3_taken 10 = .ok (.bipush (-2), 2) := dk_16 254 (dk_at dksX3_taken_0 10 rfl rfl)
theorem dX3_taken_12 : decode cX3_taken 12 = .ok (.ireturn, 1) := dk_172 (dk_at dksX3_taken_0 12 rfl rfl)
theorem dX3_taken_13 : decode cX3_taken 13 = .ok (.aload_n 0, 1) := dk_42 (dk_at dksX3_taken_0 13 rfl rfl)
theorem dX3_taken_14 : decode cX3_taken 14 = .ok (.iload_n 1, 1) := dk_27 (dk_at dksX3_taken_0 14 rfl rfl)
theorem dX3_taken_15 : decode cX3_taken 15 = .ok (.invokevirtual 203, 3) := dk_182 0 203 (dk_at dksX3_taken_0 15 rfl rfl)
theorem dX3_taken_18 : decode cX3_taken 18 = .ok (.ifCond .ne 6, 3) := dk_154 0 6 (dk_at dksX3_taken_0 18 rfl rfl)
theorem dX3_taken_21 : decode cX3_taken 21 = .ok (.bipush (-11), 2) := dk_16 245 (dk_at dksX3_taken_0 21 rfl rfl)
theorem dX3_taken_23 : decode cX3_taken 23 = .ok (.ireturn, 1) := dk_172 (dk_at dksX3_taken_0 23 rfl rfl)
theorem dX3_taken_24 : decode cX3_taken 24 = .ok (.iload_n 2, 1) := dk_28 (dk_at dksX3_taken_1 0 rfl rfl)
theorem dX3_taken_25 : decode cX3_taken 25 = .ok (.ifCond .eq 28, 3) := dk_153 0 28 (dk_at dksX3_taken_1 1 rfl rfl)
theorem dX3_taken_28 : decode cX3_taken 28 = .ok (.aload_n 0, 1) := dk_42 (dk_at dksX3_taken_1 4 rfl rfl)
theorem dX3_taken_29 : decode cX3_taken 29 = .ok (.getfield 16, 3) := dk_180 0 16 (dk_at dksX3_taken_1 5 rfl rfl)
theorem dX3_taken_32 : decode cX3_taken 32 = .ok (.iload_n 1, 1) := dk_27 (dk_at dksX3_taken_1 8 rfl rfl)
theorem dX3_taken_33 : decode cX3_taken 33 = .ok (.iaload, 1) := dk_46 (dk_at dksX3_taken_1 9 rfl rfl)
theorem dX3_taken_34 : decode cX3_taken 34 = .ok (.iload_n 2, 1) := dk_28 (dk_at dksX3_taken_1 10 rfl rfl)
theorem dX3_taken_35 : decode cX3_taken 35 = .ok (.if_icmp .eq 18, 3) := dk_159 0 18 (dk_at dksX3_taken_1 11 rfl rfl)
theorem dX3_taken_38 : decode cX3_taken 38 = .ok (.iload_n 2, 1) := dk_28 (dk_at dksX3_taken_1 14 rfl rfl)
theorem dX3_taken_39 : decode cX3_taken 39 = .ok (.iconst 2, 1) := dk_5 (dk_at dksX3_taken_1 15 rfl rfl)
theorem dX3_taken_40 : decode cX3_taken 40 = .ok (.if_icmp .ne 22, 3) := dk_160 0 22 (dk_at dksX3_taken_1 16 rfl rfl)
theorem dX3_taken_43 : decode cX3_taken 43 = .ok (.aload_n 0, 1) := dk_42 (dk_at dksX3_taken_1 19 rfl rfl)
theorem dX3_taken_44 : decode cX3_taken 44 = .ok (.getfield 16, 3) := dk_180 0 16 (dk_at dksX3_taken_1 20 rfl rfl)
theorem dX3_taken_47 : decode cX3_taken 47 = .ok (.iload_n 1, 1) := dk_27 (dk_at dksX3_taken_1 23 rfl rfl)
theorem dX3_taken_48 : decode cX3_taken 48 = .ok (.iaload, 1) := dk_46 (dk_at dksX3_taken_2 0 rfl rfl)
theorem dX3_taken_49 : decode cX3_taken 49 = .ok (.iconst 3, 1) := dk_6 (dk_at dksX3_taken_2 1 rfl rfl)
theorem dX3_taken_50 : decode cX3_taken 50 = .ok (.if_icmp .ne 12, 3) := dk_160 0 12 (dk_at dksX3_taken_2 2 rfl rfl)
theorem dX3_taken_53 : decode cX3_taken 53 = .ok (.aload_n 0, 1) := dk_42 (dk_at dksX3_taken_2 5 rfl rfl)
theorem dX3_taken_54 : decode cX3_taken 54 = .ok (.getfield 16, 3) := dk_180 0 16 (dk_at dksX3_taken_2 6 rfl rfl)
theorem dX3_taken_57 : decode cX3_taken 57 = .ok (.iload_n 1, 1) := dk_27 (dk_at dksX3_taken_2 9 rfl rfl)
theorem dX3_taken_58 : decode cX3_taken 58 = .ok (.iaload, 1) := dk_46 (dk_at dksX3_taken_2 10 rfl rfl)
theorem dX3_taken_59 : decode cX3_taken 59 = .ok (.goto 5, 3) := dk_167 0 5 (dk_at dksX3_taken_2 11 rfl rfl)
theorem dX3_taken_62 : decode cX3_taken 62 = .ok (.bipush (-12), 2) := dk_16 244 (dk_at dksX3_taken_2 14 rfl rfl)
theorem dX3_taken_64 : decode cX3_taken 64 = .ok (.ireturn, 1) := dk_172 (dk_at dksX3_taken_2 16 rfl rfl)
abbrev cX3_count : ByteArray := prog_17_method_75_code
def yX3_count : MethodName := ⟨RX3, "count", "(I)I"⟩
def dkwX3_count_4 : List UInt8 := [16, 254, 172]
abbrev dktX3_count_4 : List UInt8 := dkwX3_count_4 ++ []
def dkwX3_count_3 : List UInt8 := [172, 42, 180, 0, 72, 172, 42, 180, 0, 44, 153, 0, 7, 4, 167, 0, 4, 3, 172, 42, 180, 0, 177, 172]
abbrev dktX3_count_3 : List UInt8 := dkwX3_count_3 ++ dktX3_count_4
def dkwX3_count_2 : List UInt8 := [42, 180, 0, 7, 172, 42, 180, 0, 13, 172, 42, 180, 0, 54, 172, 42, 180, 0, 90, 172, 42, 180, 0, 93]
abbrev dktX3_count_2 : List UInt8 := dkwX3_count_2 ++ dktX3_count_3
def dkwX3_count_1 : List UInt8 := [170, 0, 0, 0, 0, 0, 95, 0, 0, 0, 0, 0, 0, 0, 7, 0, 0, 0, 47, 0, 0, 0, 52, 0, 0, 0, 57, 0, 0, 0, 62, 0, 0, 0, 67, 0, 0, 0, 72, 0, 0, 0, 77, 0, 0, 0, 90]
abbrev dktX3_count_1 : List UInt8 := dkwX3_count_1 ++ dktX3_count_2
def dkwX3_count_0 : List UInt8 := [27]
abbrev dktX3_count_0 : List UInt8 := dkwX3_count_0 ++ dktX3_count_1
theorem dksX3_count_0 : cX3_count.data.toList.drop 0 = dktX3_count_0 := by decide +kernel
theorem dksX3_count_1 : cX3_count.data.toList.drop 1 = dktX3_count_1 := dk_seg dksX3_count_0 1 rfl rfl
theorem dksX3_count_2 : cX3_count.data.toList.drop 48 = dktX3_count_2 := dk_seg dksX3_count_1 47 rfl rfl
theorem dksX3_count_3 : cX3_count.data.toList.drop 72 = dktX3_count_3 := dk_seg dksX3_count_2 24 rfl rfl
theorem dksX3_count_4 : cX3_count.data.toList.drop 96 = dktX3_count_4 := dk_seg dksX3_count_3 24 rfl rfl
theorem dX3_count_0 : decode cX3_count 0 = .ok (.iload_n 1, 1) := dk_27 (dk_at dksX3_count_0 0 rfl rfl)
theorem dX3_count_1 : decode cX3_count 1 = .ok (.tableswitch 95 0 7 #[47, 52, 57, 62, 67, 72, 77, 90], 47) := by decide +kernel
theorem dX3_count_48 : decode cX3_count 48 = .ok (.aload_n 0, 1) := dk_42 (dk_at dksX3_count_2 0 rfl rfl)
theorem dX3_count_49 : decode cX3_count 49 = .ok (.getfield 7, 3) := dk_180 0 7 (dk_at dksX3_count_2 1 rfl rfl)
theorem dX3_count_52 : decode cX3_count 52 = .ok (.ireturn, 1) := dk_172 (dk_at dksX3_count_2 4 rfl rfl)
theorem dX3_count_53 : decode cX3_count 53 = .ok (.aload_n 0, 1) := dk_42 (dk_at dksX3_count_2 5 rfl rfl)
theorem dX3_count_54 : decode cX3_count 54 = .ok (.getfield 13, 3) := dk_180 0 13 (dk_at dksX3_count_2 6 rfl rfl)
theorem dX3_count_57 : decode cX3_count 57 = .ok (.ireturn, 1) := dk_172 (dk_at dksX3_count_2 9 rfl rfl)
theorem dX3_count_58 : decode cX3_count 58 = .ok (.aload_n 0, 1) := dk_42 (dk_at dksX3_count_2 10 rfl rfl)
theorem dX3_count_59 : decode cX3_count 59 = .ok (.getfield 54, 3) := dk_180 0 54 (dk_at dksX3_count_2 11 rfl rfl)
theorem dX3_count_62 : decode cX3_count 62 = .ok (.ireturn, 1) := dk_172 (dk_at dksX3_count_2 14 rfl rfl)
theorem dX3_count_63 : decode cX3_count 63 = .ok (.aload_n 0, 1) := dk_42 (dk_at dksX3_count_2 15 rfl rfl)
theorem dX3_count_64 : decode cX3_count 64 = .ok (.getfield 90, 3) := dk_180 0 90 (dk_at dksX3_count_2 16 rfl rfl)
theorem dX3_count_67 : decode cX3_count 67 = .ok (.ireturn, 1) := dk_172 (dk_at dksX3_count_2 19 rfl rfl)
theorem dX3_count_68 : decode cX3_count 68 = .ok (.aload_n 0, 1) := dk_42 (dk_at dksX3_count_2 20 rfl rfl)
theorem dX3_count_69 : decode cX3_count 69 = .ok (.getfield 93, 3) := dk_180 0 93 (dk_at dksX3_count_2 21 rfl rfl)
theorem dX3_count_72 : decode cX3_count 72 = .ok (.ireturn, 1) := dk_172 (dk_at dksX3_count_3 0 rfl rfl)
theorem dX3_count_73 : decode cX3_count 73 = .ok (.aload_n 0, 1) := dk_42 (dk_at dksX3_count_3 1 rfl rfl)
theorem dX3_count_74 : decode cX3_count 74 = .ok (.getfield 72, 3) := dk_180 0 72 (dk_at dksX3_count_3 2 rfl rfl)
theorem dX3_count_77 : decode cX3_count 77 = .ok (.ireturn, 1) := dk_172 (dk_at dksX3_count_3 5 rfl rfl)
theorem dX3_count_78 : decode cX3_count 78 = .ok (.aload_n 0, 1) := dk_42 (dk_at dksX3_count_3 6 rfl rfl)
theorem dX3_count_79 : decode cX3_count 79 = .ok (.getfield 44, 3) := dk_180 0 44 (dk_at dksX3_count_3 7 rfl rfl)
theorem dX3_count_82 : decode cX3_count 82 = .ok (.ifCond .eq 7, 3) := dk_153 0 7 (dk_at dksX3_count_3 10 rfl rfl)
theorem dX3_count_85 : decode cX3_count 85 = .ok (.iconst 1, 1) := dk_4 (dk_at dksX3_count_3 13 rfl rfl)
theorem dX3_count_86 : decode cX3_count 86 = .ok (.goto 4, 3) := dk_167 0 4 (dk_at dksX3_count_3 14 rfl rfl)
theorem dX3_count_89 : decode cX3_count 89 = .ok (.iconst 0, 1) := dk_3 (dk_at dksX3_count_3 17 rfl rfl)
theorem dX3_count_90 : decode cX3_count 90 = .ok (.ireturn, 1) := dk_172 (dk_at dksX3_count_3 18 rfl rfl)
theorem dX3_count_91 : decode cX3_count 91 = .ok (.aload_n 0, 1) := dk_42 (dk_at dksX3_count_3 19 rfl rfl)
theorem dX3_count_92 : decode cX3_count 92 = .ok (.getfield 177, 3) := dk_180 0 177 (dk_at dksX3_count_3 20 rfl rfl)
theorem dX3_count_95 : decode cX3_count 95 = .ok (.ireturn, 1) := dk_172 (dk_at dksX3_count_3 23 rfl rfl)
theorem dX3_count_96 : decode cX3_count 96 = .ok (.bipush (-2), 2) := dk_16 254 (dk_at dksX3_count_4 0 rfl rfl)
theorem dX3_count_98 : decode cX3_count 98 = .ok (.ireturn, 1) := dk_172 (dk_at dksX3_count_4 2 rfl rfl)
abbrev cX3_tape : ByteArray := prog_17_method_77_code
def yX3_tape : MethodName := ⟨RX3, "tape", "(III)I"⟩
def dkwX3_tape_4 : List UInt8 := [4, 172]
abbrev dktX3_tape_4 : List UInt8 := dkwX3_tape_4 ++ []
def dkwX3_tape_3 : List UInt8 := [16, 60, 162, 0, 22, 42, 180, 0, 189, 16, 60, 27, 104, 21, 4, 96, 3, 79, 132, 4, 1, 167, 255, 233]
abbrev dktX3_tape_3 : List UInt8 := dkwX3_tape_3 ++ dktX3_tape_4
def dkwX3_tape_2 : List UInt8 := [27, 28, 79, 42, 180, 0, 186, 27, 28, 156, 0, 7, 3, 167, 0, 4, 29, 79, 3, 54, 4, 21, 4]
abbrev dktX3_tape_2 : List UInt8 := dkwX3_tape_2 ++ dktX3_tape_3
def dkwX3_tape_1 : List UInt8 := [29, 16, 60, 164, 0, 6, 16, 254, 172, 28, 155, 0, 10, 29, 156, 0, 6, 16, 242, 172, 42, 180, 0, 183]
abbrev dktX3_tape_1 : List UInt8 := dkwX3_tape_1 ++ dktX3_tape_2
def dkwX3_tape_0 : List UInt8 := [42, 27, 182, 1, 54, 154, 0, 5, 2, 172, 42, 28, 2, 7, 182, 0, 195, 153, 0, 13, 28, 155, 0, 12]
abbrev dktX3_tape_0 : List UInt8 := dkwX3_tape_0 ++ dktX3_tape_1
theorem dksX3_tape_0 : cX3_tape.data.toList.drop 0 = dktX3_tape_0 := by decide +kernel
theorem dksX3_tape_1 : cX3_tape.data.toList.drop 24 = dktX3_tape_1 := dk_seg dksX3_tape_0 24 rfl rfl
theorem dksX3_tape_2 : cX3_tape.data.toList.drop 48 = dktX3_tape_2 := dk_seg dksX3_tape_1 24 rfl rfl
theorem dksX3_tape_3 : cX3_tape.data.toList.drop 71 = dktX3_tape_3 := dk_seg dksX3_tape_2 23 rfl rfl
theorem dksX3_tape_4 : cX3_tape.data.toList.drop 95 = dktX3_tape_4 := dk_seg dksX3_tape_3 24 rfl rfl
theorem dX3_tape_0 : decode cX3_tape 0 = .ok (.aload_n 0, 1) := dk_42 (dk_at dksX3_tape_0 0 rfl rfl)
theorem dX3_tape_1 : decode cX3_tape 1 = .ok (.iload_n 1, 1) := dk_27 (dk_at dksX3_tape_0 1 rfl rfl)
theorem dX3_tape_2 : decode cX3_tape 2 = .ok (.invokevirtual 310, 3) := dk_182 1 54 (dk_at dksX3_tape_0 2 rfl rfl)
theorem dX3_tape_5 : decode cX3_tape 5 = .ok (.ifCond .ne 5, 3) := dk_154 0 5 (dk_at dksX3_tape_0 5 rfl rfl)
theorem dX3_tape_8 : decode cX3_tape 8 = .ok (.iconst (-1), 1) := dk_2 (dk_at dksX3_tape_0 8 rfl rfl)
theorem dX3_tape_9 : decode cX3_tape 9 = .ok (.ireturn, 1) := dk_172 (dk_at dksX3_tape_0 9 rfl rfl)
theorem dX3_tape_10 : decode cX3_tape 10 = .ok (.aload_n 0, 1) := dk_42 (dk_at dksX3_tape_0 10 rfl rfl)
theorem dX3_tape_11 : decode cX3_tape 11 = .ok (.iload_n 2, 1) := dk_28 (dk_at dksX3_tape_0 11 rfl rfl)
theorem dX3_tape_12 : decode cX3_tape 12 = .ok (.iconst (-1), 1) := dk_2 (dk_at dksX3_tape_0 12 rfl rfl)
theorem dX3_tape_13 : decode cX3_tape 13 = .ok (.iconst 4, 1) := dk_7 (dk_at dksX3_tape_0 13 rfl rfl)
theorem dX3_tape_14 : decode cX3_tape 14 = .ok (.invokevirtual 195, 3) := dk_182 0 195 (dk_at dksX3_tape_0 14 rfl rfl)
theorem dX3_tape_17 : decode cX3_tape 17 = .ok (.ifCond .eq 13, 3) := dk_153 0 13 (dk_at dksX3_tape_0 17 rfl rfl)
theorem dX3_tape_20 : decode cX3_tape 20 = .ok (.iload_n 2, 1) := dk_28 (dk_at dksX3_tape_0 20 rfl rfl)
theorem dX3_tape_21 : decode cX3_tape 21 = .ok (.ifCond .lt 12, 3) := dk_155 0 12 (dk_at dksX3_tape_0 21 rfl rfl)
theorem dX3_tape_24 : decode cX3_tape 24 = .ok (.iload_n 3, 1) := dk_29 (dk_at dksX3_tape_1 0 rfl rfl)
theorem dX3_tape_25 : decode cX3_tape 25 = .ok (.bipush 60, 2) := dk_16 60 (dk_at dksX3_tape_1 1 rfl rfl)
theorem dX3_tape_27 : decode cX3_tape 27 = .ok (.if_icmp .le 6, 3) := dk_164 0 6 (dk_at dksX3_tape_1 3 rfl rfl)
theorem dX3_tape_30 : decode cX3_tape 30 = .ok (.bipush (-2), 2) := dk_16 254 (dk_at dksX3_tape_1 6 rfl rfl)
theorem dX3_tape_32 : decode cX3_tape 32 = .ok (.ireturn, 1) := dk_172 (dk_at dksX3_tape_1 8 rfl rfl)
theorem dX3_tape_33 : decode cX3_tape 33 = .ok (.iload_n 2, 1) := dk_28 (dk_at dksX3_tape_1 9 rfl rfl)
theorem dX3_tape_34 : decode cX3_tape 34 = .ok (.ifCond .lt 10, 3) := dk_155 0 10 (dk_at dksX3_tape_1 10 rfl rfl)
theorem dX3_tape_37 : decode cX3_tape 37 = .ok (.iload_n 3, 1) := dk_29 (dk_at dksX3_tape_1 13 rfl rfl)
theorem dX3_tape_38 : decode cX3_tape 38 = .ok (.ifCond .ge 6, 3) := dk_156 0 6 (dk_at dksX3_tape_1 14 rfl rfl)
theorem dX3_tape_41 : decode cX3_tape 41 = .ok (.bipush (-14), 2) := dk_16 242 (dk_at dksX3_tape_1 17 rfl rfl)
theorem dX3_tape_43 : decode cX3_tape 43 = .ok (.ireturn, 1) := dk_172 (dk_at dksX3_tape_1 19 rfl rfl)
theorem dX3_tape_44 : decode cX3_tape 44 = .ok (.aload_n 0, 1) := dk_42 (dk_at dksX3_tape_1 20 rfl rfl)
theorem dX3_tape_45 : decode cX3_tape 45 = .ok (.getfield 183, 3) := dk_180 0 183 (dk_at dksX3_tape_1 21 rfl rfl)
theorem dX3_tape_48 : decode cX3_tape 48 = .ok (.iload_n 1, 1) := dk_27 (dk_at dksX3_tape_2 0 rfl rfl)
theorem dX3_tape_49 : decode cX3_tape 49 = .ok (.iload_n 2, 1) := dk_28 (dk_at dksX3_tape_2 1 rfl rfl)
theorem dX3_tape_50 : decode cX3_tape 50 = .ok (.iastore, 1) := dk_79 (dk_at dksX3_tape_2 2 rfl rfl)
theorem dX3_tape_51 : decode cX3_tape 51 = .ok (.aload_n 0, 1) := dk_42 (dk_at dksX3_tape_2 3 rfl rfl)
theorem dX3_tape_52 : decode cX3_tape 52 = .ok (.getfield 186, 3) := dk_180 0 186 (dk_at dksX3_tape_2 4 rfl rfl)
theorem dX3_tape_55 : decode cX3_tape 55 = .ok (.iload_n 1, 1) := dk_27 (dk_at dksX3_tape_2 7 rfl rfl)
theorem dX3_tape_56 : decode cX3_tape 56 = .ok (.iload_n 2, 1) := dk_28 (dk_at dksX3_tape_2 8 rfl rfl)
theorem dX3_tape_57 : decode cX3_tape 57 = .ok (.ifCond .ge 7, 3) := dk_156 0 7 (dk_at dksX3_tape_2 9 rfl rfl)
theorem dX3_tape_60 : decode cX3_tape 60 = .ok (.iconst 0, 1) := dk_3 (dk_at dksX3_tape_2 12 rfl rfl)
theorem dX3_tape_61 : decode cX3_tape 61 = .ok (.goto 4, 3) := dk_167 0 4 (dk_at dksX3_tape_2 13 rfl rfl)
theorem dX3_tape_64 : decode cX3_tape 64 = .ok (.iload_n 3, 1) := dk_29 (dk_at dksX3_tape_2 16 rfl rfl)
theorem dX3_tape_65 : decode cX3_tape 65 = .ok (.iastore, 1) := dk_79 (dk_at dksX3_tape_2 17 rfl rfl)
theorem dX3_tape_66 : decode cX3_tape 66 = .ok (.iconst 0, 1) := dk_3 (dk_at dksX3_tape_2 18 rfl rfl)
theorem dX3_tape_67 : decode cX3_tape 67 = .ok (.istore 4, 2) := dk_54 4 (dk_at dksX3_tape_2 19 rfl rfl)
theorem dX3_tape_69 : decode cX3_tape 69 = .ok (.iload 4, 2) := dk_21 4 (dk_at dksX3_tape_2 21 rfl rfl)
theorem dX3_tape_71 : decode cX3_tape 71 = .ok (.bipush 60, 2) := dk_16 60 (dk_at dksX3_tape_3 0 rfl rfl)
theorem dX3_tape_73 : decode cX3_tape 73 = .ok (.if_icmp .ge 22, 3) := dk_162 0 22 (dk_at dksX3_tape_3 2 rfl rfl)
theorem dX3_tape_76 : decode cX3_tape 76 = .ok (.aload_n 0, 1) := dk_42 (dk_at dksX3_tape_3 5 rfl rfl)
theorem dX3_tape_77 : decode cX3_tape 77 = .ok (.getfield 189, 3) := dk_180 0 189 (dk_at dksX3_tape_3 6 rfl rfl)
theorem dX3_tape_80 : decode cX3_tape 80 = .ok (.bipush 60, 2) := dk_16 60 (dk_at dksX3_tape_3 9 rfl rfl)
theorem dX3_tape_82 : decode cX3_tape 82 = .ok (.iload_n 1, 1) := dk_27 (dk_at dksX3_tape_3 11 rfl rfl)
theorem dX3_tape_83 : decode cX3_tape 83 = .ok (.imul, 1) := dk_104 (dk_at dksX3_tape_3 12 rfl rfl)
theorem dX3_tape_84 : decode cX3_tape 84 = .ok (.iload 4, 2) := dk_21 4 (dk_at dksX3_tape_3 13 rfl rfl)
theorem dX3_tape_86 : decode cX3_tape 86 = .ok (.iadd, 1) := dk_96 (dk_at dksX3_tape_3 15 rfl rfl)
theorem dX3_tape_87 : decode cX3_tape 87 = .ok (.iconst 0, 1) := dk_3 (dk_at dksX3_tape_3 16 rfl rfl)
theorem dX3_tape_88 : decode cX3_tape 88 = .ok (.iastore, 1) := dk_79 (dk_at dksX3_tape_3 17 rfl rfl)
theorem dX3_tape_89 : decode cX3_tape 89 = .ok (.iinc 4 1, 3) := dk_132 4 1 (dk_at dksX3_tape_3 18 rfl rfl)
theorem dX3_tape_92 : decode cX3_tape 92 = .ok (.goto (-23), 3) := dk_167 255 233 (dk_at dksX3_tape_3 21 rfl rfl)
theorem dX3_tape_95 : decode cX3_tape 95 = .ok (.iconst 1, 1) := dk_4 (dk_at dksX3_tape_4 0 rfl rfl)
theorem dX3_tape_96 : decode cX3_tape 96 = .ok (.ireturn, 1) := dk_172 (dk_at dksX3_tape_4 1 rfl rfl)
abbrev cX3_item : ByteArray := prog_17_method_79_code
def yX3_item : MethodName := ⟨RX3, "item", "(III)I"⟩
def dkwX3_item_2 : List UInt8 := [27, 104, 28, 96, 42, 42, 180, 0, 183, 27, 46, 29, 182, 1, 89, 79, 4, 172]
abbrev dktX3_item_2 : List UInt8 := dkwX3_item_2 ++ []
def dkwX3_item_1 : List UInt8 := [3, 42, 180, 0, 186, 27, 46, 4, 100, 182, 0, 195, 154, 0, 6, 16, 243, 172, 42, 180, 0, 189, 16, 60]
abbrev dktX3_item_1 : List UInt8 := dkwX3_item_1 ++ dktX3_item_2
def dkwX3_item_0 : List UInt8 := [42, 27, 182, 1, 54, 154, 0, 5, 2, 172, 42, 180, 0, 183, 27, 46, 156, 0, 6, 16, 245, 172, 42, 28]
abbrev dktX3_item_0 : List UInt8 := dkwX3_item_0 ++ dktX3_item_1
theorem dksX3_item_0 : cX3_item.data.toList.drop 0 = dktX3_item_0 := by decide +kernel
theorem dksX3_item_1 : cX3_item.data.toList.drop 24 = dktX3_item_1 := dk_seg dksX3_item_0 24 rfl rfl
theorem dksX3_item_2 : cX3_item.data.toList.drop 48 = dktX3_item_2 := dk_seg dksX3_item_1 24 rfl rfl
theorem dX3_item_0 : decode cX3_item 0 = .ok (.aload_n 0, 1) := dk_42 (dk_at dksX3_item_0 0 rfl rfl)
theorem dX3_item_1 : decode cX3_item 1 = .ok (.iload_n 1, 1) := dk_27 (dk_at dksX3_item_0 1 rfl rfl)
theorem dX3_item_2 : decode cX3_item 2 = .ok (.invokevirtual 310, 3) := dk_182 1 54 (dk_at dksX3_item_0 2 rfl rfl)
theorem dX3_item_5 : decode cX3_item 5 = .ok (.ifCond .ne 5, 3) := dk_154 0 5 (dk_at dksX3_item_0 5 rfl rfl)
theorem dX3_item_8 : decode cX3_item 8 = .ok (.iconst (-1), 1) := dk_2 (dk_at dksX3_item_0 8 rfl rfl)
theorem dX3_item_9 : decode cX3_item 9 = .ok (.ireturn, 1) := dk_172 (dk_at dksX3_item_0 9 rfl rfl)
theorem dX3_item_10 : decode cX3_item 10 = .ok (.aload_n 0, 1) := dk_42 (dk_at dksX3_item_0 10 rfl rfl)
theorem dX3_item_11 : decode cX3_item 11 = .ok (.getfield 183, 3) := dk_180 0 183 (dk_at dksX3_item_0 11 rfl rfl)
theorem dX3_item_14 : decode cX3_item 14 = .ok (.iload_n 1, 1) := dk_27 (dk_at dksX3_item_0 14 rfl rfl)
theorem dX3_item_15 : decode cX3_item 15 = .ok (.iaload, 1) := dk_46 (dk_at dksX3_item_0 15 rfl rfl)
theorem dX3_item_16 : decode cX3_item 16 = .ok (.ifCond .ge 6, 3) := dk_156 0 6 (dk_at dksX3_item_0 16 rfl rfl)
theorem dX3_item_19 : decode cX3_item 19 = .ok (.bipush (-11), 2) := dk_16 245 (dk_at dksX3_item_0 19 rfl rfl)
theorem dX3_item_21 : decode cX3_item 21 = .ok (.ireturn, 1) := dk_172 (dk_at dksX3_item_0 21 rfl rfl)
theorem dX3_item_22 : decode cX3_item 22 = .ok (.aload_n 0, 1) := dk_42 (dk_at dksX3_item_0 22 rfl rfl)
theorem dX3_item_23 : decode cX3_item 23 = .ok (.iload_n 2, 1) := dk_28 (dk_at dksX3_item_0 23 rfl rfl)
theorem dX3_item_24 : decode cX3_item 24 = .ok (.iconst 0, 1) := dk_3 (dk_at dksX3_item_1 0 rfl rfl)
theorem dX3_item_25 : decode cX3_item 25 = .ok (.aload_n 0, 1) := dk_42 (dk_at dksX3_item_1 1 rfl rfl)
theorem dX3_item_26 : decode cX3_item 26 = .ok (.getfield 186, 3) := dk_180 0 186 (dk_at dksX3_item_1 2 rfl rfl)
theorem dX3_item_29 : decode cX3_item 29 = .ok (.iload_n 1, 1) := dk_27 (dk_at dksX3_item_1 5 rfl rfl)
theorem dX3_item_30 : decode cX3_item 30 = .ok (.iaload, 1) := dk_46 (dk_at dksX3_item_1 6 rfl rfl)
theorem dX3_item_31 : decode cX3_item 31 = .ok (.iconst 1, 1) := dk_4 (dk_at dksX3_item_1 7 rfl rfl)
theorem dX3_item_32 : decode cX3_item 32 = .ok (.isub, 1) := dk_100 (dk_at dksX3_item_1 8 rfl rfl)
theorem dX3_item_33 : decode cX3_item 33 = .ok (.invokevirtual 195, 3) := dk_182 0 195 (dk_at dksX3_item_1 9 rfl rfl)
theorem dX3_item_36 : decode cX3_item 36 = .ok (.ifCond .ne 6, 3) := dk_154 0 6 (dk_at dksX3_item_1 12 rfl rfl)
theorem dX3_item_39 : decode cX3_item 39 = .ok (.bipush (-13), 2) := dk_16 243 (dk_at dksX3_item_1 15 rfl rfl)
theorem dX3_item_41 : decode cX3_item 41 = .ok (.ireturn, 1) := dk_172 (dk_at dksX3_item_1 17 rfl rfl)
theorem dX3_item_42 : decode cX3_item 42 = .ok (.aload_n 0, 1) := dk_42 (dk_at dksX3_item_1 18 rfl rfl)
theorem dX3_item_43 : decode cX3_item 43 = .ok (.getfield 189, 3) := dk_180 0 189 (dk_at dksX3_item_1 19 rfl rfl)
theorem dX3_item_46 : decode cX3_item 46 = .ok (.bipush 60, 2) := dk_16 60 (dk_at dksX3_item_1 22 rfl rfl)
theorem dX3_item_48 : decode cX3_item 48 = .ok (.iload_n 1, 1) := dk_27 (dk_at dksX3_item_2 0 rfl rfl)
theorem dX3_item_49 : decode cX3_item 49 = .ok (.imul, 1) := dk_104 (dk_at dksX3_item_2 1 rfl rfl)
theorem dX3_item_50 : decode cX3_item 50 = .ok (.iload_n 2, 1) := dk_28 (dk_at dksX3_item_2 2 rfl rfl)
theorem dX3_item_51 : decode cX3_item 51 = .ok (.iadd, 1) := dk_96 (dk_at dksX3_item_2 3 rfl rfl)
theorem dX3_item_52 : decode cX3_item 52 = .ok (.aload_n 0, 1) := dk_42 (dk_at dksX3_item_2 4 rfl rfl)
theorem dX3_item_53 : decode cX3_item 53 = .ok (.aload_n 0, 1) := dk_42 (dk_at dksX3_item_2 5 rfl rfl)
theorem dX3_item_54 : decode cX3_item 54 = .ok (.getfield 183, 3) := dk_180 0 183 (dk_at dksX3_item_2 6 rfl rfl)
theorem dX3_item_57 : decode cX3_item 57 = .ok (.iload_n 1, 1) := dk_27 (dk_at dksX3_item_2 9 rfl rfl)
theorem dX3_item_58 : decode cX3_item 58 = .ok (.iaload, 1) := dk_46 (dk_at dksX3_item_2 10 rfl rfl)
theorem dX3_item_59 : decode cX3_item 59 = .ok (.iload_n 3, 1) := dk_29 (dk_at dksX3_item_2 11 rfl rfl)
theorem dX3_item_60 : decode cX3_item 60 = .ok (.invokevirtual 345, 3) := dk_182 1 89 (dk_at dksX3_item_2 12 rfl rfl)
theorem dX3_item_63 : decode cX3_item 63 = .ok (.iastore, 1) := dk_79 (dk_at dksX3_item_2 15 rfl rfl)
theorem dX3_item_64 : decode cX3_item 64 = .ok (.iconst 1, 1) := dk_4 (dk_at dksX3_item_2 16 rfl rfl)
theorem dX3_item_65 : decode cX3_item 65 = .ok (.ireturn, 1) := dk_172 (dk_at dksX3_item_2 17 rfl rfl)
abbrev cX3_narrow : ByteArray := prog_17_method_78_code
def yX3_narrow : MethodName := ⟨RX3, "narrow", "(II)I"⟩
def dkwX3_narrow_2 : List UInt8 := [167, 0, 4, 28, 172]
abbrev dktX3_narrow_2 : List UInt8 := dkwX3_narrow_2 ++ []
def dkwX3_narrow_1 : List UInt8 := [28, 153, 0, 7, 4, 167, 0, 21, 3, 167, 0, 17, 27, 7, 160, 0, 11, 28, 19, 1, 88, 126]
abbrev dktX3_narrow_1 : List UInt8 := dkwX3_narrow_1 ++ dktX3_narrow_2
def dkwX3_narrow_0 : List UInt8 := [27, 154, 0, 8, 28, 145, 167, 0, 44, 27, 4, 160, 0, 8, 28, 147, 167, 0, 34, 27, 6, 160, 0, 15]
abbrev dktX3_narrow_0 : List UInt8 := dkwX3_narrow_0 ++ dktX3_narrow_1
theorem dksX3_narrow_0 : cX3_narrow.data.toList.drop 0 = dktX3_narrow_0 := by decide +kernel
theorem dksX3_narrow_1 : cX3_narrow.data.toList.drop 24 = dktX3_narrow_1 := dk_seg dksX3_narrow_0 24 rfl rfl
theorem dksX3_narrow_2 : cX3_narrow.data.toList.drop 46 = dktX3_narrow_2 := dk_seg dksX3_narrow_1 22 rfl rfl
theorem dX3_narrow_0 : decode cX3_narrow 0 = .ok (.iload_n 1, 1) := dk_27 (dk_at dksX3_narrow_0 0 rfl rfl)
theorem dX3_narrow_1 : decode cX3_narrow 1 = .ok (.ifCond .ne 8, 3) := dk_154 0 8 (dk_at dksX3_narrow_0 1 rfl rfl)
theorem dX3_narrow_4 : decode cX3_narrow 4 = .ok (.iload_n 2, 1) := dk_28 (dk_at dksX3_narrow_0 4 rfl rfl)
theorem dX3_narrow_5 : decode cX3_narrow 5 = .ok (.i2b, 1) := dk_145 (dk_at dksX3_narrow_0 5 rfl rfl)
theorem dX3_narrow_6 : decode cX3_narrow 6 = .ok (.goto 44, 3) := dk_167 0 44 (dk_at dksX3_narrow_0 6 rfl rfl)
theorem dX3_narrow_9 : decode cX3_narrow 9 = .ok (.iload_n 1, 1) := dk_27 (dk_at dksX3_narrow_0 9 rfl rfl)
theorem dX3_narrow_10 : decode cX3_narrow 10 = .ok (.iconst 1, 1) := dk_4 (dk_at dksX3_narrow_0 10 rfl rfl)
theorem dX3_narrow_11 : decode cX3_narrow 11 = .ok (.if_icmp .ne 8, 3) := dk_160 0 8 (dk_at dksX3_narrow_0 11 rfl rfl)
theorem dX3_narrow_14 : decode cX3_narrow 14 = .ok (.iload_n 2, 1) := dk_28 (dk_at dksX3_narrow_0 14 rfl rfl)
theorem dX3_narrow_15 : decode cX3_narrow 15 = .ok (.i2s, 1) := dk_147 (dk_at dksX3_narrow_0 15 rfl rfl)
theorem dX3_narrow_16 : decode cX3_narrow 16 = .ok (.goto 34, 3) := dk_167 0 34 (dk_at dksX3_narrow_0 16 rfl rfl)
theorem dX3_narrow_19 : decode cX3_narrow 19 = .ok (.iload_n 1, 1) := dk_27 (dk_at dksX3_narrow_0 19 rfl rfl)
theorem dX3_narrow_20 : decode cX3_narrow 20 = .ok (.iconst 3, 1) := dk_6 (dk_at dksX3_narrow_0 20 rfl rfl)
theorem dX3_narrow_21 : decode cX3_narrow 21 = .ok (.if_icmp .ne 15, 3) := dk_160 0 15 (dk_at dksX3_narrow_0 21 rfl rfl)
theorem dX3_narrow_24 : decode cX3_narrow 24 = .ok (.iload_n 2, 1) := dk_28 (dk_at dksX3_narrow_1 0 rfl rfl)
theorem dX3_narrow_25 : decode cX3_narrow 25 = .ok (.ifCond .eq 7, 3) := dk_153 0 7 (dk_at dksX3_narrow_1 1 rfl rfl)
theorem dX3_narrow_28 : decode cX3_narrow 28 = .ok (.iconst 1, 1) := dk_4 (dk_at dksX3_narrow_1 4 rfl rfl)
theorem dX3_narrow_29 : decode cX3_narrow 29 = .ok (.goto 21, 3) := dk_167 0 21 (dk_at dksX3_narrow_1 5 rfl rfl)
theorem dX3_narrow_32 : decode cX3_narrow 32 = .ok (.iconst 0, 1) := dk_3 (dk_at dksX3_narrow_1 8 rfl rfl)
theorem dX3_narrow_33 : decode cX3_narrow 33 = .ok (.goto 17, 3) := dk_167 0 17 (dk_at dksX3_narrow_1 9 rfl rfl)
theorem dX3_narrow_36 : decode cX3_narrow 36 = .ok (.iload_n 1, 1) := dk_27 (dk_at dksX3_narrow_1 12 rfl rfl)
theorem dX3_narrow_37 : decode cX3_narrow 37 = .ok (.iconst 4, 1) := dk_7 (dk_at dksX3_narrow_1 13 rfl rfl)
theorem dX3_narrow_38 : decode cX3_narrow 38 = .ok (.if_icmp .ne 11, 3) := dk_160 0 11 (dk_at dksX3_narrow_1 14 rfl rfl)
theorem dX3_narrow_41 : decode cX3_narrow 41 = .ok (.iload_n 2, 1) := dk_28 (dk_at dksX3_narrow_1 17 rfl rfl)
theorem dX3_narrow_42 : decode cX3_narrow 42 = .ok (.ldc_w 344, 3) := dk_19 1 88 (dk_at dksX3_narrow_1 18 rfl rfl)
theorem dX3_narrow_45 : decode cX3_narrow 45 = .ok (.iand, 1) := dk_126 (dk_at dksX3_narrow_1 21 rfl rfl)
theorem dX3_narrow_46 : decode cX3_narrow 46 = .ok (.goto 4, 3) := dk_167 0 4 (dk_at dksX3_narrow_2 0 rfl rfl)
theorem dX3_narrow_49 : decode cX3_narrow 49 = .ok (.iload_n 2, 1) := dk_28 (dk_at dksX3_narrow_2 3 rfl rfl)
theorem dX3_narrow_50 : decode cX3_narrow 50 = .ok (.ireturn, 1) := dk_172 (dk_at dksX3_narrow_2 4 rfl rfl)
abbrev cX3_read : ByteArray := prog_17_method_80_code
def yX3_read : MethodName := ⟨RX3, "read", "(II)I"⟩
def dkwX3_read_2 : List UInt8 := [28, 96, 46, 172]
abbrev dktX3_read_2 : List UInt8 := dkwX3_read_2 ++ []
def dkwX3_read_1 : List UInt8 := [27, 46, 4, 100, 182, 0, 195, 154, 0, 9, 19, 1, 92, 167, 0, 14, 42, 180, 0, 189, 16, 60, 27, 104]
abbrev dktX3_read_1 : List UInt8 := dkwX3_read_1 ++ dktX3_read_2
def dkwX3_read_0 : List UInt8 := [42, 27, 182, 1, 54, 153, 0, 29, 42, 180, 0, 183, 27, 46, 155, 0, 20, 42, 28, 3, 42, 180, 0, 186]
abbrev dktX3_read_0 : List UInt8 := dkwX3_read_0 ++ dktX3_read_1
theorem dksX3_read_0 : cX3_read.data.toList.drop 0 = dktX3_read_0 := by decide +kernel
theorem dksX3_read_1 : cX3_read.data.toList.drop 24 = dktX3_read_1 := dk_seg dksX3_read_0 24 rfl rfl
theorem dksX3_read_2 : cX3_read.data.toList.drop 48 = dktX3_read_2 := dk_seg dksX3_read_1 24 rfl rfl
theorem dX3_read_0 : decode cX3_read 0 = .ok (.aload_n 0, 1) := dk_42 (dk_at dksX3_read_0 0 rfl rfl)
theorem dX3_read_1 : decode cX3_read 1 = .ok (.iload_n 1, 1) := dk_27 (dk_at dksX3_read_0 1 rfl rfl)
theorem dX3_read_2 : decode cX3_read 2 = .ok (.invokevirtual 310, 3) := dk_182 1 54 (dk_at dksX3_read_0 2 rfl rfl)
theorem dX3_read_5 : decode cX3_read 5 = .ok (.ifCond .eq 29, 3) := dk_153 0 29 (dk_at dksX3_read_0 5 rfl rfl)
theorem dX3_read_8 : decode cX3_read 8 = .ok (.aload_n 0, 1) := dk_42 (dk_at dksX3_read_0 8 rfl rfl)
theorem dX3_read_9 : decode cX3_read 9 = .ok (.getfield 183, 3) := dk_180 0 183 (dk_at dksX3_read_0 9 rfl rfl)
theorem dX3_read_12 : decode cX3_read 12 = .ok (.iload_n 1, 1) := dk_27 (dk_at dksX3_read_0 12 rfl rfl)
theorem dX3_read_13 : decode cX3_read 13 = .ok (.iaload, 1) := dk_46 (dk_at dksX3_read_0 13 rfl rfl)
theorem dX3_read_14 : decode cX3_read 14 = .ok (.ifCond .lt 20, 3) := dk_155 0 20 (dk_at dksX3_read_0 14 rfl rfl)
theorem dX3_read_17 : decode cX3_read 17 = .ok (.aload_n 0, 1) := dk_42 (dk_at dksX3_read_0 17 rfl rfl)
theorem dX3_read_18 : decode cX3_read 18 = .ok (.iload_n 2, 1) := dk_28 (dk_at dksX3_read_0 18 rfl rfl)
theorem dX3_read_19 : decode cX3_read 19 = .ok (.iconst 0, 1) := dk_3 (dk_at dksX3_read_0 19 rfl rfl)
theorem dX3_read_20 : decode cX3_read 20 = .ok (.aload_n 0, 1) := dk_42 (dk_at dksX3_read_0 20 rfl rfl)
theorem dX3_read_21 : decode cX3_read 21 = .ok (.getfield 186, 3) := dk_180 0 186 (dk_at dksX3_read_0 21 rfl rfl)
theorem dX3_read_24 : decode cX3_read 24 = .ok (.iload_n 1, 1) := dk_27 (dk_at dksX3_read_1 0 rfl rfl)
theorem dX3_read_25 : decode cX3_read 25 = .ok (.iaload, 1) := dk_46 (dk_at dksX3_read_1 1 rfl rfl)
theorem dX3_read_26 : decode cX3_read 26 = .ok (.iconst 1, 1) := dk_4 (dk_at dksX3_read_1 2 rfl rfl)
theorem dX3_read_27 : decode cX3_read 27 = .ok (.isub, 1) := dk_100 (dk_at dksX3_read_1 3 rfl rfl)
theorem dX3_read_28 : decode cX3_read 28 = .ok (.invokevirtual 195, 3) := dk_182 0 195 (dk_at dksX3_read_1 4 rfl rfl)
theorem dX3_read_31 : decode cX3_read 31 = .ok (.ifCond .ne 9, 3) := dk_154 0 9 (dk_at dksX3_read_1 7 rfl rfl)
theorem dX3_read_34 : decode cX3_read 34 = .ok (.ldc_w 348, 3) := dk_19 1 92 (dk_at dksX3_read_1 10 rfl rfl)
theorem dX3_read_37 : decode cX3_read 37 = .ok (.goto 14, 3) := dk_167 0 14 (dk_at dksX3_read_1 13 rfl rfl)
theorem dX3_read_40 : decode cX3_read 40 = .ok (.aload_n 0, 1) := dk_42 (dk_at dksX3_read_1 16 rfl rfl)
theorem dX3_read_41 : decode cX3_read 41 = .ok (.getfield 189, 3) := dk_180 0 189 (dk_at dksX3_read_1 17 rfl rfl)
theorem dX3_read_44 : decode cX3_read 44 = .ok (.bipush 60, 2) := dk_16 60 (dk_at dksX3_read_1 20 rfl rfl)
theorem dX3_read_46 : decode cX3_read 46 = .ok (.iload_n 1, 1) := dk_27 (dk_at dksX3_read_1 22 rfl rfl)
theorem dX3_read_47 : decode cX3_read 47 = .ok (.imul, 1) := dk_104 (dk_at dksX3_read_1 23 rfl rfl)
theorem dX3_read_48 : decode cX3_read 48 = .ok (.iload_n 2, 1) := dk_28 (dk_at dksX3_read_2 0 rfl rfl)
theorem dX3_read_49 : decode cX3_read 49 = .ok (.iadd, 1) := dk_96 (dk_at dksX3_read_2 1 rfl rfl)
theorem dX3_read_50 : decode cX3_read 50 = .ok (.iaload, 1) := dk_46 (dk_at dksX3_read_2 2 rfl rfl)
theorem dX3_read_51 : decode cX3_read 51 = .ok (.ireturn, 1) := dk_172 (dk_at dksX3_read_2 3 rfl rfl)
abbrev cX3_shift : ByteArray := prog_17_method_81_code
def yX3_shift : MethodName := ⟨RX3, "shift", "(IIIII)I"⟩
def dkwX3_shift_7 : List UInt8 := [180, 0, 192, 21, 6, 46, 79, 132, 6, 1, 167, 255, 224, 21, 5, 172]
abbrev dktX3_shift_7 : List UInt8 := dkwX3_shift_7 ++ []
def dkwX3_shift_6 : List UInt8 := [54, 6, 21, 6, 21, 5, 162, 0, 31, 42, 180, 0, 189, 16, 60, 29, 104, 21, 4, 96, 21, 6, 96, 42]
abbrev dktX3_shift_6 : List UInt8 := dkwX3_shift_6 ++ dktX3_shift_7
def dkwX3_shift_5 : List UInt8 := [21, 6, 42, 180, 0, 189, 16, 60, 27, 104, 28, 96, 21, 6, 96, 46, 79, 132, 6, 1, 167, 255, 225, 3]
abbrev dktX3_shift_5 : List UInt8 := dkwX3_shift_5 ++ dktX3_shift_6
def dkwX3_shift_4 : List UInt8 := [21, 5, 100, 164, 0, 6, 16, 243, 172, 3, 54, 6, 21, 6, 21, 5, 162, 0, 30, 42, 180, 0, 192]
abbrev dktX3_shift_4 : List UInt8 := dkwX3_shift_4 ++ dktX3_shift_5
def dkwX3_shift_3 : List UInt8 := [155, 0, 30, 28, 42, 180, 0, 186, 27, 46, 21, 5, 100, 163, 0, 17, 21, 4, 42, 180, 0, 186, 29, 46]
abbrev dktX3_shift_3 : List UInt8 := dkwX3_shift_3 ++ dktX3_shift_4
def dkwX3_shift_2 : List UInt8 := [180, 0, 183, 29, 46, 159, 0, 6, 16, 244, 172, 21, 5, 155, 0, 39, 28, 155, 0, 35, 21, 4]
abbrev dktX3_shift_2 : List UInt8 := dkwX3_shift_2 ++ dktX3_shift_3
def dkwX3_shift_1 : List UInt8 := [155, 0, 12, 42, 180, 0, 183, 29, 46, 156, 0, 6, 16, 245, 172, 42, 180, 0, 183, 27, 46, 42]
abbrev dktX3_shift_1 : List UInt8 := dkwX3_shift_1 ++ dktX3_shift_2
def dkwX3_shift_0 : List UInt8 := [42, 27, 182, 1, 54, 153, 0, 11, 42, 29, 182, 1, 54, 154, 0, 5, 2, 172, 42, 180, 0, 183, 27, 46]
abbrev dktX3_shift_0 : List UInt8 := dkwX3_shift_0 ++ dktX3_shift_1
theorem dksX3_shift_0 : cX3_shift.data.toList.drop 0 = dktX3_shift_0 := by decide +kernel
theorem dksX3_shift_1 : cX3_shift.data.toList.drop 24 = dktX3_shift_1 := dk_seg dksX3_shift_0 24 rfl rfl
theorem dksX3_shift_2 : cX3_shift.data.toList.drop 46 = dktX3_shift_2 := dk_seg dksX3_shift_1 22 rfl rfl
theorem dksX3_shift_3 : cX3_shift.data.toList.drop 68 = dktX3_shift_3 := dk_seg dksX3_shift_2 22 rfl rfl
theorem dksX3_shift_4 : cX3_shift.data.toList.drop 92 = dktX3_shift_4 := dk_seg dksX3_shift_3 24 rfl rfl
theorem dksX3_shift_5 : cX3_shift.data.toList.drop 115 = dktX3_shift_5 := dk_seg dksX3_shift_4 23 rfl rfl
theorem dksX3_shift_6 : cX3_shift.data.toList.drop 139 = dktX3_shift_6 := dk_seg dksX3_shift_5 24 rfl rfl
theorem dksX3_shift_7 : cX3_shift.data.toList.drop 163 = dktX3_shift_7 := dk_seg dksX3_shift_6 24 rfl rfl
theorem dX3_shift_0 : decode cX3_shift 0 = .ok (.aload_n 0, 1) := dk_42 (dk_at dksX3_shift_0 0 rfl rfl)
theorem dX3_shift_1 : decode cX3_shift 1 = .ok (.iload_n 1, 1) := dk_27 (dk_at dksX3_shift_0 1 rfl rfl)
theorem dX3_shift_2 : decode cX3_shift 2 = .ok (.invokevirtual 310, 3) := dk_182 1 54 (dk_at dksX3_shift_0 2 rfl rfl)
theorem dX3_shift_5 : decode cX3_shift 5 = .ok (.ifCond .eq 11, 3) := dk_153 0 11 (dk_at dksX3_shift_0 5 rfl rfl)
theorem dX3_shift_8 : decode cX3_shift 8 = .ok (.aload_n 0, 1) := dk_42 (dk_at dksX3_shift_0 8 rfl rfl)
theorem dX3_shift_9 : decode cX3_shift 9 = .ok (.iload_n 3, 1) := dk_29 (dk_at dksX3_shift_0 9 rfl rfl)
theorem dX3_shift_10 : decode cX3_shift 10 = .ok (.invokevirtual 310, 3) := dk_182 1 54 (dk_at dksX3_shift_0 10 rfl rfl)
theorem dX3_shift_13 : decode cX3_shift 13 = .ok (.ifCond .ne 5, 3) := dk_154 0 5 (dk_at dksX3_shift_0 13 rfl rfl)
theorem dX3_shift_16 : decode cX3_shift 16 = .ok (.iconst (-1), 1) := dk_2 (dk_at dksX3_shift_0 16 rfl rfl)
theorem dX3_shift_17 : decode cX3_shift 17 = .ok (.ireturn, 1) := dk_172 (dk_at dksX3_shift_0 17 rfl rfl)
theorem dX3_shift_18 : decode cX3_shift 18 = .ok (.aload_n 0, 1) := dk_42 (dk_at dksX3_shift_0 18 rfl rfl)
theorem dX3_shift_19 : decode cX3_shift 19 = .ok (.getfield 183, 3) := dk_180 0 183 (dk_at dksX3_shift_0 19 rfl rfl)
theorem dX3_shift_22 : decode cX3_shift 22 = .ok (.iload_n 1, 1) := dk_27 (dk_at dksX3_shift_0 22 rfl rfl)
theorem dX3_shift_23 : decode cX3_shift 23 = .ok (.iaload, 1) := dk_46 (dk_at dksX3_shift_0 23 rfl rfl)
theorem dX3_shift_24 : decode cX3_shift 24 = .ok (.ifCond .lt 12, 3) := dk_155 0 12 (dk_at dksX3_shift_1 0 rfl rfl)
theorem dX3_shift_27 : decode cX3_shift 27 = .ok (.aload_n 0, 1) := dk_42 (dk_at dksX3_shift_1 3 rfl rfl)
theorem dX3_shift_28 : decode cX3_shift 28 = .ok (.getfield 183, 3) := dk_180 0 183 (dk_at dksX3_shift_1 4 rfl rfl)
theorem dX3_shift_31 : decode cX3_shift 31 = .ok (.iload_n 3, 1) := dk_29 (dk_at dksX3_shift_1 7 rfl rfl)
theorem dX3_shift_32 : decode cX3_shift 32 = .ok (.iaload, 1) := dk_46 (dk_at dksX3_shift_1 8 rfl rfl)
theorem dX3_shift_33 : decode cX3_shift 33 = .ok (.ifCond .ge 6, 3) := dk_156 0 6 (dk_at dksX3_shift_1 9 rfl rfl)
theorem dX3_shift_36 : decode cX3_shift 36 = .ok (.bipush (-11), 2) := dk_16 245 (dk_at dksX3_shift_1 12 rfl rfl)
theorem dX3_shift_38 : decode cX3_shift 38 = .ok (.ireturn, 1) := dk_172 (dk_at dksX3_shift_1 14 rfl rfl)
theorem dX3_shift_39 : decode cX3_shift 39 = .ok (.aload_n 0, 1) := dk_42 (dk_at dksX3_shift_1 15 rfl rfl)
theorem dX3_shift_40 : decode cX3_shift 40 = .ok (.getfield 183, 3) := dk_180 0 183 (dk_at dksX3_shift_1 16 rfl rfl)
theorem dX3_shift_43 : decode cX3_shift 43 = .ok (.iload_n 1, 1) := dk_27 (dk_at dksX3_shift_1 19 rfl rfl)
theorem dX3_shift_44 : decode cX3_shift 44 = .ok (.iaload, 1) := dk_46 (dk_at dksX3_shift_1 20 rfl rfl)
theorem dX3_shift_45 : decode cX3_shift 45 = .ok (.aload_n 0, 1) := dk_42 (dk_at dksX3_shift_1 21 rfl rfl)
theorem dX3_shift_46 : decode cX3_shift 46 = .ok (.getfield 183, 3) := dk_180 0 183 (dk_at dksX3_shift_2 0 rfl rfl)
theorem dX3_shift_49 : decode cX3_shift 49 = .ok (.iload_n 3, 1) := dk_29 (dk_at dksX3_shift_2 3 rfl rfl)
theorem dX3_shift_50 : decode cX3_shift 50 = .ok (.iaload, 1) := dk_46 (dk_at dksX3_shift_2 4 rfl rfl)
theorem dX3_shift_51 : decode cX3_shift 51 = .ok (.if_icmp .eq 6, 3) := dk_159 0 6 (dk_at dksX3_shift_2 5 rfl rfl)
theorem dX3_shift_54 : decode cX3_shift 54 = .ok (.bipush (-12), 2) := dk_16 244 (dk_at dksX3_shift_2 8 rfl rfl)
theorem dX3_shift_56 : decode cX3_shift 56 = .ok (.ireturn, 1) := dk_172 (dk_at dksX3_shift_2 10 rfl rfl)
theorem dX3_shift_57 : decode cX3_shift 57 = .ok (.iload 5, 2) := dk_21 5 (dk_at dksX3_shift_2 11 rfl rfl)
theorem dX3_shift_59 : decode cX3_shift 59 = .ok (.ifCond .lt 39, 3) := dk_155 0 39 (dk_at dksX3_shift_2 13 rfl rfl)
theorem dX3_shift_62 : decode cX3_shift 62 = .ok (.iload_n 2, 1) := dk_28 (dk_at dksX3_shift_2 16 rfl rfl)
theorem dX3_shift_63 : decode cX3_shift 63 = .ok (.ifCond .lt 35, 3) := dk_155 0 35 (dk_at dksX3_shift_2 17 rfl rfl)
theorem dX3_shift_66 : decode cX3_shift 66 = .ok (.iload 4, 2) := dk_21 4 (dk_at dksX3_shift_2 20 rfl rfl)
theorem dX3_shift_68 : decode cX3_shift 68 = .ok (.ifCond .lt 30, 3) := dk_155 0 30 (dk_at dksX3_shift_3 0 rfl rfl)
theorem dX3_shift_71 : decode cX3_shift 71 = .ok (.iload_n 2, 1) := dk_28 (dk_at dksX3_shift_3 3 rfl rfl)
theorem dX3_shift_72 : decode cX3_shift 72 = .ok (.aload_n 0, 1) := dk_42 (dk_at dksX3_shift_3 4 rfl rfl)
theorem dX3_shift_73 : decode cX3_shift 73 = .ok (.getfield 186, 3) := dk_180 0 186 (dk_at dksX3_shift_3 5 rfl rfl)
theorem dX3_shift_76 : decode cX3_shift 76 = .ok (.iload_n 1, 1) := dk_27 (dk_at dksX3_shift_3 8 rfl rfl)
theorem dX3_shift_77 : decode cX3_shift 77 = .ok (.iaload, 1) := dk_46 (dk_at dksX3_shift_3 9 rfl rfl)
theorem dX3_shift_78 : decode cX3_shift 78 = .ok (.iload 5, 2) := dk_21 5 (dk_at dksX3_shift_3 10 rfl rfl)
theorem dX3_shift_80 : decode cX3_shift 80 = .ok (.isub, 1) := dk_100 (dk_at dksX3_shift_3 12 rfl rfl)
theorem dX3_shift_81 : decode cX3_shift 81 = .ok (.if_icmp .gt 17, 3) := dk_163 0 17 (dk_at dksX3_shift_3 13 rfl rfl)
theorem dX3_shift_84 : decode cX3_shift 84 = .ok (.iload 4, 2) := dk_21 4 (dk_at dksX3_shift_3 16 rfl rfl)
theorem dX3_shift_86 : decode cX3_shift 86 = .ok (.aload_n 0, 1) := dk_42 (dk_at dksX3_shift_3 18 rfl rfl)
theorem dX3_shift_87 : decode cX3_shift 87 = .ok (.getfield 186, 3) := dk_180 0 186 (dk_at dksX3_shift_3 19 rfl rfl)
theorem dX3_shift_90 : decode cX3_shift 90 = .ok (.iload_n 3, 1) := dk_29 (dk_at dksX3_shift_3 22 rfl rfl)
theorem dX3_shift_91 : decode cX3_shift 91 = .ok (.iaload, 1) := dk_46 (dk_at dksX3_shift_3 23 rfl rfl)
theorem dX3_shift_92 : decode cX3_shift 92 = .ok (.iload 5, 2) := dk_21 5 (dk_at dksX3_shift_4 0 rfl rfl)
theorem dX3_shift_94 : decode cX3_shift 94 = .ok (.isub, 1) := dk_100 (dk_at dksX3_shift_4 2 rfl rfl)
theorem dX3_shift_95 : decode cX3_shift 95 = .ok (.if_icmp .le 6, 3) := dk_164 0 6 (dk_at dksX3_shift_4 3 rfl rfl)
theorem dX3_shift_98 : decode cX3_shift 98 = .ok (.bipush (-13), 2) := dk_16 243 (dk_at dksX3_shift_4 6 rfl rfl)
theorem dX3_shift_100 : decode cX3_shift 100 = .ok (.ireturn, 1) := dk_172 (dk_at dksX3_shift_4 8 rfl rfl)
theorem dX3_shift_101 : decode cX3_shift 101 = .ok (.iconst 0, 1) := dk_3 (dk_at dksX3_shift_4 9 rfl rfl)
theorem dX3_shift_102 : decode cX3_shift 102 = .ok (.istore 6, 2) := dk_54 6 (dk_at dksX3_shift_4 10 rfl rfl)
theorem dX3_shift_104 : decode cX3_shift 104 = .ok (.iload 6, 2) := dk_21 6 (dk_at dksX3_shift_4 12 rfl rfl)
theorem dX3_shift_106 : decode cX3_shift 106 = .ok (.iload 5, 2) := dk_21 5 (dk_at dksX3_shift_4 14 rfl rfl)
theorem dX3_shift_108 : decode cX3_shift 108 = .ok (.if_icmp .ge 30, 3) := dk_162 0 30 (dk_at dksX3_shift_4 16 rfl rfl)
theorem dX3_shift_111 : decode cX3_shift 111 = .ok (.aload_n 0, 1) := dk_42 (dk_at dksX3_shift_4 19 rfl rfl)
theorem dX3_shift_112 : decode cX3_shift 112 = .ok (.getfield 192, 3) := dk_180 0 192 (dk_at dksX3_shift_4 20 rfl rfl)
theorem dX3_shift_115 : decode cX3_shift 115 = .ok (.iload 6, 2) := dk_21 6 (dk_at dksX3_shift_5 0 rfl rfl)
theorem dX3_shift_117 : decode cX3_shift 117 = .ok (.aload_n 0, 1) := dk_42 (dk_at dksX3_shift_5 2 rfl rfl)
theorem dX3_shift_118 : decode cX3_shift 118 = .ok (.getfield 189, 3) := dk_180 0 189 (dk_at dksX3_shift_5 3 rfl rfl)
theorem dX3_shift_121 : decode cX3_shift 121 = .ok (.bipush 60, 2) := dk_16 60 (dk_at dksX3_shift_5 6 rfl rfl)
theorem dX3_shift_123 : decode cX3_shift 123 = .ok (.iload_n 1, 1) := dk_27 (dk_at dksX3_shift_5 8 rfl rfl)
theorem dX3_shift_124 : decode cX3_shift 124 = .ok (.imul, 1) := dk_104 (dk_at dksX3_shift_5 9 rfl rfl)
theorem dX3_shift_125 : decode cX3_shift 125 = .ok (.iload_n 2, 1) := dk_28 (dk_at dksX3_shift_5 10 rfl rfl)
theorem dX3_shift_126 : decode cX3_shift 126 = .ok (.iadd, 1) := dk_96 (dk_at dksX3_shift_5 11 rfl rfl)
theorem dX3_shift_127 : decode cX3_shift 127 = .ok (.iload 6, 2) := dk_21 6 (dk_at dksX3_shift_5 12 rfl rfl)
theorem dX3_shift_129 : decode cX3_shift 129 = .ok (.iadd, 1) := dk_96 (dk_at dksX3_shift_5 14 rfl rfl)
theorem dX3_shift_130 : decode cX3_shift 130 = .ok (.iaload, 1) := dk_46 (dk_at dksX3_shift_5 15 rfl rfl)
theorem dX3_shift_131 : decode cX3_shift 131 = .ok (.iastore, 1) := dk_79 (dk_at dksX3_shift_5 16 rfl rfl)
theorem dX3_shift_132 : decode cX3_shift 132 = .ok (.iinc 6 1, 3) := dk_132 6 1 (dk_at dksX3_shift_5 17 rfl rfl)
theorem dX3_shift_135 : decode cX3_shift 135 = .ok (.goto (-31), 3) := dk_167 255 225 (dk_at dksX3_shift_5 20 rfl rfl)
theorem dX3_shift_138 : decode cX3_shift 138 = .ok (.iconst 0, 1) := dk_3 (dk_at dksX3_shift_5 23 rfl rfl)
theorem dX3_shift_139 : decode cX3_shift 139 = .ok (.istore 6, 2) := dk_54 6 (dk_at dksX3_shift_6 0 rfl rfl)
theorem dX3_shift_141 : decode cX3_shift 141 = .ok (.iload 6, 2) := dk_21 6 (dk_at dksX3_shift_6 2 rfl rfl)
theorem dX3_shift_143 : decode cX3_shift 143 = .ok (.iload 5, 2) := dk_21 5 (dk_at dksX3_shift_6 4 rfl rfl)
theorem dX3_shift_145 : decode cX3_shift 145 = .ok (.if_icmp .ge 31, 3) := dk_162 0 31 (dk_at dksX3_shift_6 6 rfl rfl)
theorem dX3_shift_148 : decode cX3_shift 148 = .ok (.aload_n 0, 1) := dk_42 (dk_at dksX3_shift_6 9 rfl rfl)
theorem dX3_shift_149 : decode cX3_shift 149 = .ok (.getfield 189, 3) := dk_180 0 189 (dk_at dksX3_shift_6 10 rfl rfl)
theorem dX3_shift_152 : decode cX3_shift 152 = .ok (.bipush 60, 2) := dk_16 60 (dk_at dksX3_shift_6 13 rfl rfl)
theorem dX3_shift_154 : decode cX3_shift 154 = .ok (.iload_n 3, 1) := dk_29 (dk_at dksX3_shift_6 15 rfl rfl)
theorem dX3_shift_155 : decode cX3_shift 155 = .ok (.imul, 1) := dk_104 (dk_at dksX3_shift_6 16 rfl rfl)
theorem dX3_shift_156 : decode cX3_shift 156 = .ok (.iload 4, 2) := dk_21 4 (dk_at dksX3_shift_6 17 rfl rfl)
theorem dX3_shift_158 : decode cX3_shift 158 = .ok (.iadd, 1) := dk_96 (dk_at dksX3_shift_6 19 rfl rfl)
theorem dX3_shift_159 : decode cX3_shift 159 = .ok (.iload 6, 2) := dk_21 6 (dk_at dksX3_shift_6 20 rfl rfl)
theorem dX3_shift_161 : decode cX3_shift 161 = .ok (.iadd, 1) := dk_96 (dk_at dksX3_shift_6 22 rfl rfl)
theorem dX3_shift_162 : decode cX3_shift 162 = .ok (.aload_n 0, 1) := dk_42 (dk_at dksX3_shift_6 23 rfl rfl)
theorem dX3_shift_163 : decode cX3_shift 163 = .ok (.getfield 192, 3) := dk_180 0 192 (dk_at dksX3_shift_7 0 rfl rfl)
theorem dX3_shift_166 : decode cX3_shift 166 = .ok (.iload 6, 2) := dk_21 6 (dk_at dksX3_shift_7 3 rfl rfl)
theorem dX3_shift_168 : decode cX3_shift 168 = .ok (.iaload, 1) := dk_46 (dk_at dksX3_shift_7 5 rfl rfl)
theorem dX3_shift_169 : decode cX3_shift 169 = .ok (.iastore, 1) := dk_79 (dk_at dksX3_shift_7 6 rfl rfl)
theorem dX3_shift_170 : decode cX3_shift 170 = .ok (.iinc 6 1, 3) := dk_132 6 1 (dk_at dksX3_shift_7 7 rfl rfl)
theorem dX3_shift_173 : decode cX3_shift 173 = .ok (.goto (-32), 3) := dk_167 255 224 (dk_at dksX3_shift_7 10 rfl rfl)
theorem dX3_shift_176 : decode cX3_shift 176 = .ok (.iload 5, 2) := dk_21 5 (dk_at dksX3_shift_7 13 rfl rfl)
theorem dX3_shift_178 : decode cX3_shift 178 = .ok (.ireturn, 1) := dk_172 (dk_at dksX3_shift_7 15 rfl rfl)
theorem q82 : (Jvm.Cond.initialized "MaypoleGreenModel") ∈ lw_all := lw_g (lw_at lw_m1 4 rfl) rfl
theorem q1100 : (Jvm.Cond.instantiable "MaypoleGreenModel" (61 : Nat)) ∈ lw_all := lw_g (lw_at lw_m5 62 rfl) rfl
theorem q1102 : (Jvm.Cond.instanceMethod ({ cls := "MaypoleGreenModel", name := "<init>", desc := "()V" } : Jvm.MethodName)) ∈ lw_all := lw_g (lw_at lw_m5 64 rfl) rfl
theorem q1103 : (Jvm.Cond.code ({ cls := "MaypoleGreenModel", name := "<init>", desc := "()V" } : Jvm.MethodName) prog_17_method_1_code (1 : Nat) (Option.none : Option Jvm.ClassFile.FieldType)) ∈ lw_all := lw_g (lw_at lw_m5 65 rfl) rfl
theorem q1104 : (Jvm.Cond.methodLink "MaypoleGreenModel" (1 : Nat) ({ cls := "java/lang/Object", name := "<init>", desc := "()V" } : Jvm.MethodName)) ∈ lw_all := lw_g (lw_at lw_m5 66 rfl) rfl
theorem q1105 : (Jvm.Cond.fieldLink "MaypoleGreenModel" (7 : Nat) "MaypoleGreenModel" "people" "I") ∈ lw_all := lw_g (lw_at lw_m5 67 rfl) rfl
theorem q1106 : (Jvm.Cond.fieldLink "MaypoleGreenModel" (13 : Nat) "MaypoleGreenModel" "n" "I") ∈ lw_all := lw_g (lw_at lw_m5 68 rfl) rfl
theorem q1107 : (Jvm.Cond.fieldLink "MaypoleGreenModel" (16 : Nat) "MaypoleGreenModel" "kind" "[I") ∈ lw_all := lw_g (lw_at lw_m5 69 rfl) rfl
theorem q1108 : (Jvm.Cond.fieldLink "MaypoleGreenModel" (20 : Nat) "MaypoleGreenModel" "reach" "[I") ∈ lw_all := lw_g (lw_at lw_m5 70 rfl) rfl
theorem q1109 : (Jvm.Cond.fieldLink "MaypoleGreenModel" (23 : Nat) "MaypoleGreenModel" "pace" "[I") ∈ lw_all := lw_g (lw_at lw_m5 71 rfl) rfl
theorem q1110 : (Jvm.Cond.fieldLink "MaypoleGreenModel" (26 : Nat) "MaypoleGreenModel" "who" "[I") ∈ lw_all := lw_g (lw_at lw_m5 72 rfl) rfl
theorem q1111 : (Jvm.Cond.fieldLink "MaypoleGreenModel" (29 : Nat) "MaypoleGreenModel" "hangs" "[I") ∈ lw_all := lw_g (lw_at lw_m5 73 rfl) rfl
theorem q1112 : (Jvm.Cond.fieldLink "MaypoleGreenModel" (32 : Nat) "MaypoleGreenModel" "colour" "[I") ∈ lw_all := lw_g (lw_at lw_m5 74 rfl) rfl
theorem q1113 : (Jvm.Cond.fieldLink "MaypoleGreenModel" (35 : Nat) "MaypoleGreenModel" "length" "[I") ∈ lw_all := lw_g (lw_at lw_m5 75 rfl) rfl
theorem q1114 : (Jvm.Cond.fieldLink "MaypoleGreenModel" (38 : Nat) "MaypoleGreenModel" "begun" "[I") ∈ lw_all := lw_g (lw_at lw_m5 76 rfl) rfl
theorem q1115 : (Jvm.Cond.fieldLink "MaypoleGreenModel" (41 : Nat) "MaypoleGreenModel" "clothColour" "[I") ∈ lw_all := lw_g (lw_at lw_m5 77 rfl) rfl
theorem q1116 : (Jvm.Cond.fieldLink "MaypoleGreenModel" (44 : Nat) "MaypoleGreenModel" "isDance" "Z") ∈ lw_all := lw_g (lw_at lw_m5 78 rfl) rfl
theorem q1117 : (Jvm.Cond.fieldLink "MaypoleGreenModel" (48 : Nat) "MaypoleGreenModel" "asideColour" "[I") ∈ lw_all := lw_g (lw_at lw_m5 79 rfl) rfl
theorem q1118 : (Jvm.Cond.fieldLink "MaypoleGreenModel" (51 : Nat) "MaypoleGreenModel" "asideLength" "[I") ∈ lw_all := lw_g (lw_at lw_m5 80 rfl) rfl
theorem q1119 : (Jvm.Cond.fieldLink "MaypoleGreenModel" (54 : Nat) "MaypoleGreenModel" "steps" "I") ∈ lw_all := lw_g (lw_at lw_m5 81 rfl) rfl
theorem q1120 : (Jvm.Cond.fieldLink "MaypoleGreenModel" (57 : Nat) "MaypoleGreenModel" "rows" "I") ∈ lw_all := lw_g (lw_at lw_m5 82 rfl) rfl
theorem q1121 : (Jvm.Cond.fieldLink "MaypoleGreenModel" (60 : Nat) "MaypoleGreenModel" "step" "[I") ∈ lw_all := lw_g (lw_at lw_m5 83 rfl) rfl
theorem q1122 : (Jvm.Cond.fieldLink "MaypoleGreenModel" (63 : Nat) "MaypoleGreenModel" "mark" "[I") ∈ lw_all := lw_g (lw_at lw_m5 84 rfl) rfl
theorem q1123 : (Jvm.Cond.fieldLink "MaypoleGreenModel" (66 : Nat) "MaypoleGreenModel" "clothRibbon" "[I") ∈ lw_all := lw_g (lw_at lw_m5 85 rfl) rfl
theorem q1124 : (Jvm.Cond.fieldLink "MaypoleGreenModel" (69 : Nat) "MaypoleGreenModel" "clothMark" "[I") ∈ lw_all := lw_g (lw_at lw_m5 86 rfl) rfl
theorem q1125 : (Jvm.Cond.fieldLink "MaypoleGreenModel" (72 : Nat) "MaypoleGreenModel" "things" "I") ∈ lw_all := lw_g (lw_at lw_m5 87 rfl) rfl
theorem q1126 : (Jvm.Cond.fieldLink "MaypoleGreenModel" (75 : Nat) "MaypoleGreenModel" "thingRow" "[I") ∈ lw_all := lw_g (lw_at lw_m5 88 rfl) rfl
theorem q1127 : (Jvm.Cond.fieldLink "MaypoleGreenModel" (78 : Nat) "MaypoleGreenModel" "thingPlace" "[I") ∈ lw_all := lw_g (lw_at lw_m5 89 rfl) rfl
theorem q1128 : (Jvm.Cond.fieldLink "MaypoleGreenModel" (81 : Nat) "MaypoleGreenModel" "thingColour" "[I") ∈ lw_all := lw_g (lw_at lw_m5 90 rfl) rfl
theorem q1129 : (Jvm.Cond.fieldLink "MaypoleGreenModel" (84 : Nat) "MaypoleGreenModel" "guess" "[I") ∈ lw_all := lw_g (lw_at lw_m5 91 rfl) rfl
theorem q1130 : (Jvm.Cond.fieldLink "MaypoleGreenModel" (87 : Nat) "MaypoleGreenModel" "bestGuess" "[I") ∈ lw_all := lw_g (lw_at lw_m5 92 rfl) rfl
theorem q1131 : (Jvm.Cond.fieldLink "MaypoleGreenModel" (90 : Nat) "MaypoleGreenModel" "figures" "I") ∈ lw_all := lw_g (lw_at lw_m5 93 rfl) rfl
theorem q1132 : (Jvm.Cond.fieldLink "MaypoleGreenModel" (93 : Nat) "MaypoleGreenModel" "fed" "I") ∈ lw_all := lw_g (lw_at lw_m5 94 rfl) rfl
theorem q1133 : (Jvm.Cond.fieldLink "MaypoleGreenModel" (96 : Nat) "MaypoleGreenModel" "many" "[I") ∈ lw_all := lw_g (lw_at lw_m5 95 rfl) rfl
theorem q1134 : (Jvm.Cond.fieldLink "MaypoleGreenModel" (99 : Nat) "MaypoleGreenModel" "told" "[I") ∈ lw_all := lw_g (lw_at lw_m5 96 rfl) rfl
theorem q1135 : (Jvm.Cond.fieldLink "MaypoleGreenModel" (102 : Nat) "MaypoleGreenModel" "text" "[I") ∈ lw_all := lw_g (lw_at lw_m5 97 rfl) rfl
theorem q1136 : (Jvm.Cond.fieldLink "MaypoleGreenModel" (105 : Nat) "MaypoleGreenModel" "spot" "I") ∈ lw_all := lw_g (lw_at lw_m5 98 rfl) rfl
theorem q1137 : (Jvm.Cond.fieldLink "MaypoleGreenModel" (108 : Nat) "MaypoleGreenModel" "isTooMany" "Z") ∈ lw_all := lw_g (lw_at lw_m5 99 rfl) rfl
theorem q1138 : (Jvm.Cond.fieldLink "MaypoleGreenModel" (111 : Nat) "MaypoleGreenModel" "opened" "[I") ∈ lw_all := lw_g (lw_at lw_m5 100 rfl) rfl
theorem q1139 : (Jvm.Cond.fieldLink "MaypoleGreenModel" (114 : Nat) "MaypoleGreenModel" "items" "[I") ∈ lw_all := lw_g (lw_at lw_m5 101 rfl) rfl
theorem q1140 : (Jvm.Cond.fieldLink "MaypoleGreenModel" (117 : Nat) "MaypoleGreenModel" "form" "[I") ∈ lw_all := lw_g (lw_at lw_m5 102 rfl) rfl
theorem q1141 : (Jvm.Cond.fieldLink "MaypoleGreenModel" (120 : Nat) "MaypoleGreenModel" "other" "[I") ∈ lw_all := lw_g (lw_at lw_m5 103 rfl) rfl
theorem q1142 : (Jvm.Cond.fieldLink "MaypoleGreenModel" (123 : Nat) "MaypoleGreenModel" "formMany" "I") ∈ lw_all := lw_g (lw_at lw_m5 104 rfl) rfl
theorem q1143 : (Jvm.Cond.fieldLink "MaypoleGreenModel" (126 : Nat) "MaypoleGreenModel" "turns" "I") ∈ lw_all := lw_g (lw_at lw_m5 105 rfl) rfl
theorem q1144 : (Jvm.Cond.fieldLink "MaypoleGreenModel" (129 : Nat) "MaypoleGreenModel" "tryHangs" "[I") ∈ lw_all := lw_g (lw_at lw_m5 106 rfl) rfl
theorem q1145 : (Jvm.Cond.fieldLink "MaypoleGreenModel" (132 : Nat) "MaypoleGreenModel" "tryLength" "[I") ∈ lw_all := lw_g (lw_at lw_m5 107 rfl) rfl
theorem q1146 : (Jvm.Cond.fieldLink "MaypoleGreenModel" (135 : Nat) "MaypoleGreenModel" "tryMark" "[I") ∈ lw_all := lw_g (lw_at lw_m5 108 rfl) rfl
theorem q1147 : (Jvm.Cond.fieldLink "MaypoleGreenModel" (138 : Nat) "MaypoleGreenModel" "tryRows" "I") ∈ lw_all := lw_g (lw_at lw_m5 109 rfl) rfl
theorem q1148 : (Jvm.Cond.fieldLink "MaypoleGreenModel" (141 : Nat) "MaypoleGreenModel" "trySteps" "I") ∈ lw_all := lw_g (lw_at lw_m5 110 rfl) rfl
theorem q1149 : (Jvm.Cond.fieldLink "MaypoleGreenModel" (144 : Nat) "MaypoleGreenModel" "order" "[I") ∈ lw_all := lw_g (lw_at lw_m5 111 rfl) rfl
theorem q1150 : (Jvm.Cond.fieldLink "MaypoleGreenModel" (147 : Nat) "MaypoleGreenModel" "goal" "[I") ∈ lw_all := lw_g (lw_at lw_m5 112 rfl) rfl
theorem q1151 : (Jvm.Cond.fieldLink "MaypoleGreenModel" (150 : Nat) "MaypoleGreenModel" "far" "[I") ∈ lw_all := lw_g (lw_at lw_m5 113 rfl) rfl
theorem q1152 : (Jvm.Cond.fieldLink "MaypoleGreenModel" (153 : Nat) "MaypoleGreenModel" "line" "[I") ∈ lw_all := lw_g (lw_at lw_m5 114 rfl) rfl
theorem q1153 : (Jvm.Cond.fieldLink "MaypoleGreenModel" (156 : Nat) "MaypoleGreenModel" "route" "[I") ∈ lw_all := lw_g (lw_at lw_m5 115 rfl) rfl
theorem q1154 : (Jvm.Cond.fieldLink "MaypoleGreenModel" (159 : Nat) "MaypoleGreenModel" "routeMany" "I") ∈ lw_all := lw_g (lw_at lw_m5 116 rfl) rfl
theorem q1155 : (Jvm.Cond.fieldLink "MaypoleGreenModel" (162 : Nat) "MaypoleGreenModel" "digits" "[I") ∈ lw_all := lw_g (lw_at lw_m5 117 rfl) rfl
theorem q1156 : (Jvm.Cond.fieldLink "MaypoleGreenModel" (165 : Nat) "MaypoleGreenModel" "member" "[I") ∈ lw_all := lw_g (lw_at lw_m5 118 rfl) rfl
theorem q1157 : (Jvm.Cond.fieldLink "MaypoleGreenModel" (168 : Nat) "MaypoleGreenModel" "seat" "[I") ∈ lw_all := lw_g (lw_at lw_m5 119 rfl) rfl
theorem q1158 : (Jvm.Cond.fieldLink "MaypoleGreenModel" (171 : Nat) "MaypoleGreenModel" "bestSeat" "[I") ∈ lw_all := lw_g (lw_at lw_m5 120 rfl) rfl
theorem q1159 : (Jvm.Cond.fieldLink "MaypoleGreenModel" (174 : Nat) "MaypoleGreenModel" "bestSum" "I") ∈ lw_all := lw_g (lw_at lw_m5 121 rfl) rfl
theorem q1160 : (Jvm.Cond.fieldLink "MaypoleGreenModel" (177 : Nat) "MaypoleGreenModel" "ran" "I") ∈ lw_all := lw_g (lw_at lw_m5 122 rfl) rfl
theorem q1161 : (Jvm.Cond.fieldLink "MaypoleGreenModel" (180 : Nat) "MaypoleGreenModel" "bodies" "[I") ∈ lw_all := lw_g (lw_at lw_m5 123 rfl) rfl
theorem q1162 : (Jvm.Cond.fieldLink "MaypoleGreenModel" (183 : Nat) "MaypoleGreenModel" "sort" "[I") ∈ lw_all := lw_g (lw_at lw_m5 124 rfl) rfl
theorem q1163 : (Jvm.Cond.fieldLink "MaypoleGreenModel" (186 : Nat) "MaypoleGreenModel" "size" "[I") ∈ lw_all := lw_g (lw_at lw_m5 125 rfl) rfl
theorem q1164 : (Jvm.Cond.fieldLink "MaypoleGreenModel" (189 : Nat) "MaypoleGreenModel" "item" "[I") ∈ lw_all := lw_g (lw_at lw_m5 126 rfl) rfl
theorem q1165 : (Jvm.Cond.fieldLink "MaypoleGreenModel" (192 : Nat) "MaypoleGreenModel" "aside" "[I") ∈ lw_all := lw_g (lw_at lw_m5 127 rfl) rfl
theorem q1166 : (Jvm.Cond.lays "MaypoleGreenModel" "MaypoleGreenModel" "people" "I") ∈ lw_all := lw_g (lw_at lw_m5 128 rfl) rfl
theorem q1167 : (Jvm.Cond.soleField "MaypoleGreenModel" "people") ∈ lw_all := lw_g (lw_at lw_m5 129 rfl) rfl
theorem q1168 : (Jvm.Cond.lays "MaypoleGreenModel" "MaypoleGreenModel" "n" "I") ∈ lw_all := lw_g (lw_at lw_m5 130 rfl) rfl
theorem q1169 : (Jvm.Cond.soleField "MaypoleGreenModel" "n") ∈ lw_all := lw_g (lw_at lw_m5 131 rfl) rfl
theorem q1170 : (Jvm.Cond.laysFinal "MaypoleGreenModel" "MaypoleGreenModel" "kind" "[I") ∈ lw_all := lw_g (lw_at lw_m5 132 rfl) rfl
theorem q1171 : (Jvm.Cond.soleField "MaypoleGreenModel" "kind") ∈ lw_all := lw_g (lw_at lw_m5 133 rfl) rfl
theorem q1172 : (Jvm.Cond.laysFinal "MaypoleGreenModel" "MaypoleGreenModel" "reach" "[I") ∈ lw_all := lw_g (lw_at lw_m5 134 rfl) rfl
theorem q1173 : (Jvm.Cond.soleField "MaypoleGreenModel" "reach") ∈ lw_all := lw_g (lw_at lw_m5 135 rfl) rfl
theorem q1174 : (Jvm.Cond.laysFinal "MaypoleGreenModel" "MaypoleGreenModel" "pace" "[I") ∈ lw_all := lw_g (lw_at lw_m5 136 rfl) rfl
theorem q1175 : (Jvm.Cond.soleField "MaypoleGreenModel" "pace") ∈ lw_all := lw_g (lw_at lw_m5 137 rfl) rfl
theorem q1176 : (Jvm.Cond.laysFinal "MaypoleGreenModel" "MaypoleGreenModel" "who" "[I") ∈ lw_all := lw_g (lw_at lw_m5 138 rfl) rfl
theorem q1177 : (Jvm.Cond.soleField "MaypoleGreenModel" "who") ∈ lw_all := lw_g (lw_at lw_m5 139 rfl) rfl
theorem q1178 : (Jvm.Cond.laysFinal "MaypoleGreenModel" "MaypoleGreenModel" "hangs" "[I") ∈ lw_all := lw_g (lw_at lw_m5 140 rfl) rfl
theorem q1179 : (Jvm.Cond.soleField "MaypoleGreenModel" "hangs") ∈ lw_all := lw_g (lw_at lw_m5 141 rfl) rfl
theorem q1180 : (Jvm.Cond.laysFinal "MaypoleGreenModel" "MaypoleGreenModel" "colour" "[I") ∈ lw_all := lw_g (lw_at lw_m5 142 rfl) rfl
theorem q1181 : (Jvm.Cond.soleField "MaypoleGreenModel" "colour") ∈ lw_all := lw_g (lw_at lw_m5 143 rfl) rfl
theorem q1182 : (Jvm.Cond.laysFinal "MaypoleGreenModel" "MaypoleGreenModel" "length" "[I") ∈ lw_all := lw_g (lw_at lw_m5 144 rfl) rfl
theorem q1183 : (Jvm.Cond.soleField "MaypoleGreenModel" "length") ∈ lw_all := lw_g (lw_at lw_m5 145 rfl) rfl
theorem q1184 : (Jvm.Cond.laysFinal "MaypoleGreenModel" "MaypoleGreenModel" "begun" "[I") ∈ lw_all := lw_g (lw_at lw_m5 146 rfl) rfl
theorem q1185 : (Jvm.Cond.soleField "MaypoleGreenModel" "begun") ∈ lw_all := lw_g (lw_at lw_m5 147 rfl) rfl
theorem q1186 : (Jvm.Cond.laysFinal "MaypoleGreenModel" "MaypoleGreenModel" "clothColour" "[I") ∈ lw_all := lw_g (lw_at lw_m5 148 rfl) rfl
theorem q1187 : (Jvm.Cond.soleField "MaypoleGreenModel" "clothColour") ∈ lw_all := lw_g (lw_at lw_m5 149 rfl) rfl
theorem q1188 : (Jvm.Cond.lays "MaypoleGreenModel" "MaypoleGreenModel" "isDance" "Z") ∈ lw_all := lw_g (lw_at lw_m5 150 rfl) rfl
theorem q1189 : (Jvm.Cond.soleField "MaypoleGreenModel" "isDance") ∈ lw_all := lw_g (lw_at lw_m5 151 rfl) rfl
theorem q1190 : (Jvm.Cond.laysFinal "MaypoleGreenModel" "MaypoleGreenModel" "asideColour" "[I") ∈ lw_all := lw_g (lw_at lw_m5 152 rfl) rfl
theorem q1191 : (Jvm.Cond.soleField "MaypoleGreenModel" "asideColour") ∈ lw_all := lw_g (lw_at lw_m5 153 rfl) rfl
theorem q1192 : (Jvm.Cond.laysFinal "MaypoleGreenModel" "MaypoleGreenModel" "asideLength" "[I") ∈ lw_all := lw_g (lw_at lw_m5 154 rfl) rfl
theorem q1193 : (Jvm.Cond.soleField "MaypoleGreenModel" "asideLength") ∈ lw_all := lw_g (lw_at lw_m5 155 rfl) rfl
theorem q1194 : (Jvm.Cond.lays "MaypoleGreenModel" "MaypoleGreenModel" "steps" "I") ∈ lw_all := lw_g (lw_at lw_m5 156 rfl) rfl
theorem q1195 : (Jvm.Cond.soleField "MaypoleGreenModel" "steps") ∈ lw_all := lw_g (lw_at lw_m5 157 rfl) rfl
theorem q1196 : (Jvm.Cond.lays "MaypoleGreenModel" "MaypoleGreenModel" "rows" "I") ∈ lw_all := lw_g (lw_at lw_m5 158 rfl) rfl
theorem q1197 : (Jvm.Cond.soleField "MaypoleGreenModel" "rows") ∈ lw_all := lw_g (lw_at lw_m5 159 rfl) rfl
theorem q1198 : (Jvm.Cond.laysFinal "MaypoleGreenModel" "MaypoleGreenModel" "step" "[I") ∈ lw_all := lw_g (lw_at lw_m5 160 rfl) rfl
theorem q1199 : (Jvm.Cond.soleField "MaypoleGreenModel" "step") ∈ lw_all := lw_g (lw_at lw_m5 161 rfl) rfl
theorem q1200 : (Jvm.Cond.laysFinal "MaypoleGreenModel" "MaypoleGreenModel" "mark" "[I") ∈ lw_all := lw_g (lw_at lw_m5 162 rfl) rfl
theorem q1201 : (Jvm.Cond.soleField "MaypoleGreenModel" "mark") ∈ lw_all := lw_g (lw_at lw_m5 163 rfl) rfl
theorem q1202 : (Jvm.Cond.laysFinal "MaypoleGreenModel" "MaypoleGreenModel" "clothRibbon" "[I") ∈ lw_all := lw_g (lw_at lw_m5 164 rfl) rfl
theorem q1203 : (Jvm.Cond.soleField "MaypoleGreenModel" "clothRibbon") ∈ lw_all := lw_g (lw_at lw_m5 165 rfl) rfl
theorem q1204 : (Jvm.Cond.laysFinal "MaypoleGreenModel" "MaypoleGreenModel" "clothMark" "[I") ∈ lw_all := lw_g (lw_at lw_m5 166 rfl) rfl
theorem q1205 : (Jvm.Cond.soleField "MaypoleGreenModel" "clothMark") ∈ lw_all := lw_g (lw_at lw_m5 167 rfl) rfl
theorem q1206 : (Jvm.Cond.lays "MaypoleGreenModel" "MaypoleGreenModel" "things" "I") ∈ lw_all := lw_g (lw_at lw_m5 168 rfl) rfl
theorem q1207 : (Jvm.Cond.soleField "MaypoleGreenModel" "things") ∈ lw_all := lw_g (lw_at lw_m5 169 rfl) rfl
theorem q1208 : (Jvm.Cond.laysFinal "MaypoleGreenModel" "MaypoleGreenModel" "thingRow" "[I") ∈ lw_all := lw_g (lw_at lw_m5 170 rfl) rfl
theorem q1209 : (Jvm.Cond.soleField "MaypoleGreenModel" "thingRow") ∈ lw_all := lw_g (lw_at lw_m5 171 rfl) rfl
theorem q1210 : (Jvm.Cond.laysFinal "MaypoleGreenModel" "MaypoleGreenModel" "thingPlace" "[I") ∈ lw_all := lw_g (lw_at lw_m5 172 rfl) rfl
theorem q1211 : (Jvm.Cond.soleField "MaypoleGreenModel" "thingPlace") ∈ lw_all := lw_g (lw_at lw_m5 173 rfl) rfl
theorem q1212 : (Jvm.Cond.laysFinal "MaypoleGreenModel" "MaypoleGreenModel" "thingColour" "[I") ∈ lw_all := lw_g (lw_at lw_m5 174 rfl) rfl
theorem q1213 : (Jvm.Cond.soleField "MaypoleGreenModel" "thingColour") ∈ lw_all := lw_g (lw_at lw_m5 175 rfl) rfl
theorem q1214 : (Jvm.Cond.laysFinal "MaypoleGreenModel" "MaypoleGreenModel" "guess" "[I") ∈ lw_all := lw_g (lw_at lw_m5 176 rfl) rfl
theorem q1215 : (Jvm.Cond.soleField "MaypoleGreenModel" "guess") ∈ lw_all := lw_g (lw_at lw_m5 177 rfl) rfl
theorem q1216 : (Jvm.Cond.laysFinal "MaypoleGreenModel" "MaypoleGreenModel" "bestGuess" "[I") ∈ lw_all := lw_g (lw_at lw_m5 178 rfl) rfl
theorem q1217 : (Jvm.Cond.soleField "MaypoleGreenModel" "bestGuess") ∈ lw_all := lw_g (lw_at lw_m5 179 rfl) rfl
theorem q1218 : (Jvm.Cond.lays "MaypoleGreenModel" "MaypoleGreenModel" "figures" "I") ∈ lw_all := lw_g (lw_at lw_m5 180 rfl) rfl
theorem q1219 : (Jvm.Cond.soleField "MaypoleGreenModel" "figures") ∈ lw_all := lw_g (lw_at lw_m5 181 rfl) rfl
theorem q1220 : (Jvm.Cond.lays "MaypoleGreenModel" "MaypoleGreenModel" "fed" "I") ∈ lw_all := lw_g (lw_at lw_m5 182 rfl) rfl
theorem q1221 : (Jvm.Cond.soleField "MaypoleGreenModel" "fed") ∈ lw_all := lw_g (lw_at lw_m5 183 rfl) rfl
theorem q1222 : (Jvm.Cond.laysFinal "MaypoleGreenModel" "MaypoleGreenModel" "many" "[I") ∈ lw_all := lw_g (lw_at lw_m5 184 rfl) rfl
theorem q1223 : (Jvm.Cond.soleField "MaypoleGreenModel" "many") ∈ lw_all := lw_g (lw_at lw_m5 185 rfl) rfl
theorem q1224 : (Jvm.Cond.laysFinal "MaypoleGreenModel" "MaypoleGreenModel" "told" "[I") ∈ lw_all := lw_g (lw_at lw_m5 186 rfl) rfl
theorem q1225 : (Jvm.Cond.soleField "MaypoleGreenModel" "told") ∈ lw_all := lw_g (lw_at lw_m5 187 rfl) rfl
theorem q1226 : (Jvm.Cond.laysFinal "MaypoleGreenModel" "MaypoleGreenModel" "text" "[I") ∈ lw_all := lw_g (lw_at lw_m5 188 rfl) rfl
theorem q1227 : (Jvm.Cond.soleField "MaypoleGreenModel" "text") ∈ lw_all := lw_g (lw_at lw_m5 189 rfl) rfl
theorem q1228 : (Jvm.Cond.lays "MaypoleGreenModel" "MaypoleGreenModel" "spot" "I") ∈ lw_all := lw_g (lw_at lw_m5 190 rfl) rfl
theorem q1229 : (Jvm.Cond.soleField "MaypoleGreenModel" "spot") ∈ lw_all := lw_g (lw_at lw_m5 191 rfl) rfl
theorem q1230 : (Jvm.Cond.lays "MaypoleGreenModel" "MaypoleGreenModel" "isTooMany" "Z") ∈ lw_all := lw_g (lw_at lw_m5 192 rfl) rfl
theorem q1231 : (Jvm.Cond.soleField "MaypoleGreenModel" "isTooMany") ∈ lw_all := lw_g (lw_at lw_m5 193 rfl) rfl
theorem q1232 : (Jvm.Cond.laysFinal "MaypoleGreenModel" "MaypoleGreenModel" "opened" "[I") ∈ lw_all := lw_g (lw_at lw_m5 194 rfl) rfl
theorem q1233 : (Jvm.Cond.soleField "MaypoleGreenModel" "opened") ∈ lw_all := lw_g (lw_at lw_m5 195 rfl) rfl
theorem q1234 : (Jvm.Cond.laysFinal "MaypoleGreenModel" "MaypoleGreenModel" "items" "[I") ∈ lw_all := lw_g (lw_at lw_m5 196 rfl) rfl
theorem q1235 : (Jvm.Cond.soleField "MaypoleGreenModel" "items") ∈ lw_all := lw_g (lw_at lw_m5 197 rfl) rfl
theorem q1236 : (Jvm.Cond.laysFinal "MaypoleGreenModel" "MaypoleGreenModel" "form" "[I") ∈ lw_all := lw_g (lw_at lw_m5 198 rfl) rfl
theorem q1237 : (Jvm.Cond.soleField "MaypoleGreenModel" "form") ∈ lw_all := lw_g (lw_at lw_m5 199 rfl) rfl
theorem q1238 : (Jvm.Cond.laysFinal "MaypoleGreenModel" "MaypoleGreenModel" "other" "[I") ∈ lw_all := lw_g (lw_at lw_m5 200 rfl) rfl
theorem q1239 : (Jvm.Cond.soleField "MaypoleGreenModel" "other") ∈ lw_all := lw_g (lw_at lw_m5 201 rfl) rfl
theorem q1240 : (Jvm.Cond.lays "MaypoleGreenModel" "MaypoleGreenModel" "formMany" "I") ∈ lw_all := lw_g (lw_at lw_m5 202 rfl) rfl
theorem q1241 : (Jvm.Cond.soleField "MaypoleGreenModel" "formMany") ∈ lw_all := lw_g (lw_at lw_m5 203 rfl) rfl
theorem q1242 : (Jvm.Cond.lays "MaypoleGreenModel" "MaypoleGreenModel" "turns" "I") ∈ lw_all := lw_g (lw_at lw_m5 204 rfl) rfl
theorem q1243 : (Jvm.Cond.soleField "MaypoleGreenModel" "turns") ∈ lw_all := lw_g (lw_at lw_m5 205 rfl) rfl
theorem q1244 : (Jvm.Cond.laysFinal "MaypoleGreenModel" "MaypoleGreenModel" "tryHangs" "[I") ∈ lw_all := lw_g (lw_at lw_m5 206 rfl) rfl
theorem q1245 : (Jvm.Cond.soleField "MaypoleGreenModel" "tryHangs") ∈ lw_all := lw_g (lw_at lw_m5 207 rfl) rfl
theorem q1246 : (Jvm.Cond.laysFinal "MaypoleGreenModel" "MaypoleGreenModel" "tryLength" "[I") ∈ lw_all := lw_g (lw_at lw_m5 208 rfl) rfl
theorem q1247 : (Jvm.Cond.soleField "MaypoleGreenModel" "tryLength") ∈ lw_all := lw_g (lw_at lw_m5 209 rfl) rfl
theorem q1248 : (Jvm.Cond.laysFinal "MaypoleGreenModel" "MaypoleGreenModel" "tryMark" "[I") ∈ lw_all := lw_g (lw_at lw_m5 210 rfl) rfl
theorem q1249 : (Jvm.Cond.soleField "MaypoleGreenModel" "tryMark") ∈ lw_all := lw_g (lw_at lw_m5 211 rfl) rfl
theorem q1250 : (Jvm.Cond.lays "MaypoleGreenModel" "MaypoleGreenModel" "tryRows" "I") ∈ lw_all := lw_g (lw_at lw_m5 212 rfl) rfl
theorem q1251 : (Jvm.Cond.soleField "MaypoleGreenModel" "tryRows") ∈ lw_all := lw_g (lw_at lw_m5 213 rfl) rfl
theorem q1252 : (Jvm.Cond.lays "MaypoleGreenModel" "MaypoleGreenModel" "trySteps" "I") ∈ lw_all := lw_g (lw_at lw_m5 214 rfl) rfl
theorem q1253 : (Jvm.Cond.soleField "MaypoleGreenModel" "trySteps") ∈ lw_all := lw_g (lw_at lw_m5 215 rfl) rfl
theorem q1254 : (Jvm.Cond.laysFinal "MaypoleGreenModel" "MaypoleGreenModel" "order" "[I") ∈ lw_all := lw_g (lw_at lw_m5 216 rfl) rfl
theorem q1255 : (Jvm.Cond.soleField "MaypoleGreenModel" "order") ∈ lw_all := lw_g (lw_at lw_m5 217 rfl) rfl
theorem q1256 : (Jvm.Cond.laysFinal "MaypoleGreenModel" "MaypoleGreenModel" "goal" "[I") ∈ lw_all := lw_g (lw_at lw_m5 218 rfl) rfl
theorem q1257 : (Jvm.Cond.soleField "MaypoleGreenModel" "goal") ∈ lw_all := lw_g (lw_at lw_m5 219 rfl) rfl
theorem q1258 : (Jvm.Cond.laysFinal "MaypoleGreenModel" "MaypoleGreenModel" "far" "[I") ∈ lw_all := lw_g (lw_at lw_m5 220 rfl) rfl
theorem q1259 : (Jvm.Cond.soleField "MaypoleGreenModel" "far") ∈ lw_all := lw_g (lw_at lw_m5 221 rfl) rfl
theorem q1260 : (Jvm.Cond.laysFinal "MaypoleGreenModel" "MaypoleGreenModel" "line" "[I") ∈ lw_all := lw_g (lw_at lw_m5 222 rfl) rfl
theorem q1261 : (Jvm.Cond.soleField "MaypoleGreenModel" "line") ∈ lw_all := lw_g (lw_at lw_m5 223 rfl) rfl
theorem q1262 : (Jvm.Cond.laysFinal "MaypoleGreenModel" "MaypoleGreenModel" "route" "[I") ∈ lw_all := lw_g (lw_at lw_m5 224 rfl) rfl
theorem q1263 : (Jvm.Cond.soleField "MaypoleGreenModel" "route") ∈ lw_all := lw_g (lw_at lw_m5 225 rfl) rfl
theorem q1264 : (Jvm.Cond.lays "MaypoleGreenModel" "MaypoleGreenModel" "routeMany" "I") ∈ lw_all := lw_g (lw_at lw_m5 226 rfl) rfl
theorem q1265 : (Jvm.Cond.soleField "MaypoleGreenModel" "routeMany") ∈ lw_all := lw_g (lw_at lw_m5 227 rfl) rfl
theorem q1266 : (Jvm.Cond.laysFinal "MaypoleGreenModel" "MaypoleGreenModel" "digits" "[I") ∈ lw_all := lw_g (lw_at lw_m5 228 rfl) rfl
theorem q1267 : (Jvm.Cond.soleField "MaypoleGreenModel" "digits") ∈ lw_all := lw_g (lw_at lw_m5 229 rfl) rfl
theorem q1268 : (Jvm.Cond.laysFinal "MaypoleGreenModel" "MaypoleGreenModel" "member" "[I") ∈ lw_all := lw_g (lw_at lw_m5 230 rfl) rfl
theorem q1269 : (Jvm.Cond.soleField "MaypoleGreenModel" "member") ∈ lw_all := lw_g (lw_at lw_m5 231 rfl) rfl
theorem q1270 : (Jvm.Cond.laysFinal "MaypoleGreenModel" "MaypoleGreenModel" "seat" "[I") ∈ lw_all := lw_g (lw_at lw_m5 232 rfl) rfl
theorem q1271 : (Jvm.Cond.soleField "MaypoleGreenModel" "seat") ∈ lw_all := lw_g (lw_at lw_m5 233 rfl) rfl
theorem q1272 : (Jvm.Cond.laysFinal "MaypoleGreenModel" "MaypoleGreenModel" "bestSeat" "[I") ∈ lw_all := lw_g (lw_at lw_m5 234 rfl) rfl
theorem q1273 : (Jvm.Cond.soleField "MaypoleGreenModel" "bestSeat") ∈ lw_all := lw_g (lw_at lw_m5 235 rfl) rfl
theorem q1274 : (Jvm.Cond.lays "MaypoleGreenModel" "MaypoleGreenModel" "bestSum" "I") ∈ lw_all := lw_g (lw_at lw_m5 236 rfl) rfl
theorem q1275 : (Jvm.Cond.soleField "MaypoleGreenModel" "bestSum") ∈ lw_all := lw_g (lw_at lw_m5 237 rfl) rfl
theorem q1276 : (Jvm.Cond.lays "MaypoleGreenModel" "MaypoleGreenModel" "ran" "I") ∈ lw_all := lw_g (lw_at lw_m5 238 rfl) rfl
theorem q1277 : (Jvm.Cond.soleField "MaypoleGreenModel" "ran") ∈ lw_all := lw_g (lw_at lw_m5 239 rfl) rfl
theorem q1278 : (Jvm.Cond.laysFinal "MaypoleGreenModel" "MaypoleGreenModel" "bodies" "[I") ∈ lw_all := lw_g (lw_at lw_m6 0 rfl) rfl
theorem q1279 : (Jvm.Cond.soleField "MaypoleGreenModel" "bodies") ∈ lw_all := lw_g (lw_at lw_m6 1 rfl) rfl
theorem q1280 : (Jvm.Cond.laysFinal "MaypoleGreenModel" "MaypoleGreenModel" "sort" "[I") ∈ lw_all := lw_g (lw_at lw_m6 2 rfl) rfl
theorem q1281 : (Jvm.Cond.soleField "MaypoleGreenModel" "sort") ∈ lw_all := lw_g (lw_at lw_m6 3 rfl) rfl
theorem q1282 : (Jvm.Cond.laysFinal "MaypoleGreenModel" "MaypoleGreenModel" "size" "[I") ∈ lw_all := lw_g (lw_at lw_m6 4 rfl) rfl
theorem q1283 : (Jvm.Cond.soleField "MaypoleGreenModel" "size") ∈ lw_all := lw_g (lw_at lw_m6 5 rfl) rfl
theorem q1284 : (Jvm.Cond.laysFinal "MaypoleGreenModel" "MaypoleGreenModel" "item" "[I") ∈ lw_all := lw_g (lw_at lw_m6 6 rfl) rfl
theorem q1285 : (Jvm.Cond.soleField "MaypoleGreenModel" "item") ∈ lw_all := lw_g (lw_at lw_m6 7 rfl) rfl
theorem q1286 : (Jvm.Cond.laysFinal "MaypoleGreenModel" "MaypoleGreenModel" "aside" "[I") ∈ lw_all := lw_g (lw_at lw_m6 8 rfl) rfl
theorem q1287 : (Jvm.Cond.soleField "MaypoleGreenModel" "aside") ∈ lw_all := lw_g (lw_at lw_m6 9 rfl) rfl
theorem q1288 : (Jvm.Cond.superclass "MaypoleGreenModel" "java/lang/Object") ∈ lw_all := lw_g (lw_at lw_m6 10 rfl) rfl
theorem q1290 : (Jvm.Cond.instanceMethod ({ cls := "MaypoleGreenModel", name := "person", desc := "(III)I" } : Jvm.MethodName)) ∈ lw_all := lw_g (lw_at lw_m6 12 rfl) rfl
theorem q1291 : (Jvm.Cond.selects "MaypoleGreenModel" ({ cls := "MaypoleGreenModel", name := "person", desc := "(III)I" } : Jvm.MethodName) ({ cls := "MaypoleGreenModel", name := "person", desc := "(III)I" } : Jvm.MethodName)) ∈ lw_all := lw_g (lw_at lw_m6 13 rfl) rfl
theorem q1292 : (Jvm.Cond.code ({ cls := "MaypoleGreenModel", name := "person", desc := "(III)I" } : Jvm.MethodName) prog_17_method_6_code (4 : Nat) (Option.some Jvm.ClassFile.FieldType.int)) ∈ lw_all := lw_g (lw_at lw_m6 14 rfl) rfl
theorem q1293 : (Jvm.Cond.methodLink "MaypoleGreenModel" (195 : Nat) ({ cls := "MaypoleGreenModel", name := "in", desc := "(III)Z" } : Jvm.MethodName)) ∈ lw_all := lw_g (lw_at lw_m6 15 rfl) rfl
theorem q1294 : (Jvm.Cond.privateMethod ({ cls := "MaypoleGreenModel", name := "in", desc := "(III)Z" } : Jvm.MethodName)) ∈ lw_tbl := lw_at lw_m6 16 rfl
theorem q1295 : (Jvm.Cond.instanceMethod ({ cls := "MaypoleGreenModel", name := "in", desc := "(III)Z" } : Jvm.MethodName)) ∈ lw_all := lw_g (lw_at lw_m6 17 rfl) rfl
theorem q1296 : (Jvm.Cond.code ({ cls := "MaypoleGreenModel", name := "in", desc := "(III)Z" } : Jvm.MethodName) prog_17_method_2_code (4 : Nat) (Option.some Jvm.ClassFile.FieldType.boolean)) ∈ lw_all := lw_g (lw_at lw_m6 18 rfl) rfl
theorem q1298 : (Jvm.Cond.instanceMethod ({ cls := "MaypoleGreenModel", name := "ring", desc := "(I)I" } : Jvm.MethodName)) ∈ lw_all := lw_g (lw_at lw_m6 20 rfl) rfl
theorem q1299 : (Jvm.Cond.selects "MaypoleGreenModel" ({ cls := "MaypoleGreenModel", name := "ring", desc := "(I)I" } : Jvm.MethodName) ({ cls := "MaypoleGreenModel", name := "ring", desc := "(I)I" } : Jvm.MethodName)) ∈ lw_all := lw_g (lw_at lw_m6 21 rfl) rfl
theorem q1300 : (Jvm.Cond.code ({ cls := "MaypoleGreenModel", name := "ring", desc := "(I)I" } : Jvm.MethodName) prog_17_method_7_code (3 : Nat) (Option.some Jvm.ClassFile.FieldType.int)) ∈ lw_all := lw_g (lw_at lw_m6 22 rfl) rfl
theorem q1302 : (Jvm.Cond.instanceMethod ({ cls := "MaypoleGreenModel", name := "stand", desc := "(II)I" } : Jvm.MethodName)) ∈ lw_all := lw_g (lw_at lw_m6 24 rfl) rfl
theorem q1303 : (Jvm.Cond.selects "MaypoleGreenModel" ({ cls := "MaypoleGreenModel", name := "stand", desc := "(II)I" } : Jvm.MethodName) ({ cls := "MaypoleGreenModel", name := "stand", desc := "(II)I" } : Jvm.MethodName)) ∈ lw_all := lw_g (lw_at lw_m6 25 rfl) rfl
theorem q1304 : (Jvm.Cond.code ({ cls := "MaypoleGreenModel", name := "stand", desc := "(II)I" } : Jvm.MethodName) prog_17_method_8_code (4 : Nat) (Option.some Jvm.ClassFile.FieldType.int)) ∈ lw_all := lw_g (lw_at lw_m6 26 rfl) rfl
theorem q1305 : (Jvm.Cond.methodLink "MaypoleGreenModel" (199 : Nat) ({ cls := "MaypoleGreenModel", name := "isPlace", desc := "(I)Z" } : Jvm.MethodName)) ∈ lw_all := lw_g (lw_at lw_m6 27 rfl) rfl
theorem q1306 : (Jvm.Cond.privateMethod ({ cls := "MaypoleGreenModel", name := "isPlace", desc := "(I)Z" } : Jvm.MethodName)) ∈ lw_tbl := lw_at lw_m6 28 rfl
theorem q1307 : (Jvm.Cond.instanceMethod ({ cls := "MaypoleGreenModel", name := "isPlace", desc := "(I)Z" } : Jvm.MethodName)) ∈ lw_all := lw_g (lw_at lw_m6 29 rfl) rfl
theorem q1308 : (Jvm.Cond.code ({ cls := "MaypoleGreenModel", name := "isPlace", desc := "(I)Z" } : Jvm.MethodName) prog_17_method_5_code (2 : Nat) (Option.some Jvm.ClassFile.FieldType.boolean)) ∈ lw_all := lw_g (lw_at lw_m6 30 rfl) rfl
theorem q1309 : (Jvm.Cond.methodLink "MaypoleGreenModel" (203 : Nat) ({ cls := "MaypoleGreenModel", name := "isPerson", desc := "(I)Z" } : Jvm.MethodName)) ∈ lw_all := lw_g (lw_at lw_m6 31 rfl) rfl
theorem q1310 : (Jvm.Cond.privateMethod ({ cls := "MaypoleGreenModel", name := "isPerson", desc := "(I)Z" } : Jvm.MethodName)) ∈ lw_tbl := lw_at lw_m6 32 rfl
theorem q1311 : (Jvm.Cond.instanceMethod ({ cls := "MaypoleGreenModel", name := "isPerson", desc := "(I)Z" } : Jvm.MethodName)) ∈ lw_all := lw_g (lw_at lw_m6 33 rfl) rfl
theorem q1312 : (Jvm.Cond.code ({ cls := "MaypoleGreenModel", name := "isPerson", desc := "(I)Z" } : Jvm.MethodName) prog_17_method_4_code (2 : Nat) (Option.some Jvm.ClassFile.FieldType.boolean)) ∈ lw_all := lw_g (lw_at lw_m6 34 rfl) rfl
theorem q1314 : (Jvm.Cond.instanceMethod ({ cls := "MaypoleGreenModel", name := "ribbon", desc := "(III)I" } : Jvm.MethodName)) ∈ lw_all := lw_g (lw_at lw_m6 36 rfl) rfl
theorem q1315 : (Jvm.Cond.selects "MaypoleGreenModel" ({ cls := "MaypoleGreenModel", name := "ribbon", desc := "(III)I" } : Jvm.MethodName) ({ cls := "MaypoleGreenModel", name := "ribbon", desc := "(III)I" } : Jvm.MethodName)) ∈ lw_all := lw_g (lw_at lw_m6 37 rfl) rfl
theorem q1316 : (Jvm.Cond.code ({ cls := "MaypoleGreenModel", name := "ribbon", desc := "(III)I" } : Jvm.MethodName) prog_17_method_9_code (4 : Nat) (Option.some Jvm.ClassFile.FieldType.int)) ∈ lw_all := lw_g (lw_at lw_m6 38 rfl) rfl
theorem q1317 : (Jvm.Cond.constant "MaypoleGreenModel" (206 : Nat) (99999 : Int32)) ∈ lw_all := lw_g (lw_at lw_m6 39 rfl) rfl
theorem q1319 : (Jvm.Cond.instanceMethod ({ cls := "MaypoleGreenModel", name := "at", desc := "(II)I" } : Jvm.MethodName)) ∈ lw_all := lw_g (lw_at lw_m6 41 rfl) rfl
theorem q1320 : (Jvm.Cond.selects "MaypoleGreenModel" ({ cls := "MaypoleGreenModel", name := "at", desc := "(II)I" } : Jvm.MethodName) ({ cls := "MaypoleGreenModel", name := "at", desc := "(II)I" } : Jvm.MethodName)) ∈ lw_all := lw_g (lw_at lw_m6 42 rfl) rfl
theorem q1321 : (Jvm.Cond.code ({ cls := "MaypoleGreenModel", name := "at", desc := "(II)I" } : Jvm.MethodName) prog_17_method_10_code (3 : Nat) (Option.some Jvm.ClassFile.FieldType.int)) ∈ lw_all := lw_g (lw_at lw_m6 43 rfl) rfl
theorem q1323 : (Jvm.Cond.instanceMethod ({ cls := "MaypoleGreenModel", name := "begin", desc := "()I" } : Jvm.MethodName)) ∈ lw_all := lw_g (lw_at lw_m6 45 rfl) rfl
theorem q1324 : (Jvm.Cond.selects "MaypoleGreenModel" ({ cls := "MaypoleGreenModel", name := "begin", desc := "()I" } : Jvm.MethodName) ({ cls := "MaypoleGreenModel", name := "begin", desc := "()I" } : Jvm.MethodName)) ∈ lw_all := lw_g (lw_at lw_m6 46 rfl) rfl
theorem q1325 : (Jvm.Cond.code ({ cls := "MaypoleGreenModel", name := "begin", desc := "()I" } : Jvm.MethodName) prog_17_method_11_code (2 : Nat) (Option.some Jvm.ClassFile.FieldType.int)) ∈ lw_all := lw_g (lw_at lw_m6 47 rfl) rfl
theorem q1327 : (Jvm.Cond.instanceMethod ({ cls := "MaypoleGreenModel", name := "end", desc := "()I" } : Jvm.MethodName)) ∈ lw_all := lw_g (lw_at lw_m6 49 rfl) rfl
theorem q1328 : (Jvm.Cond.selects "MaypoleGreenModel" ({ cls := "MaypoleGreenModel", name := "end", desc := "()I" } : Jvm.MethodName) ({ cls := "MaypoleGreenModel", name := "end", desc := "()I" } : Jvm.MethodName)) ∈ lw_all := lw_g (lw_at lw_m6 50 rfl) rfl
theorem q1329 : (Jvm.Cond.code ({ cls := "MaypoleGreenModel", name := "end", desc := "()I" } : Jvm.MethodName) prog_17_method_12_code (2 : Nat) (Option.some Jvm.ClassFile.FieldType.int)) ∈ lw_all := lw_g (lw_at lw_m6 51 rfl) rfl
theorem q1331 : (Jvm.Cond.instanceMethod ({ cls := "MaypoleGreenModel", name := "girth", desc := "()I" } : Jvm.MethodName)) ∈ lw_all := lw_g (lw_at lw_m6 53 rfl) rfl
theorem q1332 : (Jvm.Cond.selects "MaypoleGreenModel" ({ cls := "MaypoleGreenModel", name := "girth", desc := "()I" } : Jvm.MethodName) ({ cls := "MaypoleGreenModel", name := "girth", desc := "()I" } : Jvm.MethodName)) ∈ lw_all := lw_g (lw_at lw_m6 54 rfl) rfl
theorem q1333 : (Jvm.Cond.code ({ cls := "MaypoleGreenModel", name := "girth", desc := "()I" } : Jvm.MethodName) prog_17_method_15_code (1 : Nat) (Option.some Jvm.ClassFile.FieldType.int)) ∈ lw_all := lw_g (lw_at lw_m6 55 rfl) rfl
theorem q1335 : (Jvm.Cond.instanceMethod ({ cls := "MaypoleGreenModel", name := "pass", desc := "(II)I" } : Jvm.MethodName)) ∈ lw_all := lw_g (lw_at lw_m6 57 rfl) rfl
theorem q1336 : (Jvm.Cond.selects "MaypoleGreenModel" ({ cls := "MaypoleGreenModel", name := "pass", desc := "(II)I" } : Jvm.MethodName) ({ cls := "MaypoleGreenModel", name := "pass", desc := "(II)I" } : Jvm.MethodName)) ∈ lw_all := lw_g (lw_at lw_m6 58 rfl) rfl
theorem q1337 : (Jvm.Cond.code ({ cls := "MaypoleGreenModel", name := "pass", desc := "(II)I" } : Jvm.MethodName) prog_17_method_16_code (8 : Nat) (Option.some Jvm.ClassFile.FieldType.int)) ∈ lw_all := lw_g (lw_at lw_m6 59 rfl) rfl
theorem q1338 : (Jvm.Cond.methodLink "MaypoleGreenModel" (207 : Nat) ({ cls := "MaypoleGreenModel", name := "after", desc := "(I)I" } : Jvm.MethodName)) ∈ lw_all := lw_g (lw_at lw_m6 60 rfl) rfl
theorem q1339 : (Jvm.Cond.privateMethod ({ cls := "MaypoleGreenModel", name := "after", desc := "(I)I" } : Jvm.MethodName)) ∈ lw_tbl := lw_at lw_m6 61 rfl
theorem q1340 : (Jvm.Cond.instanceMethod ({ cls := "MaypoleGreenModel", name := "after", desc := "(I)I" } : Jvm.MethodName)) ∈ lw_all := lw_g (lw_at lw_m6 62 rfl) rfl
theorem q1341 : (Jvm.Cond.code ({ cls := "MaypoleGreenModel", name := "after", desc := "(I)I" } : Jvm.MethodName) prog_17_method_13_code (2 : Nat) (Option.some Jvm.ClassFile.FieldType.int)) ∈ lw_all := lw_g (lw_at lw_m6 63 rfl) rfl
theorem q1343 : (Jvm.Cond.instanceMethod ({ cls := "MaypoleGreenModel", name := "walk", desc := "(I)I" } : Jvm.MethodName)) ∈ lw_all := lw_g (lw_at lw_m6 65 rfl) rfl
theorem q1344 : (Jvm.Cond.selects "MaypoleGreenModel" ({ cls := "MaypoleGreenModel", name := "walk", desc := "(I)I" } : Jvm.MethodName) ({ cls := "MaypoleGreenModel", name := "walk", desc := "(I)I" } : Jvm.MethodName)) ∈ lw_all := lw_g (lw_at lw_m6 66 rfl) rfl
theorem q1345 : (Jvm.Cond.code ({ cls := "MaypoleGreenModel", name := "walk", desc := "(I)I" } : Jvm.MethodName) prog_17_method_18_code (4 : Nat) (Option.some Jvm.ClassFile.FieldType.int)) ∈ lw_all := lw_g (lw_at lw_m6 67 rfl) rfl
theorem q1346 : (Jvm.Cond.methodLink "MaypoleGreenModel" (211 : Nat) ({ cls := "MaypoleGreenModel", name := "girth", desc := "()I" } : Jvm.MethodName)) ∈ lw_all := lw_g (lw_at lw_m6 68 rfl) rfl
theorem q1347 : (Jvm.Cond.methodLink "MaypoleGreenModel" (215 : Nat) ({ cls := "MaypoleGreenModel", name := "turn", desc := "([II)V" } : Jvm.MethodName)) ∈ lw_all := lw_g (lw_at lw_m6 69 rfl) rfl
theorem q1348 : (Jvm.Cond.privateMethod ({ cls := "MaypoleGreenModel", name := "turn", desc := "([II)V" } : Jvm.MethodName)) ∈ lw_tbl := lw_at lw_m6 70 rfl
theorem q1349 : (Jvm.Cond.instanceMethod ({ cls := "MaypoleGreenModel", name := "turn", desc := "([II)V" } : Jvm.MethodName)) ∈ lw_all := lw_g (lw_at lw_m6 71 rfl) rfl
theorem q1350 : (Jvm.Cond.code ({ cls := "MaypoleGreenModel", name := "turn", desc := "([II)V" } : Jvm.MethodName) prog_17_method_17_code (5 : Nat) (Option.none : Option Jvm.ClassFile.FieldType)) ∈ lw_all := lw_g (lw_at lw_m6 72 rfl) rfl
theorem q1352 : (Jvm.Cond.instanceMethod ({ cls := "MaypoleGreenModel", name := "step", desc := "(I)I" } : Jvm.MethodName)) ∈ lw_all := lw_g (lw_at lw_m6 74 rfl) rfl
theorem q1353 : (Jvm.Cond.selects "MaypoleGreenModel" ({ cls := "MaypoleGreenModel", name := "step", desc := "(I)I" } : Jvm.MethodName) ({ cls := "MaypoleGreenModel", name := "step", desc := "(I)I" } : Jvm.MethodName)) ∈ lw_all := lw_g (lw_at lw_m6 75 rfl) rfl
theorem q1354 : (Jvm.Cond.code ({ cls := "MaypoleGreenModel", name := "step", desc := "(I)I" } : Jvm.MethodName) prog_17_method_19_code (2 : Nat) (Option.some Jvm.ClassFile.FieldType.int)) ∈ lw_all := lw_g (lw_at lw_m6 76 rfl) rfl
theorem q1356 : (Jvm.Cond.instanceMethod ({ cls := "MaypoleGreenModel", name := "rows", desc := "()I" } : Jvm.MethodName)) ∈ lw_all := lw_g (lw_at lw_m6 78 rfl) rfl
theorem q1357 : (Jvm.Cond.selects "MaypoleGreenModel" ({ cls := "MaypoleGreenModel", name := "rows", desc := "()I" } : Jvm.MethodName) ({ cls := "MaypoleGreenModel", name := "rows", desc := "()I" } : Jvm.MethodName)) ∈ lw_all := lw_g (lw_at lw_m6 79 rfl) rfl
theorem q1358 : (Jvm.Cond.code ({ cls := "MaypoleGreenModel", name := "rows", desc := "()I" } : Jvm.MethodName) prog_17_method_20_code (1 : Nat) (Option.some Jvm.ClassFile.FieldType.int)) ∈ lw_all := lw_g (lw_at lw_m6 80 rfl) rfl
theorem q1360 : (Jvm.Cond.instanceMethod ({ cls := "MaypoleGreenModel", name := "cloth", desc := "(III)I" } : Jvm.MethodName)) ∈ lw_all := lw_g (lw_at lw_m6 82 rfl) rfl
theorem q1361 : (Jvm.Cond.selects "MaypoleGreenModel" ({ cls := "MaypoleGreenModel", name := "cloth", desc := "(III)I" } : Jvm.MethodName) ({ cls := "MaypoleGreenModel", name := "cloth", desc := "(III)I" } : Jvm.MethodName)) ∈ lw_all := lw_g (lw_at lw_m6 83 rfl) rfl
theorem q1362 : (Jvm.Cond.code ({ cls := "MaypoleGreenModel", name := "cloth", desc := "(III)I" } : Jvm.MethodName) prog_17_method_22_code (4 : Nat) (Option.some Jvm.ClassFile.FieldType.int)) ∈ lw_all := lw_g (lw_at lw_m6 84 rfl) rfl
theorem q1363 : (Jvm.Cond.methodLink "MaypoleGreenModel" (222 : Nat) ({ cls := "MaypoleGreenModel", name := "topRibbon", desc := "(II)I" } : Jvm.MethodName)) ∈ lw_all := lw_g (lw_at lw_m6 85 rfl) rfl
theorem q1364 : (Jvm.Cond.privateMethod ({ cls := "MaypoleGreenModel", name := "topRibbon", desc := "(II)I" } : Jvm.MethodName)) ∈ lw_tbl := lw_at lw_m6 86 rfl
theorem q1365 : (Jvm.Cond.instanceMethod ({ cls := "MaypoleGreenModel", name := "topRibbon", desc := "(II)I" } : Jvm.MethodName)) ∈ lw_all := lw_g (lw_at lw_m6 87 rfl) rfl
theorem q1366 : (Jvm.Cond.code ({ cls := "MaypoleGreenModel", name := "topRibbon", desc := "(II)I" } : Jvm.MethodName) prog_17_method_21_code (3 : Nat) (Option.some Jvm.ClassFile.FieldType.int)) ∈ lw_all := lw_g (lw_at lw_m6 88 rfl) rfl
theorem q1367 : (Jvm.Cond.methodLink "MaypoleGreenModel" (219 : Nat) ({ cls := "MaypoleGreenModel", name := "ahead", desc := "(I)I" } : Jvm.MethodName)) ∈ lw_all := lw_g (lw_at lw_m6 89 rfl) rfl
theorem q1368 : (Jvm.Cond.privateMethod ({ cls := "MaypoleGreenModel", name := "ahead", desc := "(I)I" } : Jvm.MethodName)) ∈ lw_tbl := lw_at lw_m6 90 rfl
theorem q1369 : (Jvm.Cond.instanceMethod ({ cls := "MaypoleGreenModel", name := "ahead", desc := "(I)I" } : Jvm.MethodName)) ∈ lw_all := lw_g (lw_at lw_m6 91 rfl) rfl
theorem q1370 : (Jvm.Cond.code ({ cls := "MaypoleGreenModel", name := "ahead", desc := "(I)I" } : Jvm.MethodName) prog_17_method_14_code (2 : Nat) (Option.some Jvm.ClassFile.FieldType.int)) ∈ lw_all := lw_g (lw_at lw_m6 92 rfl) rfl
theorem q1372 : (Jvm.Cond.instanceMethod ({ cls := "MaypoleGreenModel", name := "beat", desc := "()I" } : Jvm.MethodName)) ∈ lw_all := lw_g (lw_at lw_m6 94 rfl) rfl
theorem q1373 : (Jvm.Cond.selects "MaypoleGreenModel" ({ cls := "MaypoleGreenModel", name := "beat", desc := "()I" } : Jvm.MethodName) ({ cls := "MaypoleGreenModel", name := "beat", desc := "()I" } : Jvm.MethodName)) ∈ lw_all := lw_g (lw_at lw_m6 95 rfl) rfl
theorem q1374 : (Jvm.Cond.code ({ cls := "MaypoleGreenModel", name := "beat", desc := "()I" } : Jvm.MethodName) prog_17_method_24_code (4 : Nat) (Option.some Jvm.ClassFile.FieldType.int)) ∈ lw_all := lw_g (lw_at lw_m6 96 rfl) rfl
theorem q1375 : (Jvm.Cond.methodLink "MaypoleGreenModel" (226 : Nat) ({ cls := "MaypoleGreenModel", name := "areLike", desc := "(II)Z" } : Jvm.MethodName)) ∈ lw_all := lw_g (lw_at lw_m6 97 rfl) rfl
theorem q1376 : (Jvm.Cond.privateMethod ({ cls := "MaypoleGreenModel", name := "areLike", desc := "(II)Z" } : Jvm.MethodName)) ∈ lw_tbl := lw_at lw_m6 98 rfl
theorem q1377 : (Jvm.Cond.instanceMethod ({ cls := "MaypoleGreenModel", name := "areLike", desc := "(II)Z" } : Jvm.MethodName)) ∈ lw_all := lw_g (lw_at lw_m6 99 rfl) rfl
theorem q1378 : (Jvm.Cond.code ({ cls := "MaypoleGreenModel", name := "areLike", desc := "(II)Z" } : Jvm.MethodName) prog_17_method_23_code (5 : Nat) (Option.some Jvm.ClassFile.FieldType.boolean)) ∈ lw_all := lw_g (lw_at lw_m6 100 rfl) rfl
theorem q1380 : (Jvm.Cond.instanceMethod ({ cls := "MaypoleGreenModel", name := "picture", desc := "(III)I" } : Jvm.MethodName)) ∈ lw_all := lw_g (lw_at lw_m6 102 rfl) rfl
theorem q1381 : (Jvm.Cond.selects "MaypoleGreenModel" ({ cls := "MaypoleGreenModel", name := "picture", desc := "(III)I" } : Jvm.MethodName) ({ cls := "MaypoleGreenModel", name := "picture", desc := "(III)I" } : Jvm.MethodName)) ∈ lw_all := lw_g (lw_at lw_m6 103 rfl) rfl
theorem q1382 : (Jvm.Cond.code ({ cls := "MaypoleGreenModel", name := "picture", desc := "(III)I" } : Jvm.MethodName) prog_17_method_25_code (4 : Nat) (Option.some Jvm.ClassFile.FieldType.int)) ∈ lw_all := lw_g (lw_at lw_m6 104 rfl) rfl
theorem q1384 : (Jvm.Cond.instanceMethod ({ cls := "MaypoleGreenModel", name := "pictureless", desc := "()I" } : Jvm.MethodName)) ∈ lw_all := lw_g (lw_at lw_m6 106 rfl) rfl
theorem q1385 : (Jvm.Cond.selects "MaypoleGreenModel" ({ cls := "MaypoleGreenModel", name := "pictureless", desc := "()I" } : Jvm.MethodName) ({ cls := "MaypoleGreenModel", name := "pictureless", desc := "()I" } : Jvm.MethodName)) ∈ lw_all := lw_g (lw_at lw_m6 107 rfl) rfl
theorem q1386 : (Jvm.Cond.code ({ cls := "MaypoleGreenModel", name := "pictureless", desc := "()I" } : Jvm.MethodName) prog_17_method_26_code (2 : Nat) (Option.some Jvm.ClassFile.FieldType.int)) ∈ lw_all := lw_g (lw_at lw_m6 108 rfl) rfl
theorem q1388 : (Jvm.Cond.instanceMethod ({ cls := "MaypoleGreenModel", name := "wrong", desc := "()I" } : Jvm.MethodName)) ∈ lw_all := lw_g (lw_at lw_m6 110 rfl) rfl
theorem q1389 : (Jvm.Cond.selects "MaypoleGreenModel" ({ cls := "MaypoleGreenModel", name := "wrong", desc := "()I" } : Jvm.MethodName) ({ cls := "MaypoleGreenModel", name := "wrong", desc := "()I" } : Jvm.MethodName)) ∈ lw_all := lw_g (lw_at lw_m6 111 rfl) rfl
theorem q1390 : (Jvm.Cond.code ({ cls := "MaypoleGreenModel", name := "wrong", desc := "()I" } : Jvm.MethodName) prog_17_method_28_code (1 : Nat) (Option.some Jvm.ClassFile.FieldType.int)) ∈ lw_all := lw_g (lw_at lw_m6 112 rfl) rfl
theorem q1391 : (Jvm.Cond.methodLink "MaypoleGreenModel" (230 : Nat) ({ cls := "MaypoleGreenModel", name := "wrongWith", desc := "([I)I" } : Jvm.MethodName)) ∈ lw_all := lw_g (lw_at lw_m6 113 rfl) rfl
theorem q1392 : (Jvm.Cond.privateMethod ({ cls := "MaypoleGreenModel", name := "wrongWith", desc := "([I)I" } : Jvm.MethodName)) ∈ lw_tbl := lw_at lw_m6 114 rfl
theorem q1393 : (Jvm.Cond.instanceMethod ({ cls := "MaypoleGreenModel", name := "wrongWith", desc := "([I)I" } : Jvm.MethodName)) ∈ lw_all := lw_g (lw_at lw_m6 115 rfl) rfl
theorem q1394 : (Jvm.Cond.code ({ cls := "MaypoleGreenModel", name := "wrongWith", desc := "([I)I" } : Jvm.MethodName) prog_17_method_27_code (4 : Nat) (Option.some Jvm.ClassFile.FieldType.int)) ∈ lw_all := lw_g (lw_at lw_m6 116 rfl) rfl
theorem q1396 : (Jvm.Cond.instanceMethod ({ cls := "MaypoleGreenModel", name := "colours", desc := "(II)I" } : Jvm.MethodName)) ∈ lw_all := lw_g (lw_at lw_m6 118 rfl) rfl
theorem q1397 : (Jvm.Cond.selects "MaypoleGreenModel" ({ cls := "MaypoleGreenModel", name := "colours", desc := "(II)I" } : Jvm.MethodName) ({ cls := "MaypoleGreenModel", name := "colours", desc := "(II)I" } : Jvm.MethodName)) ∈ lw_all := lw_g (lw_at lw_m6 119 rfl) rfl
theorem q1398 : (Jvm.Cond.code ({ cls := "MaypoleGreenModel", name := "colours", desc := "(II)I" } : Jvm.MethodName) prog_17_method_29_code (9 : Nat) (Option.some Jvm.ClassFile.FieldType.int)) ∈ lw_all := lw_g (lw_at lw_m6 120 rfl) rfl
theorem q1400 : (Jvm.Cond.instanceMethod ({ cls := "MaypoleGreenModel", name := "feed", desc := "(II)I" } : Jvm.MethodName)) ∈ lw_all := lw_g (lw_at lw_m6 122 rfl) rfl
theorem q1401 : (Jvm.Cond.selects "MaypoleGreenModel" ({ cls := "MaypoleGreenModel", name := "feed", desc := "(II)I" } : Jvm.MethodName) ({ cls := "MaypoleGreenModel", name := "feed", desc := "(II)I" } : Jvm.MethodName)) ∈ lw_all := lw_g (lw_at lw_m6 123 rfl) rfl
theorem q1402 : (Jvm.Cond.code ({ cls := "MaypoleGreenModel", name := "feed", desc := "(II)I" } : Jvm.MethodName) prog_17_method_31_code (4 : Nat) (Option.some Jvm.ClassFile.FieldType.int)) ∈ lw_all := lw_g (lw_at lw_m6 124 rfl) rfl
theorem q1404 : (Jvm.Cond.instanceMethod ({ cls := "MaypoleGreenModel", name := "figure", desc := "()I" } : Jvm.MethodName)) ∈ lw_all := lw_g (lw_at lw_m6 126 rfl) rfl
theorem q1405 : (Jvm.Cond.selects "MaypoleGreenModel" ({ cls := "MaypoleGreenModel", name := "figure", desc := "()I" } : Jvm.MethodName) ({ cls := "MaypoleGreenModel", name := "figure", desc := "()I" } : Jvm.MethodName)) ∈ lw_all := lw_g (lw_at lw_m6 127 rfl) rfl
theorem q1406 : (Jvm.Cond.code ({ cls := "MaypoleGreenModel", name := "figure", desc := "()I" } : Jvm.MethodName) prog_17_method_38_code (3 : Nat) (Option.some Jvm.ClassFile.FieldType.int)) ∈ lw_all := lw_g (lw_at lw_m6 128 rfl) rfl
theorem q1407 : (Jvm.Cond.methodLink "MaypoleGreenModel" (254 : Nat) ({ cls := "MaypoleGreenModel", name := "reads", desc := "()Z" } : Jvm.MethodName)) ∈ lw_all := lw_g (lw_at lw_m6 129 rfl) rfl
theorem q1408 : (Jvm.Cond.privateMethod ({ cls := "MaypoleGreenModel", name := "reads", desc := "()Z" } : Jvm.MethodName)) ∈ lw_tbl := lw_at lw_m6 130 rfl
theorem q1409 : (Jvm.Cond.instanceMethod ({ cls := "MaypoleGreenModel", name := "reads", desc := "()Z" } : Jvm.MethodName)) ∈ lw_all := lw_g (lw_at lw_m6 131 rfl) rfl
theorem q1410 : (Jvm.Cond.code ({ cls := "MaypoleGreenModel", name := "reads", desc := "()Z" } : Jvm.MethodName) prog_17_method_37_code (4 : Nat) (Option.some Jvm.ClassFile.FieldType.boolean)) ∈ lw_all := lw_g (lw_at lw_m6 132 rfl) rfl
theorem q1411 : (Jvm.Cond.methodLink "MaypoleGreenModel" (241 : Nat) ({ cls := "MaypoleGreenModel", name := "next", desc := "()I" } : Jvm.MethodName)) ∈ lw_all := lw_g (lw_at lw_m6 133 rfl) rfl
theorem q1412 : (Jvm.Cond.privateMethod ({ cls := "MaypoleGreenModel", name := "next", desc := "()I" } : Jvm.MethodName)) ∈ lw_tbl := lw_at lw_m6 134 rfl
theorem q1413 : (Jvm.Cond.instanceMethod ({ cls := "MaypoleGreenModel", name := "next", desc := "()I" } : Jvm.MethodName)) ∈ lw_all := lw_g (lw_at lw_m6 135 rfl) rfl
theorem q1414 : (Jvm.Cond.code ({ cls := "MaypoleGreenModel", name := "next", desc := "()I" } : Jvm.MethodName) prog_17_method_36_code (1 : Nat) (Option.some Jvm.ClassFile.FieldType.int)) ∈ lw_all := lw_g (lw_at lw_m6 136 rfl) rfl
theorem q1415 : (Jvm.Cond.methodLink "MaypoleGreenModel" (237 : Nat) ({ cls := "MaypoleGreenModel", name := "add", desc := "(I)V" } : Jvm.MethodName)) ∈ lw_all := lw_g (lw_at lw_m6 137 rfl) rfl
theorem q1416 : (Jvm.Cond.privateMethod ({ cls := "MaypoleGreenModel", name := "add", desc := "(I)V" } : Jvm.MethodName)) ∈ lw_tbl := lw_at lw_m6 138 rfl
theorem q1417 : (Jvm.Cond.instanceMethod ({ cls := "MaypoleGreenModel", name := "add", desc := "(I)V" } : Jvm.MethodName)) ∈ lw_all := lw_g (lw_at lw_m6 139 rfl) rfl
theorem q1418 : (Jvm.Cond.code ({ cls := "MaypoleGreenModel", name := "add", desc := "(I)V" } : Jvm.MethodName) prog_17_method_32_code (2 : Nat) (Option.none : Option Jvm.ClassFile.FieldType)) ∈ lw_all := lw_g (lw_at lw_m6 140 rfl) rfl
theorem q1419 : (Jvm.Cond.methodLink "MaypoleGreenModel" (244 : Nat) ({ cls := "MaypoleGreenModel", name := "isFigure", desc := "(I)Z" } : Jvm.MethodName)) ∈ lw_all := lw_g (lw_at lw_m6 141 rfl) rfl
theorem q1420 : (Jvm.Cond.privateMethod ({ cls := "MaypoleGreenModel", name := "isFigure", desc := "(I)Z" } : Jvm.MethodName)) ∈ lw_tbl := lw_at lw_m6 142 rfl
theorem q1421 : (Jvm.Cond.instanceMethod ({ cls := "MaypoleGreenModel", name := "isFigure", desc := "(I)Z" } : Jvm.MethodName)) ∈ lw_all := lw_g (lw_at lw_m6 143 rfl) rfl
theorem q1422 : (Jvm.Cond.code ({ cls := "MaypoleGreenModel", name := "isFigure", desc := "(I)Z" } : Jvm.MethodName) prog_17_method_30_code (2 : Nat) (Option.some Jvm.ClassFile.FieldType.boolean)) ∈ lw_all := lw_g (lw_at lw_m6 144 rfl) rfl
theorem q1423 : (Jvm.Cond.methodLink "MaypoleGreenModel" (247 : Nat) ({ cls := "MaypoleGreenModel", name := "repeat", desc := "(II)V" } : Jvm.MethodName)) ∈ lw_all := lw_g (lw_at lw_m6 145 rfl) rfl
theorem q1424 : (Jvm.Cond.privateMethod ({ cls := "MaypoleGreenModel", name := "repeat", desc := "(II)V" } : Jvm.MethodName)) ∈ lw_tbl := lw_at lw_m6 146 rfl
theorem q1425 : (Jvm.Cond.instanceMethod ({ cls := "MaypoleGreenModel", name := "repeat", desc := "(II)V" } : Jvm.MethodName)) ∈ lw_all := lw_g (lw_at lw_m6 147 rfl) rfl
theorem q1426 : (Jvm.Cond.code ({ cls := "MaypoleGreenModel", name := "repeat", desc := "(II)V" } : Jvm.MethodName) prog_17_method_35_code (6 : Nat) (Option.none : Option Jvm.ClassFile.FieldType)) ∈ lw_all := lw_g (lw_at lw_m6 148 rfl) rfl
theorem q1427 : (Jvm.Cond.methodLink "MaypoleGreenModel" (251 : Nat) ({ cls := "MaypoleGreenModel", name := "undo", desc := "(I)V" } : Jvm.MethodName)) ∈ lw_all := lw_g (lw_at lw_m6 149 rfl) rfl
theorem q1428 : (Jvm.Cond.privateMethod ({ cls := "MaypoleGreenModel", name := "undo", desc := "(I)V" } : Jvm.MethodName)) ∈ lw_tbl := lw_at lw_m6 150 rfl
theorem q1429 : (Jvm.Cond.instanceMethod ({ cls := "MaypoleGreenModel", name := "undo", desc := "(I)V" } : Jvm.MethodName)) ∈ lw_all := lw_g (lw_at lw_m6 151 rfl) rfl
theorem q1430 : (Jvm.Cond.code ({ cls := "MaypoleGreenModel", name := "undo", desc := "(I)V" } : Jvm.MethodName) prog_17_method_34_code (5 : Nat) (Option.none : Option Jvm.ClassFile.FieldType)) ∈ lw_all := lw_g (lw_at lw_m6 152 rfl) rfl
theorem q1431 : (Jvm.Cond.methodLink "MaypoleGreenModel" (234 : Nat) ({ cls := "MaypoleGreenModel", name := "undoing", desc := "(I)I" } : Jvm.MethodName)) ∈ lw_all := lw_g (lw_at lw_m6 153 rfl) rfl
theorem q1432 : (Jvm.Cond.privateMethod ({ cls := "MaypoleGreenModel", name := "undoing", desc := "(I)I" } : Jvm.MethodName)) ∈ lw_tbl := lw_at lw_m6 154 rfl
theorem q1433 : (Jvm.Cond.instanceMethod ({ cls := "MaypoleGreenModel", name := "undoing", desc := "(I)I" } : Jvm.MethodName)) ∈ lw_all := lw_g (lw_at lw_m6 155 rfl) rfl
theorem q1434 : (Jvm.Cond.code ({ cls := "MaypoleGreenModel", name := "undoing", desc := "(I)I" } : Jvm.MethodName) prog_17_method_33_code (2 : Nat) (Option.some Jvm.ClassFile.FieldType.int)) ∈ lw_all := lw_g (lw_at lw_m6 156 rfl) rfl
theorem q1436 : (Jvm.Cond.instanceMethod ({ cls := "MaypoleGreenModel", name := "told", desc := "(II)I" } : Jvm.MethodName)) ∈ lw_all := lw_g (lw_at lw_m6 158 rfl) rfl
theorem q1437 : (Jvm.Cond.selects "MaypoleGreenModel" ({ cls := "MaypoleGreenModel", name := "told", desc := "(II)I" } : Jvm.MethodName) ({ cls := "MaypoleGreenModel", name := "told", desc := "(II)I" } : Jvm.MethodName)) ∈ lw_all := lw_g (lw_at lw_m6 159 rfl) rfl
theorem q1438 : (Jvm.Cond.code ({ cls := "MaypoleGreenModel", name := "told", desc := "(II)I" } : Jvm.MethodName) prog_17_method_39_code (3 : Nat) (Option.some Jvm.ClassFile.FieldType.int)) ∈ lw_all := lw_g (lw_at lw_m6 160 rfl) rfl
theorem q1440 : (Jvm.Cond.instanceMethod ({ cls := "MaypoleGreenModel", name := "dance", desc := "(I)I" } : Jvm.MethodName)) ∈ lw_all := lw_g (lw_at lw_m6 162 rfl) rfl
theorem q1441 : (Jvm.Cond.selects "MaypoleGreenModel" ({ cls := "MaypoleGreenModel", name := "dance", desc := "(I)I" } : Jvm.MethodName) ({ cls := "MaypoleGreenModel", name := "dance", desc := "(I)I" } : Jvm.MethodName)) ∈ lw_all := lw_g (lw_at lw_m6 163 rfl) rfl
theorem q1442 : (Jvm.Cond.code ({ cls := "MaypoleGreenModel", name := "dance", desc := "(I)I" } : Jvm.MethodName) prog_17_method_40_code (5 : Nat) (Option.some Jvm.ClassFile.FieldType.int)) ∈ lw_all := lw_g (lw_at lw_m6 164 rfl) rfl
theorem q1443 : (Jvm.Cond.methodLink "MaypoleGreenModel" (258 : Nat) ({ cls := "MaypoleGreenModel", name := "walk", desc := "(I)I" } : Jvm.MethodName)) ∈ lw_all := lw_g (lw_at lw_m6 165 rfl) rfl
theorem q1444 : (Jvm.Cond.methodLink "MaypoleGreenModel" (261 : Nat) ({ cls := "MaypoleGreenModel", name := "pass", desc := "(II)I" } : Jvm.MethodName)) ∈ lw_all := lw_g (lw_at lw_m6 166 rfl) rfl
theorem q1446 : (Jvm.Cond.instanceMethod ({ cls := "MaypoleGreenModel", name := "form", desc := "(II)I" } : Jvm.MethodName)) ∈ lw_all := lw_g (lw_at lw_m6 168 rfl) rfl
theorem q1447 : (Jvm.Cond.selects "MaypoleGreenModel" ({ cls := "MaypoleGreenModel", name := "form", desc := "(II)I" } : Jvm.MethodName) ({ cls := "MaypoleGreenModel", name := "form", desc := "(II)I" } : Jvm.MethodName)) ∈ lw_all := lw_g (lw_at lw_m6 169 rfl) rfl
theorem q1448 : (Jvm.Cond.code ({ cls := "MaypoleGreenModel", name := "form", desc := "(II)I" } : Jvm.MethodName) prog_17_method_47_code (3 : Nat) (Option.some Jvm.ClassFile.FieldType.int)) ∈ lw_all := lw_g (lw_at lw_m6 170 rfl) rfl
theorem q1449 : (Jvm.Cond.methodLink "MaypoleGreenModel" (282 : Nat) ({ cls := "MaypoleGreenModel", name := "findForm", desc := "(I)Z" } : Jvm.MethodName)) ∈ lw_all := lw_g (lw_at lw_m6 171 rfl) rfl
theorem q1450 : (Jvm.Cond.privateMethod ({ cls := "MaypoleGreenModel", name := "findForm", desc := "(I)Z" } : Jvm.MethodName)) ∈ lw_tbl := lw_at lw_m6 172 rfl
theorem q1451 : (Jvm.Cond.instanceMethod ({ cls := "MaypoleGreenModel", name := "findForm", desc := "(I)Z" } : Jvm.MethodName)) ∈ lw_all := lw_g (lw_at lw_m6 173 rfl) rfl
theorem q1452 : (Jvm.Cond.code ({ cls := "MaypoleGreenModel", name := "findForm", desc := "(I)Z" } : Jvm.MethodName) prog_17_method_44_code (5 : Nat) (Option.some Jvm.ClassFile.FieldType.boolean)) ∈ lw_all := lw_g (lw_at lw_m6 174 rfl) rfl
theorem q1453 : (Jvm.Cond.methodLink "MaypoleGreenModel" (267 : Nat) ({ cls := "MaypoleGreenModel", name := "stepsOf", desc := "(I)I" } : Jvm.MethodName)) ∈ lw_all := lw_g (lw_at lw_m6 175 rfl) rfl
theorem q1454 : (Jvm.Cond.privateMethod ({ cls := "MaypoleGreenModel", name := "stepsOf", desc := "(I)I" } : Jvm.MethodName)) ∈ lw_tbl := lw_at lw_m6 176 rfl
theorem q1455 : (Jvm.Cond.instanceMethod ({ cls := "MaypoleGreenModel", name := "stepsOf", desc := "(I)I" } : Jvm.MethodName)) ∈ lw_all := lw_g (lw_at lw_m6 177 rfl) rfl
theorem q1456 : (Jvm.Cond.code ({ cls := "MaypoleGreenModel", name := "stepsOf", desc := "(I)I" } : Jvm.MethodName) prog_17_method_42_code (2 : Nat) (Option.some Jvm.ClassFile.FieldType.int)) ∈ lw_all := lw_g (lw_at lw_m6 178 rfl) rfl
theorem q1457 : (Jvm.Cond.methodLink "MaypoleGreenModel" (270 : Nat) ({ cls := "MaypoleGreenModel", name := "stepOf", desc := "(II)I" } : Jvm.MethodName)) ∈ lw_all := lw_g (lw_at lw_m6 179 rfl) rfl
theorem q1458 : (Jvm.Cond.privateMethod ({ cls := "MaypoleGreenModel", name := "stepOf", desc := "(II)I" } : Jvm.MethodName)) ∈ lw_tbl := lw_at lw_m6 180 rfl
theorem q1459 : (Jvm.Cond.instanceMethod ({ cls := "MaypoleGreenModel", name := "stepOf", desc := "(II)I" } : Jvm.MethodName)) ∈ lw_all := lw_g (lw_at lw_m6 181 rfl) rfl
theorem q1460 : (Jvm.Cond.code ({ cls := "MaypoleGreenModel", name := "stepOf", desc := "(II)I" } : Jvm.MethodName) prog_17_method_41_code (3 : Nat) (Option.some Jvm.ClassFile.FieldType.int)) ∈ lw_all := lw_g (lw_at lw_m6 182 rfl) rfl
theorem q1461 : (Jvm.Cond.methodLink "MaypoleGreenModel" (273 : Nat) ({ cls := "MaypoleGreenModel", name := "take", desc := "(I)V" } : Jvm.MethodName)) ∈ lw_all := lw_g (lw_at lw_m6 183 rfl) rfl
theorem q1462 : (Jvm.Cond.privateMethod ({ cls := "MaypoleGreenModel", name := "take", desc := "(I)V" } : Jvm.MethodName)) ∈ lw_tbl := lw_at lw_m6 184 rfl
theorem q1463 : (Jvm.Cond.instanceMethod ({ cls := "MaypoleGreenModel", name := "take", desc := "(I)V" } : Jvm.MethodName)) ∈ lw_all := lw_g (lw_at lw_m6 185 rfl) rfl
theorem q1464 : (Jvm.Cond.code ({ cls := "MaypoleGreenModel", name := "take", desc := "(I)V" } : Jvm.MethodName) prog_17_method_45_code (4 : Nat) (Option.none : Option Jvm.ClassFile.FieldType)) ∈ lw_all := lw_g (lw_at lw_m6 186 rfl) rfl
theorem q1465 : (Jvm.Cond.methodLink "MaypoleGreenModel" (279 : Nat) ({ cls := "MaypoleGreenModel", name := "areFar", desc := "(II)Z" } : Jvm.MethodName)) ∈ lw_all := lw_g (lw_at lw_m6 187 rfl) rfl
theorem q1466 : (Jvm.Cond.privateMethod ({ cls := "MaypoleGreenModel", name := "areFar", desc := "(II)Z" } : Jvm.MethodName)) ∈ lw_tbl := lw_at lw_m6 188 rfl
theorem q1467 : (Jvm.Cond.instanceMethod ({ cls := "MaypoleGreenModel", name := "areFar", desc := "(II)Z" } : Jvm.MethodName)) ∈ lw_all := lw_g (lw_at lw_m6 189 rfl) rfl
theorem q1468 : (Jvm.Cond.code ({ cls := "MaypoleGreenModel", name := "areFar", desc := "(II)Z" } : Jvm.MethodName) prog_17_method_43_code (4 : Nat) (Option.some Jvm.ClassFile.FieldType.boolean)) ∈ lw_all := lw_g (lw_at lw_m6 190 rfl) rfl
theorem q1469 : (Jvm.Cond.methodLink "MaypoleGreenModel" (264 : Nat) ({ cls := "MaypoleGreenModel", name := "abs", desc := "(I)I" } : Jvm.MethodName)) ∈ lw_all := lw_g (lw_at lw_m6 191 rfl) rfl
theorem q1470 : (Jvm.Cond.privateMethod ({ cls := "MaypoleGreenModel", name := "abs", desc := "(I)I" } : Jvm.MethodName)) ∈ lw_tbl := lw_at lw_m6 192 rfl
theorem q1471 : (Jvm.Cond.instanceMethod ({ cls := "MaypoleGreenModel", name := "abs", desc := "(I)I" } : Jvm.MethodName)) ∈ lw_all := lw_g (lw_at lw_m6 193 rfl) rfl
theorem q1472 : (Jvm.Cond.code ({ cls := "MaypoleGreenModel", name := "abs", desc := "(I)I" } : Jvm.MethodName) prog_17_method_3_code (2 : Nat) (Option.some Jvm.ClassFile.FieldType.int)) ∈ lw_all := lw_g (lw_at lw_m6 194 rfl) rfl
theorem q1473 : (Jvm.Cond.methodLink "MaypoleGreenModel" (276 : Nat) ({ cls := "MaypoleGreenModel", name := "bringLeast", desc := "(I)V" } : Jvm.MethodName)) ∈ lw_all := lw_g (lw_at lw_m6 195 rfl) rfl
theorem q1474 : (Jvm.Cond.privateMethod ({ cls := "MaypoleGreenModel", name := "bringLeast", desc := "(I)V" } : Jvm.MethodName)) ∈ lw_tbl := lw_at lw_m6 196 rfl
theorem q1475 : (Jvm.Cond.instanceMethod ({ cls := "MaypoleGreenModel", name := "bringLeast", desc := "(I)V" } : Jvm.MethodName)) ∈ lw_all := lw_g (lw_at lw_m6 197 rfl) rfl
theorem q1476 : (Jvm.Cond.code ({ cls := "MaypoleGreenModel", name := "bringLeast", desc := "(I)V" } : Jvm.MethodName) prog_17_method_46_code (6 : Nat) (Option.none : Option Jvm.ClassFile.FieldType)) ∈ lw_all := lw_g (lw_at lw_m6 198 rfl) rfl
theorem q1478 : (Jvm.Cond.instanceMethod ({ cls := "MaypoleGreenModel", name := "akin", desc := "(II)I" } : Jvm.MethodName)) ∈ lw_all := lw_g (lw_at lw_m6 200 rfl) rfl
theorem q1479 : (Jvm.Cond.selects "MaypoleGreenModel" ({ cls := "MaypoleGreenModel", name := "akin", desc := "(II)I" } : Jvm.MethodName) ({ cls := "MaypoleGreenModel", name := "akin", desc := "(II)I" } : Jvm.MethodName)) ∈ lw_all := lw_g (lw_at lw_m6 201 rfl) rfl
theorem q1480 : (Jvm.Cond.code ({ cls := "MaypoleGreenModel", name := "akin", desc := "(II)I" } : Jvm.MethodName) prog_17_method_48_code (7 : Nat) (Option.some Jvm.ClassFile.FieldType.int)) ∈ lw_all := lw_g (lw_at lw_m6 202 rfl) rfl
theorem q1482 : (Jvm.Cond.instanceMethod ({ cls := "MaypoleGreenModel", name := "right", desc := "(I)I" } : Jvm.MethodName)) ∈ lw_all := lw_g (lw_at lw_m6 204 rfl) rfl
theorem q1483 : (Jvm.Cond.selects "MaypoleGreenModel" ({ cls := "MaypoleGreenModel", name := "right", desc := "(I)I" } : Jvm.MethodName) ({ cls := "MaypoleGreenModel", name := "right", desc := "(I)I" } : Jvm.MethodName)) ∈ lw_all := lw_g (lw_at lw_m6 205 rfl) rfl
theorem q1484 : (Jvm.Cond.code ({ cls := "MaypoleGreenModel", name := "right", desc := "(I)I" } : Jvm.MethodName) prog_17_method_54_code (2 : Nat) (Option.some Jvm.ClassFile.FieldType.int)) ∈ lw_all := lw_g (lw_at lw_m6 206 rfl) rfl
theorem q1485 : (Jvm.Cond.methodLink "MaypoleGreenModel" (297 : Nat) ({ cls := "MaypoleGreenModel", name := "makes", desc := "(III)Z" } : Jvm.MethodName)) ∈ lw_all := lw_g (lw_at lw_m6 207 rfl) rfl
theorem q1486 : (Jvm.Cond.privateMethod ({ cls := "MaypoleGreenModel", name := "makes", desc := "(III)Z" } : Jvm.MethodName)) ∈ lw_tbl := lw_at lw_m6 208 rfl
theorem q1487 : (Jvm.Cond.instanceMethod ({ cls := "MaypoleGreenModel", name := "makes", desc := "(III)Z" } : Jvm.MethodName)) ∈ lw_all := lw_g (lw_at lw_m6 209 rfl) rfl
theorem q1488 : (Jvm.Cond.code ({ cls := "MaypoleGreenModel", name := "makes", desc := "(III)Z" } : Jvm.MethodName) prog_17_method_53_code (6 : Nat) (Option.some Jvm.ClassFile.FieldType.boolean)) ∈ lw_all := lw_g (lw_at lw_m6 210 rfl) rfl
theorem q1489 : (Jvm.Cond.methodLink "MaypoleGreenModel" (291 : Nat) ({ cls := "MaypoleGreenModel", name := "tryBegin", desc := "()V" } : Jvm.MethodName)) ∈ lw_all := lw_g (lw_at lw_m6 211 rfl) rfl
theorem q1490 : (Jvm.Cond.privateMethod ({ cls := "MaypoleGreenModel", name := "tryBegin", desc := "()V" } : Jvm.MethodName)) ∈ lw_tbl := lw_at lw_m6 212 rfl
theorem q1491 : (Jvm.Cond.instanceMethod ({ cls := "MaypoleGreenModel", name := "tryBegin", desc := "()V" } : Jvm.MethodName)) ∈ lw_all := lw_g (lw_at lw_m6 213 rfl) rfl
theorem q1492 : (Jvm.Cond.code ({ cls := "MaypoleGreenModel", name := "tryBegin", desc := "()V" } : Jvm.MethodName) prog_17_method_49_code (2 : Nat) (Option.none : Option Jvm.ClassFile.FieldType)) ∈ lw_all := lw_g (lw_at lw_m6 214 rfl) rfl
theorem q1493 : (Jvm.Cond.methodLink "MaypoleGreenModel" (294 : Nat) ({ cls := "MaypoleGreenModel", name := "tryStep", desc := "(I)Z" } : Jvm.MethodName)) ∈ lw_all := lw_g (lw_at lw_m6 215 rfl) rfl
theorem q1494 : (Jvm.Cond.privateMethod ({ cls := "MaypoleGreenModel", name := "tryStep", desc := "(I)Z" } : Jvm.MethodName)) ∈ lw_tbl := lw_at lw_m6 216 rfl
theorem q1495 : (Jvm.Cond.instanceMethod ({ cls := "MaypoleGreenModel", name := "tryStep", desc := "(I)Z" } : Jvm.MethodName)) ∈ lw_all := lw_g (lw_at lw_m6 217 rfl) rfl
theorem q1496 : (Jvm.Cond.code ({ cls := "MaypoleGreenModel", name := "tryStep", desc := "(I)Z" } : Jvm.MethodName) prog_17_method_52_code (2 : Nat) (Option.some Jvm.ClassFile.FieldType.boolean)) ∈ lw_all := lw_g (lw_at lw_m6 218 rfl) rfl
theorem q1497 : (Jvm.Cond.methodLink "MaypoleGreenModel" (285 : Nat) ({ cls := "MaypoleGreenModel", name := "tryWalk", desc := "(I)Z" } : Jvm.MethodName)) ∈ lw_all := lw_g (lw_at lw_m6 219 rfl) rfl
theorem q1498 : (Jvm.Cond.privateMethod ({ cls := "MaypoleGreenModel", name := "tryWalk", desc := "(I)Z" } : Jvm.MethodName)) ∈ lw_tbl := lw_at lw_m6 220 rfl
theorem q1499 : (Jvm.Cond.instanceMethod ({ cls := "MaypoleGreenModel", name := "tryWalk", desc := "(I)Z" } : Jvm.MethodName)) ∈ lw_all := lw_g (lw_at lw_m6 221 rfl) rfl
theorem q1500 : (Jvm.Cond.code ({ cls := "MaypoleGreenModel", name := "tryWalk", desc := "(I)Z" } : Jvm.MethodName) prog_17_method_51_code (5 : Nat) (Option.some Jvm.ClassFile.FieldType.boolean)) ∈ lw_all := lw_g (lw_at lw_m6 222 rfl) rfl
theorem q1501 : (Jvm.Cond.methodLink "MaypoleGreenModel" (288 : Nat) ({ cls := "MaypoleGreenModel", name := "tryPass", desc := "(II)Z" } : Jvm.MethodName)) ∈ lw_all := lw_g (lw_at lw_m6 223 rfl) rfl
theorem q1502 : (Jvm.Cond.privateMethod ({ cls := "MaypoleGreenModel", name := "tryPass", desc := "(II)Z" } : Jvm.MethodName)) ∈ lw_tbl := lw_at lw_m6 224 rfl
theorem q1503 : (Jvm.Cond.instanceMethod ({ cls := "MaypoleGreenModel", name := "tryPass", desc := "(II)Z" } : Jvm.MethodName)) ∈ lw_all := lw_g (lw_at lw_m6 225 rfl) rfl
theorem q1504 : (Jvm.Cond.code ({ cls := "MaypoleGreenModel", name := "tryPass", desc := "(II)Z" } : Jvm.MethodName) prog_17_method_50_code (7 : Nat) (Option.some Jvm.ClassFile.FieldType.boolean)) ∈ lw_all := lw_g (lw_at lw_m6 226 rfl) rfl
theorem q1506 : (Jvm.Cond.instanceMethod ({ cls := "MaypoleGreenModel", name := "slips", desc := "(II)I" } : Jvm.MethodName)) ∈ lw_all := lw_g (lw_at lw_m6 228 rfl) rfl
theorem q1507 : (Jvm.Cond.selects "MaypoleGreenModel" ({ cls := "MaypoleGreenModel", name := "slips", desc := "(II)I" } : Jvm.MethodName) ({ cls := "MaypoleGreenModel", name := "slips", desc := "(II)I" } : Jvm.MethodName)) ∈ lw_all := lw_g (lw_at lw_m6 229 rfl) rfl
theorem q1508 : (Jvm.Cond.code ({ cls := "MaypoleGreenModel", name := "slips", desc := "(II)I" } : Jvm.MethodName) prog_17_method_55_code (5 : Nat) (Option.some Jvm.ClassFile.FieldType.int)) ∈ lw_all := lw_g (lw_at lw_m6 230 rfl) rfl
theorem q1510 : (Jvm.Cond.instanceMethod ({ cls := "MaypoleGreenModel", name := "fewest", desc := "(II)I" } : Jvm.MethodName)) ∈ lw_all := lw_g (lw_at lw_m6 232 rfl) rfl
theorem q1511 : (Jvm.Cond.selects "MaypoleGreenModel" ({ cls := "MaypoleGreenModel", name := "fewest", desc := "(II)I" } : Jvm.MethodName) ({ cls := "MaypoleGreenModel", name := "fewest", desc := "(II)I" } : Jvm.MethodName)) ∈ lw_all := lw_g (lw_at lw_m6 233 rfl) rfl
theorem q1512 : (Jvm.Cond.code ({ cls := "MaypoleGreenModel", name := "fewest", desc := "(II)I" } : Jvm.MethodName) prog_17_method_60_code (6 : Nat) (Option.some Jvm.ClassFile.FieldType.int)) ∈ lw_all := lw_g (lw_at lw_m6 234 rfl) rfl
theorem q1513 : (Jvm.Cond.methodLink "MaypoleGreenModel" (310 : Nat) ({ cls := "MaypoleGreenModel", name := "isTape", desc := "(I)Z" } : Jvm.MethodName)) ∈ lw_all := lw_g (lw_at lw_m6 235 rfl) rfl
theorem q1514 : (Jvm.Cond.privateMethod ({ cls := "MaypoleGreenModel", name := "isTape", desc := "(I)Z" } : Jvm.MethodName)) ∈ lw_tbl := lw_at lw_m6 236 rfl
theorem q1515 : (Jvm.Cond.instanceMethod ({ cls := "MaypoleGreenModel", name := "isTape", desc := "(I)Z" } : Jvm.MethodName)) ∈ lw_all := lw_g (lw_at lw_m6 237 rfl) rfl
theorem q1516 : (Jvm.Cond.code ({ cls := "MaypoleGreenModel", name := "isTape", desc := "(I)Z" } : Jvm.MethodName) prog_17_method_76_code (2 : Nat) (Option.some Jvm.ClassFile.FieldType.boolean)) ∈ lw_all := lw_g (lw_at lw_m6 238 rfl) rfl
theorem q1517 : (Jvm.Cond.methodLink "MaypoleGreenModel" (313 : Nat) ({ cls := "MaypoleGreenModel", name := "findFar", desc := "()V" } : Jvm.MethodName)) ∈ lw_all := lw_g (lw_at lw_m6 239 rfl) rfl
theorem q1518 : (Jvm.Cond.privateMethod ({ cls := "MaypoleGreenModel", name := "findFar", desc := "()V" } : Jvm.MethodName)) ∈ lw_tbl := lw_at lw_m7 0 rfl
theorem q1519 : (Jvm.Cond.instanceMethod ({ cls := "MaypoleGreenModel", name := "findFar", desc := "()V" } : Jvm.MethodName)) ∈ lw_all := lw_g (lw_at lw_m7 1 rfl) rfl
theorem q1520 : (Jvm.Cond.code ({ cls := "MaypoleGreenModel", name := "findFar", desc := "()V" } : Jvm.MethodName) prog_17_method_59_code (7 : Nat) (Option.none : Option Jvm.ClassFile.FieldType)) ∈ lw_all := lw_g (lw_at lw_m7 2 rfl) rfl
theorem q1521 : (Jvm.Cond.methodLink "MaypoleGreenModel" (300 : Nat) ({ cls := "MaypoleGreenModel", name := "rank", desc := "([I)I" } : Jvm.MethodName)) ∈ lw_all := lw_g (lw_at lw_m7 3 rfl) rfl
theorem q1522 : (Jvm.Cond.privateMethod ({ cls := "MaypoleGreenModel", name := "rank", desc := "([I)I" } : Jvm.MethodName)) ∈ lw_tbl := lw_at lw_m7 4 rfl
theorem q1523 : (Jvm.Cond.instanceMethod ({ cls := "MaypoleGreenModel", name := "rank", desc := "([I)I" } : Jvm.MethodName)) ∈ lw_all := lw_g (lw_at lw_m7 5 rfl) rfl
theorem q1524 : (Jvm.Cond.code ({ cls := "MaypoleGreenModel", name := "rank", desc := "([I)I" } : Jvm.MethodName) prog_17_method_56_code (6 : Nat) (Option.some Jvm.ClassFile.FieldType.int)) ∈ lw_all := lw_g (lw_at lw_m7 6 rfl) rfl
theorem q1525 : (Jvm.Cond.methodLink "MaypoleGreenModel" (303 : Nat) ({ cls := "MaypoleGreenModel", name := "unrank", desc := "(I[I)V" } : Jvm.MethodName)) ∈ lw_all := lw_g (lw_at lw_m7 7 rfl) rfl
theorem q1526 : (Jvm.Cond.privateMethod ({ cls := "MaypoleGreenModel", name := "unrank", desc := "(I[I)V" } : Jvm.MethodName)) ∈ lw_tbl := lw_at lw_m7 8 rfl
theorem q1527 : (Jvm.Cond.instanceMethod ({ cls := "MaypoleGreenModel", name := "unrank", desc := "(I[I)V" } : Jvm.MethodName)) ∈ lw_all := lw_g (lw_at lw_m7 9 rfl) rfl
theorem q1528 : (Jvm.Cond.code ({ cls := "MaypoleGreenModel", name := "unrank", desc := "(I[I)V" } : Jvm.MethodName) prog_17_method_57_code (8 : Nat) (Option.none : Option Jvm.ClassFile.FieldType)) ∈ lw_all := lw_g (lw_at lw_m7 10 rfl) rfl
theorem q1529 : (Jvm.Cond.methodLink "MaypoleGreenModel" (307 : Nat) ({ cls := "MaypoleGreenModel", name := "swap", desc := "([II)V" } : Jvm.MethodName)) ∈ lw_all := lw_g (lw_at lw_m7 11 rfl) rfl
theorem q1530 : (Jvm.Cond.privateMethod ({ cls := "MaypoleGreenModel", name := "swap", desc := "([II)V" } : Jvm.MethodName)) ∈ lw_tbl := lw_at lw_m7 12 rfl
theorem q1531 : (Jvm.Cond.instanceMethod ({ cls := "MaypoleGreenModel", name := "swap", desc := "([II)V" } : Jvm.MethodName)) ∈ lw_all := lw_g (lw_at lw_m7 13 rfl) rfl
theorem q1532 : (Jvm.Cond.code ({ cls := "MaypoleGreenModel", name := "swap", desc := "([II)V" } : Jvm.MethodName) prog_17_method_58_code (4 : Nat) (Option.none : Option Jvm.ClassFile.FieldType)) ∈ lw_all := lw_g (lw_at lw_m7 14 rfl) rfl
theorem q1534 : (Jvm.Cond.instanceMethod ({ cls := "MaypoleGreenModel", name := "set", desc := "(II)I" } : Jvm.MethodName)) ∈ lw_all := lw_g (lw_at lw_m7 16 rfl) rfl
theorem q1535 : (Jvm.Cond.selects "MaypoleGreenModel" ({ cls := "MaypoleGreenModel", name := "set", desc := "(II)I" } : Jvm.MethodName) ({ cls := "MaypoleGreenModel", name := "set", desc := "(II)I" } : Jvm.MethodName)) ∈ lw_all := lw_g (lw_at lw_m7 17 rfl) rfl
theorem q1536 : (Jvm.Cond.code ({ cls := "MaypoleGreenModel", name := "set", desc := "(II)I" } : Jvm.MethodName) prog_17_method_62_code (4 : Nat) (Option.some Jvm.ClassFile.FieldType.int)) ∈ lw_all := lw_g (lw_at lw_m7 18 rfl) rfl
theorem q1537 : (Jvm.Cond.methodLink "MaypoleGreenModel" (317 : Nat) ({ cls := "MaypoleGreenModel", name := "findSet", desc := "(I)I" } : Jvm.MethodName)) ∈ lw_all := lw_g (lw_at lw_m7 19 rfl) rfl
theorem q1538 : (Jvm.Cond.privateMethod ({ cls := "MaypoleGreenModel", name := "findSet", desc := "(I)I" } : Jvm.MethodName)) ∈ lw_tbl := lw_at lw_m7 20 rfl
theorem q1539 : (Jvm.Cond.instanceMethod ({ cls := "MaypoleGreenModel", name := "findSet", desc := "(I)I" } : Jvm.MethodName)) ∈ lw_all := lw_g (lw_at lw_m7 21 rfl) rfl
theorem q1540 : (Jvm.Cond.code ({ cls := "MaypoleGreenModel", name := "findSet", desc := "(I)I" } : Jvm.MethodName) prog_17_method_61_code (7 : Nat) (Option.some Jvm.ClassFile.FieldType.int)) ∈ lw_all := lw_g (lw_at lw_m7 22 rfl) rfl
theorem q1541 : (Jvm.Cond.constant "MaypoleGreenModel" (316 : Nat) (1000000 : Int32)) ∈ lw_all := lw_g (lw_at lw_m7 23 rfl) rfl
theorem q1543 : (Jvm.Cond.instanceMethod ({ cls := "MaypoleGreenModel", name := "spent", desc := "(II)I" } : Jvm.MethodName)) ∈ lw_all := lw_g (lw_at lw_m7 25 rfl) rfl
theorem q1544 : (Jvm.Cond.selects "MaypoleGreenModel" ({ cls := "MaypoleGreenModel", name := "spent", desc := "(II)I" } : Jvm.MethodName) ({ cls := "MaypoleGreenModel", name := "spent", desc := "(II)I" } : Jvm.MethodName)) ∈ lw_all := lw_g (lw_at lw_m7 26 rfl) rfl
theorem q1545 : (Jvm.Cond.code ({ cls := "MaypoleGreenModel", name := "spent", desc := "(II)I" } : Jvm.MethodName) prog_17_method_63_code (9 : Nat) (Option.some Jvm.ClassFile.FieldType.int)) ∈ lw_all := lw_g (lw_at lw_m7 27 rfl) rfl
theorem q1547 : (Jvm.Cond.instanceMethod ({ cls := "MaypoleGreenModel", name := "act", desc := "(III)I" } : Jvm.MethodName)) ∈ lw_all := lw_g (lw_at lw_m7 29 rfl) rfl
theorem q1548 : (Jvm.Cond.selects "MaypoleGreenModel" ({ cls := "MaypoleGreenModel", name := "act", desc := "(III)I" } : Jvm.MethodName) ({ cls := "MaypoleGreenModel", name := "act", desc := "(III)I" } : Jvm.MethodName)) ∈ lw_all := lw_g (lw_at lw_m7 30 rfl) rfl
theorem q1549 : (Jvm.Cond.code ({ cls := "MaypoleGreenModel", name := "act", desc := "(III)I" } : Jvm.MethodName) prog_17_method_72_code (4 : Nat) (Option.some Jvm.ClassFile.FieldType.int)) ∈ lw_all := lw_g (lw_at lw_m7 31 rfl) rfl
theorem q1550 : (Jvm.Cond.methodLink "MaypoleGreenModel" (326 : Nat) ({ cls := "MaypoleGreenModel", name := "greetsOf", desc := "(II)I" } : Jvm.MethodName)) ∈ lw_all := lw_g (lw_at lw_m7 32 rfl) rfl
theorem q1551 : (Jvm.Cond.privateMethod ({ cls := "MaypoleGreenModel", name := "greetsOf", desc := "(II)I" } : Jvm.MethodName)) ∈ lw_tbl := lw_at lw_m7 33 rfl
theorem q1552 : (Jvm.Cond.instanceMethod ({ cls := "MaypoleGreenModel", name := "greetsOf", desc := "(II)I" } : Jvm.MethodName)) ∈ lw_all := lw_g (lw_at lw_m7 34 rfl) rfl
theorem q1553 : (Jvm.Cond.code ({ cls := "MaypoleGreenModel", name := "greetsOf", desc := "(II)I" } : Jvm.MethodName) prog_17_method_66_code (3 : Nat) (Option.some Jvm.ClassFile.FieldType.int)) ∈ lw_all := lw_g (lw_at lw_m7 35 rfl) rfl
theorem q1554 : (Jvm.Cond.methodLink "MaypoleGreenModel" (320 : Nat) ({ cls := "MaypoleGreenModel", name := "body", desc := "(I)V" } : Jvm.MethodName)) ∈ lw_all := lw_g (lw_at lw_m7 36 rfl) rfl
theorem q1555 : (Jvm.Cond.privateMethod ({ cls := "MaypoleGreenModel", name := "body", desc := "(I)V" } : Jvm.MethodName)) ∈ lw_tbl := lw_at lw_m7 37 rfl
theorem q1556 : (Jvm.Cond.instanceMethod ({ cls := "MaypoleGreenModel", name := "body", desc := "(I)V" } : Jvm.MethodName)) ∈ lw_all := lw_g (lw_at lw_m7 38 rfl) rfl
theorem q1557 : (Jvm.Cond.code ({ cls := "MaypoleGreenModel", name := "body", desc := "(I)V" } : Jvm.MethodName) prog_17_method_64_code (2 : Nat) (Option.none : Option Jvm.ClassFile.FieldType)) ∈ lw_all := lw_g (lw_at lw_m7 39 rfl) rfl
theorem q1558 : (Jvm.Cond.methodLink "MaypoleGreenModel" (323 : Nat) ({ cls := "MaypoleGreenModel", name := "plainGreets", desc := "(II)I" } : Jvm.MethodName)) ∈ lw_all := lw_g (lw_at lw_m7 40 rfl) rfl
theorem q1559 : (Jvm.Cond.privateMethod ({ cls := "MaypoleGreenModel", name := "plainGreets", desc := "(II)I" } : Jvm.MethodName)) ∈ lw_tbl := lw_at lw_m7 41 rfl
theorem q1560 : (Jvm.Cond.instanceMethod ({ cls := "MaypoleGreenModel", name := "plainGreets", desc := "(II)I" } : Jvm.MethodName)) ∈ lw_all := lw_g (lw_at lw_m7 42 rfl) rfl
theorem q1561 : (Jvm.Cond.code ({ cls := "MaypoleGreenModel", name := "plainGreets", desc := "(II)I" } : Jvm.MethodName) prog_17_method_65_code (3 : Nat) (Option.some Jvm.ClassFile.FieldType.int)) ∈ lw_all := lw_g (lw_at lw_m7 43 rfl) rfl
theorem q1562 : (Jvm.Cond.methodLink "MaypoleGreenModel" (335 : Nat) ({ cls := "MaypoleGreenModel", name := "leadsOf", desc := "(II)I" } : Jvm.MethodName)) ∈ lw_all := lw_g (lw_at lw_m7 44 rfl) rfl
theorem q1563 : (Jvm.Cond.privateMethod ({ cls := "MaypoleGreenModel", name := "leadsOf", desc := "(II)I" } : Jvm.MethodName)) ∈ lw_tbl := lw_at lw_m7 45 rfl
theorem q1564 : (Jvm.Cond.instanceMethod ({ cls := "MaypoleGreenModel", name := "leadsOf", desc := "(II)I" } : Jvm.MethodName)) ∈ lw_all := lw_g (lw_at lw_m7 46 rfl) rfl
theorem q1565 : (Jvm.Cond.code ({ cls := "MaypoleGreenModel", name := "leadsOf", desc := "(II)I" } : Jvm.MethodName) prog_17_method_69_code (3 : Nat) (Option.some Jvm.ClassFile.FieldType.int)) ∈ lw_all := lw_g (lw_at lw_m7 47 rfl) rfl
theorem q1566 : (Jvm.Cond.methodLink "MaypoleGreenModel" (332 : Nat) ({ cls := "MaypoleGreenModel", name := "leaderLeads", desc := "(II)I" } : Jvm.MethodName)) ∈ lw_all := lw_g (lw_at lw_m7 48 rfl) rfl
theorem q1567 : (Jvm.Cond.privateMethod ({ cls := "MaypoleGreenModel", name := "leaderLeads", desc := "(II)I" } : Jvm.MethodName)) ∈ lw_tbl := lw_at lw_m7 49 rfl
theorem q1568 : (Jvm.Cond.instanceMethod ({ cls := "MaypoleGreenModel", name := "leaderLeads", desc := "(II)I" } : Jvm.MethodName)) ∈ lw_all := lw_g (lw_at lw_m7 50 rfl) rfl
theorem q1569 : (Jvm.Cond.code ({ cls := "MaypoleGreenModel", name := "leaderLeads", desc := "(II)I" } : Jvm.MethodName) prog_17_method_68_code (4 : Nat) (Option.some Jvm.ClassFile.FieldType.int)) ∈ lw_all := lw_g (lw_at lw_m7 51 rfl) rfl
theorem q1570 : (Jvm.Cond.methodLink "MaypoleGreenModel" (329 : Nat) ({ cls := "MaypoleGreenModel", name := "plainLeads", desc := "(II)I" } : Jvm.MethodName)) ∈ lw_all := lw_g (lw_at lw_m7 52 rfl) rfl
theorem q1571 : (Jvm.Cond.privateMethod ({ cls := "MaypoleGreenModel", name := "plainLeads", desc := "(II)I" } : Jvm.MethodName)) ∈ lw_tbl := lw_at lw_m7 53 rfl
theorem q1572 : (Jvm.Cond.instanceMethod ({ cls := "MaypoleGreenModel", name := "plainLeads", desc := "(II)I" } : Jvm.MethodName)) ∈ lw_all := lw_g (lw_at lw_m7 54 rfl) rfl
theorem q1573 : (Jvm.Cond.code ({ cls := "MaypoleGreenModel", name := "plainLeads", desc := "(II)I" } : Jvm.MethodName) prog_17_method_67_code (3 : Nat) (Option.some Jvm.ClassFile.FieldType.int)) ∈ lw_all := lw_g (lw_at lw_m7 55 rfl) rfl
theorem q1574 : (Jvm.Cond.methodLink "MaypoleGreenModel" (341 : Nat) ({ cls := "MaypoleGreenModel", name := "restsOf", desc := "(II)I" } : Jvm.MethodName)) ∈ lw_all := lw_g (lw_at lw_m7 56 rfl) rfl
theorem q1575 : (Jvm.Cond.privateMethod ({ cls := "MaypoleGreenModel", name := "restsOf", desc := "(II)I" } : Jvm.MethodName)) ∈ lw_tbl := lw_at lw_m7 57 rfl
theorem q1576 : (Jvm.Cond.instanceMethod ({ cls := "MaypoleGreenModel", name := "restsOf", desc := "(II)I" } : Jvm.MethodName)) ∈ lw_all := lw_g (lw_at lw_m7 58 rfl) rfl
theorem q1577 : (Jvm.Cond.code ({ cls := "MaypoleGreenModel", name := "restsOf", desc := "(II)I" } : Jvm.MethodName) prog_17_method_71_code (4 : Nat) (Option.some Jvm.ClassFile.FieldType.int)) ∈ lw_all := lw_g (lw_at lw_m7 59 rfl) rfl
theorem q1578 : (Jvm.Cond.methodLink "MaypoleGreenModel" (338 : Nat) ({ cls := "MaypoleGreenModel", name := "plainRests", desc := "(II)I" } : Jvm.MethodName)) ∈ lw_all := lw_g (lw_at lw_m7 60 rfl) rfl
theorem q1579 : (Jvm.Cond.privateMethod ({ cls := "MaypoleGreenModel", name := "plainRests", desc := "(II)I" } : Jvm.MethodName)) ∈ lw_tbl := lw_at lw_m7 61 rfl
theorem q1580 : (Jvm.Cond.instanceMethod ({ cls := "MaypoleGreenModel", name := "plainRests", desc := "(II)I" } : Jvm.MethodName)) ∈ lw_all := lw_g (lw_at lw_m7 62 rfl) rfl
theorem q1581 : (Jvm.Cond.code ({ cls := "MaypoleGreenModel", name := "plainRests", desc := "(II)I" } : Jvm.MethodName) prog_17_method_70_code (3 : Nat) (Option.some Jvm.ClassFile.FieldType.int)) ∈ lw_all := lw_g (lw_at lw_m7 63 rfl) rfl
theorem q1583 : (Jvm.Cond.instanceMethod ({ cls := "MaypoleGreenModel", name := "trace", desc := "(I)I" } : Jvm.MethodName)) ∈ lw_all := lw_g (lw_at lw_m7 65 rfl) rfl
theorem q1584 : (Jvm.Cond.selects "MaypoleGreenModel" ({ cls := "MaypoleGreenModel", name := "trace", desc := "(I)I" } : Jvm.MethodName) ({ cls := "MaypoleGreenModel", name := "trace", desc := "(I)I" } : Jvm.MethodName)) ∈ lw_all := lw_g (lw_at lw_m7 66 rfl) rfl
theorem q1585 : (Jvm.Cond.code ({ cls := "MaypoleGreenModel", name := "trace", desc := "(I)I" } : Jvm.MethodName) prog_17_method_73_code (2 : Nat) (Option.some Jvm.ClassFile.FieldType.int)) ∈ lw_all := lw_g (lw_at lw_m7 67 rfl) rfl
theorem q1587 : (Jvm.Cond.instanceMethod ({ cls := "MaypoleGreenModel", name := "taken", desc := "(II)I" } : Jvm.MethodName)) ∈ lw_all := lw_g (lw_at lw_m7 69 rfl) rfl
theorem q1588 : (Jvm.Cond.selects "MaypoleGreenModel" ({ cls := "MaypoleGreenModel", name := "taken", desc := "(II)I" } : Jvm.MethodName) ({ cls := "MaypoleGreenModel", name := "taken", desc := "(II)I" } : Jvm.MethodName)) ∈ lw_all := lw_g (lw_at lw_m7 70 rfl) rfl
theorem q1589 : (Jvm.Cond.code ({ cls := "MaypoleGreenModel", name := "taken", desc := "(II)I" } : Jvm.MethodName) prog_17_method_74_code (3 : Nat) (Option.some Jvm.ClassFile.FieldType.int)) ∈ lw_all := lw_g (lw_at lw_m7 71 rfl) rfl
theorem q1591 : (Jvm.Cond.instanceMethod ({ cls := "MaypoleGreenModel", name := "count", desc := "(I)I" } : Jvm.MethodName)) ∈ lw_all := lw_g (lw_at lw_m7 73 rfl) rfl
theorem q1592 : (Jvm.Cond.selects "MaypoleGreenModel" ({ cls := "MaypoleGreenModel", name := "count", desc := "(I)I" } : Jvm.MethodName) ({ cls := "MaypoleGreenModel", name := "count", desc := "(I)I" } : Jvm.MethodName)) ∈ lw_all := lw_g (lw_at lw_m7 74 rfl) rfl
theorem q1593 : (Jvm.Cond.code ({ cls := "MaypoleGreenModel", name := "count", desc := "(I)I" } : Jvm.MethodName) prog_17_method_75_code (2 : Nat) (Option.some Jvm.ClassFile.FieldType.int)) ∈ lw_all := lw_g (lw_at lw_m7 75 rfl) rfl
theorem q1595 : (Jvm.Cond.instanceMethod ({ cls := "MaypoleGreenModel", name := "tape", desc := "(III)I" } : Jvm.MethodName)) ∈ lw_all := lw_g (lw_at lw_m7 77 rfl) rfl
theorem q1596 : (Jvm.Cond.selects "MaypoleGreenModel" ({ cls := "MaypoleGreenModel", name := "tape", desc := "(III)I" } : Jvm.MethodName) ({ cls := "MaypoleGreenModel", name := "tape", desc := "(III)I" } : Jvm.MethodName)) ∈ lw_all := lw_g (lw_at lw_m7 78 rfl) rfl
theorem q1597 : (Jvm.Cond.code ({ cls := "MaypoleGreenModel", name := "tape", desc := "(III)I" } : Jvm.MethodName) prog_17_method_77_code (5 : Nat) (Option.some Jvm.ClassFile.FieldType.int)) ∈ lw_all := lw_g (lw_at lw_m7 79 rfl) rfl
theorem q1599 : (Jvm.Cond.instanceMethod ({ cls := "MaypoleGreenModel", name := "item", desc := "(III)I" } : Jvm.MethodName)) ∈ lw_all := lw_g (lw_at lw_m7 81 rfl) rfl
theorem q1600 : (Jvm.Cond.selects "MaypoleGreenModel" ({ cls := "MaypoleGreenModel", name := "item", desc := "(III)I" } : Jvm.MethodName) ({ cls := "MaypoleGreenModel", name := "item", desc := "(III)I" } : Jvm.MethodName)) ∈ lw_all := lw_g (lw_at lw_m7 82 rfl) rfl
theorem q1601 : (Jvm.Cond.code ({ cls := "MaypoleGreenModel", name := "item", desc := "(III)I" } : Jvm.MethodName) prog_17_method_79_code (4 : Nat) (Option.some Jvm.ClassFile.FieldType.int)) ∈ lw_all := lw_g (lw_at lw_m7 83 rfl) rfl
theorem q1602 : (Jvm.Cond.methodLink "MaypoleGreenModel" (345 : Nat) ({ cls := "MaypoleGreenModel", name := "narrow", desc := "(II)I" } : Jvm.MethodName)) ∈ lw_all := lw_g (lw_at lw_m7 84 rfl) rfl
theorem q1603 : (Jvm.Cond.privateMethod ({ cls := "MaypoleGreenModel", name := "narrow", desc := "(II)I" } : Jvm.MethodName)) ∈ lw_tbl := lw_at lw_m7 85 rfl
theorem q1604 : (Jvm.Cond.instanceMethod ({ cls := "MaypoleGreenModel", name := "narrow", desc := "(II)I" } : Jvm.MethodName)) ∈ lw_all := lw_g (lw_at lw_m7 86 rfl) rfl
theorem q1605 : (Jvm.Cond.code ({ cls := "MaypoleGreenModel", name := "narrow", desc := "(II)I" } : Jvm.MethodName) prog_17_method_78_code (3 : Nat) (Option.some Jvm.ClassFile.FieldType.int)) ∈ lw_all := lw_g (lw_at lw_m7 87 rfl) rfl
theorem q1606 : (Jvm.Cond.constant "MaypoleGreenModel" (344 : Nat) (65535 : Int32)) ∈ lw_all := lw_g (lw_at lw_m7 88 rfl) rfl
theorem q1608 : (Jvm.Cond.instanceMethod ({ cls := "MaypoleGreenModel", name := "read", desc := "(II)I" } : Jvm.MethodName)) ∈ lw_all := lw_g (lw_at lw_m7 90 rfl) rfl
theorem q1609 : (Jvm.Cond.selects "MaypoleGreenModel" ({ cls := "MaypoleGreenModel", name := "read", desc := "(II)I" } : Jvm.MethodName) ({ cls := "MaypoleGreenModel", name := "read", desc := "(II)I" } : Jvm.MethodName)) ∈ lw_all := lw_g (lw_at lw_m7 91 rfl) rfl
theorem q1610 : (Jvm.Cond.code ({ cls := "MaypoleGreenModel", name := "read", desc := "(II)I" } : Jvm.MethodName) prog_17_method_80_code (3 : Nat) (Option.some Jvm.ClassFile.FieldType.int)) ∈ lw_all := lw_g (lw_at lw_m7 92 rfl) rfl
theorem q1611 : (Jvm.Cond.constant "MaypoleGreenModel" (348 : Nat) (-1000000000 : Int32)) ∈ lw_all := lw_g (lw_at lw_m7 93 rfl) rfl
theorem q1613 : (Jvm.Cond.instanceMethod ({ cls := "MaypoleGreenModel", name := "shift", desc := "(IIIII)I" } : Jvm.MethodName)) ∈ lw_all := lw_g (lw_at lw_m7 95 rfl) rfl
theorem q1614 : (Jvm.Cond.selects "MaypoleGreenModel" ({ cls := "MaypoleGreenModel", name := "shift", desc := "(IIIII)I" } : Jvm.MethodName) ({ cls := "MaypoleGreenModel", name := "shift", desc := "(IIIII)I" } : Jvm.MethodName)) ∈ lw_all := lw_g (lw_at lw_m7 96 rfl) rfl
theorem q1615 : (Jvm.Cond.code ({ cls := "MaypoleGreenModel", name := "shift", desc := "(IIIII)I" } : Jvm.MethodName) prog_17_method_81_code (7 : Nat) (Option.some Jvm.ClassFile.FieldType.int)) ∈ lw_all := lw_g (lw_at lw_m7 97 rfl) rfl
theorem in_X3 : ∀ w ∈ wsX30, w ∈ lw_all := lw_in wsX30 [1166, 1168, 1170, 1172, 1174, 1176, 1178, 1180, 1182, 1184, 1186, 1188, 1190, 1192, 1194, 1196, 1198, 1200, 1202, 1204, 1206, 1208, 1210, 1212, 1214, 1216, 1218, 1220, 1222, 1224, 1226, 1228, 1230, 1232, 1234, 1236, 1238, 1240, 1242, 1244, 1246, 1248, 1250, 1252, 1254, 1256, 1258, 1260, 1262, 1264, 1266, 1268, 1270, 1272, 1274, 1276, 1278, 1280, 1282, 1284, 1286] (by decide +kernel) (by decide +kernel)
