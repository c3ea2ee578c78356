/-! MaypoleGreen -/
set_option maxRecDepth 100000
def RX0 : String := "MaypoleGreen"
def TX0 : u_T := fun k => match k with
  | 0 => ("MaypoleGreen", "people", "[LMaypoleGreen$Dancer;", true)
  | 1 => ("MaypoleGreen", "many", "I", false)
  | 2 => ("MaypoleGreen", "places", "I", false)
  | 3 => ("MaypoleGreen", "personAt", "[I", true)
  | 4 => ("MaypoleGreen", "colour", "[I", true)
  | 5 => ("MaypoleGreen", "length", "[I", true)
  | 6 => ("MaypoleGreen", "isDanced", "Z", false)
  | 7 => ("MaypoleGreen", "round", "LMaypoleGreen$Round;", false)
  | 8 => ("MaypoleGreen", "trial", "LMaypoleGreen$Round;", false)
  | 9 => ("MaypoleGreen", "colours", "[I", true)
  | 10 => ("MaypoleGreen", "lengths", "[I", true)
  | 11 => ("MaypoleGreen", "dance", "[I", true)
  | 12 => ("MaypoleGreen", "steps", "I", false)
  | 13 => ("MaypoleGreen", "figures", "[LMaypoleGreen$Figure;", true)
  | 14 => ("MaypoleGreen", "figured", "I", false)
  | 15 => ("MaypoleGreen", "text", "[B", true)
  | 16 => ("MaypoleGreen", "texted", "I", false)
  | 17 => ("MaypoleGreen", "trace", "LMaypoleGreen$Trace;", true)
  | 18 => ("MaypoleGreen", "tapes", "[LMaypoleGreen$Tape;", true)
  | 19 => ("MaypoleGreen", "moved", "[I", true)
  | 20 => ("MaypoleGreen", "thingRow", "[I", true)
  | 21 => ("MaypoleGreen", "thingPlace", "[I", true)
  | 22 => ("MaypoleGreen", "thingColour", "[I", true)
  | 23 => ("MaypoleGreen", "things", "I", false)
  | 24 => ("MaypoleGreen", "tried", "[I", true)
  | 25 => ("MaypoleGreen", "best", "[I", true)
  | 26 => ("MaypoleGreen", "orders", "LMaypoleGreen$Orders;", false)
  | 27 => ("MaypoleGreen", "row", "[I", true)
  | 28 => ("MaypoleGreen", "bestRow", "[I", true)
  | _ => ("MaypoleGreen", "bestSum", "I", false)
def tyX0 : Nat → FieldType := fun k => match k with
  | 0 => .array (.object "MaypoleGreen$Dancer")
  | 1 => .int
  | 2 => .int
  | 3 => .array .int
  | 4 => .array .int
  | 5 => .array .int
  | 6 => .boolean
  | 7 => .object "MaypoleGreen$Round"
  | 8 => .object "MaypoleGreen$Round"
  | 9 => .array .int
  | 10 => .array .int
  | 11 => .array .int
  | 12 => .int
  | 13 => .array (.object "MaypoleGreen$Figure")
  | 14 => .int
  | 15 => .array .byte
  | 16 => .int
  | 17 => .object "MaypoleGreen$Trace"
  | 18 => .array (.object "MaypoleGreen$Tape")
  | 19 => .array .int
  | 20 => .array .int
  | 21 => .array .int
  | 22 => .array .int
  | 23 => .int
  | 24 => .array .int
  | 25 => .array .int
  | 26 => .object "MaypoleGreen$Orders"
  | 27 => .array .int
  | 28 => .array .int
  | _ => .int
abbrev wsX00 : List Cond := u_ws RX0 TX0 30
set_option maxRecDepth 100000 in
theorem nmX0 : ∀ a, a < 30 → ∀ b, b < 30 → a ≠ b → (TX0 a).2.1 ≠ (TX0 b).2.1 := by decide +kernel
set_option maxRecDepth 100000 in
theorem tyX0_ok : ∀ k, k < 30 → parseFieldDescriptor (TX0 k).2.2.1 = some (tyX0 k) := by decide +kernel
abbrev cX0_init : ByteArray := prog_1_method_3_code
def yX0_init : MethodName := ⟨RX0, "<init>", "()V"⟩
def dkwX0_init_7 : List UInt8 := [162, 0, 22, 42, 180, 0, 53, 27, 187, 0, 51, 89, 183, 0, 81, 83, 132, 1, 1, 167, 255, 234, 177]
abbrev dktX0_init_7 : List UInt8 := dkwX0_init_7 ++ []
def dkwX0_init_6 : List UInt8 := [181, 0, 72, 42, 16, 7, 188, 10, 181, 0, 75, 42, 16, 7, 188, 10, 181, 0, 78, 3, 60, 27, 16, 6]
abbrev dktX0_init_6 : List UInt8 := dkwX0_init_6 ++ dktX0_init_7
def dkwX0_init_5 : List UInt8 := [181, 0, 63, 42, 16, 40, 188, 10, 181, 0, 66, 42, 16, 9, 188, 10, 181, 0, 69, 42, 16, 9, 188, 10]
abbrev dktX0_init_5 : List UInt8 := dkwX0_init_5 ++ dktX0_init_6
def dkwX0_init_4 : List UInt8 := [181, 0, 53, 42, 16, 9, 188, 10, 181, 0, 57, 42, 16, 40, 188, 10, 181, 0, 60, 42, 16, 40, 188, 10]
abbrev dktX0_init_4 : List UInt8 := dkwX0_init_4 ++ dktX0_init_5
def dkwX0_init_3 : List UInt8 := [16, 80, 188, 8, 181, 0, 40, 42, 187, 0, 44, 89, 183, 0, 46, 181, 0, 47, 42, 16, 6, 189, 0, 51]
abbrev dktX0_init_3 : List UInt8 := dkwX0_init_3 ++ dktX0_init_4
def dkwX0_init_2 : List UInt8 := [188, 10, 181, 0, 28, 42, 17, 1, 44, 188, 10, 181, 0, 31, 42, 16, 10, 189, 0, 34, 181, 0, 36, 42]
abbrev dktX0_init_2 : List UInt8 := dkwX0_init_2 ++ dktX0_init_3
def dkwX0_init_1 : List UInt8 := [188, 10, 181, 0, 19, 42, 16, 9, 188, 10, 181, 0, 22, 42, 16, 9, 188, 10, 181, 0, 25, 42, 16, 9]
abbrev dktX0_init_1 : List UInt8 := dkwX0_init_1 ++ dktX0_init_2
def dkwX0_init_0 : List UInt8 := [42, 183, 0, 3, 42, 16, 15, 189, 0, 9, 181, 0, 11, 42, 16, 9, 188, 10, 181, 0, 15, 42, 16, 9]
abbrev dktX0_init_0 : List UInt8 := dkwX0_init_0 ++ dktX0_init_1
theorem dksX0_init_0 : cX0_init.data.toList.drop 0 = dktX0_init_0 := by decide +kernel
theorem dksX0_init_1 : cX0_init.data.toList.drop 24 = dktX0_init_1 := dk_seg dksX0_init_0 24 rfl rfl
theorem dksX0_init_2 : cX0_init.data.toList.drop 48 = dktX0_init_2 := dk_seg dksX0_init_1 24 rfl rfl
theorem dksX0_init_3 : cX0_init.data.toList.drop 72 = dktX0_init_3 := dk_seg dksX0_init_2 24 rfl rfl
theorem dksX0_init_4 : cX0_init.data.toList.drop 96 = dktX0_init_4 := dk_seg dksX0_init_3 24 rfl rfl
theorem dksX0_init_5 : cX0_init.data.toList.drop 120 = dktX0_init_5 := dk_seg dksX0_init_4 24 rfl rfl
theorem dksX0_init_6 : cX0_init.data.toList.drop 144 = dktX0_init_6 := dk_seg dksX0_init_5 24 rfl rfl
theorem dksX0_init_7 : cX0_init.data.toList.drop 168 = dktX0_init_7 := dk_seg dksX0_init_6 24 rfl rfl
theorem dX0_init_0 : decode cX0_init 0 = .ok (.aload_n 0, 1) := dk_42 (dk_at dksX0_init_0 0 rfl rfl)
theorem dX0_init_1 : decode cX0_init 1 = .ok (.invokespecial 3, 3) := dk_183 0 3 (dk_at dksX0_init_0 1 rfl rfl)
theorem dX0_init_4 : decode cX0_init 4 = .ok (.aload_n 0, 1) := dk_42 (dk_at dksX0_init_0 4 rfl rfl)
theorem dX0_init_5 : decode cX0_init 5 = .ok (.bipush 15, 2) := dk_16 15 (dk_at dksX0_init_0 5 rfl rfl)
theorem dX0_init_7 : decode cX0_init 7 = .ok (.anewarray 9, 3) := dk_189 0 9 (dk_at dksX0_init_0 7 rfl rfl)
theorem dX0_init_10 : decode cX0_init 10 = .ok (.putfield 11, 3) := dk_181 0 11 (dk_at dksX0_init_0 10 rfl rfl)
theorem dX0_init_13 : decode cX0_init 13 = .ok (.aload_n 0, 1) := dk_42 (dk_at dksX0_init_0 13 rfl rfl)
theorem dX0_init_14 : decode cX0_init 14 = .ok (.bipush 9, 2) := dk_16 9 (dk_at dksX0_init_0 14 rfl rfl)
theorem dX0_init_16 : decode cX0_init 16 = .ok (.newarray .int, 2) := dk_188_10 (dk_at dksX0_init_0 16 rfl rfl)
theorem dX0_init_18 : decode cX0_init 18 = .ok (.putfield 15, 3) := dk_181 0 15 (dk_at dksX0_init_0 18 rfl rfl)
theorem dX0_init_21 : decode cX0_init 21 = .ok (.aload_n 0, 1) := dk_42 (dk_at dksX0_init_0 21 rfl rfl)
theorem dX0_init_22 : decode cX0_init 22 = .ok (.bipush 9, 2) := dk_16 9 (dk_at dksX0_init_0 22 rfl rfl)
theorem dX0_init_24 : decode cX0_init 24 = .ok (.newarray .int, 2) := dk_188_10 (dk_at dksX0_init_1 0 rfl rfl)
theorem dX0_init_26 : decode cX0_init 26 = .ok (.putfield 19, 3) := dk_181 0 19 (dk_at dksX0_init_1 2 rfl rfl)
theorem dX0_init_29 : decode cX0_init 29 = .ok (.aload_n 0, 1) := dk_42 (dk_at dksX0_init_1 5 rfl rfl)
theorem dX0_init_30 : decode cX0_init 30 = .ok (.bipush 9, 2) := dk_16 9 (dk_at dksX0_init_1 6 rfl rfl)
theorem dX0_init_32 : decode cX0_init 32 = .ok (.newarray .int, 2) := dk_188_10 (dk_at dksX0_init_1 8 rfl rfl)
theorem dX0_init_34 : decode cX0_init 34 = .ok (.putfield 22, 3) := dk_181 0 22 (dk_at dksX0_init_1 10 rfl rfl)
theorem dX0_init_37 : decode cX0_init 37 = .ok (.aload_n 0, 1) := dk_42 (dk_at dksX0_init_1 13 rfl rfl)
theorem dX0_init_38 : decode cX0_init 38 = .ok (.bipush 9, 2) := dk_16 9 (dk_at dksX0_init_1 14 rfl rfl)
theorem dX0_init_40 : decode cX0_init 40 = .ok (.newarray .int, 2) := dk_188_10 (dk_at dksX0_init_1 16 rfl rfl)
theorem dX0_init_42 : decode cX0_init 42 = .ok (.putfield 25, 3) := dk_181 0 25 (dk_at dksX0_init_1 18 rfl rfl)
theorem dX0_init_45 : decode cX0_init 45 = .ok (.aload_n 0, 1) := dk_42 (dk_at dksX0_init_1 21 rfl rfl)
theorem dX0_init_46 : decode cX0_init 46 = .ok (.bipush 9, 2) := dk_16 9 (dk_at dksX0_init_1 22 rfl rfl)
theorem dX0_init_48 : decode cX0_init 48 = .ok (.newarray .int, 2) := dk_188_10 (dk_at dksX0_init_2 0 rfl rfl)
theorem dX0_init_50 : decode cX0_init 50 = .ok (.putfield 28, 3) := dk_181 0 28 (dk_at dksX0_init_2 2 rfl rfl)
theorem dX0_init_53 : decode cX0_init 53 = .ok (.aload_n 0, 1) := dk_42 (dk_at dksX0_init_2 5 rfl rfl)
theorem dX0_init_54 : decode cX0_init 54 = .ok (.sipush 300, 3) := dk_17 1 44 (dk_at dksX0_init_2 6 rfl rfl)
theorem dX0_init_57 : decode cX0_init 57 = .ok (.newarray .int, 2) := dk_188_10 (dk_at dksX0_init_2 9 rfl rfl)
theorem dX0_init_59 : decode cX0_init 59 = .ok (.putfield 31, 3) := dk_181 0 31 (dk_at dksX0_init_2 11 rfl rfl)
theorem dX0_init_62 : decode cX0_init 62 = .ok (.aload_n 0, 1) := dk_42 (dk_at dksX0_init_2 14 rfl rfl)
theorem dX0_init_63 : decode cX0_init 63 = .ok (.bipush 10, 2) := dk_16 10 (dk_at dksX0_init_2 15 rfl rfl)
theorem dX0_init_65 : decode cX0_init 65 = .ok (.anewarray 34, 3) := dk_189 0 34 (dk_at dksX0_init_2 17 rfl rfl)
theorem dX0_init_68 : decode cX0_init 68 = .ok (.putfield 36, 3) := dk_181 0 36 (dk_at dksX0_init_2 20 rfl rfl)
theorem dX0_init_71 : decode cX0_init 71 = .ok (.aload_n 0, 1) := dk_42 (dk_at dksX0_init_2 23 rfl rfl)
theorem dX0_init_72 : decode cX0_init 72 = .ok (.bipush 80, 2) := dk_16 80 (dk_at dksX0_init_3 0 rfl rfl)
theorem dX0_init_74 : decode cX0_init 74 = .ok (.newarray .byte, 2) := dk_188_8 (dk_at dksX0_init_3 2 rfl rfl)
theorem dX0_init_76 : decode cX0_init 76 = .ok (.putfield 40, 3) := dk_181 0 40 (dk_at dksX0_init_3 4 rfl rfl)
theorem dX0_init_79 : decode cX0_init 79 = .ok (.aload_n 0, 1) := dk_42 (dk_at dksX0_init_3 7 rfl rfl)
theorem dX0_init_80 : decode cX0_init 80 = .ok (.new 44, 3) := dk_187 0 44 (dk_at dksX0_init_3 8 rfl rfl)
theorem dX0_init_83 : decode cX0_init 83 = .ok (.dup, 1) := dk_89 (dk_at dksX0_init_3 11 rfl rfl)
theorem dX0_init_84 : decode cX0_init 84 = .ok (.invokespecial 46, 3) := dk_183 0 46 (dk_at dksX0_init_3 12 rfl rfl)
theorem dX0_init_87 : decode cX0_init 87 = .ok (.putfield 47, 3) := dk_181 0 47 (dk_at dksX0_init_3 15 rfl rfl)
theorem dX0_init_90 : decode cX0_init 90 = .ok (.aload_n 0, 1) := dk_42 (dk_at dksX0_init_3 18 rfl rfl)
theorem dX0_init_91 : decode cX0_init 91 = .ok (.bipush 6, 2) := dk_16 6 (dk_at dksX0_init_3 19 rfl rfl)
theorem dX0_init_93 : decode cX0_init 93 = .ok (.anewarray 51, 3) := dk_189 0 51 (dk_at dksX0_init_3 21 rfl rfl)
theorem dX0_init_96 : decode cX0_init 96 = .ok (.putfield 53, 3) := dk_181 0 53 (dk_at dksX0_init_4 0 rfl rfl)
theorem dX0_init_99 : decode cX0_init 99 = .ok (.aload_n 0, 1) := dk_42 (dk_at dksX0_init_4 3 rfl rfl)
theorem dX0_init_100 : decode cX0_init 100 = .ok (.bipush 9, 2) := dk_16 9 (dk_at dksX0_init_4 4 rfl rfl)
theorem dX0_init_102 : decode cX0_init 102 = .ok (.newarray .int, 2) := dk_188_10 (dk_at dksX0_init_4 6 rfl rfl)
theorem dX0_init_104 : decode cX0_init 104 = .ok (.putfield 57, 3) := dk_181 0 57 (dk_at dksX0_init_4 8 rfl rfl)
theorem dX0_init_107 : decode cX0_init 107 = .ok (.aload_n 0, 1) := dk_42 (dk_at dksX0_init_4 11 rfl rfl)
theorem dX0_init_108 : decode cX0_init 108 = .ok (.bipush 40, 2) := dk_16 40 (dk_at dksX0_init_4 12 rfl rfl)
theorem dX0_init_110 : decode cX0_init 110 = .ok (.newarray .int, 2) := dk_188_10 (dk_at dksX0_init_4 14 rfl rfl)
theorem dX0_init_112 : decode cX0_init 112 = .ok (.putfield 60, 3) := dk_181 0 60 (dk_at dksX0_init_4 16 rfl rfl)
theorem dX0_init_115 : decode cX0_init 115 = .ok (.aload_n 0, 1) := dk_42 (dk_at dksX0_init_4 19 rfl rfl)
theorem dX0_init_116 : decode cX0_init 116 = .ok (.bipush 40, 2) := dk_16 40 (dk_at dksX0_init_4 20 rfl rfl)
theorem dX0_init_118 : decode cX0_init 118 = .ok (.newarray .int, 2) := dk_188_10 (dk_at dksX0_init_4 22 rfl rfl)
theorem dX0_init_120 : decode cX0_init 120 = .ok (.putfield 63, 3) := dk_181 0 63 (dk_at dksX0_init_5 0 rfl rfl)
theorem dX0_init_123 : decode cX0_init 123 = .ok (.aload_n 0, 1) := dk_42 (dk_at dksX0_init_5 3 rfl rfl)
theorem dX0_init_124 : decode cX0_init 124 = .ok (.bipush 40, 2) := dk_16 40 (dk_at dksX0_init_5 4 rfl rfl)
theorem dX0_init_126 : decode cX0_init 126 = .ok (.newarray .int, 2) := dk_188_10 (dk_at dksX0_init_5 6 rfl rfl)
theorem dX0_init_128 : decode cX0_init 128 = .ok (.putfield 66, 3) := dk_181 0 66 (dk_at dksX0_init_5 8 rfl rfl)
theorem dX0_init_131 : decode cX0_init 131 = .ok (.aload_n 0, 1) := dk_42 (dk_at dksX0_init_5 11 rfl rfl)
theorem dX0_init_132 : decode cX0_init 132 = .ok (.bipush 9, 2) := dk_16 9 (dk_at dksX0_init_5 12 rfl rfl)
theorem dX0_init_134 : decode cX0_init 134 = .ok (.newarray .int, 2) := dk_188_10 (dk_at dksX0_init_5 14 rfl rfl)
theorem dX0_init_136 : decode cX0_init 136 = .ok (.putfield 69, 3) := dk_181 0 69 (dk_at dksX0_init_5 16 rfl rfl)
theorem dX0_init_139 : decode cX0_init 139 = .ok (.aload_n 0, 1) := dk_42 (dk_at dksX0_init_5 19 rfl rfl)
theorem dX0_init_140 : decode cX0_init 140 = .ok (.bipush 9, 2) := dk_16 9 (dk_at dksX0_init_5 20 rfl rfl)
theorem dX0_init_142 : decode cX0_init 142 = .ok (.newarray .int, 2) := dk_188_10 (dk_at dksX0_init_5 22 rfl rfl)
theorem dX0_init_144 : decode cX0_init 144 = .ok (.putfield 72, 3) := dk_181 0 72 (dk_at dksX0_init_6 0 rfl rfl)
theorem dX0_init_147 : decode cX0_init 147 = .ok (.aload_n 0, 1) := dk_42 (dk_at dksX0_init_6 3 rfl rfl)
theorem dX0_init_148 : decode cX0_init 148 = .ok (.bipush 7, 2) := dk_16 7 (dk_at dksX0_init_6 4 rfl rfl)
theorem dX0_init_150 : decode cX0_init 150 = .ok (.newarray .int, 2) := dk_188_10 (dk_at dksX0_init_6 6 rfl rfl)
theorem dX0_init_152 : decode cX0_init 152 = .ok (.putfield 75, 3) := dk_181 0 75 (dk_at dksX0_init_6 8 rfl rfl)
theorem dX0_init_155 : decode cX0_init 155 = .ok (.aload_n 0, 1) := dk_42 (dk_at dksX0_init_6 11 rfl rfl)
theorem dX0_init_156 : decode cX0_init 156 = .ok (.bipush 7, 2) := dk_16 7 (dk_at dksX0_init_6 12 rfl rfl)
theorem dX0_init_158 : decode cX0_init 158 = .ok (.newarray .int, 2) := dk_188_10 (dk_at dksX0_init_6 14 rfl rfl)
theorem dX0_init_160 : decode cX0_init 160 = .ok (.putfield 78, 3) := dk_181 0 78 (dk_at dksX0_init_6 16 rfl rfl)
theorem dX0_init_163 : decode cX0_init 163 = .ok (.iconst 0, 1) := dk_3 (dk_at dksX0_init_6 19 rfl rfl)
theorem dX0_init_164 : decode cX0_init 164 = .ok (.istore_n 1, 1) := dk_60 (dk_at dksX0_init_6 20 rfl rfl)
theorem dX0_init_165 : decode cX0_init 165 = .ok (.iload_n 1, 1) := dk_27 (dk_at dksX0_init_6 21 rfl rfl)
theorem dX0_init_166 : decode cX0_init 166 = .ok (.bipush 6, 2) := dk_16 6 (dk_at dksX0_init_6 22 rfl rfl)
theorem dX0_init_168 : decode cX0_init 168 = .ok (.if_icmp .ge 22, 3) := dk_162 0 22 (dk_at dksX0_init_7 0 rfl rfl)
theorem dX0_init_171 : decode cX0_init 171 = .ok (.aload_n 0, 1) := dk_42 (dk_at dksX0_init_7 3 rfl rfl)
theorem dX0_init_172 : decode cX0_init 172 = .ok (.getfield 53, 3) := dk_180 0 53 (dk_at dksX0_init_7 4 rfl rfl)
theorem dX0_init_175 : decode cX0_init 175 = .ok (.iload_n 1, 1) := dk_27 (dk_at dksX0_init_7 7 rfl rfl)
theorem dX0_init_176 : decode cX0_init 176 = .ok (.new 51, 3) := dk_187 0 51 (dk_at dksX0_init_7 8 rfl rfl)
theorem dX0_init_179 : decode cX0_init 179 = .ok (.dup, 1) := dk_89 (dk_at dksX0_init_7 11 rfl rfl)
theorem dX0_init_180 : decode cX0_init 180 = .ok (.invokespecial 81, 3) := dk_183 0 81 (dk_at dksX0_init_7 12 rfl rfl)
theorem dX0_init_183 : decode cX0_init 183 = .ok (.aastore, 1) := dk_83 (dk_at dksX0_init_7 15 rfl rfl)
theorem dX0_init_184 : decode cX0_init 184 = .ok (.iinc 1 1, 3) := dk_132 1 1 (dk_at dksX0_init_7 16 rfl rfl)
theorem dX0_init_187 : decode cX0_init 187 = .ok (.goto (-22), 3) := dk_167 255 234 (dk_at dksX0_init_7 19 rfl rfl)
theorem dX0_init_190 : decode cX0_init 190 = .ok (.return_, 1) := dk_177 (dk_at dksX0_init_7 22 rfl rfl)
abbrev cX0_person : ByteArray := prog_1_method_8_code
def yX0_person : MethodName := ⟨RX0, "person", "(III)I"⟩
def dkwX0_person_3 : List UInt8 := [181, 0, 82, 172]
abbrev dktX0_person_3 : List UInt8 := dkwX0_person_3 ++ []
def dkwX0_person_2 : List UInt8 := [180, 0, 11, 42, 180, 0, 82, 42, 27, 28, 29, 182, 0, 111, 83, 42, 89, 180, 0, 82, 90, 4, 96]
abbrev dktX0_person_2 : List UInt8 := dkwX0_person_2 ++ dktX0_person_3
def dkwX0_person_1 : List UInt8 := [184, 0, 86, 154, 0, 6, 16, 254, 172, 42, 180, 0, 82, 16, 15, 160, 0, 6, 16, 252, 172, 42]
abbrev dktX0_person_1 : List UInt8 := dkwX0_person_1 ++ dktX0_person_2
def dkwX0_person_0 : List UInt8 := [27, 3, 7, 184, 0, 86, 153, 0, 23, 28, 4, 16, 20, 184, 0, 86, 153, 0, 13, 29, 4, 16, 9]
abbrev dktX0_person_0 : List UInt8 := dkwX0_person_0 ++ dktX0_person_1
theorem dksX0_person_0 : cX0_person.data.toList.drop 0 = dktX0_person_0 := by decide +kernel
theorem dksX0_person_1 : cX0_person.data.toList.drop 23 = dktX0_person_1 := dk_seg dksX0_person_0 23 rfl rfl
theorem dksX0_person_2 : cX0_person.data.toList.drop 45 = dktX0_person_2 := dk_seg dksX0_person_1 22 rfl rfl
theorem dksX0_person_3 : cX0_person.data.toList.drop 68 = dktX0_person_3 := dk_seg dksX0_person_2 23 rfl rfl
theorem dX0_person_0 : decode cX0_person 0 = .ok (.iload_n 1, 1) := dk_27 (dk_at dksX0_person_0 0 rfl rfl)
theorem dX0_person_1 : decode cX0_person 1 = .ok (.iconst 0, 1) := dk_3 (dk_at dksX0_person_0 1 rfl rfl)
theorem dX0_person_2 : decode cX0_person 2 = .ok (.iconst 4, 1) := dk_7 (dk_at dksX0_person_0 2 rfl rfl)
theorem dX0_person_3 : decode cX0_person 3 = .ok (.invokestatic 86, 3) := dk_184 0 86 (dk_at dksX0_person_0 3 rfl rfl)
theorem dX0_person_6 : decode cX0_person 6 = .ok (.ifCond .eq 23, 3) := dk_153 0 23 (dk_at dksX0_person_0 6 rfl rfl)
theorem dX0_person_9 : decode cX0_person 9 = .ok (.iload_n 2, 1) := dk_28 (dk_at dksX0_person_0 9 rfl rfl)
theorem dX0_person_10 : decode cX0_person 10 = .ok (.iconst 1, 1) := dk_4 (dk_at dksX0_person_0 10 rfl rfl)
theorem dX0_person_11 : decode cX0_person 11 = .ok (.bipush 20, 2) := dk_16 20 (dk_at dksX0_person_0 11 rfl rfl)
theorem dX0_person_13 : decode cX0_person 13 = .ok (.invokestatic 86, 3) := dk_184 0 86 (dk_at dksX0_person_0 13 rfl rfl)
theorem dX0_person_16 : decode cX0_person 16 = .ok (.ifCond .eq 13, 3) := dk_153 0 13 (dk_at dksX0_person_0 16 rfl rfl)
theorem dX0_person_19 : decode cX0_person 19 = .ok (.iload_n 3, 1) := dk_29 (dk_at dksX0_person_0 19 rfl rfl)
theorem dX0_person_20 : decode cX0_person 20 = .ok (.iconst 1, 1) := dk_4 (dk_at dksX0_person_0 20 rfl rfl)
theorem dX0_person_21 : decode cX0_person 21 = .ok (.bipush 9, 2) := dk_16 9 (dk_at dksX0_person_0 21 rfl rfl)
theorem dX0_person_23 : decode cX0_person 23 = .ok (.invokestatic 86, 3) := dk_184 0 86 (dk_at dksX0_person_1 0 rfl rfl)
theorem dX0_person_26 : decode cX0_person 26 = .ok (.ifCond .ne 6, 3) := dk_154 0 6 (dk_at dksX0_person_1 3 rfl rfl)
theorem dX0_person_29 : decode cX0_person 29 = .ok (.bipush (-2), 2) := dk_16 254 (dk_at dksX0_person_1 6 rfl rfl)
theorem dX0_person_31 : decode cX0_person 31 = .ok (.ireturn, 1) := dk_172 (dk_at dksX0_person_1 8 rfl rfl)
theorem dX0_person_32 : decode cX0_person 32 = .ok (.aload_n 0, 1) := dk_42 (dk_at dksX0_person_1 9 rfl rfl)
theorem dX0_person_33 : decode cX0_person 33 = .ok (.getfield 82, 3) := dk_180 0 82 (dk_at dksX0_person_1 10 rfl rfl)
theorem dX0_person_36 : decode cX0_person 36 = .ok (.bipush 15, 2) := dk_16 15 (dk_at dksX0_person_1 13 rfl rfl)
theorem dX0_person_38 : decode cX0_person 38 = .ok (.if_icmp .ne 6, 3) := dk_160 0 6 (dk_at dksX0_person_1 15 rfl rfl)
theorem dX0_person_41 : decode cX0_person 41 = .ok (.bipush (-4), 2) := dk_16 252 (dk_at dksX0_person_1 18 rfl rfl)
theorem dX0_person_43 : decode cX0_person 43 = .ok (.ireturn, 1) := dk_172 (dk_at dksX0_person_1 20 rfl rfl)
theorem dX0_person_44 : decode cX0_person 44 = .ok (.aload_n 0, 1) := dk_42 (dk_at dksX0_person_1 21 rfl rfl)
theorem dX0_person_45 : decode cX0_person 45 = .ok (.getfield 11, 3) := dk_180 0 11 (dk_at dksX0_person_2 0 rfl rfl)
theorem dX0_person_48 : decode cX0_person 48 = .ok (.aload_n 0, 1) := dk_42 (dk_at dksX0_person_2 3 rfl rfl)
theorem dX0_person_49 : decode cX0_person 49 = .ok (.getfield 82, 3) := dk_180 0 82 (dk_at dksX0_person_2 4 rfl rfl)
theorem dX0_person_52 : decode cX0_person 52 = .ok (.aload_n 0, 1) := dk_42 (dk_at dksX0_person_2 7 rfl rfl)
theorem dX0_person_53 : decode cX0_person 53 = .ok (.iload_n 1, 1) := dk_27 (dk_at dksX0_person_2 8 rfl rfl)
theorem dX0_person_54 : decode cX0_person 54 = .ok (.iload_n 2, 1) := dk_28 (dk_at dksX0_person_2 9 rfl rfl)
theorem dX0_person_55 : decode cX0_person 55 = .ok (.iload_n 3, 1) := dk_29 (dk_at dksX0_person_2 10 rfl rfl)
theorem dX0_person_56 : decode cX0_person 56 = .ok (.invokevirtual 111, 3) := dk_182 0 111 (dk_at dksX0_person_2 11 rfl rfl)
theorem dX0_person_59 : decode cX0_person 59 = .ok (.aastore, 1) := dk_83 (dk_at dksX0_person_2 14 rfl rfl)
theorem dX0_person_60 : decode cX0_person 60 = .ok (.aload_n 0, 1) := dk_42 (dk_at dksX0_person_2 15 rfl rfl)
theorem dX0_person_61 : decode cX0_person 61 = .ok (.dup, 1) := dk_89 (dk_at dksX0_person_2 16 rfl rfl)
theorem dX0_person_62 : decode cX0_person 62 = .ok (.getfield 82, 3) := dk_180 0 82 (dk_at dksX0_person_2 17 rfl rfl)
theorem dX0_person_65 : decode cX0_person 65 = .ok (.dup_x1, 1) := dk_90 (dk_at dksX0_person_2 20 rfl rfl)
theorem dX0_person_66 : decode cX0_person 66 = .ok (.iconst 1, 1) := dk_4 (dk_at dksX0_person_2 21 rfl rfl)
theorem dX0_person_67 : decode cX0_person 67 = .ok (.iadd, 1) := dk_96 (dk_at dksX0_person_2 22 rfl rfl)
theorem dX0_person_68 : decode cX0_person 68 = .ok (.putfield 82, 3) := dk_181 0 82 (dk_at dksX0_person_3 0 rfl rfl)
theorem dX0_person_71 : decode cX0_person 71 = .ok (.ireturn, 1) := dk_172 (dk_at dksX0_person_3 3 rfl rfl)
abbrev cX0_in : ByteArray := prog_1_method_1_code
def yX0_in : MethodName := ⟨RX0, "in", "(III)Z"⟩
def dkwX0_in_0 : List UInt8 := [26, 27, 161, 0, 12, 26, 28, 163, 0, 7, 4, 167, 0, 4, 3, 172]
abbrev dktX0_in_0 : List UInt8 := dkwX0_in_0 ++ []
theorem dksX0_in_0 : cX0_in.data.toList.drop 0 = dktX0_in_0 := by decide +kernel
theorem dX0_in_0 : decode cX0_in 0 = .ok (.iload_n 0, 1) := dk_26 (dk_at dksX0_in_0 0 rfl rfl)
theorem dX0_in_1 : decode cX0_in 1 = .ok (.iload_n 1, 1) := dk_27 (dk_at dksX0_in_0 1 rfl rfl)
theorem dX0_in_2 : decode cX0_in 2 = .ok (.if_icmp .lt 12, 3) := dk_161 0 12 (dk_at dksX0_in_0 2 rfl rfl)
theorem dX0_in_5 : decode cX0_in 5 = .ok (.iload_n 0, 1) := dk_26 (dk_at dksX0_in_0 5 rfl rfl)
theorem dX0_in_6 : decode cX0_in 6 = .ok (.iload_n 2, 1) := dk_28 (dk_at dksX0_in_0 6 rfl rfl)
theorem dX0_in_7 : decode cX0_in 7 = .ok (.if_icmp .gt 7, 3) := dk_163 0 7 (dk_at dksX0_in_0 7 rfl rfl)
theorem dX0_in_10 : decode cX0_in 10 = .ok (.iconst 1, 1) := dk_4 (dk_at dksX0_in_0 10 rfl rfl)
theorem dX0_in_11 : decode cX0_in 11 = .ok (.goto 4, 3) := dk_167 0 4 (dk_at dksX0_in_0 11 rfl rfl)
theorem dX0_in_14 : decode cX0_in 14 = .ok (.iconst 0, 1) := dk_3 (dk_at dksX0_in_0 14 rfl rfl)
theorem dX0_in_15 : decode cX0_in 15 = .ok (.ireturn, 1) := dk_172 (dk_at dksX0_in_0 15 rfl rfl)
abbrev cX0_made : ByteArray := prog_1_method_7_code
def yX0_made : MethodName := ⟨RX0, "made", "(III)LMaypoleGreen$Dancer;"⟩
def dkwX0_made_5 : List UInt8 := [183, 0, 107, 176, 187, 0, 108, 89, 42, 180, 0, 47, 42, 180, 0, 82, 28, 29, 183, 0, 110, 176]
abbrev dktX0_made_5 : List UInt8 := dkwX0_made_5 ++ []
def dkwX0_made_4 : List UInt8 := [180, 0, 82, 28, 29, 183, 0, 104, 176, 187, 0, 105, 89, 42, 180, 0, 47, 42, 180, 0, 82, 28, 29]
abbrev dktX0_made_4 : List UInt8 := dkwX0_made_4 ++ dktX0_made_5
def dkwX0_made_3 : List UInt8 := [180, 0, 47, 42, 180, 0, 82, 28, 29, 183, 0, 101, 176, 187, 0, 102, 89, 42, 180, 0, 47, 42]
abbrev dktX0_made_3 : List UInt8 := dkwX0_made_3 ++ dktX0_made_4
def dkwX0_made_2 : List UInt8 := [187, 0, 9, 89, 42, 180, 0, 47, 42, 180, 0, 82, 28, 29, 183, 0, 96, 176, 187, 0, 99, 89, 42]
abbrev dktX0_made_2 : List UInt8 := dkwX0_made_2 ++ dktX0_made_3
def dkwX0_made_1 : List UInt8 := [170, 0, 0, 0, 0, 0, 103, 0, 0, 0, 0, 0, 0, 0, 3, 0, 0, 0, 31, 0, 0, 0, 49, 0, 0, 0, 67, 0, 0, 0, 85]
abbrev dktX0_made_1 : List UInt8 := dkwX0_made_1 ++ dktX0_made_2
def dkwX0_made_0 : List UInt8 := [27]
abbrev dktX0_made_0 : List UInt8 := dkwX0_made_0 ++ dktX0_made_1
theorem dksX0_made_0 : cX0_made.data.toList.drop 0 = dktX0_made_0 := by decide +kernel
theorem dksX0_made_1 : cX0_made.data.toList.drop 1 = dktX0_made_1 := dk_seg dksX0_made_0 1 rfl rfl
theorem dksX0_made_2 : cX0_made.data.toList.drop 32 = dktX0_made_2 := dk_seg dksX0_made_1 31 rfl rfl
theorem dksX0_made_3 : cX0_made.data.toList.drop 55 = dktX0_made_3 := dk_seg dksX0_made_2 23 rfl rfl
theorem dksX0_made_4 : cX0_made.data.toList.drop 77 = dktX0_made_4 := dk_seg dksX0_made_3 22 rfl rfl
theorem dksX0_made_5 : cX0_made.data.toList.drop 100 = dktX0_made_5 := dk_seg dksX0_made_4 23 rfl rfl
theorem dX0_made_0 : decode cX0_made 0 = .ok (.iload_n 1, 1) := dk_27 (dk_at dksX0_made_0 0 rfl rfl)
theorem dX0_made_1 : decode cX0_made 1 = .ok (.tableswitch 103 0 3 #[31, 49, 67, 85], 31) := by decide +kernel
theorem dX0_made_32 : decode cX0_made 32 = .ok (.new 9, 3) := dk_187 0 9 (dk_at dksX0_made_2 0 rfl rfl)
theorem dX0_made_35 : decode cX0_made 35 = .ok (.dup, 1) := dk_89 (dk_at dksX0_made_2 3 rfl rfl)
theorem dX0_made_36 : decode cX0_made 36 = .ok (.aload_n 0, 1) := dk_42 (dk_at dksX0_made_2 4 rfl rfl)
theorem dX0_made_37 : decode cX0_made 37 = .ok (.getfield 47, 3) := dk_180 0 47 (dk_at dksX0_made_2 5 rfl rfl)
theorem dX0_made_40 : decode cX0_made 40 = .ok (.aload_n 0, 1) := dk_42 (dk_at dksX0_made_2 8 rfl rfl)
theorem dX0_made_41 : decode cX0_made 41 = .ok (.getfield 82, 3) := dk_180 0 82 (dk_at dksX0_made_2 9 rfl rfl)
theorem dX0_made_44 : decode cX0_made 44 = .ok (.iload_n 2, 1) := dk_28 (dk_at dksX0_made_2 12 rfl rfl)
theorem dX0_made_45 : decode cX0_made 45 = .ok (.iload_n 3, 1) := dk_29 (dk_at dksX0_made_2 13 rfl rfl)
theorem dX0_made_46 : decode cX0_made 46 = .ok (.invokespecial 96, 3) := dk_183 0 96 (dk_at dksX0_made_2 14 rfl rfl)
theorem dX0_made_49 : decode cX0_made 49 = .ok (.areturn, 1) := dk_176 (dk_at dksX0_made_2 17 rfl rfl)
theorem dX0_made_50 : decode cX0_made 50 = .ok (.new 99, 3) := dk_187 0 99 (dk_at dksX0_made_2 18 rfl rfl)
theorem dX0_made_53 : decode cX0_made 53 = .ok (.dup, 1) := dk_89 (dk_at dksX0_made_2 21 rfl rfl)
theorem dX0_made_54 : decode cX0_made 54 = .ok (.aload_n 0, 1) := dk_42 (dk_at dksX0_made_2 22 rfl rfl)
theorem dX0_made_55 : decode cX0_made 55 = .ok (.getfield 47, 3) := dk_180 0 47 (dk_at dksX0_made_3 0 rfl rfl)
theorem dX0_made_58 : decode cX0_made 58 = .ok (.aload_n 0, 1) := dk_42 (dk_at dksX0_made_3 3 rfl rfl)
theorem dX0_made_59 : decode cX0_made 59 = .ok (.getfield 82, 3) := dk_180 0 82 (dk_at dksX0_made_3 4 rfl rfl)
theorem dX0_made_62 : decode cX0_made 62 = .ok (.iload_n 2, 1) := dk_28 (dk_at dksX0_made_3 7 rfl rfl)
theorem dX0_made_63 : decode cX0_made 63 = .ok (.iload_n 3, 1) := dk_29 (dk_at dksX0_made_3 8 rfl rfl)
theorem dX0_made_64 : decode cX0_made 64 = .ok (.invokespecial 101, 3) := dk_183 0 101 (dk_at dksX0_made_3 9 rfl rfl)
theorem dX0_made_67 : decode cX0_made 67 = .ok (.areturn, 1) := dk_176 (dk_at dksX0_made_3 12 rfl rfl)
theorem dX0_made_68 : decode cX0_made 68 = .ok (.new 102, 3) := dk_187 0 102 (dk_at dksX0_made_3 13 rfl rfl)
theorem dX0_made_71 : decode cX0_made 71 = .ok (.dup, 1) := dk_89 (dk_at dksX0_made_3 16 rfl rfl)
theorem dX0_made_72 : decode cX0_made 72 = .ok (.aload_n 0, 1) := dk_42 (dk_at dksX0_made_3 17 rfl rfl)
theorem dX0_made_73 : decode cX0_made 73 = .ok (.getfield 47, 3) := dk_180 0 47 (dk_at dksX0_made_3 18 rfl rfl)
theorem dX0_made_76 : decode cX0_made 76 = .ok (.aload_n 0, 1) := dk_42 (dk_at dksX0_made_3 21 rfl rfl)
theorem dX0_made_77 : decode cX0_made 77 = .ok (.getfield 82, 3) := dk_180 0 82 (dk_at dksX0_made_4 0 rfl rfl)
theorem dX0_made_80 : decode cX0_made 80 = .ok (.iload_n 2, 1) := dk_28 (dk_at dksX0_made_4 3 rfl rfl)
theorem dX0_made_81 : decode cX0_made 81 = .ok (.iload_n 3, 1) := dk_29 (dk_at dksX0_made_4 4 rfl rfl)
theorem dX0_made_82 : decode cX0_made 82 = .ok (.invokespecial 104, 3) := dk_183 0 104 (dk_at dksX0_made_4 5 rfl rfl)
theorem dX0_made_85 : decode cX0_made 85 = .ok (.areturn, 1) := dk_176 (dk_at dksX0_made_4 8 rfl rfl)
theorem dX0_made_86 : decode cX0_made 86 = .ok (.new 105, 3) := dk_187 0 105 (dk_at dksX0_made_4 9 rfl rfl)
theorem dX0_made_89 : decode cX0_made 89 = .ok (.dup, 1) := dk_89 (dk_at dksX0_made_4 12 rfl rfl)
theorem dX0_made_90 : decode cX0_made 90 = .ok (.aload_n 0, 1) := dk_42 (dk_at dksX0_made_4 13 rfl rfl)
theorem dX0_made_91 : decode cX0_made 91 = .ok (.getfield 47, 3) := dk_180 0 47 (dk_at dksX0_made_4 14 rfl rfl)
theorem dX0_made_94 : decode cX0_made 94 = .ok (.aload_n 0, 1) := dk_42 (dk_at dksX0_made_4 17 rfl rfl)
theorem dX0_made_95 : decode cX0_made 95 = .ok (.getfield 82, 3) := dk_180 0 82 (dk_at dksX0_made_4 18 rfl rfl)
theorem dX0_made_98 : decode cX0_made 98 = .ok (.iload_n 2, 1) := dk_28 (dk_at dksX0_made_4 21 rfl rfl)
theorem dX0_made_99 : decode cX0_made 99 = .ok (.iload_n 3, 1) := dk_29 (dk_at dksX0_made_4 22 rfl rfl)
theorem dX0_made_100 : decode cX0_made 100 = .ok (.invokespecial 107, 3) := dk_183 0 107 (dk_at dksX0_made_5 0 rfl rfl)
theorem dX0_made_103 : decode cX0_made 103 = .ok (.areturn, 1) := dk_176 (dk_at dksX0_made_5 3 rfl rfl)
theorem dX0_made_104 : decode cX0_made 104 = .ok (.new 108, 3) := dk_187 0 108 (dk_at dksX0_made_5 4 rfl rfl)
theorem dX0_made_107 : decode cX0_made 107 = .ok (.dup, 1) := dk_89 (dk_at dksX0_made_5 7 rfl rfl)
theorem dX0_made_108 : decode cX0_made 108 = .ok (.aload_n 0, 1) := dk_42 (dk_at dksX0_made_5 8 rfl rfl)
theorem dX0_made_109 : decode cX0_made 109 = .ok (.getfield 47, 3) := dk_180 0 47 (dk_at dksX0_made_5 9 rfl rfl)
theorem dX0_made_112 : decode cX0_made 112 = .ok (.aload_n 0, 1) := dk_42 (dk_at dksX0_made_5 12 rfl rfl)
theorem dX0_made_113 : decode cX0_made 113 = .ok (.getfield 82, 3) := dk_180 0 82 (dk_at dksX0_made_5 13 rfl rfl)
theorem dX0_made_116 : decode cX0_made 116 = .ok (.iload_n 2, 1) := dk_28 (dk_at dksX0_made_5 16 rfl rfl)
theorem dX0_made_117 : decode cX0_made 117 = .ok (.iload_n 3, 1) := dk_29 (dk_at dksX0_made_5 17 rfl rfl)
theorem dX0_made_118 : decode cX0_made 118 = .ok (.invokespecial 110, 3) := dk_183 0 110 (dk_at dksX0_made_5 18 rfl rfl)
theorem dX0_made_121 : decode cX0_made 121 = .ok (.areturn, 1) := dk_176 (dk_at dksX0_made_5 21 rfl rfl)
abbrev cX0_ring : ByteArray := prog_1_method_9_code
def yX0_ring : MethodName := ⟨RX0, "ring", "(I)I"⟩
def dkwX0_ring_5 : List UInt8 := [181, 0, 136, 4, 172]
abbrev dktX0_ring_5 : List UInt8 := dkwX0_ring_5 ++ []
def dkwX0_ring_4 : List UInt8 := [187, 0, 124, 89, 27, 183, 0, 126, 181, 0, 129, 42, 180, 0, 119, 42, 180, 0, 22, 182, 0, 132, 42, 3]
abbrev dktX0_ring_4 : List UInt8 := dkwX0_ring_4 ++ dktX0_ring_5
def dkwX0_ring_3 : List UInt8 := [180, 0, 119, 180, 0, 123, 27, 159, 0, 27, 42, 187, 0, 124, 89, 27, 183, 0, 126, 181, 0, 119, 42]
abbrev dktX0_ring_3 : List UInt8 := dkwX0_ring_3 ++ dktX0_ring_4
def dkwX0_ring_2 : List UInt8 := [28, 3, 79, 42, 180, 0, 22, 28, 3, 79, 132, 2, 1, 167, 255, 225, 42, 180, 0, 119, 198, 0, 14, 42]
abbrev dktX0_ring_2 : List UInt8 := dkwX0_ring_2 ++ dktX0_ring_3
def dkwX0_ring_1 : List UInt8 := [27, 181, 0, 90, 3, 61, 28, 16, 9, 162, 0, 31, 42, 180, 0, 15, 28, 16, 251, 79, 42, 180, 0, 19]
abbrev dktX0_ring_1 : List UInt8 := dkwX0_ring_1 ++ dktX0_ring_2
def dkwX0_ring_0 : List UInt8 := [27, 6, 16, 9, 184, 0, 86, 154, 0, 6, 16, 254, 172, 42, 180, 0, 115, 153, 0, 6, 16, 253, 172, 42]
abbrev dktX0_ring_0 : List UInt8 := dkwX0_ring_0 ++ dktX0_ring_1
theorem dksX0_ring_0 : cX0_ring.data.toList.drop 0 = dktX0_ring_0 := by decide +kernel
theorem dksX0_ring_1 : cX0_ring.data.toList.drop 24 = dktX0_ring_1 := dk_seg dksX0_ring_0 24 rfl rfl
theorem dksX0_ring_2 : cX0_ring.data.toList.drop 48 = dktX0_ring_2 := dk_seg dksX0_ring_1 24 rfl rfl
theorem dksX0_ring_3 : cX0_ring.data.toList.drop 72 = dktX0_ring_3 := dk_seg dksX0_ring_2 24 rfl rfl
theorem dksX0_ring_4 : cX0_ring.data.toList.drop 95 = dktX0_ring_4 := dk_seg dksX0_ring_3 23 rfl rfl
theorem dksX0_ring_5 : cX0_ring.data.toList.drop 119 = dktX0_ring_5 := dk_seg dksX0_ring_4 24 rfl rfl
theorem dX0_ring_0 : decode cX0_ring 0 = .ok (.iload_n 1, 1) := dk_27 (dk_at dksX0_ring_0 0 rfl rfl)
theorem dX0_ring_1 : decode cX0_ring 1 = .ok (.iconst 3, 1) := dk_6 (dk_at dksX0_ring_0 1 rfl rfl)
theorem dX0_ring_2 : decode cX0_ring 2 = .ok (.bipush 9, 2) := dk_16 9 (dk_at dksX0_ring_0 2 rfl rfl)
theorem dX0_ring_4 : decode cX0_ring 4 = .ok (.invokestatic 86, 3) := dk_184 0 86 (dk_at dksX0_ring_0 4 rfl rfl)
theorem dX0_ring_7 : decode cX0_ring 7 = .ok (.ifCond .ne 6, 3) := dk_154 0 6 (dk_at dksX0_ring_0 7 rfl rfl)
theorem dX0_ring_10 : decode cX0_ring 10 = .ok (.bipush (-2), 2) := dk_16 254 (dk_at dksX0_ring_0 10 rfl rfl)
theorem dX0_ring_12 : decode cX0_ring 12 = .ok (.ireturn, 1) := dk_172 (dk_at dksX0_ring_0 12 rfl rfl)
theorem dX0_ring_13 : decode cX0_ring 13 = .ok (.aload_n 0, 1) := dk_42 (dk_at dksX0_ring_0 13 rfl rfl)
theorem dX0_ring_14 : decode cX0_ring 14 = .ok (.getfield 115, 3) := dk_180 0 115 (dk_at dksX0_ring_0 14 rfl rfl)
theorem dX0_ring_17 : decode cX0_ring 17 = .ok (.ifCond .eq 6, 3) := dk_153 0 6 (dk_at dksX0_ring_0 17 rfl rfl)
theorem dX0_ring_20 : decode cX0_ring 20 = .ok (.bipush (-3), 2) := dk_16 253 (dk_at dksX0_ring_0 20 rfl rfl)
theorem dX0_ring_22 : decode cX0_ring 22 = .ok (.ireturn, 1) := dk_172 (dk_at dksX0_ring_0 22 rfl rfl)
theorem dX0_ring_23 : decode cX0_ring 23 = .ok (.aload_n 0, 1) := dk_42 (dk_at dksX0_ring_0 23 rfl rfl)
theorem dX0_ring_24 : decode cX0_ring 24 = .ok (.iload_n 1, 1) := dk_27 (dk_at dksX0_ring_1 0 rfl rfl)
theorem dX0_ring_25 : decode cX0_ring 25 = .ok (.putfield 90, 3) := dk_181 0 90 (dk_at dksX0_ring_1 1 rfl rfl)
theorem dX0_ring_28 : decode cX0_ring 28 = .ok (.iconst 0, 1) := dk_3 (dk_at dksX0_ring_1 4 rfl rfl)
theorem dX0_ring_29 : decode cX0_ring 29 = .ok (.istore_n 2, 1) := dk_61 (dk_at dksX0_ring_1 5 rfl rfl)
theorem dX0_ring_30 : decode cX0_ring 30 = .ok (.iload_n 2, 1) := dk_28 (dk_at dksX0_ring_1 6 rfl rfl)
theorem dX0_ring_31 : decode cX0_ring 31 = .ok (.bipush 9, 2) := dk_16 9 (dk_at dksX0_ring_1 7 rfl rfl)
theorem dX0_ring_33 : decode cX0_ring 33 = .ok (.if_icmp .ge 31, 3) := dk_162 0 31 (dk_at dksX0_ring_1 9 rfl rfl)
theorem dX0_ring_36 : decode cX0_ring 36 = .ok (.aload_n 0, 1) := dk_42 (dk_at dksX0_ring_1 12 rfl rfl)
theorem dX0_ring_37 : decode cX0_ring 37 = .ok (.getfield 15, 3) := dk_180 0 15 (dk_at dksX0_ring_1 13 rfl rfl)
theorem dX0_ring_40 : decode cX0_ring 40 = .ok (.iload_n 2, 1) := dk_28 (dk_at dksX0_ring_1 16 rfl rfl)
theorem dX0_ring_41 : decode cX0_ring 41 = .ok (.bipush (-5), 2) := dk_16 251 (dk_at dksX0_ring_1 17 rfl rfl)
theorem dX0_ring_43 : decode cX0_ring 43 = .ok (.iastore, 1) := dk_79 (dk_at dksX0_ring_1 19 rfl rfl)
theorem dX0_ring_44 : decode cX0_ring 44 = .ok (.aload_n 0, 1) := dk_42 (dk_at dksX0_ring_1 20 rfl rfl)
theorem dX0_ring_45 : decode cX0_ring 45 = .ok (.getfield 19, 3) := dk_180 0 19 (dk_at dksX0_ring_1 21 rfl rfl)
theorem dX0_ring_48 : decode cX0_ring 48 = .ok (.iload_n 2, 1) := dk_28 (dk_at dksX0_ring_2 0 rfl rfl)
theorem dX0_ring_49 : decode cX0_ring 49 = .ok (.iconst 0, 1) := dk_3 (dk_at dksX0_ring_2 1 rfl rfl)
theorem dX0_ring_50 : decode cX0_ring 50 = .ok (.iastore, 1) := dk_79 (dk_at dksX0_ring_2 2 rfl rfl)
theorem dX0_ring_51 : decode cX0_ring 51 = .ok (.aload_n 0, 1) := dk_42 (dk_at dksX0_ring_2 3 rfl rfl)
theorem dX0_ring_52 : decode cX0_ring 52 = .ok (.getfield 22, 3) := dk_180 0 22 (dk_at dksX0_ring_2 4 rfl rfl)
theorem dX0_ring_55 : decode cX0_ring 55 = .ok (.iload_n 2, 1) := dk_28 (dk_at dksX0_ring_2 7 rfl rfl)
theorem dX0_ring_56 : decode cX0_ring 56 = .ok (.iconst 0, 1) := dk_3 (dk_at dksX0_ring_2 8 rfl rfl)
theorem dX0_ring_57 : decode cX0_ring 57 = .ok (.iastore, 1) := dk_79 (dk_at dksX0_ring_2 9 rfl rfl)
theorem dX0_ring_58 : decode cX0_ring 58 = .ok (.iinc 2 1, 3) := dk_132 2 1 (dk_at dksX0_ring_2 10 rfl rfl)
theorem dX0_ring_61 : decode cX0_ring 61 = .ok (.goto (-31), 3) := dk_167 255 225 (dk_at dksX0_ring_2 13 rfl rfl)
theorem dX0_ring_64 : decode cX0_ring 64 = .ok (.aload_n 0, 1) := dk_42 (dk_at dksX0_ring_2 16 rfl rfl)
theorem dX0_ring_65 : decode cX0_ring 65 = .ok (.getfield 119, 3) := dk_180 0 119 (dk_at dksX0_ring_2 17 rfl rfl)
theorem dX0_ring_68 : decode cX0_ring 68 = .ok (.ifnull 14, 3) := dk_198 0 14 (dk_at dksX0_ring_2 20 rfl rfl)
theorem dX0_ring_71 : decode cX0_ring 71 = .ok (.aload_n 0, 1) := dk_42 (dk_at dksX0_ring_2 23 rfl rfl)
theorem dX0_ring_72 : decode cX0_ring 72 = .ok (.getfield 119, 3) := dk_180 0 119 (dk_at dksX0_ring_3 0 rfl rfl)
theorem dX0_ring_75 : decode cX0_ring 75 = .ok (.getfield 123, 3) := dk_180 0 123 (dk_at dksX0_ring_3 3 rfl rfl)
theorem dX0_ring_78 : decode cX0_ring 78 = .ok (.iload_n 1, 1) := dk_27 (dk_at dksX0_ring_3 6 rfl rfl)
theorem dX0_ring_79 : decode cX0_ring 79 = .ok (.if_icmp .eq 27, 3) := dk_159 0 27 (dk_at dksX0_ring_3 7 rfl rfl)
theorem dX0_ring_82 : decode cX0_ring 82 = .ok (.aload_n 0, 1) := dk_42 (dk_at dksX0_ring_3 10 rfl rfl)
theorem dX0_ring_83 : decode cX0_ring 83 = .ok (.new 124, 3) := dk_187 0 124 (dk_at dksX0_ring_3 11 rfl rfl)
theorem dX0_ring_86 : decode cX0_ring 86 = .ok (.dup, 1) := dk_89 (dk_at dksX0_ring_3 14 rfl rfl)
theorem dX0_ring_87 : decode cX0_ring 87 = .ok (.iload_n 1, 1) := dk_27 (dk_at dksX0_ring_3 15 rfl rfl)
theorem dX0_ring_88 : decode cX0_ring 88 = .ok (.invokespecial 126, 3) := dk_183 0 126 (dk_at dksX0_ring_3 16 rfl rfl)
theorem dX0_ring_91 : decode cX0_ring 91 = .ok (.putfield 119, 3) := dk_181 0 119 (dk_at dksX0_ring_3 19 rfl rfl)
theorem dX0_ring_94 : decode cX0_ring 94 = .ok (.aload_n 0, 1) := dk_42 (dk_at dksX0_ring_3 22 rfl rfl)
theorem dX0_ring_95 : decode cX0_ring 95 = .ok (.new 124, 3) := dk_187 0 124 (dk_at dksX0_ring_4 0 rfl rfl)
theorem dX0_ring_98 : decode cX0_ring 98 = .ok (.dup, 1) := dk_89 (dk_at dksX0_ring_4 3 rfl rfl)
theorem dX0_ring_99 : decode cX0_ring 99 = .ok (.iload_n 1, 1) := dk_27 (dk_at dksX0_ring_4 4 rfl rfl)
theorem dX0_ring_100 : decode cX0_ring 100 = .ok (.invokespecial 126, 3) := dk_183 0 126 (dk_at dksX0_ring_4 5 rfl rfl)
theorem dX0_ring_103 : decode cX0_ring 103 = .ok (.putfield 129, 3) := dk_181 0 129 (dk_at dksX0_ring_4 8 rfl rfl)
theorem dX0_ring_106 : decode cX0_ring 106 = .ok (.aload_n 0, 1) := dk_42 (dk_at dksX0_ring_4 11 rfl rfl)
theorem dX0_ring_107 : decode cX0_ring 107 = .ok (.getfield 119, 3) := dk_180 0 119 (dk_at dksX0_ring_4 12 rfl rfl)
theorem dX0_ring_110 : decode cX0_ring 110 = .ok (.aload_n 0, 1) := dk_42 (dk_at dksX0_ring_4 15 rfl rfl)
theorem dX0_ring_111 : decode cX0_ring 111 = .ok (.getfield 22, 3) := dk_180 0 22 (dk_at dksX0_ring_4 16 rfl rfl)
theorem dX0_ring_114 : decode cX0_ring 114 = .ok (.invokevirtual 132, 3) := dk_182 0 132 (dk_at dksX0_ring_4 19 rfl rfl)
theorem dX0_ring_117 : decode cX0_ring 117 = .ok (.aload_n 0, 1) := dk_42 (dk_at dksX0_ring_4 22 rfl rfl)
theorem dX0_ring_118 : decode cX0_ring 118 = .ok (.iconst 0, 1) := dk_3 (dk_at dksX0_ring_4 23 rfl rfl)
theorem dX0_ring_119 : decode cX0_ring 119 = .ok (.putfield 136, 3) := dk_181 0 136 (dk_at dksX0_ring_5 0 rfl rfl)
theorem dX0_ring_122 : decode cX0_ring 122 = .ok (.iconst 1, 1) := dk_4 (dk_at dksX0_ring_5 3 rfl rfl)
theorem dX0_ring_123 : decode cX0_ring 123 = .ok (.ireturn, 1) := dk_172 (dk_at dksX0_ring_5 4 rfl rfl)
abbrev cX0_stand : ByteArray := prog_1_method_10_code
def yX0_stand : MethodName := ⟨RX0, "stand", "(II)I"⟩
def dkwX0_stand_3 : List UInt8 := [16, 244, 172, 42, 180, 0, 15, 27, 46, 62, 42, 180, 0, 15, 27, 28, 79, 29, 172]
abbrev dktX0_stand_3 : List UInt8 := dkwX0_stand_3 ++ []
def dkwX0_stand_2 : List UInt8 := [160, 0, 6, 16, 253, 172, 132, 3, 1, 167, 255, 232, 42, 180, 0, 11, 28, 50, 193, 0, 108, 153, 0, 6]
abbrev dktX0_stand_2 : List UInt8 := dkwX0_stand_2 ++ dktX0_stand_3
def dkwX0_stand_1 : List UInt8 := [153, 0, 6, 16, 253, 172, 3, 62, 29, 42, 180, 0, 90, 162, 0, 22, 42, 180, 0, 15, 29, 46, 28]
abbrev dktX0_stand_1 : List UInt8 := dkwX0_stand_1 ++ dktX0_stand_2
def dkwX0_stand_0 : List UInt8 := [42, 27, 182, 0, 139, 153, 0, 11, 42, 28, 182, 0, 143, 154, 0, 5, 2, 172, 42, 180, 0, 115]
abbrev dktX0_stand_0 : List UInt8 := dkwX0_stand_0 ++ dktX0_stand_1
theorem dksX0_stand_0 : cX0_stand.data.toList.drop 0 = dktX0_stand_0 := by decide +kernel
theorem dksX0_stand_1 : cX0_stand.data.toList.drop 22 = dktX0_stand_1 := dk_seg dksX0_stand_0 22 rfl rfl
theorem dksX0_stand_2 : cX0_stand.data.toList.drop 45 = dktX0_stand_2 := dk_seg dksX0_stand_1 23 rfl rfl
theorem dksX0_stand_3 : cX0_stand.data.toList.drop 69 = dktX0_stand_3 := dk_seg dksX0_stand_2 24 rfl rfl
theorem dX0_stand_0 : decode cX0_stand 0 = .ok (.aload_n 0, 1) := dk_42 (dk_at dksX0_stand_0 0 rfl rfl)
theorem dX0_stand_1 : decode cX0_stand 1 = .ok (.iload_n 1, 1) := dk_27 (dk_at dksX0_stand_0 1 rfl rfl)
theorem dX0_stand_2 : decode cX0_stand 2 = .ok (.invokevirtual 139, 3) := dk_182 0 139 (dk_at dksX0_stand_0 2 rfl rfl)
theorem dX0_stand_5 : decode cX0_stand 5 = .ok (.ifCond .eq 11, 3) := dk_153 0 11 (dk_at dksX0_stand_0 5 rfl rfl)
theorem dX0_stand_8 : decode cX0_stand 8 = .ok (.aload_n 0, 1) := dk_42 (dk_at dksX0_stand_0 8 rfl rfl)
theorem dX0_stand_9 : decode cX0_stand 9 = .ok (.iload_n 2, 1) := dk_28 (dk_at dksX0_stand_0 9 rfl rfl)
theorem dX0_stand_10 : decode cX0_stand 10 = .ok (.invokevirtual 143, 3) := dk_182 0 143 (dk_at dksX0_stand_0 10 rfl rfl)
theorem dX0_stand_13 : decode cX0_stand 13 = .ok (.ifCond .ne 5, 3) := dk_154 0 5 (dk_at dksX0_stand_0 13 rfl rfl)
theorem dX0_stand_16 : decode cX0_stand 16 = .ok (.iconst (-1), 1) := dk_2 (dk_at dksX0_stand_0 16 rfl rfl)
theorem dX0_stand_17 : decode cX0_stand 17 = .ok (.ireturn, 1) := dk_172 (dk_at dksX0_stand_0 17 rfl rfl)
theorem dX0_stand_18 : decode cX0_stand 18 = .ok (.aload_n 0, 1) := dk_42 (dk_at dksX0_stand_0 18 rfl rfl)
theorem dX0_stand_19 : decode cX0_stand 19 = .ok (.getfield 115, 3) := dk_180 0 115 (dk_at dksX0_stand_0 19 rfl rfl)
theorem dX0_stand_22 : decode cX0_stand 22 = .ok (.ifCond .eq 6, 3) := dk_153 0 6 (dk_at dksX0_stand_1 0 rfl rfl)
theorem dX0_stand_25 : decode cX0_stand 25 = .ok (.bipush (-3), 2) := dk_16 253 (dk_at dksX0_stand_1 3 rfl rfl)
theorem dX0_stand_27 : decode cX0_stand 27 = .ok (.ireturn, 1) := dk_172 (dk_at dksX0_stand_1 5 rfl rfl)
theorem dX0_stand_28 : decode cX0_stand 28 = .ok (.iconst 0, 1) := dk_3 (dk_at dksX0_stand_1 6 rfl rfl)
theorem dX0_stand_29 : decode cX0_stand 29 = .ok (.istore_n 3, 1) := dk_62 (dk_at dksX0_stand_1 7 rfl rfl)
theorem dX0_stand_30 : decode cX0_stand 30 = .ok (.iload_n 3, 1) := dk_29 (dk_at dksX0_stand_1 8 rfl rfl)
theorem dX0_stand_31 : decode cX0_stand 31 = .ok (.aload_n 0, 1) := dk_42 (dk_at dksX0_stand_1 9 rfl rfl)
theorem dX0_stand_32 : decode cX0_stand 32 = .ok (.getfield 90, 3) := dk_180 0 90 (dk_at dksX0_stand_1 10 rfl rfl)
theorem dX0_stand_35 : decode cX0_stand 35 = .ok (.if_icmp .ge 22, 3) := dk_162 0 22 (dk_at dksX0_stand_1 13 rfl rfl)
theorem dX0_stand_38 : decode cX0_stand 38 = .ok (.aload_n 0, 1) := dk_42 (dk_at dksX0_stand_1 16 rfl rfl)
theorem dX0_stand_39 : decode cX0_stand 39 = .ok (.getfield 15, 3) := dk_180 0 15 (dk_at dksX0_stand_1 17 rfl rfl)
theorem dX0_stand_42 : decode cX0_stand 42 = .ok (.iload_n 3, 1) := dk_29 (dk_at dksX0_stand_1 20 rfl rfl)
theorem dX0_stand_43 : decode cX0_stand 43 = .ok (.iaload, 1) := dk_46 (dk_at dksX0_stand_1 21 rfl rfl)
theorem dX0_stand_44 : decode cX0_stand 44 = .ok (.iload_n 2, 1) := dk_28 (dk_at dksX0_stand_1 22 rfl rfl)
theorem dX0_stand_45 : decode cX0_stand 45 = .ok (.if_icmp .ne 6, 3) := dk_160 0 6 (dk_at dksX0_stand_2 0 rfl rfl)
theorem dX0_stand_48 : decode cX0_stand 48 = .ok (.bipush (-3), 2) := dk_16 253 (dk_at dksX0_stand_2 3 rfl rfl)
theorem dX0_stand_50 : decode cX0_stand 50 = .ok (.ireturn, 1) := dk_172 (dk_at dksX0_stand_2 5 rfl rfl)
theorem dX0_stand_51 : decode cX0_stand 51 = .ok (.iinc 3 1, 3) := dk_132 3 1 (dk_at dksX0_stand_2 6 rfl rfl)
theorem dX0_stand_54 : decode cX0_stand 54 = .ok (.goto (-24), 3) := dk_167 255 232 (dk_at dksX0_stand_2 9 rfl rfl)
theorem dX0_stand_57 : decode cX0_stand 57 = .ok (.aload_n 0, 1) := dk_42 (dk_at dksX0_stand_2 12 rfl rfl)
theorem dX0_stand_58 : decode cX0_stand 58 = .ok (.getfield 11, 3) := dk_180 0 11 (dk_at dksX0_stand_2 13 rfl rfl)
theorem dX0_stand_61 : decode cX0_stand 61 = .ok (.iload_n 2, 1) := dk_28 (dk_at dksX0_stand_2 16 rfl rfl)
theorem dX0_stand_62 : decode cX0_stand 62 = .ok (.aaload, 1) := dk_50 (dk_at dksX0_stand_2 17 rfl rfl)
theorem dX0_stand_63 : decode cX0_stand 63 = .ok (.instanceof 108, 3) := dk_193 0 108 (dk_at dksX0_stand_2 18 rfl rfl)
theorem dX0_stand_66 : decode cX0_stand 66 = .ok (.ifCond .eq 6, 3) := dk_153 0 6 (dk_at dksX0_stand_2 21 rfl rfl)
theorem dX0_stand_69 : decode cX0_stand 69 = .ok (.bipush (-12), 2) := dk_16 244 (dk_at dksX0_stand_3 0 rfl rfl)
theorem dX0_stand_71 : decode cX0_stand 71 = .ok (.ireturn, 1) := dk_172 (dk_at dksX0_stand_3 2 rfl rfl)
theorem dX0_stand_72 : decode cX0_stand 72 = .ok (.aload_n 0, 1) := dk_42 (dk_at dksX0_stand_3 3 rfl rfl)
theorem dX0_stand_73 : decode cX0_stand 73 = .ok (.getfield 15, 3) := dk_180 0 15 (dk_at dksX0_stand_3 4 rfl rfl)
theorem dX0_stand_76 : decode cX0_stand 76 = .ok (.iload_n 1, 1) := dk_27 (dk_at dksX0_stand_3 7 rfl rfl)
theorem dX0_stand_77 : decode cX0_stand 77 = .ok (.iaload, 1) := dk_46 (dk_at dksX0_stand_3 8 rfl rfl)
theorem dX0_stand_78 : decode cX0_stand 78 = .ok (.istore_n 3, 1) := dk_62 (dk_at dksX0_stand_3 9 rfl rfl)
theorem dX0_stand_79 : decode cX0_stand 79 = .ok (.aload_n 0, 1) := dk_42 (dk_at dksX0_stand_3 10 rfl rfl)
theorem dX0_stand_80 : decode cX0_stand 80 = .ok (.getfield 15, 3) := dk_180 0 15 (dk_at dksX0_stand_3 11 rfl rfl)
theorem dX0_stand_83 : decode cX0_stand 83 = .ok (.iload_n 1, 1) := dk_27 (dk_at dksX0_stand_3 14 rfl rfl)
theorem dX0_stand_84 : decode cX0_stand 84 = .ok (.iload_n 2, 1) := dk_28 (dk_at dksX0_stand_3 15 rfl rfl)
theorem dX0_stand_85 : decode cX0_stand 85 = .ok (.iastore, 1) := dk_79 (dk_at dksX0_stand_3 16 rfl rfl)
theorem dX0_stand_86 : decode cX0_stand 86 = .ok (.iload_n 3, 1) := dk_29 (dk_at dksX0_stand_3 17 rfl rfl)
theorem dX0_stand_87 : decode cX0_stand 87 = .ok (.ireturn, 1) := dk_172 (dk_at dksX0_stand_3 18 rfl rfl)
abbrev cX0_isPlace : ByteArray := prog_1_method_5_code
def yX0_isPlace : MethodName := ⟨RX0, "isPlace", "(I)Z"⟩
def dkwX0_isPlace_0 : List UInt8 := [27, 3, 42, 180, 0, 90, 4, 100, 184, 0, 86, 172]
abbrev dktX0_isPlace_0 : List UInt8 := dkwX0_isPlace_0 ++ []
theorem dksX0_isPlace_0 : cX0_isPlace.data.toList.drop 0 = dktX0_isPlace_0 := by decide +kernel
theorem dX0_isPlace_0 : decode cX0_isPlace 0 = .ok (.iload_n 1, 1) := dk_27 (dk_at dksX0_isPlace_0 0 rfl rfl)
theorem dX0_isPlace_1 : decode cX0_isPlace 1 = .ok (.iconst 0, 1) := dk_3 (dk_at dksX0_isPlace_0 1 rfl rfl)
theorem dX0_isPlace_2 : decode cX0_isPlace 2 = .ok (.aload_n 0, 1) := dk_42 (dk_at dksX0_isPlace_0 2 rfl rfl)
theorem dX0_isPlace_3 : decode cX0_isPlace 3 = .ok (.getfield 90, 3) := dk_180 0 90 (dk_at dksX0_isPlace_0 3 rfl rfl)
theorem dX0_isPlace_6 : decode cX0_isPlace 6 = .ok (.iconst 1, 1) := dk_4 (dk_at dksX0_isPlace_0 6 rfl rfl)
theorem dX0_isPlace_7 : decode cX0_isPlace 7 = .ok (.isub, 1) := dk_100 (dk_at dksX0_isPlace_0 7 rfl rfl)
theorem dX0_isPlace_8 : decode cX0_isPlace 8 = .ok (.invokestatic 86, 3) := dk_184 0 86 (dk_at dksX0_isPlace_0 8 rfl rfl)
theorem dX0_isPlace_11 : decode cX0_isPlace 11 = .ok (.ireturn, 1) := dk_172 (dk_at dksX0_isPlace_0 11 rfl rfl)
abbrev cX0_isPerson : ByteArray := prog_1_method_4_code
def yX0_isPerson : MethodName := ⟨RX0, "isPerson", "(I)Z"⟩
def dkwX0_isPerson_0 : List UInt8 := [27, 3, 42, 180, 0, 82, 4, 100, 184, 0, 86, 172]
abbrev dktX0_isPerson_0 : List UInt8 := dkwX0_isPerson_0 ++ []
theorem dksX0_isPerson_0 : cX0_isPerson.data.toList.drop 0 = dktX0_isPerson_0 := by decide +kernel
theorem dX0_isPerson_0 : decode cX0_isPerson 0 = .ok (.iload_n 1, 1) := dk_27 (dk_at dksX0_isPerson_0 0 rfl rfl)
theorem dX0_isPerson_1 : decode cX0_isPerson 1 = .ok (.iconst 0, 1) := dk_3 (dk_at dksX0_isPerson_0 1 rfl rfl)
theorem dX0_isPerson_2 : decode cX0_isPerson 2 = .ok (.aload_n 0, 1) := dk_42 (dk_at dksX0_isPerson_0 2 rfl rfl)
theorem dX0_isPerson_3 : decode cX0_isPerson 3 = .ok (.getfield 82, 3) := dk_180 0 82 (dk_at dksX0_isPerson_0 3 rfl rfl)
theorem dX0_isPerson_6 : decode cX0_isPerson 6 = .ok (.iconst 1, 1) := dk_4 (dk_at dksX0_isPerson_0 6 rfl rfl)
theorem dX0_isPerson_7 : decode cX0_isPerson 7 = .ok (.isub, 1) := dk_100 (dk_at dksX0_isPerson_0 7 rfl rfl)
theorem dX0_isPerson_8 : decode cX0_isPerson 8 = .ok (.invokestatic 86, 3) := dk_184 0 86 (dk_at dksX0_isPerson_0 8 rfl rfl)
theorem dX0_isPerson_11 : decode cX0_isPerson 11 = .ok (.ireturn, 1) := dk_172 (dk_at dksX0_isPerson_0 11 rfl rfl)
abbrev cX0_ribbon : ByteArray := prog_1_method_11_code
def yX0_ribbon : MethodName := ⟨RX0, "ribbon", "(III)I"⟩
def dkwX0_ribbon_2 : List UInt8 := [28, 79, 42, 180, 0, 22, 27, 29, 79, 4, 172]
abbrev dktX0_ribbon_2 : List UInt8 := dkwX0_ribbon_2 ++ []
def dkwX0_ribbon_1 : List UInt8 := [184, 0, 86, 154, 0, 6, 16, 254, 172, 42, 180, 0, 115, 153, 0, 6, 16, 253, 172, 42, 180, 0, 19, 27]
abbrev dktX0_ribbon_1 : List UInt8 := dkwX0_ribbon_1 ++ dktX0_ribbon_2
def dkwX0_ribbon_0 : List UInt8 := [42, 27, 182, 0, 139, 154, 0, 5, 2, 172, 28, 3, 16, 7, 184, 0, 86, 153, 0, 13, 29, 3, 18, 146]
abbrev dktX0_ribbon_0 : List UInt8 := dkwX0_ribbon_0 ++ dktX0_ribbon_1
theorem dksX0_ribbon_0 : cX0_ribbon.data.toList.drop 0 = dktX0_ribbon_0 := by decide +kernel
theorem dksX0_ribbon_1 : cX0_ribbon.data.toList.drop 24 = dktX0_ribbon_1 := dk_seg dksX0_ribbon_0 24 rfl rfl
theorem dksX0_ribbon_2 : cX0_ribbon.data.toList.drop 48 = dktX0_ribbon_2 := dk_seg dksX0_ribbon_1 24 rfl rfl
theorem dX0_ribbon_0 : decode cX0_ribbon 0 = .ok (.aload_n 0, 1) := dk_42 (dk_at dksX0_ribbon_0 0 rfl rfl)
theorem dX0_ribbon_1 : decode cX0_ribbon 1 = .ok (.iload_n 1, 1) := dk_27 (dk_at dksX0_ribbon_0 1 rfl rfl)
theorem dX0_ribbon_2 : decode cX0_ribbon 2 = .ok (.invokevirtual 139, 3) := dk_182 0 139 (dk_at dksX0_ribbon_0 2 rfl rfl)
theorem dX0_ribbon_5 : decode cX0_ribbon 5 = .ok (.ifCond .ne 5, 3) := dk_154 0 5 (dk_at dksX0_ribbon_0 5 rfl rfl)
theorem dX0_ribbon_8 : decode cX0_ribbon 8 = .ok (.iconst (-1), 1) := dk_2 (dk_at dksX0_ribbon_0 8 rfl rfl)
theorem dX0_ribbon_9 : decode cX0_ribbon 9 = .ok (.ireturn, 1) := dk_172 (dk_at dksX0_ribbon_0 9 rfl rfl)
theorem dX0_ribbon_10 : decode cX0_ribbon 10 = .ok (.iload_n 2, 1) := dk_28 (dk_at dksX0_ribbon_0 10 rfl rfl)
theorem dX0_ribbon_11 : decode cX0_ribbon 11 = .ok (.iconst 0, 1) := dk_3 (dk_at dksX0_ribbon_0 11 rfl rfl)
theorem dX0_ribbon_12 : decode cX0_ribbon 12 = .ok (.bipush 7, 2) := dk_16 7 (dk_at dksX0_ribbon_0 12 rfl rfl)
theorem dX0_ribbon_14 : decode cX0_ribbon 14 = .ok (.invokestatic 86, 3) := dk_184 0 86 (dk_at dksX0_ribbon_0 14 rfl rfl)
theorem dX0_ribbon_17 : decode cX0_ribbon 17 = .ok (.ifCond .eq 13, 3) := dk_153 0 13 (dk_at dksX0_ribbon_0 17 rfl rfl)
theorem dX0_ribbon_20 : decode cX0_ribbon 20 = .ok (.iload_n 3, 1) := dk_29 (dk_at dksX0_ribbon_0 20 rfl rfl)
theorem dX0_ribbon_21 : decode cX0_ribbon 21 = .ok (.iconst 0, 1) := dk_3 (dk_at dksX0_ribbon_0 21 rfl rfl)
theorem dX0_ribbon_22 : decode cX0_ribbon 22 = .ok (.ldc 146, 2) := dk_18 146 (dk_at dksX0_ribbon_0 22 rfl rfl)
theorem dX0_ribbon_24 : decode cX0_ribbon 24 = .ok (.invokestatic 86, 3) := dk_184 0 86 (dk_at dksX0_ribbon_1 0 rfl rfl)
theorem dX0_ribbon_27 : decode cX0_ribbon 27 = .ok (.ifCond .ne 6, 3) := dk_154 0 6 (dk_at dksX0_ribbon_1 3 rfl rfl)
theorem dX0_ribbon_30 : decode cX0_ribbon 30 = .ok (.bipush (-2), 2) := dk_16 254 (dk_at dksX0_ribbon_1 6 rfl rfl)
theorem dX0_ribbon_32 : decode cX0_ribbon 32 = .ok (.ireturn, 1) := dk_172 (dk_at dksX0_ribbon_1 8 rfl rfl)
theorem dX0_ribbon_33 : decode cX0_ribbon 33 = .ok (.aload_n 0, 1) := dk_42 (dk_at dksX0_ribbon_1 9 rfl rfl)
theorem dX0_ribbon_34 : decode cX0_ribbon 34 = .ok (.getfield 115, 3) := dk_180 0 115 (dk_at dksX0_ribbon_1 10 rfl rfl)
theorem dX0_ribbon_37 : decode cX0_ribbon 37 = .ok (.ifCond .eq 6, 3) := dk_153 0 6 (dk_at dksX0_ribbon_1 13 rfl rfl)
theorem dX0_ribbon_40 : decode cX0_ribbon 40 = .ok (.bipush (-3), 2) := dk_16 253 (dk_at dksX0_ribbon_1 16 rfl rfl)
theorem dX0_ribbon_42 : decode cX0_ribbon 42 = .ok (.ireturn, 1) := dk_172 (dk_at dksX0_ribbon_1 18 rfl rfl)
theorem dX0_ribbon_43 : decode cX0_ribbon 43 = .ok (.aload_n 0, 1) := dk_42 (dk_at dksX0_ribbon_1 19 rfl rfl)
theorem dX0_ribbon_44 : decode cX0_ribbon 44 = .ok (.getfield 19, 3) := dk_180 0 19 (dk_at dksX0_ribbon_1 20 rfl rfl)
theorem dX0_ribbon_47 : decode cX0_ribbon 47 = .ok (.iload_n 1, 1) := dk_27 (dk_at dksX0_ribbon_1 23 rfl rfl)
theorem dX0_ribbon_48 : decode cX0_ribbon 48 = .ok (.iload_n 2, 1) := dk_28 (dk_at dksX0_ribbon_2 0 rfl rfl)
theorem dX0_ribbon_49 : decode cX0_ribbon 49 = .ok (.iastore, 1) := dk_79 (dk_at dksX0_ribbon_2 1 rfl rfl)
theorem dX0_ribbon_50 : decode cX0_ribbon 50 = .ok (.aload_n 0, 1) := dk_42 (dk_at dksX0_ribbon_2 2 rfl rfl)
theorem dX0_ribbon_51 : decode cX0_ribbon 51 = .ok (.getfield 22, 3) := dk_180 0 22 (dk_at dksX0_ribbon_2 3 rfl rfl)
theorem dX0_ribbon_54 : decode cX0_ribbon 54 = .ok (.iload_n 1, 1) := dk_27 (dk_at dksX0_ribbon_2 6 rfl rfl)
theorem dX0_ribbon_55 : decode cX0_ribbon 55 = .ok (.iload_n 3, 1) := dk_29 (dk_at dksX0_ribbon_2 7 rfl rfl)
theorem dX0_ribbon_56 : decode cX0_ribbon 56 = .ok (.iastore, 1) := dk_79 (dk_at dksX0_ribbon_2 8 rfl rfl)
theorem dX0_ribbon_57 : decode cX0_ribbon 57 = .ok (.iconst 1, 1) := dk_4 (dk_at dksX0_ribbon_2 9 rfl rfl)
theorem dX0_ribbon_58 : decode cX0_ribbon 58 = .ok (.ireturn, 1) := dk_172 (dk_at dksX0_ribbon_2 10 rfl rfl)
abbrev cX0_at : ByteArray := prog_1_method_12_code
def yX0_at : MethodName := ⟨RX0, "at", "(II)I"⟩
def dkwX0_at_5 : List UInt8 := [167, 0, 9, 42, 180, 0, 22, 27, 46, 172, 29, 172, 16, 250, 172]
abbrev dktX0_at_5 : List UInt8 := dkwX0_at_5 ++ []
def dkwX0_at_4 : List UInt8 := [180, 0, 19, 27, 46, 172, 42, 180, 0, 115, 153, 0, 15, 42, 180, 0, 119, 180, 0, 150, 29, 46]
abbrev dktX0_at_4 : List UInt8 := dkwX0_at_4 ++ dktX0_at_5
def dkwX0_at_3 : List UInt8 := [42, 180, 0, 15, 27, 46, 172, 42, 180, 0, 115, 153, 0, 12, 42, 180, 0, 25, 29, 46, 167, 0, 9, 42]
abbrev dktX0_at_3 : List UInt8 := dkwX0_at_3 ++ dktX0_at_4
def dkwX0_at_2 : List UInt8 := [170, 0, 0, 0, 0, 0, 89, 0, 0, 0, 0, 0, 0, 0, 3, 0, 0, 0, 31, 0, 0, 0, 38, 0, 0, 0, 61, 0, 0, 0, 87]
abbrev dktX0_at_2 : List UInt8 := dkwX0_at_2 ++ dktX0_at_3
def dkwX0_at_1 : List UInt8 := [180, 0, 147, 27, 46, 167, 0, 4, 27, 62, 28]
abbrev dktX0_at_1 : List UInt8 := dkwX0_at_1 ++ dktX0_at_2
def dkwX0_at_0 : List UInt8 := [42, 27, 182, 0, 139, 154, 0, 6, 16, 250, 172, 42, 180, 0, 115, 153, 0, 15, 42, 180, 0, 119]
abbrev dktX0_at_0 : List UInt8 := dkwX0_at_0 ++ dktX0_at_1
theorem dksX0_at_0 : cX0_at.data.toList.drop 0 = dktX0_at_0 := by decide +kernel
theorem dksX0_at_1 : cX0_at.data.toList.drop 22 = dktX0_at_1 := dk_seg dksX0_at_0 22 rfl rfl
theorem dksX0_at_2 : cX0_at.data.toList.drop 33 = dktX0_at_2 := dk_seg dksX0_at_1 11 rfl rfl
theorem dksX0_at_3 : cX0_at.data.toList.drop 64 = dktX0_at_3 := dk_seg dksX0_at_2 31 rfl rfl
theorem dksX0_at_4 : cX0_at.data.toList.drop 88 = dktX0_at_4 := dk_seg dksX0_at_3 24 rfl rfl
theorem dksX0_at_5 : cX0_at.data.toList.drop 110 = dktX0_at_5 := dk_seg dksX0_at_4 22 rfl rfl
theorem dX0_at_0 : decode cX0_at 0 = .ok (.aload_n 0, 1) := dk_42 (dk_at dksX0_at_0 0 rfl rfl)
theorem dX0_at_1 : decode cX0_at 1 = .ok (.iload_n 1, 1) := dk_27 (dk_at dksX0_at_0 1 rfl rfl)
theorem dX0_at_2 : decode cX0_at 2 = .ok (.invokevirtual 139, 3) := dk_182 0 139 (dk_at dksX0_at_0 2 rfl rfl)
theorem dX0_at_5 : decode cX0_at 5 = .ok (.ifCond .ne 6, 3) := dk_154 0 6 (dk_at dksX0_at_0 5 rfl rfl)
theorem dX0_at_8 : decode cX0_at 8 = .ok (.bipush (-6), 2) := dk_16 250 (dk_at dksX0_at_0 8 rfl rfl)
theorem dX0_at_10 : decode cX0_at 10 = .ok (.ireturn, 1) := dk_172 (dk_at dksX0_at_0 10 rfl rfl)
theorem dX0_at_11 : decode cX0_at 11 = .ok (.aload_n 0, 1) := dk_42 (dk_at dksX0_at_0 11 rfl rfl)
theorem dX0_at_12 : decode cX0_at 12 = .ok (.getfield 115, 3) := dk_180 0 115 (dk_at dksX0_at_0 12 rfl rfl)
theorem dX0_at_15 : decode cX0_at 15 = .ok (.ifCond .eq 15, 3) := dk_153 0 15 (dk_at dksX0_at_0 15 rfl rfl)
theorem dX0_at_18 : decode cX0_at 18 = .ok (.aload_n 0, 1) := dk_42 (dk_at dksX0_at_0 18 rfl rfl)
theorem dX0_at_19 : decode cX0_at 19 = .ok (.getfield 119, 3) := dk_180 0 119 (dk_at dksX0_at_0 19 rfl rfl)
theorem dX0_at_22 : decode cX0_at 22 = .ok (.getfield 147, 3) := dk_180 0 147 (dk_at dksX0_at_1 0 rfl rfl)
theorem dX0_at_25 : decode cX0_at 25 = .ok (.iload_n 1, 1) := dk_27 (dk_at dksX0_at_1 3 rfl rfl)
theorem dX0_at_26 : decode cX0_at 26 = .ok (.iaload, 1) := dk_46 (dk_at dksX0_at_1 4 rfl rfl)
theorem dX0_at_27 : decode cX0_at 27 = .ok (.goto 4, 3) := dk_167 0 4 (dk_at dksX0_at_1 5 rfl rfl)
theorem dX0_at_30 : decode cX0_at 30 = .ok (.iload_n 1, 1) := dk_27 (dk_at dksX0_at_1 8 rfl rfl)
theorem dX0_at_31 : decode cX0_at 31 = .ok (.istore_n 3, 1) := dk_62 (dk_at dksX0_at_1 9 rfl rfl)
theorem dX0_at_32 : decode cX0_at 32 = .ok (.iload_n 2, 1) := dk_28 (dk_at dksX0_at_1 10 rfl rfl)
theorem dX0_at_33 : decode cX0_at 33 = .ok (.tableswitch 89 0 3 #[31, 38, 61, 87], 31) := by decide +kernel
theorem dX0_at_64 : decode cX0_at 64 = .ok (.aload_n 0, 1) := dk_42 (dk_at dksX0_at_3 0 rfl rfl)
theorem dX0_at_65 : decode cX0_at 65 = .ok (.getfield 15, 3) := dk_180 0 15 (dk_at dksX0_at_3 1 rfl rfl)
theorem dX0_at_68 : decode cX0_at 68 = .ok (.iload_n 1, 1) := dk_27 (dk_at dksX0_at_3 4 rfl rfl)
theorem dX0_at_69 : decode cX0_at 69 = .ok (.iaload, 1) := dk_46 (dk_at dksX0_at_3 5 rfl rfl)
theorem dX0_at_70 : decode cX0_at 70 = .ok (.ireturn, 1) := dk_172 (dk_at dksX0_at_3 6 rfl rfl)
theorem dX0_at_71 : decode cX0_at 71 = .ok (.aload_n 0, 1) := dk_42 (dk_at dksX0_at_3 7 rfl rfl)
theorem dX0_at_72 : decode cX0_at 72 = .ok (.getfield 115, 3) := dk_180 0 115 (dk_at dksX0_at_3 8 rfl rfl)
theorem dX0_at_75 : decode cX0_at 75 = .ok (.ifCond .eq 12, 3) := dk_153 0 12 (dk_at dksX0_at_3 11 rfl rfl)
theorem dX0_at_78 : decode cX0_at 78 = .ok (.aload_n 0, 1) := dk_42 (dk_at dksX0_at_3 14 rfl rfl)
theorem dX0_at_79 : decode cX0_at 79 = .ok (.getfield 25, 3) := dk_180 0 25 (dk_at dksX0_at_3 15 rfl rfl)
theorem dX0_at_82 : decode cX0_at 82 = .ok (.iload_n 3, 1) := dk_29 (dk_at dksX0_at_3 18 rfl rfl)
theorem dX0_at_83 : decode cX0_at 83 = .ok (.iaload, 1) := dk_46 (dk_at dksX0_at_3 19 rfl rfl)
theorem dX0_at_84 : decode cX0_at 84 = .ok (.goto 9, 3) := dk_167 0 9 (dk_at dksX0_at_3 20 rfl rfl)
theorem dX0_at_87 : decode cX0_at 87 = .ok (.aload_n 0, 1) := dk_42 (dk_at dksX0_at_3 23 rfl rfl)
theorem dX0_at_88 : decode cX0_at 88 = .ok (.getfield 19, 3) := dk_180 0 19 (dk_at dksX0_at_4 0 rfl rfl)
theorem dX0_at_91 : decode cX0_at 91 = .ok (.iload_n 1, 1) := dk_27 (dk_at dksX0_at_4 3 rfl rfl)
theorem dX0_at_92 : decode cX0_at 92 = .ok (.iaload, 1) := dk_46 (dk_at dksX0_at_4 4 rfl rfl)
theorem dX0_at_93 : decode cX0_at 93 = .ok (.ireturn, 1) := dk_172 (dk_at dksX0_at_4 5 rfl rfl)
theorem dX0_at_94 : decode cX0_at 94 = .ok (.aload_n 0, 1) := dk_42 (dk_at dksX0_at_4 6 rfl rfl)
theorem dX0_at_95 : decode cX0_at 95 = .ok (.getfield 115, 3) := dk_180 0 115 (dk_at dksX0_at_4 7 rfl rfl)
theorem dX0_at_98 : decode cX0_at 98 = .ok (.ifCond .eq 15, 3) := dk_153 0 15 (dk_at dksX0_at_4 10 rfl rfl)
theorem dX0_at_101 : decode cX0_at 101 = .ok (.aload_n 0, 1) := dk_42 (dk_at dksX0_at_4 13 rfl rfl)
theorem dX0_at_102 : decode cX0_at 102 = .ok (.getfield 119, 3) := dk_180 0 119 (dk_at dksX0_at_4 14 rfl rfl)
theorem dX0_at_105 : decode cX0_at 105 = .ok (.getfield 150, 3) := dk_180 0 150 (dk_at dksX0_at_4 17 rfl rfl)
theorem dX0_at_108 : decode cX0_at 108 = .ok (.iload_n 3, 1) := dk_29 (dk_at dksX0_at_4 20 rfl rfl)
theorem dX0_at_109 : decode cX0_at 109 = .ok (.iaload, 1) := dk_46 (dk_at dksX0_at_4 21 rfl rfl)
theorem dX0_at_110 : decode cX0_at 110 = .ok (.goto 9, 3) := dk_167 0 9 (dk_at dksX0_at_5 0 rfl rfl)
theorem dX0_at_113 : decode cX0_at 113 = .ok (.aload_n 0, 1) := dk_42 (dk_at dksX0_at_5 3 rfl rfl)
theorem dX0_at_114 : decode cX0_at 114 = .ok (.getfield 22, 3) := dk_180 0 22 (dk_at dksX0_at_5 4 rfl rfl)
theorem dX0_at_117 : decode cX0_at 117 = .ok (.iload_n 1, 1) := dk_27 (dk_at dksX0_at_5 7 rfl rfl)
theorem dX0_at_118 : decode cX0_at 118 = .ok (.iaload, 1) := dk_46 (dk_at dksX0_at_5 8 rfl rfl)
theorem dX0_at_119 : decode cX0_at 119 = .ok (.ireturn, 1) := dk_172 (dk_at dksX0_at_5 9 rfl rfl)
theorem dX0_at_120 : decode cX0_at 120 = .ok (.iload_n 3, 1) := dk_29 (dk_at dksX0_at_5 10 rfl rfl)
theorem dX0_at_121 : decode cX0_at 121 = .ok (.ireturn, 1) := dk_172 (dk_at dksX0_at_5 11 rfl rfl)
theorem dX0_at_122 : decode cX0_at 122 = .ok (.bipush (-6), 2) := dk_16 250 (dk_at dksX0_at_5 12 rfl rfl)
theorem dX0_at_124 : decode cX0_at 124 = .ok (.ireturn, 1) := dk_172 (dk_at dksX0_at_5 14 rfl rfl)
abbrev cX0_begin : ByteArray := prog_1_method_13_code
def yX0_begin : MethodName := ⟨RX0, "begin", "()I"⟩
def dkwX0_begin_4 : List UInt8 := [42, 180, 0, 28, 182, 0, 132, 42, 3, 181, 0, 136, 42, 4, 181, 0, 115, 42, 180, 0, 90, 172]
abbrev dktX0_begin_4 : List UInt8 := dkwX0_begin_4 ++ []
def dkwX0_begin_3 : List UInt8 := [16, 9, 184, 0, 153, 42, 180, 0, 22, 3, 42, 180, 0, 28, 3, 16, 9, 184, 0, 153, 42, 180, 0, 119]
abbrev dktX0_begin_3 : List UInt8 := dkwX0_begin_3 ++ dktX0_begin_4
def dkwX0_begin_2 : List UInt8 := [42, 180, 0, 115, 154, 0, 7, 27, 154, 0, 6, 16, 253, 172, 42, 180, 0, 19, 3, 42, 180, 0, 25, 3]
abbrev dktX0_begin_2 : List UInt8 := dkwX0_begin_2 ++ dktX0_begin_3
def dkwX0_begin_1 : List UInt8 := [42, 180, 0, 15, 28, 46, 16, 251, 159, 0, 7, 4, 167, 0, 4, 3, 126, 60, 132, 2, 1, 167, 255, 226]
abbrev dktX0_begin_1 : List UInt8 := dkwX0_begin_1 ++ dktX0_begin_2
def dkwX0_begin_0 : List UInt8 := [42, 180, 0, 90, 158, 0, 7, 4, 167, 0, 4, 3, 60, 3, 61, 28, 42, 180, 0, 90, 162, 0, 28, 27]
abbrev dktX0_begin_0 : List UInt8 := dkwX0_begin_0 ++ dktX0_begin_1
theorem dksX0_begin_0 : cX0_begin.data.toList.drop 0 = dktX0_begin_0 := by decide +kernel
theorem dksX0_begin_1 : cX0_begin.data.toList.drop 24 = dktX0_begin_1 := dk_seg dksX0_begin_0 24 rfl rfl
theorem dksX0_begin_2 : cX0_begin.data.toList.drop 48 = dktX0_begin_2 := dk_seg dksX0_begin_1 24 rfl rfl
theorem dksX0_begin_3 : cX0_begin.data.toList.drop 72 = dktX0_begin_3 := dk_seg dksX0_begin_2 24 rfl rfl
theorem dksX0_begin_4 : cX0_begin.data.toList.drop 96 = dktX0_begin_4 := dk_seg dksX0_begin_3 24 rfl rfl
theorem dX0_begin_0 : decode cX0_begin 0 = .ok (.aload_n 0, 1) := dk_42 (dk_at dksX0_begin_0 0 rfl rfl)
theorem dX0_begin_1 : decode cX0_begin 1 = .ok (.getfield 90, 3) := dk_180 0 90 (dk_at dksX0_begin_0 1 rfl rfl)
theorem dX0_begin_4 : decode cX0_begin 4 = .ok (.ifCond .le 7, 3) := dk_158 0 7 (dk_at dksX0_begin_0 4 rfl rfl)
theorem dX0_begin_7 : decode cX0_begin 7 = .ok (.iconst 1, 1) := dk_4 (dk_at dksX0_begin_0 7 rfl rfl)
theorem dX0_begin_8 : decode cX0_begin 8 = .ok (.goto 4, 3) := dk_167 0 4 (dk_at dksX0_begin_0 8 rfl rfl)
theorem dX0_begin_11 : decode cX0_begin 11 = .ok (.iconst 0, 1) := dk_3 (dk_at dksX0_begin_0 11 rfl rfl)
theorem dX0_begin_12 : decode cX0_begin 12 = .ok (.istore_n 1, 1) := dk_60 (dk_at dksX0_begin_0 12 rfl rfl)
theorem dX0_begin_13 : decode cX0_begin 13 = .ok (.iconst 0, 1) := dk_3 (dk_at dksX0_begin_0 13 rfl rfl)
theorem dX0_begin_14 : decode cX0_begin 14 = .ok (.istore_n 2, 1) := dk_61 (dk_at dksX0_begin_0 14 rfl rfl)
theorem dX0_begin_15 : decode cX0_begin 15 = .ok (.iload_n 2, 1) := dk_28 (dk_at dksX0_begin_0 15 rfl rfl)
theorem dX0_begin_16 : decode cX0_begin 16 = .ok (.aload_n 0, 1) := dk_42 (dk_at dksX0_begin_0 16 rfl rfl)
theorem dX0_begin_17 : decode cX0_begin 17 = .ok (.getfield 90, 3) := dk_180 0 90 (dk_at dksX0_begin_0 17 rfl rfl)
theorem dX0_begin_20 : decode cX0_begin 20 = .ok (.if_icmp .ge 28, 3) := dk_162 0 28 (dk_at dksX0_begin_0 20 rfl rfl)
theorem dX0_begin_23 : decode cX0_begin 23 = .ok (.iload_n 1, 1) := dk_27 (dk_at dksX0_begin_0 23 rfl rfl)
theorem dX0_begin_24 : decode cX0_begin 24 = .ok (.aload_n 0, 1) := dk_42 (dk_at dksX0_begin_1 0 rfl rfl)
theorem dX0_begin_25 : decode cX0_begin 25 = .ok (.getfield 15, 3) := dk_180 0 15 (dk_at dksX0_begin_1 1 rfl rfl)
theorem dX0_begin_28 : decode cX0_begin 28 = .ok (.iload_n 2, 1) := dk_28 (dk_at dksX0_begin_1 4 rfl rfl)
theorem dX0_begin_29 : decode cX0_begin 29 = .ok (.iaload, 1) := dk_46 (dk_at dksX0_begin_1 5 rfl rfl)
theorem dX0_begin_30 : decode cX0_begin 30 = .ok (.bipush (-5), 2) := dk_16 251 (dk_at dksX0_begin_1 6 rfl rfl)
theorem dX0_begin_32 : decode cX0_begin 32 = .ok (.if_icmp .eq 7, 3) := dk_159 0 7 (dk_at dksX0_begin_1 8 rfl rfl)
theorem dX0_begin_35 : decode cX0_begin 35 = .ok (.iconst 1, 1) := dk_4 (dk_at dksX0_begin_1 11 rfl rfl)
theorem dX0_begin_36 : decode cX0_begin 36 = .ok (.goto 4, 3) := dk_167 0 4 (dk_at dksX0_begin_1 12 rfl rfl)
theorem dX0_begin_39 : decode cX0_begin 39 = .ok (.iconst 0, 1) := dk_3 (dk_at dksX0_begin_1 15 rfl rfl)
theorem dX0_begin_40 : decode cX0_begin 40 = .ok (.iand, 1) := dk_126 (dk_at dksX0_begin_1 16 rfl rfl)
theorem dX0_begin_41 : decode cX0_begin 41 = .ok (.istore_n 1, 1) := dk_60 (dk_at dksX0_begin_1 17 rfl rfl)
theorem dX0_begin_42 : decode cX0_begin 42 = .ok (.iinc 2 1, 3) := dk_132 2 1 (dk_at dksX0_begin_1 18 rfl rfl)
theorem dX0_begin_45 : decode cX0_begin 45 = .ok (.goto (-30), 3) := dk_167 255 226 (dk_at dksX0_begin_1 21 rfl rfl)
theorem dX0_begin_48 : decode cX0_begin 48 = .ok (.aload_n 0, 1) := dk_42 (dk_at dksX0_begin_2 0 rfl rfl)
theorem dX0_begin_49 : decode cX0_begin 49 = .ok (.getfield 115, 3) := dk_180 0 115 (dk_at dksX0_begin_2 1 rfl rfl)
theorem dX0_begin_52 : decode cX0_begin 52 = .ok (.ifCond .ne 7, 3) := dk_154 0 7 (dk_at dksX0_begin_2 4 rfl rfl)
theorem dX0_begin_55 : decode cX0_begin 55 = .ok (.iload_n 1, 1) := dk_27 (dk_at dksX0_begin_2 7 rfl rfl)
theorem dX0_begin_56 : decode cX0_begin 56 = .ok (.ifCond .ne 6, 3) := dk_154 0 6 (dk_at dksX0_begin_2 8 rfl rfl)
theorem dX0_begin_59 : decode cX0_begin 59 = .ok (.bipush (-3), 2) := dk_16 253 (dk_at dksX0_begin_2 11 rfl rfl)
theorem dX0_begin_61 : decode cX0_begin 61 = .ok (.ireturn, 1) := dk_172 (dk_at dksX0_begin_2 13 rfl rfl)
theorem dX0_begin_62 : decode cX0_begin 62 = .ok (.aload_n 0, 1) := dk_42 (dk_at dksX0_begin_2 14 rfl rfl)
theorem dX0_begin_63 : decode cX0_begin 63 = .ok (.getfield 19, 3) := dk_180 0 19 (dk_at dksX0_begin_2 15 rfl rfl)
theorem dX0_begin_66 : decode cX0_begin 66 = .ok (.iconst 0, 1) := dk_3 (dk_at dksX0_begin_2 18 rfl rfl)
theorem dX0_begin_67 : decode cX0_begin 67 = .ok (.aload_n 0, 1) := dk_42 (dk_at dksX0_begin_2 19 rfl rfl)
theorem dX0_begin_68 : decode cX0_begin 68 = .ok (.getfield 25, 3) := dk_180 0 25 (dk_at dksX0_begin_2 20 rfl rfl)
theorem dX0_begin_71 : decode cX0_begin 71 = .ok (.iconst 0, 1) := dk_3 (dk_at dksX0_begin_2 23 rfl rfl)
theorem dX0_begin_72 : decode cX0_begin 72 = .ok (.bipush 9, 2) := dk_16 9 (dk_at dksX0_begin_3 0 rfl rfl)
theorem dX0_begin_74 : decode cX0_begin 74 = .ok (.invokestatic 153, 3) := dk_184 0 153 (dk_at dksX0_begin_3 2 rfl rfl)
theorem dX0_begin_77 : decode cX0_begin 77 = .ok (.aload_n 0, 1) := dk_42 (dk_at dksX0_begin_3 5 rfl rfl)
theorem dX0_begin_78 : decode cX0_begin 78 = .ok (.getfield 22, 3) := dk_180 0 22 (dk_at dksX0_begin_3 6 rfl rfl)
theorem dX0_begin_81 : decode cX0_begin 81 = .ok (.iconst 0, 1) := dk_3 (dk_at dksX0_begin_3 9 rfl rfl)
theorem dX0_begin_82 : decode cX0_begin 82 = .ok (.aload_n 0, 1) := dk_42 (dk_at dksX0_begin_3 10 rfl rfl)
theorem dX0_begin_83 : decode cX0_begin 83 = .ok (.getfield 28, 3) := dk_180 0 28 (dk_at dksX0_begin_3 11 rfl rfl)
theorem dX0_begin_86 : decode cX0_begin 86 = .ok (.iconst 0, 1) := dk_3 (dk_at dksX0_begin_3 14 rfl rfl)
theorem dX0_begin_87 : decode cX0_begin 87 = .ok (.bipush 9, 2) := dk_16 9 (dk_at dksX0_begin_3 15 rfl rfl)
theorem dX0_begin_89 : decode cX0_begin 89 = .ok (.invokestatic 153, 3) := dk_184 0 153 (dk_at dksX0_begin_3 17 rfl rfl)
theorem dX0_begin_92 : decode cX0_begin 92 = .ok (.aload_n 0, 1) := dk_42 (dk_at dksX0_begin_3 20 rfl rfl)
theorem dX0_begin_93 : decode cX0_begin 93 = .ok (.getfield 119, 3) := dk_180 0 119 (dk_at dksX0_begin_3 21 rfl rfl)
theorem dX0_begin_96 : decode cX0_begin 96 = .ok (.aload_n 0, 1) := dk_42 (dk_at dksX0_begin_4 0 rfl rfl)
theorem dX0_begin_97 : decode cX0_begin 97 = .ok (.getfield 28, 3) := dk_180 0 28 (dk_at dksX0_begin_4 1 rfl rfl)
theorem dX0_begin_100 : decode cX0_begin 100 = .ok (.invokevirtual 132, 3) := dk_182 0 132 (dk_at dksX0_begin_4 4 rfl rfl)
theorem dX0_begin_103 : decode cX0_begin 103 = .ok (.aload_n 0, 1) := dk_42 (dk_at dksX0_begin_4 7 rfl rfl)
theorem dX0_begin_104 : decode cX0_begin 104 = .ok (.iconst 0, 1) := dk_3 (dk_at dksX0_begin_4 8 rfl rfl)
theorem dX0_begin_105 : decode cX0_begin 105 = .ok (.putfield 136, 3) := dk_181 0 136 (dk_at dksX0_begin_4 9 rfl rfl)
theorem dX0_begin_108 : decode cX0_begin 108 = .ok (.aload_n 0, 1) := dk_42 (dk_at dksX0_begin_4 12 rfl rfl)
theorem dX0_begin_109 : decode cX0_begin 109 = .ok (.iconst 1, 1) := dk_4 (dk_at dksX0_begin_4 13 rfl rfl)
theorem dX0_begin_110 : decode cX0_begin 110 = .ok (.putfield 115, 3) := dk_181 0 115 (dk_at dksX0_begin_4 14 rfl rfl)
theorem dX0_begin_113 : decode cX0_begin 113 = .ok (.aload_n 0, 1) := dk_42 (dk_at dksX0_begin_4 17 rfl rfl)
theorem dX0_begin_114 : decode cX0_begin 114 = .ok (.getfield 90, 3) := dk_180 0 90 (dk_at dksX0_begin_4 18 rfl rfl)
theorem dX0_begin_117 : decode cX0_begin 117 = .ok (.ireturn, 1) := dk_172 (dk_at dksX0_begin_4 21 rfl rfl)
abbrev cX0_end : ByteArray := prog_1_method_14_code
def yX0_end : MethodName := ⟨RX0, "end", "()I"⟩
def dkwX0_end_3 : List UInt8 := [3, 181, 0, 115, 42, 180, 0, 136, 172]
abbrev dktX0_end_3 : List UInt8 := dkwX0_end_3 ++ []
def dkwX0_end_2 : List UInt8 := [180, 0, 119, 180, 0, 150, 42, 180, 0, 119, 180, 0, 147, 27, 46, 46, 79, 132, 1, 1, 167, 255, 202, 42]
abbrev dktX0_end_2 : List UInt8 := dkwX0_end_2 ++ dktX0_end_3
def dkwX0_end_1 : List UInt8 := [27, 42, 180, 0, 25, 42, 180, 0, 119, 180, 0, 147, 27, 46, 46, 79, 42, 180, 0, 22, 27, 42]
abbrev dktX0_end_1 : List UInt8 := dkwX0_end_1 ++ dktX0_end_2
def dkwX0_end_0 : List UInt8 := [42, 180, 0, 115, 154, 0, 6, 16, 253, 172, 3, 60, 27, 42, 180, 0, 90, 162, 0, 52, 42, 180, 0, 19]
abbrev dktX0_end_0 : List UInt8 := dkwX0_end_0 ++ dktX0_end_1
theorem dksX0_end_0 : cX0_end.data.toList.drop 0 = dktX0_end_0 := by decide +kernel
theorem dksX0_end_1 : cX0_end.data.toList.drop 24 = dktX0_end_1 := dk_seg dksX0_end_0 24 rfl rfl
theorem dksX0_end_2 : cX0_end.data.toList.drop 46 = dktX0_end_2 := dk_seg dksX0_end_1 22 rfl rfl
theorem dksX0_end_3 : cX0_end.data.toList.drop 70 = dktX0_end_3 := dk_seg dksX0_end_2 24 rfl rfl
theorem dX0_end_0 : decode cX0_end 0 = .ok (.aload_n 0, 1) := dk_42 (dk_at dksX0_end_0 0 rfl rfl)
theorem dX0_end_1 : decode cX0_end 1 = .ok (.getfield 115, 3) := dk_180 0 115 (dk_at dksX0_end_0 1 rfl rfl)
theorem dX0_end_4 : decode cX0_end 4 = .ok (.ifCond .ne 6, 3) := dk_154 0 6 (dk_at dksX0_end_0 4 rfl rfl)
theorem dX0_end_7 : decode cX0_end 7 = .ok (.bipush (-3), 2) := dk_16 253 (dk_at dksX0_end_0 7 rfl rfl)
theorem dX0_end_9 : decode cX0_end 9 = .ok (.ireturn, 1) := dk_172 (dk_at dksX0_end_0 9 rfl rfl)
theorem dX0_end_10 : decode cX0_end 10 = .ok (.iconst 0, 1) := dk_3 (dk_at dksX0_end_0 10 rfl rfl)
theorem dX0_end_11 : decode cX0_end 11 = .ok (.istore_n 1, 1) := dk_60 (dk_at dksX0_end_0 11 rfl rfl)
theorem dX0_end_12 : decode cX0_end 12 = .ok (.iload_n 1, 1) := dk_27 (dk_at dksX0_end_0 12 rfl rfl)
theorem dX0_end_13 : decode cX0_end 13 = .ok (.aload_n 0, 1) := dk_42 (dk_at dksX0_end_0 13 rfl rfl)
theorem dX0_end_14 : decode cX0_end 14 = .ok (.getfield 90, 3) := dk_180 0 90 (dk_at dksX0_end_0 14 rfl rfl)
theorem dX0_end_17 : decode cX0_end 17 = .ok (.if_icmp .ge 52, 3) := dk_162 0 52 (dk_at dksX0_end_0 17 rfl rfl)
theorem dX0_end_20 : decode cX0_end 20 = .ok (.aload_n 0, 1) := dk_42 (dk_at dksX0_end_0 20 rfl rfl)
theorem dX0_end_21 : decode cX0_end 21 = .ok (.getfield 19, 3) := dk_180 0 19 (dk_at dksX0_end_0 21 rfl rfl)
theorem dX0_end_24 : decode cX0_end 24 = .ok (.iload_n 1, 1) := dk_27 (dk_at dksX0_end_1 0 rfl rfl)
theorem dX0_end_25 : decode cX0_end 25 = .ok (.aload_n 0, 1) := dk_42 (dk_at dksX0_end_1 1 rfl rfl)
theorem dX0_end_26 : decode cX0_end 26 = .ok (.getfield 25, 3) := dk_180 0 25 (dk_at dksX0_end_1 2 rfl rfl)
theorem dX0_end_29 : decode cX0_end 29 = .ok (.aload_n 0, 1) := dk_42 (dk_at dksX0_end_1 5 rfl rfl)
theorem dX0_end_30 : decode cX0_end 30 = .ok (.getfield 119, 3) := dk_180 0 119 (dk_at dksX0_end_1 6 rfl rfl)
theorem dX0_end_33 : decode cX0_end 33 = .ok (.getfield 147, 3) := dk_180 0 147 (dk_at dksX0_end_1 9 rfl rfl)
theorem dX0_end_36 : decode cX0_end 36 = .ok (.iload_n 1, 1) := dk_27 (dk_at dksX0_end_1 12 rfl rfl)
theorem dX0_end_37 : decode cX0_end 37 = .ok (.iaload, 1) := dk_46 (dk_at dksX0_end_1 13 rfl rfl)
theorem dX0_end_38 : decode cX0_end 38 = .ok (.iaload, 1) := dk_46 (dk_at dksX0_end_1 14 rfl rfl)
theorem dX0_end_39 : decode cX0_end 39 = .ok (.iastore, 1) := dk_79 (dk_at dksX0_end_1 15 rfl rfl)
theorem dX0_end_40 : decode cX0_end 40 = .ok (.aload_n 0, 1) := dk_42 (dk_at dksX0_end_1 16 rfl rfl)
theorem dX0_end_41 : decode cX0_end 41 = .ok (.getfield 22, 3) := dk_180 0 22 (dk_at dksX0_end_1 17 rfl rfl)
theorem dX0_end_44 : decode cX0_end 44 = .ok (.iload_n 1, 1) := dk_27 (dk_at dksX0_end_1 20 rfl rfl)
theorem dX0_end_45 : decode cX0_end 45 = .ok (.aload_n 0, 1) := dk_42 (dk_at dksX0_end_1 21 rfl rfl)
theorem dX0_end_46 : decode cX0_end 46 = .ok (.getfield 119, 3) := dk_180 0 119 (dk_at dksX0_end_2 0 rfl rfl)
theorem dX0_end_49 : decode cX0_end 49 = .ok (.getfield 150, 3) := dk_180 0 150 (dk_at dksX0_end_2 3 rfl rfl)
theorem dX0_end_52 : decode cX0_end 52 = .ok (.aload_n 0, 1) := dk_42 (dk_at dksX0_end_2 6 rfl rfl)
theorem dX0_end_53 : decode cX0_end 53 = .ok (.getfield 119, 3) := dk_180 0 119 (dk_at dksX0_end_2 7 rfl rfl)
theorem dX0_end_56 : decode cX0_end 56 = .ok (.getfield 147, 3) := dk_180 0 147 (dk_at dksX0_end_2 10 rfl rfl)
theorem dX0_end_59 : decode cX0_end 59 = .ok (.iload_n 1, 1) := dk_27 (dk_at dksX0_end_2 13 rfl rfl)
theorem dX0_end_60 : decode cX0_end 60 = .ok (.iaload, 1) := dk_46 (dk_at dksX0_end_2 14 rfl rfl)
theorem dX0_end_61 : decode cX0_end 61 = .ok (.iaload, 1) := dk_46 (dk_at dksX0_end_2 15 rfl rfl)
theorem dX0_end_62 : decode cX0_end 62 = .ok (.iastore, 1) := dk_79 (dk_at dksX0_end_2 16 rfl rfl)
theorem dX0_end_63 : decode cX0_end 63 = .ok (.iinc 1 1, 3) := dk_132 1 1 (dk_at dksX0_end_2 17 rfl rfl)
theorem dX0_end_66 : decode cX0_end 66 = .ok (.goto (-54), 3) := dk_167 255 202 (dk_at dksX0_end_2 20 rfl rfl)
theorem dX0_end_69 : decode cX0_end 69 = .ok (.aload_n 0, 1) := dk_42 (dk_at dksX0_end_2 23 rfl rfl)
theorem dX0_end_70 : decode cX0_end 70 = .ok (.iconst 0, 1) := dk_3 (dk_at dksX0_end_3 0 rfl rfl)
theorem dX0_end_71 : decode cX0_end 71 = .ok (.putfield 115, 3) := dk_181 0 115 (dk_at dksX0_end_3 1 rfl rfl)
theorem dX0_end_74 : decode cX0_end 74 = .ok (.aload_n 0, 1) := dk_42 (dk_at dksX0_end_3 4 rfl rfl)
theorem dX0_end_75 : decode cX0_end 75 = .ok (.getfield 136, 3) := dk_180 0 136 (dk_at dksX0_end_3 5 rfl rfl)
theorem dX0_end_78 : decode cX0_end 78 = .ok (.ireturn, 1) := dk_172 (dk_at dksX0_end_3 8 rfl rfl)
abbrev cX0_pass : ByteArray := prog_1_method_17_code
def yX0_pass : MethodName := ⟨RX0, "pass", "(II)I"⟩
def dkwX0_pass_1 : List UInt8 := [28, 96, 182, 0, 170, 167, 0, 5, 16, 254, 172]
abbrev dktX0_pass_1 : List UInt8 := dkwX0_pass_1 ++ []
def dkwX0_pass_0 : List UInt8 := [42, 27, 182, 0, 139, 154, 0, 5, 2, 172, 28, 3, 4, 184, 0, 86, 153, 0, 16, 42, 16, 10, 27, 104]
abbrev dktX0_pass_0 : List UInt8 := dkwX0_pass_0 ++ dktX0_pass_1
theorem dksX0_pass_0 : cX0_pass.data.toList.drop 0 = dktX0_pass_0 := by decide +kernel
theorem dksX0_pass_1 : cX0_pass.data.toList.drop 24 = dktX0_pass_1 := dk_seg dksX0_pass_0 24 rfl rfl
theorem dX0_pass_0 : decode cX0_pass 0 = .ok (.aload_n 0, 1) := dk_42 (dk_at dksX0_pass_0 0 rfl rfl)
theorem dX0_pass_1 : decode cX0_pass 1 = .ok (.iload_n 1, 1) := dk_27 (dk_at dksX0_pass_0 1 rfl rfl)
theorem dX0_pass_2 : decode cX0_pass 2 = .ok (.invokevirtual 139, 3) := dk_182 0 139 (dk_at dksX0_pass_0 2 rfl rfl)
theorem dX0_pass_5 : decode cX0_pass 5 = .ok (.ifCond .ne 5, 3) := dk_154 0 5 (dk_at dksX0_pass_0 5 rfl rfl)
theorem dX0_pass_8 : decode cX0_pass 8 = .ok (.iconst (-1), 1) := dk_2 (dk_at dksX0_pass_0 8 rfl rfl)
theorem dX0_pass_9 : decode cX0_pass 9 = .ok (.ireturn, 1) := dk_172 (dk_at dksX0_pass_0 9 rfl rfl)
theorem dX0_pass_10 : decode cX0_pass 10 = .ok (.iload_n 2, 1) := dk_28 (dk_at dksX0_pass_0 10 rfl rfl)
theorem dX0_pass_11 : decode cX0_pass 11 = .ok (.iconst 0, 1) := dk_3 (dk_at dksX0_pass_0 11 rfl rfl)
theorem dX0_pass_12 : decode cX0_pass 12 = .ok (.iconst 1, 1) := dk_4 (dk_at dksX0_pass_0 12 rfl rfl)
theorem dX0_pass_13 : decode cX0_pass 13 = .ok (.invokestatic 86, 3) := dk_184 0 86 (dk_at dksX0_pass_0 13 rfl rfl)
theorem dX0_pass_16 : decode cX0_pass 16 = .ok (.ifCond .eq 16, 3) := dk_153 0 16 (dk_at dksX0_pass_0 16 rfl rfl)
theorem dX0_pass_19 : decode cX0_pass 19 = .ok (.aload_n 0, 1) := dk_42 (dk_at dksX0_pass_0 19 rfl rfl)
theorem dX0_pass_20 : decode cX0_pass 20 = .ok (.bipush 10, 2) := dk_16 10 (dk_at dksX0_pass_0 20 rfl rfl)
theorem dX0_pass_22 : decode cX0_pass 22 = .ok (.iload_n 1, 1) := dk_27 (dk_at dksX0_pass_0 22 rfl rfl)
theorem dX0_pass_23 : decode cX0_pass 23 = .ok (.imul, 1) := dk_104 (dk_at dksX0_pass_0 23 rfl rfl)
theorem dX0_pass_24 : decode cX0_pass 24 = .ok (.iload_n 2, 1) := dk_28 (dk_at dksX0_pass_1 0 rfl rfl)
theorem dX0_pass_25 : decode cX0_pass 25 = .ok (.iadd, 1) := dk_96 (dk_at dksX0_pass_1 1 rfl rfl)
theorem dX0_pass_26 : decode cX0_pass 26 = .ok (.invokevirtual 170, 3) := dk_182 0 170 (dk_at dksX0_pass_1 2 rfl rfl)
theorem dX0_pass_29 : decode cX0_pass 29 = .ok (.goto 5, 3) := dk_167 0 5 (dk_at dksX0_pass_1 5 rfl rfl)
theorem dX0_pass_32 : decode cX0_pass 32 = .ok (.bipush (-2), 2) := dk_16 254 (dk_at dksX0_pass_1 8 rfl rfl)
theorem dX0_pass_34 : decode cX0_pass 34 = .ok (.ireturn, 1) := dk_172 (dk_at dksX0_pass_1 10 rfl rfl)
abbrev cX0_steps : ByteArray := prog_1_method_16_code
def yX0_steps : MethodName := ⟨RX0, "steps", "(I)I"⟩
def dkwX0_steps_3 : List UInt8 := [172]
abbrev dktX0_steps_3 : List UInt8 := dkwX0_steps_3 ++ []
def dkwX0_steps_2 : List UInt8 := [182, 0, 166, 42, 180, 0, 31, 42, 89, 180, 0, 136, 90, 4, 96, 181, 0, 136, 27, 79, 42, 180, 0, 136]
abbrev dktX0_steps_2 : List UInt8 := dkwX0_steps_2 ++ dktX0_steps_3
def dkwX0_steps_1 : List UInt8 := [153, 0, 5, 28, 172, 42, 180, 0, 119, 27, 182, 0, 163, 42, 42, 180, 0, 15, 42, 180, 0, 90, 27]
abbrev dktX0_steps_1 : List UInt8 := dkwX0_steps_1 ++ dktX0_steps_2
def dkwX0_steps_0 : List UInt8 := [42, 180, 0, 115, 153, 0, 14, 42, 180, 0, 119, 27, 182, 0, 159, 167, 0, 5, 16, 253, 61, 28]
abbrev dktX0_steps_0 : List UInt8 := dkwX0_steps_0 ++ dktX0_steps_1
theorem dksX0_steps_0 : cX0_steps.data.toList.drop 0 = dktX0_steps_0 := by decide +kernel
theorem dksX0_steps_1 : cX0_steps.data.toList.drop 22 = dktX0_steps_1 := dk_seg dksX0_steps_0 22 rfl rfl
theorem dksX0_steps_2 : cX0_steps.data.toList.drop 45 = dktX0_steps_2 := dk_seg dksX0_steps_1 23 rfl rfl
theorem dksX0_steps_3 : cX0_steps.data.toList.drop 69 = dktX0_steps_3 := dk_seg dksX0_steps_2 24 rfl rfl
theorem dX0_steps_0 : decode cX0_steps 0 = .ok (.aload_n 0, 1) := dk_42 (dk_at dksX0_steps_0 0 rfl rfl)
theorem dX0_steps_1 : decode cX0_steps 1 = .ok (.getfield 115, 3) := dk_180 0 115 (dk_at dksX0_steps_0 1 rfl rfl)
theorem dX0_steps_4 : decode cX0_steps 4 = .ok (.ifCond .eq 14, 3) := dk_153 0 14 (dk_at dksX0_steps_0 4 rfl rfl)
theorem dX0_steps_7 : decode cX0_steps 7 = .ok (.aload_n 0, 1) := dk_42 (dk_at dksX0_steps_0 7 rfl rfl)
theorem dX0_steps_8 : decode cX0_steps 8 = .ok (.getfield 119, 3) := dk_180 0 119 (dk_at dksX0_steps_0 8 rfl rfl)
theorem dX0_steps_11 : decode cX0_steps 11 = .ok (.iload_n 1, 1) := dk_27 (dk_at dksX0_steps_0 11 rfl rfl)
theorem dX0_steps_12 : decode cX0_steps 12 = .ok (.invokevirtual 159, 3) := dk_182 0 159 (dk_at dksX0_steps_0 12 rfl rfl)
theorem dX0_steps_15 : decode cX0_steps 15 = .ok (.goto 5, 3) := dk_167 0 5 (dk_at dksX0_steps_0 15 rfl rfl)
theorem dX0_steps_18 : decode cX0_steps 18 = .ok (.bipush (-3), 2) := dk_16 253 (dk_at dksX0_steps_0 18 rfl rfl)
theorem dX0_steps_20 : decode cX0_steps 20 = .ok (.istore_n 2, 1) := dk_61 (dk_at dksX0_steps_0 20 rfl rfl)
theorem dX0_steps_21 : decode cX0_steps 21 = .ok (.iload_n 2, 1) := dk_28 (dk_at dksX0_steps_0 21 rfl rfl)
theorem dX0_steps_22 : decode cX0_steps 22 = .ok (.ifCond .eq 5, 3) := dk_153 0 5 (dk_at dksX0_steps_1 0 rfl rfl)
theorem dX0_steps_25 : decode cX0_steps 25 = .ok (.iload_n 2, 1) := dk_28 (dk_at dksX0_steps_1 3 rfl rfl)
theorem dX0_steps_26 : decode cX0_steps 26 = .ok (.ireturn, 1) := dk_172 (dk_at dksX0_steps_1 4 rfl rfl)
theorem dX0_steps_27 : decode cX0_steps 27 = .ok (.aload_n 0, 1) := dk_42 (dk_at dksX0_steps_1 5 rfl rfl)
theorem dX0_steps_28 : decode cX0_steps 28 = .ok (.getfield 119, 3) := dk_180 0 119 (dk_at dksX0_steps_1 6 rfl rfl)
theorem dX0_steps_31 : decode cX0_steps 31 = .ok (.iload_n 1, 1) := dk_27 (dk_at dksX0_steps_1 9 rfl rfl)
theorem dX0_steps_32 : decode cX0_steps 32 = .ok (.invokevirtual 163, 3) := dk_182 0 163 (dk_at dksX0_steps_1 10 rfl rfl)
theorem dX0_steps_35 : decode cX0_steps 35 = .ok (.aload_n 0, 1) := dk_42 (dk_at dksX0_steps_1 13 rfl rfl)
theorem dX0_steps_36 : decode cX0_steps 36 = .ok (.aload_n 0, 1) := dk_42 (dk_at dksX0_steps_1 14 rfl rfl)
theorem dX0_steps_37 : decode cX0_steps 37 = .ok (.getfield 15, 3) := dk_180 0 15 (dk_at dksX0_steps_1 15 rfl rfl)
theorem dX0_steps_40 : decode cX0_steps 40 = .ok (.aload_n 0, 1) := dk_42 (dk_at dksX0_steps_1 18 rfl rfl)
theorem dX0_steps_41 : decode cX0_steps 41 = .ok (.getfield 90, 3) := dk_180 0 90 (dk_at dksX0_steps_1 19 rfl rfl)
theorem dX0_steps_44 : decode cX0_steps 44 = .ok (.iload_n 1, 1) := dk_27 (dk_at dksX0_steps_1 22 rfl rfl)
theorem dX0_steps_45 : decode cX0_steps 45 = .ok (.invokevirtual 166, 3) := dk_182 0 166 (dk_at dksX0_steps_2 0 rfl rfl)
theorem dX0_steps_48 : decode cX0_steps 48 = .ok (.aload_n 0, 1) := dk_42 (dk_at dksX0_steps_2 3 rfl rfl)
theorem dX0_steps_49 : decode cX0_steps 49 = .ok (.getfield 31, 3) := dk_180 0 31 (dk_at dksX0_steps_2 4 rfl rfl)
theorem dX0_steps_52 : decode cX0_steps 52 = .ok (.aload_n 0, 1) := dk_42 (dk_at dksX0_steps_2 7 rfl rfl)
theorem dX0_steps_53 : decode cX0_steps 53 = .ok (.dup, 1) := dk_89 (dk_at dksX0_steps_2 8 rfl rfl)
theorem dX0_steps_54 : decode cX0_steps 54 = .ok (.getfield 136, 3) := dk_180 0 136 (dk_at dksX0_steps_2 9 rfl rfl)
theorem dX0_steps_57 : decode cX0_steps 57 = .ok (.dup_x1, 1) := dk_90 (dk_at dksX0_steps_2 12 rfl rfl)
theorem dX0_steps_58 : decode cX0_steps 58 = .ok (.iconst 1, 1) := dk_4 (dk_at dksX0_steps_2 13 rfl rfl)
theorem dX0_steps_59 : decode cX0_steps 59 = .ok (.iadd, 1) := dk_96 (dk_at dksX0_steps_2 14 rfl rfl)
theorem dX0_steps_60 : decode cX0_steps 60 = .ok (.putfield 136, 3) := dk_181 0 136 (dk_at dksX0_steps_2 15 rfl rfl)
theorem dX0_steps_63 : decode cX0_steps 63 = .ok (.iload_n 1, 1) := dk_27 (dk_at dksX0_steps_2 18 rfl rfl)
theorem dX0_steps_64 : decode cX0_steps 64 = .ok (.iastore, 1) := dk_79 (dk_at dksX0_steps_2 19 rfl rfl)
theorem dX0_steps_65 : decode cX0_steps 65 = .ok (.aload_n 0, 1) := dk_42 (dk_at dksX0_steps_2 20 rfl rfl)
theorem dX0_steps_66 : decode cX0_steps 66 = .ok (.getfield 136, 3) := dk_180 0 136 (dk_at dksX0_steps_2 21 rfl rfl)
theorem dX0_steps_69 : decode cX0_steps 69 = .ok (.ireturn, 1) := dk_172 (dk_at dksX0_steps_3 0 rfl rfl)
abbrev cX0_moves : ByteArray := prog_1_method_15_code
def yX0_moves : MethodName := ⟨RX0, "moves", "([III)V"⟩
def dkwX0_moves_3 : List UInt8 := [112, 43, 21, 4, 46, 79, 132, 4, 1, 167, 255, 220, 42, 180, 0, 57, 3, 43, 3, 28, 184, 0, 153, 177]
abbrev dktX0_moves_3 : List UInt8 := dkwX0_moves_3 ++ []
def dkwX0_moves_2 : List UInt8 := [162, 0, 36, 42, 180, 0, 57, 21, 4, 29, 16, 100, 160, 0, 7, 4, 167, 0, 6, 28, 4, 100, 96, 28]
abbrev dktX0_moves_2 : List UInt8 := dkwX0_moves_2 ++ dktX0_moves_3
def dkwX0_moves_1 : List UInt8 := [54, 6, 43, 21, 4, 43, 21, 5, 46, 79, 43, 21, 5, 21, 6, 79, 177, 3, 54, 4, 21, 4, 28]
abbrev dktX0_moves_1 : List UInt8 := dkwX0_moves_1 ++ dktX0_moves_2
def dkwX0_moves_0 : List UInt8 := [29, 16, 100, 162, 0, 38, 29, 16, 10, 108, 54, 4, 21, 4, 4, 96, 28, 112, 54, 5, 43, 21, 4, 46]
abbrev dktX0_moves_0 : List UInt8 := dkwX0_moves_0 ++ dktX0_moves_1
theorem dksX0_moves_0 : cX0_moves.data.toList.drop 0 = dktX0_moves_0 := by decide +kernel
theorem dksX0_moves_1 : cX0_moves.data.toList.drop 24 = dktX0_moves_1 := dk_seg dksX0_moves_0 24 rfl rfl
theorem dksX0_moves_2 : cX0_moves.data.toList.drop 47 = dktX0_moves_2 := dk_seg dksX0_moves_1 23 rfl rfl
theorem dksX0_moves_3 : cX0_moves.data.toList.drop 71 = dktX0_moves_3 := dk_seg dksX0_moves_2 24 rfl rfl
theorem dX0_moves_0 : decode cX0_moves 0 = .ok (.iload_n 3, 1) := dk_29 (dk_at dksX0_moves_0 0 rfl rfl)
theorem dX0_moves_1 : decode cX0_moves 1 = .ok (.bipush 100, 2) := dk_16 100 (dk_at dksX0_moves_0 1 rfl rfl)
theorem dX0_moves_3 : decode cX0_moves 3 = .ok (.if_icmp .ge 38, 3) := dk_162 0 38 (dk_at dksX0_moves_0 3 rfl rfl)
theorem dX0_moves_6 : decode cX0_moves 6 = .ok (.iload_n 3, 1) := dk_29 (dk_at dksX0_moves_0 6 rfl rfl)
theorem dX0_moves_7 : decode cX0_moves 7 = .ok (.bipush 10, 2) := dk_16 10 (dk_at dksX0_moves_0 7 rfl rfl)
theorem dX0_moves_9 : decode cX0_moves 9 = .ok (.idiv, 1) := dk_108 (dk_at dksX0_moves_0 9 rfl rfl)
theorem dX0_moves_10 : decode cX0_moves 10 = .ok (.istore 4, 2) := dk_54 4 (dk_at dksX0_moves_0 10 rfl rfl)
theorem dX0_moves_12 : decode cX0_moves 12 = .ok (.iload 4, 2) := dk_21 4 (dk_at dksX0_moves_0 12 rfl rfl)
theorem dX0_moves_14 : decode cX0_moves 14 = .ok (.iconst 1, 1) := dk_4 (dk_at dksX0_moves_0 14 rfl rfl)
theorem dX0_moves_15 : decode cX0_moves 15 = .ok (.iadd, 1) := dk_96 (dk_at dksX0_moves_0 15 rfl rfl)
theorem dX0_moves_16 : decode cX0_moves 16 = .ok (.iload_n 2, 1) := dk_28 (dk_at dksX0_moves_0 16 rfl rfl)
theorem dX0_moves_17 : decode cX0_moves 17 = .ok (.irem, 1) := dk_112 (dk_at dksX0_moves_0 17 rfl rfl)
theorem dX0_moves_18 : decode cX0_moves 18 = .ok (.istore 5, 2) := dk_54 5 (dk_at dksX0_moves_0 18 rfl rfl)
theorem dX0_moves_20 : decode cX0_moves 20 = .ok (.aload_n 1, 1) := dk_43 (dk_at dksX0_moves_0 20 rfl rfl)
theorem dX0_moves_21 : decode cX0_moves 21 = .ok (.iload 4, 2) := dk_21 4 (dk_at dksX0_moves_0 21 rfl rfl)
theorem dX0_moves_23 : decode cX0_moves 23 = .ok (.iaload, 1) := dk_46 (dk_at dksX0_moves_0 23 rfl rfl)
theorem dX0_moves_24 : decode cX0_moves 24 = .ok (.istore 6, 2) := dk_54 6 (dk_at dksX0_moves_1 0 rfl rfl)
theorem dX0_moves_26 : decode cX0_moves 26 = .ok (.aload_n 1, 1) := dk_43 (dk_at dksX0_moves_1 2 rfl rfl)
theorem dX0_moves_27 : decode cX0_moves 27 = .ok (.iload 4, 2) := dk_21 4 (dk_at dksX0_moves_1 3 rfl rfl)
theorem dX0_moves_29 : decode cX0_moves 29 = .ok (.aload_n 1, 1) := dk_43 (dk_at dksX0_moves_1 5 rfl rfl)
theorem dX0_moves_30 : decode cX0_moves 30 = .ok (.iload 5, 2) := dk_21 5 (dk_at dksX0_moves_1 6 rfl rfl)
theorem dX0_moves_32 : decode cX0_moves 32 = .ok (.iaload, 1) := dk_46 (dk_at dksX0_moves_1 8 rfl rfl)
theorem dX0_moves_33 : decode cX0_moves 33 = .ok (.iastore, 1) := dk_79 (dk_at dksX0_moves_1 9 rfl rfl)
theorem dX0_moves_34 : decode cX0_moves 34 = .ok (.aload_n 1, 1) := dk_43 (dk_at dksX0_moves_1 10 rfl rfl)
theorem dX0_moves_35 : decode cX0_moves 35 = .ok (.iload 5, 2) := dk_21 5 (dk_at dksX0_moves_1 11 rfl rfl)
theorem dX0_moves_37 : decode cX0_moves 37 = .ok (.iload 6, 2) := dk_21 6 (dk_at dksX0_moves_1 13 rfl rfl)
theorem dX0_moves_39 : decode cX0_moves 39 = .ok (.iastore, 1) := dk_79 (dk_at dksX0_moves_1 15 rfl rfl)
theorem dX0_moves_40 : decode cX0_moves 40 = .ok (.return_, 1) := dk_177 (dk_at dksX0_moves_1 16 rfl rfl)
theorem dX0_moves_41 : decode cX0_moves 41 = .ok (.iconst 0, 1) := dk_3 (dk_at dksX0_moves_1 17 rfl rfl)
theorem dX0_moves_42 : decode cX0_moves 42 = .ok (.istore 4, 2) := dk_54 4 (dk_at dksX0_moves_1 18 rfl rfl)
theorem dX0_moves_44 : decode cX0_moves 44 = .ok (.iload 4, 2) := dk_21 4 (dk_at dksX0_moves_1 20 rfl rfl)
theorem dX0_moves_46 : decode cX0_moves 46 = .ok (.iload_n 2, 1) := dk_28 (dk_at dksX0_moves_1 22 rfl rfl)
theorem dX0_moves_47 : decode cX0_moves 47 = .ok (.if_icmp .ge 36, 3) := dk_162 0 36 (dk_at dksX0_moves_2 0 rfl rfl)
theorem dX0_moves_50 : decode cX0_moves 50 = .ok (.aload_n 0, 1) := dk_42 (dk_at dksX0_moves_2 3 rfl rfl)
theorem dX0_moves_51 : decode cX0_moves 51 = .ok (.getfield 57, 3) := dk_180 0 57 (dk_at dksX0_moves_2 4 rfl rfl)
theorem dX0_moves_54 : decode cX0_moves 54 = .ok (.iload 4, 2) := dk_21 4 (dk_at dksX0_moves_2 7 rfl rfl)
theorem dX0_moves_56 : decode cX0_moves 56 = .ok (.iload_n 3, 1) := dk_29 (dk_at dksX0_moves_2 9 rfl rfl)
theorem dX0_moves_57 : decode cX0_moves 57 = .ok (.bipush 100, 2) := dk_16 100 (dk_at dksX0_moves_2 10 rfl rfl)
theorem dX0_moves_59 : decode cX0_moves 59 = .ok (.if_icmp .ne 7, 3) := dk_160 0 7 (dk_at dksX0_moves_2 12 rfl rfl)
theorem dX0_moves_62 : decode cX0_moves 62 = .ok (.iconst 1, 1) := dk_4 (dk_at dksX0_moves_2 15 rfl rfl)
theorem dX0_moves_63 : decode cX0_moves 63 = .ok (.goto 6, 3) := dk_167 0 6 (dk_at dksX0_moves_2 16 rfl rfl)
theorem dX0_moves_66 : decode cX0_moves 66 = .ok (.iload_n 2, 1) := dk_28 (dk_at dksX0_moves_2 19 rfl rfl)
theorem dX0_moves_67 : decode cX0_moves 67 = .ok (.iconst 1, 1) := dk_4 (dk_at dksX0_moves_2 20 rfl rfl)
theorem dX0_moves_68 : decode cX0_moves 68 = .ok (.isub, 1) := dk_100 (dk_at dksX0_moves_2 21 rfl rfl)
theorem dX0_moves_69 : decode cX0_moves 69 = .ok (.iadd, 1) := dk_96 (dk_at dksX0_moves_2 22 rfl rfl)
theorem dX0_moves_70 : decode cX0_moves 70 = .ok (.iload_n 2, 1) := dk_28 (dk_at dksX0_moves_2 23 rfl rfl)
theorem dX0_moves_71 : decode cX0_moves 71 = .ok (.irem, 1) := dk_112 (dk_at dksX0_moves_3 0 rfl rfl)
theorem dX0_moves_72 : decode cX0_moves 72 = .ok (.aload_n 1, 1) := dk_43 (dk_at dksX0_moves_3 1 rfl rfl)
theorem dX0_moves_73 : decode cX0_moves 73 = .ok (.iload 4, 2) := dk_21 4 (dk_at dksX0_moves_3 2 rfl rfl)
theorem dX0_moves_75 : decode cX0_moves 75 = .ok (.iaload, 1) := dk_46 (dk_at dksX0_moves_3 4 rfl rfl)
theorem dX0_moves_76 : decode cX0_moves 76 = .ok (.iastore, 1) := dk_79 (dk_at dksX0_moves_3 5 rfl rfl)
theorem dX0_moves_77 : decode cX0_moves 77 = .ok (.iinc 4 1, 3) := dk_132 4 1 (dk_at dksX0_moves_3 6 rfl rfl)
theorem dX0_moves_80 : decode cX0_moves 80 = .ok (.goto (-36), 3) := dk_167 255 220 (dk_at dksX0_moves_3 9 rfl rfl)
theorem dX0_moves_83 : decode cX0_moves 83 = .ok (.aload_n 0, 1) := dk_42 (dk_at dksX0_moves_3 12 rfl rfl)
theorem dX0_moves_84 : decode cX0_moves 84 = .ok (.getfield 57, 3) := dk_180 0 57 (dk_at dksX0_moves_3 13 rfl rfl)
theorem dX0_moves_87 : decode cX0_moves 87 = .ok (.iconst 0, 1) := dk_3 (dk_at dksX0_moves_3 16 rfl rfl)
theorem dX0_moves_88 : decode cX0_moves 88 = .ok (.aload_n 1, 1) := dk_43 (dk_at dksX0_moves_3 17 rfl rfl)
theorem dX0_moves_89 : decode cX0_moves 89 = .ok (.iconst 0, 1) := dk_3 (dk_at dksX0_moves_3 18 rfl rfl)
theorem dX0_moves_90 : decode cX0_moves 90 = .ok (.iload_n 2, 1) := dk_28 (dk_at dksX0_moves_3 19 rfl rfl)
theorem dX0_moves_91 : decode cX0_moves 91 = .ok (.invokestatic 153, 3) := dk_184 0 153 (dk_at dksX0_moves_3 20 rfl rfl)
theorem dX0_moves_94 : decode cX0_moves 94 = .ok (.return_, 1) := dk_177 (dk_at dksX0_moves_3 23 rfl rfl)
abbrev cX0_walk : ByteArray := prog_1_method_18_code
def yX0_walk : MethodName := ⟨RX0, "walk", "(I)I"⟩
def dkwX0_walk_0 : List UInt8 := [27, 3, 4, 184, 0, 86, 153, 0, 14, 42, 16, 100, 27, 96, 182, 0, 170, 167, 0, 5, 16, 254, 172]
abbrev dktX0_walk_0 : List UInt8 := dkwX0_walk_0 ++ []
theorem dksX0_walk_0 : cX0_walk.data.toList.drop 0 = dktX0_walk_0 := by decide +kernel
theorem dX0_walk_0 : decode cX0_walk 0 = .ok (.iload_n 1, 1) := dk_27 (dk_at dksX0_walk_0 0 rfl rfl)
theorem dX0_walk_1 : decode cX0_walk 1 = .ok (.iconst 0, 1) := dk_3 (dk_at dksX0_walk_0 1 rfl rfl)
theorem dX0_walk_2 : decode cX0_walk 2 = .ok (.iconst 1, 1) := dk_4 (dk_at dksX0_walk_0 2 rfl rfl)
theorem dX0_walk_3 : decode cX0_walk 3 = .ok (.invokestatic 86, 3) := dk_184 0 86 (dk_at dksX0_walk_0 3 rfl rfl)
theorem dX0_walk_6 : decode cX0_walk 6 = .ok (.ifCond .eq 14, 3) := dk_153 0 14 (dk_at dksX0_walk_0 6 rfl rfl)
theorem dX0_walk_9 : decode cX0_walk 9 = .ok (.aload_n 0, 1) := dk_42 (dk_at dksX0_walk_0 9 rfl rfl)
theorem dX0_walk_10 : decode cX0_walk 10 = .ok (.bipush 100, 2) := dk_16 100 (dk_at dksX0_walk_0 10 rfl rfl)
theorem dX0_walk_12 : decode cX0_walk 12 = .ok (.iload_n 1, 1) := dk_27 (dk_at dksX0_walk_0 12 rfl rfl)
theorem dX0_walk_13 : decode cX0_walk 13 = .ok (.iadd, 1) := dk_96 (dk_at dksX0_walk_0 13 rfl rfl)
theorem dX0_walk_14 : decode cX0_walk 14 = .ok (.invokevirtual 170, 3) := dk_182 0 170 (dk_at dksX0_walk_0 14 rfl rfl)
theorem dX0_walk_17 : decode cX0_walk 17 = .ok (.goto 5, 3) := dk_167 0 5 (dk_at dksX0_walk_0 17 rfl rfl)
theorem dX0_walk_20 : decode cX0_walk 20 = .ok (.bipush (-2), 2) := dk_16 254 (dk_at dksX0_walk_0 20 rfl rfl)
theorem dX0_walk_22 : decode cX0_walk 22 = .ok (.ireturn, 1) := dk_172 (dk_at dksX0_walk_0 22 rfl rfl)
abbrev cX0_girth : ByteArray := prog_1_method_19_code
def yX0_girth : MethodName := ⟨RX0, "girth", "()I"⟩
def dkwX0_girth_0 : List UInt8 := [42, 180, 0, 119, 199, 0, 8, 16, 10, 167, 0, 10, 42, 180, 0, 119, 182, 0, 172, 172]
abbrev dktX0_girth_0 : List UInt8 := dkwX0_girth_0 ++ []
theorem dksX0_girth_0 : cX0_girth.data.toList.drop 0 = dktX0_girth_0 := by decide +kernel
theorem dX0_girth_0 : decode cX0_girth 0 = .ok (.aload_n 0, 1) := dk_42 (dk_at dksX0_girth_0 0 rfl rfl)
theorem dX0_girth_1 : decode cX0_girth 1 = .ok (.getfield 119, 3) := dk_180 0 119 (dk_at dksX0_girth_0 1 rfl rfl)
theorem dX0_girth_4 : decode cX0_girth 4 = .ok (.ifnonnull 8, 3) := dk_199 0 8 (dk_at dksX0_girth_0 4 rfl rfl)
theorem dX0_girth_7 : decode cX0_girth 7 = .ok (.bipush 10, 2) := dk_16 10 (dk_at dksX0_girth_0 7 rfl rfl)
theorem dX0_girth_9 : decode cX0_girth 9 = .ok (.goto 10, 3) := dk_167 0 10 (dk_at dksX0_girth_0 9 rfl rfl)
theorem dX0_girth_12 : decode cX0_girth 12 = .ok (.aload_n 0, 1) := dk_42 (dk_at dksX0_girth_0 12 rfl rfl)
theorem dX0_girth_13 : decode cX0_girth 13 = .ok (.getfield 119, 3) := dk_180 0 119 (dk_at dksX0_girth_0 13 rfl rfl)
theorem dX0_girth_16 : decode cX0_girth 16 = .ok (.invokevirtual 172, 3) := dk_182 0 172 (dk_at dksX0_girth_0 16 rfl rfl)
theorem dX0_girth_19 : decode cX0_girth 19 = .ok (.ireturn, 1) := dk_172 (dk_at dksX0_girth_0 19 rfl rfl)
abbrev cX0_step : ByteArray := prog_1_method_20_code
def yX0_step : MethodName := ⟨RX0, "step", "(I)I"⟩
def dkwX0_step_1 : List UInt8 := [172]
abbrev dktX0_step_1 : List UInt8 := dkwX0_step_1 ++ []
def dkwX0_step_0 : List UInt8 := [27, 3, 42, 180, 0, 136, 4, 100, 184, 0, 86, 153, 0, 12, 42, 180, 0, 31, 27, 46, 167, 0, 4, 2]
abbrev dktX0_step_0 : List UInt8 := dkwX0_step_0 ++ dktX0_step_1
theorem dksX0_step_0 : cX0_step.data.toList.drop 0 = dktX0_step_0 := by decide +kernel
theorem dksX0_step_1 : cX0_step.data.toList.drop 24 = dktX0_step_1 := dk_seg dksX0_step_0 24 rfl rfl
theorem dX0_step_0 : decode cX0_step 0 = .ok (.iload_n 1, 1) := dk_27 (dk_at dksX0_step_0 0 rfl rfl)
theorem dX0_step_1 : decode cX0_step 1 = .ok (.iconst 0, 1) := dk_3 (dk_at dksX0_step_0 1 rfl rfl)
theorem dX0_step_2 : decode cX0_step 2 = .ok (.aload_n 0, 1) := dk_42 (dk_at dksX0_step_0 2 rfl rfl)
theorem dX0_step_3 : decode cX0_step 3 = .ok (.getfield 136, 3) := dk_180 0 136 (dk_at dksX0_step_0 3 rfl rfl)
theorem dX0_step_6 : decode cX0_step 6 = .ok (.iconst 1, 1) := dk_4 (dk_at dksX0_step_0 6 rfl rfl)
theorem dX0_step_7 : decode cX0_step 7 = .ok (.isub, 1) := dk_100 (dk_at dksX0_step_0 7 rfl rfl)
theorem dX0_step_8 : decode cX0_step 8 = .ok (.invokestatic 86, 3) := dk_184 0 86 (dk_at dksX0_step_0 8 rfl rfl)
theorem dX0_step_11 : decode cX0_step 11 = .ok (.ifCond .eq 12, 3) := dk_153 0 12 (dk_at dksX0_step_0 11 rfl rfl)
theorem dX0_step_14 : decode cX0_step 14 = .ok (.aload_n 0, 1) := dk_42 (dk_at dksX0_step_0 14 rfl rfl)
theorem dX0_step_15 : decode cX0_step 15 = .ok (.getfield 31, 3) := dk_180 0 31 (dk_at dksX0_step_0 15 rfl rfl)
theorem dX0_step_18 : decode cX0_step 18 = .ok (.iload_n 1, 1) := dk_27 (dk_at dksX0_step_0 18 rfl rfl)
theorem dX0_step_19 : decode cX0_step 19 = .ok (.iaload, 1) := dk_46 (dk_at dksX0_step_0 19 rfl rfl)
theorem dX0_step_20 : decode cX0_step 20 = .ok (.goto 4, 3) := dk_167 0 4 (dk_at dksX0_step_0 20 rfl rfl)
theorem dX0_step_23 : decode cX0_step 23 = .ok (.iconst (-1), 1) := dk_2 (dk_at dksX0_step_0 23 rfl rfl)
theorem dX0_step_24 : decode cX0_step 24 = .ok (.ireturn, 1) := dk_172 (dk_at dksX0_step_1 0 rfl rfl)
abbrev cX0_rows : ByteArray := prog_1_method_21_code
def yX0_rows : MethodName := ⟨RX0, "rows", "()I"⟩
def dkwX0_rows_0 : List UInt8 := [42, 180, 0, 119, 199, 0, 7, 3, 167, 0, 10, 42, 180, 0, 119, 180, 0, 176, 172]
abbrev dktX0_rows_0 : List UInt8 := dkwX0_rows_0 ++ []
theorem dksX0_rows_0 : cX0_rows.data.toList.drop 0 = dktX0_rows_0 := by decide +kernel
theorem dX0_rows_0 : decode cX0_rows 0 = .ok (.aload_n 0, 1) := dk_42 (dk_at dksX0_rows_0 0 rfl rfl)
theorem dX0_rows_1 : decode cX0_rows 1 = .ok (.getfield 119, 3) := dk_180 0 119 (dk_at dksX0_rows_0 1 rfl rfl)
theorem dX0_rows_4 : decode cX0_rows 4 = .ok (.ifnonnull 7, 3) := dk_199 0 7 (dk_at dksX0_rows_0 4 rfl rfl)
theorem dX0_rows_7 : decode cX0_rows 7 = .ok (.iconst 0, 1) := dk_3 (dk_at dksX0_rows_0 7 rfl rfl)
theorem dX0_rows_8 : decode cX0_rows 8 = .ok (.goto 10, 3) := dk_167 0 10 (dk_at dksX0_rows_0 8 rfl rfl)
theorem dX0_rows_11 : decode cX0_rows 11 = .ok (.aload_n 0, 1) := dk_42 (dk_at dksX0_rows_0 11 rfl rfl)
theorem dX0_rows_12 : decode cX0_rows 12 = .ok (.getfield 119, 3) := dk_180 0 119 (dk_at dksX0_rows_0 12 rfl rfl)
theorem dX0_rows_15 : decode cX0_rows 15 = .ok (.getfield 176, 3) := dk_180 0 176 (dk_at dksX0_rows_0 15 rfl rfl)
theorem dX0_rows_18 : decode cX0_rows 18 = .ok (.ireturn, 1) := dk_172 (dk_at dksX0_rows_0 18 rfl rfl)
abbrev cX0_cloth : ByteArray := prog_1_method_22_code
def yX0_cloth : MethodName := ⟨RX0, "cloth", "(III)I"⟩
def dkwX0_cloth_4 : List UInt8 := [42, 180, 0, 25, 42, 180, 0, 119, 27, 28, 182, 0, 188, 46, 172, 2, 172]
abbrev dktX0_cloth_4 : List UInt8 := dkwX0_cloth_4 ++ []
def dkwX0_cloth_3 : List UInt8 := [42, 180, 0, 119, 180, 0, 181, 27, 50, 28, 46, 172, 42, 180, 0, 119, 180, 0, 185, 27, 50, 28, 46, 172]
abbrev dktX0_cloth_3 : List UInt8 := dkwX0_cloth_3 ++ dktX0_cloth_4
def dkwX0_cloth_2 : List UInt8 := [170, 0, 0, 0, 0, 0, 66, 0, 0, 0, 0, 0, 0, 0, 2, 0, 0, 0, 27, 0, 0, 0, 39, 0, 0, 0, 51]
abbrev dktX0_cloth_2 : List UInt8 := dkwX0_cloth_2 ++ dktX0_cloth_3
def dkwX0_cloth_1 : List UInt8 := [29]
abbrev dktX0_cloth_1 : List UInt8 := dkwX0_cloth_1 ++ dktX0_cloth_2
def dkwX0_cloth_0 : List UInt8 := [27, 3, 42, 182, 0, 179, 4, 100, 184, 0, 86, 153, 0, 11, 42, 28, 182, 0, 139, 154, 0, 5, 2, 172]
abbrev dktX0_cloth_0 : List UInt8 := dkwX0_cloth_0 ++ dktX0_cloth_1
theorem dksX0_cloth_0 : cX0_cloth.data.toList.drop 0 = dktX0_cloth_0 := by decide +kernel
theorem dksX0_cloth_1 : cX0_cloth.data.toList.drop 24 = dktX0_cloth_1 := dk_seg dksX0_cloth_0 24 rfl rfl
theorem dksX0_cloth_2 : cX0_cloth.data.toList.drop 25 = dktX0_cloth_2 := dk_seg dksX0_cloth_1 1 rfl rfl
theorem dksX0_cloth_3 : cX0_cloth.data.toList.drop 52 = dktX0_cloth_3 := dk_seg dksX0_cloth_2 27 rfl rfl
theorem dksX0_cloth_4 : cX0_cloth.data.toList.drop 76 = dktX0_cloth_4 := dk_seg dksX0_cloth_3 24 rfl rfl
theorem dX0_cloth_0 : decode cX0_cloth 0 = .ok (.iload_n 1, 1) := dk_27 (dk_at dksX0_cloth_0 0 rfl rfl)
theorem dX0_cloth_1 : decode cX0_cloth 1 = .ok (.iconst 0, 1) := dk_3 (dk_at dksX0_cloth_0 1 rfl rfl)
theorem dX0_cloth_2 : decode cX0_cloth 2 = .ok (.aload_n 0, 1) := dk_42 (dk_at dksX0_cloth_0 2 rfl rfl)
theorem dX0_cloth_3 : decode cX0_cloth 3 = .ok (.invokevirtual 179, 3) := dk_182 0 179 (dk_at dksX0_cloth_0 3 rfl rfl)
theorem dX0_cloth_6 : decode cX0_cloth 6 = .ok (.iconst 1, 1) := dk_4 (dk_at dksX0_cloth_0 6 rfl rfl)
theorem dX0_cloth_7 : decode cX0_cloth 7 = .ok (.isub, 1) := dk_100 (dk_at dksX0_cloth_0 7 rfl rfl)
theorem dX0_cloth_8 : decode cX0_cloth 8 = .ok (.invokestatic 86, 3) := dk_184 0 86 (dk_at dksX0_cloth_0 8 rfl rfl)
theorem dX0_cloth_11 : decode cX0_cloth 11 = .ok (.ifCond .eq 11, 3) := dk_153 0 11 (dk_at dksX0_cloth_0 11 rfl rfl)
theorem dX0_cloth_14 : decode cX0_cloth 14 = .ok (.aload_n 0, 1) := dk_42 (dk_at dksX0_cloth_0 14 rfl rfl)
theorem dX0_cloth_15 : decode cX0_cloth 15 = .ok (.iload_n 2, 1) := dk_28 (dk_at dksX0_cloth_0 15 rfl rfl)
theorem dX0_cloth_16 : decode cX0_cloth 16 = .ok (.invokevirtual 139, 3) := dk_182 0 139 (dk_at dksX0_cloth_0 16 rfl rfl)
theorem dX0_cloth_19 : decode cX0_cloth 19 = .ok (.ifCond .ne 5, 3) := dk_154 0 5 (dk_at dksX0_cloth_0 19 rfl rfl)
theorem dX0_cloth_22 : decode cX0_cloth 22 = .ok (.iconst (-1), 1) := dk_2 (dk_at dksX0_cloth_0 22 rfl rfl)
theorem dX0_cloth_23 : decode cX0_cloth 23 = .ok (.ireturn, 1) := dk_172 (dk_at dksX0_cloth_0 23 rfl rfl)
theorem dX0_cloth_24 : decode cX0_cloth 24 = .ok (.iload_n 3, 1) := dk_29 (dk_at dksX0_cloth_1 0 rfl rfl)
theorem dX0_cloth_25 : decode cX0_cloth 25 = .ok (.tableswitch 66 0 2 #[27, 39, 51], 27) := by decide +kernel
theorem dX0_cloth_52 : decode cX0_cloth 52 = .ok (.aload_n 0, 1) := dk_42 (dk_at dksX0_cloth_3 0 rfl rfl)
theorem dX0_cloth_53 : decode cX0_cloth 53 = .ok (.getfield 119, 3) := dk_180 0 119 (dk_at dksX0_cloth_3 1 rfl rfl)
theorem dX0_cloth_56 : decode cX0_cloth 56 = .ok (.getfield 181, 3) := dk_180 0 181 (dk_at dksX0_cloth_3 4 rfl rfl)
theorem dX0_cloth_59 : decode cX0_cloth 59 = .ok (.iload_n 1, 1) := dk_27 (dk_at dksX0_cloth_3 7 rfl rfl)
theorem dX0_cloth_60 : decode cX0_cloth 60 = .ok (.aaload, 1) := dk_50 (dk_at dksX0_cloth_3 8 rfl rfl)
theorem dX0_cloth_61 : decode cX0_cloth 61 = .ok (.iload_n 2, 1) := dk_28 (dk_at dksX0_cloth_3 9 rfl rfl)
theorem dX0_cloth_62 : decode cX0_cloth 62 = .ok (.iaload, 1) := dk_46 (dk_at dksX0_cloth_3 10 rfl rfl)
theorem dX0_cloth_63 : decode cX0_cloth 63 = .ok (.ireturn, 1) := dk_172 (dk_at dksX0_cloth_3 11 rfl rfl)
theorem dX0_cloth_64 : decode cX0_cloth 64 = .ok (.aload_n 0, 1) := dk_42 (dk_at dksX0_cloth_3 12 rfl rfl)
theorem dX0_cloth_65 : decode cX0_cloth 65 = .ok (.getfield 119, 3) := dk_180 0 119 (dk_at dksX0_cloth_3 13 rfl rfl)
theorem dX0_cloth_68 : decode cX0_cloth 68 = .ok (.getfield 185, 3) := dk_180 0 185 (dk_at dksX0_cloth_3 16 rfl rfl)
theorem dX0_cloth_71 : decode cX0_cloth 71 = .ok (.iload_n 1, 1) := dk_27 (dk_at dksX0_cloth_3 19 rfl rfl)
theorem dX0_cloth_72 : decode cX0_cloth 72 = .ok (.aaload, 1) := dk_50 (dk_at dksX0_cloth_3 20 rfl rfl)
theorem dX0_cloth_73 : decode cX0_cloth 73 = .ok (.iload_n 2, 1) := dk_28 (dk_at dksX0_cloth_3 21 rfl rfl)
theorem dX0_cloth_74 : decode cX0_cloth 74 = .ok (.iaload, 1) := dk_46 (dk_at dksX0_cloth_3 22 rfl rfl)
theorem dX0_cloth_75 : decode cX0_cloth 75 = .ok (.ireturn, 1) := dk_172 (dk_at dksX0_cloth_3 23 rfl rfl)
theorem dX0_cloth_76 : decode cX0_cloth 76 = .ok (.aload_n 0, 1) := dk_42 (dk_at dksX0_cloth_4 0 rfl rfl)
theorem dX0_cloth_77 : decode cX0_cloth 77 = .ok (.getfield 25, 3) := dk_180 0 25 (dk_at dksX0_cloth_4 1 rfl rfl)
theorem dX0_cloth_80 : decode cX0_cloth 80 = .ok (.aload_n 0, 1) := dk_42 (dk_at dksX0_cloth_4 4 rfl rfl)
theorem dX0_cloth_81 : decode cX0_cloth 81 = .ok (.getfield 119, 3) := dk_180 0 119 (dk_at dksX0_cloth_4 5 rfl rfl)
theorem dX0_cloth_84 : decode cX0_cloth 84 = .ok (.iload_n 1, 1) := dk_27 (dk_at dksX0_cloth_4 8 rfl rfl)
theorem dX0_cloth_85 : decode cX0_cloth 85 = .ok (.iload_n 2, 1) := dk_28 (dk_at dksX0_cloth_4 9 rfl rfl)
theorem dX0_cloth_86 : decode cX0_cloth 86 = .ok (.invokevirtual 188, 3) := dk_182 0 188 (dk_at dksX0_cloth_4 10 rfl rfl)
theorem dX0_cloth_89 : decode cX0_cloth 89 = .ok (.iaload, 1) := dk_46 (dk_at dksX0_cloth_4 13 rfl rfl)
theorem dX0_cloth_90 : decode cX0_cloth 90 = .ok (.ireturn, 1) := dk_172 (dk_at dksX0_cloth_4 14 rfl rfl)
theorem dX0_cloth_91 : decode cX0_cloth 91 = .ok (.iconst (-1), 1) := dk_2 (dk_at dksX0_cloth_4 15 rfl rfl)
theorem dX0_cloth_92 : decode cX0_cloth 92 = .ok (.ireturn, 1) := dk_172 (dk_at dksX0_cloth_4 16 rfl rfl)
abbrev cX0_beat : ByteArray := prog_1_method_24_code
def yX0_beat : MethodName := ⟨RX0, "beat", "()I"⟩
def dkwX0_beat_2 : List UInt8 := [167, 255, 232, 29, 153, 0, 5, 28, 172, 132, 2, 1, 167, 255, 210, 27, 172]
abbrev dktX0_beat_2 : List UInt8 := dkwX0_beat_2 ++ []
def dkwX0_beat_1 : List UInt8 := [21, 4, 27, 162, 0, 24, 29, 153, 0, 20, 42, 21, 4, 21, 4, 28, 100, 182, 0, 192, 62, 132, 4, 1]
abbrev dktX0_beat_1 : List UInt8 := dkwX0_beat_1 ++ dktX0_beat_2
def dkwX0_beat_0 : List UInt8 := [42, 182, 0, 179, 60, 27, 154, 0, 6, 16, 253, 172, 4, 61, 28, 27, 162, 0, 47, 4, 62, 28, 54, 4]
abbrev dktX0_beat_0 : List UInt8 := dkwX0_beat_0 ++ dktX0_beat_1
theorem dksX0_beat_0 : cX0_beat.data.toList.drop 0 = dktX0_beat_0 := by decide +kernel
theorem dksX0_beat_1 : cX0_beat.data.toList.drop 24 = dktX0_beat_1 := dk_seg dksX0_beat_0 24 rfl rfl
theorem dksX0_beat_2 : cX0_beat.data.toList.drop 48 = dktX0_beat_2 := dk_seg dksX0_beat_1 24 rfl rfl
theorem dX0_beat_0 : decode cX0_beat 0 = .ok (.aload_n 0, 1) := dk_42 (dk_at dksX0_beat_0 0 rfl rfl)
theorem dX0_beat_1 : decode cX0_beat 1 = .ok (.invokevirtual 179, 3) := dk_182 0 179 (dk_at dksX0_beat_0 1 rfl rfl)
theorem dX0_beat_4 : decode cX0_beat 4 = .ok (.istore_n 1, 1) := dk_60 (dk_at dksX0_beat_0 4 rfl rfl)
theorem dX0_beat_5 : decode cX0_beat 5 = .ok (.iload_n 1, 1) := dk_27 (dk_at dksX0_beat_0 5 rfl rfl)
theorem dX0_beat_6 : decode cX0_beat 6 = .ok (.ifCond .ne 6, 3) := dk_154 0 6 (dk_at dksX0_beat_0 6 rfl rfl)
theorem dX0_beat_9 : decode cX0_beat 9 = .ok (.bipush (-3), 2) := dk_16 253 (dk_at dksX0_beat_0 9 rfl rfl)
theorem dX0_beat_11 : decode cX0_beat 11 = .ok (.ireturn, 1) := dk_172 (dk_at dksX0_beat_0 11 rfl rfl)
theorem dX0_beat_12 : decode cX0_beat 12 = .ok (.iconst 1, 1) := dk_4 (dk_at dksX0_beat_0 12 rfl rfl)
theorem dX0_beat_13 : decode cX0_beat 13 = .ok (.istore_n 2, 1) := dk_61 (dk_at dksX0_beat_0 13 rfl rfl)
theorem dX0_beat_14 : decode cX0_beat 14 = .ok (.iload_n 2, 1) := dk_28 (dk_at dksX0_beat_0 14 rfl rfl)
theorem dX0_beat_15 : decode cX0_beat 15 = .ok (.iload_n 1, 1) := dk_27 (dk_at dksX0_beat_0 15 rfl rfl)
theorem dX0_beat_16 : decode cX0_beat 16 = .ok (.if_icmp .ge 47, 3) := dk_162 0 47 (dk_at dksX0_beat_0 16 rfl rfl)
theorem dX0_beat_19 : decode cX0_beat 19 = .ok (.iconst 1, 1) := dk_4 (dk_at dksX0_beat_0 19 rfl rfl)
theorem dX0_beat_20 : decode cX0_beat 20 = .ok (.istore_n 3, 1) := dk_62 (dk_at dksX0_beat_0 20 rfl rfl)
theorem dX0_beat_21 : decode cX0_beat 21 = .ok (.iload_n 2, 1) := dk_28 (dk_at dksX0_beat_0 21 rfl rfl)
theorem dX0_beat_22 : decode cX0_beat 22 = .ok (.istore 4, 2) := dk_54 4 (dk_at dksX0_beat_0 22 rfl rfl)
theorem dX0_beat_24 : decode cX0_beat 24 = .ok (.iload 4, 2) := dk_21 4 (dk_at dksX0_beat_1 0 rfl rfl)
theorem dX0_beat_26 : decode cX0_beat 26 = .ok (.iload_n 1, 1) := dk_27 (dk_at dksX0_beat_1 2 rfl rfl)
theorem dX0_beat_27 : decode cX0_beat 27 = .ok (.if_icmp .ge 24, 3) := dk_162 0 24 (dk_at dksX0_beat_1 3 rfl rfl)
theorem dX0_beat_30 : decode cX0_beat 30 = .ok (.iload_n 3, 1) := dk_29 (dk_at dksX0_beat_1 6 rfl rfl)
theorem dX0_beat_31 : decode cX0_beat 31 = .ok (.ifCond .eq 20, 3) := dk_153 0 20 (dk_at dksX0_beat_1 7 rfl rfl)
theorem dX0_beat_34 : decode cX0_beat 34 = .ok (.aload_n 0, 1) := dk_42 (dk_at dksX0_beat_1 10 rfl rfl)
theorem dX0_beat_35 : decode cX0_beat 35 = .ok (.iload 4, 2) := dk_21 4 (dk_at dksX0_beat_1 11 rfl rfl)
theorem dX0_beat_37 : decode cX0_beat 37 = .ok (.iload 4, 2) := dk_21 4 (dk_at dksX0_beat_1 13 rfl rfl)
theorem dX0_beat_39 : decode cX0_beat 39 = .ok (.iload_n 2, 1) := dk_28 (dk_at dksX0_beat_1 15 rfl rfl)
theorem dX0_beat_40 : decode cX0_beat 40 = .ok (.isub, 1) := dk_100 (dk_at dksX0_beat_1 16 rfl rfl)
theorem dX0_beat_41 : decode cX0_beat 41 = .ok (.invokevirtual 192, 3) := dk_182 0 192 (dk_at dksX0_beat_1 17 rfl rfl)
theorem dX0_beat_44 : decode cX0_beat 44 = .ok (.istore_n 3, 1) := dk_62 (dk_at dksX0_beat_1 20 rfl rfl)
theorem dX0_beat_45 : decode cX0_beat 45 = .ok (.iinc 4 1, 3) := dk_132 4 1 (dk_at dksX0_beat_1 21 rfl rfl)
theorem dX0_beat_48 : decode cX0_beat 48 = .ok (.goto (-24), 3) := dk_167 255 232 (dk_at dksX0_beat_2 0 rfl rfl)
theorem dX0_beat_51 : decode cX0_beat 51 = .ok (.iload_n 3, 1) := dk_29 (dk_at dksX0_beat_2 3 rfl rfl)
theorem dX0_beat_52 : decode cX0_beat 52 = .ok (.ifCond .eq 5, 3) := dk_153 0 5 (dk_at dksX0_beat_2 4 rfl rfl)
theorem dX0_beat_55 : decode cX0_beat 55 = .ok (.iload_n 2, 1) := dk_28 (dk_at dksX0_beat_2 7 rfl rfl)
theorem dX0_beat_56 : decode cX0_beat 56 = .ok (.ireturn, 1) := dk_172 (dk_at dksX0_beat_2 8 rfl rfl)
theorem dX0_beat_57 : decode cX0_beat 57 = .ok (.iinc 2 1, 3) := dk_132 2 1 (dk_at dksX0_beat_2 9 rfl rfl)
theorem dX0_beat_60 : decode cX0_beat 60 = .ok (.goto (-46), 3) := dk_167 255 210 (dk_at dksX0_beat_2 12 rfl rfl)
theorem dX0_beat_63 : decode cX0_beat 63 = .ok (.iload_n 1, 1) := dk_27 (dk_at dksX0_beat_2 15 rfl rfl)
theorem dX0_beat_64 : decode cX0_beat 64 = .ok (.ireturn, 1) := dk_172 (dk_at dksX0_beat_2 16 rfl rfl)
abbrev cX0_areLike : ByteArray := prog_1_method_23_code
def yX0_areLike : MethodName := ⟨RX0, "areLike", "(II)Z"⟩
def dkwX0_areLike_2 : List UInt8 := [46, 160, 0, 7, 4, 167, 0, 4, 3, 62, 132, 4, 1, 167, 255, 201, 29, 172]
abbrev dktX0_areLike_2 : List UInt8 := dkwX0_areLike_2 ++ []
def dkwX0_areLike_1 : List UInt8 := [180, 0, 119, 27, 21, 4, 182, 0, 188, 46, 42, 180, 0, 25, 42, 180, 0, 119, 28, 21, 4, 182, 0, 188]
abbrev dktX0_areLike_1 : List UInt8 := dkwX0_areLike_1 ++ dktX0_areLike_2
def dkwX0_areLike_0 : List UInt8 := [4, 62, 3, 54, 4, 21, 4, 42, 180, 0, 90, 162, 0, 52, 29, 153, 0, 48, 42, 180, 0, 25, 42]
abbrev dktX0_areLike_0 : List UInt8 := dkwX0_areLike_0 ++ dktX0_areLike_1
theorem dksX0_areLike_0 : cX0_areLike.data.toList.drop 0 = dktX0_areLike_0 := by decide +kernel
theorem dksX0_areLike_1 : cX0_areLike.data.toList.drop 23 = dktX0_areLike_1 := dk_seg dksX0_areLike_0 23 rfl rfl
theorem dksX0_areLike_2 : cX0_areLike.data.toList.drop 47 = dktX0_areLike_2 := dk_seg dksX0_areLike_1 24 rfl rfl
theorem dX0_areLike_0 : decode cX0_areLike 0 = .ok (.iconst 1, 1) := dk_4 (dk_at dksX0_areLike_0 0 rfl rfl)
theorem dX0_areLike_1 : decode cX0_areLike 1 = .ok (.istore_n 3, 1) := dk_62 (dk_at dksX0_areLike_0 1 rfl rfl)
theorem dX0_areLike_2 : decode cX0_areLike 2 = .ok (.iconst 0, 1) := dk_3 (dk_at dksX0_areLike_0 2 rfl rfl)
theorem dX0_areLike_3 : decode cX0_areLike 3 = .ok (.istore 4, 2) := dk_54 4 (dk_at dksX0_areLike_0 3 rfl rfl)
theorem dX0_areLike_5 : decode cX0_areLike 5 = .ok (.iload 4, 2) := dk_21 4 (dk_at dksX0_areLike_0 5 rfl rfl)
theorem dX0_areLike_7 : decode cX0_areLike 7 = .ok (.aload_n 0, 1) := dk_42 (dk_at dksX0_areLike_0 7 rfl rfl)
theorem dX0_areLike_8 : decode cX0_areLike 8 = .ok (.getfield 90, 3) := dk_180 0 90 (dk_at dksX0_areLike_0 8 rfl rfl)
theorem dX0_areLike_11 : decode cX0_areLike 11 = .ok (.if_icmp .ge 52, 3) := dk_162 0 52 (dk_at dksX0_areLike_0 11 rfl rfl)
theorem dX0_areLike_14 : decode cX0_areLike 14 = .ok (.iload_n 3, 1) := dk_29 (dk_at dksX0_areLike_0 14 rfl rfl)
theorem dX0_areLike_15 : decode cX0_areLike 15 = .ok (.ifCond .eq 48, 3) := dk_153 0 48 (dk_at dksX0_areLike_0 15 rfl rfl)
theorem dX0_areLike_18 : decode cX0_areLike 18 = .ok (.aload_n 0, 1) := dk_42 (dk_at dksX0_areLike_0 18 rfl rfl)
theorem dX0_areLike_19 : decode cX0_areLike 19 = .ok (.getfield 25, 3) := dk_180 0 25 (dk_at dksX0_areLike_0 19 rfl rfl)
theorem dX0_areLike_22 : decode cX0_areLike 22 = .ok (.aload_n 0, 1) := dk_42 (dk_at dksX0_areLike_0 22 rfl rfl)
theorem dX0_areLike_23 : decode cX0_areLike 23 = .ok (.getfield 119, 3) := dk_180 0 119 (dk_at dksX0_areLike_1 0 rfl rfl)
theorem dX0_areLike_26 : decode cX0_areLike 26 = .ok (.iload_n 1, 1) := dk_27 (dk_at dksX0_areLike_1 3 rfl rfl)
theorem dX0_areLike_27 : decode cX0_areLike 27 = .ok (.iload 4, 2) := dk_21 4 (dk_at dksX0_areLike_1 4 rfl rfl)
theorem dX0_areLike_29 : decode cX0_areLike 29 = .ok (.invokevirtual 188, 3) := dk_182 0 188 (dk_at dksX0_areLike_1 6 rfl rfl)
theorem dX0_areLike_32 : decode cX0_areLike 32 = .ok (.iaload, 1) := dk_46 (dk_at dksX0_areLike_1 9 rfl rfl)
theorem dX0_areLike_33 : decode cX0_areLike 33 = .ok (.aload_n 0, 1) := dk_42 (dk_at dksX0_areLike_1 10 rfl rfl)
theorem dX0_areLike_34 : decode cX0_areLike 34 = .ok (.getfield 25, 3) := dk_180 0 25 (dk_at dksX0_areLike_1 11 rfl rfl)
theorem dX0_areLike_37 : decode cX0_areLike 37 = .ok (.aload_n 0, 1) := dk_42 (dk_at dksX0_areLike_1 14 rfl rfl)
theorem dX0_areLike_38 : decode cX0_areLike 38 = .ok (.getfield 119, 3) := dk_180 0 119 (dk_at dksX0_areLike_1 15 rfl rfl)
theorem dX0_areLike_41 : decode cX0_areLike 41 = .ok (.iload_n 2, 1) := dk_28 (dk_at dksX0_areLike_1 18 rfl rfl)
theorem dX0_areLike_42 : decode cX0_areLike 42 = .ok (.iload 4, 2) := dk_21 4 (dk_at dksX0_areLike_1 19 rfl rfl)
theorem dX0_areLike_44 : decode cX0_areLike 44 = .ok (.invokevirtual 188, 3) := dk_182 0 188 (dk_at dksX0_areLike_1 21 rfl rfl)
theorem dX0_areLike_47 : decode cX0_areLike 47 = .ok (.iaload, 1) := dk_46 (dk_at dksX0_areLike_2 0 rfl rfl)
theorem dX0_areLike_48 : decode cX0_areLike 48 = .ok (.if_icmp .ne 7, 3) := dk_160 0 7 (dk_at dksX0_areLike_2 1 rfl rfl)
theorem dX0_areLike_51 : decode cX0_areLike 51 = .ok (.iconst 1, 1) := dk_4 (dk_at dksX0_areLike_2 4 rfl rfl)
theorem dX0_areLike_52 : decode cX0_areLike 52 = .ok (.goto 4, 3) := dk_167 0 4 (dk_at dksX0_areLike_2 5 rfl rfl)
theorem dX0_areLike_55 : decode cX0_areLike 55 = .ok (.iconst 0, 1) := dk_3 (dk_at dksX0_areLike_2 8 rfl rfl)
theorem dX0_areLike_56 : decode cX0_areLike 56 = .ok (.istore_n 3, 1) := dk_62 (dk_at dksX0_areLike_2 9 rfl rfl)
theorem dX0_areLike_57 : decode cX0_areLike 57 = .ok (.iinc 4 1, 3) := dk_132 4 1 (dk_at dksX0_areLike_2 10 rfl rfl)
theorem dX0_areLike_60 : decode cX0_areLike 60 = .ok (.goto (-55), 3) := dk_167 255 201 (dk_at dksX0_areLike_2 13 rfl rfl)
theorem dX0_areLike_63 : decode cX0_areLike 63 = .ok (.iload_n 3, 1) := dk_29 (dk_at dksX0_areLike_2 16 rfl rfl)
theorem dX0_areLike_64 : decode cX0_areLike 64 = .ok (.ireturn, 1) := dk_172 (dk_at dksX0_areLike_2 17 rfl rfl)
abbrev cX0_picture : ByteArray := prog_1_method_25_code
def yX0_picture : MethodName := ⟨RX0, "picture", "(III)I"⟩
def dkwX0_picture_3 : List UInt8 := [180, 0, 196, 29, 79, 42, 89, 180, 0, 196, 4, 96, 90, 181, 0, 196, 172]
abbrev dktX0_picture_3 : List UInt8 := dkwX0_picture_3 ++ []
def dkwX0_picture_2 : List UInt8 := [180, 0, 60, 42, 180, 0, 196, 27, 79, 42, 180, 0, 63, 42, 180, 0, 196, 28, 79, 42, 180, 0, 66, 42]
abbrev dktX0_picture_2 : List UInt8 := dkwX0_picture_2 ++ dktX0_picture_3
def dkwX0_picture_1 : List UInt8 := [16, 7, 184, 0, 86, 154, 0, 6, 16, 254, 172, 42, 180, 0, 196, 16, 40, 160, 0, 6, 16, 252, 172, 42]
abbrev dktX0_picture_1 : List UInt8 := dkwX0_picture_1 ++ dktX0_picture_2
def dkwX0_picture_0 : List UInt8 := [27, 3, 16, 99, 184, 0, 86, 153, 0, 13, 28, 3, 16, 8, 184, 0, 86, 154, 0, 5, 2, 172, 29, 3]
abbrev dktX0_picture_0 : List UInt8 := dkwX0_picture_0 ++ dktX0_picture_1
theorem dksX0_picture_0 : cX0_picture.data.toList.drop 0 = dktX0_picture_0 := by decide +kernel
theorem dksX0_picture_1 : cX0_picture.data.toList.drop 24 = dktX0_picture_1 := dk_seg dksX0_picture_0 24 rfl rfl
theorem dksX0_picture_2 : cX0_picture.data.toList.drop 48 = dktX0_picture_2 := dk_seg dksX0_picture_1 24 rfl rfl
theorem dksX0_picture_3 : cX0_picture.data.toList.drop 72 = dktX0_picture_3 := dk_seg dksX0_picture_2 24 rfl rfl
theorem dX0_picture_0 : decode cX0_picture 0 = .ok (.iload_n 1, 1) := dk_27 (dk_at dksX0_picture_0 0 rfl rfl)
theorem dX0_picture_1 : decode cX0_picture 1 = .ok (.iconst 0, 1) := dk_3 (dk_at dksX0_picture_0 1 rfl rfl)
theorem dX0_picture_2 : decode cX0_picture 2 = .ok (.bipush 99, 2) := dk_16 99 (dk_at dksX0_picture_0 2 rfl rfl)
theorem dX0_picture_4 : decode cX0_picture 4 = .ok (.invokestatic 86, 3) := dk_184 0 86 (dk_at dksX0_picture_0 4 rfl rfl)
theorem dX0_picture_7 : decode cX0_picture 7 = .ok (.ifCond .eq 13, 3) := dk_153 0 13 (dk_at dksX0_picture_0 7 rfl rfl)
theorem dX0_picture_10 : decode cX0_picture 10 = .ok (.iload_n 2, 1) := dk_28 (dk_at dksX0_picture_0 10 rfl rfl)
theorem dX0_picture_11 : decode cX0_picture 11 = .ok (.iconst 0, 1) := dk_3 (dk_at dksX0_picture_0 11 rfl rfl)
theorem dX0_picture_12 : decode cX0_picture 12 = .ok (.bipush 8, 2) := dk_16 8 (dk_at dksX0_picture_0 12 rfl rfl)
theorem dX0_picture_14 : decode cX0_picture 14 = .ok (.invokestatic 86, 3) := dk_184 0 86 (dk_at dksX0_picture_0 14 rfl rfl)
theorem dX0_picture_17 : decode cX0_picture 17 = .ok (.ifCond .ne 5, 3) := dk_154 0 5 (dk_at dksX0_picture_0 17 rfl rfl)
theorem dX0_picture_20 : decode cX0_picture 20 = .ok (.iconst (-1), 1) := dk_2 (dk_at dksX0_picture_0 20 rfl rfl)
theorem dX0_picture_21 : decode cX0_picture 21 = .ok (.ireturn, 1) := dk_172 (dk_at dksX0_picture_0 21 rfl rfl)
theorem dX0_picture_22 : decode cX0_picture 22 = .ok (.iload_n 3, 1) := dk_29 (dk_at dksX0_picture_0 22 rfl rfl)
theorem dX0_picture_23 : decode cX0_picture 23 = .ok (.iconst 0, 1) := dk_3 (dk_at dksX0_picture_0 23 rfl rfl)
theorem dX0_picture_24 : decode cX0_picture 24 = .ok (.bipush 7, 2) := dk_16 7 (dk_at dksX0_picture_1 0 rfl rfl)
theorem dX0_picture_26 : decode cX0_picture 26 = .ok (.invokestatic 86, 3) := dk_184 0 86 (dk_at dksX0_picture_1 2 rfl rfl)
theorem dX0_picture_29 : decode cX0_picture 29 = .ok (.ifCond .ne 6, 3) := dk_154 0 6 (dk_at dksX0_picture_1 5 rfl rfl)
theorem dX0_picture_32 : decode cX0_picture 32 = .ok (.bipush (-2), 2) := dk_16 254 (dk_at dksX0_picture_1 8 rfl rfl)
theorem dX0_picture_34 : decode cX0_picture 34 = .ok (.ireturn, 1) := dk_172 (dk_at dksX0_picture_1 10 rfl rfl)
theorem dX0_picture_35 : decode cX0_picture 35 = .ok (.aload_n 0, 1) := dk_42 (dk_at dksX0_picture_1 11 rfl rfl)
theorem dX0_picture_36 : decode cX0_picture 36 = .ok (.getfield 196, 3) := dk_180 0 196 (dk_at dksX0_picture_1 12 rfl rfl)
theorem dX0_picture_39 : decode cX0_picture 39 = .ok (.bipush 40, 2) := dk_16 40 (dk_at dksX0_picture_1 15 rfl rfl)
theorem dX0_picture_41 : decode cX0_picture 41 = .ok (.if_icmp .ne 6, 3) := dk_160 0 6 (dk_at dksX0_picture_1 17 rfl rfl)
theorem dX0_picture_44 : decode cX0_picture 44 = .ok (.bipush (-4), 2) := dk_16 252 (dk_at dksX0_picture_1 20 rfl rfl)
theorem dX0_picture_46 : decode cX0_picture 46 = .ok (.ireturn, 1) := dk_172 (dk_at dksX0_picture_1 22 rfl rfl)
theorem dX0_picture_47 : decode cX0_picture 47 = .ok (.aload_n 0, 1) := dk_42 (dk_at dksX0_picture_1 23 rfl rfl)
theorem dX0_picture_48 : decode cX0_picture 48 = .ok (.getfield 60, 3) := dk_180 0 60 (dk_at dksX0_picture_2 0 rfl rfl)
theorem dX0_picture_51 : decode cX0_picture 51 = .ok (.aload_n 0, 1) := dk_42 (dk_at dksX0_picture_2 3 rfl rfl)
theorem dX0_picture_52 : decode cX0_picture 52 = .ok (.getfield 196, 3) := dk_180 0 196 (dk_at dksX0_picture_2 4 rfl rfl)
theorem dX0_picture_55 : decode cX0_picture 55 = .ok (.iload_n 1, 1) := dk_27 (dk_at dksX0_picture_2 7 rfl rfl)
theorem dX0_picture_56 : decode cX0_picture 56 = .ok (.iastore, 1) := dk_79 (dk_at dksX0_picture_2 8 rfl rfl)
theorem dX0_picture_57 : decode cX0_picture 57 = .ok (.aload_n 0, 1) := dk_42 (dk_at dksX0_picture_2 9 rfl rfl)
theorem dX0_picture_58 : decode cX0_picture 58 = .ok (.getfield 63, 3) := dk_180 0 63 (dk_at dksX0_picture_2 10 rfl rfl)
theorem dX0_picture_61 : decode cX0_picture 61 = .ok (.aload_n 0, 1) := dk_42 (dk_at dksX0_picture_2 13 rfl rfl)
theorem dX0_picture_62 : decode cX0_picture 62 = .ok (.getfield 196, 3) := dk_180 0 196 (dk_at dksX0_picture_2 14 rfl rfl)
theorem dX0_picture_65 : decode cX0_picture 65 = .ok (.iload_n 2, 1) := dk_28 (dk_at dksX0_picture_2 17 rfl rfl)
theorem dX0_picture_66 : decode cX0_picture 66 = .ok (.iastore, 1) := dk_79 (dk_at dksX0_picture_2 18 rfl rfl)
theorem dX0_picture_67 : decode cX0_picture 67 = .ok (.aload_n 0, 1) := dk_42 (dk_at dksX0_picture_2 19 rfl rfl)
theorem dX0_picture_68 : decode cX0_picture 68 = .ok (.getfield 66, 3) := dk_180 0 66 (dk_at dksX0_picture_2 20 rfl rfl)
theorem dX0_picture_71 : decode cX0_picture 71 = .ok (.aload_n 0, 1) := dk_42 (dk_at dksX0_picture_2 23 rfl rfl)
theorem dX0_picture_72 : decode cX0_picture 72 = .ok (.getfield 196, 3) := dk_180 0 196 (dk_at dksX0_picture_3 0 rfl rfl)
theorem dX0_picture_75 : decode cX0_picture 75 = .ok (.iload_n 3, 1) := dk_29 (dk_at dksX0_picture_3 3 rfl rfl)
theorem dX0_picture_76 : decode cX0_picture 76 = .ok (.iastore, 1) := dk_79 (dk_at dksX0_picture_3 4 rfl rfl)
theorem dX0_picture_77 : decode cX0_picture 77 = .ok (.aload_n 0, 1) := dk_42 (dk_at dksX0_picture_3 5 rfl rfl)
theorem dX0_picture_78 : decode cX0_picture 78 = .ok (.dup, 1) := dk_89 (dk_at dksX0_picture_3 6 rfl rfl)
theorem dX0_picture_79 : decode cX0_picture 79 = .ok (.getfield 196, 3) := dk_180 0 196 (dk_at dksX0_picture_3 7 rfl rfl)
theorem dX0_picture_82 : decode cX0_picture 82 = .ok (.iconst 1, 1) := dk_4 (dk_at dksX0_picture_3 10 rfl rfl)
theorem dX0_picture_83 : decode cX0_picture 83 = .ok (.iadd, 1) := dk_96 (dk_at dksX0_picture_3 11 rfl rfl)
theorem dX0_picture_84 : decode cX0_picture 84 = .ok (.dup_x1, 1) := dk_90 (dk_at dksX0_picture_3 12 rfl rfl)
theorem dX0_picture_85 : decode cX0_picture 85 = .ok (.putfield 196, 3) := dk_181 0 196 (dk_at dksX0_picture_3 13 rfl rfl)
theorem dX0_picture_88 : decode cX0_picture 88 = .ok (.ireturn, 1) := dk_172 (dk_at dksX0_picture_3 16 rfl rfl)
abbrev cX0_pictureless : ByteArray := prog_1_method_26_code
def yX0_pictureless : MethodName := ⟨RX0, "pictureless", "()I"⟩
def dkwX0_pictureless_0 : List UInt8 := [42, 180, 0, 196, 60, 42, 3, 181, 0, 196, 27, 172]
abbrev dktX0_pictureless_0 : List UInt8 := dkwX0_pictureless_0 ++ []
theorem dksX0_pictureless_0 : cX0_pictureless.data.toList.drop 0 = dktX0_pictureless_0 := by decide +kernel
theorem dX0_pictureless_0 : decode cX0_pictureless 0 = .ok (.aload_n 0, 1) := dk_42 (dk_at dksX0_pictureless_0 0 rfl rfl)
theorem dX0_pictureless_1 : decode cX0_pictureless 1 = .ok (.getfield 196, 3) := dk_180 0 196 (dk_at dksX0_pictureless_0 1 rfl rfl)
theorem dX0_pictureless_4 : decode cX0_pictureless 4 = .ok (.istore_n 1, 1) := dk_60 (dk_at dksX0_pictureless_0 4 rfl rfl)
theorem dX0_pictureless_5 : decode cX0_pictureless 5 = .ok (.aload_n 0, 1) := dk_42 (dk_at dksX0_pictureless_0 5 rfl rfl)
theorem dX0_pictureless_6 : decode cX0_pictureless 6 = .ok (.iconst 0, 1) := dk_3 (dk_at dksX0_pictureless_0 6 rfl rfl)
theorem dX0_pictureless_7 : decode cX0_pictureless 7 = .ok (.putfield 196, 3) := dk_181 0 196 (dk_at dksX0_pictureless_0 7 rfl rfl)
theorem dX0_pictureless_10 : decode cX0_pictureless 10 = .ok (.iload_n 1, 1) := dk_27 (dk_at dksX0_pictureless_0 10 rfl rfl)
theorem dX0_pictureless_11 : decode cX0_pictureless 11 = .ok (.ireturn, 1) := dk_172 (dk_at dksX0_pictureless_0 11 rfl rfl)
abbrev cX0_wrong : ByteArray := prog_1_method_28_code
def yX0_wrong : MethodName := ⟨RX0, "wrong", "()I"⟩
def dkwX0_wrong_0 : List UInt8 := [42, 42, 180, 0, 25, 182, 0, 199, 172]
abbrev dktX0_wrong_0 : List UInt8 := dkwX0_wrong_0 ++ []
theorem dksX0_wrong_0 : cX0_wrong.data.toList.drop 0 = dktX0_wrong_0 := by decide +kernel
theorem dX0_wrong_0 : decode cX0_wrong 0 = .ok (.aload_n 0, 1) := dk_42 (dk_at dksX0_wrong_0 0 rfl rfl)
theorem dX0_wrong_1 : decode cX0_wrong 1 = .ok (.aload_n 0, 1) := dk_42 (dk_at dksX0_wrong_0 1 rfl rfl)
theorem dX0_wrong_2 : decode cX0_wrong 2 = .ok (.getfield 25, 3) := dk_180 0 25 (dk_at dksX0_wrong_0 2 rfl rfl)
theorem dX0_wrong_5 : decode cX0_wrong 5 = .ok (.invokevirtual 199, 3) := dk_182 0 199 (dk_at dksX0_wrong_0 5 rfl rfl)
theorem dX0_wrong_8 : decode cX0_wrong 8 = .ok (.ireturn, 1) := dk_172 (dk_at dksX0_wrong_0 8 rfl rfl)
abbrev cX0_wrongs : ByteArray := prog_1_method_27_code
def yX0_wrongs : MethodName := ⟨RX0, "wrongs", "([I)I"⟩
def dkwX0_wrongs_3 : List UInt8 := [182, 0, 188, 46, 42, 180, 0, 66, 29, 46, 159, 0, 6, 132, 2, 1, 132, 3, 1, 167, 255, 174, 28, 172]
abbrev dktX0_wrongs_3 : List UInt8 := dkwX0_wrongs_3 ++ []
def dkwX0_wrongs_2 : List UInt8 := [21, 4, 153, 0, 33, 43, 42, 180, 0, 119, 42, 180, 0, 60, 29, 46, 42, 180, 0, 63, 29, 46]
abbrev dktX0_wrongs_2 : List UInt8 := dkwX0_wrongs_2 ++ dktX0_wrongs_3
def dkwX0_wrongs_1 : List UInt8 := [162, 0, 20, 42, 180, 0, 63, 29, 46, 42, 180, 0, 90, 162, 0, 7, 4, 167, 0, 4, 3, 54, 4]
abbrev dktX0_wrongs_1 : List UInt8 := dkwX0_wrongs_1 ++ dktX0_wrongs_2
def dkwX0_wrongs_0 : List UInt8 := [3, 61, 3, 62, 29, 42, 180, 0, 196, 162, 0, 80, 42, 180, 0, 60, 29, 46, 42, 182, 0, 179]
abbrev dktX0_wrongs_0 : List UInt8 := dkwX0_wrongs_0 ++ dktX0_wrongs_1
theorem dksX0_wrongs_0 : cX0_wrongs.data.toList.drop 0 = dktX0_wrongs_0 := by decide +kernel
theorem dksX0_wrongs_1 : cX0_wrongs.data.toList.drop 22 = dktX0_wrongs_1 := dk_seg dksX0_wrongs_0 22 rfl rfl
theorem dksX0_wrongs_2 : cX0_wrongs.data.toList.drop 45 = dktX0_wrongs_2 := dk_seg dksX0_wrongs_1 23 rfl rfl
theorem dksX0_wrongs_3 : cX0_wrongs.data.toList.drop 67 = dktX0_wrongs_3 := dk_seg dksX0_wrongs_2 22 rfl rfl
theorem dX0_wrongs_0 : decode cX0_wrongs 0 = .ok (.iconst 0, 1) := dk_3 (dk_at dksX0_wrongs_0 0 rfl rfl)
theorem dX0_wrongs_1 : decode cX0_wrongs 1 = .ok (.istore_n 2, 1) := dk_61 (dk_at dksX0_wrongs_0 1 rfl rfl)
theorem dX0_wrongs_2 : decode cX0_wrongs 2 = .ok (.iconst 0, 1) := dk_3 (dk_at dksX0_wrongs_0 2 rfl rfl)
theorem dX0_wrongs_3 : decode cX0_wrongs 3 = .ok (.istore_n 3, 1) := dk_62 (dk_at dksX0_wrongs_0 3 rfl rfl)
theorem dX0_wrongs_4 : decode cX0_wrongs 4 = .ok (.iload_n 3, 1) := dk_29 (dk_at dksX0_wrongs_0 4 rfl rfl)
theorem dX0_wrongs_5 : decode cX0_wrongs 5 = .ok (.aload_n 0, 1) := dk_42 (dk_at dksX0_wrongs_0 5 rfl rfl)
theorem dX0_wrongs_6 : decode cX0_wrongs 6 = .ok (.getfield 196, 3) := dk_180 0 196 (dk_at dksX0_wrongs_0 6 rfl rfl)
theorem dX0_wrongs_9 : decode cX0_wrongs 9 = .ok (.if_icmp .ge 80, 3) := dk_162 0 80 (dk_at dksX0_wrongs_0 9 rfl rfl)
theorem dX0_wrongs_12 : decode cX0_wrongs 12 = .ok (.aload_n 0, 1) := dk_42 (dk_at dksX0_wrongs_0 12 rfl rfl)
theorem dX0_wrongs_13 : decode cX0_wrongs 13 = .ok (.getfield 60, 3) := dk_180 0 60 (dk_at dksX0_wrongs_0 13 rfl rfl)
theorem dX0_wrongs_16 : decode cX0_wrongs 16 = .ok (.iload_n 3, 1) := dk_29 (dk_at dksX0_wrongs_0 16 rfl rfl)
theorem dX0_wrongs_17 : decode cX0_wrongs 17 = .ok (.iaload, 1) := dk_46 (dk_at dksX0_wrongs_0 17 rfl rfl)
theorem dX0_wrongs_18 : decode cX0_wrongs 18 = .ok (.aload_n 0, 1) := dk_42 (dk_at dksX0_wrongs_0 18 rfl rfl)
theorem dX0_wrongs_19 : decode cX0_wrongs 19 = .ok (.invokevirtual 179, 3) := dk_182 0 179 (dk_at dksX0_wrongs_0 19 rfl rfl)
theorem dX0_wrongs_22 : decode cX0_wrongs 22 = .ok (.if_icmp .ge 20, 3) := dk_162 0 20 (dk_at dksX0_wrongs_1 0 rfl rfl)
theorem dX0_wrongs_25 : decode cX0_wrongs 25 = .ok (.aload_n 0, 1) := dk_42 (dk_at dksX0_wrongs_1 3 rfl rfl)
theorem dX0_wrongs_26 : decode cX0_wrongs 26 = .ok (.getfield 63, 3) := dk_180 0 63 (dk_at dksX0_wrongs_1 4 rfl rfl)
theorem dX0_wrongs_29 : decode cX0_wrongs 29 = .ok (.iload_n 3, 1) := dk_29 (dk_at dksX0_wrongs_1 7 rfl rfl)
theorem dX0_wrongs_30 : decode cX0_wrongs 30 = .ok (.iaload, 1) := dk_46 (dk_at dksX0_wrongs_1 8 rfl rfl)
theorem dX0_wrongs_31 : decode cX0_wrongs 31 = .ok (.aload_n 0, 1) := dk_42 (dk_at dksX0_wrongs_1 9 rfl rfl)
theorem dX0_wrongs_32 : decode cX0_wrongs 32 = .ok (.getfield 90, 3) := dk_180 0 90 (dk_at dksX0_wrongs_1 10 rfl rfl)
theorem dX0_wrongs_35 : decode cX0_wrongs 35 = .ok (.if_icmp .ge 7, 3) := dk_162 0 7 (dk_at dksX0_wrongs_1 13 rfl rfl)
theorem dX0_wrongs_38 : decode cX0_wrongs 38 = .ok (.iconst 1, 1) := dk_4 (dk_at dksX0_wrongs_1 16 rfl rfl)
theorem dX0_wrongs_39 : decode cX0_wrongs 39 = .ok (.goto 4, 3) := dk_167 0 4 (dk_at dksX0_wrongs_1 17 rfl rfl)
theorem dX0_wrongs_42 : decode cX0_wrongs 42 = .ok (.iconst 0, 1) := dk_3 (dk_at dksX0_wrongs_1 20 rfl rfl)
theorem dX0_wrongs_43 : decode cX0_wrongs 43 = .ok (.istore 4, 2) := dk_54 4 (dk_at dksX0_wrongs_1 21 rfl rfl)
theorem dX0_wrongs_45 : decode cX0_wrongs 45 = .ok (.iload 4, 2) := dk_21 4 (dk_at dksX0_wrongs_2 0 rfl rfl)
theorem dX0_wrongs_47 : decode cX0_wrongs 47 = .ok (.ifCond .eq 33, 3) := dk_153 0 33 (dk_at dksX0_wrongs_2 2 rfl rfl)
theorem dX0_wrongs_50 : decode cX0_wrongs 50 = .ok (.aload_n 1, 1) := dk_43 (dk_at dksX0_wrongs_2 5 rfl rfl)
theorem dX0_wrongs_51 : decode cX0_wrongs 51 = .ok (.aload_n 0, 1) := dk_42 (dk_at dksX0_wrongs_2 6 rfl rfl)
theorem dX0_wrongs_52 : decode cX0_wrongs 52 = .ok (.getfield 119, 3) := dk_180 0 119 (dk_at dksX0_wrongs_2 7 rfl rfl)
theorem dX0_wrongs_55 : decode cX0_wrongs 55 = .ok (.aload_n 0, 1) := dk_42 (dk_at dksX0_wrongs_2 10 rfl rfl)
theorem dX0_wrongs_56 : decode cX0_wrongs 56 = .ok (.getfield 60, 3) := dk_180 0 60 (dk_at dksX0_wrongs_2 11 rfl rfl)
theorem dX0_wrongs_59 : decode cX0_wrongs 59 = .ok (.iload_n 3, 1) := dk_29 (dk_at dksX0_wrongs_2 14 rfl rfl)
theorem dX0_wrongs_60 : decode cX0_wrongs 60 = .ok (.iaload, 1) := dk_46 (dk_at dksX0_wrongs_2 15 rfl rfl)
theorem dX0_wrongs_61 : decode cX0_wrongs 61 = .ok (.aload_n 0, 1) := dk_42 (dk_at dksX0_wrongs_2 16 rfl rfl)
theorem dX0_wrongs_62 : decode cX0_wrongs 62 = .ok (.getfield 63, 3) := dk_180 0 63 (dk_at dksX0_wrongs_2 17 rfl rfl)
theorem dX0_wrongs_65 : decode cX0_wrongs 65 = .ok (.iload_n 3, 1) := dk_29 (dk_at dksX0_wrongs_2 20 rfl rfl)
theorem dX0_wrongs_66 : decode cX0_wrongs 66 = .ok (.iaload, 1) := dk_46 (dk_at dksX0_wrongs_2 21 rfl rfl)
theorem dX0_wrongs_67 : decode cX0_wrongs 67 = .ok (.invokevirtual 188, 3) := dk_182 0 188 (dk_at dksX0_wrongs_3 0 rfl rfl)
theorem dX0_wrongs_70 : decode cX0_wrongs 70 = .ok (.iaload, 1) := dk_46 (dk_at dksX0_wrongs_3 3 rfl rfl)
theorem dX0_wrongs_71 : decode cX0_wrongs 71 = .ok (.aload_n 0, 1) := dk_42 (dk_at dksX0_wrongs_3 4 rfl rfl)
theorem dX0_wrongs_72 : decode cX0_wrongs 72 = .ok (.getfield 66, 3) := dk_180 0 66 (dk_at dksX0_wrongs_3 5 rfl rfl)
theorem dX0_wrongs_75 : decode cX0_wrongs 75 = .ok (.iload_n 3, 1) := dk_29 (dk_at dksX0_wrongs_3 8 rfl rfl)
theorem dX0_wrongs_76 : decode cX0_wrongs 76 = .ok (.iaload, 1) := dk_46 (dk_at dksX0_wrongs_3 9 rfl rfl)
theorem dX0_wrongs_77 : decode cX0_wrongs 77 = .ok (.if_icmp .eq 6, 3) := dk_159 0 6 (dk_at dksX0_wrongs_3 10 rfl rfl)
theorem dX0_wrongs_80 : decode cX0_wrongs 80 = .ok (.iinc 2 1, 3) := dk_132 2 1 (dk_at dksX0_wrongs_3 13 rfl rfl)
theorem dX0_wrongs_83 : decode cX0_wrongs 83 = .ok (.iinc 3 1, 3) := dk_132 3 1 (dk_at dksX0_wrongs_3 16 rfl rfl)
theorem dX0_wrongs_86 : decode cX0_wrongs 86 = .ok (.goto (-82), 3) := dk_167 255 174 (dk_at dksX0_wrongs_3 19 rfl rfl)
theorem dX0_wrongs_89 : decode cX0_wrongs 89 = .ok (.iload_n 2, 1) := dk_28 (dk_at dksX0_wrongs_3 22 rfl rfl)
theorem dX0_wrongs_90 : decode cX0_wrongs 90 = .ok (.ireturn, 1) := dk_172 (dk_at dksX0_wrongs_3 23 rfl rfl)
abbrev cX0_colours : ByteArray := prog_1_method_29_code
def yX0_colours : MethodName := ⟨RX0, "colours", "(II)I"⟩
def dkwX0_colours_8 : List UInt8 := [172]
abbrev dktX0_colours_8 : List UInt8 := dkwX0_colours_8 ++ []
def dkwX0_colours_7 : List UInt8 := [184, 0, 153, 132, 5, 1, 167, 255, 167, 28, 2, 160, 0, 7, 29, 167, 0, 9, 42, 180, 0, 72, 28, 46]
abbrev dktX0_colours_7 : List UInt8 := dkwX0_colours_7 ++ dktX0_colours_8
def dkwX0_colours_6 : List UInt8 := [29, 161, 0, 6, 167, 0, 23, 21, 7, 62, 42, 180, 0, 69, 3, 42, 180, 0, 72, 3, 42, 180, 0, 90]
abbrev dktX0_colours_6 : List UInt8 := dkwX0_colours_6 ++ dktX0_colours_7
def dkwX0_colours_5 : List UInt8 := [21, 6, 27, 108, 54, 6, 132, 7, 255, 167, 255, 231, 42, 42, 180, 0, 69, 182, 0, 199, 54, 7, 21, 7]
abbrev dktX0_colours_5 : List UInt8 := dkwX0_colours_5 ++ dktX0_colours_6
def dkwX0_colours_4 : List UInt8 := [180, 0, 90, 4, 100, 54, 7, 21, 7, 155, 0, 26, 42, 180, 0, 69, 21, 7, 21, 6, 27, 112, 79]
abbrev dktX0_colours_4 : List UInt8 := dkwX0_colours_4 ++ dktX0_colours_5
def dkwX0_colours_3 : List UInt8 := [54, 4, 132, 5, 1, 167, 255, 238, 3, 54, 5, 21, 5, 21, 4, 162, 0, 88, 21, 5, 54, 6, 42]
abbrev dktX0_colours_3 : List UInt8 := dkwX0_colours_3 ++ dktX0_colours_4
def dkwX0_colours_2 : List UInt8 := [172, 16, 41, 62, 4, 54, 4, 3, 54, 5, 21, 5, 42, 180, 0, 90, 162, 0, 15, 21, 4, 27, 104]
abbrev dktX0_colours_2 : List UInt8 := dkwX0_colours_2 ++ dktX0_colours_3
def dkwX0_colours_1 : List UInt8 := [154, 0, 6, 16, 254, 172, 42, 182, 0, 179, 153, 0, 12, 42, 180, 0, 90, 16, 6, 164, 0, 6, 16, 253]
abbrev dktX0_colours_1 : List UInt8 := dkwX0_colours_1 ++ dktX0_colours_2
def dkwX0_colours_0 : List UInt8 := [28, 2, 42, 180, 0, 90, 4, 100, 184, 0, 86, 154, 0, 5, 2, 172, 27, 4, 7, 184, 0, 86]
abbrev dktX0_colours_0 : List UInt8 := dkwX0_colours_0 ++ dktX0_colours_1
theorem dksX0_colours_0 : cX0_colours.data.toList.drop 0 = dktX0_colours_0 := by decide +kernel
theorem dksX0_colours_1 : cX0_colours.data.toList.drop 22 = dktX0_colours_1 := dk_seg dksX0_colours_0 22 rfl rfl
theorem dksX0_colours_2 : cX0_colours.data.toList.drop 46 = dktX0_colours_2 := dk_seg dksX0_colours_1 24 rfl rfl
theorem dksX0_colours_3 : cX0_colours.data.toList.drop 69 = dktX0_colours_3 := dk_seg dksX0_colours_2 23 rfl rfl
theorem dksX0_colours_4 : cX0_colours.data.toList.drop 92 = dktX0_colours_4 := dk_seg dksX0_colours_3 23 rfl rfl
theorem dksX0_colours_5 : cX0_colours.data.toList.drop 115 = dktX0_colours_5 := dk_seg dksX0_colours_4 23 rfl rfl
theorem dksX0_colours_6 : cX0_colours.data.toList.drop 139 = dktX0_colours_6 := dk_seg dksX0_colours_5 24 rfl rfl
theorem dksX0_colours_7 : cX0_colours.data.toList.drop 163 = dktX0_colours_7 := dk_seg dksX0_colours_6 24 rfl rfl
theorem dksX0_colours_8 : cX0_colours.data.toList.drop 187 = dktX0_colours_8 := dk_seg dksX0_colours_7 24 rfl rfl
theorem dX0_colours_0 : decode cX0_colours 0 = .ok (.iload_n 2, 1) := dk_28 (dk_at dksX0_colours_0 0 rfl rfl)
theorem dX0_colours_1 : decode cX0_colours 1 = .ok (.iconst (-1), 1) := dk_2 (dk_at dksX0_colours_0 1 rfl rfl)
theorem dX0_colours_2 : decode cX0_colours 2 = .ok (.aload_n 0, 1) := dk_42 (dk_at dksX0_colours_0 2 rfl rfl)
theorem dX0_colours_3 : decode cX0_colours 3 = .ok (.getfield 90, 3) := dk_180 0 90 (dk_at dksX0_colours_0 3 rfl rfl)
theorem dX0_colours_6 : decode cX0_colours 6 = .ok (.iconst 1, 1) := dk_4 (dk_at dksX0_colours_0 6 rfl rfl)
theorem dX0_colours_7 : decode cX0_colours 7 = .ok (.isub, 1) := dk_100 (dk_at dksX0_colours_0 7 rfl rfl)
theorem dX0_colours_8 : decode cX0_colours 8 = .ok (.invokestatic 86, 3) := dk_184 0 86 (dk_at dksX0_colours_0 8 rfl rfl)
theorem dX0_colours_11 : decode cX0_colours 11 = .ok (.ifCond .ne 5, 3) := dk_154 0 5 (dk_at dksX0_colours_0 11 rfl rfl)
theorem dX0_colours_14 : decode cX0_colours 14 = .ok (.iconst (-1), 1) := dk_2 (dk_at dksX0_colours_0 14 rfl rfl)
theorem dX0_colours_15 : decode cX0_colours 15 = .ok (.ireturn, 1) := dk_172 (dk_at dksX0_colours_0 15 rfl rfl)
theorem dX0_colours_16 : decode cX0_colours 16 = .ok (.iload_n 1, 1) := dk_27 (dk_at dksX0_colours_0 16 rfl rfl)
theorem dX0_colours_17 : decode cX0_colours 17 = .ok (.iconst 1, 1) := dk_4 (dk_at dksX0_colours_0 17 rfl rfl)
theorem dX0_colours_18 : decode cX0_colours 18 = .ok (.iconst 4, 1) := dk_7 (dk_at dksX0_colours_0 18 rfl rfl)
theorem dX0_colours_19 : decode cX0_colours 19 = .ok (.invokestatic 86, 3) := dk_184 0 86 (dk_at dksX0_colours_0 19 rfl rfl)
theorem dX0_colours_22 : decode cX0_colours 22 = .ok (.ifCond .ne 6, 3) := dk_154 0 6 (dk_at dksX0_colours_1 0 rfl rfl)
theorem dX0_colours_25 : decode cX0_colours 25 = .ok (.bipush (-2), 2) := dk_16 254 (dk_at dksX0_colours_1 3 rfl rfl)
theorem dX0_colours_27 : decode cX0_colours 27 = .ok (.ireturn, 1) := dk_172 (dk_at dksX0_colours_1 5 rfl rfl)
theorem dX0_colours_28 : decode cX0_colours 28 = .ok (.aload_n 0, 1) := dk_42 (dk_at dksX0_colours_1 6 rfl rfl)
theorem dX0_colours_29 : decode cX0_colours 29 = .ok (.invokevirtual 179, 3) := dk_182 0 179 (dk_at dksX0_colours_1 7 rfl rfl)
theorem dX0_colours_32 : decode cX0_colours 32 = .ok (.ifCond .eq 12, 3) := dk_153 0 12 (dk_at dksX0_colours_1 10 rfl rfl)
theorem dX0_colours_35 : decode cX0_colours 35 = .ok (.aload_n 0, 1) := dk_42 (dk_at dksX0_colours_1 13 rfl rfl)
theorem dX0_colours_36 : decode cX0_colours 36 = .ok (.getfield 90, 3) := dk_180 0 90 (dk_at dksX0_colours_1 14 rfl rfl)
theorem dX0_colours_39 : decode cX0_colours 39 = .ok (.bipush 6, 2) := dk_16 6 (dk_at dksX0_colours_1 17 rfl rfl)
theorem dX0_colours_41 : decode cX0_colours 41 = .ok (.if_icmp .le 6, 3) := dk_164 0 6 (dk_at dksX0_colours_1 19 rfl rfl)
theorem dX0_colours_44 : decode cX0_colours 44 = .ok (.bipush (-3), 2) := dk_16 253 (dk_at dksX0_colours_1 22 rfl rfl)
theorem dX0_colours_46 : decode cX0_colours 46 = .ok (.ireturn, 1) := dk_172 (dk_at dksX0_colours_2 0 rfl rfl)
theorem dX0_colours_47 : decode cX0_colours 47 = .ok (.bipush 41, 2) := dk_16 41 (dk_at dksX0_colours_2 1 rfl rfl)
theorem dX0_colours_49 : decode cX0_colours 49 = .ok (.istore_n 3, 1) := dk_62 (dk_at dksX0_colours_2 3 rfl rfl)
theorem dX0_colours_50 : decode cX0_colours 50 = .ok (.iconst 1, 1) := dk_4 (dk_at dksX0_colours_2 4 rfl rfl)
theorem dX0_colours_51 : decode cX0_colours 51 = .ok (.istore 4, 2) := dk_54 4 (dk_at dksX0_colours_2 5 rfl rfl)
theorem dX0_colours_53 : decode cX0_colours 53 = .ok (.iconst 0, 1) := dk_3 (dk_at dksX0_colours_2 7 rfl rfl)
theorem dX0_colours_54 : decode cX0_colours 54 = .ok (.istore 5, 2) := dk_54 5 (dk_at dksX0_colours_2 8 rfl rfl)
theorem dX0_colours_56 : decode cX0_colours 56 = .ok (.iload 5, 2) := dk_21 5 (dk_at dksX0_colours_2 10 rfl rfl)
theorem dX0_colours_58 : decode cX0_colours 58 = .ok (.aload_n 0, 1) := dk_42 (dk_at dksX0_colours_2 12 rfl rfl)
theorem dX0_colours_59 : decode cX0_colours 59 = .ok (.getfield 90, 3) := dk_180 0 90 (dk_at dksX0_colours_2 13 rfl rfl)
theorem dX0_colours_62 : decode cX0_colours 62 = .ok (.if_icmp .ge 15, 3) := dk_162 0 15 (dk_at dksX0_colours_2 16 rfl rfl)
theorem dX0_colours_65 : decode cX0_colours 65 = .ok (.iload 4, 2) := dk_21 4 (dk_at dksX0_colours_2 19 rfl rfl)
theorem dX0_colours_67 : decode cX0_colours 67 = .ok (.iload_n 1, 1) := dk_27 (dk_at dksX0_colours_2 21 rfl rfl)
theorem dX0_colours_68 : decode cX0_colours 68 = .ok (.imul, 1) := dk_104 (dk_at dksX0_colours_2 22 rfl rfl)
theorem dX0_colours_69 : decode cX0_colours 69 = .ok (.istore 4, 2) := dk_54 4 (dk_at dksX0_colours_3 0 rfl rfl)
theorem dX0_colours_71 : decode cX0_colours 71 = .ok (.iinc 5 1, 3) := dk_132 5 1 (dk_at dksX0_colours_3 2 rfl rfl)
theorem dX0_colours_74 : decode cX0_colours 74 = .ok (.goto (-18), 3) := dk_167 255 238 (dk_at dksX0_colours_3 5 rfl rfl)
theorem dX0_colours_77 : decode cX0_colours 77 = .ok (.iconst 0, 1) := dk_3 (dk_at dksX0_colours_3 8 rfl rfl)
theorem dX0_colours_78 : decode cX0_colours 78 = .ok (.istore 5, 2) := dk_54 5 (dk_at dksX0_colours_3 9 rfl rfl)
theorem dX0_colours_80 : decode cX0_colours 80 = .ok (.iload 5, 2) := dk_21 5 (dk_at dksX0_colours_3 11 rfl rfl)
theorem dX0_colours_82 : decode cX0_colours 82 = .ok (.iload 4, 2) := dk_21 4 (dk_at dksX0_colours_3 13 rfl rfl)
theorem dX0_colours_84 : decode cX0_colours 84 = .ok (.if_icmp .ge 88, 3) := dk_162 0 88 (dk_at dksX0_colours_3 15 rfl rfl)
theorem dX0_colours_87 : decode cX0_colours 87 = .ok (.iload 5, 2) := dk_21 5 (dk_at dksX0_colours_3 18 rfl rfl)
theorem dX0_colours_89 : decode cX0_colours 89 = .ok (.istore 6, 2) := dk_54 6 (dk_at dksX0_colours_3 20 rfl rfl)
theorem dX0_colours_91 : decode cX0_colours 91 = .ok (.aload_n 0, 1) := dk_42 (dk_at dksX0_colours_3 22 rfl rfl)
theorem dX0_colours_92 : decode cX0_colours 92 = .ok (.getfield 90, 3) := dk_180 0 90 (dk_at dksX0_colours_4 0 rfl rfl)
theorem dX0_colours_95 : decode cX0_colours 95 = .ok (.iconst 1, 1) := dk_4 (dk_at dksX0_colours_4 3 rfl rfl)
theorem dX0_colours_96 : decode cX0_colours 96 = .ok (.isub, 1) := dk_100 (dk_at dksX0_colours_4 4 rfl rfl)
theorem dX0_colours_97 : decode cX0_colours 97 = .ok (.istore 7, 2) := dk_54 7 (dk_at dksX0_colours_4 5 rfl rfl)
theorem dX0_colours_99 : decode cX0_colours 99 = .ok (.iload 7, 2) := dk_21 7 (dk_at dksX0_colours_4 7 rfl rfl)
theorem dX0_colours_101 : decode cX0_colours 101 = .ok (.ifCond .lt 26, 3) := dk_155 0 26 (dk_at dksX0_colours_4 9 rfl rfl)
theorem dX0_colours_104 : decode cX0_colours 104 = .ok (.aload_n 0, 1) := dk_42 (dk_at dksX0_colours_4 12 rfl rfl)
theorem dX0_colours_105 : decode cX0_colours 105 = .ok (.getfield 69, 3) := dk_180 0 69 (dk_at dksX0_colours_4 13 rfl rfl)
theorem dX0_colours_108 : decode cX0_colours 108 = .ok (.iload 7, 2) := dk_21 7 (dk_at dksX0_colours_4 16 rfl rfl)
theorem dX0_colours_110 : decode cX0_colours 110 = .ok (.iload 6, 2) := dk_21 6 (dk_at dksX0_colours_4 18 rfl rfl)
theorem dX0_colours_112 : decode cX0_colours 112 = .ok (.iload_n 1, 1) := dk_27 (dk_at dksX0_colours_4 20 rfl rfl)
theorem dX0_colours_113 : decode cX0_colours 113 = .ok (.irem, 1) := dk_112 (dk_at dksX0_colours_4 21 rfl rfl)
theorem dX0_colours_114 : decode cX0_colours 114 = .ok (.iastore, 1) := dk_79 (dk_at dksX0_colours_4 22 rfl rfl)
theorem dX0_colours_115 : decode cX0_colours 115 = .ok (.iload 6, 2) := dk_21 6 (dk_at dksX0_colours_5 0 rfl rfl)
theorem dX0_colours_117 : decode cX0_colours 117 = .ok (.iload_n 1, 1) := dk_27 (dk_at dksX0_colours_5 2 rfl rfl)
theorem dX0_colours_118 : decode cX0_colours 118 = .ok (.idiv, 1) := dk_108 (dk_at dksX0_colours_5 3 rfl rfl)
theorem dX0_colours_119 : decode cX0_colours 119 = .ok (.istore 6, 2) := dk_54 6 (dk_at dksX0_colours_5 4 rfl rfl)
theorem dX0_colours_121 : decode cX0_colours 121 = .ok (.iinc 7 (-1), 3) := dk_132 7 255 (dk_at dksX0_colours_5 6 rfl rfl)
theorem dX0_colours_124 : decode cX0_colours 124 = .ok (.goto (-25), 3) := dk_167 255 231 (dk_at dksX0_colours_5 9 rfl rfl)
theorem dX0_colours_127 : decode cX0_colours 127 = .ok (.aload_n 0, 1) := dk_42 (dk_at dksX0_colours_5 12 rfl rfl)
theorem dX0_colours_128 : decode cX0_colours 128 = .ok (.aload_n 0, 1) := dk_42 (dk_at dksX0_colours_5 13 rfl rfl)
theorem dX0_colours_129 : decode cX0_colours 129 = .ok (.getfield 69, 3) := dk_180 0 69 (dk_at dksX0_colours_5 14 rfl rfl)
theorem dX0_colours_132 : decode cX0_colours 132 = .ok (.invokevirtual 199, 3) := dk_182 0 199 (dk_at dksX0_colours_5 17 rfl rfl)
theorem dX0_colours_135 : decode cX0_colours 135 = .ok (.istore 7, 2) := dk_54 7 (dk_at dksX0_colours_5 20 rfl rfl)
theorem dX0_colours_137 : decode cX0_colours 137 = .ok (.iload 7, 2) := dk_21 7 (dk_at dksX0_colours_5 22 rfl rfl)
theorem dX0_colours_139 : decode cX0_colours 139 = .ok (.iload_n 3, 1) := dk_29 (dk_at dksX0_colours_6 0 rfl rfl)
theorem dX0_colours_140 : decode cX0_colours 140 = .ok (.if_icmp .lt 6, 3) := dk_161 0 6 (dk_at dksX0_colours_6 1 rfl rfl)
theorem dX0_colours_143 : decode cX0_colours 143 = .ok (.goto 23, 3) := dk_167 0 23 (dk_at dksX0_colours_6 4 rfl rfl)
theorem dX0_colours_146 : decode cX0_colours 146 = .ok (.iload 7, 2) := dk_21 7 (dk_at dksX0_colours_6 7 rfl rfl)
theorem dX0_colours_148 : decode cX0_colours 148 = .ok (.istore_n 3, 1) := dk_62 (dk_at dksX0_colours_6 9 rfl rfl)
theorem dX0_colours_149 : decode cX0_colours 149 = .ok (.aload_n 0, 1) := dk_42 (dk_at dksX0_colours_6 10 rfl rfl)
theorem dX0_colours_150 : decode cX0_colours 150 = .ok (.getfield 69, 3) := dk_180 0 69 (dk_at dksX0_colours_6 11 rfl rfl)
theorem dX0_colours_153 : decode cX0_colours 153 = .ok (.iconst 0, 1) := dk_3 (dk_at dksX0_colours_6 14 rfl rfl)
theorem dX0_colours_154 : decode cX0_colours 154 = .ok (.aload_n 0, 1) := dk_42 (dk_at dksX0_colours_6 15 rfl rfl)
theorem dX0_colours_155 : decode cX0_colours 155 = .ok (.getfield 72, 3) := dk_180 0 72 (dk_at dksX0_colours_6 16 rfl rfl)
theorem dX0_colours_158 : decode cX0_colours 158 = .ok (.iconst 0, 1) := dk_3 (dk_at dksX0_colours_6 19 rfl rfl)
theorem dX0_colours_159 : decode cX0_colours 159 = .ok (.aload_n 0, 1) := dk_42 (dk_at dksX0_colours_6 20 rfl rfl)
theorem dX0_colours_160 : decode cX0_colours 160 = .ok (.getfield 90, 3) := dk_180 0 90 (dk_at dksX0_colours_6 21 rfl rfl)
theorem dX0_colours_163 : decode cX0_colours 163 = .ok (.invokestatic 153, 3) := dk_184 0 153 (dk_at dksX0_colours_7 0 rfl rfl)
theorem dX0_colours_166 : decode cX0_colours 166 = .ok (.iinc 5 1, 3) := dk_132 5 1 (dk_at dksX0_colours_7 3 rfl rfl)
theorem dX0_colours_169 : decode cX0_colours 169 = .ok (.goto (-89), 3) := dk_167 255 167 (dk_at dksX0_colours_7 6 rfl rfl)
theorem dX0_colours_172 : decode cX0_colours 172 = .ok (.iload_n 2, 1) := dk_28 (dk_at dksX0_colours_7 9 rfl rfl)
theorem dX0_colours_173 : decode cX0_colours 173 = .ok (.iconst (-1), 1) := dk_2 (dk_at dksX0_colours_7 10 rfl rfl)
theorem dX0_colours_174 : decode cX0_colours 174 = .ok (.if_icmp .ne 7, 3) := dk_160 0 7 (dk_at dksX0_colours_7 11 rfl rfl)
theorem dX0_colours_177 : decode cX0_colours 177 = .ok (.iload_n 3, 1) := dk_29 (dk_at dksX0_colours_7 14 rfl rfl)
theorem dX0_colours_178 : decode cX0_colours 178 = .ok (.goto 9, 3) := dk_167 0 9 (dk_at dksX0_colours_7 15 rfl rfl)
theorem dX0_colours_181 : decode cX0_colours 181 = .ok (.aload_n 0, 1) := dk_42 (dk_at dksX0_colours_7 18 rfl rfl)
theorem dX0_colours_182 : decode cX0_colours 182 = .ok (.getfield 72, 3) := dk_180 0 72 (dk_at dksX0_colours_7 19 rfl rfl)
theorem dX0_colours_185 : decode cX0_colours 185 = .ok (.iload_n 2, 1) := dk_28 (dk_at dksX0_colours_7 22 rfl rfl)
theorem dX0_colours_186 : decode cX0_colours 186 = .ok (.iaload, 1) := dk_46 (dk_at dksX0_colours_7 23 rfl rfl)
theorem dX0_colours_187 : decode cX0_colours 187 = .ok (.ireturn, 1) := dk_172 (dk_at dksX0_colours_8 0 rfl rfl)
abbrev cX0_form : ByteArray := prog_1_method_31_code
def yX0_form : MethodName := ⟨RX0, "form", "(II)I"⟩
def dkwX0_form_3 : List UInt8 := [180, 0, 218, 162, 0, 12, 45, 180, 0, 222, 28, 46, 167, 0, 5, 16, 157, 172]
abbrev dktX0_form_3 : List UInt8 := dkwX0_form_3 ++ []
def dkwX0_form_2 : List UInt8 := [156, 0, 20, 28, 2, 160, 0, 10, 45, 180, 0, 218, 167, 0, 7, 45, 180, 0, 219, 172, 28, 45]
abbrev dktX0_form_2 : List UInt8 := dkwX0_form_2 ++ dktX0_form_3
def dkwX0_form_1 : List UInt8 := [180, 0, 90, 154, 0, 6, 16, 158, 172, 42, 27, 182, 0, 214, 78, 45, 199, 0, 6, 16, 159, 172, 28]
abbrev dktX0_form_1 : List UInt8 := dkwX0_form_1 ++ dktX0_form_2
def dkwX0_form_0 : List UInt8 := [27, 2, 42, 180, 0, 93, 4, 100, 184, 0, 86, 153, 0, 9, 28, 16, 254, 162, 0, 6, 16, 157, 172, 42]
abbrev dktX0_form_0 : List UInt8 := dkwX0_form_0 ++ dktX0_form_1
theorem dksX0_form_0 : cX0_form.data.toList.drop 0 = dktX0_form_0 := by decide +kernel
theorem dksX0_form_1 : cX0_form.data.toList.drop 24 = dktX0_form_1 := dk_seg dksX0_form_0 24 rfl rfl
theorem dksX0_form_2 : cX0_form.data.toList.drop 47 = dktX0_form_2 := dk_seg dksX0_form_1 23 rfl rfl
theorem dksX0_form_3 : cX0_form.data.toList.drop 69 = dktX0_form_3 := dk_seg dksX0_form_2 22 rfl rfl
theorem dX0_form_0 : decode cX0_form 0 = .ok (.iload_n 1, 1) := dk_27 (dk_at dksX0_form_0 0 rfl rfl)
theorem dX0_form_1 : decode cX0_form 1 = .ok (.iconst (-1), 1) := dk_2 (dk_at dksX0_form_0 1 rfl rfl)
theorem dX0_form_2 : decode cX0_form 2 = .ok (.aload_n 0, 1) := dk_42 (dk_at dksX0_form_0 2 rfl rfl)
theorem dX0_form_3 : decode cX0_form 3 = .ok (.getfield 93, 3) := dk_180 0 93 (dk_at dksX0_form_0 3 rfl rfl)
theorem dX0_form_6 : decode cX0_form 6 = .ok (.iconst 1, 1) := dk_4 (dk_at dksX0_form_0 6 rfl rfl)
theorem dX0_form_7 : decode cX0_form 7 = .ok (.isub, 1) := dk_100 (dk_at dksX0_form_0 7 rfl rfl)
theorem dX0_form_8 : decode cX0_form 8 = .ok (.invokestatic 86, 3) := dk_184 0 86 (dk_at dksX0_form_0 8 rfl rfl)
theorem dX0_form_11 : decode cX0_form 11 = .ok (.ifCond .eq 9, 3) := dk_153 0 9 (dk_at dksX0_form_0 11 rfl rfl)
theorem dX0_form_14 : decode cX0_form 14 = .ok (.iload_n 2, 1) := dk_28 (dk_at dksX0_form_0 14 rfl rfl)
theorem dX0_form_15 : decode cX0_form 15 = .ok (.bipush (-2), 2) := dk_16 254 (dk_at dksX0_form_0 15 rfl rfl)
theorem dX0_form_17 : decode cX0_form 17 = .ok (.if_icmp .ge 6, 3) := dk_162 0 6 (dk_at dksX0_form_0 17 rfl rfl)
theorem dX0_form_20 : decode cX0_form 20 = .ok (.bipush (-99), 2) := dk_16 157 (dk_at dksX0_form_0 20 rfl rfl)
theorem dX0_form_22 : decode cX0_form 22 = .ok (.ireturn, 1) := dk_172 (dk_at dksX0_form_0 22 rfl rfl)
theorem dX0_form_23 : decode cX0_form 23 = .ok (.aload_n 0, 1) := dk_42 (dk_at dksX0_form_0 23 rfl rfl)
theorem dX0_form_24 : decode cX0_form 24 = .ok (.getfield 90, 3) := dk_180 0 90 (dk_at dksX0_form_1 0 rfl rfl)
theorem dX0_form_27 : decode cX0_form 27 = .ok (.ifCond .ne 6, 3) := dk_154 0 6 (dk_at dksX0_form_1 3 rfl rfl)
theorem dX0_form_30 : decode cX0_form 30 = .ok (.bipush (-98), 2) := dk_16 158 (dk_at dksX0_form_1 6 rfl rfl)
theorem dX0_form_32 : decode cX0_form 32 = .ok (.ireturn, 1) := dk_172 (dk_at dksX0_form_1 8 rfl rfl)
theorem dX0_form_33 : decode cX0_form 33 = .ok (.aload_n 0, 1) := dk_42 (dk_at dksX0_form_1 9 rfl rfl)
theorem dX0_form_34 : decode cX0_form 34 = .ok (.iload_n 1, 1) := dk_27 (dk_at dksX0_form_1 10 rfl rfl)
theorem dX0_form_35 : decode cX0_form 35 = .ok (.invokevirtual 214, 3) := dk_182 0 214 (dk_at dksX0_form_1 11 rfl rfl)
theorem dX0_form_38 : decode cX0_form 38 = .ok (.astore_n 3, 1) := dk_78 (dk_at dksX0_form_1 14 rfl rfl)
theorem dX0_form_39 : decode cX0_form 39 = .ok (.aload_n 3, 1) := dk_45 (dk_at dksX0_form_1 15 rfl rfl)
theorem dX0_form_40 : decode cX0_form 40 = .ok (.ifnonnull 6, 3) := dk_199 0 6 (dk_at dksX0_form_1 16 rfl rfl)
theorem dX0_form_43 : decode cX0_form 43 = .ok (.bipush (-97), 2) := dk_16 159 (dk_at dksX0_form_1 19 rfl rfl)
theorem dX0_form_45 : decode cX0_form 45 = .ok (.ireturn, 1) := dk_172 (dk_at dksX0_form_1 21 rfl rfl)
theorem dX0_form_46 : decode cX0_form 46 = .ok (.iload_n 2, 1) := dk_28 (dk_at dksX0_form_1 22 rfl rfl)
theorem dX0_form_47 : decode cX0_form 47 = .ok (.ifCond .ge 20, 3) := dk_156 0 20 (dk_at dksX0_form_2 0 rfl rfl)
theorem dX0_form_50 : decode cX0_form 50 = .ok (.iload_n 2, 1) := dk_28 (dk_at dksX0_form_2 3 rfl rfl)
theorem dX0_form_51 : decode cX0_form 51 = .ok (.iconst (-1), 1) := dk_2 (dk_at dksX0_form_2 4 rfl rfl)
theorem dX0_form_52 : decode cX0_form 52 = .ok (.if_icmp .ne 10, 3) := dk_160 0 10 (dk_at dksX0_form_2 5 rfl rfl)
theorem dX0_form_55 : decode cX0_form 55 = .ok (.aload_n 3, 1) := dk_45 (dk_at dksX0_form_2 8 rfl rfl)
theorem dX0_form_56 : decode cX0_form 56 = .ok (.getfield 218, 3) := dk_180 0 218 (dk_at dksX0_form_2 9 rfl rfl)
theorem dX0_form_59 : decode cX0_form 59 = .ok (.goto 7, 3) := dk_167 0 7 (dk_at dksX0_form_2 12 rfl rfl)
theorem dX0_form_62 : decode cX0_form 62 = .ok (.aload_n 3, 1) := dk_45 (dk_at dksX0_form_2 15 rfl rfl)
theorem dX0_form_63 : decode cX0_form 63 = .ok (.getfield 219, 3) := dk_180 0 219 (dk_at dksX0_form_2 16 rfl rfl)
theorem dX0_form_66 : decode cX0_form 66 = .ok (.ireturn, 1) := dk_172 (dk_at dksX0_form_2 19 rfl rfl)
theorem dX0_form_67 : decode cX0_form 67 = .ok (.iload_n 2, 1) := dk_28 (dk_at dksX0_form_2 20 rfl rfl)
theorem dX0_form_68 : decode cX0_form 68 = .ok (.aload_n 3, 1) := dk_45 (dk_at dksX0_form_2 21 rfl rfl)
theorem dX0_form_69 : decode cX0_form 69 = .ok (.getfield 218, 3) := dk_180 0 218 (dk_at dksX0_form_3 0 rfl rfl)
theorem dX0_form_72 : decode cX0_form 72 = .ok (.if_icmp .ge 12, 3) := dk_162 0 12 (dk_at dksX0_form_3 3 rfl rfl)
theorem dX0_form_75 : decode cX0_form 75 = .ok (.aload_n 3, 1) := dk_45 (dk_at dksX0_form_3 6 rfl rfl)
theorem dX0_form_76 : decode cX0_form 76 = .ok (.getfield 222, 3) := dk_180 0 222 (dk_at dksX0_form_3 7 rfl rfl)
theorem dX0_form_79 : decode cX0_form 79 = .ok (.iload_n 2, 1) := dk_28 (dk_at dksX0_form_3 10 rfl rfl)
theorem dX0_form_80 : decode cX0_form 80 = .ok (.iaload, 1) := dk_46 (dk_at dksX0_form_3 11 rfl rfl)
theorem dX0_form_81 : decode cX0_form 81 = .ok (.goto 5, 3) := dk_167 0 5 (dk_at dksX0_form_3 12 rfl rfl)
theorem dX0_form_84 : decode cX0_form 84 = .ok (.bipush (-99), 2) := dk_16 157 (dk_at dksX0_form_3 15 rfl rfl)
theorem dX0_form_86 : decode cX0_form 86 = .ok (.ireturn, 1) := dk_172 (dk_at dksX0_form_3 17 rfl rfl)
abbrev cX0_formOf : ByteArray := prog_1_method_30_code
def yX0_formOf : MethodName := ⟨RX0, "formOf", "(I)LMaypoleGreen$Form;"⟩
def dkwX0_formOf_2 : List UInt8 := [180, 0, 90, 44, 180, 0, 211, 44, 180, 0, 213, 183, 0, 205, 167, 0, 4, 1, 176]
abbrev dktX0_formOf_2 : List UInt8 := dkwX0_formOf_2 ++ []
def dkwX0_formOf_1 : List UInt8 := [176, 42, 180, 0, 36, 27, 50, 77, 44, 42, 180, 0, 90, 182, 0, 208, 153, 0, 25, 187, 0, 203, 89, 42]
abbrev dktX0_formOf_1 : List UInt8 := dkwX0_formOf_1 ++ dktX0_formOf_2
def dkwX0_formOf_0 : List UInt8 := [27, 2, 160, 0, 23, 187, 0, 203, 89, 42, 180, 0, 90, 42, 180, 0, 31, 42, 180, 0, 136, 183, 0, 205]
abbrev dktX0_formOf_0 : List UInt8 := dkwX0_formOf_0 ++ dktX0_formOf_1
theorem dksX0_formOf_0 : cX0_formOf.data.toList.drop 0 = dktX0_formOf_0 := by decide +kernel
theorem dksX0_formOf_1 : cX0_formOf.data.toList.drop 24 = dktX0_formOf_1 := dk_seg dksX0_formOf_0 24 rfl rfl
theorem dksX0_formOf_2 : cX0_formOf.data.toList.drop 48 = dktX0_formOf_2 := dk_seg dksX0_formOf_1 24 rfl rfl
theorem dX0_formOf_0 : decode cX0_formOf 0 = .ok (.iload_n 1, 1) := dk_27 (dk_at dksX0_formOf_0 0 rfl rfl)
theorem dX0_formOf_1 : decode cX0_formOf 1 = .ok (.iconst (-1), 1) := dk_2 (dk_at dksX0_formOf_0 1 rfl rfl)
theorem dX0_formOf_2 : decode cX0_formOf 2 = .ok (.if_icmp .ne 23, 3) := dk_160 0 23 (dk_at dksX0_formOf_0 2 rfl rfl)
theorem dX0_formOf_5 : decode cX0_formOf 5 = .ok (.new 203, 3) := dk_187 0 203 (dk_at dksX0_formOf_0 5 rfl rfl)
theorem dX0_formOf_8 : decode cX0_formOf 8 = .ok (.dup, 1) := dk_89 (dk_at dksX0_formOf_0 8 rfl rfl)
theorem dX0_formOf_9 : decode cX0_formOf 9 = .ok (.aload_n 0, 1) := dk_42 (dk_at dksX0_formOf_0 9 rfl rfl)
theorem dX0_formOf_10 : decode cX0_formOf 10 = .ok (.getfield 90, 3) := dk_180 0 90 (dk_at dksX0_formOf_0 10 rfl rfl)
theorem dX0_formOf_13 : decode cX0_formOf 13 = .ok (.aload_n 0, 1) := dk_42 (dk_at dksX0_formOf_0 13 rfl rfl)
theorem dX0_formOf_14 : decode cX0_formOf 14 = .ok (.getfield 31, 3) := dk_180 0 31 (dk_at dksX0_formOf_0 14 rfl rfl)
theorem dX0_formOf_17 : decode cX0_formOf 17 = .ok (.aload_n 0, 1) := dk_42 (dk_at dksX0_formOf_0 17 rfl rfl)
theorem dX0_formOf_18 : decode cX0_formOf 18 = .ok (.getfield 136, 3) := dk_180 0 136 (dk_at dksX0_formOf_0 18 rfl rfl)
theorem dX0_formOf_21 : decode cX0_formOf 21 = .ok (.invokespecial 205, 3) := dk_183 0 205 (dk_at dksX0_formOf_0 21 rfl rfl)
theorem dX0_formOf_24 : decode cX0_formOf 24 = .ok (.areturn, 1) := dk_176 (dk_at dksX0_formOf_1 0 rfl rfl)
theorem dX0_formOf_25 : decode cX0_formOf 25 = .ok (.aload_n 0, 1) := dk_42 (dk_at dksX0_formOf_1 1 rfl rfl)
theorem dX0_formOf_26 : decode cX0_formOf 26 = .ok (.getfield 36, 3) := dk_180 0 36 (dk_at dksX0_formOf_1 2 rfl rfl)
theorem dX0_formOf_29 : decode cX0_formOf 29 = .ok (.iload_n 1, 1) := dk_27 (dk_at dksX0_formOf_1 5 rfl rfl)
theorem dX0_formOf_30 : decode cX0_formOf 30 = .ok (.aaload, 1) := dk_50 (dk_at dksX0_formOf_1 6 rfl rfl)
theorem dX0_formOf_31 : decode cX0_formOf 31 = .ok (.astore_n 2, 1) := dk_77 (dk_at dksX0_formOf_1 7 rfl rfl)
theorem dX0_formOf_32 : decode cX0_formOf 32 = .ok (.aload_n 2, 1) := dk_44 (dk_at dksX0_formOf_1 8 rfl rfl)
theorem dX0_formOf_33 : decode cX0_formOf 33 = .ok (.aload_n 0, 1) := dk_42 (dk_at dksX0_formOf_1 9 rfl rfl)
theorem dX0_formOf_34 : decode cX0_formOf 34 = .ok (.getfield 90, 3) := dk_180 0 90 (dk_at dksX0_formOf_1 10 rfl rfl)
theorem dX0_formOf_37 : decode cX0_formOf 37 = .ok (.invokevirtual 208, 3) := dk_182 0 208 (dk_at dksX0_formOf_1 13 rfl rfl)
theorem dX0_formOf_40 : decode cX0_formOf 40 = .ok (.ifCond .eq 25, 3) := dk_153 0 25 (dk_at dksX0_formOf_1 16 rfl rfl)
theorem dX0_formOf_43 : decode cX0_formOf 43 = .ok (.new 203, 3) := dk_187 0 203 (dk_at dksX0_formOf_1 19 rfl rfl)
theorem dX0_formOf_46 : decode cX0_formOf 46 = .ok (.dup, 1) := dk_89 (dk_at dksX0_formOf_1 22 rfl rfl)
theorem dX0_formOf_47 : decode cX0_formOf 47 = .ok (.aload_n 0, 1) := dk_42 (dk_at dksX0_formOf_1 23 rfl rfl)
theorem dX0_formOf_48 : decode cX0_formOf 48 = .ok (.getfield 90, 3) := dk_180 0 90 (dk_at dksX0_formOf_2 0 rfl rfl)
theorem dX0_formOf_51 : decode cX0_formOf 51 = .ok (.aload_n 2, 1) := dk_44 (dk_at dksX0_formOf_2 3 rfl rfl)
theorem dX0_formOf_52 : decode cX0_formOf 52 = .ok (.getfield 211, 3) := dk_180 0 211 (dk_at dksX0_formOf_2 4 rfl rfl)
theorem dX0_formOf_55 : decode cX0_formOf 55 = .ok (.aload_n 2, 1) := dk_44 (dk_at dksX0_formOf_2 7 rfl rfl)
theorem dX0_formOf_56 : decode cX0_formOf 56 = .ok (.getfield 213, 3) := dk_180 0 213 (dk_at dksX0_formOf_2 8 rfl rfl)
theorem dX0_formOf_59 : decode cX0_formOf 59 = .ok (.invokespecial 205, 3) := dk_183 0 205 (dk_at dksX0_formOf_2 11 rfl rfl)
theorem dX0_formOf_62 : decode cX0_formOf 62 = .ok (.goto 4, 3) := dk_167 0 4 (dk_at dksX0_formOf_2 14 rfl rfl)
theorem dX0_formOf_65 : decode cX0_formOf 65 = .ok (.aconst_null, 1) := dk_1 (dk_at dksX0_formOf_2 17 rfl rfl)
theorem dX0_formOf_66 : decode cX0_formOf 66 = .ok (.areturn, 1) := dk_176 (dk_at dksX0_formOf_2 18 rfl rfl)
abbrev cX0_akin : ByteArray := prog_1_method_32_code
def yX0_akin : MethodName := ⟨RX0, "akin", "(II)I"⟩
def dkwX0_akin_3 : List UInt8 := [182, 0, 225, 153, 0, 7, 4, 167, 0, 4, 3, 172]
abbrev dktX0_akin_3 : List UInt8 := dkwX0_akin_3 ++ []
def dkwX0_akin_2 : List UInt8 := [42, 28, 182, 0, 214, 58, 4, 45, 198, 0, 8, 25, 4, 199, 0, 8, 16, 253, 167, 0, 17, 45, 25, 4]
abbrev dktX0_akin_2 : List UInt8 := dkwX0_akin_2 ++ dktX0_akin_3
def dkwX0_akin_1 : List UInt8 := [184, 0, 86, 154, 0, 5, 2, 172, 42, 180, 0, 90, 154, 0, 6, 16, 253, 172, 42, 27, 182, 0, 214, 78]
abbrev dktX0_akin_1 : List UInt8 := dkwX0_akin_1 ++ dktX0_akin_2
def dkwX0_akin_0 : List UInt8 := [27, 2, 42, 180, 0, 93, 4, 100, 184, 0, 86, 153, 0, 17, 28, 2, 42, 180, 0, 93, 4, 100]
abbrev dktX0_akin_0 : List UInt8 := dkwX0_akin_0 ++ dktX0_akin_1
theorem dksX0_akin_0 : cX0_akin.data.toList.drop 0 = dktX0_akin_0 := by decide +kernel
theorem dksX0_akin_1 : cX0_akin.data.toList.drop 22 = dktX0_akin_1 := dk_seg dksX0_akin_0 22 rfl rfl
theorem dksX0_akin_2 : cX0_akin.data.toList.drop 46 = dktX0_akin_2 := dk_seg dksX0_akin_1 24 rfl rfl
theorem dksX0_akin_3 : cX0_akin.data.toList.drop 70 = dktX0_akin_3 := dk_seg dksX0_akin_2 24 rfl rfl
theorem dX0_akin_0 : decode cX0_akin 0 = .ok (.iload_n 1, 1) := dk_27 (dk_at dksX0_akin_0 0 rfl rfl)
theorem dX0_akin_1 : decode cX0_akin 1 = .ok (.iconst (-1), 1) := dk_2 (dk_at dksX0_akin_0 1 rfl rfl)
theorem dX0_akin_2 : decode cX0_akin 2 = .ok (.aload_n 0, 1) := dk_42 (dk_at dksX0_akin_0 2 rfl rfl)
theorem dX0_akin_3 : decode cX0_akin 3 = .ok (.getfield 93, 3) := dk_180 0 93 (dk_at dksX0_akin_0 3 rfl rfl)
theorem dX0_akin_6 : decode cX0_akin 6 = .ok (.iconst 1, 1) := dk_4 (dk_at dksX0_akin_0 6 rfl rfl)
theorem dX0_akin_7 : decode cX0_akin 7 = .ok (.isub, 1) := dk_100 (dk_at dksX0_akin_0 7 rfl rfl)
theorem dX0_akin_8 : decode cX0_akin 8 = .ok (.invokestatic 86, 3) := dk_184 0 86 (dk_at dksX0_akin_0 8 rfl rfl)
theorem dX0_akin_11 : decode cX0_akin 11 = .ok (.ifCond .eq 17, 3) := dk_153 0 17 (dk_at dksX0_akin_0 11 rfl rfl)
theorem dX0_akin_14 : decode cX0_akin 14 = .ok (.iload_n 2, 1) := dk_28 (dk_at dksX0_akin_0 14 rfl rfl)
theorem dX0_akin_15 : decode cX0_akin 15 = .ok (.iconst (-1), 1) := dk_2 (dk_at dksX0_akin_0 15 rfl rfl)
theorem dX0_akin_16 : decode cX0_akin 16 = .ok (.aload_n 0, 1) := dk_42 (dk_at dksX0_akin_0 16 rfl rfl)
theorem dX0_akin_17 : decode cX0_akin 17 = .ok (.getfield 93, 3) := dk_180 0 93 (dk_at dksX0_akin_0 17 rfl rfl)
theorem dX0_akin_20 : decode cX0_akin 20 = .ok (.iconst 1, 1) := dk_4 (dk_at dksX0_akin_0 20 rfl rfl)
theorem dX0_akin_21 : decode cX0_akin 21 = .ok (.isub, 1) := dk_100 (dk_at dksX0_akin_0 21 rfl rfl)
theorem dX0_akin_22 : decode cX0_akin 22 = .ok (.invokestatic 86, 3) := dk_184 0 86 (dk_at dksX0_akin_1 0 rfl rfl)
theorem dX0_akin_25 : decode cX0_akin 25 = .ok (.ifCond .ne 5, 3) := dk_154 0 5 (dk_at dksX0_akin_1 3 rfl rfl)
theorem dX0_akin_28 : decode cX0_akin 28 = .ok (.iconst (-1), 1) := dk_2 (dk_at dksX0_akin_1 6 rfl rfl)
theorem dX0_akin_29 : decode cX0_akin 29 = .ok (.ireturn, 1) := dk_172 (dk_at dksX0_akin_1 7 rfl rfl)
theorem dX0_akin_30 : decode cX0_akin 30 = .ok (.aload_n 0, 1) := dk_42 (dk_at dksX0_akin_1 8 rfl rfl)
theorem dX0_akin_31 : decode cX0_akin 31 = .ok (.getfield 90, 3) := dk_180 0 90 (dk_at dksX0_akin_1 9 rfl rfl)
theorem dX0_akin_34 : decode cX0_akin 34 = .ok (.ifCond .ne 6, 3) := dk_154 0 6 (dk_at dksX0_akin_1 12 rfl rfl)
theorem dX0_akin_37 : decode cX0_akin 37 = .ok (.bipush (-3), 2) := dk_16 253 (dk_at dksX0_akin_1 15 rfl rfl)
theorem dX0_akin_39 : decode cX0_akin 39 = .ok (.ireturn, 1) := dk_172 (dk_at dksX0_akin_1 17 rfl rfl)
theorem dX0_akin_40 : decode cX0_akin 40 = .ok (.aload_n 0, 1) := dk_42 (dk_at dksX0_akin_1 18 rfl rfl)
theorem dX0_akin_41 : decode cX0_akin 41 = .ok (.iload_n 1, 1) := dk_27 (dk_at dksX0_akin_1 19 rfl rfl)
theorem dX0_akin_42 : decode cX0_akin 42 = .ok (.invokevirtual 214, 3) := dk_182 0 214 (dk_at dksX0_akin_1 20 rfl rfl)
theorem dX0_akin_45 : decode cX0_akin 45 = .ok (.astore_n 3, 1) := dk_78 (dk_at dksX0_akin_1 23 rfl rfl)
theorem dX0_akin_46 : decode cX0_akin 46 = .ok (.aload_n 0, 1) := dk_42 (dk_at dksX0_akin_2 0 rfl rfl)
theorem dX0_akin_47 : decode cX0_akin 47 = .ok (.iload_n 2, 1) := dk_28 (dk_at dksX0_akin_2 1 rfl rfl)
theorem dX0_akin_48 : decode cX0_akin 48 = .ok (.invokevirtual 214, 3) := dk_182 0 214 (dk_at dksX0_akin_2 2 rfl rfl)
theorem dX0_akin_51 : decode cX0_akin 51 = .ok (.astore 4, 2) := dk_58 4 (dk_at dksX0_akin_2 5 rfl rfl)
theorem dX0_akin_53 : decode cX0_akin 53 = .ok (.aload_n 3, 1) := dk_45 (dk_at dksX0_akin_2 7 rfl rfl)
theorem dX0_akin_54 : decode cX0_akin 54 = .ok (.ifnull 8, 3) := dk_198 0 8 (dk_at dksX0_akin_2 8 rfl rfl)
theorem dX0_akin_57 : decode cX0_akin 57 = .ok (.aload 4, 2) := dk_25 4 (dk_at dksX0_akin_2 11 rfl rfl)
theorem dX0_akin_59 : decode cX0_akin 59 = .ok (.ifnonnull 8, 3) := dk_199 0 8 (dk_at dksX0_akin_2 13 rfl rfl)
theorem dX0_akin_62 : decode cX0_akin 62 = .ok (.bipush (-3), 2) := dk_16 253 (dk_at dksX0_akin_2 16 rfl rfl)
theorem dX0_akin_64 : decode cX0_akin 64 = .ok (.goto 17, 3) := dk_167 0 17 (dk_at dksX0_akin_2 18 rfl rfl)
theorem dX0_akin_67 : decode cX0_akin 67 = .ok (.aload_n 3, 1) := dk_45 (dk_at dksX0_akin_2 21 rfl rfl)
theorem dX0_akin_68 : decode cX0_akin 68 = .ok (.aload 4, 2) := dk_25 4 (dk_at dksX0_akin_2 22 rfl rfl)
theorem dX0_akin_70 : decode cX0_akin 70 = .ok (.invokevirtual 225, 3) := dk_182 0 225 (dk_at dksX0_akin_3 0 rfl rfl)
theorem dX0_akin_73 : decode cX0_akin 73 = .ok (.ifCond .eq 7, 3) := dk_153 0 7 (dk_at dksX0_akin_3 3 rfl rfl)
theorem dX0_akin_76 : decode cX0_akin 76 = .ok (.iconst 1, 1) := dk_4 (dk_at dksX0_akin_3 6 rfl rfl)
theorem dX0_akin_77 : decode cX0_akin 77 = .ok (.goto 4, 3) := dk_167 0 4 (dk_at dksX0_akin_3 7 rfl rfl)
theorem dX0_akin_80 : decode cX0_akin 80 = .ok (.iconst 0, 1) := dk_3 (dk_at dksX0_akin_3 10 rfl rfl)
theorem dX0_akin_81 : decode cX0_akin 81 = .ok (.ireturn, 1) := dk_172 (dk_at dksX0_akin_3 11 rfl rfl)
abbrev cX0_feed : ByteArray := prog_1_method_33_code
def yX0_feed : MethodName := ⟨RX0, "feed", "(II)I"⟩
def dkwX0_feed_2 : List UInt8 := [181, 0, 229, 27, 16, 8, 29, 104, 122, 145, 84, 132, 3, 255, 167, 255, 226, 42, 180, 0, 229, 172]
abbrev dktX0_feed_2 : List UInt8 := dkwX0_feed_2 ++ []
def dkwX0_feed_1 : List UInt8 := [16, 252, 172, 28, 4, 100, 62, 29, 155, 0, 32, 42, 180, 0, 40, 42, 89, 180, 0, 229, 90, 4, 96]
abbrev dktX0_feed_1 : List UInt8 := dkwX0_feed_1 ++ dktX0_feed_2
def dkwX0_feed_0 : List UInt8 := [28, 3, 7, 184, 0, 86, 154, 0, 6, 16, 254, 172, 42, 180, 0, 229, 28, 96, 16, 80, 164, 0, 6]
abbrev dktX0_feed_0 : List UInt8 := dkwX0_feed_0 ++ dktX0_feed_1
theorem dksX0_feed_0 : cX0_feed.data.toList.drop 0 = dktX0_feed_0 := by decide +kernel
theorem dksX0_feed_1 : cX0_feed.data.toList.drop 23 = dktX0_feed_1 := dk_seg dksX0_feed_0 23 rfl rfl
theorem dksX0_feed_2 : cX0_feed.data.toList.drop 46 = dktX0_feed_2 := dk_seg dksX0_feed_1 23 rfl rfl
theorem dX0_feed_0 : decode cX0_feed 0 = .ok (.iload_n 2, 1) := dk_28 (dk_at dksX0_feed_0 0 rfl rfl)
theorem dX0_feed_1 : decode cX0_feed 1 = .ok (.iconst 0, 1) := dk_3 (dk_at dksX0_feed_0 1 rfl rfl)
theorem dX0_feed_2 : decode cX0_feed 2 = .ok (.iconst 4, 1) := dk_7 (dk_at dksX0_feed_0 2 rfl rfl)
theorem dX0_feed_3 : decode cX0_feed 3 = .ok (.invokestatic 86, 3) := dk_184 0 86 (dk_at dksX0_feed_0 3 rfl rfl)
theorem dX0_feed_6 : decode cX0_feed 6 = .ok (.ifCond .ne 6, 3) := dk_154 0 6 (dk_at dksX0_feed_0 6 rfl rfl)
theorem dX0_feed_9 : decode cX0_feed 9 = .ok (.bipush (-2), 2) := dk_16 254 (dk_at dksX0_feed_0 9 rfl rfl)
theorem dX0_feed_11 : decode cX0_feed 11 = .ok (.ireturn, 1) := dk_172 (dk_at dksX0_feed_0 11 rfl rfl)
theorem dX0_feed_12 : decode cX0_feed 12 = .ok (.aload_n 0, 1) := dk_42 (dk_at dksX0_feed_0 12 rfl rfl)
theorem dX0_feed_13 : decode cX0_feed 13 = .ok (.getfield 229, 3) := dk_180 0 229 (dk_at dksX0_feed_0 13 rfl rfl)
theorem dX0_feed_16 : decode cX0_feed 16 = .ok (.iload_n 2, 1) := dk_28 (dk_at dksX0_feed_0 16 rfl rfl)
theorem dX0_feed_17 : decode cX0_feed 17 = .ok (.iadd, 1) := dk_96 (dk_at dksX0_feed_0 17 rfl rfl)
theorem dX0_feed_18 : decode cX0_feed 18 = .ok (.bipush 80, 2) := dk_16 80 (dk_at dksX0_feed_0 18 rfl rfl)
theorem dX0_feed_20 : decode cX0_feed 20 = .ok (.if_icmp .le 6, 3) := dk_164 0 6 (dk_at dksX0_feed_0 20 rfl rfl)
theorem dX0_feed_23 : decode cX0_feed 23 = .ok (.bipush (-4), 2) := dk_16 252 (dk_at dksX0_feed_1 0 rfl rfl)
theorem dX0_feed_25 : decode cX0_feed 25 = .ok (.ireturn, 1) := dk_172 (dk_at dksX0_feed_1 2 rfl rfl)
theorem dX0_feed_26 : decode cX0_feed 26 = .ok (.iload_n 2, 1) := dk_28 (dk_at dksX0_feed_1 3 rfl rfl)
theorem dX0_feed_27 : decode cX0_feed 27 = .ok (.iconst 1, 1) := dk_4 (dk_at dksX0_feed_1 4 rfl rfl)
theorem dX0_feed_28 : decode cX0_feed 28 = .ok (.isub, 1) := dk_100 (dk_at dksX0_feed_1 5 rfl rfl)
theorem dX0_feed_29 : decode cX0_feed 29 = .ok (.istore_n 3, 1) := dk_62 (dk_at dksX0_feed_1 6 rfl rfl)
theorem dX0_feed_30 : decode cX0_feed 30 = .ok (.iload_n 3, 1) := dk_29 (dk_at dksX0_feed_1 7 rfl rfl)
theorem dX0_feed_31 : decode cX0_feed 31 = .ok (.ifCond .lt 32, 3) := dk_155 0 32 (dk_at dksX0_feed_1 8 rfl rfl)
theorem dX0_feed_34 : decode cX0_feed 34 = .ok (.aload_n 0, 1) := dk_42 (dk_at dksX0_feed_1 11 rfl rfl)
theorem dX0_feed_35 : decode cX0_feed 35 = .ok (.getfield 40, 3) := dk_180 0 40 (dk_at dksX0_feed_1 12 rfl rfl)
theorem dX0_feed_38 : decode cX0_feed 38 = .ok (.aload_n 0, 1) := dk_42 (dk_at dksX0_feed_1 15 rfl rfl)
theorem dX0_feed_39 : decode cX0_feed 39 = .ok (.dup, 1) := dk_89 (dk_at dksX0_feed_1 16 rfl rfl)
theorem dX0_feed_40 : decode cX0_feed 40 = .ok (.getfield 229, 3) := dk_180 0 229 (dk_at dksX0_feed_1 17 rfl rfl)
theorem dX0_feed_43 : decode cX0_feed 43 = .ok (.dup_x1, 1) := dk_90 (dk_at dksX0_feed_1 20 rfl rfl)
theorem dX0_feed_44 : decode cX0_feed 44 = .ok (.iconst 1, 1) := dk_4 (dk_at dksX0_feed_1 21 rfl rfl)
theorem dX0_feed_45 : decode cX0_feed 45 = .ok (.iadd, 1) := dk_96 (dk_at dksX0_feed_1 22 rfl rfl)
theorem dX0_feed_46 : decode cX0_feed 46 = .ok (.putfield 229, 3) := dk_181 0 229 (dk_at dksX0_feed_2 0 rfl rfl)
theorem dX0_feed_49 : decode cX0_feed 49 = .ok (.iload_n 1, 1) := dk_27 (dk_at dksX0_feed_2 3 rfl rfl)
theorem dX0_feed_50 : decode cX0_feed 50 = .ok (.bipush 8, 2) := dk_16 8 (dk_at dksX0_feed_2 4 rfl rfl)
theorem dX0_feed_52 : decode cX0_feed 52 = .ok (.iload_n 3, 1) := dk_29 (dk_at dksX0_feed_2 6 rfl rfl)
theorem dX0_feed_53 : decode cX0_feed 53 = .ok (.imul, 1) := dk_104 (dk_at dksX0_feed_2 7 rfl rfl)
theorem dX0_feed_54 : decode cX0_feed 54 = .ok (.ishr, 1) := dk_122 (dk_at dksX0_feed_2 8 rfl rfl)
theorem dX0_feed_55 : decode cX0_feed 55 = .ok (.i2b, 1) := dk_145 (dk_at dksX0_feed_2 9 rfl rfl)
theorem dX0_feed_56 : decode cX0_feed 56 = .ok (.bastore, 1) := dk_84 (dk_at dksX0_feed_2 10 rfl rfl)
theorem dX0_feed_57 : decode cX0_feed 57 = .ok (.iinc 3 (-1), 3) := dk_132 3 255 (dk_at dksX0_feed_2 11 rfl rfl)
theorem dX0_feed_60 : decode cX0_feed 60 = .ok (.goto (-30), 3) := dk_167 255 226 (dk_at dksX0_feed_2 14 rfl rfl)
theorem dX0_feed_63 : decode cX0_feed 63 = .ok (.aload_n 0, 1) := dk_42 (dk_at dksX0_feed_2 17 rfl rfl)
theorem dX0_feed_64 : decode cX0_feed 64 = .ok (.getfield 229, 3) := dk_180 0 229 (dk_at dksX0_feed_2 18 rfl rfl)
theorem dX0_feed_67 : decode cX0_feed 67 = .ok (.ireturn, 1) := dk_172 (dk_at dksX0_feed_2 21 rfl rfl)
abbrev cX0_figure : ByteArray := prog_1_method_34_code
def yX0_figure : MethodName := ⟨RX0, "figure", "()I"⟩
def dkwX0_figure_3 : List UInt8 := [180, 0, 93, 90, 4, 96, 181, 0, 93, 172, 77, 16, 246, 44, 180, 0, 246, 100, 172]
abbrev dktX0_figure_3 : List UInt8 := dkwX0_figure_3 ++ []
def dkwX0_figure_2 : List UInt8 := [44, 180, 0, 241, 153, 0, 6, 16, 254, 172, 42, 180, 0, 36, 42, 180, 0, 93, 44, 83, 42, 89]
abbrev dktX0_figure_2 : List UInt8 := dkwX0_figure_2 ++ dktX0_figure_3
def dkwX0_figure_1 : List UInt8 := [187, 0, 232, 89, 42, 180, 0, 40, 27, 42, 180, 0, 36, 42, 180, 0, 93, 183, 0, 234, 182, 0, 237, 77]
abbrev dktX0_figure_1 : List UInt8 := dkwX0_figure_1 ++ dktX0_figure_2
def dkwX0_figure_0 : List UInt8 := [42, 180, 0, 93, 16, 10, 160, 0, 6, 16, 252, 172, 42, 180, 0, 229, 60, 42, 3, 181, 0, 229]
abbrev dktX0_figure_0 : List UInt8 := dkwX0_figure_0 ++ dktX0_figure_1
theorem dksX0_figure_0 : cX0_figure.data.toList.drop 0 = dktX0_figure_0 := by decide +kernel
theorem dksX0_figure_1 : cX0_figure.data.toList.drop 22 = dktX0_figure_1 := dk_seg dksX0_figure_0 22 rfl rfl
theorem dksX0_figure_2 : cX0_figure.data.toList.drop 46 = dktX0_figure_2 := dk_seg dksX0_figure_1 24 rfl rfl
theorem dksX0_figure_3 : cX0_figure.data.toList.drop 68 = dktX0_figure_3 := dk_seg dksX0_figure_2 22 rfl rfl
theorem dX0_figure_0 : decode cX0_figure 0 = .ok (.aload_n 0, 1) := dk_42 (dk_at dksX0_figure_0 0 rfl rfl)
theorem dX0_figure_1 : decode cX0_figure 1 = .ok (.getfield 93, 3) := dk_180 0 93 (dk_at dksX0_figure_0 1 rfl rfl)
theorem dX0_figure_4 : decode cX0_figure 4 = .ok (.bipush 10, 2) := dk_16 10 (dk_at dksX0_figure_0 4 rfl rfl)
theorem dX0_figure_6 : decode cX0_figure 6 = .ok (.if_icmp .ne 6, 3) := dk_160 0 6 (dk_at dksX0_figure_0 6 rfl rfl)
theorem dX0_figure_9 : decode cX0_figure 9 = .ok (.bipush (-4), 2) := dk_16 252 (dk_at dksX0_figure_0 9 rfl rfl)
theorem dX0_figure_11 : decode cX0_figure 11 = .ok (.ireturn, 1) := dk_172 (dk_at dksX0_figure_0 11 rfl rfl)
theorem dX0_figure_12 : decode cX0_figure 12 = .ok (.aload_n 0, 1) := dk_42 (dk_at dksX0_figure_0 12 rfl rfl)
theorem dX0_figure_13 : decode cX0_figure 13 = .ok (.getfield 229, 3) := dk_180 0 229 (dk_at dksX0_figure_0 13 rfl rfl)
theorem dX0_figure_16 : decode cX0_figure 16 = .ok (.istore_n 1, 1) := dk_60 (dk_at dksX0_figure_0 16 rfl rfl)
theorem dX0_figure_17 : decode cX0_figure 17 = .ok (.aload_n 0, 1) := dk_42 (dk_at dksX0_figure_0 17 rfl rfl)
theorem dX0_figure_18 : decode cX0_figure 18 = .ok (.iconst 0, 1) := dk_3 (dk_at dksX0_figure_0 18 rfl rfl)
theorem dX0_figure_19 : decode cX0_figure 19 = .ok (.putfield 229, 3) := dk_181 0 229 (dk_at dksX0_figure_0 19 rfl rfl)
theorem dX0_figure_22 : decode cX0_figure 22 = .ok (.new 232, 3) := dk_187 0 232 (dk_at dksX0_figure_1 0 rfl rfl)
theorem dX0_figure_25 : decode cX0_figure 25 = .ok (.dup, 1) := dk_89 (dk_at dksX0_figure_1 3 rfl rfl)
theorem dX0_figure_26 : decode cX0_figure 26 = .ok (.aload_n 0, 1) := dk_42 (dk_at dksX0_figure_1 4 rfl rfl)
theorem dX0_figure_27 : decode cX0_figure 27 = .ok (.getfield 40, 3) := dk_180 0 40 (dk_at dksX0_figure_1 5 rfl rfl)
theorem dX0_figure_30 : decode cX0_figure 30 = .ok (.iload_n 1, 1) := dk_27 (dk_at dksX0_figure_1 8 rfl rfl)
theorem dX0_figure_31 : decode cX0_figure 31 = .ok (.aload_n 0, 1) := dk_42 (dk_at dksX0_figure_1 9 rfl rfl)
theorem dX0_figure_32 : decode cX0_figure 32 = .ok (.getfield 36, 3) := dk_180 0 36 (dk_at dksX0_figure_1 10 rfl rfl)
theorem dX0_figure_35 : decode cX0_figure 35 = .ok (.aload_n 0, 1) := dk_42 (dk_at dksX0_figure_1 13 rfl rfl)
theorem dX0_figure_36 : decode cX0_figure 36 = .ok (.getfield 93, 3) := dk_180 0 93 (dk_at dksX0_figure_1 14 rfl rfl)
theorem dX0_figure_39 : decode cX0_figure 39 = .ok (.invokespecial 234, 3) := dk_183 0 234 (dk_at dksX0_figure_1 17 rfl rfl)
theorem dX0_figure_42 : decode cX0_figure 42 = .ok (.invokevirtual 237, 3) := dk_182 0 237 (dk_at dksX0_figure_1 20 rfl rfl)
theorem dX0_figure_45 : decode cX0_figure 45 = .ok (.astore_n 2, 1) := dk_77 (dk_at dksX0_figure_1 23 rfl rfl)
theorem dX0_figure_46 : decode cX0_figure 46 = .ok (.aload_n 2, 1) := dk_44 (dk_at dksX0_figure_2 0 rfl rfl)
theorem dX0_figure_47 : decode cX0_figure 47 = .ok (.getfield 241, 3) := dk_180 0 241 (dk_at dksX0_figure_2 1 rfl rfl)
theorem dX0_figure_50 : decode cX0_figure 50 = .ok (.ifCond .eq 6, 3) := dk_153 0 6 (dk_at dksX0_figure_2 4 rfl rfl)
theorem dX0_figure_53 : decode cX0_figure 53 = .ok (.bipush (-2), 2) := dk_16 254 (dk_at dksX0_figure_2 7 rfl rfl)
theorem dX0_figure_55 : decode cX0_figure 55 = .ok (.ireturn, 1) := dk_172 (dk_at dksX0_figure_2 9 rfl rfl)
theorem dX0_figure_56 : decode cX0_figure 56 = .ok (.aload_n 0, 1) := dk_42 (dk_at dksX0_figure_2 10 rfl rfl)
theorem dX0_figure_57 : decode cX0_figure 57 = .ok (.getfield 36, 3) := dk_180 0 36 (dk_at dksX0_figure_2 11 rfl rfl)
theorem dX0_figure_60 : decode cX0_figure 60 = .ok (.aload_n 0, 1) := dk_42 (dk_at dksX0_figure_2 14 rfl rfl)
theorem dX0_figure_61 : decode cX0_figure 61 = .ok (.getfield 93, 3) := dk_180 0 93 (dk_at dksX0_figure_2 15 rfl rfl)
theorem dX0_figure_64 : decode cX0_figure 64 = .ok (.aload_n 2, 1) := dk_44 (dk_at dksX0_figure_2 18 rfl rfl)
theorem dX0_figure_65 : decode cX0_figure 65 = .ok (.aastore, 1) := dk_83 (dk_at dksX0_figure_2 19 rfl rfl)
theorem dX0_figure_66 : decode cX0_figure 66 = .ok (.aload_n 0, 1) := dk_42 (dk_at dksX0_figure_2 20 rfl rfl)
theorem dX0_figure_67 : decode cX0_figure 67 = .ok (.dup, 1) := dk_89 (dk_at dksX0_figure_2 21 rfl rfl)
theorem dX0_figure_68 : decode cX0_figure 68 = .ok (.getfield 93, 3) := dk_180 0 93 (dk_at dksX0_figure_3 0 rfl rfl)
theorem dX0_figure_71 : decode cX0_figure 71 = .ok (.dup_x1, 1) := dk_90 (dk_at dksX0_figure_3 3 rfl rfl)
theorem dX0_figure_72 : decode cX0_figure 72 = .ok (.iconst 1, 1) := dk_4 (dk_at dksX0_figure_3 4 rfl rfl)
theorem dX0_figure_73 : decode cX0_figure 73 = .ok (.iadd, 1) := dk_96 (dk_at dksX0_figure_3 5 rfl rfl)
theorem dX0_figure_74 : decode cX0_figure 74 = .ok (.putfield 93, 3) := dk_181 0 93 (dk_at dksX0_figure_3 6 rfl rfl)
theorem dX0_figure_77 : decode cX0_figure 77 = .ok (.ireturn, 1) := dk_172 (dk_at dksX0_figure_3 9 rfl rfl)
theorem dX0_figure_78 : decode cX0_figure 78 = .ok (.astore_n 2, 1) := dk_77 (dk_at dksX0_figure_3 10 rfl rfl)
theorem dX0_figure_79 : decode cX0_figure 79 = .ok (.bipush (-10), 2) := dk_16 246 (dk_at dksX0_figure_3 11 rfl rfl)
theorem dX0_figure_81 : decode cX0_figure 81 = .ok (.aload_n 2, 1) := dk_44 (dk_at dksX0_figure_3 13 rfl rfl)
theorem dX0_figure_82 : decode cX0_figure 82 = .ok (.getfield 246, 3) := dk_180 0 246 (dk_at dksX0_figure_3 14 rfl rfl)
theorem dX0_figure_85 : decode cX0_figure 85 = .ok (.isub, 1) := dk_100 (dk_at dksX0_figure_3 17 rfl rfl)
theorem dX0_figure_86 : decode cX0_figure 86 = .ok (.ireturn, 1) := dk_172 (dk_at dksX0_figure_3 18 rfl rfl)
abbrev cX0_undoing : ByteArray := prog_1_method_2_code
def yX0_undoing : MethodName := ⟨RX0, "undoing", "(I)I"⟩
def dkwX0_undoing_0 : List UInt8 := [26, 16, 100, 162, 0, 9, 26, 4, 130, 167, 0, 8, 17, 0, 201, 26, 100, 172]
abbrev dktX0_undoing_0 : List UInt8 := dkwX0_undoing_0 ++ []
theorem dksX0_undoing_0 : cX0_undoing.data.toList.drop 0 = dktX0_undoing_0 := by decide +kernel
theorem dX0_undoing_0 : decode cX0_undoing 0 = .ok (.iload_n 0, 1) := dk_26 (dk_at dksX0_undoing_0 0 rfl rfl)
theorem dX0_undoing_1 : decode cX0_undoing 1 = .ok (.bipush 100, 2) := dk_16 100 (dk_at dksX0_undoing_0 1 rfl rfl)
theorem dX0_undoing_3 : decode cX0_undoing 3 = .ok (.if_icmp .ge 9, 3) := dk_162 0 9 (dk_at dksX0_undoing_0 3 rfl rfl)
theorem dX0_undoing_6 : decode cX0_undoing 6 = .ok (.iload_n 0, 1) := dk_26 (dk_at dksX0_undoing_0 6 rfl rfl)
theorem dX0_undoing_7 : decode cX0_undoing 7 = .ok (.iconst 1, 1) := dk_4 (dk_at dksX0_undoing_0 7 rfl rfl)
theorem dX0_undoing_8 : decode cX0_undoing 8 = .ok (.ixor, 1) := dk_130 (dk_at dksX0_undoing_0 8 rfl rfl)
theorem dX0_undoing_9 : decode cX0_undoing 9 = .ok (.goto 8, 3) := dk_167 0 8 (dk_at dksX0_undoing_0 9 rfl rfl)
theorem dX0_undoing_12 : decode cX0_undoing 12 = .ok (.sipush 201, 3) := dk_17 0 201 (dk_at dksX0_undoing_0 12 rfl rfl)
theorem dX0_undoing_15 : decode cX0_undoing 15 = .ok (.iload_n 0, 1) := dk_26 (dk_at dksX0_undoing_0 15 rfl rfl)
theorem dX0_undoing_16 : decode cX0_undoing 16 = .ok (.isub, 1) := dk_100 (dk_at dksX0_undoing_0 16 rfl rfl)
theorem dX0_undoing_17 : decode cX0_undoing 17 = .ok (.ireturn, 1) := dk_172 (dk_at dksX0_undoing_0 17 rfl rfl)
abbrev cX0_told : ByteArray := prog_1_method_35_code
def yX0_told : MethodName := ⟨RX0, "told", "(II)I"⟩
def dkwX0_told_2 : List UInt8 := [28, 46, 167, 0, 4, 2, 172]
abbrev dktX0_told_2 : List UInt8 := dkwX0_told_2 ++ []
def dkwX0_told_1 : List UInt8 := [180, 0, 213, 167, 0, 27, 28, 3, 45, 180, 0, 213, 4, 100, 184, 0, 86, 153, 0, 12, 45, 180, 0, 211]
abbrev dktX0_told_1 : List UInt8 := dkwX0_told_1 ++ dktX0_told_2
def dkwX0_told_0 : List UInt8 := [42, 27, 182, 0, 249, 154, 0, 5, 2, 172, 42, 180, 0, 36, 27, 50, 78, 28, 2, 160, 0, 10, 45]
abbrev dktX0_told_0 : List UInt8 := dkwX0_told_0 ++ dktX0_told_1
theorem dksX0_told_0 : cX0_told.data.toList.drop 0 = dktX0_told_0 := by decide +kernel
theorem dksX0_told_1 : cX0_told.data.toList.drop 23 = dktX0_told_1 := dk_seg dksX0_told_0 23 rfl rfl
theorem dksX0_told_2 : cX0_told.data.toList.drop 47 = dktX0_told_2 := dk_seg dksX0_told_1 24 rfl rfl
theorem dX0_told_0 : decode cX0_told 0 = .ok (.aload_n 0, 1) := dk_42 (dk_at dksX0_told_0 0 rfl rfl)
theorem dX0_told_1 : decode cX0_told 1 = .ok (.iload_n 1, 1) := dk_27 (dk_at dksX0_told_0 1 rfl rfl)
theorem dX0_told_2 : decode cX0_told 2 = .ok (.invokevirtual 249, 3) := dk_182 0 249 (dk_at dksX0_told_0 2 rfl rfl)
theorem dX0_told_5 : decode cX0_told 5 = .ok (.ifCond .ne 5, 3) := dk_154 0 5 (dk_at dksX0_told_0 5 rfl rfl)
theorem dX0_told_8 : decode cX0_told 8 = .ok (.iconst (-1), 1) := dk_2 (dk_at dksX0_told_0 8 rfl rfl)
theorem dX0_told_9 : decode cX0_told 9 = .ok (.ireturn, 1) := dk_172 (dk_at dksX0_told_0 9 rfl rfl)
theorem dX0_told_10 : decode cX0_told 10 = .ok (.aload_n 0, 1) := dk_42 (dk_at dksX0_told_0 10 rfl rfl)
theorem dX0_told_11 : decode cX0_told 11 = .ok (.getfield 36, 3) := dk_180 0 36 (dk_at dksX0_told_0 11 rfl rfl)
theorem dX0_told_14 : decode cX0_told 14 = .ok (.iload_n 1, 1) := dk_27 (dk_at dksX0_told_0 14 rfl rfl)
theorem dX0_told_15 : decode cX0_told 15 = .ok (.aaload, 1) := dk_50 (dk_at dksX0_told_0 15 rfl rfl)
theorem dX0_told_16 : decode cX0_told 16 = .ok (.astore_n 3, 1) := dk_78 (dk_at dksX0_told_0 16 rfl rfl)
theorem dX0_told_17 : decode cX0_told 17 = .ok (.iload_n 2, 1) := dk_28 (dk_at dksX0_told_0 17 rfl rfl)
theorem dX0_told_18 : decode cX0_told 18 = .ok (.iconst (-1), 1) := dk_2 (dk_at dksX0_told_0 18 rfl rfl)
theorem dX0_told_19 : decode cX0_told 19 = .ok (.if_icmp .ne 10, 3) := dk_160 0 10 (dk_at dksX0_told_0 19 rfl rfl)
theorem dX0_told_22 : decode cX0_told 22 = .ok (.aload_n 3, 1) := dk_45 (dk_at dksX0_told_0 22 rfl rfl)
theorem dX0_told_23 : decode cX0_told 23 = .ok (.getfield 213, 3) := dk_180 0 213 (dk_at dksX0_told_1 0 rfl rfl)
theorem dX0_told_26 : decode cX0_told 26 = .ok (.goto 27, 3) := dk_167 0 27 (dk_at dksX0_told_1 3 rfl rfl)
theorem dX0_told_29 : decode cX0_told 29 = .ok (.iload_n 2, 1) := dk_28 (dk_at dksX0_told_1 6 rfl rfl)
theorem dX0_told_30 : decode cX0_told 30 = .ok (.iconst 0, 1) := dk_3 (dk_at dksX0_told_1 7 rfl rfl)
theorem dX0_told_31 : decode cX0_told 31 = .ok (.aload_n 3, 1) := dk_45 (dk_at dksX0_told_1 8 rfl rfl)
theorem dX0_told_32 : decode cX0_told 32 = .ok (.getfield 213, 3) := dk_180 0 213 (dk_at dksX0_told_1 9 rfl rfl)
theorem dX0_told_35 : decode cX0_told 35 = .ok (.iconst 1, 1) := dk_4 (dk_at dksX0_told_1 12 rfl rfl)
theorem dX0_told_36 : decode cX0_told 36 = .ok (.isub, 1) := dk_100 (dk_at dksX0_told_1 13 rfl rfl)
theorem dX0_told_37 : decode cX0_told 37 = .ok (.invokestatic 86, 3) := dk_184 0 86 (dk_at dksX0_told_1 14 rfl rfl)
theorem dX0_told_40 : decode cX0_told 40 = .ok (.ifCond .eq 12, 3) := dk_153 0 12 (dk_at dksX0_told_1 17 rfl rfl)
theorem dX0_told_43 : decode cX0_told 43 = .ok (.aload_n 3, 1) := dk_45 (dk_at dksX0_told_1 20 rfl rfl)
theorem dX0_told_44 : decode cX0_told 44 = .ok (.getfield 211, 3) := dk_180 0 211 (dk_at dksX0_told_1 21 rfl rfl)
theorem dX0_told_47 : decode cX0_told 47 = .ok (.iload_n 2, 1) := dk_28 (dk_at dksX0_told_2 0 rfl rfl)
theorem dX0_told_48 : decode cX0_told 48 = .ok (.iaload, 1) := dk_46 (dk_at dksX0_told_2 1 rfl rfl)
theorem dX0_told_49 : decode cX0_told 49 = .ok (.goto 4, 3) := dk_167 0 4 (dk_at dksX0_told_2 2 rfl rfl)
theorem dX0_told_52 : decode cX0_told 52 = .ok (.iconst (-1), 1) := dk_2 (dk_at dksX0_told_2 5 rfl rfl)
theorem dX0_told_53 : decode cX0_told 53 = .ok (.ireturn, 1) := dk_172 (dk_at dksX0_told_2 6 rfl rfl)
abbrev cX0_isFigure : ByteArray := prog_1_method_6_code
def yX0_isFigure : MethodName := ⟨RX0, "isFigure", "(I)Z"⟩
def dkwX0_isFigure_0 : List UInt8 := [27, 3, 42, 180, 0, 93, 4, 100, 184, 0, 86, 172]
abbrev dktX0_isFigure_0 : List UInt8 := dkwX0_isFigure_0 ++ []
theorem dksX0_isFigure_0 : cX0_isFigure.data.toList.drop 0 = dktX0_isFigure_0 := by decide +kernel
theorem dX0_isFigure_0 : decode cX0_isFigure 0 = .ok (.iload_n 1, 1) := dk_27 (dk_at dksX0_isFigure_0 0 rfl rfl)
theorem dX0_isFigure_1 : decode cX0_isFigure 1 = .ok (.iconst 0, 1) := dk_3 (dk_at dksX0_isFigure_0 1 rfl rfl)
theorem dX0_isFigure_2 : decode cX0_isFigure 2 = .ok (.aload_n 0, 1) := dk_42 (dk_at dksX0_isFigure_0 2 rfl rfl)
theorem dX0_isFigure_3 : decode cX0_isFigure 3 = .ok (.getfield 93, 3) := dk_180 0 93 (dk_at dksX0_isFigure_0 3 rfl rfl)
theorem dX0_isFigure_6 : decode cX0_isFigure 6 = .ok (.iconst 1, 1) := dk_4 (dk_at dksX0_isFigure_0 6 rfl rfl)
theorem dX0_isFigure_7 : decode cX0_isFigure 7 = .ok (.isub, 1) := dk_100 (dk_at dksX0_isFigure_0 7 rfl rfl)
theorem dX0_isFigure_8 : decode cX0_isFigure 8 = .ok (.invokestatic 86, 3) := dk_184 0 86 (dk_at dksX0_isFigure_0 8 rfl rfl)
theorem dX0_isFigure_11 : decode cX0_isFigure 11 = .ok (.ireturn, 1) := dk_172 (dk_at dksX0_isFigure_0 11 rfl rfl)
abbrev cX0_dance : ByteArray := prog_1_method_36_code
def yX0_dance : MethodName := ⟨RX0, "dance", "(I)I"⟩
def dkwX0_dance_3 : List UInt8 := [182, 0, 170, 158, 0, 9, 132, 3, 1, 167, 255, 205, 29, 172]
abbrev dktX0_dance_3 : List UInt8 := dkwX0_dance_3 ++ []
def dkwX0_dance_2 : List UInt8 := [44, 180, 0, 211, 29, 46, 16, 10, 108, 42, 180, 0, 90, 162, 0, 22, 42, 44, 180, 0, 211, 29, 46]
abbrev dktX0_dance_2 : List UInt8 := dkwX0_dance_2 ++ dktX0_dance_3
def dkwX0_dance_1 : List UInt8 := [27, 50, 77, 3, 62, 29, 44, 180, 0, 213, 162, 0, 49, 44, 180, 0, 211, 29, 46, 16, 100, 162, 0, 19]
abbrev dktX0_dance_1 : List UInt8 := dkwX0_dance_1 ++ dktX0_dance_2
def dkwX0_dance_0 : List UInt8 := [42, 27, 182, 0, 249, 154, 0, 5, 2, 172, 42, 180, 0, 115, 154, 0, 6, 16, 253, 172, 42, 180, 0, 36]
abbrev dktX0_dance_0 : List UInt8 := dkwX0_dance_0 ++ dktX0_dance_1
theorem dksX0_dance_0 : cX0_dance.data.toList.drop 0 = dktX0_dance_0 := by decide +kernel
theorem dksX0_dance_1 : cX0_dance.data.toList.drop 24 = dktX0_dance_1 := dk_seg dksX0_dance_0 24 rfl rfl
theorem dksX0_dance_2 : cX0_dance.data.toList.drop 48 = dktX0_dance_2 := dk_seg dksX0_dance_1 24 rfl rfl
theorem dksX0_dance_3 : cX0_dance.data.toList.drop 71 = dktX0_dance_3 := dk_seg dksX0_dance_2 23 rfl rfl
theorem dX0_dance_0 : decode cX0_dance 0 = .ok (.aload_n 0, 1) := dk_42 (dk_at dksX0_dance_0 0 rfl rfl)
theorem dX0_dance_1 : decode cX0_dance 1 = .ok (.iload_n 1, 1) := dk_27 (dk_at dksX0_dance_0 1 rfl rfl)
theorem dX0_dance_2 : decode cX0_dance 2 = .ok (.invokevirtual 249, 3) := dk_182 0 249 (dk_at dksX0_dance_0 2 rfl rfl)
theorem dX0_dance_5 : decode cX0_dance 5 = .ok (.ifCond .ne 5, 3) := dk_154 0 5 (dk_at dksX0_dance_0 5 rfl rfl)
theorem dX0_dance_8 : decode cX0_dance 8 = .ok (.iconst (-1), 1) := dk_2 (dk_at dksX0_dance_0 8 rfl rfl)
theorem dX0_dance_9 : decode cX0_dance 9 = .ok (.ireturn, 1) := dk_172 (dk_at dksX0_dance_0 9 rfl rfl)
theorem dX0_dance_10 : decode cX0_dance 10 = .ok (.aload_n 0, 1) := dk_42 (dk_at dksX0_dance_0 10 rfl rfl)
theorem dX0_dance_11 : decode cX0_dance 11 = .ok (.getfield 115, 3) := dk_180 0 115 (dk_at dksX0_dance_0 11 rfl rfl)
theorem dX0_dance_14 : decode cX0_dance 14 = .ok (.ifCond .ne 6, 3) := dk_154 0 6 (dk_at dksX0_dance_0 14 rfl rfl)
theorem dX0_dance_17 : decode cX0_dance 17 = .ok (.bipush (-3), 2) := dk_16 253 (dk_at dksX0_dance_0 17 rfl rfl)
theorem dX0_dance_19 : decode cX0_dance 19 = .ok (.ireturn, 1) := dk_172 (dk_at dksX0_dance_0 19 rfl rfl)
theorem dX0_dance_20 : decode cX0_dance 20 = .ok (.aload_n 0, 1) := dk_42 (dk_at dksX0_dance_0 20 rfl rfl)
theorem dX0_dance_21 : decode cX0_dance 21 = .ok (.getfield 36, 3) := dk_180 0 36 (dk_at dksX0_dance_0 21 rfl rfl)
theorem dX0_dance_24 : decode cX0_dance 24 = .ok (.iload_n 1, 1) := dk_27 (dk_at dksX0_dance_1 0 rfl rfl)
theorem dX0_dance_25 : decode cX0_dance 25 = .ok (.aaload, 1) := dk_50 (dk_at dksX0_dance_1 1 rfl rfl)
theorem dX0_dance_26 : decode cX0_dance 26 = .ok (.astore_n 2, 1) := dk_77 (dk_at dksX0_dance_1 2 rfl rfl)
theorem dX0_dance_27 : decode cX0_dance 27 = .ok (.iconst 0, 1) := dk_3 (dk_at dksX0_dance_1 3 rfl rfl)
theorem dX0_dance_28 : decode cX0_dance 28 = .ok (.istore_n 3, 1) := dk_62 (dk_at dksX0_dance_1 4 rfl rfl)
theorem dX0_dance_29 : decode cX0_dance 29 = .ok (.iload_n 3, 1) := dk_29 (dk_at dksX0_dance_1 5 rfl rfl)
theorem dX0_dance_30 : decode cX0_dance 30 = .ok (.aload_n 2, 1) := dk_44 (dk_at dksX0_dance_1 6 rfl rfl)
theorem dX0_dance_31 : decode cX0_dance 31 = .ok (.getfield 213, 3) := dk_180 0 213 (dk_at dksX0_dance_1 7 rfl rfl)
theorem dX0_dance_34 : decode cX0_dance 34 = .ok (.if_icmp .ge 49, 3) := dk_162 0 49 (dk_at dksX0_dance_1 10 rfl rfl)
theorem dX0_dance_37 : decode cX0_dance 37 = .ok (.aload_n 2, 1) := dk_44 (dk_at dksX0_dance_1 13 rfl rfl)
theorem dX0_dance_38 : decode cX0_dance 38 = .ok (.getfield 211, 3) := dk_180 0 211 (dk_at dksX0_dance_1 14 rfl rfl)
theorem dX0_dance_41 : decode cX0_dance 41 = .ok (.iload_n 3, 1) := dk_29 (dk_at dksX0_dance_1 17 rfl rfl)
theorem dX0_dance_42 : decode cX0_dance 42 = .ok (.iaload, 1) := dk_46 (dk_at dksX0_dance_1 18 rfl rfl)
theorem dX0_dance_43 : decode cX0_dance 43 = .ok (.bipush 100, 2) := dk_16 100 (dk_at dksX0_dance_1 19 rfl rfl)
theorem dX0_dance_45 : decode cX0_dance 45 = .ok (.if_icmp .ge 19, 3) := dk_162 0 19 (dk_at dksX0_dance_1 21 rfl rfl)
theorem dX0_dance_48 : decode cX0_dance 48 = .ok (.aload_n 2, 1) := dk_44 (dk_at dksX0_dance_2 0 rfl rfl)
theorem dX0_dance_49 : decode cX0_dance 49 = .ok (.getfield 211, 3) := dk_180 0 211 (dk_at dksX0_dance_2 1 rfl rfl)
theorem dX0_dance_52 : decode cX0_dance 52 = .ok (.iload_n 3, 1) := dk_29 (dk_at dksX0_dance_2 4 rfl rfl)
theorem dX0_dance_53 : decode cX0_dance 53 = .ok (.iaload, 1) := dk_46 (dk_at dksX0_dance_2 5 rfl rfl)
theorem dX0_dance_54 : decode cX0_dance 54 = .ok (.bipush 10, 2) := dk_16 10 (dk_at dksX0_dance_2 6 rfl rfl)
theorem dX0_dance_56 : decode cX0_dance 56 = .ok (.idiv, 1) := dk_108 (dk_at dksX0_dance_2 8 rfl rfl)
theorem dX0_dance_57 : decode cX0_dance 57 = .ok (.aload_n 0, 1) := dk_42 (dk_at dksX0_dance_2 9 rfl rfl)
theorem dX0_dance_58 : decode cX0_dance 58 = .ok (.getfield 90, 3) := dk_180 0 90 (dk_at dksX0_dance_2 10 rfl rfl)
theorem dX0_dance_61 : decode cX0_dance 61 = .ok (.if_icmp .ge 22, 3) := dk_162 0 22 (dk_at dksX0_dance_2 13 rfl rfl)
theorem dX0_dance_64 : decode cX0_dance 64 = .ok (.aload_n 0, 1) := dk_42 (dk_at dksX0_dance_2 16 rfl rfl)
theorem dX0_dance_65 : decode cX0_dance 65 = .ok (.aload_n 2, 1) := dk_44 (dk_at dksX0_dance_2 17 rfl rfl)
theorem dX0_dance_66 : decode cX0_dance 66 = .ok (.getfield 211, 3) := dk_180 0 211 (dk_at dksX0_dance_2 18 rfl rfl)
theorem dX0_dance_69 : decode cX0_dance 69 = .ok (.iload_n 3, 1) := dk_29 (dk_at dksX0_dance_2 21 rfl rfl)
theorem dX0_dance_70 : decode cX0_dance 70 = .ok (.iaload, 1) := dk_46 (dk_at dksX0_dance_2 22 rfl rfl)
theorem dX0_dance_71 : decode cX0_dance 71 = .ok (.invokevirtual 170, 3) := dk_182 0 170 (dk_at dksX0_dance_3 0 rfl rfl)
theorem dX0_dance_74 : decode cX0_dance 74 = .ok (.ifCond .le 9, 3) := dk_158 0 9 (dk_at dksX0_dance_3 3 rfl rfl)
theorem dX0_dance_77 : decode cX0_dance 77 = .ok (.iinc 3 1, 3) := dk_132 3 1 (dk_at dksX0_dance_3 6 rfl rfl)
theorem dX0_dance_80 : decode cX0_dance 80 = .ok (.goto (-51), 3) := dk_167 255 205 (dk_at dksX0_dance_3 9 rfl rfl)
theorem dX0_dance_83 : decode cX0_dance 83 = .ok (.iload_n 3, 1) := dk_29 (dk_at dksX0_dance_3 12 rfl rfl)
theorem dX0_dance_84 : decode cX0_dance 84 = .ok (.ireturn, 1) := dk_172 (dk_at dksX0_dance_3 13 rfl rfl)
abbrev cX0_right : ByteArray := prog_1_method_38_code
def yX0_right : MethodName := ⟨RX0, "right", "(I)I"⟩
def dkwX0_right_2 : List UInt8 := [4, 167, 0, 4, 3, 172]
abbrev dktX0_right_2 : List UInt8 := dkwX0_right_2 ++ []
def dkwX0_right_1 : List UInt8 := [27, 50, 77, 44, 42, 180, 0, 90, 182, 0, 208, 153, 0, 17, 42, 44, 2, 3, 182, 1, 3, 153, 0, 7]
abbrev dktX0_right_1 : List UInt8 := dkwX0_right_1 ++ dktX0_right_2
def dkwX0_right_0 : List UInt8 := [42, 27, 182, 0, 249, 154, 0, 5, 2, 172, 42, 180, 0, 115, 154, 0, 6, 16, 253, 172, 42, 180, 0, 36]
abbrev dktX0_right_0 : List UInt8 := dkwX0_right_0 ++ dktX0_right_1
theorem dksX0_right_0 : cX0_right.data.toList.drop 0 = dktX0_right_0 := by decide +kernel
theorem dksX0_right_1 : cX0_right.data.toList.drop 24 = dktX0_right_1 := dk_seg dksX0_right_0 24 rfl rfl
theorem dksX0_right_2 : cX0_right.data.toList.drop 48 = dktX0_right_2 := dk_seg dksX0_right_1 24 rfl rfl
theorem dX0_right_0 : decode cX0_right 0 = .ok (.aload_n 0, 1) := dk_42 (dk_at dksX0_right_0 0 rfl rfl)
theorem dX0_right_1 : decode cX0_right 1 = .ok (.iload_n 1, 1) := dk_27 (dk_at dksX0_right_0 1 rfl rfl)
theorem dX0_right_2 : decode cX0_right 2 = .ok (.invokevirtual 249, 3) := dk_182 0 249 (dk_at dksX0_right_0 2 rfl rfl)
theorem dX0_right_5 : decode cX0_right 5 = .ok (.ifCond .ne 5, 3) := dk_154 0 5 (dk_at dksX0_right_0 5 rfl rfl)
theorem dX0_right_8 : decode cX0_right 8 = .ok (.iconst (-1), 1) := dk_2 (dk_at dksX0_right_0 8 rfl rfl)
theorem dX0_right_9 : decode cX0_right 9 = .ok (.ireturn, 1) := dk_172 (dk_at dksX0_right_0 9 rfl rfl)
theorem dX0_right_10 : decode cX0_right 10 = .ok (.aload_n 0, 1) := dk_42 (dk_at dksX0_right_0 10 rfl rfl)
theorem dX0_right_11 : decode cX0_right 11 = .ok (.getfield 115, 3) := dk_180 0 115 (dk_at dksX0_right_0 11 rfl rfl)
theorem dX0_right_14 : decode cX0_right 14 = .ok (.ifCond .ne 6, 3) := dk_154 0 6 (dk_at dksX0_right_0 14 rfl rfl)
theorem dX0_right_17 : decode cX0_right 17 = .ok (.bipush (-3), 2) := dk_16 253 (dk_at dksX0_right_0 17 rfl rfl)
theorem dX0_right_19 : decode cX0_right 19 = .ok (.ireturn, 1) := dk_172 (dk_at dksX0_right_0 19 rfl rfl)
theorem dX0_right_20 : decode cX0_right 20 = .ok (.aload_n 0, 1) := dk_42 (dk_at dksX0_right_0 20 rfl rfl)
theorem dX0_right_21 : decode cX0_right 21 = .ok (.getfield 36, 3) := dk_180 0 36 (dk_at dksX0_right_0 21 rfl rfl)
theorem dX0_right_24 : decode cX0_right 24 = .ok (.iload_n 1, 1) := dk_27 (dk_at dksX0_right_1 0 rfl rfl)
theorem dX0_right_25 : decode cX0_right 25 = .ok (.aaload, 1) := dk_50 (dk_at dksX0_right_1 1 rfl rfl)
theorem dX0_right_26 : decode cX0_right 26 = .ok (.astore_n 2, 1) := dk_77 (dk_at dksX0_right_1 2 rfl rfl)
theorem dX0_right_27 : decode cX0_right 27 = .ok (.aload_n 2, 1) := dk_44 (dk_at dksX0_right_1 3 rfl rfl)
theorem dX0_right_28 : decode cX0_right 28 = .ok (.aload_n 0, 1) := dk_42 (dk_at dksX0_right_1 4 rfl rfl)
theorem dX0_right_29 : decode cX0_right 29 = .ok (.getfield 90, 3) := dk_180 0 90 (dk_at dksX0_right_1 5 rfl rfl)
theorem dX0_right_32 : decode cX0_right 32 = .ok (.invokevirtual 208, 3) := dk_182 0 208 (dk_at dksX0_right_1 8 rfl rfl)
theorem dX0_right_35 : decode cX0_right 35 = .ok (.ifCond .eq 17, 3) := dk_153 0 17 (dk_at dksX0_right_1 11 rfl rfl)
theorem dX0_right_38 : decode cX0_right 38 = .ok (.aload_n 0, 1) := dk_42 (dk_at dksX0_right_1 14 rfl rfl)
theorem dX0_right_39 : decode cX0_right 39 = .ok (.aload_n 2, 1) := dk_44 (dk_at dksX0_right_1 15 rfl rfl)
theorem dX0_right_40 : decode cX0_right 40 = .ok (.iconst (-1), 1) := dk_2 (dk_at dksX0_right_1 16 rfl rfl)
theorem dX0_right_41 : decode cX0_right 41 = .ok (.iconst 0, 1) := dk_3 (dk_at dksX0_right_1 17 rfl rfl)
theorem dX0_right_42 : decode cX0_right 42 = .ok (.invokevirtual 259, 3) := dk_182 1 3 (dk_at dksX0_right_1 18 rfl rfl)
theorem dX0_right_45 : decode cX0_right 45 = .ok (.ifCond .eq 7, 3) := dk_153 0 7 (dk_at dksX0_right_1 21 rfl rfl)
theorem dX0_right_48 : decode cX0_right 48 = .ok (.iconst 1, 1) := dk_4 (dk_at dksX0_right_2 0 rfl rfl)
theorem dX0_right_49 : decode cX0_right 49 = .ok (.goto 4, 3) := dk_167 0 4 (dk_at dksX0_right_2 1 rfl rfl)
theorem dX0_right_52 : decode cX0_right 52 = .ok (.iconst 0, 1) := dk_3 (dk_at dksX0_right_2 4 rfl rfl)
theorem dX0_right_53 : decode cX0_right 53 = .ok (.ireturn, 1) := dk_172 (dk_at dksX0_right_2 5 rfl rfl)
abbrev cX0_gives : ByteArray := prog_1_method_37_code
def yX0_gives : MethodName := ⟨RX0, "gives", "(LMaypoleGreen$Figure;II)Z"⟩
def dkwX0_gives_5 : List UInt8 := [42, 180, 0, 119, 182, 0, 255, 172]
abbrev dktX0_gives_5 : List UInt8 := dkwX0_gives_5 ++ []
def dkwX0_gives_4 : List UInt8 := [180, 0, 129, 21, 5, 182, 0, 163, 132, 6, 255, 167, 255, 225, 132, 4, 1, 167, 255, 159, 42, 180, 0, 129]
abbrev dktX0_gives_4 : List UInt8 := dkwX0_gives_4 ++ dktX0_gives_5
def dkwX0_gives_3 : List UInt8 := [29, 54, 6, 21, 6, 158, 0, 32, 42, 180, 0, 129, 21, 5, 182, 0, 159, 153, 0, 5, 3, 172, 42]
abbrev dktX0_gives_3 : List UInt8 := dkwX0_gives_3 ++ dktX0_gives_4
def dkwX0_gives_2 : List UInt8 := [43, 180, 0, 211, 21, 4, 46, 54, 5, 21, 4, 28, 160, 0, 8, 29, 4, 160, 0, 7, 4, 167, 0, 4]
abbrev dktX0_gives_2 : List UInt8 := dkwX0_gives_2 ++ dktX0_gives_3
def dkwX0_gives_1 : List UInt8 := [21, 4, 28, 160, 0, 21, 29, 4, 160, 0, 16, 43, 180, 0, 211, 21, 4, 46, 184, 0, 252, 167, 0, 10]
abbrev dktX0_gives_1 : List UInt8 := dkwX0_gives_1 ++ dktX0_gives_2
def dkwX0_gives_0 : List UInt8 := [42, 180, 0, 129, 42, 180, 0, 28, 182, 0, 132, 3, 54, 4, 21, 4, 43, 180, 0, 213, 162, 0, 94]
abbrev dktX0_gives_0 : List UInt8 := dkwX0_gives_0 ++ dktX0_gives_1
theorem dksX0_gives_0 : cX0_gives.data.toList.drop 0 = dktX0_gives_0 := by decide +kernel
theorem dksX0_gives_1 : cX0_gives.data.toList.drop 23 = dktX0_gives_1 := dk_seg dksX0_gives_0 23 rfl rfl
theorem dksX0_gives_2 : cX0_gives.data.toList.drop 47 = dktX0_gives_2 := dk_seg dksX0_gives_1 24 rfl rfl
theorem dksX0_gives_3 : cX0_gives.data.toList.drop 71 = dktX0_gives_3 := dk_seg dksX0_gives_2 24 rfl rfl
theorem dksX0_gives_4 : cX0_gives.data.toList.drop 94 = dktX0_gives_4 := dk_seg dksX0_gives_3 23 rfl rfl
theorem dksX0_gives_5 : cX0_gives.data.toList.drop 118 = dktX0_gives_5 := dk_seg dksX0_gives_4 24 rfl rfl
theorem dX0_gives_0 : decode cX0_gives 0 = .ok (.aload_n 0, 1) := dk_42 (dk_at dksX0_gives_0 0 rfl rfl)
theorem dX0_gives_1 : decode cX0_gives 1 = .ok (.getfield 129, 3) := dk_180 0 129 (dk_at dksX0_gives_0 1 rfl rfl)
theorem dX0_gives_4 : decode cX0_gives 4 = .ok (.aload_n 0, 1) := dk_42 (dk_at dksX0_gives_0 4 rfl rfl)
theorem dX0_gives_5 : decode cX0_gives 5 = .ok (.getfield 28, 3) := dk_180 0 28 (dk_at dksX0_gives_0 5 rfl rfl)
theorem dX0_gives_8 : decode cX0_gives 8 = .ok (.invokevirtual 132, 3) := dk_182 0 132 (dk_at dksX0_gives_0 8 rfl rfl)
theorem dX0_gives_11 : decode cX0_gives 11 = .ok (.iconst 0, 1) := dk_3 (dk_at dksX0_gives_0 11 rfl rfl)
theorem dX0_gives_12 : decode cX0_gives 12 = .ok (.istore 4, 2) := dk_54 4 (dk_at dksX0_gives_0 12 rfl rfl)
theorem dX0_gives_14 : decode cX0_gives 14 = .ok (.iload 4, 2) := dk_21 4 (dk_at dksX0_gives_0 14 rfl rfl)
theorem dX0_gives_16 : decode cX0_gives 16 = .ok (.aload_n 1, 1) := dk_43 (dk_at dksX0_gives_0 16 rfl rfl)
theorem dX0_gives_17 : decode cX0_gives 17 = .ok (.getfield 213, 3) := dk_180 0 213 (dk_at dksX0_gives_0 17 rfl rfl)
theorem dX0_gives_20 : decode cX0_gives 20 = .ok (.if_icmp .ge 94, 3) := dk_162 0 94 (dk_at dksX0_gives_0 20 rfl rfl)
theorem dX0_gives_23 : decode cX0_gives 23 = .ok (.iload 4, 2) := dk_21 4 (dk_at dksX0_gives_1 0 rfl rfl)
theorem dX0_gives_25 : decode cX0_gives 25 = .ok (.iload_n 2, 1) := dk_28 (dk_at dksX0_gives_1 2 rfl rfl)
theorem dX0_gives_26 : decode cX0_gives 26 = .ok (.if_icmp .ne 21, 3) := dk_160 0 21 (dk_at dksX0_gives_1 3 rfl rfl)
theorem dX0_gives_29 : decode cX0_gives 29 = .ok (.iload_n 3, 1) := dk_29 (dk_at dksX0_gives_1 6 rfl rfl)
theorem dX0_gives_30 : decode cX0_gives 30 = .ok (.iconst 1, 1) := dk_4 (dk_at dksX0_gives_1 7 rfl rfl)
theorem dX0_gives_31 : decode cX0_gives 31 = .ok (.if_icmp .ne 16, 3) := dk_160 0 16 (dk_at dksX0_gives_1 8 rfl rfl)
theorem dX0_gives_34 : decode cX0_gives 34 = .ok (.aload_n 1, 1) := dk_43 (dk_at dksX0_gives_1 11 rfl rfl)
theorem dX0_gives_35 : decode cX0_gives 35 = .ok (.getfield 211, 3) := dk_180 0 211 (dk_at dksX0_gives_1 12 rfl rfl)
theorem dX0_gives_38 : decode cX0_gives 38 = .ok (.iload 4, 2) := dk_21 4 (dk_at dksX0_gives_1 15 rfl rfl)
theorem dX0_gives_40 : decode cX0_gives 40 = .ok (.iaload, 1) := dk_46 (dk_at dksX0_gives_1 17 rfl rfl)
theorem dX0_gives_41 : decode cX0_gives 41 = .ok (.invokestatic 252, 3) := dk_184 0 252 (dk_at dksX0_gives_1 18 rfl rfl)
theorem dX0_gives_44 : decode cX0_gives 44 = .ok (.goto 10, 3) := dk_167 0 10 (dk_at dksX0_gives_1 21 rfl rfl)
theorem dX0_gives_47 : decode cX0_gives 47 = .ok (.aload_n 1, 1) := dk_43 (dk_at dksX0_gives_2 0 rfl rfl)
theorem dX0_gives_48 : decode cX0_gives 48 = .ok (.getfield 211, 3) := dk_180 0 211 (dk_at dksX0_gives_2 1 rfl rfl)
theorem dX0_gives_51 : decode cX0_gives 51 = .ok (.iload 4, 2) := dk_21 4 (dk_at dksX0_gives_2 4 rfl rfl)
theorem dX0_gives_53 : decode cX0_gives 53 = .ok (.iaload, 1) := dk_46 (dk_at dksX0_gives_2 6 rfl rfl)
theorem dX0_gives_54 : decode cX0_gives 54 = .ok (.istore 5, 2) := dk_54 5 (dk_at dksX0_gives_2 7 rfl rfl)
theorem dX0_gives_56 : decode cX0_gives 56 = .ok (.iload 4, 2) := dk_21 4 (dk_at dksX0_gives_2 9 rfl rfl)
theorem dX0_gives_58 : decode cX0_gives 58 = .ok (.iload_n 2, 1) := dk_28 (dk_at dksX0_gives_2 11 rfl rfl)
theorem dX0_gives_59 : decode cX0_gives 59 = .ok (.if_icmp .ne 8, 3) := dk_160 0 8 (dk_at dksX0_gives_2 12 rfl rfl)
theorem dX0_gives_62 : decode cX0_gives 62 = .ok (.iload_n 3, 1) := dk_29 (dk_at dksX0_gives_2 15 rfl rfl)
theorem dX0_gives_63 : decode cX0_gives 63 = .ok (.iconst 1, 1) := dk_4 (dk_at dksX0_gives_2 16 rfl rfl)
theorem dX0_gives_64 : decode cX0_gives 64 = .ok (.if_icmp .ne 7, 3) := dk_160 0 7 (dk_at dksX0_gives_2 17 rfl rfl)
theorem dX0_gives_67 : decode cX0_gives 67 = .ok (.iconst 1, 1) := dk_4 (dk_at dksX0_gives_2 20 rfl rfl)
theorem dX0_gives_68 : decode cX0_gives 68 = .ok (.goto 4, 3) := dk_167 0 4 (dk_at dksX0_gives_2 21 rfl rfl)
theorem dX0_gives_71 : decode cX0_gives 71 = .ok (.iload_n 3, 1) := dk_29 (dk_at dksX0_gives_3 0 rfl rfl)
theorem dX0_gives_72 : decode cX0_gives 72 = .ok (.istore 6, 2) := dk_54 6 (dk_at dksX0_gives_3 1 rfl rfl)
theorem dX0_gives_74 : decode cX0_gives 74 = .ok (.iload 6, 2) := dk_21 6 (dk_at dksX0_gives_3 3 rfl rfl)
theorem dX0_gives_76 : decode cX0_gives 76 = .ok (.ifCond .le 32, 3) := dk_158 0 32 (dk_at dksX0_gives_3 5 rfl rfl)
theorem dX0_gives_79 : decode cX0_gives 79 = .ok (.aload_n 0, 1) := dk_42 (dk_at dksX0_gives_3 8 rfl rfl)
theorem dX0_gives_80 : decode cX0_gives 80 = .ok (.getfield 129, 3) := dk_180 0 129 (dk_at dksX0_gives_3 9 rfl rfl)
theorem dX0_gives_83 : decode cX0_gives 83 = .ok (.iload 5, 2) := dk_21 5 (dk_at dksX0_gives_3 12 rfl rfl)
theorem dX0_gives_85 : decode cX0_gives 85 = .ok (.invokevirtual 159, 3) := dk_182 0 159 (dk_at dksX0_gives_3 14 rfl rfl)
theorem dX0_gives_88 : decode cX0_gives 88 = .ok (.ifCond .eq 5, 3) := dk_153 0 5 (dk_at dksX0_gives_3 17 rfl rfl)
theorem dX0_gives_91 : decode cX0_gives 91 = .ok (.iconst 0, 1) := dk_3 (dk_at dksX0_gives_3 20 rfl rfl)
theorem dX0_gives_92 : decode cX0_gives 92 = .ok (.ireturn, 1) := dk_172 (dk_at dksX0_gives_3 21 rfl rfl)
theorem dX0_gives_93 : decode cX0_gives 93 = .ok (.aload_n 0, 1) := dk_42 (dk_at dksX0_gives_3 22 rfl rfl)
theorem dX0_gives_94 : decode cX0_gives 94 = .ok (.getfield 129, 3) := dk_180 0 129 (dk_at dksX0_gives_4 0 rfl rfl)
theorem dX0_gives_97 : decode cX0_gives 97 = .ok (.iload 5, 2) := dk_21 5 (dk_at dksX0_gives_4 3 rfl rfl)
theorem dX0_gives_99 : decode cX0_gives 99 = .ok (.invokevirtual 163, 3) := dk_182 0 163 (dk_at dksX0_gives_4 5 rfl rfl)
theorem dX0_gives_102 : decode cX0_gives 102 = .ok (.iinc 6 (-1), 3) := dk_132 6 255 (dk_at dksX0_gives_4 8 rfl rfl)
theorem dX0_gives_105 : decode cX0_gives 105 = .ok (.goto (-31), 3) := dk_167 255 225 (dk_at dksX0_gives_4 11 rfl rfl)
theorem dX0_gives_108 : decode cX0_gives 108 = .ok (.iinc 4 1, 3) := dk_132 4 1 (dk_at dksX0_gives_4 14 rfl rfl)
theorem dX0_gives_111 : decode cX0_gives 111 = .ok (.goto (-97), 3) := dk_167 255 159 (dk_at dksX0_gives_4 17 rfl rfl)
theorem dX0_gives_114 : decode cX0_gives 114 = .ok (.aload_n 0, 1) := dk_42 (dk_at dksX0_gives_4 20 rfl rfl)
theorem dX0_gives_115 : decode cX0_gives 115 = .ok (.getfield 129, 3) := dk_180 0 129 (dk_at dksX0_gives_4 21 rfl rfl)
theorem dX0_gives_118 : decode cX0_gives 118 = .ok (.aload_n 0, 1) := dk_42 (dk_at dksX0_gives_5 0 rfl rfl)
theorem dX0_gives_119 : decode cX0_gives 119 = .ok (.getfield 119, 3) := dk_180 0 119 (dk_at dksX0_gives_5 1 rfl rfl)
theorem dX0_gives_122 : decode cX0_gives 122 = .ok (.invokevirtual 255, 3) := dk_182 0 255 (dk_at dksX0_gives_5 4 rfl rfl)
theorem dX0_gives_125 : decode cX0_gives 125 = .ok (.ireturn, 1) := dk_172 (dk_at dksX0_gives_5 7 rfl rfl)
abbrev cX0_slips : ByteArray := prog_1_method_39_code
def yX0_slips : MethodName := ⟨RX0, "slips", "(II)I"⟩
def dkwX0_slips_5 : List UInt8 := [28, 2, 160, 0, 8, 21, 4, 167, 0, 4, 2, 172]
abbrev dktX0_slips_5 : List UInt8 := dkwX0_slips_5 ++ []
def dkwX0_slips_4 : List UInt8 := [16, 10, 21, 5, 104, 21, 6, 96, 172, 132, 4, 1, 132, 6, 1, 167, 255, 195, 132, 5, 1, 167, 255, 177]
abbrev dktX0_slips_4 : List UInt8 := dkwX0_slips_4 ++ dktX0_slips_5
def dkwX0_slips_3 : List UInt8 := [153, 0, 36, 42, 45, 21, 5, 21, 6, 182, 1, 3, 154, 0, 6, 167, 0, 21, 21, 4, 28, 160, 0, 12]
abbrev dktX0_slips_3 : List UInt8 := dkwX0_slips_3 ++ dktX0_slips_4
def dkwX0_slips_2 : List UInt8 := [54, 6, 21, 6, 6, 162, 0, 61, 42, 45, 21, 6, 154, 0, 8, 21, 5, 167, 0, 4, 2, 182, 1, 7]
abbrev dktX0_slips_2 : List UInt8 := dkwX0_slips_2 ++ dktX0_slips_3
def dkwX0_slips_1 : List UInt8 := [172, 42, 180, 0, 36, 27, 50, 78, 3, 54, 4, 3, 54, 5, 21, 5, 45, 180, 0, 213, 162, 0, 76, 3]
abbrev dktX0_slips_1 : List UInt8 := dkwX0_slips_1 ++ dktX0_slips_2
def dkwX0_slips_0 : List UInt8 := [42, 27, 182, 0, 249, 153, 0, 8, 28, 2, 162, 0, 5, 2, 172, 42, 180, 0, 115, 154, 0, 6, 16, 253]
abbrev dktX0_slips_0 : List UInt8 := dkwX0_slips_0 ++ dktX0_slips_1
theorem dksX0_slips_0 : cX0_slips.data.toList.drop 0 = dktX0_slips_0 := by decide +kernel
theorem dksX0_slips_1 : cX0_slips.data.toList.drop 24 = dktX0_slips_1 := dk_seg dksX0_slips_0 24 rfl rfl
theorem dksX0_slips_2 : cX0_slips.data.toList.drop 48 = dktX0_slips_2 := dk_seg dksX0_slips_1 24 rfl rfl
theorem dksX0_slips_3 : cX0_slips.data.toList.drop 72 = dktX0_slips_3 := dk_seg dksX0_slips_2 24 rfl rfl
theorem dksX0_slips_4 : cX0_slips.data.toList.drop 96 = dktX0_slips_4 := dk_seg dksX0_slips_3 24 rfl rfl
theorem dksX0_slips_5 : cX0_slips.data.toList.drop 120 = dktX0_slips_5 := dk_seg dksX0_slips_4 24 rfl rfl
theorem dX0_slips_0 : decode cX0_slips 0 = .ok (.aload_n 0, 1) := dk_42 (dk_at dksX0_slips_0 0 rfl rfl)
theorem dX0_slips_1 : decode cX0_slips 1 = .ok (.iload_n 1, 1) := dk_27 (dk_at dksX0_slips_0 1 rfl rfl)
theorem dX0_slips_2 : decode cX0_slips 2 = .ok (.invokevirtual 249, 3) := dk_182 0 249 (dk_at dksX0_slips_0 2 rfl rfl)
theorem dX0_slips_5 : decode cX0_slips 5 = .ok (.ifCond .eq 8, 3) := dk_153 0 8 (dk_at dksX0_slips_0 5 rfl rfl)
theorem dX0_slips_8 : decode cX0_slips 8 = .ok (.iload_n 2, 1) := dk_28 (dk_at dksX0_slips_0 8 rfl rfl)
theorem dX0_slips_9 : decode cX0_slips 9 = .ok (.iconst (-1), 1) := dk_2 (dk_at dksX0_slips_0 9 rfl rfl)
theorem dX0_slips_10 : decode cX0_slips 10 = .ok (.if_icmp .ge 5, 3) := dk_162 0 5 (dk_at dksX0_slips_0 10 rfl rfl)
theorem dX0_slips_13 : decode cX0_slips 13 = .ok (.iconst (-1), 1) := dk_2 (dk_at dksX0_slips_0 13 rfl rfl)
theorem dX0_slips_14 : decode cX0_slips 14 = .ok (.ireturn, 1) := dk_172 (dk_at dksX0_slips_0 14 rfl rfl)
theorem dX0_slips_15 : decode cX0_slips 15 = .ok (.aload_n 0, 1) := dk_42 (dk_at dksX0_slips_0 15 rfl rfl)
theorem dX0_slips_16 : decode cX0_slips 16 = .ok (.getfield 115, 3) := dk_180 0 115 (dk_at dksX0_slips_0 16 rfl rfl)
theorem dX0_slips_19 : decode cX0_slips 19 = .ok (.ifCond .ne 6, 3) := dk_154 0 6 (dk_at dksX0_slips_0 19 rfl rfl)
theorem dX0_slips_22 : decode cX0_slips 22 = .ok (.bipush (-3), 2) := dk_16 253 (dk_at dksX0_slips_0 22 rfl rfl)
theorem dX0_slips_24 : decode cX0_slips 24 = .ok (.ireturn, 1) := dk_172 (dk_at dksX0_slips_1 0 rfl rfl)
theorem dX0_slips_25 : decode cX0_slips 25 = .ok (.aload_n 0, 1) := dk_42 (dk_at dksX0_slips_1 1 rfl rfl)
theorem dX0_slips_26 : decode cX0_slips 26 = .ok (.getfield 36, 3) := dk_180 0 36 (dk_at dksX0_slips_1 2 rfl rfl)
theorem dX0_slips_29 : decode cX0_slips 29 = .ok (.iload_n 1, 1) := dk_27 (dk_at dksX0_slips_1 5 rfl rfl)
theorem dX0_slips_30 : decode cX0_slips 30 = .ok (.aaload, 1) := dk_50 (dk_at dksX0_slips_1 6 rfl rfl)
theorem dX0_slips_31 : decode cX0_slips 31 = .ok (.astore_n 3, 1) := dk_78 (dk_at dksX0_slips_1 7 rfl rfl)
theorem dX0_slips_32 : decode cX0_slips 32 = .ok (.iconst 0, 1) := dk_3 (dk_at dksX0_slips_1 8 rfl rfl)
theorem dX0_slips_33 : decode cX0_slips 33 = .ok (.istore 4, 2) := dk_54 4 (dk_at dksX0_slips_1 9 rfl rfl)
theorem dX0_slips_35 : decode cX0_slips 35 = .ok (.iconst 0, 1) := dk_3 (dk_at dksX0_slips_1 11 rfl rfl)
theorem dX0_slips_36 : decode cX0_slips 36 = .ok (.istore 5, 2) := dk_54 5 (dk_at dksX0_slips_1 12 rfl rfl)
theorem dX0_slips_38 : decode cX0_slips 38 = .ok (.iload 5, 2) := dk_21 5 (dk_at dksX0_slips_1 14 rfl rfl)
theorem dX0_slips_40 : decode cX0_slips 40 = .ok (.aload_n 3, 1) := dk_45 (dk_at dksX0_slips_1 16 rfl rfl)
theorem dX0_slips_41 : decode cX0_slips 41 = .ok (.getfield 213, 3) := dk_180 0 213 (dk_at dksX0_slips_1 17 rfl rfl)
theorem dX0_slips_44 : decode cX0_slips 44 = .ok (.if_icmp .ge 76, 3) := dk_162 0 76 (dk_at dksX0_slips_1 20 rfl rfl)
theorem dX0_slips_47 : decode cX0_slips 47 = .ok (.iconst 0, 1) := dk_3 (dk_at dksX0_slips_1 23 rfl rfl)
theorem dX0_slips_48 : decode cX0_slips 48 = .ok (.istore 6, 2) := dk_54 6 (dk_at dksX0_slips_2 0 rfl rfl)
theorem dX0_slips_50 : decode cX0_slips 50 = .ok (.iload 6, 2) := dk_21 6 (dk_at dksX0_slips_2 2 rfl rfl)
theorem dX0_slips_52 : decode cX0_slips 52 = .ok (.iconst 3, 1) := dk_6 (dk_at dksX0_slips_2 4 rfl rfl)
theorem dX0_slips_53 : decode cX0_slips 53 = .ok (.if_icmp .ge 61, 3) := dk_162 0 61 (dk_at dksX0_slips_2 5 rfl rfl)
theorem dX0_slips_56 : decode cX0_slips 56 = .ok (.aload_n 0, 1) := dk_42 (dk_at dksX0_slips_2 8 rfl rfl)
theorem dX0_slips_57 : decode cX0_slips 57 = .ok (.aload_n 3, 1) := dk_45 (dk_at dksX0_slips_2 9 rfl rfl)
theorem dX0_slips_58 : decode cX0_slips 58 = .ok (.iload 6, 2) := dk_21 6 (dk_at dksX0_slips_2 10 rfl rfl)
theorem dX0_slips_60 : decode cX0_slips 60 = .ok (.ifCond .ne 8, 3) := dk_154 0 8 (dk_at dksX0_slips_2 12 rfl rfl)
theorem dX0_slips_63 : decode cX0_slips 63 = .ok (.iload 5, 2) := dk_21 5 (dk_at dksX0_slips_2 15 rfl rfl)
theorem dX0_slips_65 : decode cX0_slips 65 = .ok (.goto 4, 3) := dk_167 0 4 (dk_at dksX0_slips_2 17 rfl rfl)
theorem dX0_slips_68 : decode cX0_slips 68 = .ok (.iconst (-1), 1) := dk_2 (dk_at dksX0_slips_2 20 rfl rfl)
theorem dX0_slips_69 : decode cX0_slips 69 = .ok (.invokevirtual 263, 3) := dk_182 1 7 (dk_at dksX0_slips_2 21 rfl rfl)
theorem dX0_slips_72 : decode cX0_slips 72 = .ok (.ifCond .eq 36, 3) := dk_153 0 36 (dk_at dksX0_slips_3 0 rfl rfl)
theorem dX0_slips_75 : decode cX0_slips 75 = .ok (.aload_n 0, 1) := dk_42 (dk_at dksX0_slips_3 3 rfl rfl)
theorem dX0_slips_76 : decode cX0_slips 76 = .ok (.aload_n 3, 1) := dk_45 (dk_at dksX0_slips_3 4 rfl rfl)
theorem dX0_slips_77 : decode cX0_slips 77 = .ok (.iload 5, 2) := dk_21 5 (dk_at dksX0_slips_3 5 rfl rfl)
theorem dX0_slips_79 : decode cX0_slips 79 = .ok (.iload 6, 2) := dk_21 6 (dk_at dksX0_slips_3 7 rfl rfl)
theorem dX0_slips_81 : decode cX0_slips 81 = .ok (.invokevirtual 259, 3) := dk_182 1 3 (dk_at dksX0_slips_3 9 rfl rfl)
theorem dX0_slips_84 : decode cX0_slips 84 = .ok (.ifCond .ne 6, 3) := dk_154 0 6 (dk_at dksX0_slips_3 12 rfl rfl)
theorem dX0_slips_87 : decode cX0_slips 87 = .ok (.goto 21, 3) := dk_167 0 21 (dk_at dksX0_slips_3 15 rfl rfl)
theorem dX0_slips_90 : decode cX0_slips 90 = .ok (.iload 4, 2) := dk_21 4 (dk_at dksX0_slips_3 18 rfl rfl)
theorem dX0_slips_92 : decode cX0_slips 92 = .ok (.iload_n 2, 1) := dk_28 (dk_at dksX0_slips_3 20 rfl rfl)
theorem dX0_slips_93 : decode cX0_slips 93 = .ok (.if_icmp .ne 12, 3) := dk_160 0 12 (dk_at dksX0_slips_3 21 rfl rfl)
theorem dX0_slips_96 : decode cX0_slips 96 = .ok (.bipush 10, 2) := dk_16 10 (dk_at dksX0_slips_4 0 rfl rfl)
theorem dX0_slips_98 : decode cX0_slips 98 = .ok (.iload 5, 2) := dk_21 5 (dk_at dksX0_slips_4 2 rfl rfl)
theorem dX0_slips_100 : decode cX0_slips 100 = .ok (.imul, 1) := dk_104 (dk_at dksX0_slips_4 4 rfl rfl)
theorem dX0_slips_101 : decode cX0_slips 101 = .ok (.iload 6, 2) := dk_21 6 (dk_at dksX0_slips_4 5 rfl rfl)
theorem dX0_slips_103 : decode cX0_slips 103 = .ok (.iadd, 1) := dk_96 (dk_at dksX0_slips_4 7 rfl rfl)
theorem dX0_slips_104 : decode cX0_slips 104 = .ok (.ireturn, 1) := dk_172 (dk_at dksX0_slips_4 8 rfl rfl)
theorem dX0_slips_105 : decode cX0_slips 105 = .ok (.iinc 4 1, 3) := dk_132 4 1 (dk_at dksX0_slips_4 9 rfl rfl)
theorem dX0_slips_108 : decode cX0_slips 108 = .ok (.iinc 6 1, 3) := dk_132 6 1 (dk_at dksX0_slips_4 12 rfl rfl)
theorem dX0_slips_111 : decode cX0_slips 111 = .ok (.goto (-61), 3) := dk_167 255 195 (dk_at dksX0_slips_4 15 rfl rfl)
theorem dX0_slips_114 : decode cX0_slips 114 = .ok (.iinc 5 1, 3) := dk_132 5 1 (dk_at dksX0_slips_4 18 rfl rfl)
theorem dX0_slips_117 : decode cX0_slips 117 = .ok (.goto (-79), 3) := dk_167 255 177 (dk_at dksX0_slips_4 21 rfl rfl)
theorem dX0_slips_120 : decode cX0_slips 120 = .ok (.iload_n 2, 1) := dk_28 (dk_at dksX0_slips_5 0 rfl rfl)
theorem dX0_slips_121 : decode cX0_slips 121 = .ok (.iconst (-1), 1) := dk_2 (dk_at dksX0_slips_5 1 rfl rfl)
theorem dX0_slips_122 : decode cX0_slips 122 = .ok (.if_icmp .ne 8, 3) := dk_160 0 8 (dk_at dksX0_slips_5 2 rfl rfl)
theorem dX0_slips_125 : decode cX0_slips 125 = .ok (.iload 4, 2) := dk_21 4 (dk_at dksX0_slips_5 5 rfl rfl)
theorem dX0_slips_127 : decode cX0_slips 127 = .ok (.goto 4, 3) := dk_167 0 4 (dk_at dksX0_slips_5 7 rfl rfl)
theorem dX0_slips_130 : decode cX0_slips 130 = .ok (.iconst (-1), 1) := dk_2 (dk_at dksX0_slips_5 10 rfl rfl)
theorem dX0_slips_131 : decode cX0_slips 131 = .ok (.ireturn, 1) := dk_172 (dk_at dksX0_slips_5 11 rfl rfl)
abbrev cX0_isOfBut : ByteArray := prog_1_method_40_code
def yX0_isOfBut : MethodName := ⟨RX0, "isOfBut", "(LMaypoleGreen$Figure;I)Z"⟩
def dkwX0_isOfBut_2 : List UInt8 := [180, 0, 90, 162, 0, 7, 4, 167, 0, 4, 3, 62, 132, 4, 1, 167, 255, 199, 29, 172]
abbrev dktX0_isOfBut_2 : List UInt8 := dkwX0_isOfBut_2 ++ []
def dkwX0_isOfBut_1 : List UInt8 := [43, 180, 0, 211, 21, 4, 46, 16, 100, 162, 0, 20, 43, 180, 0, 211, 21, 4, 46, 16, 10, 108, 42]
abbrev dktX0_isOfBut_1 : List UInt8 := dkwX0_isOfBut_1 ++ dktX0_isOfBut_2
def dkwX0_isOfBut_0 : List UInt8 := [4, 62, 3, 54, 4, 21, 4, 43, 180, 0, 213, 162, 0, 54, 29, 153, 0, 50, 21, 4, 28, 159, 0, 32]
abbrev dktX0_isOfBut_0 : List UInt8 := dkwX0_isOfBut_0 ++ dktX0_isOfBut_1
theorem dksX0_isOfBut_0 : cX0_isOfBut.data.toList.drop 0 = dktX0_isOfBut_0 := by decide +kernel
theorem dksX0_isOfBut_1 : cX0_isOfBut.data.toList.drop 24 = dktX0_isOfBut_1 := dk_seg dksX0_isOfBut_0 24 rfl rfl
theorem dksX0_isOfBut_2 : cX0_isOfBut.data.toList.drop 47 = dktX0_isOfBut_2 := dk_seg dksX0_isOfBut_1 23 rfl rfl
theorem dX0_isOfBut_0 : decode cX0_isOfBut 0 = .ok (.iconst 1, 1) := dk_4 (dk_at dksX0_isOfBut_0 0 rfl rfl)
theorem dX0_isOfBut_1 : decode cX0_isOfBut 1 = .ok (.istore_n 3, 1) := dk_62 (dk_at dksX0_isOfBut_0 1 rfl rfl)
theorem dX0_isOfBut_2 : decode cX0_isOfBut 2 = .ok (.iconst 0, 1) := dk_3 (dk_at dksX0_isOfBut_0 2 rfl rfl)
theorem dX0_isOfBut_3 : decode cX0_isOfBut 3 = .ok (.istore 4, 2) := dk_54 4 (dk_at dksX0_isOfBut_0 3 rfl rfl)
theorem dX0_isOfBut_5 : decode cX0_isOfBut 5 = .ok (.iload 4, 2) := dk_21 4 (dk_at dksX0_isOfBut_0 5 rfl rfl)
theorem dX0_isOfBut_7 : decode cX0_isOfBut 7 = .ok (.aload_n 1, 1) := dk_43 (dk_at dksX0_isOfBut_0 7 rfl rfl)
theorem dX0_isOfBut_8 : decode cX0_isOfBut 8 = .ok (.getfield 213, 3) := dk_180 0 213 (dk_at dksX0_isOfBut_0 8 rfl rfl)
theorem dX0_isOfBut_11 : decode cX0_isOfBut 11 = .ok (.if_icmp .ge 54, 3) := dk_162 0 54 (dk_at dksX0_isOfBut_0 11 rfl rfl)
theorem dX0_isOfBut_14 : decode cX0_isOfBut 14 = .ok (.iload_n 3, 1) := dk_29 (dk_at dksX0_isOfBut_0 14 rfl rfl)
theorem dX0_isOfBut_15 : decode cX0_isOfBut 15 = .ok (.ifCond .eq 50, 3) := dk_153 0 50 (dk_at dksX0_isOfBut_0 15 rfl rfl)
theorem dX0_isOfBut_18 : decode cX0_isOfBut 18 = .ok (.iload 4, 2) := dk_21 4 (dk_at dksX0_isOfBut_0 18 rfl rfl)
theorem dX0_isOfBut_20 : decode cX0_isOfBut 20 = .ok (.iload_n 2, 1) := dk_28 (dk_at dksX0_isOfBut_0 20 rfl rfl)
theorem dX0_isOfBut_21 : decode cX0_isOfBut 21 = .ok (.if_icmp .eq 32, 3) := dk_159 0 32 (dk_at dksX0_isOfBut_0 21 rfl rfl)
theorem dX0_isOfBut_24 : decode cX0_isOfBut 24 = .ok (.aload_n 1, 1) := dk_43 (dk_at dksX0_isOfBut_1 0 rfl rfl)
theorem dX0_isOfBut_25 : decode cX0_isOfBut 25 = .ok (.getfield 211, 3) := dk_180 0 211 (dk_at dksX0_isOfBut_1 1 rfl rfl)
theorem dX0_isOfBut_28 : decode cX0_isOfBut 28 = .ok (.iload 4, 2) := dk_21 4 (dk_at dksX0_isOfBut_1 4 rfl rfl)
theorem dX0_isOfBut_30 : decode cX0_isOfBut 30 = .ok (.iaload, 1) := dk_46 (dk_at dksX0_isOfBut_1 6 rfl rfl)
theorem dX0_isOfBut_31 : decode cX0_isOfBut 31 = .ok (.bipush 100, 2) := dk_16 100 (dk_at dksX0_isOfBut_1 7 rfl rfl)
theorem dX0_isOfBut_33 : decode cX0_isOfBut 33 = .ok (.if_icmp .ge 20, 3) := dk_162 0 20 (dk_at dksX0_isOfBut_1 9 rfl rfl)
theorem dX0_isOfBut_36 : decode cX0_isOfBut 36 = .ok (.aload_n 1, 1) := dk_43 (dk_at dksX0_isOfBut_1 12 rfl rfl)
theorem dX0_isOfBut_37 : decode cX0_isOfBut 37 = .ok (.getfield 211, 3) := dk_180 0 211 (dk_at dksX0_isOfBut_1 13 rfl rfl)
theorem dX0_isOfBut_40 : decode cX0_isOfBut 40 = .ok (.iload 4, 2) := dk_21 4 (dk_at dksX0_isOfBut_1 16 rfl rfl)
theorem dX0_isOfBut_42 : decode cX0_isOfBut 42 = .ok (.iaload, 1) := dk_46 (dk_at dksX0_isOfBut_1 18 rfl rfl)
theorem dX0_isOfBut_43 : decode cX0_isOfBut 43 = .ok (.bipush 10, 2) := dk_16 10 (dk_at dksX0_isOfBut_1 19 rfl rfl)
theorem dX0_isOfBut_45 : decode cX0_isOfBut 45 = .ok (.idiv, 1) := dk_108 (dk_at dksX0_isOfBut_1 21 rfl rfl)
theorem dX0_isOfBut_46 : decode cX0_isOfBut 46 = .ok (.aload_n 0, 1) := dk_42 (dk_at dksX0_isOfBut_1 22 rfl rfl)
theorem dX0_isOfBut_47 : decode cX0_isOfBut 47 = .ok (.getfield 90, 3) := dk_180 0 90 (dk_at dksX0_isOfBut_2 0 rfl rfl)
theorem dX0_isOfBut_50 : decode cX0_isOfBut 50 = .ok (.if_icmp .ge 7, 3) := dk_162 0 7 (dk_at dksX0_isOfBut_2 3 rfl rfl)
theorem dX0_isOfBut_53 : decode cX0_isOfBut 53 = .ok (.iconst 1, 1) := dk_4 (dk_at dksX0_isOfBut_2 6 rfl rfl)
theorem dX0_isOfBut_54 : decode cX0_isOfBut 54 = .ok (.goto 4, 3) := dk_167 0 4 (dk_at dksX0_isOfBut_2 7 rfl rfl)
theorem dX0_isOfBut_57 : decode cX0_isOfBut 57 = .ok (.iconst 0, 1) := dk_3 (dk_at dksX0_isOfBut_2 10 rfl rfl)
theorem dX0_isOfBut_58 : decode cX0_isOfBut 58 = .ok (.istore_n 3, 1) := dk_62 (dk_at dksX0_isOfBut_2 11 rfl rfl)
theorem dX0_isOfBut_59 : decode cX0_isOfBut 59 = .ok (.iinc 4 1, 3) := dk_132 4 1 (dk_at dksX0_isOfBut_2 12 rfl rfl)
theorem dX0_isOfBut_62 : decode cX0_isOfBut 62 = .ok (.goto (-57), 3) := dk_167 255 199 (dk_at dksX0_isOfBut_2 15 rfl rfl)
theorem dX0_isOfBut_65 : decode cX0_isOfBut 65 = .ok (.iload_n 3, 1) := dk_29 (dk_at dksX0_isOfBut_2 18 rfl rfl)
theorem dX0_isOfBut_66 : decode cX0_isOfBut 66 = .ok (.ireturn, 1) := dk_172 (dk_at dksX0_isOfBut_2 19 rfl rfl)
abbrev cX0_fewest : ByteArray := prog_1_method_42_code
def yX0_fewest : MethodName := ⟨RX0, "fewest", "(II)I"⟩
def dkwX0_fewest_2 : List UInt8 := [28, 182, 1, 45, 172, 78, 16, 245, 172, 78, 16, 244, 172, 78, 45, 180, 0, 246, 172]
abbrev dktX0_fewest_2 : List UInt8 := dkwX0_fewest_2 ++ []
def dkwX0_fewest_1 : List UInt8 := [180, 0, 90, 16, 7, 164, 0, 6, 16, 253, 172, 42, 42, 180, 0, 53, 27, 50, 180, 1, 41, 192, 1, 44]
abbrev dktX0_fewest_1 : List UInt8 := dkwX0_fewest_1 ++ dktX0_fewest_2
def dkwX0_fewest_0 : List UInt8 := [27, 184, 1, 38, 153, 0, 8, 28, 2, 162, 0, 5, 2, 172, 42, 180, 0, 90, 153, 0, 12, 42]
abbrev dktX0_fewest_0 : List UInt8 := dkwX0_fewest_0 ++ dktX0_fewest_1
theorem dksX0_fewest_0 : cX0_fewest.data.toList.drop 0 = dktX0_fewest_0 := by decide +kernel
theorem dksX0_fewest_1 : cX0_fewest.data.toList.drop 22 = dktX0_fewest_1 := dk_seg dksX0_fewest_0 22 rfl rfl
theorem dksX0_fewest_2 : cX0_fewest.data.toList.drop 46 = dktX0_fewest_2 := dk_seg dksX0_fewest_1 24 rfl rfl
theorem dX0_fewest_0 : decode cX0_fewest 0 = .ok (.iload_n 1, 1) := dk_27 (dk_at dksX0_fewest_0 0 rfl rfl)
theorem dX0_fewest_1 : decode cX0_fewest 1 = .ok (.invokestatic 294, 3) := dk_184 1 38 (dk_at dksX0_fewest_0 1 rfl rfl)
theorem dX0_fewest_4 : decode cX0_fewest 4 = .ok (.ifCond .eq 8, 3) := dk_153 0 8 (dk_at dksX0_fewest_0 4 rfl rfl)
theorem dX0_fewest_7 : decode cX0_fewest 7 = .ok (.iload_n 2, 1) := dk_28 (dk_at dksX0_fewest_0 7 rfl rfl)
theorem dX0_fewest_8 : decode cX0_fewest 8 = .ok (.iconst (-1), 1) := dk_2 (dk_at dksX0_fewest_0 8 rfl rfl)
theorem dX0_fewest_9 : decode cX0_fewest 9 = .ok (.if_icmp .ge 5, 3) := dk_162 0 5 (dk_at dksX0_fewest_0 9 rfl rfl)
theorem dX0_fewest_12 : decode cX0_fewest 12 = .ok (.iconst (-1), 1) := dk_2 (dk_at dksX0_fewest_0 12 rfl rfl)
theorem dX0_fewest_13 : decode cX0_fewest 13 = .ok (.ireturn, 1) := dk_172 (dk_at dksX0_fewest_0 13 rfl rfl)
theorem dX0_fewest_14 : decode cX0_fewest 14 = .ok (.aload_n 0, 1) := dk_42 (dk_at dksX0_fewest_0 14 rfl rfl)
theorem dX0_fewest_15 : decode cX0_fewest 15 = .ok (.getfield 90, 3) := dk_180 0 90 (dk_at dksX0_fewest_0 15 rfl rfl)
theorem dX0_fewest_18 : decode cX0_fewest 18 = .ok (.ifCond .eq 12, 3) := dk_153 0 12 (dk_at dksX0_fewest_0 18 rfl rfl)
theorem dX0_fewest_21 : decode cX0_fewest 21 = .ok (.aload_n 0, 1) := dk_42 (dk_at dksX0_fewest_0 21 rfl rfl)
theorem dX0_fewest_22 : decode cX0_fewest 22 = .ok (.getfield 90, 3) := dk_180 0 90 (dk_at dksX0_fewest_1 0 rfl rfl)
theorem dX0_fewest_25 : decode cX0_fewest 25 = .ok (.bipush 7, 2) := dk_16 7 (dk_at dksX0_fewest_1 3 rfl rfl)
theorem dX0_fewest_27 : decode cX0_fewest 27 = .ok (.if_icmp .le 6, 3) := dk_164 0 6 (dk_at dksX0_fewest_1 5 rfl rfl)
theorem dX0_fewest_30 : decode cX0_fewest 30 = .ok (.bipush (-3), 2) := dk_16 253 (dk_at dksX0_fewest_1 8 rfl rfl)
theorem dX0_fewest_32 : decode cX0_fewest 32 = .ok (.ireturn, 1) := dk_172 (dk_at dksX0_fewest_1 10 rfl rfl)
theorem dX0_fewest_33 : decode cX0_fewest 33 = .ok (.aload_n 0, 1) := dk_42 (dk_at dksX0_fewest_1 11 rfl rfl)
theorem dX0_fewest_34 : decode cX0_fewest 34 = .ok (.aload_n 0, 1) := dk_42 (dk_at dksX0_fewest_1 12 rfl rfl)
theorem dX0_fewest_35 : decode cX0_fewest 35 = .ok (.getfield 53, 3) := dk_180 0 53 (dk_at dksX0_fewest_1 13 rfl rfl)
theorem dX0_fewest_38 : decode cX0_fewest 38 = .ok (.iload_n 1, 1) := dk_27 (dk_at dksX0_fewest_1 16 rfl rfl)
theorem dX0_fewest_39 : decode cX0_fewest 39 = .ok (.aaload, 1) := dk_50 (dk_at dksX0_fewest_1 17 rfl rfl)
theorem dX0_fewest_40 : decode cX0_fewest 40 = .ok (.getfield 297, 3) := dk_180 1 41 (dk_at dksX0_fewest_1 18 rfl rfl)
theorem dX0_fewest_43 : decode cX0_fewest 43 = .ok (.checkcast 300, 3) := dk_192 1 44 (dk_at dksX0_fewest_1 21 rfl rfl)
theorem dX0_fewest_46 : decode cX0_fewest 46 = .ok (.iload_n 2, 1) := dk_28 (dk_at dksX0_fewest_2 0 rfl rfl)
theorem dX0_fewest_47 : decode cX0_fewest 47 = .ok (.invokevirtual 301, 3) := dk_182 1 45 (dk_at dksX0_fewest_2 1 rfl rfl)
theorem dX0_fewest_50 : decode cX0_fewest 50 = .ok (.ireturn, 1) := dk_172 (dk_at dksX0_fewest_2 4 rfl rfl)
theorem dX0_fewest_51 : decode cX0_fewest 51 = .ok (.astore_n 3, 1) := dk_78 (dk_at dksX0_fewest_2 5 rfl rfl)
theorem dX0_fewest_52 : decode cX0_fewest 52 = .ok (.bipush (-11), 2) := dk_16 245 (dk_at dksX0_fewest_2 6 rfl rfl)
theorem dX0_fewest_54 : decode cX0_fewest 54 = .ok (.ireturn, 1) := dk_172 (dk_at dksX0_fewest_2 8 rfl rfl)
theorem dX0_fewest_55 : decode cX0_fewest 55 = .ok (.astore_n 3, 1) := dk_78 (dk_at dksX0_fewest_2 9 rfl rfl)
theorem dX0_fewest_56 : decode cX0_fewest 56 = .ok (.bipush (-12), 2) := dk_16 244 (dk_at dksX0_fewest_2 10 rfl rfl)
theorem dX0_fewest_58 : decode cX0_fewest 58 = .ok (.ireturn, 1) := dk_172 (dk_at dksX0_fewest_2 12 rfl rfl)
theorem dX0_fewest_59 : decode cX0_fewest 59 = .ok (.astore_n 3, 1) := dk_78 (dk_at dksX0_fewest_2 13 rfl rfl)
theorem dX0_fewest_60 : decode cX0_fewest 60 = .ok (.aload_n 3, 1) := dk_45 (dk_at dksX0_fewest_2 14 rfl rfl)
theorem dX0_fewest_61 : decode cX0_fewest 61 = .ok (.getfield 246, 3) := dk_180 0 246 (dk_at dksX0_fewest_2 15 rfl rfl)
theorem dX0_fewest_64 : decode cX0_fewest 64 = .ok (.ireturn, 1) := dk_172 (dk_at dksX0_fewest_2 18 rfl rfl)
abbrev cX0_isTape : ByteArray := prog_1_method_55_code
def yX0_isTape : MethodName := ⟨RX0, "isTape", "(I)Z"⟩
def dkwX0_isTape_0 : List UInt8 := [26, 3, 8, 184, 0, 86, 172]
abbrev dktX0_isTape_0 : List UInt8 := dkwX0_isTape_0 ++ []
theorem dksX0_isTape_0 : cX0_isTape.data.toList.drop 0 = dktX0_isTape_0 := by decide +kernel
theorem dX0_isTape_0 : decode cX0_isTape 0 = .ok (.iload_n 0, 1) := dk_26 (dk_at dksX0_isTape_0 0 rfl rfl)
theorem dX0_isTape_1 : decode cX0_isTape 1 = .ok (.iconst 0, 1) := dk_3 (dk_at dksX0_isTape_0 1 rfl rfl)
theorem dX0_isTape_2 : decode cX0_isTape 2 = .ok (.iconst 5, 1) := dk_8 (dk_at dksX0_isTape_0 2 rfl rfl)
theorem dX0_isTape_3 : decode cX0_isTape 3 = .ok (.invokestatic 86, 3) := dk_184 0 86 (dk_at dksX0_isTape_0 3 rfl rfl)
theorem dX0_isTape_6 : decode cX0_isTape 6 = .ok (.ireturn, 1) := dk_172 (dk_at dksX0_isTape_0 6 rfl rfl)
abbrev cX0_fewestTo : ByteArray := prog_1_method_41_code
def yX0_fewestTo : MethodName := ⟨RX0, "fewestTo", "([BI)I"⟩
def dkwX0_fewestTo_10 : List UInt8 := [182, 1, 25, 54, 7, 132, 8, 1, 167, 255, 212, 2, 172]
abbrev dktX0_fewestTo_10 : List UInt8 := dkwX0_fewestTo_10 ++ []
def dkwX0_fewestTo_9 : List UInt8 := [21, 7, 182, 1, 33, 54, 9, 21, 8, 28, 160, 0, 6, 21, 9, 172, 25, 6, 25, 6, 180, 1, 36]
abbrev dktX0_fewestTo_9 : List UInt8 := dkwX0_fewestTo_9 ++ dktX0_fewestTo_10
def dkwX0_fewestTo_8 : List UInt8 := [180, 1, 30, 21, 7, 46, 172, 3, 54, 8, 25, 6, 180, 1, 30, 21, 7, 46, 158, 0, 39, 25, 6]
abbrev dktX0_fewestTo_8 : List UInt8 := dkwX0_fewestTo_8 ++ dktX0_fewestTo_9
def dkwX0_fewestTo_7 : List UInt8 := [182, 1, 25, 182, 1, 28, 25, 6, 25, 5, 182, 1, 25, 54, 7, 28, 2, 160, 0, 12, 25, 6]
abbrev dktX0_fewestTo_7 : List UInt8 := dkwX0_fewestTo_7 ++ dktX0_fewestTo_8
def dkwX0_fewestTo_6 : List UInt8 := [89, 42, 180, 0, 90, 183, 1, 24, 181, 1, 15, 42, 180, 1, 15, 58, 6, 25, 6, 25, 6, 25, 4]
abbrev dktX0_fewestTo_6 : List UInt8 := dkwX0_fewestTo_6 ++ dktX0_fewestTo_7
def dkwX0_fewestTo_5 : List UInt8 := [180, 1, 15, 198, 0, 17, 42, 180, 1, 15, 180, 1, 19, 42, 180, 0, 90, 159, 0, 18, 42, 187, 1, 20]
abbrev dktX0_fewestTo_5 : List UInt8 := dkwX0_fewestTo_5 ++ dktX0_fewestTo_6
def dkwX0_fewestTo_4 : List UInt8 := [43, 21, 6, 51, 79, 25, 5, 21, 6, 42, 21, 6, 6, 182, 1, 12, 79, 132, 6, 1, 167, 255, 182, 42]
abbrev dktX0_fewestTo_4 : List UInt8 := dkwX0_fewestTo_4 ++ dktX0_fewestTo_5
def dkwX0_fewestTo_3 : List UInt8 := [51, 122, 4, 126, 4, 160, 0, 6, 16, 254, 172, 29, 4, 43, 21, 6, 51, 120, 128, 62, 25, 4, 21, 6]
abbrev dktX0_fewestTo_3 : List UInt8 := dkwX0_fewestTo_3 ++ dktX0_fewestTo_4
def dkwX0_fewestTo_2 : List UInt8 := [162, 0, 71, 43, 21, 6, 51, 3, 42, 180, 0, 90, 4, 100, 184, 0, 86, 153, 0, 15, 29, 43, 21, 6]
abbrev dktX0_fewestTo_2 : List UInt8 := dkwX0_fewestTo_2 ++ dktX0_fewestTo_3
def dkwX0_fewestTo_1 : List UInt8 := [180, 0, 90, 188, 10, 58, 4, 42, 180, 0, 90, 188, 10, 58, 5, 3, 54, 6, 21, 6, 42, 180, 0, 90]
abbrev dktX0_fewestTo_1 : List UInt8 := dkwX0_fewestTo_1 ++ dktX0_fewestTo_2
def dkwX0_fewestTo_0 : List UInt8 := [43, 190, 42, 180, 0, 90, 162, 0, 13, 187, 0, 244, 89, 16, 243, 183, 1, 11, 191, 3, 62, 42]
abbrev dktX0_fewestTo_0 : List UInt8 := dkwX0_fewestTo_0 ++ dktX0_fewestTo_1
theorem dksX0_fewestTo_0 : cX0_fewestTo.data.toList.drop 0 = dktX0_fewestTo_0 := by decide +kernel
theorem dksX0_fewestTo_1 : cX0_fewestTo.data.toList.drop 22 = dktX0_fewestTo_1 := dk_seg dksX0_fewestTo_0 22 rfl rfl
theorem dksX0_fewestTo_2 : cX0_fewestTo.data.toList.drop 46 = dktX0_fewestTo_2 := dk_seg dksX0_fewestTo_1 24 rfl rfl
theorem dksX0_fewestTo_3 : cX0_fewestTo.data.toList.drop 70 = dktX0_fewestTo_3 := dk_seg dksX0_fewestTo_2 24 rfl rfl
theorem dksX0_fewestTo_4 : cX0_fewestTo.data.toList.drop 94 = dktX0_fewestTo_4 := dk_seg dksX0_fewestTo_3 24 rfl rfl
theorem dksX0_fewestTo_5 : cX0_fewestTo.data.toList.drop 118 = dktX0_fewestTo_5 := dk_seg dksX0_fewestTo_4 24 rfl rfl
theorem dksX0_fewestTo_6 : cX0_fewestTo.data.toList.drop 142 = dktX0_fewestTo_6 := dk_seg dksX0_fewestTo_5 24 rfl rfl
theorem dksX0_fewestTo_7 : cX0_fewestTo.data.toList.drop 165 = dktX0_fewestTo_7 := dk_seg dksX0_fewestTo_6 23 rfl rfl
theorem dksX0_fewestTo_8 : cX0_fewestTo.data.toList.drop 187 = dktX0_fewestTo_8 := dk_seg dksX0_fewestTo_7 22 rfl rfl
theorem dksX0_fewestTo_9 : cX0_fewestTo.data.toList.drop 210 = dktX0_fewestTo_9 := dk_seg dksX0_fewestTo_8 23 rfl rfl
theorem dksX0_fewestTo_10 : cX0_fewestTo.data.toList.drop 233 = dktX0_fewestTo_10 := dk_seg dksX0_fewestTo_9 23 rfl rfl
theorem dX0_fewestTo_0 : decode cX0_fewestTo 0 = .ok (.aload_n 1, 1) := dk_43 (dk_at dksX0_fewestTo_0 0 rfl rfl)
theorem dX0_fewestTo_1 : decode cX0_fewestTo 1 = .ok (.arraylength, 1) := dk_190 (dk_at dksX0_fewestTo_0 1 rfl rfl)
theorem dX0_fewestTo_2 : decode cX0_fewestTo 2 = .ok (.aload_n 0, 1) := dk_42 (dk_at dksX0_fewestTo_0 2 rfl rfl)
theorem dX0_fewestTo_3 : decode cX0_fewestTo 3 = .ok (.getfield 90, 3) := dk_180 0 90 (dk_at dksX0_fewestTo_0 3 rfl rfl)
theorem dX0_fewestTo_6 : decode cX0_fewestTo 6 = .ok (.if_icmp .ge 13, 3) := dk_162 0 13 (dk_at dksX0_fewestTo_0 6 rfl rfl)
theorem dX0_fewestTo_9 : decode cX0_fewestTo 9 = .ok (.new 244, 3) := dk_187 0 244 (dk_at dksX0_fewestTo_0 9 rfl rfl)
theorem dX0_fewestTo_12 : decode cX0_fewestTo 12 = .ok (.dup, 1) := dk_89 (dk_at dksX0_fewestTo_0 12 rfl rfl)
theorem dX0_fewestTo_13 : decode cX0_fewestTo 13 = .ok (.bipush (-13), 2) := dk_16 243 (dk_at dksX0_fewestTo_0 13 rfl rfl)
theorem dX0_fewestTo_15 : decode cX0_fewestTo 15 = .ok (.invokespecial 267, 3) := dk_183 1 11 (dk_at dksX0_fewestTo_0 15 rfl rfl)
theorem dX0_fewestTo_18 : decode cX0_fewestTo 18 = .ok (.athrow, 1) := dk_191 (dk_at dksX0_fewestTo_0 18 rfl rfl)
theorem dX0_fewestTo_19 : decode cX0_fewestTo 19 = .ok (.iconst 0, 1) := dk_3 (dk_at dksX0_fewestTo_0 19 rfl rfl)
theorem dX0_fewestTo_20 : decode cX0_fewestTo 20 = .ok (.istore_n 3, 1) := dk_62 (dk_at dksX0_fewestTo_0 20 rfl rfl)
theorem dX0_fewestTo_21 : decode cX0_fewestTo 21 = .ok (.aload_n 0, 1) := dk_42 (dk_at dksX0_fewestTo_0 21 rfl rfl)
theorem dX0_fewestTo_22 : decode cX0_fewestTo 22 = .ok (.getfield 90, 3) := dk_180 0 90 (dk_at dksX0_fewestTo_1 0 rfl rfl)
theorem dX0_fewestTo_25 : decode cX0_fewestTo 25 = .ok (.newarray .int, 2) := dk_188_10 (dk_at dksX0_fewestTo_1 3 rfl rfl)
theorem dX0_fewestTo_27 : decode cX0_fewestTo 27 = .ok (.astore 4, 2) := dk_58 4 (dk_at dksX0_fewestTo_1 5 rfl rfl)
theorem dX0_fewestTo_29 : decode cX0_fewestTo 29 = .ok (.aload_n 0, 1) := dk_42 (dk_at dksX0_fewestTo_1 7 rfl rfl)
theorem dX0_fewestTo_30 : decode cX0_fewestTo 30 = .ok (.getfield 90, 3) := dk_180 0 90 (dk_at dksX0_fewestTo_1 8 rfl rfl)
theorem dX0_fewestTo_33 : decode cX0_fewestTo 33 = .ok (.newarray .int, 2) := dk_188_10 (dk_at dksX0_fewestTo_1 11 rfl rfl)
theorem dX0_fewestTo_35 : decode cX0_fewestTo 35 = .ok (.astore 5, 2) := dk_58 5 (dk_at dksX0_fewestTo_1 13 rfl rfl)
theorem dX0_fewestTo_37 : decode cX0_fewestTo 37 = .ok (.iconst 0, 1) := dk_3 (dk_at dksX0_fewestTo_1 15 rfl rfl)
theorem dX0_fewestTo_38 : decode cX0_fewestTo 38 = .ok (.istore 6, 2) := dk_54 6 (dk_at dksX0_fewestTo_1 16 rfl rfl)
theorem dX0_fewestTo_40 : decode cX0_fewestTo 40 = .ok (.iload 6, 2) := dk_21 6 (dk_at dksX0_fewestTo_1 18 rfl rfl)
theorem dX0_fewestTo_42 : decode cX0_fewestTo 42 = .ok (.aload_n 0, 1) := dk_42 (dk_at dksX0_fewestTo_1 20 rfl rfl)
theorem dX0_fewestTo_43 : decode cX0_fewestTo 43 = .ok (.getfield 90, 3) := dk_180 0 90 (dk_at dksX0_fewestTo_1 21 rfl rfl)
theorem dX0_fewestTo_46 : decode cX0_fewestTo 46 = .ok (.if_icmp .ge 71, 3) := dk_162 0 71 (dk_at dksX0_fewestTo_2 0 rfl rfl)
theorem dX0_fewestTo_49 : decode cX0_fewestTo 49 = .ok (.aload_n 1, 1) := dk_43 (dk_at dksX0_fewestTo_2 3 rfl rfl)
theorem dX0_fewestTo_50 : decode cX0_fewestTo 50 = .ok (.iload 6, 2) := dk_21 6 (dk_at dksX0_fewestTo_2 4 rfl rfl)
theorem dX0_fewestTo_52 : decode cX0_fewestTo 52 = .ok (.baload, 1) := dk_51 (dk_at dksX0_fewestTo_2 6 rfl rfl)
theorem dX0_fewestTo_53 : decode cX0_fewestTo 53 = .ok (.iconst 0, 1) := dk_3 (dk_at dksX0_fewestTo_2 7 rfl rfl)
theorem dX0_fewestTo_54 : decode cX0_fewestTo 54 = .ok (.aload_n 0, 1) := dk_42 (dk_at dksX0_fewestTo_2 8 rfl rfl)
theorem dX0_fewestTo_55 : decode cX0_fewestTo 55 = .ok (.getfield 90, 3) := dk_180 0 90 (dk_at dksX0_fewestTo_2 9 rfl rfl)
theorem dX0_fewestTo_58 : decode cX0_fewestTo 58 = .ok (.iconst 1, 1) := dk_4 (dk_at dksX0_fewestTo_2 12 rfl rfl)
theorem dX0_fewestTo_59 : decode cX0_fewestTo 59 = .ok (.isub, 1) := dk_100 (dk_at dksX0_fewestTo_2 13 rfl rfl)
theorem dX0_fewestTo_60 : decode cX0_fewestTo 60 = .ok (.invokestatic 86, 3) := dk_184 0 86 (dk_at dksX0_fewestTo_2 14 rfl rfl)
theorem dX0_fewestTo_63 : decode cX0_fewestTo 63 = .ok (.ifCond .eq 15, 3) := dk_153 0 15 (dk_at dksX0_fewestTo_2 17 rfl rfl)
theorem dX0_fewestTo_66 : decode cX0_fewestTo 66 = .ok (.iload_n 3, 1) := dk_29 (dk_at dksX0_fewestTo_2 20 rfl rfl)
theorem dX0_fewestTo_67 : decode cX0_fewestTo 67 = .ok (.aload_n 1, 1) := dk_43 (dk_at dksX0_fewestTo_2 21 rfl rfl)
theorem dX0_fewestTo_68 : decode cX0_fewestTo 68 = .ok (.iload 6, 2) := dk_21 6 (dk_at dksX0_fewestTo_2 22 rfl rfl)
theorem dX0_fewestTo_70 : decode cX0_fewestTo 70 = .ok (.baload, 1) := dk_51 (dk_at dksX0_fewestTo_3 0 rfl rfl)
theorem dX0_fewestTo_71 : decode cX0_fewestTo 71 = .ok (.ishr, 1) := dk_122 (dk_at dksX0_fewestTo_3 1 rfl rfl)
theorem dX0_fewestTo_72 : decode cX0_fewestTo 72 = .ok (.iconst 1, 1) := dk_4 (dk_at dksX0_fewestTo_3 2 rfl rfl)
theorem dX0_fewestTo_73 : decode cX0_fewestTo 73 = .ok (.iand, 1) := dk_126 (dk_at dksX0_fewestTo_3 3 rfl rfl)
theorem dX0_fewestTo_74 : decode cX0_fewestTo 74 = .ok (.iconst 1, 1) := dk_4 (dk_at dksX0_fewestTo_3 4 rfl rfl)
theorem dX0_fewestTo_75 : decode cX0_fewestTo 75 = .ok (.if_icmp .ne 6, 3) := dk_160 0 6 (dk_at dksX0_fewestTo_3 5 rfl rfl)
theorem dX0_fewestTo_78 : decode cX0_fewestTo 78 = .ok (.bipush (-2), 2) := dk_16 254 (dk_at dksX0_fewestTo_3 8 rfl rfl)
theorem dX0_fewestTo_80 : decode cX0_fewestTo 80 = .ok (.ireturn, 1) := dk_172 (dk_at dksX0_fewestTo_3 10 rfl rfl)
theorem dX0_fewestTo_81 : decode cX0_fewestTo 81 = .ok (.iload_n 3, 1) := dk_29 (dk_at dksX0_fewestTo_3 11 rfl rfl)
theorem dX0_fewestTo_82 : decode cX0_fewestTo 82 = .ok (.iconst 1, 1) := dk_4 (dk_at dksX0_fewestTo_3 12 rfl rfl)
theorem dX0_fewestTo_83 : decode cX0_fewestTo 83 = .ok (.aload_n 1, 1) := dk_43 (dk_at dksX0_fewestTo_3 13 rfl rfl)
theorem dX0_fewestTo_84 : decode cX0_fewestTo 84 = .ok (.iload 6, 2) := dk_21 6 (dk_at dksX0_fewestTo_3 14 rfl rfl)
theorem dX0_fewestTo_86 : decode cX0_fewestTo 86 = .ok (.baload, 1) := dk_51 (dk_at dksX0_fewestTo_3 16 rfl rfl)
theorem dX0_fewestTo_87 : decode cX0_fewestTo 87 = .ok (.ishl, 1) := dk_120 (dk_at dksX0_fewestTo_3 17 rfl rfl)
theorem dX0_fewestTo_88 : decode cX0_fewestTo 88 = .ok (.ior, 1) := dk_128 (dk_at dksX0_fewestTo_3 18 rfl rfl)
theorem dX0_fewestTo_89 : decode cX0_fewestTo 89 = .ok (.istore_n 3, 1) := dk_62 (dk_at dksX0_fewestTo_3 19 rfl rfl)
theorem dX0_fewestTo_90 : decode cX0_fewestTo 90 = .ok (.aload 4, 2) := dk_25 4 (dk_at dksX0_fewestTo_3 20 rfl rfl)
theorem dX0_fewestTo_92 : decode cX0_fewestTo 92 = .ok (.iload 6, 2) := dk_21 6 (dk_at dksX0_fewestTo_3 22 rfl rfl)
theorem dX0_fewestTo_94 : decode cX0_fewestTo 94 = .ok (.aload_n 1, 1) := dk_43 (dk_at dksX0_fewestTo_4 0 rfl rfl)
theorem dX0_fewestTo_95 : decode cX0_fewestTo 95 = .ok (.iload 6, 2) := dk_21 6 (dk_at dksX0_fewestTo_4 1 rfl rfl)
theorem dX0_fewestTo_97 : decode cX0_fewestTo 97 = .ok (.baload, 1) := dk_51 (dk_at dksX0_fewestTo_4 3 rfl rfl)
theorem dX0_fewestTo_98 : decode cX0_fewestTo 98 = .ok (.iastore, 1) := dk_79 (dk_at dksX0_fewestTo_4 4 rfl rfl)
theorem dX0_fewestTo_99 : decode cX0_fewestTo 99 = .ok (.aload 5, 2) := dk_25 5 (dk_at dksX0_fewestTo_4 5 rfl rfl)
theorem dX0_fewestTo_101 : decode cX0_fewestTo 101 = .ok (.iload 6, 2) := dk_21 6 (dk_at dksX0_fewestTo_4 7 rfl rfl)
theorem dX0_fewestTo_103 : decode cX0_fewestTo 103 = .ok (.aload_n 0, 1) := dk_42 (dk_at dksX0_fewestTo_4 9 rfl rfl)
theorem dX0_fewestTo_104 : decode cX0_fewestTo 104 = .ok (.iload 6, 2) := dk_21 6 (dk_at dksX0_fewestTo_4 10 rfl rfl)
theorem dX0_fewestTo_106 : decode cX0_fewestTo 106 = .ok (.iconst 3, 1) := dk_6 (dk_at dksX0_fewestTo_4 12 rfl rfl)
theorem dX0_fewestTo_107 : decode cX0_fewestTo 107 = .ok (.invokevirtual 268, 3) := dk_182 1 12 (dk_at dksX0_fewestTo_4 13 rfl rfl)
theorem dX0_fewestTo_110 : decode cX0_fewestTo 110 = .ok (.iastore, 1) := dk_79 (dk_at dksX0_fewestTo_4 16 rfl rfl)
theorem dX0_fewestTo_111 : decode cX0_fewestTo 111 = .ok (.iinc 6 1, 3) := dk_132 6 1 (dk_at dksX0_fewestTo_4 17 rfl rfl)
theorem dX0_fewestTo_114 : decode cX0_fewestTo 114 = .ok (.goto (-74), 3) := dk_167 255 182 (dk_at dksX0_fewestTo_4 20 rfl rfl)
theorem dX0_fewestTo_117 : decode cX0_fewestTo 117 = .ok (.aload_n 0, 1) := dk_42 (dk_at dksX0_fewestTo_4 23 rfl rfl)
theorem dX0_fewestTo_118 : decode cX0_fewestTo 118 = .ok (.getfield 271, 3) := dk_180 1 15 (dk_at dksX0_fewestTo_5 0 rfl rfl)
theorem dX0_fewestTo_121 : decode cX0_fewestTo 121 = .ok (.ifnull 17, 3) := dk_198 0 17 (dk_at dksX0_fewestTo_5 3 rfl rfl)
theorem dX0_fewestTo_124 : decode cX0_fewestTo 124 = .ok (.aload_n 0, 1) := dk_42 (dk_at dksX0_fewestTo_5 6 rfl rfl)
theorem dX0_fewestTo_125 : decode cX0_fewestTo 125 = .ok (.getfield 271, 3) := dk_180 1 15 (dk_at dksX0_fewestTo_5 7 rfl rfl)
theorem dX0_fewestTo_128 : decode cX0_fewestTo 128 = .ok (.getfield 275, 3) := dk_180 1 19 (dk_at dksX0_fewestTo_5 10 rfl rfl)
theorem dX0_fewestTo_131 : decode cX0_fewestTo 131 = .ok (.aload_n 0, 1) := dk_42 (dk_at dksX0_fewestTo_5 13 rfl rfl)
theorem dX0_fewestTo_132 : decode cX0_fewestTo 132 = .ok (.getfield 90, 3) := dk_180 0 90 (dk_at dksX0_fewestTo_5 14 rfl rfl)
theorem dX0_fewestTo_135 : decode cX0_fewestTo 135 = .ok (.if_icmp .eq 18, 3) := dk_159 0 18 (dk_at dksX0_fewestTo_5 17 rfl rfl)
theorem dX0_fewestTo_138 : decode cX0_fewestTo 138 = .ok (.aload_n 0, 1) := dk_42 (dk_at dksX0_fewestTo_5 20 rfl rfl)
theorem dX0_fewestTo_139 : decode cX0_fewestTo 139 = .ok (.new 276, 3) := dk_187 1 20 (dk_at dksX0_fewestTo_5 21 rfl rfl)
theorem dX0_fewestTo_142 : decode cX0_fewestTo 142 = .ok (.dup, 1) := dk_89 (dk_at dksX0_fewestTo_6 0 rfl rfl)
theorem dX0_fewestTo_143 : decode cX0_fewestTo 143 = .ok (.aload_n 0, 1) := dk_42 (dk_at dksX0_fewestTo_6 1 rfl rfl)
theorem dX0_fewestTo_144 : decode cX0_fewestTo 144 = .ok (.getfield 90, 3) := dk_180 0 90 (dk_at dksX0_fewestTo_6 2 rfl rfl)
theorem dX0_fewestTo_147 : decode cX0_fewestTo 147 = .ok (.invokespecial 280, 3) := dk_183 1 24 (dk_at dksX0_fewestTo_6 5 rfl rfl)
theorem dX0_fewestTo_150 : decode cX0_fewestTo 150 = .ok (.putfield 271, 3) := dk_181 1 15 (dk_at dksX0_fewestTo_6 8 rfl rfl)
theorem dX0_fewestTo_153 : decode cX0_fewestTo 153 = .ok (.aload_n 0, 1) := dk_42 (dk_at dksX0_fewestTo_6 11 rfl rfl)
theorem dX0_fewestTo_154 : decode cX0_fewestTo 154 = .ok (.getfield 271, 3) := dk_180 1 15 (dk_at dksX0_fewestTo_6 12 rfl rfl)
theorem dX0_fewestTo_157 : decode cX0_fewestTo 157 = .ok (.astore 6, 2) := dk_58 6 (dk_at dksX0_fewestTo_6 15 rfl rfl)
theorem dX0_fewestTo_159 : decode cX0_fewestTo 159 = .ok (.aload 6, 2) := dk_25 6 (dk_at dksX0_fewestTo_6 17 rfl rfl)
theorem dX0_fewestTo_161 : decode cX0_fewestTo 161 = .ok (.aload 6, 2) := dk_25 6 (dk_at dksX0_fewestTo_6 19 rfl rfl)
theorem dX0_fewestTo_163 : decode cX0_fewestTo 163 = .ok (.aload 4, 2) := dk_25 4 (dk_at dksX0_fewestTo_6 21 rfl rfl)
theorem dX0_fewestTo_165 : decode cX0_fewestTo 165 = .ok (.invokevirtual 281, 3) := dk_182 1 25 (dk_at dksX0_fewestTo_7 0 rfl rfl)
theorem dX0_fewestTo_168 : decode cX0_fewestTo 168 = .ok (.invokevirtual 284, 3) := dk_182 1 28 (dk_at dksX0_fewestTo_7 3 rfl rfl)
theorem dX0_fewestTo_171 : decode cX0_fewestTo 171 = .ok (.aload 6, 2) := dk_25 6 (dk_at dksX0_fewestTo_7 6 rfl rfl)
theorem dX0_fewestTo_173 : decode cX0_fewestTo 173 = .ok (.aload 5, 2) := dk_25 5 (dk_at dksX0_fewestTo_7 8 rfl rfl)
theorem dX0_fewestTo_175 : decode cX0_fewestTo 175 = .ok (.invokevirtual 281, 3) := dk_182 1 25 (dk_at dksX0_fewestTo_7 10 rfl rfl)
theorem dX0_fewestTo_178 : decode cX0_fewestTo 178 = .ok (.istore 7, 2) := dk_54 7 (dk_at dksX0_fewestTo_7 13 rfl rfl)
theorem dX0_fewestTo_180 : decode cX0_fewestTo 180 = .ok (.iload_n 2, 1) := dk_28 (dk_at dksX0_fewestTo_7 15 rfl rfl)
theorem dX0_fewestTo_181 : decode cX0_fewestTo 181 = .ok (.iconst (-1), 1) := dk_2 (dk_at dksX0_fewestTo_7 16 rfl rfl)
theorem dX0_fewestTo_182 : decode cX0_fewestTo 182 = .ok (.if_icmp .ne 12, 3) := dk_160 0 12 (dk_at dksX0_fewestTo_7 17 rfl rfl)
theorem dX0_fewestTo_185 : decode cX0_fewestTo 185 = .ok (.aload 6, 2) := dk_25 6 (dk_at dksX0_fewestTo_7 20 rfl rfl)
theorem dX0_fewestTo_187 : decode cX0_fewestTo 187 = .ok (.getfield 286, 3) := dk_180 1 30 (dk_at dksX0_fewestTo_8 0 rfl rfl)
theorem dX0_fewestTo_190 : decode cX0_fewestTo 190 = .ok (.iload 7, 2) := dk_21 7 (dk_at dksX0_fewestTo_8 3 rfl rfl)
theorem dX0_fewestTo_192 : decode cX0_fewestTo 192 = .ok (.iaload, 1) := dk_46 (dk_at dksX0_fewestTo_8 5 rfl rfl)
theorem dX0_fewestTo_193 : decode cX0_fewestTo 193 = .ok (.ireturn, 1) := dk_172 (dk_at dksX0_fewestTo_8 6 rfl rfl)
theorem dX0_fewestTo_194 : decode cX0_fewestTo 194 = .ok (.iconst 0, 1) := dk_3 (dk_at dksX0_fewestTo_8 7 rfl rfl)
theorem dX0_fewestTo_195 : decode cX0_fewestTo 195 = .ok (.istore 8, 2) := dk_54 8 (dk_at dksX0_fewestTo_8 8 rfl rfl)
theorem dX0_fewestTo_197 : decode cX0_fewestTo 197 = .ok (.aload 6, 2) := dk_25 6 (dk_at dksX0_fewestTo_8 10 rfl rfl)
theorem dX0_fewestTo_199 : decode cX0_fewestTo 199 = .ok (.getfield 286, 3) := dk_180 1 30 (dk_at dksX0_fewestTo_8 12 rfl rfl)
theorem dX0_fewestTo_202 : decode cX0_fewestTo 202 = .ok (.iload 7, 2) := dk_21 7 (dk_at dksX0_fewestTo_8 15 rfl rfl)
theorem dX0_fewestTo_204 : decode cX0_fewestTo 204 = .ok (.iaload, 1) := dk_46 (dk_at dksX0_fewestTo_8 17 rfl rfl)
theorem dX0_fewestTo_205 : decode cX0_fewestTo 205 = .ok (.ifCond .le 39, 3) := dk_158 0 39 (dk_at dksX0_fewestTo_8 18 rfl rfl)
theorem dX0_fewestTo_208 : decode cX0_fewestTo 208 = .ok (.aload 6, 2) := dk_25 6 (dk_at dksX0_fewestTo_8 21 rfl rfl)
theorem dX0_fewestTo_210 : decode cX0_fewestTo 210 = .ok (.iload 7, 2) := dk_21 7 (dk_at dksX0_fewestTo_9 0 rfl rfl)
theorem dX0_fewestTo_212 : decode cX0_fewestTo 212 = .ok (.invokevirtual 289, 3) := dk_182 1 33 (dk_at dksX0_fewestTo_9 2 rfl rfl)
theorem dX0_fewestTo_215 : decode cX0_fewestTo 215 = .ok (.istore 9, 2) := dk_54 9 (dk_at dksX0_fewestTo_9 5 rfl rfl)
theorem dX0_fewestTo_217 : decode cX0_fewestTo 217 = .ok (.iload 8, 2) := dk_21 8 (dk_at dksX0_fewestTo_9 7 rfl rfl)
theorem dX0_fewestTo_219 : decode cX0_fewestTo 219 = .ok (.iload_n 2, 1) := dk_28 (dk_at dksX0_fewestTo_9 9 rfl rfl)
theorem dX0_fewestTo_220 : decode cX0_fewestTo 220 = .ok (.if_icmp .ne 6, 3) := dk_160 0 6 (dk_at dksX0_fewestTo_9 10 rfl rfl)
theorem dX0_fewestTo_223 : decode cX0_fewestTo 223 = .ok (.iload 9, 2) := dk_21 9 (dk_at dksX0_fewestTo_9 13 rfl rfl)
theorem dX0_fewestTo_225 : decode cX0_fewestTo 225 = .ok (.ireturn, 1) := dk_172 (dk_at dksX0_fewestTo_9 15 rfl rfl)
theorem dX0_fewestTo_226 : decode cX0_fewestTo 226 = .ok (.aload 6, 2) := dk_25 6 (dk_at dksX0_fewestTo_9 16 rfl rfl)
theorem dX0_fewestTo_228 : decode cX0_fewestTo 228 = .ok (.aload 6, 2) := dk_25 6 (dk_at dksX0_fewestTo_9 18 rfl rfl)
theorem dX0_fewestTo_230 : decode cX0_fewestTo 230 = .ok (.getfield 292, 3) := dk_180 1 36 (dk_at dksX0_fewestTo_9 20 rfl rfl)
theorem dX0_fewestTo_233 : decode cX0_fewestTo 233 = .ok (.invokevirtual 281, 3) := dk_182 1 25 (dk_at dksX0_fewestTo_10 0 rfl rfl)
theorem dX0_fewestTo_236 : decode cX0_fewestTo 236 = .ok (.istore 7, 2) := dk_54 7 (dk_at dksX0_fewestTo_10 3 rfl rfl)
theorem dX0_fewestTo_238 : decode cX0_fewestTo 238 = .ok (.iinc 8 1, 3) := dk_132 8 1 (dk_at dksX0_fewestTo_10 5 rfl rfl)
theorem dX0_fewestTo_241 : decode cX0_fewestTo 241 = .ok (.goto (-44), 3) := dk_167 255 212 (dk_at dksX0_fewestTo_10 8 rfl rfl)
theorem dX0_fewestTo_244 : decode cX0_fewestTo 244 = .ok (.iconst (-1), 1) := dk_2 (dk_at dksX0_fewestTo_10 11 rfl rfl)
theorem dX0_fewestTo_245 : decode cX0_fewestTo 245 = .ok (.ireturn, 1) := dk_172 (dk_at dksX0_fewestTo_10 12 rfl rfl)
abbrev cX0_set : ByteArray := prog_1_method_47_code
def yX0_set : MethodName := ⟨RX0, "set", "(II)I"⟩
def dkwX0_set_2 : List UInt8 := [180, 0, 78, 28, 46, 172]
abbrev dktX0_set_2 : List UInt8 := dkwX0_set_2 ++ []
def dkwX0_set_1 : List UInt8 := [154, 0, 5, 2, 172, 42, 27, 182, 1, 78, 28, 2, 160, 0, 10, 42, 180, 1, 61, 167, 0, 9, 42]
abbrev dktX0_set_1 : List UInt8 := dkwX0_set_1 ++ dktX0_set_2
def dkwX0_set_0 : List UInt8 := [42, 27, 182, 1, 77, 62, 29, 153, 0, 5, 29, 172, 28, 2, 42, 180, 0, 90, 4, 100, 184, 0, 86]
abbrev dktX0_set_0 : List UInt8 := dkwX0_set_0 ++ dktX0_set_1
theorem dksX0_set_0 : cX0_set.data.toList.drop 0 = dktX0_set_0 := by decide +kernel
theorem dksX0_set_1 : cX0_set.data.toList.drop 23 = dktX0_set_1 := dk_seg dksX0_set_0 23 rfl rfl
theorem dksX0_set_2 : cX0_set.data.toList.drop 46 = dktX0_set_2 := dk_seg dksX0_set_1 23 rfl rfl
theorem dX0_set_0 : decode cX0_set 0 = .ok (.aload_n 0, 1) := dk_42 (dk_at dksX0_set_0 0 rfl rfl)
theorem dX0_set_1 : decode cX0_set 1 = .ok (.iload_n 1, 1) := dk_27 (dk_at dksX0_set_0 1 rfl rfl)
theorem dX0_set_2 : decode cX0_set 2 = .ok (.invokevirtual 333, 3) := dk_182 1 77 (dk_at dksX0_set_0 2 rfl rfl)
theorem dX0_set_5 : decode cX0_set 5 = .ok (.istore_n 3, 1) := dk_62 (dk_at dksX0_set_0 5 rfl rfl)
theorem dX0_set_6 : decode cX0_set 6 = .ok (.iload_n 3, 1) := dk_29 (dk_at dksX0_set_0 6 rfl rfl)
theorem dX0_set_7 : decode cX0_set 7 = .ok (.ifCond .eq 5, 3) := dk_153 0 5 (dk_at dksX0_set_0 7 rfl rfl)
theorem dX0_set_10 : decode cX0_set 10 = .ok (.iload_n 3, 1) := dk_29 (dk_at dksX0_set_0 10 rfl rfl)
theorem dX0_set_11 : decode cX0_set 11 = .ok (.ireturn, 1) := dk_172 (dk_at dksX0_set_0 11 rfl rfl)
theorem dX0_set_12 : decode cX0_set 12 = .ok (.iload_n 2, 1) := dk_28 (dk_at dksX0_set_0 12 rfl rfl)
theorem dX0_set_13 : decode cX0_set 13 = .ok (.iconst (-1), 1) := dk_2 (dk_at dksX0_set_0 13 rfl rfl)
theorem dX0_set_14 : decode cX0_set 14 = .ok (.aload_n 0, 1) := dk_42 (dk_at dksX0_set_0 14 rfl rfl)
theorem dX0_set_15 : decode cX0_set 15 = .ok (.getfield 90, 3) := dk_180 0 90 (dk_at dksX0_set_0 15 rfl rfl)
theorem dX0_set_18 : decode cX0_set 18 = .ok (.iconst 1, 1) := dk_4 (dk_at dksX0_set_0 18 rfl rfl)
theorem dX0_set_19 : decode cX0_set 19 = .ok (.isub, 1) := dk_100 (dk_at dksX0_set_0 19 rfl rfl)
theorem dX0_set_20 : decode cX0_set 20 = .ok (.invokestatic 86, 3) := dk_184 0 86 (dk_at dksX0_set_0 20 rfl rfl)
theorem dX0_set_23 : decode cX0_set 23 = .ok (.ifCond .ne 5, 3) := dk_154 0 5 (dk_at dksX0_set_1 0 rfl rfl)
theorem dX0_set_26 : decode cX0_set 26 = .ok (.iconst (-1), 1) := dk_2 (dk_at dksX0_set_1 3 rfl rfl)
theorem dX0_set_27 : decode cX0_set 27 = .ok (.ireturn, 1) := dk_172 (dk_at dksX0_set_1 4 rfl rfl)
theorem dX0_set_28 : decode cX0_set 28 = .ok (.aload_n 0, 1) := dk_42 (dk_at dksX0_set_1 5 rfl rfl)
theorem dX0_set_29 : decode cX0_set 29 = .ok (.iload_n 1, 1) := dk_27 (dk_at dksX0_set_1 6 rfl rfl)
theorem dX0_set_30 : decode cX0_set 30 = .ok (.invokevirtual 334, 3) := dk_182 1 78 (dk_at dksX0_set_1 7 rfl rfl)
theorem dX0_set_33 : decode cX0_set 33 = .ok (.iload_n 2, 1) := dk_28 (dk_at dksX0_set_1 10 rfl rfl)
theorem dX0_set_34 : decode cX0_set 34 = .ok (.iconst (-1), 1) := dk_2 (dk_at dksX0_set_1 11 rfl rfl)
theorem dX0_set_35 : decode cX0_set 35 = .ok (.if_icmp .ne 10, 3) := dk_160 0 10 (dk_at dksX0_set_1 12 rfl rfl)
theorem dX0_set_38 : decode cX0_set 38 = .ok (.aload_n 0, 1) := dk_42 (dk_at dksX0_set_1 15 rfl rfl)
theorem dX0_set_39 : decode cX0_set 39 = .ok (.getfield 317, 3) := dk_180 1 61 (dk_at dksX0_set_1 16 rfl rfl)
theorem dX0_set_42 : decode cX0_set 42 = .ok (.goto 9, 3) := dk_167 0 9 (dk_at dksX0_set_1 19 rfl rfl)
theorem dX0_set_45 : decode cX0_set 45 = .ok (.aload_n 0, 1) := dk_42 (dk_at dksX0_set_1 22 rfl rfl)
theorem dX0_set_46 : decode cX0_set 46 = .ok (.getfield 78, 3) := dk_180 0 78 (dk_at dksX0_set_2 0 rfl rfl)
theorem dX0_set_49 : decode cX0_set 49 = .ok (.iload_n 2, 1) := dk_28 (dk_at dksX0_set_2 3 rfl rfl)
theorem dX0_set_50 : decode cX0_set 50 = .ok (.iaload, 1) := dk_46 (dk_at dksX0_set_2 4 rfl rfl)
theorem dX0_set_51 : decode cX0_set 51 = .ok (.ireturn, 1) := dk_172 (dk_at dksX0_set_2 5 rfl rfl)
abbrev cX0_refuses : ByteArray := prog_1_method_45_code
def yX0_refuses : MethodName := ⟨RX0, "refuses", "(I)I"⟩
def dkwX0_refuses_3 : List UInt8 := [180, 0, 11, 28, 50, 193, 0, 108, 153, 0, 6, 16, 254, 172, 132, 2, 1, 167, 255, 221, 3, 172]
abbrev dktX0_refuses_3 : List UInt8 := dkwX0_refuses_3 ++ []
def dkwX0_refuses_2 : List UInt8 := [16, 254, 172, 3, 61, 28, 42, 180, 0, 82, 162, 0, 33, 27, 28, 122, 4, 126, 4, 160, 0, 18, 42]
abbrev dktX0_refuses_2 : List UInt8 := dkwX0_refuses_2 ++ dktX0_refuses_3
def dkwX0_refuses_1 : List UInt8 := [180, 0, 82, 120, 4, 100, 184, 0, 86, 153, 0, 14, 27, 184, 1, 71, 42, 180, 0, 90, 159, 0, 6]
abbrev dktX0_refuses_1 : List UInt8 := dkwX0_refuses_1 ++ dktX0_refuses_2
def dkwX0_refuses_0 : List UInt8 := [42, 180, 0, 90, 153, 0, 12, 42, 180, 0, 90, 16, 7, 164, 0, 6, 16, 253, 172, 27, 3, 4, 42]
abbrev dktX0_refuses_0 : List UInt8 := dkwX0_refuses_0 ++ dktX0_refuses_1
theorem dksX0_refuses_0 : cX0_refuses.data.toList.drop 0 = dktX0_refuses_0 := by decide +kernel
theorem dksX0_refuses_1 : cX0_refuses.data.toList.drop 23 = dktX0_refuses_1 := dk_seg dksX0_refuses_0 23 rfl rfl
theorem dksX0_refuses_2 : cX0_refuses.data.toList.drop 46 = dktX0_refuses_2 := dk_seg dksX0_refuses_1 23 rfl rfl
theorem dksX0_refuses_3 : cX0_refuses.data.toList.drop 69 = dktX0_refuses_3 := dk_seg dksX0_refuses_2 23 rfl rfl
theorem dX0_refuses_0 : decode cX0_refuses 0 = .ok (.aload_n 0, 1) := dk_42 (dk_at dksX0_refuses_0 0 rfl rfl)
theorem dX0_refuses_1 : decode cX0_refuses 1 = .ok (.getfield 90, 3) := dk_180 0 90 (dk_at dksX0_refuses_0 1 rfl rfl)
theorem dX0_refuses_4 : decode cX0_refuses 4 = .ok (.ifCond .eq 12, 3) := dk_153 0 12 (dk_at dksX0_refuses_0 4 rfl rfl)
theorem dX0_refuses_7 : decode cX0_refuses 7 = .ok (.aload_n 0, 1) := dk_42 (dk_at dksX0_refuses_0 7 rfl rfl)
theorem dX0_refuses_8 : decode cX0_refuses 8 = .ok (.getfield 90, 3) := dk_180 0 90 (dk_at dksX0_refuses_0 8 rfl rfl)
theorem dX0_refuses_11 : decode cX0_refuses 11 = .ok (.bipush 7, 2) := dk_16 7 (dk_at dksX0_refuses_0 11 rfl rfl)
theorem dX0_refuses_13 : decode cX0_refuses 13 = .ok (.if_icmp .le 6, 3) := dk_164 0 6 (dk_at dksX0_refuses_0 13 rfl rfl)
theorem dX0_refuses_16 : decode cX0_refuses 16 = .ok (.bipush (-3), 2) := dk_16 253 (dk_at dksX0_refuses_0 16 rfl rfl)
theorem dX0_refuses_18 : decode cX0_refuses 18 = .ok (.ireturn, 1) := dk_172 (dk_at dksX0_refuses_0 18 rfl rfl)
theorem dX0_refuses_19 : decode cX0_refuses 19 = .ok (.iload_n 1, 1) := dk_27 (dk_at dksX0_refuses_0 19 rfl rfl)
theorem dX0_refuses_20 : decode cX0_refuses 20 = .ok (.iconst 0, 1) := dk_3 (dk_at dksX0_refuses_0 20 rfl rfl)
theorem dX0_refuses_21 : decode cX0_refuses 21 = .ok (.iconst 1, 1) := dk_4 (dk_at dksX0_refuses_0 21 rfl rfl)
theorem dX0_refuses_22 : decode cX0_refuses 22 = .ok (.aload_n 0, 1) := dk_42 (dk_at dksX0_refuses_0 22 rfl rfl)
theorem dX0_refuses_23 : decode cX0_refuses 23 = .ok (.getfield 82, 3) := dk_180 0 82 (dk_at dksX0_refuses_1 0 rfl rfl)
theorem dX0_refuses_26 : decode cX0_refuses 26 = .ok (.ishl, 1) := dk_120 (dk_at dksX0_refuses_1 3 rfl rfl)
theorem dX0_refuses_27 : decode cX0_refuses 27 = .ok (.iconst 1, 1) := dk_4 (dk_at dksX0_refuses_1 4 rfl rfl)
theorem dX0_refuses_28 : decode cX0_refuses 28 = .ok (.isub, 1) := dk_100 (dk_at dksX0_refuses_1 5 rfl rfl)
theorem dX0_refuses_29 : decode cX0_refuses 29 = .ok (.invokestatic 86, 3) := dk_184 0 86 (dk_at dksX0_refuses_1 6 rfl rfl)
theorem dX0_refuses_32 : decode cX0_refuses 32 = .ok (.ifCond .eq 14, 3) := dk_153 0 14 (dk_at dksX0_refuses_1 9 rfl rfl)
theorem dX0_refuses_35 : decode cX0_refuses 35 = .ok (.iload_n 1, 1) := dk_27 (dk_at dksX0_refuses_1 12 rfl rfl)
theorem dX0_refuses_36 : decode cX0_refuses 36 = .ok (.invokestatic 327, 3) := dk_184 1 71 (dk_at dksX0_refuses_1 13 rfl rfl)
theorem dX0_refuses_39 : decode cX0_refuses 39 = .ok (.aload_n 0, 1) := dk_42 (dk_at dksX0_refuses_1 16 rfl rfl)
theorem dX0_refuses_40 : decode cX0_refuses 40 = .ok (.getfield 90, 3) := dk_180 0 90 (dk_at dksX0_refuses_1 17 rfl rfl)
theorem dX0_refuses_43 : decode cX0_refuses 43 = .ok (.if_icmp .eq 6, 3) := dk_159 0 6 (dk_at dksX0_refuses_1 20 rfl rfl)
theorem dX0_refuses_46 : decode cX0_refuses 46 = .ok (.bipush (-2), 2) := dk_16 254 (dk_at dksX0_refuses_2 0 rfl rfl)
theorem dX0_refuses_48 : decode cX0_refuses 48 = .ok (.ireturn, 1) := dk_172 (dk_at dksX0_refuses_2 2 rfl rfl)
theorem dX0_refuses_49 : decode cX0_refuses 49 = .ok (.iconst 0, 1) := dk_3 (dk_at dksX0_refuses_2 3 rfl rfl)
theorem dX0_refuses_50 : decode cX0_refuses 50 = .ok (.istore_n 2, 1) := dk_61 (dk_at dksX0_refuses_2 4 rfl rfl)
theorem dX0_refuses_51 : decode cX0_refuses 51 = .ok (.iload_n 2, 1) := dk_28 (dk_at dksX0_refuses_2 5 rfl rfl)
theorem dX0_refuses_52 : decode cX0_refuses 52 = .ok (.aload_n 0, 1) := dk_42 (dk_at dksX0_refuses_2 6 rfl rfl)
theorem dX0_refuses_53 : decode cX0_refuses 53 = .ok (.getfield 82, 3) := dk_180 0 82 (dk_at dksX0_refuses_2 7 rfl rfl)
theorem dX0_refuses_56 : decode cX0_refuses 56 = .ok (.if_icmp .ge 33, 3) := dk_162 0 33 (dk_at dksX0_refuses_2 10 rfl rfl)
theorem dX0_refuses_59 : decode cX0_refuses 59 = .ok (.iload_n 1, 1) := dk_27 (dk_at dksX0_refuses_2 13 rfl rfl)
theorem dX0_refuses_60 : decode cX0_refuses 60 = .ok (.iload_n 2, 1) := dk_28 (dk_at dksX0_refuses_2 14 rfl rfl)
theorem dX0_refuses_61 : decode cX0_refuses 61 = .ok (.ishr, 1) := dk_122 (dk_at dksX0_refuses_2 15 rfl rfl)
theorem dX0_refuses_62 : decode cX0_refuses 62 = .ok (.iconst 1, 1) := dk_4 (dk_at dksX0_refuses_2 16 rfl rfl)
theorem dX0_refuses_63 : decode cX0_refuses 63 = .ok (.iand, 1) := dk_126 (dk_at dksX0_refuses_2 17 rfl rfl)
theorem dX0_refuses_64 : decode cX0_refuses 64 = .ok (.iconst 1, 1) := dk_4 (dk_at dksX0_refuses_2 18 rfl rfl)
theorem dX0_refuses_65 : decode cX0_refuses 65 = .ok (.if_icmp .ne 18, 3) := dk_160 0 18 (dk_at dksX0_refuses_2 19 rfl rfl)
theorem dX0_refuses_68 : decode cX0_refuses 68 = .ok (.aload_n 0, 1) := dk_42 (dk_at dksX0_refuses_2 22 rfl rfl)
theorem dX0_refuses_69 : decode cX0_refuses 69 = .ok (.getfield 11, 3) := dk_180 0 11 (dk_at dksX0_refuses_3 0 rfl rfl)
theorem dX0_refuses_72 : decode cX0_refuses 72 = .ok (.iload_n 2, 1) := dk_28 (dk_at dksX0_refuses_3 3 rfl rfl)
theorem dX0_refuses_73 : decode cX0_refuses 73 = .ok (.aaload, 1) := dk_50 (dk_at dksX0_refuses_3 4 rfl rfl)
theorem dX0_refuses_74 : decode cX0_refuses 74 = .ok (.instanceof 108, 3) := dk_193 0 108 (dk_at dksX0_refuses_3 5 rfl rfl)
theorem dX0_refuses_77 : decode cX0_refuses 77 = .ok (.ifCond .eq 6, 3) := dk_153 0 6 (dk_at dksX0_refuses_3 8 rfl rfl)
theorem dX0_refuses_80 : decode cX0_refuses 80 = .ok (.bipush (-2), 2) := dk_16 254 (dk_at dksX0_refuses_3 11 rfl rfl)
theorem dX0_refuses_82 : decode cX0_refuses 82 = .ok (.ireturn, 1) := dk_172 (dk_at dksX0_refuses_3 13 rfl rfl)
theorem dX0_refuses_83 : decode cX0_refuses 83 = .ok (.iinc 2 1, 3) := dk_132 2 1 (dk_at dksX0_refuses_3 14 rfl rfl)
theorem dX0_refuses_86 : decode cX0_refuses 86 = .ok (.goto (-35), 3) := dk_167 255 221 (dk_at dksX0_refuses_3 17 rfl rfl)
theorem dX0_refuses_89 : decode cX0_refuses 89 = .ok (.iconst 0, 1) := dk_3 (dk_at dksX0_refuses_3 20 rfl rfl)
theorem dX0_refuses_90 : decode cX0_refuses 90 = .ok (.ireturn, 1) := dk_172 (dk_at dksX0_refuses_3 21 rfl rfl)
abbrev cX0_sets : ByteArray := prog_1_method_46_code
def yX0_sets : MethodName := ⟨RX0, "sets", "(I)V"⟩
def dkwX0_sets_0 : List UInt8 := [42, 19, 1, 76, 181, 1, 61, 42, 3, 27, 3, 182, 1, 67, 177]
abbrev dktX0_sets_0 : List UInt8 := dkwX0_sets_0 ++ []
theorem dksX0_sets_0 : cX0_sets.data.toList.drop 0 = dktX0_sets_0 := by decide +kernel
theorem dX0_sets_0 : decode cX0_sets 0 = .ok (.aload_n 0, 1) := dk_42 (dk_at dksX0_sets_0 0 rfl rfl)
theorem dX0_sets_1 : decode cX0_sets 1 = .ok (.ldc_w 332, 3) := dk_19 1 76 (dk_at dksX0_sets_0 1 rfl rfl)
theorem dX0_sets_4 : decode cX0_sets 4 = .ok (.putfield 317, 3) := dk_181 1 61 (dk_at dksX0_sets_0 4 rfl rfl)
theorem dX0_sets_7 : decode cX0_sets 7 = .ok (.aload_n 0, 1) := dk_42 (dk_at dksX0_sets_0 7 rfl rfl)
theorem dX0_sets_8 : decode cX0_sets 8 = .ok (.iconst 0, 1) := dk_3 (dk_at dksX0_sets_0 8 rfl rfl)
theorem dX0_sets_9 : decode cX0_sets 9 = .ok (.iload_n 1, 1) := dk_27 (dk_at dksX0_sets_0 9 rfl rfl)
theorem dX0_sets_10 : decode cX0_sets 10 = .ok (.iconst 0, 1) := dk_3 (dk_at dksX0_sets_0 10 rfl rfl)
theorem dX0_sets_11 : decode cX0_sets 11 = .ok (.invokevirtual 323, 3) := dk_182 1 67 (dk_at dksX0_sets_0 11 rfl rfl)
theorem dX0_sets_14 : decode cX0_sets 14 = .ok (.return_, 1) := dk_177 (dk_at dksX0_sets_0 14 rfl rfl)
abbrev cX0_puts : ByteArray := prog_1_method_44_code
def yX0_puts : MethodName := ⟨RX0, "puts", "(III)V"⟩
def dkwX0_puts_6 : List UInt8 := [182, 1, 64, 96, 182, 1, 67, 132, 4, 1, 167, 255, 185, 177]
abbrev dktX0_puts_6 : List UInt8 := dkwX0_puts_6 ++ []
def dkwX0_puts_5 : List UInt8 := [130, 126, 27, 154, 0, 7, 3, 167, 0, 19, 29, 42, 42, 180, 0, 75, 27, 4, 100, 46, 21, 4]
abbrev dktX0_puts_5 : List UInt8 := dkwX0_puts_5 ++ dktX0_puts_6
def dkwX0_puts_4 : List UInt8 := [154, 0, 6, 167, 0, 50, 42, 180, 0, 75, 27, 21, 4, 79, 42, 27, 4, 96, 28, 4, 21, 4, 120, 2]
abbrev dktX0_puts_4 : List UInt8 := dkwX0_puts_4 ++ dktX0_puts_5
def dkwX0_puts_3 : List UInt8 := [184, 0, 153, 177, 3, 54, 4, 21, 4, 42, 180, 0, 82, 162, 0, 68, 28, 21, 4, 122, 4, 126]
abbrev dktX0_puts_3 : List UInt8 := dkwX0_puts_3 ++ dktX0_puts_4
def dkwX0_puts_2 : List UInt8 := [161, 0, 4, 177, 42, 21, 4, 181, 1, 61, 42, 180, 0, 75, 3, 42, 180, 0, 78, 3, 42, 180, 0, 90]
abbrev dktX0_puts_2 : List UInt8 := dkwX0_puts_2 ++ dktX0_puts_3
def dkwX0_puts_1 : List UInt8 := [180, 0, 90, 4, 100, 46, 42, 180, 0, 75, 3, 46, 182, 1, 64, 96, 54, 4, 21, 4, 42, 180, 1, 61]
abbrev dktX0_puts_1 : List UInt8 := dkwX0_puts_1 ++ dktX0_puts_2
def dkwX0_puts_0 : List UInt8 := [29, 42, 180, 1, 61, 161, 0, 4, 177, 27, 42, 180, 0, 90, 160, 0, 62, 29, 42, 42, 180, 0, 75, 42]
abbrev dktX0_puts_0 : List UInt8 := dkwX0_puts_0 ++ dktX0_puts_1
theorem dksX0_puts_0 : cX0_puts.data.toList.drop 0 = dktX0_puts_0 := by decide +kernel
theorem dksX0_puts_1 : cX0_puts.data.toList.drop 24 = dktX0_puts_1 := dk_seg dksX0_puts_0 24 rfl rfl
theorem dksX0_puts_2 : cX0_puts.data.toList.drop 48 = dktX0_puts_2 := dk_seg dksX0_puts_1 24 rfl rfl
theorem dksX0_puts_3 : cX0_puts.data.toList.drop 72 = dktX0_puts_3 := dk_seg dksX0_puts_2 24 rfl rfl
theorem dksX0_puts_4 : cX0_puts.data.toList.drop 94 = dktX0_puts_4 := dk_seg dksX0_puts_3 22 rfl rfl
theorem dksX0_puts_5 : cX0_puts.data.toList.drop 118 = dktX0_puts_5 := dk_seg dksX0_puts_4 24 rfl rfl
theorem dksX0_puts_6 : cX0_puts.data.toList.drop 140 = dktX0_puts_6 := dk_seg dksX0_puts_5 22 rfl rfl
theorem dX0_puts_0 : decode cX0_puts 0 = .ok (.iload_n 3, 1) := dk_29 (dk_at dksX0_puts_0 0 rfl rfl)
theorem dX0_puts_1 : decode cX0_puts 1 = .ok (.aload_n 0, 1) := dk_42 (dk_at dksX0_puts_0 1 rfl rfl)
theorem dX0_puts_2 : decode cX0_puts 2 = .ok (.getfield 317, 3) := dk_180 1 61 (dk_at dksX0_puts_0 2 rfl rfl)
theorem dX0_puts_5 : decode cX0_puts 5 = .ok (.if_icmp .lt 4, 3) := dk_161 0 4 (dk_at dksX0_puts_0 5 rfl rfl)
theorem dX0_puts_8 : decode cX0_puts 8 = .ok (.return_, 1) := dk_177 (dk_at dksX0_puts_0 8 rfl rfl)
theorem dX0_puts_9 : decode cX0_puts 9 = .ok (.iload_n 1, 1) := dk_27 (dk_at dksX0_puts_0 9 rfl rfl)
theorem dX0_puts_10 : decode cX0_puts 10 = .ok (.aload_n 0, 1) := dk_42 (dk_at dksX0_puts_0 10 rfl rfl)
theorem dX0_puts_11 : decode cX0_puts 11 = .ok (.getfield 90, 3) := dk_180 0 90 (dk_at dksX0_puts_0 11 rfl rfl)
theorem dX0_puts_14 : decode cX0_puts 14 = .ok (.if_icmp .ne 62, 3) := dk_160 0 62 (dk_at dksX0_puts_0 14 rfl rfl)
theorem dX0_puts_17 : decode cX0_puts 17 = .ok (.iload_n 3, 1) := dk_29 (dk_at dksX0_puts_0 17 rfl rfl)
theorem dX0_puts_18 : decode cX0_puts 18 = .ok (.aload_n 0, 1) := dk_42 (dk_at dksX0_puts_0 18 rfl rfl)
theorem dX0_puts_19 : decode cX0_puts 19 = .ok (.aload_n 0, 1) := dk_42 (dk_at dksX0_puts_0 19 rfl rfl)
theorem dX0_puts_20 : decode cX0_puts 20 = .ok (.getfield 75, 3) := dk_180 0 75 (dk_at dksX0_puts_0 20 rfl rfl)
theorem dX0_puts_23 : decode cX0_puts 23 = .ok (.aload_n 0, 1) := dk_42 (dk_at dksX0_puts_0 23 rfl rfl)
theorem dX0_puts_24 : decode cX0_puts 24 = .ok (.getfield 90, 3) := dk_180 0 90 (dk_at dksX0_puts_1 0 rfl rfl)
theorem dX0_puts_27 : decode cX0_puts 27 = .ok (.iconst 1, 1) := dk_4 (dk_at dksX0_puts_1 3 rfl rfl)
theorem dX0_puts_28 : decode cX0_puts 28 = .ok (.isub, 1) := dk_100 (dk_at dksX0_puts_1 4 rfl rfl)
theorem dX0_puts_29 : decode cX0_puts 29 = .ok (.iaload, 1) := dk_46 (dk_at dksX0_puts_1 5 rfl rfl)
theorem dX0_puts_30 : decode cX0_puts 30 = .ok (.aload_n 0, 1) := dk_42 (dk_at dksX0_puts_1 6 rfl rfl)
theorem dX0_puts_31 : decode cX0_puts 31 = .ok (.getfield 75, 3) := dk_180 0 75 (dk_at dksX0_puts_1 7 rfl rfl)
theorem dX0_puts_34 : decode cX0_puts 34 = .ok (.iconst 0, 1) := dk_3 (dk_at dksX0_puts_1 10 rfl rfl)
theorem dX0_puts_35 : decode cX0_puts 35 = .ok (.iaload, 1) := dk_46 (dk_at dksX0_puts_1 11 rfl rfl)
theorem dX0_puts_36 : decode cX0_puts 36 = .ok (.invokevirtual 320, 3) := dk_182 1 64 (dk_at dksX0_puts_1 12 rfl rfl)
theorem dX0_puts_39 : decode cX0_puts 39 = .ok (.iadd, 1) := dk_96 (dk_at dksX0_puts_1 15 rfl rfl)
theorem dX0_puts_40 : decode cX0_puts 40 = .ok (.istore 4, 2) := dk_54 4 (dk_at dksX0_puts_1 16 rfl rfl)
theorem dX0_puts_42 : decode cX0_puts 42 = .ok (.iload 4, 2) := dk_21 4 (dk_at dksX0_puts_1 18 rfl rfl)
theorem dX0_puts_44 : decode cX0_puts 44 = .ok (.aload_n 0, 1) := dk_42 (dk_at dksX0_puts_1 20 rfl rfl)
theorem dX0_puts_45 : decode cX0_puts 45 = .ok (.getfield 317, 3) := dk_180 1 61 (dk_at dksX0_puts_1 21 rfl rfl)
theorem dX0_puts_48 : decode cX0_puts 48 = .ok (.if_icmp .lt 4, 3) := dk_161 0 4 (dk_at dksX0_puts_2 0 rfl rfl)
theorem dX0_puts_51 : decode cX0_puts 51 = .ok (.return_, 1) := dk_177 (dk_at dksX0_puts_2 3 rfl rfl)
theorem dX0_puts_52 : decode cX0_puts 52 = .ok (.aload_n 0, 1) := dk_42 (dk_at dksX0_puts_2 4 rfl rfl)
theorem dX0_puts_53 : decode cX0_puts 53 = .ok (.iload 4, 2) := dk_21 4 (dk_at dksX0_puts_2 5 rfl rfl)
theorem dX0_puts_55 : decode cX0_puts 55 = .ok (.putfield 317, 3) := dk_181 1 61 (dk_at dksX0_puts_2 7 rfl rfl)
theorem dX0_puts_58 : decode cX0_puts 58 = .ok (.aload_n 0, 1) := dk_42 (dk_at dksX0_puts_2 10 rfl rfl)
theorem dX0_puts_59 : decode cX0_puts 59 = .ok (.getfield 75, 3) := dk_180 0 75 (dk_at dksX0_puts_2 11 rfl rfl)
theorem dX0_puts_62 : decode cX0_puts 62 = .ok (.iconst 0, 1) := dk_3 (dk_at dksX0_puts_2 14 rfl rfl)
theorem dX0_puts_63 : decode cX0_puts 63 = .ok (.aload_n 0, 1) := dk_42 (dk_at dksX0_puts_2 15 rfl rfl)
theorem dX0_puts_64 : decode cX0_puts 64 = .ok (.getfield 78, 3) := dk_180 0 78 (dk_at dksX0_puts_2 16 rfl rfl)
theorem dX0_puts_67 : decode cX0_puts 67 = .ok (.iconst 0, 1) := dk_3 (dk_at dksX0_puts_2 19 rfl rfl)
theorem dX0_puts_68 : decode cX0_puts 68 = .ok (.aload_n 0, 1) := dk_42 (dk_at dksX0_puts_2 20 rfl rfl)
theorem dX0_puts_69 : decode cX0_puts 69 = .ok (.getfield 90, 3) := dk_180 0 90 (dk_at dksX0_puts_2 21 rfl rfl)
theorem dX0_puts_72 : decode cX0_puts 72 = .ok (.invokestatic 153, 3) := dk_184 0 153 (dk_at dksX0_puts_3 0 rfl rfl)
theorem dX0_puts_75 : decode cX0_puts 75 = .ok (.return_, 1) := dk_177 (dk_at dksX0_puts_3 3 rfl rfl)
theorem dX0_puts_76 : decode cX0_puts 76 = .ok (.iconst 0, 1) := dk_3 (dk_at dksX0_puts_3 4 rfl rfl)
theorem dX0_puts_77 : decode cX0_puts 77 = .ok (.istore 4, 2) := dk_54 4 (dk_at dksX0_puts_3 5 rfl rfl)
theorem dX0_puts_79 : decode cX0_puts 79 = .ok (.iload 4, 2) := dk_21 4 (dk_at dksX0_puts_3 7 rfl rfl)
theorem dX0_puts_81 : decode cX0_puts 81 = .ok (.aload_n 0, 1) := dk_42 (dk_at dksX0_puts_3 9 rfl rfl)
theorem dX0_puts_82 : decode cX0_puts 82 = .ok (.getfield 82, 3) := dk_180 0 82 (dk_at dksX0_puts_3 10 rfl rfl)
theorem dX0_puts_85 : decode cX0_puts 85 = .ok (.if_icmp .ge 68, 3) := dk_162 0 68 (dk_at dksX0_puts_3 13 rfl rfl)
theorem dX0_puts_88 : decode cX0_puts 88 = .ok (.iload_n 2, 1) := dk_28 (dk_at dksX0_puts_3 16 rfl rfl)
theorem dX0_puts_89 : decode cX0_puts 89 = .ok (.iload 4, 2) := dk_21 4 (dk_at dksX0_puts_3 17 rfl rfl)
theorem dX0_puts_91 : decode cX0_puts 91 = .ok (.ishr, 1) := dk_122 (dk_at dksX0_puts_3 19 rfl rfl)
theorem dX0_puts_92 : decode cX0_puts 92 = .ok (.iconst 1, 1) := dk_4 (dk_at dksX0_puts_3 20 rfl rfl)
theorem dX0_puts_93 : decode cX0_puts 93 = .ok (.iand, 1) := dk_126 (dk_at dksX0_puts_3 21 rfl rfl)
theorem dX0_puts_94 : decode cX0_puts 94 = .ok (.ifCond .ne 6, 3) := dk_154 0 6 (dk_at dksX0_puts_4 0 rfl rfl)
theorem dX0_puts_97 : decode cX0_puts 97 = .ok (.goto 50, 3) := dk_167 0 50 (dk_at dksX0_puts_4 3 rfl rfl)
theorem dX0_puts_100 : decode cX0_puts 100 = .ok (.aload_n 0, 1) := dk_42 (dk_at dksX0_puts_4 6 rfl rfl)
theorem dX0_puts_101 : decode cX0_puts 101 = .ok (.getfield 75, 3) := dk_180 0 75 (dk_at dksX0_puts_4 7 rfl rfl)
theorem dX0_puts_104 : decode cX0_puts 104 = .ok (.iload_n 1, 1) := dk_27 (dk_at dksX0_puts_4 10 rfl rfl)
theorem dX0_puts_105 : decode cX0_puts 105 = .ok (.iload 4, 2) := dk_21 4 (dk_at dksX0_puts_4 11 rfl rfl)
theorem dX0_puts_107 : decode cX0_puts 107 = .ok (.iastore, 1) := dk_79 (dk_at dksX0_puts_4 13 rfl rfl)
theorem dX0_puts_108 : decode cX0_puts 108 = .ok (.aload_n 0, 1) := dk_42 (dk_at dksX0_puts_4 14 rfl rfl)
theorem dX0_puts_109 : decode cX0_puts 109 = .ok (.iload_n 1, 1) := dk_27 (dk_at dksX0_puts_4 15 rfl rfl)
theorem dX0_puts_110 : decode cX0_puts 110 = .ok (.iconst 1, 1) := dk_4 (dk_at dksX0_puts_4 16 rfl rfl)
theorem dX0_puts_111 : decode cX0_puts 111 = .ok (.iadd, 1) := dk_96 (dk_at dksX0_puts_4 17 rfl rfl)
theorem dX0_puts_112 : decode cX0_puts 112 = .ok (.iload_n 2, 1) := dk_28 (dk_at dksX0_puts_4 18 rfl rfl)
theorem dX0_puts_113 : decode cX0_puts 113 = .ok (.iconst 1, 1) := dk_4 (dk_at dksX0_puts_4 19 rfl rfl)
theorem dX0_puts_114 : decode cX0_puts 114 = .ok (.iload 4, 2) := dk_21 4 (dk_at dksX0_puts_4 20 rfl rfl)
theorem dX0_puts_116 : decode cX0_puts 116 = .ok (.ishl, 1) := dk_120 (dk_at dksX0_puts_4 22 rfl rfl)
theorem dX0_puts_117 : decode cX0_puts 117 = .ok (.iconst (-1), 1) := dk_2 (dk_at dksX0_puts_4 23 rfl rfl)
theorem dX0_puts_118 : decode cX0_puts 118 = .ok (.ixor, 1) := dk_130 (dk_at dksX0_puts_5 0 rfl rfl)
theorem dX0_puts_119 : decode cX0_puts 119 = .ok (.iand, 1) := dk_126 (dk_at dksX0_puts_5 1 rfl rfl)
theorem dX0_puts_120 : decode cX0_puts 120 = .ok (.iload_n 1, 1) := dk_27 (dk_at dksX0_puts_5 2 rfl rfl)
theorem dX0_puts_121 : decode cX0_puts 121 = .ok (.ifCond .ne 7, 3) := dk_154 0 7 (dk_at dksX0_puts_5 3 rfl rfl)
theorem dX0_puts_124 : decode cX0_puts 124 = .ok (.iconst 0, 1) := dk_3 (dk_at dksX0_puts_5 6 rfl rfl)
theorem dX0_puts_125 : decode cX0_puts 125 = .ok (.goto 19, 3) := dk_167 0 19 (dk_at dksX0_puts_5 7 rfl rfl)
theorem dX0_puts_128 : decode cX0_puts 128 = .ok (.iload_n 3, 1) := dk_29 (dk_at dksX0_puts_5 10 rfl rfl)
theorem dX0_puts_129 : decode cX0_puts 129 = .ok (.aload_n 0, 1) := dk_42 (dk_at dksX0_puts_5 11 rfl rfl)
theorem dX0_puts_130 : decode cX0_puts 130 = .ok (.aload_n 0, 1) := dk_42 (dk_at dksX0_puts_5 12 rfl rfl)
theorem dX0_puts_131 : decode cX0_puts 131 = .ok (.getfield 75, 3) := dk_180 0 75 (dk_at dksX0_puts_5 13 rfl rfl)
theorem dX0_puts_134 : decode cX0_puts 134 = .ok (.iload_n 1, 1) := dk_27 (dk_at dksX0_puts_5 16 rfl rfl)
theorem dX0_puts_135 : decode cX0_puts 135 = .ok (.iconst 1, 1) := dk_4 (dk_at dksX0_puts_5 17 rfl rfl)
theorem dX0_puts_136 : decode cX0_puts 136 = .ok (.isub, 1) := dk_100 (dk_at dksX0_puts_5 18 rfl rfl)
theorem dX0_puts_137 : decode cX0_puts 137 = .ok (.iaload, 1) := dk_46 (dk_at dksX0_puts_5 19 rfl rfl)
theorem dX0_puts_138 : decode cX0_puts 138 = .ok (.iload 4, 2) := dk_21 4 (dk_at dksX0_puts_5 20 rfl rfl)
theorem dX0_puts_140 : decode cX0_puts 140 = .ok (.invokevirtual 320, 3) := dk_182 1 64 (dk_at dksX0_puts_6 0 rfl rfl)
theorem dX0_puts_143 : decode cX0_puts 143 = .ok (.iadd, 1) := dk_96 (dk_at dksX0_puts_6 3 rfl rfl)
theorem dX0_puts_144 : decode cX0_puts 144 = .ok (.invokevirtual 323, 3) := dk_182 1 67 (dk_at dksX0_puts_6 4 rfl rfl)
theorem dX0_puts_147 : decode cX0_puts 147 = .ok (.iinc 4 1, 3) := dk_132 4 1 (dk_at dksX0_puts_6 7 rfl rfl)
theorem dX0_puts_150 : decode cX0_puts 150 = .ok (.goto (-71), 3) := dk_167 255 185 (dk_at dksX0_puts_6 10 rfl rfl)
theorem dX0_puts_153 : decode cX0_puts 153 = .ok (.return_, 1) := dk_177 (dk_at dksX0_puts_6 13 rfl rfl)
abbrev cX0_apart : ByteArray := prog_1_method_43_code
def yX0_apart : MethodName := ⟨RX0, "apart", "(II)I"⟩
def dkwX0_apart_0 : List UInt8 := [42, 180, 0, 11, 27, 50, 180, 1, 53, 42, 180, 0, 11, 28, 50, 180, 1, 53, 100, 184, 1, 56, 172]
abbrev dktX0_apart_0 : List UInt8 := dkwX0_apart_0 ++ []
theorem dksX0_apart_0 : cX0_apart.data.toList.drop 0 = dktX0_apart_0 := by decide +kernel
theorem dX0_apart_0 : decode cX0_apart 0 = .ok (.aload_n 0, 1) := dk_42 (dk_at dksX0_apart_0 0 rfl rfl)
theorem dX0_apart_1 : decode cX0_apart 1 = .ok (.getfield 11, 3) := dk_180 0 11 (dk_at dksX0_apart_0 1 rfl rfl)
theorem dX0_apart_4 : decode cX0_apart 4 = .ok (.iload_n 1, 1) := dk_27 (dk_at dksX0_apart_0 4 rfl rfl)
theorem dX0_apart_5 : decode cX0_apart 5 = .ok (.aaload, 1) := dk_50 (dk_at dksX0_apart_0 5 rfl rfl)
theorem dX0_apart_6 : decode cX0_apart 6 = .ok (.getfield 309, 3) := dk_180 1 53 (dk_at dksX0_apart_0 6 rfl rfl)
theorem dX0_apart_9 : decode cX0_apart 9 = .ok (.aload_n 0, 1) := dk_42 (dk_at dksX0_apart_0 9 rfl rfl)
theorem dX0_apart_10 : decode cX0_apart 10 = .ok (.getfield 11, 3) := dk_180 0 11 (dk_at dksX0_apart_0 10 rfl rfl)
theorem dX0_apart_13 : decode cX0_apart 13 = .ok (.iload_n 2, 1) := dk_28 (dk_at dksX0_apart_0 13 rfl rfl)
theorem dX0_apart_14 : decode cX0_apart 14 = .ok (.aaload, 1) := dk_50 (dk_at dksX0_apart_0 14 rfl rfl)
theorem dX0_apart_15 : decode cX0_apart 15 = .ok (.getfield 309, 3) := dk_180 1 53 (dk_at dksX0_apart_0 15 rfl rfl)
theorem dX0_apart_18 : decode cX0_apart 18 = .ok (.isub, 1) := dk_100 (dk_at dksX0_apart_0 18 rfl rfl)
theorem dX0_apart_19 : decode cX0_apart 19 = .ok (.invokestatic 312, 3) := dk_184 1 56 (dk_at dksX0_apart_0 19 rfl rfl)
theorem dX0_apart_22 : decode cX0_apart 22 = .ok (.ireturn, 1) := dk_172 (dk_at dksX0_apart_0 22 rfl rfl)
abbrev cX0_spent : ByteArray := prog_1_method_48_code
def yX0_spent : MethodName := ⟨RX0, "spent", "(II)I"⟩
def dkwX0_spent_8 : List UInt8 := [180, 0, 78, 42, 180, 0, 90, 21, 8, 182, 0, 166, 132, 7, 1, 167, 255, 153, 21, 6, 172]
abbrev dktX0_spent_8 : List UInt8 := dkwX0_spent_8 ++ []
def dkwX0_spent_7 : List UInt8 := [112, 46, 50, 180, 1, 81, 96, 96, 54, 6, 167, 0, 10, 21, 6, 21, 5, 96, 54, 6, 42, 42]
abbrev dktX0_spent_7 : List UInt8 := dkwX0_spent_7 ++ dktX0_spent_8
def dkwX0_spent_6 : List UInt8 := [46, 50, 180, 1, 81, 42, 180, 0, 11, 42, 180, 0, 78, 21, 8, 16, 10, 108, 4, 96, 42, 180, 0, 90]
abbrev dktX0_spent_6 : List UInt8 := dkwX0_spent_6 ++ dktX0_spent_7
def dkwX0_spent_5 : List UInt8 := [54, 8, 21, 8, 16, 100, 162, 0, 55, 21, 6, 42, 180, 0, 11, 42, 180, 0, 78, 21, 8, 16, 10, 108]
abbrev dktX0_spent_5 : List UInt8 := dkwX0_spent_5 ++ dktX0_spent_6
def dkwX0_spent_4 : List UInt8 := [54, 6, 3, 54, 7, 21, 7, 25, 4, 180, 0, 213, 162, 0, 99, 25, 4, 180, 0, 211, 21, 7, 46]
abbrev dktX0_spent_4 : List UInt8 := dkwX0_spent_4 ++ dktX0_spent_5
def dkwX0_spent_3 : List UInt8 := [42, 180, 0, 78, 21, 6, 46, 50, 180, 1, 81, 184, 1, 84, 54, 5, 132, 6, 1, 167, 255, 222, 3]
abbrev dktX0_spent_3 : List UInt8 := dkwX0_spent_3 ++ dktX0_spent_4
def dkwX0_spent_2 : List UInt8 := [182, 1, 78, 3, 54, 5, 3, 54, 6, 21, 6, 42, 180, 0, 90, 162, 0, 31, 21, 5, 42, 180, 0, 11]
abbrev dktX0_spent_2 : List UInt8 := dkwX0_spent_2 ++ dktX0_spent_3
def dkwX0_spent_1 : List UInt8 := [180, 0, 36, 28, 50, 58, 4, 25, 4, 42, 180, 0, 90, 182, 0, 208, 154, 0, 6, 16, 253, 172, 42, 27]
abbrev dktX0_spent_1 : List UInt8 := dkwX0_spent_1 ++ dktX0_spent_2
def dkwX0_spent_0 : List UInt8 := [42, 28, 182, 0, 249, 154, 0, 5, 2, 172, 42, 27, 182, 1, 77, 62, 29, 153, 0, 5, 29, 172, 42]
abbrev dktX0_spent_0 : List UInt8 := dkwX0_spent_0 ++ dktX0_spent_1
theorem dksX0_spent_0 : cX0_spent.data.toList.drop 0 = dktX0_spent_0 := by decide +kernel
theorem dksX0_spent_1 : cX0_spent.data.toList.drop 23 = dktX0_spent_1 := dk_seg dksX0_spent_0 23 rfl rfl
theorem dksX0_spent_2 : cX0_spent.data.toList.drop 47 = dktX0_spent_2 := dk_seg dksX0_spent_1 24 rfl rfl
theorem dksX0_spent_3 : cX0_spent.data.toList.drop 71 = dktX0_spent_3 := dk_seg dksX0_spent_2 24 rfl rfl
theorem dksX0_spent_4 : cX0_spent.data.toList.drop 94 = dktX0_spent_4 := dk_seg dksX0_spent_3 23 rfl rfl
theorem dksX0_spent_5 : cX0_spent.data.toList.drop 117 = dktX0_spent_5 := dk_seg dksX0_spent_4 23 rfl rfl
theorem dksX0_spent_6 : cX0_spent.data.toList.drop 141 = dktX0_spent_6 := dk_seg dksX0_spent_5 24 rfl rfl
theorem dksX0_spent_7 : cX0_spent.data.toList.drop 165 = dktX0_spent_7 := dk_seg dksX0_spent_6 24 rfl rfl
theorem dksX0_spent_8 : cX0_spent.data.toList.drop 187 = dktX0_spent_8 := dk_seg dksX0_spent_7 22 rfl rfl
theorem dX0_spent_0 : decode cX0_spent 0 = .ok (.aload_n 0, 1) := dk_42 (dk_at dksX0_spent_0 0 rfl rfl)
theorem dX0_spent_1 : decode cX0_spent 1 = .ok (.iload_n 2, 1) := dk_28 (dk_at dksX0_spent_0 1 rfl rfl)
theorem dX0_spent_2 : decode cX0_spent 2 = .ok (.invokevirtual 249, 3) := dk_182 0 249 (dk_at dksX0_spent_0 2 rfl rfl)
theorem dX0_spent_5 : decode cX0_spent 5 = .ok (.ifCond .ne 5, 3) := dk_154 0 5 (dk_at dksX0_spent_0 5 rfl rfl)
theorem dX0_spent_8 : decode cX0_spent 8 = .ok (.iconst (-1), 1) := dk_2 (dk_at dksX0_spent_0 8 rfl rfl)
theorem dX0_spent_9 : decode cX0_spent 9 = .ok (.ireturn, 1) := dk_172 (dk_at dksX0_spent_0 9 rfl rfl)
theorem dX0_spent_10 : decode cX0_spent 10 = .ok (.aload_n 0, 1) := dk_42 (dk_at dksX0_spent_0 10 rfl rfl)
theorem dX0_spent_11 : decode cX0_spent 11 = .ok (.iload_n 1, 1) := dk_27 (dk_at dksX0_spent_0 11 rfl rfl)
theorem dX0_spent_12 : decode cX0_spent 12 = .ok (.invokevirtual 333, 3) := dk_182 1 77 (dk_at dksX0_spent_0 12 rfl rfl)
theorem dX0_spent_15 : decode cX0_spent 15 = .ok (.istore_n 3, 1) := dk_62 (dk_at dksX0_spent_0 15 rfl rfl)
theorem dX0_spent_16 : decode cX0_spent 16 = .ok (.iload_n 3, 1) := dk_29 (dk_at dksX0_spent_0 16 rfl rfl)
theorem dX0_spent_17 : decode cX0_spent 17 = .ok (.ifCond .eq 5, 3) := dk_153 0 5 (dk_at dksX0_spent_0 17 rfl rfl)
theorem dX0_spent_20 : decode cX0_spent 20 = .ok (.iload_n 3, 1) := dk_29 (dk_at dksX0_spent_0 20 rfl rfl)
theorem dX0_spent_21 : decode cX0_spent 21 = .ok (.ireturn, 1) := dk_172 (dk_at dksX0_spent_0 21 rfl rfl)
theorem dX0_spent_22 : decode cX0_spent 22 = .ok (.aload_n 0, 1) := dk_42 (dk_at dksX0_spent_0 22 rfl rfl)
theorem dX0_spent_23 : decode cX0_spent 23 = .ok (.getfield 36, 3) := dk_180 0 36 (dk_at dksX0_spent_1 0 rfl rfl)
theorem dX0_spent_26 : decode cX0_spent 26 = .ok (.iload_n 2, 1) := dk_28 (dk_at dksX0_spent_1 3 rfl rfl)
theorem dX0_spent_27 : decode cX0_spent 27 = .ok (.aaload, 1) := dk_50 (dk_at dksX0_spent_1 4 rfl rfl)
theorem dX0_spent_28 : decode cX0_spent 28 = .ok (.astore 4, 2) := dk_58 4 (dk_at dksX0_spent_1 5 rfl rfl)
theorem dX0_spent_30 : decode cX0_spent 30 = .ok (.aload 4, 2) := dk_25 4 (dk_at dksX0_spent_1 7 rfl rfl)
theorem dX0_spent_32 : decode cX0_spent 32 = .ok (.aload_n 0, 1) := dk_42 (dk_at dksX0_spent_1 9 rfl rfl)
theorem dX0_spent_33 : decode cX0_spent 33 = .ok (.getfield 90, 3) := dk_180 0 90 (dk_at dksX0_spent_1 10 rfl rfl)
theorem dX0_spent_36 : decode cX0_spent 36 = .ok (.invokevirtual 208, 3) := dk_182 0 208 (dk_at dksX0_spent_1 13 rfl rfl)
theorem dX0_spent_39 : decode cX0_spent 39 = .ok (.ifCond .ne 6, 3) := dk_154 0 6 (dk_at dksX0_spent_1 16 rfl rfl)
theorem dX0_spent_42 : decode cX0_spent 42 = .ok (.bipush (-3), 2) := dk_16 253 (dk_at dksX0_spent_1 19 rfl rfl)
theorem dX0_spent_44 : decode cX0_spent 44 = .ok (.ireturn, 1) := dk_172 (dk_at dksX0_spent_1 21 rfl rfl)
theorem dX0_spent_45 : decode cX0_spent 45 = .ok (.aload_n 0, 1) := dk_42 (dk_at dksX0_spent_1 22 rfl rfl)
theorem dX0_spent_46 : decode cX0_spent 46 = .ok (.iload_n 1, 1) := dk_27 (dk_at dksX0_spent_1 23 rfl rfl)
theorem dX0_spent_47 : decode cX0_spent 47 = .ok (.invokevirtual 334, 3) := dk_182 1 78 (dk_at dksX0_spent_2 0 rfl rfl)
theorem dX0_spent_50 : decode cX0_spent 50 = .ok (.iconst 0, 1) := dk_3 (dk_at dksX0_spent_2 3 rfl rfl)
theorem dX0_spent_51 : decode cX0_spent 51 = .ok (.istore 5, 2) := dk_54 5 (dk_at dksX0_spent_2 4 rfl rfl)
theorem dX0_spent_53 : decode cX0_spent 53 = .ok (.iconst 0, 1) := dk_3 (dk_at dksX0_spent_2 6 rfl rfl)
theorem dX0_spent_54 : decode cX0_spent 54 = .ok (.istore 6, 2) := dk_54 6 (dk_at dksX0_spent_2 7 rfl rfl)
theorem dX0_spent_56 : decode cX0_spent 56 = .ok (.iload 6, 2) := dk_21 6 (dk_at dksX0_spent_2 9 rfl rfl)
theorem dX0_spent_58 : decode cX0_spent 58 = .ok (.aload_n 0, 1) := dk_42 (dk_at dksX0_spent_2 11 rfl rfl)
theorem dX0_spent_59 : decode cX0_spent 59 = .ok (.getfield 90, 3) := dk_180 0 90 (dk_at dksX0_spent_2 12 rfl rfl)
theorem dX0_spent_62 : decode cX0_spent 62 = .ok (.if_icmp .ge 31, 3) := dk_162 0 31 (dk_at dksX0_spent_2 15 rfl rfl)
theorem dX0_spent_65 : decode cX0_spent 65 = .ok (.iload 5, 2) := dk_21 5 (dk_at dksX0_spent_2 18 rfl rfl)
theorem dX0_spent_67 : decode cX0_spent 67 = .ok (.aload_n 0, 1) := dk_42 (dk_at dksX0_spent_2 20 rfl rfl)
theorem dX0_spent_68 : decode cX0_spent 68 = .ok (.getfield 11, 3) := dk_180 0 11 (dk_at dksX0_spent_2 21 rfl rfl)
theorem dX0_spent_71 : decode cX0_spent 71 = .ok (.aload_n 0, 1) := dk_42 (dk_at dksX0_spent_3 0 rfl rfl)
theorem dX0_spent_72 : decode cX0_spent 72 = .ok (.getfield 78, 3) := dk_180 0 78 (dk_at dksX0_spent_3 1 rfl rfl)
theorem dX0_spent_75 : decode cX0_spent 75 = .ok (.iload 6, 2) := dk_21 6 (dk_at dksX0_spent_3 4 rfl rfl)
theorem dX0_spent_77 : decode cX0_spent 77 = .ok (.iaload, 1) := dk_46 (dk_at dksX0_spent_3 6 rfl rfl)
theorem dX0_spent_78 : decode cX0_spent 78 = .ok (.aaload, 1) := dk_50 (dk_at dksX0_spent_3 7 rfl rfl)
theorem dX0_spent_79 : decode cX0_spent 79 = .ok (.getfield 337, 3) := dk_180 1 81 (dk_at dksX0_spent_3 8 rfl rfl)
theorem dX0_spent_82 : decode cX0_spent 82 = .ok (.invokestatic 340, 3) := dk_184 1 84 (dk_at dksX0_spent_3 11 rfl rfl)
theorem dX0_spent_85 : decode cX0_spent 85 = .ok (.istore 5, 2) := dk_54 5 (dk_at dksX0_spent_3 14 rfl rfl)
theorem dX0_spent_87 : decode cX0_spent 87 = .ok (.iinc 6 1, 3) := dk_132 6 1 (dk_at dksX0_spent_3 16 rfl rfl)
theorem dX0_spent_90 : decode cX0_spent 90 = .ok (.goto (-34), 3) := dk_167 255 222 (dk_at dksX0_spent_3 19 rfl rfl)
theorem dX0_spent_93 : decode cX0_spent 93 = .ok (.iconst 0, 1) := dk_3 (dk_at dksX0_spent_3 22 rfl rfl)
theorem dX0_spent_94 : decode cX0_spent 94 = .ok (.istore 6, 2) := dk_54 6 (dk_at dksX0_spent_4 0 rfl rfl)
theorem dX0_spent_96 : decode cX0_spent 96 = .ok (.iconst 0, 1) := dk_3 (dk_at dksX0_spent_4 2 rfl rfl)
theorem dX0_spent_97 : decode cX0_spent 97 = .ok (.istore 7, 2) := dk_54 7 (dk_at dksX0_spent_4 3 rfl rfl)
theorem dX0_spent_99 : decode cX0_spent 99 = .ok (.iload 7, 2) := dk_21 7 (dk_at dksX0_spent_4 5 rfl rfl)
theorem dX0_spent_101 : decode cX0_spent 101 = .ok (.aload 4, 2) := dk_25 4 (dk_at dksX0_spent_4 7 rfl rfl)
theorem dX0_spent_103 : decode cX0_spent 103 = .ok (.getfield 213, 3) := dk_180 0 213 (dk_at dksX0_spent_4 9 rfl rfl)
theorem dX0_spent_106 : decode cX0_spent 106 = .ok (.if_icmp .ge 99, 3) := dk_162 0 99 (dk_at dksX0_spent_4 12 rfl rfl)
theorem dX0_spent_109 : decode cX0_spent 109 = .ok (.aload 4, 2) := dk_25 4 (dk_at dksX0_spent_4 15 rfl rfl)
theorem dX0_spent_111 : decode cX0_spent 111 = .ok (.getfield 211, 3) := dk_180 0 211 (dk_at dksX0_spent_4 17 rfl rfl)
theorem dX0_spent_114 : decode cX0_spent 114 = .ok (.iload 7, 2) := dk_21 7 (dk_at dksX0_spent_4 20 rfl rfl)
theorem dX0_spent_116 : decode cX0_spent 116 = .ok (.iaload, 1) := dk_46 (dk_at dksX0_spent_4 22 rfl rfl)
theorem dX0_spent_117 : decode cX0_spent 117 = .ok (.istore 8, 2) := dk_54 8 (dk_at dksX0_spent_5 0 rfl rfl)
theorem dX0_spent_119 : decode cX0_spent 119 = .ok (.iload 8, 2) := dk_21 8 (dk_at dksX0_spent_5 2 rfl rfl)
theorem dX0_spent_121 : decode cX0_spent 121 = .ok (.bipush 100, 2) := dk_16 100 (dk_at dksX0_spent_5 4 rfl rfl)
theorem dX0_spent_123 : decode cX0_spent 123 = .ok (.if_icmp .ge 55, 3) := dk_162 0 55 (dk_at dksX0_spent_5 6 rfl rfl)
theorem dX0_spent_126 : decode cX0_spent 126 = .ok (.iload 6, 2) := dk_21 6 (dk_at dksX0_spent_5 9 rfl rfl)
theorem dX0_spent_128 : decode cX0_spent 128 = .ok (.aload_n 0, 1) := dk_42 (dk_at dksX0_spent_5 11 rfl rfl)
theorem dX0_spent_129 : decode cX0_spent 129 = .ok (.getfield 11, 3) := dk_180 0 11 (dk_at dksX0_spent_5 12 rfl rfl)
theorem dX0_spent_132 : decode cX0_spent 132 = .ok (.aload_n 0, 1) := dk_42 (dk_at dksX0_spent_5 15 rfl rfl)
theorem dX0_spent_133 : decode cX0_spent 133 = .ok (.getfield 78, 3) := dk_180 0 78 (dk_at dksX0_spent_5 16 rfl rfl)
theorem dX0_spent_136 : decode cX0_spent 136 = .ok (.iload 8, 2) := dk_21 8 (dk_at dksX0_spent_5 19 rfl rfl)
theorem dX0_spent_138 : decode cX0_spent 138 = .ok (.bipush 10, 2) := dk_16 10 (dk_at dksX0_spent_5 21 rfl rfl)
theorem dX0_spent_140 : decode cX0_spent 140 = .ok (.idiv, 1) := dk_108 (dk_at dksX0_spent_5 23 rfl rfl)
theorem dX0_spent_141 : decode cX0_spent 141 = .ok (.iaload, 1) := dk_46 (dk_at dksX0_spent_6 0 rfl rfl)
theorem dX0_spent_142 : decode cX0_spent 142 = .ok (.aaload, 1) := dk_50 (dk_at dksX0_spent_6 1 rfl rfl)
theorem dX0_spent_143 : decode cX0_spent 143 = .ok (.getfield 337, 3) := dk_180 1 81 (dk_at dksX0_spent_6 2 rfl rfl)
theorem dX0_spent_146 : decode cX0_spent 146 = .ok (.aload_n 0, 1) := dk_42 (dk_at dksX0_spent_6 5 rfl rfl)
theorem dX0_spent_147 : decode cX0_spent 147 = .ok (.getfield 11, 3) := dk_180 0 11 (dk_at dksX0_spent_6 6 rfl rfl)
theorem dX0_spent_150 : decode cX0_spent 150 = .ok (.aload_n 0, 1) := dk_42 (dk_at dksX0_spent_6 9 rfl rfl)
theorem dX0_spent_151 : decode cX0_spent 151 = .ok (.getfield 78, 3) := dk_180 0 78 (dk_at dksX0_spent_6 10 rfl rfl)
theorem dX0_spent_154 : decode cX0_spent 154 = .ok (.iload 8, 2) := dk_21 8 (dk_at dksX0_spent_6 13 rfl rfl)
theorem dX0_spent_156 : decode cX0_spent 156 = .ok (.bipush 10, 2) := dk_16 10 (dk_at dksX0_spent_6 15 rfl rfl)
theorem dX0_spent_158 : decode cX0_spent 158 = .ok (.idiv, 1) := dk_108 (dk_at dksX0_spent_6 17 rfl rfl)
theorem dX0_spent_159 : decode cX0_spent 159 = .ok (.iconst 1, 1) := dk_4 (dk_at dksX0_spent_6 18 rfl rfl)
theorem dX0_spent_160 : decode cX0_spent 160 = .ok (.iadd, 1) := dk_96 (dk_at dksX0_spent_6 19 rfl rfl)
theorem dX0_spent_161 : decode cX0_spent 161 = .ok (.aload_n 0, 1) := dk_42 (dk_at dksX0_spent_6 20 rfl rfl)
theorem dX0_spent_162 : decode cX0_spent 162 = .ok (.getfield 90, 3) := dk_180 0 90 (dk_at dksX0_spent_6 21 rfl rfl)
theorem dX0_spent_165 : decode cX0_spent 165 = .ok (.irem, 1) := dk_112 (dk_at dksX0_spent_7 0 rfl rfl)
theorem dX0_spent_166 : decode cX0_spent 166 = .ok (.iaload, 1) := dk_46 (dk_at dksX0_spent_7 1 rfl rfl)
theorem dX0_spent_167 : decode cX0_spent 167 = .ok (.aaload, 1) := dk_50 (dk_at dksX0_spent_7 2 rfl rfl)
theorem dX0_spent_168 : decode cX0_spent 168 = .ok (.getfield 337, 3) := dk_180 1 81 (dk_at dksX0_spent_7 3 rfl rfl)
theorem dX0_spent_171 : decode cX0_spent 171 = .ok (.iadd, 1) := dk_96 (dk_at dksX0_spent_7 6 rfl rfl)
theorem dX0_spent_172 : decode cX0_spent 172 = .ok (.iadd, 1) := dk_96 (dk_at dksX0_spent_7 7 rfl rfl)
theorem dX0_spent_173 : decode cX0_spent 173 = .ok (.istore 6, 2) := dk_54 6 (dk_at dksX0_spent_7 8 rfl rfl)
theorem dX0_spent_175 : decode cX0_spent 175 = .ok (.goto 10, 3) := dk_167 0 10 (dk_at dksX0_spent_7 10 rfl rfl)
theorem dX0_spent_178 : decode cX0_spent 178 = .ok (.iload 6, 2) := dk_21 6 (dk_at dksX0_spent_7 13 rfl rfl)
theorem dX0_spent_180 : decode cX0_spent 180 = .ok (.iload 5, 2) := dk_21 5 (dk_at dksX0_spent_7 15 rfl rfl)
theorem dX0_spent_182 : decode cX0_spent 182 = .ok (.iadd, 1) := dk_96 (dk_at dksX0_spent_7 17 rfl rfl)
theorem dX0_spent_183 : decode cX0_spent 183 = .ok (.istore 6, 2) := dk_54 6 (dk_at dksX0_spent_7 18 rfl rfl)
theorem dX0_spent_185 : decode cX0_spent 185 = .ok (.aload_n 0, 1) := dk_42 (dk_at dksX0_spent_7 20 rfl rfl)
theorem dX0_spent_186 : decode cX0_spent 186 = .ok (.aload_n 0, 1) := dk_42 (dk_at dksX0_spent_7 21 rfl rfl)
theorem dX0_spent_187 : decode cX0_spent 187 = .ok (.getfield 78, 3) := dk_180 0 78 (dk_at dksX0_spent_8 0 rfl rfl)
theorem dX0_spent_190 : decode cX0_spent 190 = .ok (.aload_n 0, 1) := dk_42 (dk_at dksX0_spent_8 3 rfl rfl)
theorem dX0_spent_191 : decode cX0_spent 191 = .ok (.getfield 90, 3) := dk_180 0 90 (dk_at dksX0_spent_8 4 rfl rfl)
theorem dX0_spent_194 : decode cX0_spent 194 = .ok (.iload 8, 2) := dk_21 8 (dk_at dksX0_spent_8 7 rfl rfl)
theorem dX0_spent_196 : decode cX0_spent 196 = .ok (.invokevirtual 166, 3) := dk_182 0 166 (dk_at dksX0_spent_8 9 rfl rfl)
theorem dX0_spent_199 : decode cX0_spent 199 = .ok (.iinc 7 1, 3) := dk_132 7 1 (dk_at dksX0_spent_8 12 rfl rfl)
theorem dX0_spent_202 : decode cX0_spent 202 = .ok (.goto (-103), 3) := dk_167 255 153 (dk_at dksX0_spent_8 15 rfl rfl)
theorem dX0_spent_205 : decode cX0_spent 205 = .ok (.iload 6, 2) := dk_21 6 (dk_at dksX0_spent_8 18 rfl rfl)
theorem dX0_spent_207 : decode cX0_spent 207 = .ok (.ireturn, 1) := dk_172 (dk_at dksX0_spent_8 20 rfl rfl)
abbrev cX0_act : ByteArray := prog_1_method_49_code
def yX0_act : MethodName := ⟨RX0, "act", "(III)I"⟩
def dkwX0_act_2 : List UInt8 := [167, 0, 23, 28, 4, 160, 0, 12, 25, 4, 29, 182, 1, 93, 167, 0, 9, 25, 4, 29, 182, 1, 96, 172]
abbrev dktX0_act_2 : List UInt8 := dkwX0_act_2 ++ []
def dkwX0_act_1 : List UInt8 := [154, 0, 5, 3, 172, 42, 180, 0, 11, 27, 50, 58, 4, 28, 154, 0, 12, 25, 4, 29, 182, 1, 90]
abbrev dktX0_act_1 : List UInt8 := dkwX0_act_1 ++ dktX0_act_2
def dkwX0_act_0 : List UInt8 := [42, 180, 0, 47, 3, 181, 1, 87, 42, 27, 182, 0, 143, 153, 0, 12, 28, 3, 5, 184, 0, 86]
abbrev dktX0_act_0 : List UInt8 := dkwX0_act_0 ++ dktX0_act_1
theorem dksX0_act_0 : cX0_act.data.toList.drop 0 = dktX0_act_0 := by decide +kernel
theorem dksX0_act_1 : cX0_act.data.toList.drop 22 = dktX0_act_1 := dk_seg dksX0_act_0 22 rfl rfl
theorem dksX0_act_2 : cX0_act.data.toList.drop 45 = dktX0_act_2 := dk_seg dksX0_act_1 23 rfl rfl
theorem dX0_act_0 : decode cX0_act 0 = .ok (.aload_n 0, 1) := dk_42 (dk_at dksX0_act_0 0 rfl rfl)
theorem dX0_act_1 : decode cX0_act 1 = .ok (.getfield 47, 3) := dk_180 0 47 (dk_at dksX0_act_0 1 rfl rfl)
theorem dX0_act_4 : decode cX0_act 4 = .ok (.iconst 0, 1) := dk_3 (dk_at dksX0_act_0 4 rfl rfl)
theorem dX0_act_5 : decode cX0_act 5 = .ok (.putfield 343, 3) := dk_181 1 87 (dk_at dksX0_act_0 5 rfl rfl)
theorem dX0_act_8 : decode cX0_act 8 = .ok (.aload_n 0, 1) := dk_42 (dk_at dksX0_act_0 8 rfl rfl)
theorem dX0_act_9 : decode cX0_act 9 = .ok (.iload_n 1, 1) := dk_27 (dk_at dksX0_act_0 9 rfl rfl)
theorem dX0_act_10 : decode cX0_act 10 = .ok (.invokevirtual 143, 3) := dk_182 0 143 (dk_at dksX0_act_0 10 rfl rfl)
theorem dX0_act_13 : decode cX0_act 13 = .ok (.ifCond .eq 12, 3) := dk_153 0 12 (dk_at dksX0_act_0 13 rfl rfl)
theorem dX0_act_16 : decode cX0_act 16 = .ok (.iload_n 2, 1) := dk_28 (dk_at dksX0_act_0 16 rfl rfl)
theorem dX0_act_17 : decode cX0_act 17 = .ok (.iconst 0, 1) := dk_3 (dk_at dksX0_act_0 17 rfl rfl)
theorem dX0_act_18 : decode cX0_act 18 = .ok (.iconst 2, 1) := dk_5 (dk_at dksX0_act_0 18 rfl rfl)
theorem dX0_act_19 : decode cX0_act 19 = .ok (.invokestatic 86, 3) := dk_184 0 86 (dk_at dksX0_act_0 19 rfl rfl)
theorem dX0_act_22 : decode cX0_act 22 = .ok (.ifCond .ne 5, 3) := dk_154 0 5 (dk_at dksX0_act_1 0 rfl rfl)
theorem dX0_act_25 : decode cX0_act 25 = .ok (.iconst 0, 1) := dk_3 (dk_at dksX0_act_1 3 rfl rfl)
theorem dX0_act_26 : decode cX0_act 26 = .ok (.ireturn, 1) := dk_172 (dk_at dksX0_act_1 4 rfl rfl)
theorem dX0_act_27 : decode cX0_act 27 = .ok (.aload_n 0, 1) := dk_42 (dk_at dksX0_act_1 5 rfl rfl)
theorem dX0_act_28 : decode cX0_act 28 = .ok (.getfield 11, 3) := dk_180 0 11 (dk_at dksX0_act_1 6 rfl rfl)
theorem dX0_act_31 : decode cX0_act 31 = .ok (.iload_n 1, 1) := dk_27 (dk_at dksX0_act_1 9 rfl rfl)
theorem dX0_act_32 : decode cX0_act 32 = .ok (.aaload, 1) := dk_50 (dk_at dksX0_act_1 10 rfl rfl)
theorem dX0_act_33 : decode cX0_act 33 = .ok (.astore 4, 2) := dk_58 4 (dk_at dksX0_act_1 11 rfl rfl)
theorem dX0_act_35 : decode cX0_act 35 = .ok (.iload_n 2, 1) := dk_28 (dk_at dksX0_act_1 13 rfl rfl)
theorem dX0_act_36 : decode cX0_act 36 = .ok (.ifCond .ne 12, 3) := dk_154 0 12 (dk_at dksX0_act_1 14 rfl rfl)
theorem dX0_act_39 : decode cX0_act 39 = .ok (.aload 4, 2) := dk_25 4 (dk_at dksX0_act_1 17 rfl rfl)
theorem dX0_act_41 : decode cX0_act 41 = .ok (.iload_n 3, 1) := dk_29 (dk_at dksX0_act_1 19 rfl rfl)
theorem dX0_act_42 : decode cX0_act 42 = .ok (.invokevirtual 346, 3) := dk_182 1 90 (dk_at dksX0_act_1 20 rfl rfl)
theorem dX0_act_45 : decode cX0_act 45 = .ok (.goto 23, 3) := dk_167 0 23 (dk_at dksX0_act_2 0 rfl rfl)
theorem dX0_act_48 : decode cX0_act 48 = .ok (.iload_n 2, 1) := dk_28 (dk_at dksX0_act_2 3 rfl rfl)
theorem dX0_act_49 : decode cX0_act 49 = .ok (.iconst 1, 1) := dk_4 (dk_at dksX0_act_2 4 rfl rfl)
theorem dX0_act_50 : decode cX0_act 50 = .ok (.if_icmp .ne 12, 3) := dk_160 0 12 (dk_at dksX0_act_2 5 rfl rfl)
theorem dX0_act_53 : decode cX0_act 53 = .ok (.aload 4, 2) := dk_25 4 (dk_at dksX0_act_2 8 rfl rfl)
theorem dX0_act_55 : decode cX0_act 55 = .ok (.iload_n 3, 1) := dk_29 (dk_at dksX0_act_2 10 rfl rfl)
theorem dX0_act_56 : decode cX0_act 56 = .ok (.invokevirtual 349, 3) := dk_182 1 93 (dk_at dksX0_act_2 11 rfl rfl)
theorem dX0_act_59 : decode cX0_act 59 = .ok (.goto 9, 3) := dk_167 0 9 (dk_at dksX0_act_2 14 rfl rfl)
theorem dX0_act_62 : decode cX0_act 62 = .ok (.aload 4, 2) := dk_25 4 (dk_at dksX0_act_2 17 rfl rfl)
theorem dX0_act_64 : decode cX0_act 64 = .ok (.iload_n 3, 1) := dk_29 (dk_at dksX0_act_2 19 rfl rfl)
theorem dX0_act_65 : decode cX0_act 65 = .ok (.invokevirtual 352, 3) := dk_182 1 96 (dk_at dksX0_act_2 20 rfl rfl)
theorem dX0_act_68 : decode cX0_act 68 = .ok (.ireturn, 1) := dk_172 (dk_at dksX0_act_2 23 rfl rfl)
abbrev cX0_trace : ByteArray := prog_1_method_50_code
def yX0_trace : MethodName := ⟨RX0, "trace", "(I)I"⟩
def dkwX0_trace_1 : List UInt8 := [180, 0, 47, 180, 1, 102, 27, 46, 167, 0, 4, 2, 172]
abbrev dktX0_trace_1 : List UInt8 := dkwX0_trace_1 ++ []
def dkwX0_trace_0 : List UInt8 := [27, 3, 42, 180, 0, 47, 180, 1, 87, 16, 20, 184, 1, 99, 4, 100, 184, 0, 86, 153, 0, 15, 42]
abbrev dktX0_trace_0 : List UInt8 := dkwX0_trace_0 ++ dktX0_trace_1
theorem dksX0_trace_0 : cX0_trace.data.toList.drop 0 = dktX0_trace_0 := by decide +kernel
theorem dksX0_trace_1 : cX0_trace.data.toList.drop 23 = dktX0_trace_1 := dk_seg dksX0_trace_0 23 rfl rfl
theorem dX0_trace_0 : decode cX0_trace 0 = .ok (.iload_n 1, 1) := dk_27 (dk_at dksX0_trace_0 0 rfl rfl)
theorem dX0_trace_1 : decode cX0_trace 1 = .ok (.iconst 0, 1) := dk_3 (dk_at dksX0_trace_0 1 rfl rfl)
theorem dX0_trace_2 : decode cX0_trace 2 = .ok (.aload_n 0, 1) := dk_42 (dk_at dksX0_trace_0 2 rfl rfl)
theorem dX0_trace_3 : decode cX0_trace 3 = .ok (.getfield 47, 3) := dk_180 0 47 (dk_at dksX0_trace_0 3 rfl rfl)
theorem dX0_trace_6 : decode cX0_trace 6 = .ok (.getfield 343, 3) := dk_180 1 87 (dk_at dksX0_trace_0 6 rfl rfl)
theorem dX0_trace_9 : decode cX0_trace 9 = .ok (.bipush 20, 2) := dk_16 20 (dk_at dksX0_trace_0 9 rfl rfl)
theorem dX0_trace_11 : decode cX0_trace 11 = .ok (.invokestatic 355, 3) := dk_184 1 99 (dk_at dksX0_trace_0 11 rfl rfl)
theorem dX0_trace_14 : decode cX0_trace 14 = .ok (.iconst 1, 1) := dk_4 (dk_at dksX0_trace_0 14 rfl rfl)
theorem dX0_trace_15 : decode cX0_trace 15 = .ok (.isub, 1) := dk_100 (dk_at dksX0_trace_0 15 rfl rfl)
theorem dX0_trace_16 : decode cX0_trace 16 = .ok (.invokestatic 86, 3) := dk_184 0 86 (dk_at dksX0_trace_0 16 rfl rfl)
theorem dX0_trace_19 : decode cX0_trace 19 = .ok (.ifCond .eq 15, 3) := dk_153 0 15 (dk_at dksX0_trace_0 19 rfl rfl)
theorem dX0_trace_22 : decode cX0_trace 22 = .ok (.aload_n 0, 1) := dk_42 (dk_at dksX0_trace_0 22 rfl rfl)
theorem dX0_trace_23 : decode cX0_trace 23 = .ok (.getfield 47, 3) := dk_180 0 47 (dk_at dksX0_trace_1 0 rfl rfl)
theorem dX0_trace_26 : decode cX0_trace 26 = .ok (.getfield 358, 3) := dk_180 1 102 (dk_at dksX0_trace_1 3 rfl rfl)
theorem dX0_trace_29 : decode cX0_trace 29 = .ok (.iload_n 1, 1) := dk_27 (dk_at dksX0_trace_1 6 rfl rfl)
theorem dX0_trace_30 : decode cX0_trace 30 = .ok (.iaload, 1) := dk_46 (dk_at dksX0_trace_1 7 rfl rfl)
theorem dX0_trace_31 : decode cX0_trace 31 = .ok (.goto 4, 3) := dk_167 0 4 (dk_at dksX0_trace_1 8 rfl rfl)
theorem dX0_trace_34 : decode cX0_trace 34 = .ok (.iconst (-1), 1) := dk_2 (dk_at dksX0_trace_1 11 rfl rfl)
theorem dX0_trace_35 : decode cX0_trace 35 = .ok (.ireturn, 1) := dk_172 (dk_at dksX0_trace_1 12 rfl rfl)
abbrev cX0_taken : ByteArray := prog_1_method_52_code
def yX0_taken : MethodName := ⟨RX0, "taken", "(II)I"⟩
def dkwX0_taken_1 : List UInt8 := [27, 50, 167, 0, 4, 1, 28, 184, 1, 105, 182, 1, 109, 172, 78, 16, 245, 172, 78, 16, 244, 172]
abbrev dktX0_taken_1 : List UInt8 := dkwX0_taken_1 ++ []
def dkwX0_taken_0 : List UInt8 := [28, 3, 7, 184, 0, 86, 154, 0, 6, 16, 254, 172, 42, 27, 182, 0, 143, 153, 0, 12, 42, 180, 0, 11]
abbrev dktX0_taken_0 : List UInt8 := dkwX0_taken_0 ++ dktX0_taken_1
theorem dksX0_taken_0 : cX0_taken.data.toList.drop 0 = dktX0_taken_0 := by decide +kernel
theorem dksX0_taken_1 : cX0_taken.data.toList.drop 24 = dktX0_taken_1 := dk_seg dksX0_taken_0 24 rfl rfl
theorem dX0_taken_0 : decode cX0_taken 0 = .ok (.iload_n 2, 1) := dk_28 (dk_at dksX0_taken_0 0 rfl rfl)
theorem dX0_taken_1 : decode cX0_taken 1 = .ok (.iconst 0, 1) := dk_3 (dk_at dksX0_taken_0 1 rfl rfl)
theorem dX0_taken_2 : decode cX0_taken 2 = .ok (.iconst 4, 1) := dk_7 (dk_at dksX0_taken_0 2 rfl rfl)
theorem dX0_taken_3 : decode cX0_taken 3 = .ok (.invokestatic 86, 3) := dk_184 0 86 (dk_at dksX0_taken_0 3 rfl rfl)
theorem dX0_taken_6 : decode cX0_taken 6 = .ok (.ifCond .ne 6, 3) := dk_154 0 6 (dk_at dksX0_taken_0 6 rfl rfl)
theorem dX0_taken_9 : decode cX0_taken 9 = .ok (.bipush (-2), 2) := dk_16 254 (dk_at dksX0_taken_0 9 rfl rfl)
theorem dX0_taken_11 : decode cX0_taken 11 = .ok (.ireturn, 1) := dk_172 (dk_at dksX0_taken_0 11 rfl rfl)
theorem dX0_taken_12 : decode cX0_taken 12 = .ok (.aload_n 0, 1) := dk_42 (dk_at dksX0_taken_0 12 rfl rfl)
theorem dX0_taken_13 : decode cX0_taken 13 = .ok (.iload_n 1, 1) := dk_27 (dk_at dksX0_taken_0 13 rfl rfl)
theorem dX0_taken_14 : decode cX0_taken 14 = .ok (.invokevirtual 143, 3) := dk_182 0 143 (dk_at dksX0_taken_0 14 rfl rfl)
theorem dX0_taken_17 : decode cX0_taken 17 = .ok (.ifCond .eq 12, 3) := dk_153 0 12 (dk_at dksX0_taken_0 17 rfl rfl)
theorem dX0_taken_20 : decode cX0_taken 20 = .ok (.aload_n 0, 1) := dk_42 (dk_at dksX0_taken_0 20 rfl rfl)
theorem dX0_taken_21 : decode cX0_taken 21 = .ok (.getfield 11, 3) := dk_180 0 11 (dk_at dksX0_taken_0 21 rfl rfl)
theorem dX0_taken_24 : decode cX0_taken 24 = .ok (.iload_n 1, 1) := dk_27 (dk_at dksX0_taken_1 0 rfl rfl)
theorem dX0_taken_25 : decode cX0_taken 25 = .ok (.aaload, 1) := dk_50 (dk_at dksX0_taken_1 1 rfl rfl)
theorem dX0_taken_26 : decode cX0_taken 26 = .ok (.goto 4, 3) := dk_167 0 4 (dk_at dksX0_taken_1 2 rfl rfl)
theorem dX0_taken_29 : decode cX0_taken 29 = .ok (.aconst_null, 1) := dk_1 (dk_at dksX0_taken_1 5 rfl rfl)
theorem dX0_taken_30 : decode cX0_taken 30 = .ok (.iload_n 2, 1) := dk_28 (dk_at dksX0_taken_1 6 rfl rfl)
theorem dX0_taken_31 : decode cX0_taken 31 = .ok (.invokestatic 361, 3) := dk_184 1 105 (dk_at dksX0_taken_1 7 rfl rfl)
theorem dX0_taken_34 : decode cX0_taken 34 = .ok (.invokevirtual 365, 3) := dk_182 1 109 (dk_at dksX0_taken_1 10 rfl rfl)
theorem dX0_taken_37 : decode cX0_taken 37 = .ok (.ireturn, 1) := dk_172 (dk_at dksX0_taken_1 13 rfl rfl)
theorem dX0_taken_38 : decode cX0_taken 38 = .ok (.astore_n 3, 1) := dk_78 (dk_at dksX0_taken_1 14 rfl rfl)
theorem dX0_taken_39 : decode cX0_taken 39 = .ok (.bipush (-11), 2) := dk_16 245 (dk_at dksX0_taken_1 15 rfl rfl)
theorem dX0_taken_41 : decode cX0_taken 41 = .ok (.ireturn, 1) := dk_172 (dk_at dksX0_taken_1 17 rfl rfl)
theorem dX0_taken_42 : decode cX0_taken 42 = .ok (.astore_n 3, 1) := dk_78 (dk_at dksX0_taken_1 18 rfl rfl)
theorem dX0_taken_43 : decode cX0_taken 43 = .ok (.bipush (-12), 2) := dk_16 244 (dk_at dksX0_taken_1 19 rfl rfl)
theorem dX0_taken_45 : decode cX0_taken 45 = .ok (.ireturn, 1) := dk_172 (dk_at dksX0_taken_1 21 rfl rfl)
abbrev cX0_takenFor : ByteArray := prog_1_method_51_code
def yX0_takenFor : MethodName := ⟨RX0, "takenFor", "(LMaypoleGreen$Leads;I)LMaypoleGreen$Dancer;"⟩
def dkwX0_takenFor_3 : List UInt8 := [176]
abbrev dktX0_takenFor_3 : List UInt8 := dkwX0_takenFor_3 ++ []
def dkwX0_takenFor_2 : List UInt8 := [42, 192, 0, 9, 176, 42, 192, 0, 99, 176, 42, 192, 0, 102, 176, 42, 192, 0, 105, 176, 42, 192, 0, 108]
abbrev dktX0_takenFor_2 : List UInt8 := dkwX0_takenFor_2 ++ dktX0_takenFor_3
def dkwX0_takenFor_1 : List UInt8 := [170, 0, 0, 0, 0, 0, 51, 0, 0, 0, 0, 0, 0, 0, 3, 0, 0, 0, 31, 0, 0, 0, 36, 0, 0, 0, 41, 0, 0, 0, 46]
abbrev dktX0_takenFor_1 : List UInt8 := dkwX0_takenFor_1 ++ dktX0_takenFor_2
def dkwX0_takenFor_0 : List UInt8 := [27]
abbrev dktX0_takenFor_0 : List UInt8 := dkwX0_takenFor_0 ++ dktX0_takenFor_1
theorem dksX0_takenFor_0 : cX0_takenFor.data.toList.drop 0 = dktX0_takenFor_0 := by decide +kernel
theorem dksX0_takenFor_1 : cX0_takenFor.data.toList.drop 1 = dktX0_takenFor_1 := dk_seg dksX0_takenFor_0 1 rfl rfl
theorem dksX0_takenFor_2 : cX0_takenFor.data.toList.drop 32 = dktX0_takenFor_2 := dk_seg dksX0_takenFor_1 31 rfl rfl
theorem dksX0_takenFor_3 : cX0_takenFor.data.toList.drop 56 = dktX0_takenFor_3 := dk_seg dksX0_takenFor_2 24 rfl rfl
theorem dX0_takenFor_0 : decode cX0_takenFor 0 = .ok (.iload_n 1, 1) := dk_27 (dk_at dksX0_takenFor_0 0 rfl rfl)
theorem dX0_takenFor_1 : decode cX0_takenFor 1 = .ok (.tableswitch 51 0 3 #[31, 36, 41, 46], 31) := by decide +kernel
theorem dX0_takenFor_32 : decode cX0_takenFor 32 = .ok (.aload_n 0, 1) := dk_42 (dk_at dksX0_takenFor_2 0 rfl rfl)
theorem dX0_takenFor_33 : decode cX0_takenFor 33 = .ok (.checkcast 9, 3) := dk_192 0 9 (dk_at dksX0_takenFor_2 1 rfl rfl)
theorem dX0_takenFor_36 : decode cX0_takenFor 36 = .ok (.areturn, 1) := dk_176 (dk_at dksX0_takenFor_2 4 rfl rfl)
theorem dX0_takenFor_37 : decode cX0_takenFor 37 = .ok (.aload_n 0, 1) := dk_42 (dk_at dksX0_takenFor_2 5 rfl rfl)
theorem dX0_takenFor_38 : decode cX0_takenFor 38 = .ok (.checkcast 99, 3) := dk_192 0 99 (dk_at dksX0_takenFor_2 6 rfl rfl)
theorem dX0_takenFor_41 : decode cX0_takenFor 41 = .ok (.areturn, 1) := dk_176 (dk_at dksX0_takenFor_2 9 rfl rfl)
theorem dX0_takenFor_42 : decode cX0_takenFor 42 = .ok (.aload_n 0, 1) := dk_42 (dk_at dksX0_takenFor_2 10 rfl rfl)
theorem dX0_takenFor_43 : decode cX0_takenFor 43 = .ok (.checkcast 102, 3) := dk_192 0 102 (dk_at dksX0_takenFor_2 11 rfl rfl)
theorem dX0_takenFor_46 : decode cX0_takenFor 46 = .ok (.areturn, 1) := dk_176 (dk_at dksX0_takenFor_2 14 rfl rfl)
theorem dX0_takenFor_47 : decode cX0_takenFor 47 = .ok (.aload_n 0, 1) := dk_42 (dk_at dksX0_takenFor_2 15 rfl rfl)
theorem dX0_takenFor_48 : decode cX0_takenFor 48 = .ok (.checkcast 105, 3) := dk_192 0 105 (dk_at dksX0_takenFor_2 16 rfl rfl)
theorem dX0_takenFor_51 : decode cX0_takenFor 51 = .ok (.areturn, 1) := dk_176 (dk_at dksX0_takenFor_2 19 rfl rfl)
theorem dX0_takenFor_52 : decode cX0_takenFor 52 = .ok (.aload_n 0, 1) := dk_42 (dk_at dksX0_takenFor_2 20 rfl rfl)
theorem dX0_takenFor_53 : decode cX0_takenFor 53 = .ok (.checkcast 108, 3) := dk_192 0 108 (dk_at dksX0_takenFor_2 21 rfl rfl)
theorem dX0_takenFor_56 : decode cX0_takenFor 56 = .ok (.areturn, 1) := dk_176 (dk_at dksX0_takenFor_3 0 rfl rfl)
abbrev cX0_count : ByteArray := prog_1_method_53_code
def yX0_count : MethodName := ⟨RX0, "count", "(I)I"⟩
def dkwX0_count_4 : List UInt8 := [180, 1, 87, 172, 16, 254, 172]
abbrev dktX0_count_4 : List UInt8 := dkwX0_count_4 ++ []
def dkwX0_count_3 : List UInt8 := [172, 42, 180, 0, 196, 172, 42, 180, 0, 115, 153, 0, 7, 4, 167, 0, 4, 3, 172, 42, 180, 0, 47]
abbrev dktX0_count_3 : List UInt8 := dkwX0_count_3 ++ dktX0_count_4
def dkwX0_count_2 : List UInt8 := [42, 180, 0, 82, 172, 42, 180, 0, 90, 172, 42, 180, 0, 136, 172, 42, 180, 0, 93, 172, 42, 180, 0, 229]
abbrev dktX0_count_2 : List UInt8 := dkwX0_count_2 ++ dktX0_count_3
def dkwX0_count_1 : List UInt8 := [170, 0, 0, 0, 0, 0, 98, 0, 0, 0, 0, 0, 0, 0, 7, 0, 0, 0, 47, 0, 0, 0, 52, 0, 0, 0, 57, 0, 0, 0, 62, 0, 0, 0, 67, 0, 0, 0, 72, 0, 0, 0, 77, 0, 0, 0, 90]
abbrev dktX0_count_1 : List UInt8 := dkwX0_count_1 ++ dktX0_count_2
def dkwX0_count_0 : List UInt8 := [27]
abbrev dktX0_count_0 : List UInt8 := dkwX0_count_0 ++ dktX0_count_1
theorem dksX0_count_0 : cX0_count.data.toList.drop 0 = dktX0_count_0 := by decide +kernel
theorem dksX0_count_1 : cX0_count.data.toList.drop 1 = dktX0_count_1 := dk_seg dksX0_count_0 1 rfl rfl
theorem dksX0_count_2 : cX0_count.data.toList.drop 48 = dktX0_count_2 := dk_seg dksX0_count_1 47 rfl rfl
theorem dksX0_count_3 : cX0_count.data.toList.drop 72 = dktX0_count_3 := dk_seg dksX0_count_2 24 rfl rfl
theorem dksX0_count_4 : cX0_count.data.toList.drop 95 = dktX0_count_4 := dk_seg dksX0_count_3 23 rfl rfl
theorem dX0_count_0 : decode cX0_count 0 = .ok (.iload_n 1, 1) := dk_27 (dk_at dksX0_count_0 0 rfl rfl)
theorem dX0_count_1 : decode cX0_count 1 = .ok (.tableswitch 98 0 7 #[47, 52, 57, 62, 67, 72, 77, 90], 47) := by decide +kernel
theorem dX0_count_48 : decode cX0_count 48 = .ok (.aload_n 0, 1) := dk_42 (dk_at dksX0_count_2 0 rfl rfl)
theorem dX0_count_49 : decode cX0_count 49 = .ok (.getfield 82, 3) := dk_180 0 82 (dk_at dksX0_count_2 1 rfl rfl)
theorem dX0_count_52 : decode cX0_count 52 = .ok (.ireturn, 1) := dk_172 (dk_at dksX0_count_2 4 rfl rfl)
theorem dX0_count_53 : decode cX0_count 53 = .ok (.aload_n 0, 1) := dk_42 (dk_at dksX0_count_2 5 rfl rfl)
theorem dX0_count_54 : decode cX0_count 54 = .ok (.getfield 90, 3) := dk_180 0 90 (dk_at dksX0_count_2 6 rfl rfl)
theorem dX0_count_57 : decode cX0_count 57 = .ok (.ireturn, 1) := dk_172 (dk_at dksX0_count_2 9 rfl rfl)
theorem dX0_count_58 : decode cX0_count 58 = .ok (.aload_n 0, 1) := dk_42 (dk_at dksX0_count_2 10 rfl rfl)
theorem dX0_count_59 : decode cX0_count 59 = .ok (.getfield 136, 3) := dk_180 0 136 (dk_at dksX0_count_2 11 rfl rfl)
theorem dX0_count_62 : decode cX0_count 62 = .ok (.ireturn, 1) := dk_172 (dk_at dksX0_count_2 14 rfl rfl)
theorem dX0_count_63 : decode cX0_count 63 = .ok (.aload_n 0, 1) := dk_42 (dk_at dksX0_count_2 15 rfl rfl)
theorem dX0_count_64 : decode cX0_count 64 = .ok (.getfield 93, 3) := dk_180 0 93 (dk_at dksX0_count_2 16 rfl rfl)
theorem dX0_count_67 : decode cX0_count 67 = .ok (.ireturn, 1) := dk_172 (dk_at dksX0_count_2 19 rfl rfl)
theorem dX0_count_68 : decode cX0_count 68 = .ok (.aload_n 0, 1) := dk_42 (dk_at dksX0_count_2 20 rfl rfl)
theorem dX0_count_69 : decode cX0_count 69 = .ok (.getfield 229, 3) := dk_180 0 229 (dk_at dksX0_count_2 21 rfl rfl)
theorem dX0_count_72 : decode cX0_count 72 = .ok (.ireturn, 1) := dk_172 (dk_at dksX0_count_3 0 rfl rfl)
theorem dX0_count_73 : decode cX0_count 73 = .ok (.aload_n 0, 1) := dk_42 (dk_at dksX0_count_3 1 rfl rfl)
theorem dX0_count_74 : decode cX0_count 74 = .ok (.getfield 196, 3) := dk_180 0 196 (dk_at dksX0_count_3 2 rfl rfl)
theorem dX0_count_77 : decode cX0_count 77 = .ok (.ireturn, 1) := dk_172 (dk_at dksX0_count_3 5 rfl rfl)
theorem dX0_count_78 : decode cX0_count 78 = .ok (.aload_n 0, 1) := dk_42 (dk_at dksX0_count_3 6 rfl rfl)
theorem dX0_count_79 : decode cX0_count 79 = .ok (.getfield 115, 3) := dk_180 0 115 (dk_at dksX0_count_3 7 rfl rfl)
theorem dX0_count_82 : decode cX0_count 82 = .ok (.ifCond .eq 7, 3) := dk_153 0 7 (dk_at dksX0_count_3 10 rfl rfl)
theorem dX0_count_85 : decode cX0_count 85 = .ok (.iconst 1, 1) := dk_4 (dk_at dksX0_count_3 13 rfl rfl)
theorem dX0_count_86 : decode cX0_count 86 = .ok (.goto 4, 3) := dk_167 0 4 (dk_at dksX0_count_3 14 rfl rfl)
theorem dX0_count_89 : decode cX0_count 89 = .ok (.iconst 0, 1) := dk_3 (dk_at dksX0_count_3 17 rfl rfl)
theorem dX0_count_90 : decode cX0_count 90 = .ok (.ireturn, 1) := dk_172 (dk_at dksX0_count_3 18 rfl rfl)
theorem dX0_count_91 : decode cX0_count 91 = .ok (.aload_n 0, 1) := dk_42 (dk_at dksX0_count_3 19 rfl rfl)
theorem dX0_count_92 : decode cX0_count 92 = .ok (.getfield 47, 3) := dk_180 0 47 (dk_at dksX0_count_3 20 rfl rfl)
theorem dX0_count_95 : decode cX0_count 95 = .ok (.getfield 343, 3) := dk_180 1 87 (dk_at dksX0_count_4 0 rfl rfl)
theorem dX0_count_98 : decode cX0_count 98 = .ok (.ireturn, 1) := dk_172 (dk_at dksX0_count_4 3 rfl rfl)
theorem dX0_count_99 : decode cX0_count 99 = .ok (.bipush (-2), 2) := dk_16 254 (dk_at dksX0_count_4 4 rfl rfl)
theorem dX0_count_101 : decode cX0_count 101 = .ok (.ireturn, 1) := dk_172 (dk_at dksX0_count_4 6 rfl rfl)
abbrev cX0_tape : ByteArray := prog_1_method_56_code
def yX0_tape : MethodName := ⟨RX0, "tape", "(III)I"⟩
def dkwX0_tape_2 : List UInt8 := [29, 184, 1, 112, 181, 1, 41, 4, 172, 58, 4, 16, 242, 172]
abbrev dktX0_tape_2 : List UInt8 := dkwX0_tape_2 ++ []
def dkwX0_tape_1 : List UInt8 := [16, 60, 164, 0, 6, 16, 254, 172, 42, 180, 0, 53, 27, 50, 28, 2, 160, 0, 7, 1, 167, 0, 8, 28]
abbrev dktX0_tape_1 : List UInt8 := dkwX0_tape_1 ++ dktX0_tape_2
def dkwX0_tape_0 : List UInt8 := [27, 184, 1, 38, 154, 0, 5, 2, 172, 28, 2, 7, 184, 0, 86, 153, 0, 14, 28, 2, 159, 0, 12, 29]
abbrev dktX0_tape_0 : List UInt8 := dkwX0_tape_0 ++ dktX0_tape_1
theorem dksX0_tape_0 : cX0_tape.data.toList.drop 0 = dktX0_tape_0 := by decide +kernel
theorem dksX0_tape_1 : cX0_tape.data.toList.drop 24 = dktX0_tape_1 := dk_seg dksX0_tape_0 24 rfl rfl
theorem dksX0_tape_2 : cX0_tape.data.toList.drop 48 = dktX0_tape_2 := dk_seg dksX0_tape_1 24 rfl rfl
theorem dX0_tape_0 : decode cX0_tape 0 = .ok (.iload_n 1, 1) := dk_27 (dk_at dksX0_tape_0 0 rfl rfl)
theorem dX0_tape_1 : decode cX0_tape 1 = .ok (.invokestatic 294, 3) := dk_184 1 38 (dk_at dksX0_tape_0 1 rfl rfl)
theorem dX0_tape_4 : decode cX0_tape 4 = .ok (.ifCond .ne 5, 3) := dk_154 0 5 (dk_at dksX0_tape_0 4 rfl rfl)
theorem dX0_tape_7 : decode cX0_tape 7 = .ok (.iconst (-1), 1) := dk_2 (dk_at dksX0_tape_0 7 rfl rfl)
theorem dX0_tape_8 : decode cX0_tape 8 = .ok (.ireturn, 1) := dk_172 (dk_at dksX0_tape_0 8 rfl rfl)
theorem dX0_tape_9 : decode cX0_tape 9 = .ok (.iload_n 2, 1) := dk_28 (dk_at dksX0_tape_0 9 rfl rfl)
theorem dX0_tape_10 : decode cX0_tape 10 = .ok (.iconst (-1), 1) := dk_2 (dk_at dksX0_tape_0 10 rfl rfl)
theorem dX0_tape_11 : decode cX0_tape 11 = .ok (.iconst 4, 1) := dk_7 (dk_at dksX0_tape_0 11 rfl rfl)
theorem dX0_tape_12 : decode cX0_tape 12 = .ok (.invokestatic 86, 3) := dk_184 0 86 (dk_at dksX0_tape_0 12 rfl rfl)
theorem dX0_tape_15 : decode cX0_tape 15 = .ok (.ifCond .eq 14, 3) := dk_153 0 14 (dk_at dksX0_tape_0 15 rfl rfl)
theorem dX0_tape_18 : decode cX0_tape 18 = .ok (.iload_n 2, 1) := dk_28 (dk_at dksX0_tape_0 18 rfl rfl)
theorem dX0_tape_19 : decode cX0_tape 19 = .ok (.iconst (-1), 1) := dk_2 (dk_at dksX0_tape_0 19 rfl rfl)
theorem dX0_tape_20 : decode cX0_tape 20 = .ok (.if_icmp .eq 12, 3) := dk_159 0 12 (dk_at dksX0_tape_0 20 rfl rfl)
theorem dX0_tape_23 : decode cX0_tape 23 = .ok (.iload_n 3, 1) := dk_29 (dk_at dksX0_tape_0 23 rfl rfl)
theorem dX0_tape_24 : decode cX0_tape 24 = .ok (.bipush 60, 2) := dk_16 60 (dk_at dksX0_tape_1 0 rfl rfl)
theorem dX0_tape_26 : decode cX0_tape 26 = .ok (.if_icmp .le 6, 3) := dk_164 0 6 (dk_at dksX0_tape_1 2 rfl rfl)
theorem dX0_tape_29 : decode cX0_tape 29 = .ok (.bipush (-2), 2) := dk_16 254 (dk_at dksX0_tape_1 5 rfl rfl)
theorem dX0_tape_31 : decode cX0_tape 31 = .ok (.ireturn, 1) := dk_172 (dk_at dksX0_tape_1 7 rfl rfl)
theorem dX0_tape_32 : decode cX0_tape 32 = .ok (.aload_n 0, 1) := dk_42 (dk_at dksX0_tape_1 8 rfl rfl)
theorem dX0_tape_33 : decode cX0_tape 33 = .ok (.getfield 53, 3) := dk_180 0 53 (dk_at dksX0_tape_1 9 rfl rfl)
theorem dX0_tape_36 : decode cX0_tape 36 = .ok (.iload_n 1, 1) := dk_27 (dk_at dksX0_tape_1 12 rfl rfl)
theorem dX0_tape_37 : decode cX0_tape 37 = .ok (.aaload, 1) := dk_50 (dk_at dksX0_tape_1 13 rfl rfl)
theorem dX0_tape_38 : decode cX0_tape 38 = .ok (.iload_n 2, 1) := dk_28 (dk_at dksX0_tape_1 14 rfl rfl)
theorem dX0_tape_39 : decode cX0_tape 39 = .ok (.iconst (-1), 1) := dk_2 (dk_at dksX0_tape_1 15 rfl rfl)
theorem dX0_tape_40 : decode cX0_tape 40 = .ok (.if_icmp .ne 7, 3) := dk_160 0 7 (dk_at dksX0_tape_1 16 rfl rfl)
theorem dX0_tape_43 : decode cX0_tape 43 = .ok (.aconst_null, 1) := dk_1 (dk_at dksX0_tape_1 19 rfl rfl)
theorem dX0_tape_44 : decode cX0_tape 44 = .ok (.goto 8, 3) := dk_167 0 8 (dk_at dksX0_tape_1 20 rfl rfl)
theorem dX0_tape_47 : decode cX0_tape 47 = .ok (.iload_n 2, 1) := dk_28 (dk_at dksX0_tape_1 23 rfl rfl)
theorem dX0_tape_48 : decode cX0_tape 48 = .ok (.iload_n 3, 1) := dk_29 (dk_at dksX0_tape_2 0 rfl rfl)
theorem dX0_tape_49 : decode cX0_tape 49 = .ok (.invokestatic 368, 3) := dk_184 1 112 (dk_at dksX0_tape_2 1 rfl rfl)
theorem dX0_tape_52 : decode cX0_tape 52 = .ok (.putfield 297, 3) := dk_181 1 41 (dk_at dksX0_tape_2 4 rfl rfl)
theorem dX0_tape_55 : decode cX0_tape 55 = .ok (.iconst 1, 1) := dk_4 (dk_at dksX0_tape_2 7 rfl rfl)
theorem dX0_tape_56 : decode cX0_tape 56 = .ok (.ireturn, 1) := dk_172 (dk_at dksX0_tape_2 8 rfl rfl)
theorem dX0_tape_57 : decode cX0_tape 57 = .ok (.astore 4, 2) := dk_58 4 (dk_at dksX0_tape_2 9 rfl rfl)
theorem dX0_tape_59 : decode cX0_tape 59 = .ok (.bipush (-14), 2) := dk_16 242 (dk_at dksX0_tape_2 11 rfl rfl)
theorem dX0_tape_61 : decode cX0_tape 61 = .ok (.ireturn, 1) := dk_172 (dk_at dksX0_tape_2 13 rfl rfl)
abbrev cX0_made_2 : ByteArray := prog_1_method_54_code
def yX0_made_2 : MethodName := ⟨RX0, "made", "(II)Ljava/lang/Object;"⟩
def dkwX0_made_2_2 : List UInt8 := [27, 188, 8, 176, 27, 188, 9, 176, 27, 188, 10, 176, 27, 188, 4, 176, 27, 188, 5, 176]
abbrev dktX0_made_2_2 : List UInt8 := dkwX0_made_2_2 ++ []
def dkwX0_made_2_1 : List UInt8 := [170, 0, 0, 0, 0, 0, 47, 0, 0, 0, 0, 0, 0, 0, 3, 0, 0, 0, 31, 0, 0, 0, 35, 0, 0, 0, 39, 0, 0, 0, 43]
abbrev dktX0_made_2_1 : List UInt8 := dkwX0_made_2_1 ++ dktX0_made_2_2
def dkwX0_made_2_0 : List UInt8 := [26]
abbrev dktX0_made_2_0 : List UInt8 := dkwX0_made_2_0 ++ dktX0_made_2_1
theorem dksX0_made_2_0 : cX0_made_2.data.toList.drop 0 = dktX0_made_2_0 := by decide +kernel
theorem dksX0_made_2_1 : cX0_made_2.data.toList.drop 1 = dktX0_made_2_1 := dk_seg dksX0_made_2_0 1 rfl rfl
theorem dksX0_made_2_2 : cX0_made_2.data.toList.drop 32 = dktX0_made_2_2 := dk_seg dksX0_made_2_1 31 rfl rfl
theorem dX0_made_2_0 : decode cX0_made_2 0 = .ok (.iload_n 0, 1) := dk_26 (dk_at dksX0_made_2_0 0 rfl rfl)
theorem dX0_made_2_1 : decode cX0_made_2 1 = .ok (.tableswitch 47 0 3 #[31, 35, 39, 43], 31) := by decide +kernel
theorem dX0_made_2_32 : decode cX0_made_2 32 = .ok (.iload_n 1, 1) := dk_27 (dk_at dksX0_made_2_2 0 rfl rfl)
theorem dX0_made_2_33 : decode cX0_made_2 33 = .ok (.newarray .byte, 2) := dk_188_8 (dk_at dksX0_made_2_2 1 rfl rfl)
theorem dX0_made_2_35 : decode cX0_made_2 35 = .ok (.areturn, 1) := dk_176 (dk_at dksX0_made_2_2 3 rfl rfl)
theorem dX0_made_2_36 : decode cX0_made_2 36 = .ok (.iload_n 1, 1) := dk_27 (dk_at dksX0_made_2_2 4 rfl rfl)
theorem dX0_made_2_37 : decode cX0_made_2 37 = .ok (.newarray .short, 2) := dk_188_9 (dk_at dksX0_made_2_2 5 rfl rfl)
theorem dX0_made_2_39 : decode cX0_made_2 39 = .ok (.areturn, 1) := dk_176 (dk_at dksX0_made_2_2 7 rfl rfl)
theorem dX0_made_2_40 : decode cX0_made_2 40 = .ok (.iload_n 1, 1) := dk_27 (dk_at dksX0_made_2_2 8 rfl rfl)
theorem dX0_made_2_41 : decode cX0_made_2 41 = .ok (.newarray .int, 2) := dk_188_10 (dk_at dksX0_made_2_2 9 rfl rfl)
theorem dX0_made_2_43 : decode cX0_made_2 43 = .ok (.areturn, 1) := dk_176 (dk_at dksX0_made_2_2 11 rfl rfl)
theorem dX0_made_2_44 : decode cX0_made_2 44 = .ok (.iload_n 1, 1) := dk_27 (dk_at dksX0_made_2_2 12 rfl rfl)
theorem dX0_made_2_45 : decode cX0_made_2 45 = .ok (.newarray .boolean, 2) := dk_188_4 (dk_at dksX0_made_2_2 13 rfl rfl)
theorem dX0_made_2_47 : decode cX0_made_2 47 = .ok (.areturn, 1) := dk_176 (dk_at dksX0_made_2_2 15 rfl rfl)
theorem dX0_made_2_48 : decode cX0_made_2 48 = .ok (.iload_n 1, 1) := dk_27 (dk_at dksX0_made_2_2 16 rfl rfl)
theorem dX0_made_2_49 : decode cX0_made_2 49 = .ok (.newarray .char, 2) := dk_188_5 (dk_at dksX0_made_2_2 17 rfl rfl)
theorem dX0_made_2_51 : decode cX0_made_2 51 = .ok (.areturn, 1) := dk_176 (dk_at dksX0_made_2_2 19 rfl rfl)
abbrev cX0_item : ByteArray := prog_1_method_57_code
def yX0_item : MethodName := ⟨RX0, "item", "(III)I"⟩
def dkwX0_item_7 : List UInt8 := [167, 0, 15, 25, 4, 180, 1, 41, 192, 1, 125, 28, 29, 146, 85, 4, 172]
abbrev dktX0_item_7 : List UInt8 := dkwX0_item_7 ++ []
def dkwX0_item_6 : List UInt8 := [153, 0, 26, 25, 9, 192, 1, 123, 58, 8, 25, 8, 28, 29, 153, 0, 7, 4, 167, 0, 4, 3, 84]
abbrev dktX0_item_6 : List UInt8 := dkwX0_item_6 ++ dktX0_item_7
def dkwX0_item_5 : List UInt8 := [58, 7, 25, 7, 28, 29, 79, 167, 0, 53, 25, 4, 180, 1, 41, 58, 9, 25, 9, 193, 1, 123]
abbrev dktX0_item_5 : List UInt8 := dkwX0_item_5 ++ dktX0_item_6
def dkwX0_item_4 : List UInt8 := [167, 0, 83, 25, 4, 180, 1, 41, 58, 9, 25, 9, 193, 1, 122, 153, 0, 18, 25, 9, 192, 1, 122]
abbrev dktX0_item_4 : List UInt8 := dkwX0_item_4 ++ dktX0_item_5
def dkwX0_item_3 : List UInt8 := [58, 9, 25, 9, 193, 1, 120, 153, 0, 19, 25, 9, 192, 1, 120, 58, 6, 25, 6, 28, 29, 147, 86]
abbrev dktX0_item_3 : List UInt8 := dkwX0_item_3 ++ dktX0_item_4
def dkwX0_item_2 : List UInt8 := [153, 0, 19, 25, 9, 192, 1, 44, 58, 5, 25, 5, 28, 29, 145, 84, 167, 0, 114, 25, 4, 180, 1, 41]
abbrev dktX0_item_2 : List UInt8 := dkwX0_item_2 ++ dktX0_item_3
def dkwX0_item_1 : List UInt8 := [167, 0, 11, 58, 5, 25, 5, 180, 0, 246, 172, 25, 4, 180, 1, 41, 58, 9, 25, 9, 193, 1, 44]
abbrev dktX0_item_1 : List UInt8 := dkwX0_item_1 ++ dktX0_item_2
def dkwX0_item_0 : List UInt8 := [27, 184, 1, 38, 154, 0, 5, 2, 172, 42, 180, 0, 53, 27, 50, 58, 4, 25, 4, 28, 182, 1, 117]
abbrev dktX0_item_0 : List UInt8 := dkwX0_item_0 ++ dktX0_item_1
theorem dksX0_item_0 : cX0_item.data.toList.drop 0 = dktX0_item_0 := by decide +kernel
theorem dksX0_item_1 : cX0_item.data.toList.drop 23 = dktX0_item_1 := dk_seg dksX0_item_0 23 rfl rfl
theorem dksX0_item_2 : cX0_item.data.toList.drop 46 = dktX0_item_2 := dk_seg dksX0_item_1 23 rfl rfl
theorem dksX0_item_3 : cX0_item.data.toList.drop 70 = dktX0_item_3 := dk_seg dksX0_item_2 24 rfl rfl
theorem dksX0_item_4 : cX0_item.data.toList.drop 93 = dktX0_item_4 := dk_seg dksX0_item_3 23 rfl rfl
theorem dksX0_item_5 : cX0_item.data.toList.drop 116 = dktX0_item_5 := dk_seg dksX0_item_4 23 rfl rfl
theorem dksX0_item_6 : cX0_item.data.toList.drop 138 = dktX0_item_6 := dk_seg dksX0_item_5 22 rfl rfl
theorem dksX0_item_7 : cX0_item.data.toList.drop 161 = dktX0_item_7 := dk_seg dksX0_item_6 23 rfl rfl
theorem dX0_item_0 : decode cX0_item 0 = .ok (.iload_n 1, 1) := dk_27 (dk_at dksX0_item_0 0 rfl rfl)
theorem dX0_item_1 : decode cX0_item 1 = .ok (.invokestatic 294, 3) := dk_184 1 38 (dk_at dksX0_item_0 1 rfl rfl)
theorem dX0_item_4 : decode cX0_item 4 = .ok (.ifCond .ne 5, 3) := dk_154 0 5 (dk_at dksX0_item_0 4 rfl rfl)
theorem dX0_item_7 : decode cX0_item 7 = .ok (.iconst (-1), 1) := dk_2 (dk_at dksX0_item_0 7 rfl rfl)
theorem dX0_item_8 : decode cX0_item 8 = .ok (.ireturn, 1) := dk_172 (dk_at dksX0_item_0 8 rfl rfl)
theorem dX0_item_9 : decode cX0_item 9 = .ok (.aload_n 0, 1) := dk_42 (dk_at dksX0_item_0 9 rfl rfl)
theorem dX0_item_10 : decode cX0_item 10 = .ok (.getfield 53, 3) := dk_180 0 53 (dk_at dksX0_item_0 10 rfl rfl)
theorem dX0_item_13 : decode cX0_item 13 = .ok (.iload_n 1, 1) := dk_27 (dk_at dksX0_item_0 13 rfl rfl)
theorem dX0_item_14 : decode cX0_item 14 = .ok (.aaload, 1) := dk_50 (dk_at dksX0_item_0 14 rfl rfl)
theorem dX0_item_15 : decode cX0_item 15 = .ok (.astore 4, 2) := dk_58 4 (dk_at dksX0_item_0 15 rfl rfl)
theorem dX0_item_17 : decode cX0_item 17 = .ok (.aload 4, 2) := dk_25 4 (dk_at dksX0_item_0 17 rfl rfl)
theorem dX0_item_19 : decode cX0_item 19 = .ok (.iload_n 2, 1) := dk_28 (dk_at dksX0_item_0 19 rfl rfl)
theorem dX0_item_20 : decode cX0_item 20 = .ok (.invokevirtual 373, 3) := dk_182 1 117 (dk_at dksX0_item_0 20 rfl rfl)
theorem dX0_item_23 : decode cX0_item 23 = .ok (.goto 11, 3) := dk_167 0 11 (dk_at dksX0_item_1 0 rfl rfl)
theorem dX0_item_26 : decode cX0_item 26 = .ok (.astore 5, 2) := dk_58 5 (dk_at dksX0_item_1 3 rfl rfl)
theorem dX0_item_28 : decode cX0_item 28 = .ok (.aload 5, 2) := dk_25 5 (dk_at dksX0_item_1 5 rfl rfl)
theorem dX0_item_30 : decode cX0_item 30 = .ok (.getfield 246, 3) := dk_180 0 246 (dk_at dksX0_item_1 7 rfl rfl)
theorem dX0_item_33 : decode cX0_item 33 = .ok (.ireturn, 1) := dk_172 (dk_at dksX0_item_1 10 rfl rfl)
theorem dX0_item_34 : decode cX0_item 34 = .ok (.aload 4, 2) := dk_25 4 (dk_at dksX0_item_1 11 rfl rfl)
theorem dX0_item_36 : decode cX0_item 36 = .ok (.getfield 297, 3) := dk_180 1 41 (dk_at dksX0_item_1 13 rfl rfl)
theorem dX0_item_39 : decode cX0_item 39 = .ok (.astore 9, 2) := dk_58 9 (dk_at dksX0_item_1 16 rfl rfl)
theorem dX0_item_41 : decode cX0_item 41 = .ok (.aload 9, 2) := dk_25 9 (dk_at dksX0_item_1 18 rfl rfl)
theorem dX0_item_43 : decode cX0_item 43 = .ok (.instanceof 300, 3) := dk_193 1 44 (dk_at dksX0_item_1 20 rfl rfl)
theorem dX0_item_46 : decode cX0_item 46 = .ok (.ifCond .eq 19, 3) := dk_153 0 19 (dk_at dksX0_item_2 0 rfl rfl)
theorem dX0_item_49 : decode cX0_item 49 = .ok (.aload 9, 2) := dk_25 9 (dk_at dksX0_item_2 3 rfl rfl)
theorem dX0_item_51 : decode cX0_item 51 = .ok (.checkcast 300, 3) := dk_192 1 44 (dk_at dksX0_item_2 5 rfl rfl)
theorem dX0_item_54 : decode cX0_item 54 = .ok (.astore 5, 2) := dk_58 5 (dk_at dksX0_item_2 8 rfl rfl)
theorem dX0_item_56 : decode cX0_item 56 = .ok (.aload 5, 2) := dk_25 5 (dk_at dksX0_item_2 10 rfl rfl)
theorem dX0_item_58 : decode cX0_item 58 = .ok (.iload_n 2, 1) := dk_28 (dk_at dksX0_item_2 12 rfl rfl)
theorem dX0_item_59 : decode cX0_item 59 = .ok (.iload_n 3, 1) := dk_29 (dk_at dksX0_item_2 13 rfl rfl)
theorem dX0_item_60 : decode cX0_item 60 = .ok (.i2b, 1) := dk_145 (dk_at dksX0_item_2 14 rfl rfl)
theorem dX0_item_61 : decode cX0_item 61 = .ok (.bastore, 1) := dk_84 (dk_at dksX0_item_2 15 rfl rfl)
theorem dX0_item_62 : decode cX0_item 62 = .ok (.goto 114, 3) := dk_167 0 114 (dk_at dksX0_item_2 16 rfl rfl)
theorem dX0_item_65 : decode cX0_item 65 = .ok (.aload 4, 2) := dk_25 4 (dk_at dksX0_item_2 19 rfl rfl)
theorem dX0_item_67 : decode cX0_item 67 = .ok (.getfield 297, 3) := dk_180 1 41 (dk_at dksX0_item_2 21 rfl rfl)
theorem dX0_item_70 : decode cX0_item 70 = .ok (.astore 9, 2) := dk_58 9 (dk_at dksX0_item_3 0 rfl rfl)
theorem dX0_item_72 : decode cX0_item 72 = .ok (.aload 9, 2) := dk_25 9 (dk_at dksX0_item_3 2 rfl rfl)
theorem dX0_item_74 : decode cX0_item 74 = .ok (.instanceof 376, 3) := dk_193 1 120 (dk_at dksX0_item_3 4 rfl rfl)
theorem dX0_item_77 : decode cX0_item 77 = .ok (.ifCond .eq 19, 3) := dk_153 0 19 (dk_at dksX0_item_3 7 rfl rfl)
theorem dX0_item_80 : decode cX0_item 80 = .ok (.aload 9, 2) := dk_25 9 (dk_at dksX0_item_3 10 rfl rfl)
theorem dX0_item_82 : decode cX0_item 82 = .ok (.checkcast 376, 3) := dk_192 1 120 (dk_at dksX0_item_3 12 rfl rfl)
theorem dX0_item_85 : decode cX0_item 85 = .ok (.astore 6, 2) := dk_58 6 (dk_at dksX0_item_3 15 rfl rfl)
theorem dX0_item_87 : decode cX0_item 87 = .ok (.aload 6, 2) := dk_25 6 (dk_at dksX0_item_3 17 rfl rfl)
theorem dX0_item_89 : decode cX0_item 89 = .ok (.iload_n 2, 1) := dk_28 (dk_at dksX0_item_3 19 rfl rfl)
theorem dX0_item_90 : decode cX0_item 90 = .ok (.iload_n 3, 1) := dk_29 (dk_at dksX0_item_3 20 rfl rfl)
theorem dX0_item_91 : decode cX0_item 91 = .ok (.i2s, 1) := dk_147 (dk_at dksX0_item_3 21 rfl rfl)
theorem dX0_item_92 : decode cX0_item 92 = .ok (.sastore, 1) := dk_86 (dk_at dksX0_item_3 22 rfl rfl)
theorem dX0_item_93 : decode cX0_item 93 = .ok (.goto 83, 3) := dk_167 0 83 (dk_at dksX0_item_4 0 rfl rfl)
theorem dX0_item_96 : decode cX0_item 96 = .ok (.aload 4, 2) := dk_25 4 (dk_at dksX0_item_4 3 rfl rfl)
theorem dX0_item_98 : decode cX0_item 98 = .ok (.getfield 297, 3) := dk_180 1 41 (dk_at dksX0_item_4 5 rfl rfl)
theorem dX0_item_101 : decode cX0_item 101 = .ok (.astore 9, 2) := dk_58 9 (dk_at dksX0_item_4 8 rfl rfl)
theorem dX0_item_103 : decode cX0_item 103 = .ok (.aload 9, 2) := dk_25 9 (dk_at dksX0_item_4 10 rfl rfl)
theorem dX0_item_105 : decode cX0_item 105 = .ok (.instanceof 378, 3) := dk_193 1 122 (dk_at dksX0_item_4 12 rfl rfl)
theorem dX0_item_108 : decode cX0_item 108 = .ok (.ifCond .eq 18, 3) := dk_153 0 18 (dk_at dksX0_item_4 15 rfl rfl)
theorem dX0_item_111 : decode cX0_item 111 = .ok (.aload 9, 2) := dk_25 9 (dk_at dksX0_item_4 18 rfl rfl)
theorem dX0_item_113 : decode cX0_item 113 = .ok (.checkcast 378, 3) := dk_192 1 122 (dk_at dksX0_item_4 20 rfl rfl)
theorem dX0_item_116 : decode cX0_item 116 = .ok (.astore 7, 2) := dk_58 7 (dk_at dksX0_item_5 0 rfl rfl)
theorem dX0_item_118 : decode cX0_item 118 = .ok (.aload 7, 2) := dk_25 7 (dk_at dksX0_item_5 2 rfl rfl)
theorem dX0_item_120 : decode cX0_item 120 = .ok (.iload_n 2, 1) := dk_28 (dk_at dksX0_item_5 4 rfl rfl)
theorem dX0_item_121 : decode cX0_item 121 = .ok (.iload_n 3, 1) := dk_29 (dk_at dksX0_item_5 5 rfl rfl)
theorem dX0_item_122 : decode cX0_item 122 = .ok (.iastore, 1) := dk_79 (dk_at dksX0_item_5 6 rfl rfl)
theorem dX0_item_123 : decode cX0_item 123 = .ok (.goto 53, 3) := dk_167 0 53 (dk_at dksX0_item_5 7 rfl rfl)
theorem dX0_item_126 : decode cX0_item 126 = .ok (.aload 4, 2) := dk_25 4 (dk_at dksX0_item_5 10 rfl rfl)
theorem dX0_item_128 : decode cX0_item 128 = .ok (.getfield 297, 3) := dk_180 1 41 (dk_at dksX0_item_5 12 rfl rfl)
theorem dX0_item_131 : decode cX0_item 131 = .ok (.astore 9, 2) := dk_58 9 (dk_at dksX0_item_5 15 rfl rfl)
theorem dX0_item_133 : decode cX0_item 133 = .ok (.aload 9, 2) := dk_25 9 (dk_at dksX0_item_5 17 rfl rfl)
theorem dX0_item_135 : decode cX0_item 135 = .ok (.instanceof 379, 3) := dk_193 1 123 (dk_at dksX0_item_5 19 rfl rfl)
theorem dX0_item_138 : decode cX0_item 138 = .ok (.ifCond .eq 26, 3) := dk_153 0 26 (dk_at dksX0_item_6 0 rfl rfl)
theorem dX0_item_141 : decode cX0_item 141 = .ok (.aload 9, 2) := dk_25 9 (dk_at dksX0_item_6 3 rfl rfl)
theorem dX0_item_143 : decode cX0_item 143 = .ok (.checkcast 379, 3) := dk_192 1 123 (dk_at dksX0_item_6 5 rfl rfl)
theorem dX0_item_146 : decode cX0_item 146 = .ok (.astore 8, 2) := dk_58 8 (dk_at dksX0_item_6 8 rfl rfl)
theorem dX0_item_148 : decode cX0_item 148 = .ok (.aload 8, 2) := dk_25 8 (dk_at dksX0_item_6 10 rfl rfl)
theorem dX0_item_150 : decode cX0_item 150 = .ok (.iload_n 2, 1) := dk_28 (dk_at dksX0_item_6 12 rfl rfl)
theorem dX0_item_151 : decode cX0_item 151 = .ok (.iload_n 3, 1) := dk_29 (dk_at dksX0_item_6 13 rfl rfl)
theorem dX0_item_152 : decode cX0_item 152 = .ok (.ifCond .eq 7, 3) := dk_153 0 7 (dk_at dksX0_item_6 14 rfl rfl)
theorem dX0_item_155 : decode cX0_item 155 = .ok (.iconst 1, 1) := dk_4 (dk_at dksX0_item_6 17 rfl rfl)
theorem dX0_item_156 : decode cX0_item 156 = .ok (.goto 4, 3) := dk_167 0 4 (dk_at dksX0_item_6 18 rfl rfl)
theorem dX0_item_159 : decode cX0_item 159 = .ok (.iconst 0, 1) := dk_3 (dk_at dksX0_item_6 21 rfl rfl)
theorem dX0_item_160 : decode cX0_item 160 = .ok (.bastore, 1) := dk_84 (dk_at dksX0_item_6 22 rfl rfl)
theorem dX0_item_161 : decode cX0_item 161 = .ok (.goto 15, 3) := dk_167 0 15 (dk_at dksX0_item_7 0 rfl rfl)
theorem dX0_item_164 : decode cX0_item 164 = .ok (.aload 4, 2) := dk_25 4 (dk_at dksX0_item_7 3 rfl rfl)
theorem dX0_item_166 : decode cX0_item 166 = .ok (.getfield 297, 3) := dk_180 1 41 (dk_at dksX0_item_7 5 rfl rfl)
theorem dX0_item_169 : decode cX0_item 169 = .ok (.checkcast 381, 3) := dk_192 1 125 (dk_at dksX0_item_7 8 rfl rfl)
theorem dX0_item_172 : decode cX0_item 172 = .ok (.iload_n 2, 1) := dk_28 (dk_at dksX0_item_7 11 rfl rfl)
theorem dX0_item_173 : decode cX0_item 173 = .ok (.iload_n 3, 1) := dk_29 (dk_at dksX0_item_7 12 rfl rfl)
theorem dX0_item_174 : decode cX0_item 174 = .ok (.i2c, 1) := dk_146 (dk_at dksX0_item_7 13 rfl rfl)
theorem dX0_item_175 : decode cX0_item 175 = .ok (.castore, 1) := dk_85 (dk_at dksX0_item_7 14 rfl rfl)
theorem dX0_item_176 : decode cX0_item 176 = .ok (.iconst 1, 1) := dk_4 (dk_at dksX0_item_7 15 rfl rfl)
theorem dX0_item_177 : decode cX0_item 177 = .ok (.ireturn, 1) := dk_172 (dk_at dksX0_item_7 16 rfl rfl)
abbrev cX0_read : ByteArray := prog_1_method_58_code
def yX0_read : MethodName := ⟨RX0, "read", "(II)I"⟩
def dkwX0_read_7 : List UInt8 := [192, 1, 125, 28, 52, 172]
abbrev dktX0_read_7 : List UInt8 := dkwX0_read_7 ++ []
def dkwX0_read_6 : List UInt8 := [25, 5, 192, 1, 123, 58, 4, 25, 4, 28, 51, 153, 0, 7, 4, 167, 0, 4, 3, 172, 45, 180, 1, 41]
abbrev dktX0_read_6 : List UInt8 := dkwX0_read_6 ++ dktX0_read_7
def dkwX0_read_5 : List UInt8 := [192, 1, 122, 58, 4, 25, 4, 28, 46, 172, 45, 180, 1, 41, 58, 5, 25, 5, 193, 1, 123, 153, 0, 23]
abbrev dktX0_read_5 : List UInt8 := dkwX0_read_5 ++ dktX0_read_6
def dkwX0_read_4 : List UInt8 := [58, 4, 25, 4, 28, 53, 172, 45, 180, 1, 41, 58, 5, 25, 5, 193, 1, 122, 153, 0, 15, 25, 5]
abbrev dktX0_read_4 : List UInt8 := dkwX0_read_4 ++ dktX0_read_5
def dkwX0_read_3 : List UInt8 := [25, 4, 28, 51, 172, 45, 180, 1, 41, 58, 5, 25, 5, 193, 1, 120, 153, 0, 15, 25, 5, 192, 1, 120]
abbrev dktX0_read_3 : List UInt8 := dkwX0_read_3 ++ dktX0_read_4
def dkwX0_read_2 : List UInt8 := [27, 50, 78, 45, 180, 1, 41, 58, 5, 25, 5, 193, 1, 44, 153, 0, 15, 25, 5, 192, 1, 44, 58, 4]
abbrev dktX0_read_2 : List UInt8 := dkwX0_read_2 ++ dktX0_read_3
def dkwX0_read_1 : List UInt8 := [180, 0, 53, 27, 50, 182, 1, 127, 4, 100, 184, 0, 86, 154, 0, 7, 19, 1, 130, 172, 42, 180, 0, 53]
abbrev dktX0_read_1 : List UInt8 := dkwX0_read_1 ++ dktX0_read_2
def dkwX0_read_0 : List UInt8 := [27, 184, 1, 38, 153, 0, 34, 42, 180, 0, 53, 27, 50, 180, 1, 41, 198, 0, 22, 28, 3, 42]
abbrev dktX0_read_0 : List UInt8 := dkwX0_read_0 ++ dktX0_read_1
theorem dksX0_read_0 : cX0_read.data.toList.drop 0 = dktX0_read_0 := by decide +kernel
theorem dksX0_read_1 : cX0_read.data.toList.drop 22 = dktX0_read_1 := dk_seg dksX0_read_0 22 rfl rfl
theorem dksX0_read_2 : cX0_read.data.toList.drop 46 = dktX0_read_2 := dk_seg dksX0_read_1 24 rfl rfl
theorem dksX0_read_3 : cX0_read.data.toList.drop 70 = dktX0_read_3 := dk_seg dksX0_read_2 24 rfl rfl
theorem dksX0_read_4 : cX0_read.data.toList.drop 94 = dktX0_read_4 := dk_seg dksX0_read_3 24 rfl rfl
theorem dksX0_read_5 : cX0_read.data.toList.drop 117 = dktX0_read_5 := dk_seg dksX0_read_4 23 rfl rfl
theorem dksX0_read_6 : cX0_read.data.toList.drop 141 = dktX0_read_6 := dk_seg dksX0_read_5 24 rfl rfl
theorem dksX0_read_7 : cX0_read.data.toList.drop 165 = dktX0_read_7 := dk_seg dksX0_read_6 24 rfl rfl
theorem dX0_read_0 : decode cX0_read 0 = .ok (.iload_n 1, 1) := dk_27 (dk_at dksX0_read_0 0 rfl rfl)
theorem dX0_read_1 : decode cX0_read 1 = .ok (.invokestatic 294, 3) := dk_184 1 38 (dk_at dksX0_read_0 1 rfl rfl)
theorem dX0_read_4 : decode cX0_read 4 = .ok (.ifCond .eq 34, 3) := dk_153 0 34 (dk_at dksX0_read_0 4 rfl rfl)
theorem dX0_read_7 : decode cX0_read 7 = .ok (.aload_n 0, 1) := dk_42 (dk_at dksX0_read_0 7 rfl rfl)
theorem dX0_read_8 : decode cX0_read 8 = .ok (.getfield 53, 3) := dk_180 0 53 (dk_at dksX0_read_0 8 rfl rfl)
theorem dX0_read_11 : decode cX0_read 11 = .ok (.iload_n 1, 1) := dk_27 (dk_at dksX0_read_0 11 rfl rfl)
theorem dX0_read_12 : decode cX0_read 12 = .ok (.aaload, 1) := dk_50 (dk_at dksX0_read_0 12 rfl rfl)
theorem dX0_read_13 : decode cX0_read 13 = .ok (.getfield 297, 3) := dk_180 1 41 (dk_at dksX0_read_0 13 rfl rfl)
theorem dX0_read_16 : decode cX0_read 16 = .ok (.ifnull 22, 3) := dk_198 0 22 (dk_at dksX0_read_0 16 rfl rfl)
theorem dX0_read_19 : decode cX0_read 19 = .ok (.iload_n 2, 1) := dk_28 (dk_at dksX0_read_0 19 rfl rfl)
theorem dX0_read_20 : decode cX0_read 20 = .ok (.iconst 0, 1) := dk_3 (dk_at dksX0_read_0 20 rfl rfl)
theorem dX0_read_21 : decode cX0_read 21 = .ok (.aload_n 0, 1) := dk_42 (dk_at dksX0_read_0 21 rfl rfl)
theorem dX0_read_22 : decode cX0_read 22 = .ok (.getfield 53, 3) := dk_180 0 53 (dk_at dksX0_read_1 0 rfl rfl)
theorem dX0_read_25 : decode cX0_read 25 = .ok (.iload_n 1, 1) := dk_27 (dk_at dksX0_read_1 3 rfl rfl)
theorem dX0_read_26 : decode cX0_read 26 = .ok (.aaload, 1) := dk_50 (dk_at dksX0_read_1 4 rfl rfl)
theorem dX0_read_27 : decode cX0_read 27 = .ok (.invokevirtual 383, 3) := dk_182 1 127 (dk_at dksX0_read_1 5 rfl rfl)
theorem dX0_read_30 : decode cX0_read 30 = .ok (.iconst 1, 1) := dk_4 (dk_at dksX0_read_1 8 rfl rfl)
theorem dX0_read_31 : decode cX0_read 31 = .ok (.isub, 1) := dk_100 (dk_at dksX0_read_1 9 rfl rfl)
theorem dX0_read_32 : decode cX0_read 32 = .ok (.invokestatic 86, 3) := dk_184 0 86 (dk_at dksX0_read_1 10 rfl rfl)
theorem dX0_read_35 : decode cX0_read 35 = .ok (.ifCond .ne 7, 3) := dk_154 0 7 (dk_at dksX0_read_1 13 rfl rfl)
theorem dX0_read_38 : decode cX0_read 38 = .ok (.ldc_w 386, 3) := dk_19 1 130 (dk_at dksX0_read_1 16 rfl rfl)
theorem dX0_read_41 : decode cX0_read 41 = .ok (.ireturn, 1) := dk_172 (dk_at dksX0_read_1 19 rfl rfl)
theorem dX0_read_42 : decode cX0_read 42 = .ok (.aload_n 0, 1) := dk_42 (dk_at dksX0_read_1 20 rfl rfl)
theorem dX0_read_43 : decode cX0_read 43 = .ok (.getfield 53, 3) := dk_180 0 53 (dk_at dksX0_read_1 21 rfl rfl)
theorem dX0_read_46 : decode cX0_read 46 = .ok (.iload_n 1, 1) := dk_27 (dk_at dksX0_read_2 0 rfl rfl)
theorem dX0_read_47 : decode cX0_read 47 = .ok (.aaload, 1) := dk_50 (dk_at dksX0_read_2 1 rfl rfl)
theorem dX0_read_48 : decode cX0_read 48 = .ok (.astore_n 3, 1) := dk_78 (dk_at dksX0_read_2 2 rfl rfl)
theorem dX0_read_49 : decode cX0_read 49 = .ok (.aload_n 3, 1) := dk_45 (dk_at dksX0_read_2 3 rfl rfl)
theorem dX0_read_50 : decode cX0_read 50 = .ok (.getfield 297, 3) := dk_180 1 41 (dk_at dksX0_read_2 4 rfl rfl)
theorem dX0_read_53 : decode cX0_read 53 = .ok (.astore 5, 2) := dk_58 5 (dk_at dksX0_read_2 7 rfl rfl)
theorem dX0_read_55 : decode cX0_read 55 = .ok (.aload 5, 2) := dk_25 5 (dk_at dksX0_read_2 9 rfl rfl)
theorem dX0_read_57 : decode cX0_read 57 = .ok (.instanceof 300, 3) := dk_193 1 44 (dk_at dksX0_read_2 11 rfl rfl)
theorem dX0_read_60 : decode cX0_read 60 = .ok (.ifCond .eq 15, 3) := dk_153 0 15 (dk_at dksX0_read_2 14 rfl rfl)
theorem dX0_read_63 : decode cX0_read 63 = .ok (.aload 5, 2) := dk_25 5 (dk_at dksX0_read_2 17 rfl rfl)
theorem dX0_read_65 : decode cX0_read 65 = .ok (.checkcast 300, 3) := dk_192 1 44 (dk_at dksX0_read_2 19 rfl rfl)
theorem dX0_read_68 : decode cX0_read 68 = .ok (.astore 4, 2) := dk_58 4 (dk_at dksX0_read_2 22 rfl rfl)
theorem dX0_read_70 : decode cX0_read 70 = .ok (.aload 4, 2) := dk_25 4 (dk_at dksX0_read_3 0 rfl rfl)
theorem dX0_read_72 : decode cX0_read 72 = .ok (.iload_n 2, 1) := dk_28 (dk_at dksX0_read_3 2 rfl rfl)
theorem dX0_read_73 : decode cX0_read 73 = .ok (.baload, 1) := dk_51 (dk_at dksX0_read_3 3 rfl rfl)
theorem dX0_read_74 : decode cX0_read 74 = .ok (.ireturn, 1) := dk_172 (dk_at dksX0_read_3 4 rfl rfl)
theorem dX0_read_75 : decode cX0_read 75 = .ok (.aload_n 3, 1) := dk_45 (dk_at dksX0_read_3 5 rfl rfl)
theorem dX0_read_76 : decode cX0_read 76 = .ok (.getfield 297, 3) := dk_180 1 41 (dk_at dksX0_read_3 6 rfl rfl)
theorem dX0_read_79 : decode cX0_read 79 = .ok (.astore 5, 2) := dk_58 5 (dk_at dksX0_read_3 9 rfl rfl)
theorem dX0_read_81 : decode cX0_read 81 = .ok (.aload 5, 2) := dk_25 5 (dk_at dksX0_read_3 11 rfl rfl)
theorem dX0_read_83 : decode cX0_read 83 = .ok (.instanceof 376, 3) := dk_193 1 120 (dk_at dksX0_read_3 13 rfl rfl)
theorem dX0_read_86 : decode cX0_read 86 = .ok (.ifCond .eq 15, 3) := dk_153 0 15 (dk_at dksX0_read_3 16 rfl rfl)
theorem dX0_read_89 : decode cX0_read 89 = .ok (.aload 5, 2) := dk_25 5 (dk_at dksX0_read_3 19 rfl rfl)
theorem dX0_read_91 : decode cX0_read 91 = .ok (.checkcast 376, 3) := dk_192 1 120 (dk_at dksX0_read_3 21 rfl rfl)
theorem dX0_read_94 : decode cX0_read 94 = .ok (.astore 4, 2) := dk_58 4 (dk_at dksX0_read_4 0 rfl rfl)
theorem dX0_read_96 : decode cX0_read 96 = .ok (.aload 4, 2) := dk_25 4 (dk_at dksX0_read_4 2 rfl rfl)
theorem dX0_read_98 : decode cX0_read 98 = .ok (.iload_n 2, 1) := dk_28 (dk_at dksX0_read_4 4 rfl rfl)
theorem dX0_read_99 : decode cX0_read 99 = .ok (.saload, 1) := dk_53 (dk_at dksX0_read_4 5 rfl rfl)
theorem dX0_read_100 : decode cX0_read 100 = .ok (.ireturn, 1) := dk_172 (dk_at dksX0_read_4 6 rfl rfl)
theorem dX0_read_101 : decode cX0_read 101 = .ok (.aload_n 3, 1) := dk_45 (dk_at dksX0_read_4 7 rfl rfl)
theorem dX0_read_102 : decode cX0_read 102 = .ok (.getfield 297, 3) := dk_180 1 41 (dk_at dksX0_read_4 8 rfl rfl)
theorem dX0_read_105 : decode cX0_read 105 = .ok (.astore 5, 2) := dk_58 5 (dk_at dksX0_read_4 11 rfl rfl)
theorem dX0_read_107 : decode cX0_read 107 = .ok (.aload 5, 2) := dk_25 5 (dk_at dksX0_read_4 13 rfl rfl)
theorem dX0_read_109 : decode cX0_read 109 = .ok (.instanceof 378, 3) := dk_193 1 122 (dk_at dksX0_read_4 15 rfl rfl)
theorem dX0_read_112 : decode cX0_read 112 = .ok (.ifCond .eq 15, 3) := dk_153 0 15 (dk_at dksX0_read_4 18 rfl rfl)
theorem dX0_read_115 : decode cX0_read 115 = .ok (.aload 5, 2) := dk_25 5 (dk_at dksX0_read_4 21 rfl rfl)
theorem dX0_read_117 : decode cX0_read 117 = .ok (.checkcast 378, 3) := dk_192 1 122 (dk_at dksX0_read_5 0 rfl rfl)
theorem dX0_read_120 : decode cX0_read 120 = .ok (.astore 4, 2) := dk_58 4 (dk_at dksX0_read_5 3 rfl rfl)
theorem dX0_read_122 : decode cX0_read 122 = .ok (.aload 4, 2) := dk_25 4 (dk_at dksX0_read_5 5 rfl rfl)
theorem dX0_read_124 : decode cX0_read 124 = .ok (.iload_n 2, 1) := dk_28 (dk_at dksX0_read_5 7 rfl rfl)
theorem dX0_read_125 : decode cX0_read 125 = .ok (.iaload, 1) := dk_46 (dk_at dksX0_read_5 8 rfl rfl)
theorem dX0_read_126 : decode cX0_read 126 = .ok (.ireturn, 1) := dk_172 (dk_at dksX0_read_5 9 rfl rfl)
theorem dX0_read_127 : decode cX0_read 127 = .ok (.aload_n 3, 1) := dk_45 (dk_at dksX0_read_5 10 rfl rfl)
theorem dX0_read_128 : decode cX0_read 128 = .ok (.getfield 297, 3) := dk_180 1 41 (dk_at dksX0_read_5 11 rfl rfl)
theorem dX0_read_131 : decode cX0_read 131 = .ok (.astore 5, 2) := dk_58 5 (dk_at dksX0_read_5 14 rfl rfl)
theorem dX0_read_133 : decode cX0_read 133 = .ok (.aload 5, 2) := dk_25 5 (dk_at dksX0_read_5 16 rfl rfl)
theorem dX0_read_135 : decode cX0_read 135 = .ok (.instanceof 379, 3) := dk_193 1 123 (dk_at dksX0_read_5 18 rfl rfl)
theorem dX0_read_138 : decode cX0_read 138 = .ok (.ifCond .eq 23, 3) := dk_153 0 23 (dk_at dksX0_read_5 21 rfl rfl)
theorem dX0_read_141 : decode cX0_read 141 = .ok (.aload 5, 2) := dk_25 5 (dk_at dksX0_read_6 0 rfl rfl)
theorem dX0_read_143 : decode cX0_read 143 = .ok (.checkcast 379, 3) := dk_192 1 123 (dk_at dksX0_read_6 2 rfl rfl)
theorem dX0_read_146 : decode cX0_read 146 = .ok (.astore 4, 2) := dk_58 4 (dk_at dksX0_read_6 5 rfl rfl)
theorem dX0_read_148 : decode cX0_read 148 = .ok (.aload 4, 2) := dk_25 4 (dk_at dksX0_read_6 7 rfl rfl)
theorem dX0_read_150 : decode cX0_read 150 = .ok (.iload_n 2, 1) := dk_28 (dk_at dksX0_read_6 9 rfl rfl)
theorem dX0_read_151 : decode cX0_read 151 = .ok (.baload, 1) := dk_51 (dk_at dksX0_read_6 10 rfl rfl)
theorem dX0_read_152 : decode cX0_read 152 = .ok (.ifCond .eq 7, 3) := dk_153 0 7 (dk_at dksX0_read_6 11 rfl rfl)
theorem dX0_read_155 : decode cX0_read 155 = .ok (.iconst 1, 1) := dk_4 (dk_at dksX0_read_6 14 rfl rfl)
theorem dX0_read_156 : decode cX0_read 156 = .ok (.goto 4, 3) := dk_167 0 4 (dk_at dksX0_read_6 15 rfl rfl)
theorem dX0_read_159 : decode cX0_read 159 = .ok (.iconst 0, 1) := dk_3 (dk_at dksX0_read_6 18 rfl rfl)
theorem dX0_read_160 : decode cX0_read 160 = .ok (.ireturn, 1) := dk_172 (dk_at dksX0_read_6 19 rfl rfl)
theorem dX0_read_161 : decode cX0_read 161 = .ok (.aload_n 3, 1) := dk_45 (dk_at dksX0_read_6 20 rfl rfl)
theorem dX0_read_162 : decode cX0_read 162 = .ok (.getfield 297, 3) := dk_180 1 41 (dk_at dksX0_read_6 21 rfl rfl)
theorem dX0_read_165 : decode cX0_read 165 = .ok (.checkcast 381, 3) := dk_192 1 125 (dk_at dksX0_read_7 0 rfl rfl)
theorem dX0_read_168 : decode cX0_read 168 = .ok (.iload_n 2, 1) := dk_28 (dk_at dksX0_read_7 3 rfl rfl)
theorem dX0_read_169 : decode cX0_read 169 = .ok (.caload, 1) := dk_52 (dk_at dksX0_read_7 4 rfl rfl)
theorem dX0_read_170 : decode cX0_read 170 = .ok (.ireturn, 1) := dk_172 (dk_at dksX0_read_7 5 rfl rfl)
abbrev cX0_shift : ByteArray := prog_1_method_59_code
def yX0_shift : MethodName := ⟨RX0, "shift", "(IIIII)I"⟩
def dkwX0_shift_2 : List UInt8 := [58, 6, 16, 245, 172, 58, 6, 16, 244, 172, 58, 6, 16, 243, 172]
abbrev dktX0_shift_2 : List UInt8 := dkwX0_shift_2 ++ []
def dkwX0_shift_1 : List UInt8 := [180, 1, 41, 28, 42, 180, 0, 53, 29, 50, 180, 1, 41, 21, 4, 21, 5, 184, 0, 153, 21, 5, 172]
abbrev dktX0_shift_1 : List UInt8 := dkwX0_shift_1 ++ dktX0_shift_2
def dkwX0_shift_0 : List UInt8 := [27, 184, 1, 38, 153, 0, 10, 29, 184, 1, 38, 154, 0, 5, 2, 172, 42, 180, 0, 53, 27, 50]
abbrev dktX0_shift_0 : List UInt8 := dkwX0_shift_0 ++ dktX0_shift_1
theorem dksX0_shift_0 : cX0_shift.data.toList.drop 0 = dktX0_shift_0 := by decide +kernel
theorem dksX0_shift_1 : cX0_shift.data.toList.drop 22 = dktX0_shift_1 := dk_seg dksX0_shift_0 22 rfl rfl
theorem dksX0_shift_2 : cX0_shift.data.toList.drop 45 = dktX0_shift_2 := dk_seg dksX0_shift_1 23 rfl rfl
theorem dX0_shift_0 : decode cX0_shift 0 = .ok (.iload_n 1, 1) := dk_27 (dk_at dksX0_shift_0 0 rfl rfl)
theorem dX0_shift_1 : decode cX0_shift 1 = .ok (.invokestatic 294, 3) := dk_184 1 38 (dk_at dksX0_shift_0 1 rfl rfl)
theorem dX0_shift_4 : decode cX0_shift 4 = .ok (.ifCond .eq 10, 3) := dk_153 0 10 (dk_at dksX0_shift_0 4 rfl rfl)
theorem dX0_shift_7 : decode cX0_shift 7 = .ok (.iload_n 3, 1) := dk_29 (dk_at dksX0_shift_0 7 rfl rfl)
theorem dX0_shift_8 : decode cX0_shift 8 = .ok (.invokestatic 294, 3) := dk_184 1 38 (dk_at dksX0_shift_0 8 rfl rfl)
theorem dX0_shift_11 : decode cX0_shift 11 = .ok (.ifCond .ne 5, 3) := dk_154 0 5 (dk_at dksX0_shift_0 11 rfl rfl)
theorem dX0_shift_14 : decode cX0_shift 14 = .ok (.iconst (-1), 1) := dk_2 (dk_at dksX0_shift_0 14 rfl rfl)
theorem dX0_shift_15 : decode cX0_shift 15 = .ok (.ireturn, 1) := dk_172 (dk_at dksX0_shift_0 15 rfl rfl)
theorem dX0_shift_16 : decode cX0_shift 16 = .ok (.aload_n 0, 1) := dk_42 (dk_at dksX0_shift_0 16 rfl rfl)
theorem dX0_shift_17 : decode cX0_shift 17 = .ok (.getfield 53, 3) := dk_180 0 53 (dk_at dksX0_shift_0 17 rfl rfl)
theorem dX0_shift_20 : decode cX0_shift 20 = .ok (.iload_n 1, 1) := dk_27 (dk_at dksX0_shift_0 20 rfl rfl)
theorem dX0_shift_21 : decode cX0_shift 21 = .ok (.aaload, 1) := dk_50 (dk_at dksX0_shift_0 21 rfl rfl)
theorem dX0_shift_22 : decode cX0_shift 22 = .ok (.getfield 297, 3) := dk_180 1 41 (dk_at dksX0_shift_1 0 rfl rfl)
theorem dX0_shift_25 : decode cX0_shift 25 = .ok (.iload_n 2, 1) := dk_28 (dk_at dksX0_shift_1 3 rfl rfl)
theorem dX0_shift_26 : decode cX0_shift 26 = .ok (.aload_n 0, 1) := dk_42 (dk_at dksX0_shift_1 4 rfl rfl)
theorem dX0_shift_27 : decode cX0_shift 27 = .ok (.getfield 53, 3) := dk_180 0 53 (dk_at dksX0_shift_1 5 rfl rfl)
theorem dX0_shift_30 : decode cX0_shift 30 = .ok (.iload_n 3, 1) := dk_29 (dk_at dksX0_shift_1 8 rfl rfl)
theorem dX0_shift_31 : decode cX0_shift 31 = .ok (.aaload, 1) := dk_50 (dk_at dksX0_shift_1 9 rfl rfl)
theorem dX0_shift_32 : decode cX0_shift 32 = .ok (.getfield 297, 3) := dk_180 1 41 (dk_at dksX0_shift_1 10 rfl rfl)
theorem dX0_shift_35 : decode cX0_shift 35 = .ok (.iload 4, 2) := dk_21 4 (dk_at dksX0_shift_1 13 rfl rfl)
theorem dX0_shift_37 : decode cX0_shift 37 = .ok (.iload 5, 2) := dk_21 5 (dk_at dksX0_shift_1 15 rfl rfl)
theorem dX0_shift_39 : decode cX0_shift 39 = .ok (.invokestatic 153, 3) := dk_184 0 153 (dk_at dksX0_shift_1 17 rfl rfl)
theorem dX0_shift_42 : decode cX0_shift 42 = .ok (.iload 5, 2) := dk_21 5 (dk_at dksX0_shift_1 20 rfl rfl)
theorem dX0_shift_44 : decode cX0_shift 44 = .ok (.ireturn, 1) := dk_172 (dk_at dksX0_shift_1 22 rfl rfl)
theorem dX0_shift_45 : decode cX0_shift 45 = .ok (.astore 6, 2) := dk_58 6 (dk_at dksX0_shift_2 0 rfl rfl)
theorem dX0_shift_47 : decode cX0_shift 47 = .ok (.bipush (-11), 2) := dk_16 245 (dk_at dksX0_shift_2 2 rfl rfl)
theorem dX0_shift_49 : decode cX0_shift 49 = .ok (.ireturn, 1) := dk_172 (dk_at dksX0_shift_2 4 rfl rfl)
theorem dX0_shift_50 : decode cX0_shift 50 = .ok (.astore 6, 2) := dk_58 6 (dk_at dksX0_shift_2 5 rfl rfl)
theorem dX0_shift_52 : decode cX0_shift 52 = .ok (.bipush (-12), 2) := dk_16 244 (dk_at dksX0_shift_2 7 rfl rfl)
theorem dX0_shift_54 : decode cX0_shift 54 = .ok (.ireturn, 1) := dk_172 (dk_at dksX0_shift_2 9 rfl rfl)
theorem dX0_shift_55 : decode cX0_shift 55 = .ok (.astore 6, 2) := dk_58 6 (dk_at dksX0_shift_2 10 rfl rfl)
theorem dX0_shift_57 : decode cX0_shift 57 = .ok (.bipush (-13), 2) := dk_16 243 (dk_at dksX0_shift_2 12 rfl rfl)
theorem dX0_shift_59 : decode cX0_shift 59 = .ok (.ireturn, 1) := dk_172 (dk_at dksX0_shift_2 14 rfl rfl)
theorem q79 : (Jvm.Cond.initialized "MaypoleGreen") ∈ lw_all := lw_g (lw_at lw_m1 1 rfl) rfl
theorem q108 : (Jvm.Cond.instantiable "MaypoleGreen" (30 : Nat)) ∈ lw_all := lw_g (lw_at lw_m1 30 rfl) rfl
theorem q110 : (Jvm.Cond.instanceMethod ({ cls := "MaypoleGreen", name := "<init>", desc := "()V" } : Jvm.MethodName)) ∈ lw_all := lw_g (lw_at lw_m1 32 rfl) rfl
theorem q111 : (Jvm.Cond.code ({ cls := "MaypoleGreen", name := "<init>", desc := "()V" } : Jvm.MethodName) prog_1_method_3_code (2 : Nat) (Option.none : Option Jvm.ClassFile.FieldType)) ∈ lw_all := lw_g (lw_at lw_m1 33 rfl) rfl
theorem q112 : (Jvm.Cond.methodLink "MaypoleGreen" (3 : Nat) ({ cls := "java/lang/Object", name := "<init>", desc := "()V" } : Jvm.MethodName)) ∈ lw_all := lw_g (lw_at lw_m1 34 rfl) rfl
theorem q115 : (Jvm.Cond.classLink "MaypoleGreen" (9 : Nat) "MaypoleGreen$Dancer") ∈ lw_all := lw_g (lw_at lw_m1 37 rfl) rfl
theorem q117 : (Jvm.Cond.classLink "MaypoleGreen" (34 : Nat) "MaypoleGreen$Figure") ∈ lw_all := lw_g (lw_at lw_m1 39 rfl) rfl
theorem q119 : (Jvm.Cond.classLink "MaypoleGreen" (44 : Nat) "MaypoleGreen$Trace") ∈ lw_all := lw_g (lw_at lw_m1 41 rfl) rfl
theorem q121 : (Jvm.Cond.methodLinkNest "MaypoleGreen" (46 : Nat) ({ cls := "MaypoleGreen$Trace", name := "<init>", desc := "()V" } : Jvm.MethodName) "MaypoleGreen") ∈ lw_tbl := lw_at lw_m1 43 rfl
theorem q126 : (Jvm.Cond.fieldLinkNest "MaypoleGreen" (358 : Nat) "MaypoleGreen$Trace" "bodies" "[I" "MaypoleGreen") ∈ lw_tbl := lw_at lw_m1 48 rfl
theorem q128 : (Jvm.Cond.fieldLinkNest "MaypoleGreen" (343 : Nat) "MaypoleGreen$Trace" "count" "I" "MaypoleGreen") ∈ lw_tbl := lw_at lw_m1 50 rfl
theorem q136 : (Jvm.Cond.classLink "MaypoleGreen" (51 : Nat) "MaypoleGreen$Tape") ∈ lw_all := lw_g (lw_at lw_m1 58 rfl) rfl
theorem q139 : (Jvm.Cond.methodLinkNest "MaypoleGreen" (81 : Nat) ({ cls := "MaypoleGreen$Tape", name := "<init>", desc := "()V" } : Jvm.MethodName) "MaypoleGreen") ∈ lw_tbl := lw_at lw_m1 61 rfl
theorem q144 : (Jvm.Cond.fieldLinkNest "MaypoleGreen" (297 : Nat) "MaypoleGreen$Tape" "row" "Ljava/lang/Object;" "MaypoleGreen") ∈ lw_tbl := lw_at lw_m1 66 rfl
theorem q148 : (Jvm.Cond.fieldLink "MaypoleGreen" (11 : Nat) "MaypoleGreen" "people" "[LMaypoleGreen$Dancer;") ∈ lw_all := lw_g (lw_at lw_m1 70 rfl) rfl
theorem q149 : (Jvm.Cond.fieldLink "MaypoleGreen" (82 : Nat) "MaypoleGreen" "many" "I") ∈ lw_all := lw_g (lw_at lw_m1 71 rfl) rfl
theorem q150 : (Jvm.Cond.fieldLink "MaypoleGreen" (90 : Nat) "MaypoleGreen" "places" "I") ∈ lw_all := lw_g (lw_at lw_m1 72 rfl) rfl
theorem q151 : (Jvm.Cond.fieldLink "MaypoleGreen" (15 : Nat) "MaypoleGreen" "personAt" "[I") ∈ lw_all := lw_g (lw_at lw_m1 73 rfl) rfl
theorem q152 : (Jvm.Cond.fieldLink "MaypoleGreen" (19 : Nat) "MaypoleGreen" "colour" "[I") ∈ lw_all := lw_g (lw_at lw_m1 74 rfl) rfl
theorem q153 : (Jvm.Cond.fieldLink "MaypoleGreen" (22 : Nat) "MaypoleGreen" "length" "[I") ∈ lw_all := lw_g (lw_at lw_m1 75 rfl) rfl
theorem q154 : (Jvm.Cond.fieldLink "MaypoleGreen" (115 : Nat) "MaypoleGreen" "isDanced" "Z") ∈ lw_all := lw_g (lw_at lw_m1 76 rfl) rfl
theorem q155 : (Jvm.Cond.fieldLink "MaypoleGreen" (119 : Nat) "MaypoleGreen" "round" "LMaypoleGreen$Round;") ∈ lw_all := lw_g (lw_at lw_m1 77 rfl) rfl
theorem q156 : (Jvm.Cond.fieldLink "MaypoleGreen" (129 : Nat) "MaypoleGreen" "trial" "LMaypoleGreen$Round;") ∈ lw_all := lw_g (lw_at lw_m1 78 rfl) rfl
theorem q157 : (Jvm.Cond.fieldLink "MaypoleGreen" (25 : Nat) "MaypoleGreen" "colours" "[I") ∈ lw_all := lw_g (lw_at lw_m1 79 rfl) rfl
theorem q158 : (Jvm.Cond.fieldLink "MaypoleGreen" (28 : Nat) "MaypoleGreen" "lengths" "[I") ∈ lw_all := lw_g (lw_at lw_m1 80 rfl) rfl
theorem q159 : (Jvm.Cond.fieldLink "MaypoleGreen" (31 : Nat) "MaypoleGreen" "dance" "[I") ∈ lw_all := lw_g (lw_at lw_m1 81 rfl) rfl
theorem q160 : (Jvm.Cond.fieldLink "MaypoleGreen" (136 : Nat) "MaypoleGreen" "steps" "I") ∈ lw_all := lw_g (lw_at lw_m1 82 rfl) rfl
theorem q161 : (Jvm.Cond.fieldLink "MaypoleGreen" (36 : Nat) "MaypoleGreen" "figures" "[LMaypoleGreen$Figure;") ∈ lw_all := lw_g (lw_at lw_m1 83 rfl) rfl
theorem q162 : (Jvm.Cond.fieldLink "MaypoleGreen" (93 : Nat) "MaypoleGreen" "figured" "I") ∈ lw_all := lw_g (lw_at lw_m1 84 rfl) rfl
theorem q163 : (Jvm.Cond.fieldLink "MaypoleGreen" (40 : Nat) "MaypoleGreen" "text" "[B") ∈ lw_all := lw_g (lw_at lw_m1 85 rfl) rfl
theorem q164 : (Jvm.Cond.fieldLink "MaypoleGreen" (229 : Nat) "MaypoleGreen" "texted" "I") ∈ lw_all := lw_g (lw_at lw_m1 86 rfl) rfl
theorem q165 : (Jvm.Cond.fieldLink "MaypoleGreen" (47 : Nat) "MaypoleGreen" "trace" "LMaypoleGreen$Trace;") ∈ lw_all := lw_g (lw_at lw_m1 87 rfl) rfl
theorem q166 : (Jvm.Cond.fieldLink "MaypoleGreen" (53 : Nat) "MaypoleGreen" "tapes" "[LMaypoleGreen$Tape;") ∈ lw_all := lw_g (lw_at lw_m1 88 rfl) rfl
theorem q167 : (Jvm.Cond.fieldLink "MaypoleGreen" (57 : Nat) "MaypoleGreen" "moved" "[I") ∈ lw_all := lw_g (lw_at lw_m1 89 rfl) rfl
theorem q168 : (Jvm.Cond.fieldLink "MaypoleGreen" (60 : Nat) "MaypoleGreen" "thingRow" "[I") ∈ lw_all := lw_g (lw_at lw_m1 90 rfl) rfl
theorem q169 : (Jvm.Cond.fieldLink "MaypoleGreen" (63 : Nat) "MaypoleGreen" "thingPlace" "[I") ∈ lw_all := lw_g (lw_at lw_m1 91 rfl) rfl
theorem q170 : (Jvm.Cond.fieldLink "MaypoleGreen" (66 : Nat) "MaypoleGreen" "thingColour" "[I") ∈ lw_all := lw_g (lw_at lw_m1 92 rfl) rfl
theorem q171 : (Jvm.Cond.fieldLink "MaypoleGreen" (196 : Nat) "MaypoleGreen" "things" "I") ∈ lw_all := lw_g (lw_at lw_m1 93 rfl) rfl
theorem q172 : (Jvm.Cond.fieldLink "MaypoleGreen" (69 : Nat) "MaypoleGreen" "tried" "[I") ∈ lw_all := lw_g (lw_at lw_m1 94 rfl) rfl
theorem q173 : (Jvm.Cond.fieldLink "MaypoleGreen" (72 : Nat) "MaypoleGreen" "best" "[I") ∈ lw_all := lw_g (lw_at lw_m1 95 rfl) rfl
theorem q174 : (Jvm.Cond.fieldLink "MaypoleGreen" (271 : Nat) "MaypoleGreen" "orders" "LMaypoleGreen$Orders;") ∈ lw_all := lw_g (lw_at lw_m1 96 rfl) rfl
theorem q175 : (Jvm.Cond.fieldLink "MaypoleGreen" (75 : Nat) "MaypoleGreen" "row" "[I") ∈ lw_all := lw_g (lw_at lw_m1 97 rfl) rfl
theorem q176 : (Jvm.Cond.fieldLink "MaypoleGreen" (78 : Nat) "MaypoleGreen" "bestRow" "[I") ∈ lw_all := lw_g (lw_at lw_m1 98 rfl) rfl
theorem q177 : (Jvm.Cond.fieldLink "MaypoleGreen" (317 : Nat) "MaypoleGreen" "bestSum" "I") ∈ lw_all := lw_g (lw_at lw_m1 99 rfl) rfl
theorem q178 : (Jvm.Cond.laysFinal "MaypoleGreen" "MaypoleGreen" "people" "[LMaypoleGreen$Dancer;") ∈ lw_all := lw_g (lw_at lw_m1 100 rfl) rfl
theorem q179 : (Jvm.Cond.soleField "MaypoleGreen" "people") ∈ lw_all := lw_g (lw_at lw_m1 101 rfl) rfl
theorem q180 : (Jvm.Cond.lays "MaypoleGreen" "MaypoleGreen" "many" "I") ∈ lw_all := lw_g (lw_at lw_m1 102 rfl) rfl
theorem q181 : (Jvm.Cond.soleField "MaypoleGreen" "many") ∈ lw_all := lw_g (lw_at lw_m1 103 rfl) rfl
theorem q182 : (Jvm.Cond.lays "MaypoleGreen" "MaypoleGreen" "places" "I") ∈ lw_all := lw_g (lw_at lw_m1 104 rfl) rfl
theorem q183 : (Jvm.Cond.soleField "MaypoleGreen" "places") ∈ lw_all := lw_g (lw_at lw_m1 105 rfl) rfl
theorem q184 : (Jvm.Cond.laysFinal "MaypoleGreen" "MaypoleGreen" "personAt" "[I") ∈ lw_all := lw_g (lw_at lw_m1 106 rfl) rfl
theorem q185 : (Jvm.Cond.soleField "MaypoleGreen" "personAt") ∈ lw_all := lw_g (lw_at lw_m1 107 rfl) rfl
theorem q186 : (Jvm.Cond.laysFinal "MaypoleGreen" "MaypoleGreen" "colour" "[I") ∈ lw_all := lw_g (lw_at lw_m1 108 rfl) rfl
theorem q187 : (Jvm.Cond.soleField "MaypoleGreen" "colour") ∈ lw_all := lw_g (lw_at lw_m1 109 rfl) rfl
theorem q188 : (Jvm.Cond.laysFinal "MaypoleGreen" "MaypoleGreen" "length" "[I") ∈ lw_all := lw_g (lw_at lw_m1 110 rfl) rfl
theorem q189 : (Jvm.Cond.soleField "MaypoleGreen" "length") ∈ lw_all := lw_g (lw_at lw_m1 111 rfl) rfl
theorem q190 : (Jvm.Cond.lays "MaypoleGreen" "MaypoleGreen" "isDanced" "Z") ∈ lw_all := lw_g (lw_at lw_m1 112 rfl) rfl
theorem q191 : (Jvm.Cond.soleField "MaypoleGreen" "isDanced") ∈ lw_all := lw_g (lw_at lw_m1 113 rfl) rfl
theorem q192 : (Jvm.Cond.lays "MaypoleGreen" "MaypoleGreen" "round" "LMaypoleGreen$Round;") ∈ lw_all := lw_g (lw_at lw_m1 114 rfl) rfl
theorem q193 : (Jvm.Cond.soleField "MaypoleGreen" "round") ∈ lw_all := lw_g (lw_at lw_m1 115 rfl) rfl
theorem q194 : (Jvm.Cond.lays "MaypoleGreen" "MaypoleGreen" "trial" "LMaypoleGreen$Round;") ∈ lw_all := lw_g (lw_at lw_m1 116 rfl) rfl
theorem q195 : (Jvm.Cond.soleField "MaypoleGreen" "trial") ∈ lw_all := lw_g (lw_at lw_m1 117 rfl) rfl
theorem q196 : (Jvm.Cond.laysFinal "MaypoleGreen" "MaypoleGreen" "colours" "[I") ∈ lw_all := lw_g (lw_at lw_m1 118 rfl) rfl
theorem q197 : (Jvm.Cond.soleField "MaypoleGreen" "colours") ∈ lw_all := lw_g (lw_at lw_m1 119 rfl) rfl
theorem q198 : (Jvm.Cond.laysFinal "MaypoleGreen" "MaypoleGreen" "lengths" "[I") ∈ lw_all := lw_g (lw_at lw_m1 120 rfl) rfl
theorem q199 : (Jvm.Cond.soleField "MaypoleGreen" "lengths") ∈ lw_all := lw_g (lw_at lw_m1 121 rfl) rfl
theorem q200 : (Jvm.Cond.laysFinal "MaypoleGreen" "MaypoleGreen" "dance" "[I") ∈ lw_all := lw_g (lw_at lw_m1 122 rfl) rfl
theorem q201 : (Jvm.Cond.soleField "MaypoleGreen" "dance") ∈ lw_all := lw_g (lw_at lw_m1 123 rfl) rfl
theorem q202 : (Jvm.Cond.lays "MaypoleGreen" "MaypoleGreen" "steps" "I") ∈ lw_all := lw_g (lw_at lw_m1 124 rfl) rfl
theorem q203 : (Jvm.Cond.soleField "MaypoleGreen" "steps") ∈ lw_all := lw_g (lw_at lw_m1 125 rfl) rfl
theorem q204 : (Jvm.Cond.laysFinal "MaypoleGreen" "MaypoleGreen" "figures" "[LMaypoleGreen$Figure;") ∈ lw_all := lw_g (lw_at lw_m1 126 rfl) rfl
theorem q205 : (Jvm.Cond.soleField "MaypoleGreen" "figures") ∈ lw_all := lw_g (lw_at lw_m1 127 rfl) rfl
theorem q206 : (Jvm.Cond.lays "MaypoleGreen" "MaypoleGreen" "figured" "I") ∈ lw_all := lw_g (lw_at lw_m1 128 rfl) rfl
theorem q207 : (Jvm.Cond.soleField "MaypoleGreen" "figured") ∈ lw_all := lw_g (lw_at lw_m1 129 rfl) rfl
theorem q208 : (Jvm.Cond.laysFinal "MaypoleGreen" "MaypoleGreen" "text" "[B") ∈ lw_all := lw_g (lw_at lw_m1 130 rfl) rfl
theorem q209 : (Jvm.Cond.soleField "MaypoleGreen" "text") ∈ lw_all := lw_g (lw_at lw_m1 131 rfl) rfl
theorem q210 : (Jvm.Cond.lays "MaypoleGreen" "MaypoleGreen" "texted" "I") ∈ lw_all := lw_g (lw_at lw_m1 132 rfl) rfl
theorem q211 : (Jvm.Cond.soleField "MaypoleGreen" "texted") ∈ lw_all := lw_g (lw_at lw_m1 133 rfl) rfl
theorem q212 : (Jvm.Cond.laysFinal "MaypoleGreen" "MaypoleGreen" "trace" "LMaypoleGreen$Trace;") ∈ lw_all := lw_g (lw_at lw_m1 134 rfl) rfl
theorem q213 : (Jvm.Cond.soleField "MaypoleGreen" "trace") ∈ lw_all := lw_g (lw_at lw_m1 135 rfl) rfl
theorem q214 : (Jvm.Cond.laysFinal "MaypoleGreen" "MaypoleGreen" "tapes" "[LMaypoleGreen$Tape;") ∈ lw_all := lw_g (lw_at lw_m1 136 rfl) rfl
theorem q215 : (Jvm.Cond.soleField "MaypoleGreen" "tapes") ∈ lw_all := lw_g (lw_at lw_m1 137 rfl) rfl
theorem q216 : (Jvm.Cond.laysFinal "MaypoleGreen" "MaypoleGreen" "moved" "[I") ∈ lw_all := lw_g (lw_at lw_m1 138 rfl) rfl
theorem q217 : (Jvm.Cond.soleField "MaypoleGreen" "moved") ∈ lw_all := lw_g (lw_at lw_m1 139 rfl) rfl
theorem q218 : (Jvm.Cond.laysFinal "MaypoleGreen" "MaypoleGreen" "thingRow" "[I") ∈ lw_all := lw_g (lw_at lw_m1 140 rfl) rfl
theorem q219 : (Jvm.Cond.soleField "MaypoleGreen" "thingRow") ∈ lw_all := lw_g (lw_at lw_m1 141 rfl) rfl
theorem q220 : (Jvm.Cond.laysFinal "MaypoleGreen" "MaypoleGreen" "thingPlace" "[I") ∈ lw_all := lw_g (lw_at lw_m1 142 rfl) rfl
theorem q221 : (Jvm.Cond.soleField "MaypoleGreen" "thingPlace") ∈ lw_all := lw_g (lw_at lw_m1 143 rfl) rfl
theorem q222 : (Jvm.Cond.laysFinal "MaypoleGreen" "MaypoleGreen" "thingColour" "[I") ∈ lw_all := lw_g (lw_at lw_m1 144 rfl) rfl
theorem q223 : (Jvm.Cond.soleField "MaypoleGreen" "thingColour") ∈ lw_all := lw_g (lw_at lw_m1 145 rfl) rfl
theorem q224 : (Jvm.Cond.lays "MaypoleGreen" "MaypoleGreen" "things" "I") ∈ lw_all := lw_g (lw_at lw_m1 146 rfl) rfl
theorem q225 : (Jvm.Cond.soleField "MaypoleGreen" "things") ∈ lw_all := lw_g (lw_at lw_m1 147 rfl) rfl
theorem q226 : (Jvm.Cond.laysFinal "MaypoleGreen" "MaypoleGreen" "tried" "[I") ∈ lw_all := lw_g (lw_at lw_m1 148 rfl) rfl
theorem q227 : (Jvm.Cond.soleField "MaypoleGreen" "tried") ∈ lw_all := lw_g (lw_at lw_m1 149 rfl) rfl
theorem q228 : (Jvm.Cond.laysFinal "MaypoleGreen" "MaypoleGreen" "best" "[I") ∈ lw_all := lw_g (lw_at lw_m1 150 rfl) rfl
theorem q229 : (Jvm.Cond.soleField "MaypoleGreen" "best") ∈ lw_all := lw_g (lw_at lw_m1 151 rfl) rfl
theorem q230 : (Jvm.Cond.lays "MaypoleGreen" "MaypoleGreen" "orders" "LMaypoleGreen$Orders;") ∈ lw_all := lw_g (lw_at lw_m1 152 rfl) rfl
theorem q231 : (Jvm.Cond.soleField "MaypoleGreen" "orders") ∈ lw_all := lw_g (lw_at lw_m1 153 rfl) rfl
theorem q232 : (Jvm.Cond.laysFinal "MaypoleGreen" "MaypoleGreen" "row" "[I") ∈ lw_all := lw_g (lw_at lw_m1 154 rfl) rfl
theorem q233 : (Jvm.Cond.soleField "MaypoleGreen" "row") ∈ lw_all := lw_g (lw_at lw_m1 155 rfl) rfl
theorem q234 : (Jvm.Cond.laysFinal "MaypoleGreen" "MaypoleGreen" "bestRow" "[I") ∈ lw_all := lw_g (lw_at lw_m1 156 rfl) rfl
theorem q235 : (Jvm.Cond.soleField "MaypoleGreen" "bestRow") ∈ lw_all := lw_g (lw_at lw_m1 157 rfl) rfl
theorem q236 : (Jvm.Cond.lays "MaypoleGreen" "MaypoleGreen" "bestSum" "I") ∈ lw_all := lw_g (lw_at lw_m1 158 rfl) rfl
theorem q237 : (Jvm.Cond.soleField "MaypoleGreen" "bestSum") ∈ lw_all := lw_g (lw_at lw_m1 159 rfl) rfl
theorem q238 : (Jvm.Cond.superclass "MaypoleGreen" "java/lang/Object") ∈ lw_all := lw_g (lw_at lw_m1 160 rfl) rfl
theorem q240 : (Jvm.Cond.instanceMethod ({ cls := "MaypoleGreen", name := "person", desc := "(III)I" } : Jvm.MethodName)) ∈ lw_all := lw_g (lw_at lw_m1 162 rfl) rfl
theorem q241 : (Jvm.Cond.selects "MaypoleGreen" ({ cls := "MaypoleGreen", name := "person", desc := "(III)I" } : Jvm.MethodName) ({ cls := "MaypoleGreen", name := "person", desc := "(III)I" } : Jvm.MethodName)) ∈ lw_all := lw_g (lw_at lw_m1 163 rfl) rfl
theorem q242 : (Jvm.Cond.code ({ cls := "MaypoleGreen", name := "person", desc := "(III)I" } : Jvm.MethodName) prog_1_method_8_code (4 : Nat) (Option.some Jvm.ClassFile.FieldType.int)) ∈ lw_all := lw_g (lw_at lw_m1 164 rfl) rfl
theorem q243 : (Jvm.Cond.methodLink "MaypoleGreen" (86 : Nat) ({ cls := "MaypoleGreen", name := "in", desc := "(III)Z" } : Jvm.MethodName)) ∈ lw_all := lw_g (lw_at lw_m1 165 rfl) rfl
theorem q244 : (Jvm.Cond.static ({ cls := "MaypoleGreen", name := "in", desc := "(III)Z" } : Jvm.MethodName)) ∈ lw_all := lw_g (lw_at lw_m1 166 rfl) rfl
theorem q245 : (Jvm.Cond.code ({ cls := "MaypoleGreen", name := "in", desc := "(III)Z" } : Jvm.MethodName) prog_1_method_1_code (3 : Nat) (Option.some Jvm.ClassFile.FieldType.boolean)) ∈ lw_all := lw_g (lw_at lw_m1 167 rfl) rfl
theorem q246 : (Jvm.Cond.methodLink "MaypoleGreen" (111 : Nat) ({ cls := "MaypoleGreen", name := "made", desc := "(III)LMaypoleGreen$Dancer;" } : Jvm.MethodName)) ∈ lw_all := lw_g (lw_at lw_m1 168 rfl) rfl
theorem q247 : (Jvm.Cond.privateMethod ({ cls := "MaypoleGreen", name := "made", desc := "(III)LMaypoleGreen$Dancer;" } : Jvm.MethodName)) ∈ lw_tbl := lw_at lw_m1 169 rfl
theorem q248 : (Jvm.Cond.instanceMethod ({ cls := "MaypoleGreen", name := "made", desc := "(III)LMaypoleGreen$Dancer;" } : Jvm.MethodName)) ∈ lw_all := lw_g (lw_at lw_m1 170 rfl) rfl
theorem q249 : (Jvm.Cond.code ({ cls := "MaypoleGreen", name := "made", desc := "(III)LMaypoleGreen$Dancer;" } : Jvm.MethodName) prog_1_method_7_code (4 : Nat) (Option.some (Jvm.ClassFile.FieldType.object "MaypoleGreen$Dancer"))) ∈ lw_all := lw_g (lw_at lw_m1 171 rfl) rfl
theorem q251 : (Jvm.Cond.methodLink "MaypoleGreen" (96 : Nat) ({ cls := "MaypoleGreen$Dancer", name := "<init>", desc := "(LMaypoleGreen$Trace;III)V" } : Jvm.MethodName)) ∈ lw_all := lw_g (lw_at lw_m1 173 rfl) rfl
theorem q266 : (Jvm.Cond.fieldLink "MaypoleGreen" (309 : Nat) "MaypoleGreen$Dancer" "reach" "I") ∈ lw_all := lw_g (lw_at lw_m1 188 rfl) rfl
theorem q268 : (Jvm.Cond.fieldLink "MaypoleGreen" (337 : Nat) "MaypoleGreen$Dancer" "pace" "I") ∈ lw_all := lw_g (lw_at lw_m1 190 rfl) rfl
theorem q278 : (Jvm.Cond.classLink "MaypoleGreen" (99 : Nat) "MaypoleGreen$Child") ∈ lw_all := lw_g (lw_at lw_m1 200 rfl) rfl
theorem q280 : (Jvm.Cond.methodLink "MaypoleGreen" (101 : Nat) ({ cls := "MaypoleGreen$Child", name := "<init>", desc := "(LMaypoleGreen$Trace;III)V" } : Jvm.MethodName)) ∈ lw_all := lw_g (lw_at lw_m1 202 rfl) rfl
theorem q289 : (Jvm.Cond.classLink "MaypoleGreen" (102 : Nat) "MaypoleGreen$Leader") ∈ lw_all := lw_g (lw_at lw_m1 211 rfl) rfl
theorem q291 : (Jvm.Cond.methodLink "MaypoleGreen" (104 : Nat) ({ cls := "MaypoleGreen$Leader", name := "<init>", desc := "(LMaypoleGreen$Trace;III)V" } : Jvm.MethodName)) ∈ lw_all := lw_g (lw_at lw_m1 213 rfl) rfl
theorem q300 : (Jvm.Cond.classLink "MaypoleGreen" (105 : Nat) "MaypoleGreen$Fool") ∈ lw_all := lw_g (lw_at lw_m1 222 rfl) rfl
theorem q302 : (Jvm.Cond.methodLink "MaypoleGreen" (107 : Nat) ({ cls := "MaypoleGreen$Fool", name := "<init>", desc := "(LMaypoleGreen$Trace;III)V" } : Jvm.MethodName)) ∈ lw_all := lw_g (lw_at lw_m1 224 rfl) rfl
theorem q311 : (Jvm.Cond.classLink "MaypoleGreen" (108 : Nat) "MaypoleGreen$Piper") ∈ lw_all := lw_g (lw_at lw_m1 233 rfl) rfl
theorem q313 : (Jvm.Cond.methodLink "MaypoleGreen" (110 : Nat) ({ cls := "MaypoleGreen$Piper", name := "<init>", desc := "(LMaypoleGreen$Trace;III)V" } : Jvm.MethodName)) ∈ lw_all := lw_g (lw_at lw_m1 235 rfl) rfl
theorem q323 : (Jvm.Cond.instanceMethod ({ cls := "MaypoleGreen", name := "ring", desc := "(I)I" } : Jvm.MethodName)) ∈ lw_all := lw_g (lw_at lw_m2 5 rfl) rfl
theorem q324 : (Jvm.Cond.selects "MaypoleGreen" ({ cls := "MaypoleGreen", name := "ring", desc := "(I)I" } : Jvm.MethodName) ({ cls := "MaypoleGreen", name := "ring", desc := "(I)I" } : Jvm.MethodName)) ∈ lw_all := lw_g (lw_at lw_m2 6 rfl) rfl
theorem q325 : (Jvm.Cond.code ({ cls := "MaypoleGreen", name := "ring", desc := "(I)I" } : Jvm.MethodName) prog_1_method_9_code (3 : Nat) (Option.some Jvm.ClassFile.FieldType.int)) ∈ lw_all := lw_g (lw_at lw_m2 7 rfl) rfl
theorem q326 : (Jvm.Cond.classLink "MaypoleGreen" (124 : Nat) "MaypoleGreen$Round") ∈ lw_all := lw_g (lw_at lw_m2 8 rfl) rfl
theorem q328 : (Jvm.Cond.methodLink "MaypoleGreen" (126 : Nat) ({ cls := "MaypoleGreen$Round", name := "<init>", desc := "(I)V" } : Jvm.MethodName)) ∈ lw_all := lw_g (lw_at lw_m2 10 rfl) rfl
theorem q335 : (Jvm.Cond.fieldLinkNest "MaypoleGreen" (123 : Nat) "MaypoleGreen$Round" "places" "I" "MaypoleGreen") ∈ lw_tbl := lw_at lw_m2 17 rfl
theorem q337 : (Jvm.Cond.fieldLinkNest "MaypoleGreen" (147 : Nat) "MaypoleGreen$Round" "ribbonAt" "[I" "MaypoleGreen") ∈ lw_tbl := lw_at lw_m2 19 rfl
theorem q339 : (Jvm.Cond.fieldLinkNest "MaypoleGreen" (150 : Nat) "MaypoleGreen$Round" "left" "[I" "MaypoleGreen") ∈ lw_tbl := lw_at lw_m2 21 rfl
theorem q342 : (Jvm.Cond.fieldLinkNest "MaypoleGreen" (181 : Nat) "MaypoleGreen$Round" "ribbons" "[[I" "MaypoleGreen") ∈ lw_tbl := lw_at lw_m2 24 rfl
theorem q344 : (Jvm.Cond.fieldLinkNest "MaypoleGreen" (185 : Nat) "MaypoleGreen$Round" "rowMarks" "[[I" "MaypoleGreen") ∈ lw_tbl := lw_at lw_m2 26 rfl
theorem q346 : (Jvm.Cond.fieldLinkNest "MaypoleGreen" (176 : Nat) "MaypoleGreen$Round" "rows" "I" "MaypoleGreen") ∈ lw_tbl := lw_at lw_m2 28 rfl
theorem q365 : (Jvm.Cond.methodLink "MaypoleGreen" (132 : Nat) ({ cls := "MaypoleGreen$Round", name := "begins", desc := "([I)V" } : Jvm.MethodName)) ∈ lw_all := lw_g (lw_at lw_m2 47 rfl) rfl
theorem q370 : (Jvm.Cond.instanceMethod ({ cls := "MaypoleGreen", name := "stand", desc := "(II)I" } : Jvm.MethodName)) ∈ lw_all := lw_g (lw_at lw_m2 52 rfl) rfl
theorem q371 : (Jvm.Cond.selects "MaypoleGreen" ({ cls := "MaypoleGreen", name := "stand", desc := "(II)I" } : Jvm.MethodName) ({ cls := "MaypoleGreen", name := "stand", desc := "(II)I" } : Jvm.MethodName)) ∈ lw_all := lw_g (lw_at lw_m2 53 rfl) rfl
theorem q372 : (Jvm.Cond.code ({ cls := "MaypoleGreen", name := "stand", desc := "(II)I" } : Jvm.MethodName) prog_1_method_10_code (4 : Nat) (Option.some Jvm.ClassFile.FieldType.int)) ∈ lw_all := lw_g (lw_at lw_m2 54 rfl) rfl
theorem q373 : (Jvm.Cond.methodLink "MaypoleGreen" (139 : Nat) ({ cls := "MaypoleGreen", name := "isPlace", desc := "(I)Z" } : Jvm.MethodName)) ∈ lw_all := lw_g (lw_at lw_m2 55 rfl) rfl
theorem q374 : (Jvm.Cond.privateMethod ({ cls := "MaypoleGreen", name := "isPlace", desc := "(I)Z" } : Jvm.MethodName)) ∈ lw_tbl := lw_at lw_m2 56 rfl
theorem q375 : (Jvm.Cond.instanceMethod ({ cls := "MaypoleGreen", name := "isPlace", desc := "(I)Z" } : Jvm.MethodName)) ∈ lw_all := lw_g (lw_at lw_m2 57 rfl) rfl
theorem q376 : (Jvm.Cond.code ({ cls := "MaypoleGreen", name := "isPlace", desc := "(I)Z" } : Jvm.MethodName) prog_1_method_5_code (2 : Nat) (Option.some Jvm.ClassFile.FieldType.boolean)) ∈ lw_all := lw_g (lw_at lw_m2 58 rfl) rfl
theorem q377 : (Jvm.Cond.methodLink "MaypoleGreen" (143 : Nat) ({ cls := "MaypoleGreen", name := "isPerson", desc := "(I)Z" } : Jvm.MethodName)) ∈ lw_all := lw_g (lw_at lw_m2 59 rfl) rfl
theorem q378 : (Jvm.Cond.privateMethod ({ cls := "MaypoleGreen", name := "isPerson", desc := "(I)Z" } : Jvm.MethodName)) ∈ lw_tbl := lw_at lw_m2 60 rfl
theorem q379 : (Jvm.Cond.instanceMethod ({ cls := "MaypoleGreen", name := "isPerson", desc := "(I)Z" } : Jvm.MethodName)) ∈ lw_all := lw_g (lw_at lw_m2 61 rfl) rfl
theorem q380 : (Jvm.Cond.code ({ cls := "MaypoleGreen", name := "isPerson", desc := "(I)Z" } : Jvm.MethodName) prog_1_method_4_code (2 : Nat) (Option.some Jvm.ClassFile.FieldType.boolean)) ∈ lw_all := lw_g (lw_at lw_m2 62 rfl) rfl
theorem q382 : (Jvm.Cond.instanceMethod ({ cls := "MaypoleGreen", name := "ribbon", desc := "(III)I" } : Jvm.MethodName)) ∈ lw_all := lw_g (lw_at lw_m2 64 rfl) rfl
theorem q383 : (Jvm.Cond.selects "MaypoleGreen" ({ cls := "MaypoleGreen", name := "ribbon", desc := "(III)I" } : Jvm.MethodName) ({ cls := "MaypoleGreen", name := "ribbon", desc := "(III)I" } : Jvm.MethodName)) ∈ lw_all := lw_g (lw_at lw_m2 65 rfl) rfl
theorem q384 : (Jvm.Cond.code ({ cls := "MaypoleGreen", name := "ribbon", desc := "(III)I" } : Jvm.MethodName) prog_1_method_11_code (4 : Nat) (Option.some Jvm.ClassFile.FieldType.int)) ∈ lw_all := lw_g (lw_at lw_m2 66 rfl) rfl
theorem q385 : (Jvm.Cond.constant "MaypoleGreen" (146 : Nat) (99999 : Int32)) ∈ lw_all := lw_g (lw_at lw_m2 67 rfl) rfl
theorem q387 : (Jvm.Cond.instanceMethod ({ cls := "MaypoleGreen", name := "at", desc := "(II)I" } : Jvm.MethodName)) ∈ lw_all := lw_g (lw_at lw_m2 69 rfl) rfl
theorem q388 : (Jvm.Cond.selects "MaypoleGreen" ({ cls := "MaypoleGreen", name := "at", desc := "(II)I" } : Jvm.MethodName) ({ cls := "MaypoleGreen", name := "at", desc := "(II)I" } : Jvm.MethodName)) ∈ lw_all := lw_g (lw_at lw_m2 70 rfl) rfl
theorem q389 : (Jvm.Cond.code ({ cls := "MaypoleGreen", name := "at", desc := "(II)I" } : Jvm.MethodName) prog_1_method_12_code (4 : Nat) (Option.some Jvm.ClassFile.FieldType.int)) ∈ lw_all := lw_g (lw_at lw_m2 71 rfl) rfl
theorem q391 : (Jvm.Cond.instanceMethod ({ cls := "MaypoleGreen", name := "begin", desc := "()I" } : Jvm.MethodName)) ∈ lw_all := lw_g (lw_at lw_m2 73 rfl) rfl
theorem q392 : (Jvm.Cond.selects "MaypoleGreen" ({ cls := "MaypoleGreen", name := "begin", desc := "()I" } : Jvm.MethodName) ({ cls := "MaypoleGreen", name := "begin", desc := "()I" } : Jvm.MethodName)) ∈ lw_all := lw_g (lw_at lw_m2 74 rfl) rfl
theorem q393 : (Jvm.Cond.code ({ cls := "MaypoleGreen", name := "begin", desc := "()I" } : Jvm.MethodName) prog_1_method_13_code (3 : Nat) (Option.some Jvm.ClassFile.FieldType.int)) ∈ lw_all := lw_g (lw_at lw_m2 75 rfl) rfl
theorem q394 : (Jvm.Cond.methodLink "MaypoleGreen" (153 : Nat) ({ cls := "java/lang/System", name := "arraycopy", desc := "(Ljava/lang/Object;ILjava/lang/Object;II)V" } : Jvm.MethodName)) ∈ lw_all := lw_g (lw_at lw_m2 76 rfl) rfl
theorem q398 : (Jvm.Cond.instanceMethod ({ cls := "MaypoleGreen", name := "end", desc := "()I" } : Jvm.MethodName)) ∈ lw_all := lw_g (lw_at lw_m2 80 rfl) rfl
theorem q399 : (Jvm.Cond.selects "MaypoleGreen" ({ cls := "MaypoleGreen", name := "end", desc := "()I" } : Jvm.MethodName) ({ cls := "MaypoleGreen", name := "end", desc := "()I" } : Jvm.MethodName)) ∈ lw_all := lw_g (lw_at lw_m2 81 rfl) rfl
theorem q400 : (Jvm.Cond.code ({ cls := "MaypoleGreen", name := "end", desc := "()I" } : Jvm.MethodName) prog_1_method_14_code (2 : Nat) (Option.some Jvm.ClassFile.FieldType.int)) ∈ lw_all := lw_g (lw_at lw_m2 82 rfl) rfl
theorem q402 : (Jvm.Cond.instanceMethod ({ cls := "MaypoleGreen", name := "pass", desc := "(II)I" } : Jvm.MethodName)) ∈ lw_all := lw_g (lw_at lw_m2 84 rfl) rfl
theorem q403 : (Jvm.Cond.selects "MaypoleGreen" ({ cls := "MaypoleGreen", name := "pass", desc := "(II)I" } : Jvm.MethodName) ({ cls := "MaypoleGreen", name := "pass", desc := "(II)I" } : Jvm.MethodName)) ∈ lw_all := lw_g (lw_at lw_m2 85 rfl) rfl
theorem q404 : (Jvm.Cond.code ({ cls := "MaypoleGreen", name := "pass", desc := "(II)I" } : Jvm.MethodName) prog_1_method_17_code (3 : Nat) (Option.some Jvm.ClassFile.FieldType.int)) ∈ lw_all := lw_g (lw_at lw_m2 86 rfl) rfl
theorem q405 : (Jvm.Cond.methodLink "MaypoleGreen" (170 : Nat) ({ cls := "MaypoleGreen", name := "steps", desc := "(I)I" } : Jvm.MethodName)) ∈ lw_all := lw_g (lw_at lw_m2 87 rfl) rfl
theorem q406 : (Jvm.Cond.privateMethod ({ cls := "MaypoleGreen", name := "steps", desc := "(I)I" } : Jvm.MethodName)) ∈ lw_tbl := lw_at lw_m2 88 rfl
theorem q407 : (Jvm.Cond.instanceMethod ({ cls := "MaypoleGreen", name := "steps", desc := "(I)I" } : Jvm.MethodName)) ∈ lw_all := lw_g (lw_at lw_m2 89 rfl) rfl
theorem q408 : (Jvm.Cond.code ({ cls := "MaypoleGreen", name := "steps", desc := "(I)I" } : Jvm.MethodName) prog_1_method_16_code (3 : Nat) (Option.some Jvm.ClassFile.FieldType.int)) ∈ lw_all := lw_g (lw_at lw_m2 90 rfl) rfl
theorem q409 : (Jvm.Cond.methodLink "MaypoleGreen" (159 : Nat) ({ cls := "MaypoleGreen$Round", name := "refuses", desc := "(I)I" } : Jvm.MethodName)) ∈ lw_all := lw_g (lw_at lw_m2 91 rfl) rfl
theorem q417 : (Jvm.Cond.methodLink "MaypoleGreen" (163 : Nat) ({ cls := "MaypoleGreen$Round", name := "does", desc := "(I)V" } : Jvm.MethodName)) ∈ lw_all := lw_g (lw_at lw_m2 99 rfl) rfl
theorem q430 : (Jvm.Cond.methodLink "MaypoleGreen" (166 : Nat) ({ cls := "MaypoleGreen", name := "moves", desc := "([III)V" } : Jvm.MethodName)) ∈ lw_all := lw_g (lw_at lw_m2 112 rfl) rfl
theorem q431 : (Jvm.Cond.privateMethod ({ cls := "MaypoleGreen", name := "moves", desc := "([III)V" } : Jvm.MethodName)) ∈ lw_tbl := lw_at lw_m2 113 rfl
theorem q432 : (Jvm.Cond.instanceMethod ({ cls := "MaypoleGreen", name := "moves", desc := "([III)V" } : Jvm.MethodName)) ∈ lw_all := lw_g (lw_at lw_m2 114 rfl) rfl
theorem q433 : (Jvm.Cond.code ({ cls := "MaypoleGreen", name := "moves", desc := "([III)V" } : Jvm.MethodName) prog_1_method_15_code (7 : Nat) (Option.none : Option Jvm.ClassFile.FieldType)) ∈ lw_all := lw_g (lw_at lw_m2 115 rfl) rfl
theorem q435 : (Jvm.Cond.instanceMethod ({ cls := "MaypoleGreen", name := "walk", desc := "(I)I" } : Jvm.MethodName)) ∈ lw_all := lw_g (lw_at lw_m2 117 rfl) rfl
theorem q436 : (Jvm.Cond.selects "MaypoleGreen" ({ cls := "MaypoleGreen", name := "walk", desc := "(I)I" } : Jvm.MethodName) ({ cls := "MaypoleGreen", name := "walk", desc := "(I)I" } : Jvm.MethodName)) ∈ lw_all := lw_g (lw_at lw_m2 118 rfl) rfl
theorem q437 : (Jvm.Cond.code ({ cls := "MaypoleGreen", name := "walk", desc := "(I)I" } : Jvm.MethodName) prog_1_method_18_code (2 : Nat) (Option.some Jvm.ClassFile.FieldType.int)) ∈ lw_all := lw_g (lw_at lw_m2 119 rfl) rfl
theorem q439 : (Jvm.Cond.instanceMethod ({ cls := "MaypoleGreen", name := "girth", desc := "()I" } : Jvm.MethodName)) ∈ lw_all := lw_g (lw_at lw_m2 121 rfl) rfl
theorem q440 : (Jvm.Cond.selects "MaypoleGreen" ({ cls := "MaypoleGreen", name := "girth", desc := "()I" } : Jvm.MethodName) ({ cls := "MaypoleGreen", name := "girth", desc := "()I" } : Jvm.MethodName)) ∈ lw_all := lw_g (lw_at lw_m2 122 rfl) rfl
theorem q441 : (Jvm.Cond.code ({ cls := "MaypoleGreen", name := "girth", desc := "()I" } : Jvm.MethodName) prog_1_method_19_code (1 : Nat) (Option.some Jvm.ClassFile.FieldType.int)) ∈ lw_all := lw_g (lw_at lw_m2 123 rfl) rfl
theorem q442 : (Jvm.Cond.methodLink "MaypoleGreen" (172 : Nat) ({ cls := "MaypoleGreen$Round", name := "girth", desc := "()I" } : Jvm.MethodName)) ∈ lw_all := lw_g (lw_at lw_m2 124 rfl) rfl
theorem q444 : (Jvm.Cond.instanceMethod ({ cls := "MaypoleGreen", name := "step", desc := "(I)I" } : Jvm.MethodName)) ∈ lw_all := lw_g (lw_at lw_m2 126 rfl) rfl
theorem q445 : (Jvm.Cond.selects "MaypoleGreen" ({ cls := "MaypoleGreen", name := "step", desc := "(I)I" } : Jvm.MethodName) ({ cls := "MaypoleGreen", name := "step", desc := "(I)I" } : Jvm.MethodName)) ∈ lw_all := lw_g (lw_at lw_m2 127 rfl) rfl
theorem q446 : (Jvm.Cond.code ({ cls := "MaypoleGreen", name := "step", desc := "(I)I" } : Jvm.MethodName) prog_1_method_20_code (2 : Nat) (Option.some Jvm.ClassFile.FieldType.int)) ∈ lw_all := lw_g (lw_at lw_m2 128 rfl) rfl
theorem q448 : (Jvm.Cond.instanceMethod ({ cls := "MaypoleGreen", name := "rows", desc := "()I" } : Jvm.MethodName)) ∈ lw_all := lw_g (lw_at lw_m2 130 rfl) rfl
theorem q449 : (Jvm.Cond.selects "MaypoleGreen" ({ cls := "MaypoleGreen", name := "rows", desc := "()I" } : Jvm.MethodName) ({ cls := "MaypoleGreen", name := "rows", desc := "()I" } : Jvm.MethodName)) ∈ lw_all := lw_g (lw_at lw_m2 131 rfl) rfl
theorem q450 : (Jvm.Cond.code ({ cls := "MaypoleGreen", name := "rows", desc := "()I" } : Jvm.MethodName) prog_1_method_21_code (1 : Nat) (Option.some Jvm.ClassFile.FieldType.int)) ∈ lw_all := lw_g (lw_at lw_m2 132 rfl) rfl
theorem q452 : (Jvm.Cond.instanceMethod ({ cls := "MaypoleGreen", name := "cloth", desc := "(III)I" } : Jvm.MethodName)) ∈ lw_all := lw_g (lw_at lw_m2 134 rfl) rfl
theorem q453 : (Jvm.Cond.selects "MaypoleGreen" ({ cls := "MaypoleGreen", name := "cloth", desc := "(III)I" } : Jvm.MethodName) ({ cls := "MaypoleGreen", name := "cloth", desc := "(III)I" } : Jvm.MethodName)) ∈ lw_all := lw_g (lw_at lw_m2 135 rfl) rfl
theorem q454 : (Jvm.Cond.code ({ cls := "MaypoleGreen", name := "cloth", desc := "(III)I" } : Jvm.MethodName) prog_1_method_22_code (4 : Nat) (Option.some Jvm.ClassFile.FieldType.int)) ∈ lw_all := lw_g (lw_at lw_m2 136 rfl) rfl
theorem q455 : (Jvm.Cond.methodLink "MaypoleGreen" (179 : Nat) ({ cls := "MaypoleGreen", name := "rows", desc := "()I" } : Jvm.MethodName)) ∈ lw_all := lw_g (lw_at lw_m2 137 rfl) rfl
theorem q456 : (Jvm.Cond.methodLink "MaypoleGreen" (188 : Nat) ({ cls := "MaypoleGreen$Round", name := "top", desc := "(II)I" } : Jvm.MethodName)) ∈ lw_all := lw_g (lw_at lw_m2 138 rfl) rfl
theorem q461 : (Jvm.Cond.instanceMethod ({ cls := "MaypoleGreen", name := "beat", desc := "()I" } : Jvm.MethodName)) ∈ lw_all := lw_g (lw_at lw_m2 143 rfl) rfl
theorem q462 : (Jvm.Cond.selects "MaypoleGreen" ({ cls := "MaypoleGreen", name := "beat", desc := "()I" } : Jvm.MethodName) ({ cls := "MaypoleGreen", name := "beat", desc := "()I" } : Jvm.MethodName)) ∈ lw_all := lw_g (lw_at lw_m2 144 rfl) rfl
theorem q463 : (Jvm.Cond.code ({ cls := "MaypoleGreen", name := "beat", desc := "()I" } : Jvm.MethodName) prog_1_method_24_code (5 : Nat) (Option.some Jvm.ClassFile.FieldType.int)) ∈ lw_all := lw_g (lw_at lw_m2 145 rfl) rfl
theorem q464 : (Jvm.Cond.methodLink "MaypoleGreen" (192 : Nat) ({ cls := "MaypoleGreen", name := "areLike", desc := "(II)Z" } : Jvm.MethodName)) ∈ lw_all := lw_g (lw_at lw_m2 146 rfl) rfl
theorem q465 : (Jvm.Cond.privateMethod ({ cls := "MaypoleGreen", name := "areLike", desc := "(II)Z" } : Jvm.MethodName)) ∈ lw_tbl := lw_at lw_m2 147 rfl
theorem q466 : (Jvm.Cond.instanceMethod ({ cls := "MaypoleGreen", name := "areLike", desc := "(II)Z" } : Jvm.MethodName)) ∈ lw_all := lw_g (lw_at lw_m2 148 rfl) rfl
theorem q467 : (Jvm.Cond.code ({ cls := "MaypoleGreen", name := "areLike", desc := "(II)Z" } : Jvm.MethodName) prog_1_method_23_code (5 : Nat) (Option.some Jvm.ClassFile.FieldType.boolean)) ∈ lw_all := lw_g (lw_at lw_m2 149 rfl) rfl
theorem q469 : (Jvm.Cond.instanceMethod ({ cls := "MaypoleGreen", name := "picture", desc := "(III)I" } : Jvm.MethodName)) ∈ lw_all := lw_g (lw_at lw_m2 151 rfl) rfl
theorem q470 : (Jvm.Cond.selects "MaypoleGreen" ({ cls := "MaypoleGreen", name := "picture", desc := "(III)I" } : Jvm.MethodName) ({ cls := "MaypoleGreen", name := "picture", desc := "(III)I" } : Jvm.MethodName)) ∈ lw_all := lw_g (lw_at lw_m2 152 rfl) rfl
theorem q471 : (Jvm.Cond.code ({ cls := "MaypoleGreen", name := "picture", desc := "(III)I" } : Jvm.MethodName) prog_1_method_25_code (4 : Nat) (Option.some Jvm.ClassFile.FieldType.int)) ∈ lw_all := lw_g (lw_at lw_m2 153 rfl) rfl
theorem q473 : (Jvm.Cond.instanceMethod ({ cls := "MaypoleGreen", name := "pictureless", desc := "()I" } : Jvm.MethodName)) ∈ lw_all := lw_g (lw_at lw_m2 155 rfl) rfl
theorem q474 : (Jvm.Cond.selects "MaypoleGreen" ({ cls := "MaypoleGreen", name := "pictureless", desc := "()I" } : Jvm.MethodName) ({ cls := "MaypoleGreen", name := "pictureless", desc := "()I" } : Jvm.MethodName)) ∈ lw_all := lw_g (lw_at lw_m2 156 rfl) rfl
theorem q475 : (Jvm.Cond.code ({ cls := "MaypoleGreen", name := "pictureless", desc := "()I" } : Jvm.MethodName) prog_1_method_26_code (2 : Nat) (Option.some Jvm.ClassFile.FieldType.int)) ∈ lw_all := lw_g (lw_at lw_m2 157 rfl) rfl
theorem q477 : (Jvm.Cond.instanceMethod ({ cls := "MaypoleGreen", name := "wrong", desc := "()I" } : Jvm.MethodName)) ∈ lw_all := lw_g (lw_at lw_m2 159 rfl) rfl
theorem q478 : (Jvm.Cond.selects "MaypoleGreen" ({ cls := "MaypoleGreen", name := "wrong", desc := "()I" } : Jvm.MethodName) ({ cls := "MaypoleGreen", name := "wrong", desc := "()I" } : Jvm.MethodName)) ∈ lw_all := lw_g (lw_at lw_m2 160 rfl) rfl
theorem q479 : (Jvm.Cond.code ({ cls := "MaypoleGreen", name := "wrong", desc := "()I" } : Jvm.MethodName) prog_1_method_28_code (1 : Nat) (Option.some Jvm.ClassFile.FieldType.int)) ∈ lw_all := lw_g (lw_at lw_m2 161 rfl) rfl
theorem q480 : (Jvm.Cond.methodLink "MaypoleGreen" (199 : Nat) ({ cls := "MaypoleGreen", name := "wrongs", desc := "([I)I" } : Jvm.MethodName)) ∈ lw_all := lw_g (lw_at lw_m2 162 rfl) rfl
theorem q481 : (Jvm.Cond.privateMethod ({ cls := "MaypoleGreen", name := "wrongs", desc := "([I)I" } : Jvm.MethodName)) ∈ lw_tbl := lw_at lw_m2 163 rfl
theorem q482 : (Jvm.Cond.instanceMethod ({ cls := "MaypoleGreen", name := "wrongs", desc := "([I)I" } : Jvm.MethodName)) ∈ lw_all := lw_g (lw_at lw_m2 164 rfl) rfl
theorem q483 : (Jvm.Cond.code ({ cls := "MaypoleGreen", name := "wrongs", desc := "([I)I" } : Jvm.MethodName) prog_1_method_27_code (5 : Nat) (Option.some Jvm.ClassFile.FieldType.int)) ∈ lw_all := lw_g (lw_at lw_m2 165 rfl) rfl
theorem q485 : (Jvm.Cond.instanceMethod ({ cls := "MaypoleGreen", name := "colours", desc := "(II)I" } : Jvm.MethodName)) ∈ lw_all := lw_g (lw_at lw_m2 167 rfl) rfl
theorem q486 : (Jvm.Cond.selects "MaypoleGreen" ({ cls := "MaypoleGreen", name := "colours", desc := "(II)I" } : Jvm.MethodName) ({ cls := "MaypoleGreen", name := "colours", desc := "(II)I" } : Jvm.MethodName)) ∈ lw_all := lw_g (lw_at lw_m2 168 rfl) rfl
theorem q487 : (Jvm.Cond.code ({ cls := "MaypoleGreen", name := "colours", desc := "(II)I" } : Jvm.MethodName) prog_1_method_29_code (8 : Nat) (Option.some Jvm.ClassFile.FieldType.int)) ∈ lw_all := lw_g (lw_at lw_m2 169 rfl) rfl
theorem q489 : (Jvm.Cond.instanceMethod ({ cls := "MaypoleGreen", name := "form", desc := "(II)I" } : Jvm.MethodName)) ∈ lw_all := lw_g (lw_at lw_m2 171 rfl) rfl
theorem q490 : (Jvm.Cond.selects "MaypoleGreen" ({ cls := "MaypoleGreen", name := "form", desc := "(II)I" } : Jvm.MethodName) ({ cls := "MaypoleGreen", name := "form", desc := "(II)I" } : Jvm.MethodName)) ∈ lw_all := lw_g (lw_at lw_m2 172 rfl) rfl
theorem q491 : (Jvm.Cond.code ({ cls := "MaypoleGreen", name := "form", desc := "(II)I" } : Jvm.MethodName) prog_1_method_31_code (4 : Nat) (Option.some Jvm.ClassFile.FieldType.int)) ∈ lw_all := lw_g (lw_at lw_m2 173 rfl) rfl
theorem q492 : (Jvm.Cond.methodLink "MaypoleGreen" (214 : Nat) ({ cls := "MaypoleGreen", name := "formOf", desc := "(I)LMaypoleGreen$Form;" } : Jvm.MethodName)) ∈ lw_all := lw_g (lw_at lw_m2 174 rfl) rfl
theorem q493 : (Jvm.Cond.privateMethod ({ cls := "MaypoleGreen", name := "formOf", desc := "(I)LMaypoleGreen$Form;" } : Jvm.MethodName)) ∈ lw_tbl := lw_at lw_m2 175 rfl
theorem q494 : (Jvm.Cond.instanceMethod ({ cls := "MaypoleGreen", name := "formOf", desc := "(I)LMaypoleGreen$Form;" } : Jvm.MethodName)) ∈ lw_all := lw_g (lw_at lw_m2 176 rfl) rfl
theorem q495 : (Jvm.Cond.code ({ cls := "MaypoleGreen", name := "formOf", desc := "(I)LMaypoleGreen$Form;" } : Jvm.MethodName) prog_1_method_30_code (3 : Nat) (Option.some (Jvm.ClassFile.FieldType.object "MaypoleGreen$Form"))) ∈ lw_all := lw_g (lw_at lw_m2 177 rfl) rfl
theorem q496 : (Jvm.Cond.classLink "MaypoleGreen" (203 : Nat) "MaypoleGreen$Form") ∈ lw_all := lw_g (lw_at lw_m2 178 rfl) rfl
theorem q498 : (Jvm.Cond.methodLink "MaypoleGreen" (205 : Nat) ({ cls := "MaypoleGreen$Form", name := "<init>", desc := "(I[II)V" } : Jvm.MethodName)) ∈ lw_all := lw_g (lw_at lw_m2 180 rfl) rfl
theorem q523 : (Jvm.Cond.fieldLinkNest "MaypoleGreen" (222 : Nat) "MaypoleGreen$Form" "passes" "[I" "MaypoleGreen") ∈ lw_tbl := lw_at lw_m2 205 rfl
theorem q525 : (Jvm.Cond.fieldLinkNest "MaypoleGreen" (218 : Nat) "MaypoleGreen$Form" "many" "I" "MaypoleGreen") ∈ lw_tbl := lw_at lw_m2 207 rfl
theorem q527 : (Jvm.Cond.fieldLinkNest "MaypoleGreen" (219 : Nat) "MaypoleGreen$Form" "turns" "I" "MaypoleGreen") ∈ lw_tbl := lw_at lw_m2 209 rfl
theorem q537 : (Jvm.Cond.methodLink "MaypoleGreen" (208 : Nat) ({ cls := "MaypoleGreen$Figure", name := "isOf", desc := "(I)Z" } : Jvm.MethodName)) ∈ lw_all := lw_g (lw_at lw_m2 219 rfl) rfl
theorem q542 : (Jvm.Cond.instanceMethod ({ cls := "MaypoleGreen", name := "akin", desc := "(II)I" } : Jvm.MethodName)) ∈ lw_all := lw_g (lw_at lw_m2 224 rfl) rfl
theorem q543 : (Jvm.Cond.selects "MaypoleGreen" ({ cls := "MaypoleGreen", name := "akin", desc := "(II)I" } : Jvm.MethodName) ({ cls := "MaypoleGreen", name := "akin", desc := "(II)I" } : Jvm.MethodName)) ∈ lw_all := lw_g (lw_at lw_m2 225 rfl) rfl
theorem q544 : (Jvm.Cond.code ({ cls := "MaypoleGreen", name := "akin", desc := "(II)I" } : Jvm.MethodName) prog_1_method_32_code (5 : Nat) (Option.some Jvm.ClassFile.FieldType.int)) ∈ lw_all := lw_g (lw_at lw_m2 226 rfl) rfl
theorem q545 : (Jvm.Cond.methodLink "MaypoleGreen" (225 : Nat) ({ cls := "MaypoleGreen$Form", name := "is", desc := "(LMaypoleGreen$Form;)Z" } : Jvm.MethodName)) ∈ lw_all := lw_g (lw_at lw_m2 227 rfl) rfl
theorem q550 : (Jvm.Cond.instanceMethod ({ cls := "MaypoleGreen", name := "feed", desc := "(II)I" } : Jvm.MethodName)) ∈ lw_all := lw_g (lw_at lw_m2 232 rfl) rfl
theorem q551 : (Jvm.Cond.selects "MaypoleGreen" ({ cls := "MaypoleGreen", name := "feed", desc := "(II)I" } : Jvm.MethodName) ({ cls := "MaypoleGreen", name := "feed", desc := "(II)I" } : Jvm.MethodName)) ∈ lw_all := lw_g (lw_at lw_m2 233 rfl) rfl
theorem q552 : (Jvm.Cond.code ({ cls := "MaypoleGreen", name := "feed", desc := "(II)I" } : Jvm.MethodName) prog_1_method_33_code (4 : Nat) (Option.some Jvm.ClassFile.FieldType.int)) ∈ lw_all := lw_g (lw_at lw_m2 234 rfl) rfl
theorem q554 : (Jvm.Cond.instanceMethod ({ cls := "MaypoleGreen", name := "figure", desc := "()I" } : Jvm.MethodName)) ∈ lw_all := lw_g (lw_at lw_m2 236 rfl) rfl
theorem q555 : (Jvm.Cond.selects "MaypoleGreen" ({ cls := "MaypoleGreen", name := "figure", desc := "()I" } : Jvm.MethodName) ({ cls := "MaypoleGreen", name := "figure", desc := "()I" } : Jvm.MethodName)) ∈ lw_all := lw_g (lw_at lw_m2 237 rfl) rfl
theorem q556 : (Jvm.Cond.codeWith ({ cls := "MaypoleGreen", name := "figure", desc := "()I" } : Jvm.MethodName) prog_1_method_34_code (3 : Nat) (Option.some Jvm.ClassFile.FieldType.int) [((22 : Nat), (55 : Nat), (78 : Nat), (244 : Nat)), ((56 : Nat), (77 : Nat), (78 : Nat), (244 : Nat))]) ∈ lw_all := lw_g (lw_at lw_m2 238 rfl) rfl
theorem q557 : (Jvm.Cond.classLink "MaypoleGreen" (244 : Nat) "MaypoleGreen$Off") ∈ lw_all := lw_g (lw_at lw_m2 239 rfl) rfl
theorem q558 : (Jvm.Cond.classLink "MaypoleGreen" (232 : Nat) "MaypoleGreen$Reader") ∈ lw_all := lw_g (lw_at lw_m3 0 rfl) rfl
theorem q560 : (Jvm.Cond.methodLink "MaypoleGreen" (234 : Nat) ({ cls := "MaypoleGreen$Reader", name := "<init>", desc := "([BI[LMaypoleGreen$Figure;I)V" } : Jvm.MethodName)) ∈ lw_all := lw_g (lw_at lw_m3 2 rfl) rfl
theorem q583 : (Jvm.Cond.methodLink "MaypoleGreen" (237 : Nat) ({ cls := "MaypoleGreen$Reader", name := "figure", desc := "()LMaypoleGreen$Figure;" } : Jvm.MethodName)) ∈ lw_all := lw_g (lw_at lw_m3 25 rfl) rfl
theorem q598 : (Jvm.Cond.fieldLinkNest "MaypoleGreen" (211 : Nat) "MaypoleGreen$Figure" "steps" "[I" "MaypoleGreen") ∈ lw_tbl := lw_at lw_m3 40 rfl
theorem q600 : (Jvm.Cond.fieldLinkNest "MaypoleGreen" (213 : Nat) "MaypoleGreen$Figure" "many" "I" "MaypoleGreen") ∈ lw_tbl := lw_at lw_m3 42 rfl
theorem q602 : (Jvm.Cond.fieldLinkNest "MaypoleGreen" (241 : Nat) "MaypoleGreen$Figure" "isTooLong" "Z" "MaypoleGreen") ∈ lw_tbl := lw_at lw_m3 44 rfl
theorem q691 : (Jvm.Cond.fieldLinkNest "MaypoleGreen" (246 : Nat) "MaypoleGreen$Off" "place" "I" "MaypoleGreen") ∈ lw_tbl := lw_at lw_m3 133 rfl
theorem q728 : (Jvm.Cond.static ({ cls := "MaypoleGreen", name := "undoing", desc := "(I)I" } : Jvm.MethodName)) ∈ lw_all := lw_g (lw_at lw_m3 170 rfl) rfl
theorem q729 : (Jvm.Cond.code ({ cls := "MaypoleGreen", name := "undoing", desc := "(I)I" } : Jvm.MethodName) prog_1_method_2_code (1 : Nat) (Option.some Jvm.ClassFile.FieldType.int)) ∈ lw_all := lw_g (lw_at lw_m3 171 rfl) rfl
theorem q736 : (Jvm.Cond.instanceMethod ({ cls := "MaypoleGreen", name := "told", desc := "(II)I" } : Jvm.MethodName)) ∈ lw_all := lw_g (lw_at lw_m3 178 rfl) rfl
theorem q737 : (Jvm.Cond.selects "MaypoleGreen" ({ cls := "MaypoleGreen", name := "told", desc := "(II)I" } : Jvm.MethodName) ({ cls := "MaypoleGreen", name := "told", desc := "(II)I" } : Jvm.MethodName)) ∈ lw_all := lw_g (lw_at lw_m3 179 rfl) rfl
theorem q738 : (Jvm.Cond.code ({ cls := "MaypoleGreen", name := "told", desc := "(II)I" } : Jvm.MethodName) prog_1_method_35_code (4 : Nat) (Option.some Jvm.ClassFile.FieldType.int)) ∈ lw_all := lw_g (lw_at lw_m3 180 rfl) rfl
theorem q739 : (Jvm.Cond.methodLink "MaypoleGreen" (249 : Nat) ({ cls := "MaypoleGreen", name := "isFigure", desc := "(I)Z" } : Jvm.MethodName)) ∈ lw_all := lw_g (lw_at lw_m3 181 rfl) rfl
theorem q740 : (Jvm.Cond.privateMethod ({ cls := "MaypoleGreen", name := "isFigure", desc := "(I)Z" } : Jvm.MethodName)) ∈ lw_tbl := lw_at lw_m3 182 rfl
theorem q741 : (Jvm.Cond.instanceMethod ({ cls := "MaypoleGreen", name := "isFigure", desc := "(I)Z" } : Jvm.MethodName)) ∈ lw_all := lw_g (lw_at lw_m3 183 rfl) rfl
theorem q742 : (Jvm.Cond.code ({ cls := "MaypoleGreen", name := "isFigure", desc := "(I)Z" } : Jvm.MethodName) prog_1_method_6_code (2 : Nat) (Option.some Jvm.ClassFile.FieldType.boolean)) ∈ lw_all := lw_g (lw_at lw_m3 184 rfl) rfl
theorem q744 : (Jvm.Cond.instanceMethod ({ cls := "MaypoleGreen", name := "dance", desc := "(I)I" } : Jvm.MethodName)) ∈ lw_all := lw_g (lw_at lw_m3 186 rfl) rfl
theorem q745 : (Jvm.Cond.selects "MaypoleGreen" ({ cls := "MaypoleGreen", name := "dance", desc := "(I)I" } : Jvm.MethodName) ({ cls := "MaypoleGreen", name := "dance", desc := "(I)I" } : Jvm.MethodName)) ∈ lw_all := lw_g (lw_at lw_m3 187 rfl) rfl
theorem q746 : (Jvm.Cond.code ({ cls := "MaypoleGreen", name := "dance", desc := "(I)I" } : Jvm.MethodName) prog_1_method_36_code (4 : Nat) (Option.some Jvm.ClassFile.FieldType.int)) ∈ lw_all := lw_g (lw_at lw_m3 188 rfl) rfl
theorem q748 : (Jvm.Cond.instanceMethod ({ cls := "MaypoleGreen", name := "right", desc := "(I)I" } : Jvm.MethodName)) ∈ lw_all := lw_g (lw_at lw_m3 190 rfl) rfl
theorem q749 : (Jvm.Cond.selects "MaypoleGreen" ({ cls := "MaypoleGreen", name := "right", desc := "(I)I" } : Jvm.MethodName) ({ cls := "MaypoleGreen", name := "right", desc := "(I)I" } : Jvm.MethodName)) ∈ lw_all := lw_g (lw_at lw_m3 191 rfl) rfl
theorem q750 : (Jvm.Cond.code ({ cls := "MaypoleGreen", name := "right", desc := "(I)I" } : Jvm.MethodName) prog_1_method_38_code (3 : Nat) (Option.some Jvm.ClassFile.FieldType.int)) ∈ lw_all := lw_g (lw_at lw_m3 192 rfl) rfl
theorem q751 : (Jvm.Cond.methodLink "MaypoleGreen" (259 : Nat) ({ cls := "MaypoleGreen", name := "gives", desc := "(LMaypoleGreen$Figure;II)Z" } : Jvm.MethodName)) ∈ lw_all := lw_g (lw_at lw_m3 193 rfl) rfl
theorem q752 : (Jvm.Cond.privateMethod ({ cls := "MaypoleGreen", name := "gives", desc := "(LMaypoleGreen$Figure;II)Z" } : Jvm.MethodName)) ∈ lw_tbl := lw_at lw_m3 194 rfl
theorem q753 : (Jvm.Cond.instanceMethod ({ cls := "MaypoleGreen", name := "gives", desc := "(LMaypoleGreen$Figure;II)Z" } : Jvm.MethodName)) ∈ lw_all := lw_g (lw_at lw_m3 195 rfl) rfl
theorem q754 : (Jvm.Cond.code ({ cls := "MaypoleGreen", name := "gives", desc := "(LMaypoleGreen$Figure;II)Z" } : Jvm.MethodName) prog_1_method_37_code (7 : Nat) (Option.some Jvm.ClassFile.FieldType.boolean)) ∈ lw_all := lw_g (lw_at lw_m3 196 rfl) rfl
theorem q755 : (Jvm.Cond.methodLink "MaypoleGreen" (252 : Nat) ({ cls := "MaypoleGreen", name := "undoing", desc := "(I)I" } : Jvm.MethodName)) ∈ lw_all := lw_g (lw_at lw_m3 197 rfl) rfl
theorem q756 : (Jvm.Cond.methodLink "MaypoleGreen" (255 : Nat) ({ cls := "MaypoleGreen$Round", name := "isLike", desc := "(LMaypoleGreen$Round;)Z" } : Jvm.MethodName)) ∈ lw_all := lw_g (lw_at lw_m3 198 rfl) rfl
theorem q761 : (Jvm.Cond.instanceMethod ({ cls := "MaypoleGreen", name := "slips", desc := "(II)I" } : Jvm.MethodName)) ∈ lw_all := lw_g (lw_at lw_m3 203 rfl) rfl
theorem q762 : (Jvm.Cond.selects "MaypoleGreen" ({ cls := "MaypoleGreen", name := "slips", desc := "(II)I" } : Jvm.MethodName) ({ cls := "MaypoleGreen", name := "slips", desc := "(II)I" } : Jvm.MethodName)) ∈ lw_all := lw_g (lw_at lw_m3 204 rfl) rfl
theorem q763 : (Jvm.Cond.code ({ cls := "MaypoleGreen", name := "slips", desc := "(II)I" } : Jvm.MethodName) prog_1_method_39_code (7 : Nat) (Option.some Jvm.ClassFile.FieldType.int)) ∈ lw_all := lw_g (lw_at lw_m3 205 rfl) rfl
theorem q764 : (Jvm.Cond.methodLink "MaypoleGreen" (263 : Nat) ({ cls := "MaypoleGreen", name := "isOfBut", desc := "(LMaypoleGreen$Figure;I)Z" } : Jvm.MethodName)) ∈ lw_all := lw_g (lw_at lw_m3 206 rfl) rfl
theorem q765 : (Jvm.Cond.privateMethod ({ cls := "MaypoleGreen", name := "isOfBut", desc := "(LMaypoleGreen$Figure;I)Z" } : Jvm.MethodName)) ∈ lw_tbl := lw_at lw_m3 207 rfl
theorem q766 : (Jvm.Cond.instanceMethod ({ cls := "MaypoleGreen", name := "isOfBut", desc := "(LMaypoleGreen$Figure;I)Z" } : Jvm.MethodName)) ∈ lw_all := lw_g (lw_at lw_m3 208 rfl) rfl
theorem q767 : (Jvm.Cond.code ({ cls := "MaypoleGreen", name := "isOfBut", desc := "(LMaypoleGreen$Figure;I)Z" } : Jvm.MethodName) prog_1_method_40_code (5 : Nat) (Option.some Jvm.ClassFile.FieldType.boolean)) ∈ lw_all := lw_g (lw_at lw_m3 209 rfl) rfl
theorem q769 : (Jvm.Cond.instanceMethod ({ cls := "MaypoleGreen", name := "fewest", desc := "(II)I" } : Jvm.MethodName)) ∈ lw_all := lw_g (lw_at lw_m3 211 rfl) rfl
theorem q770 : (Jvm.Cond.selects "MaypoleGreen" ({ cls := "MaypoleGreen", name := "fewest", desc := "(II)I" } : Jvm.MethodName) ({ cls := "MaypoleGreen", name := "fewest", desc := "(II)I" } : Jvm.MethodName)) ∈ lw_all := lw_g (lw_at lw_m3 212 rfl) rfl
theorem q771 : (Jvm.Cond.codeWith ({ cls := "MaypoleGreen", name := "fewest", desc := "(II)I" } : Jvm.MethodName) prog_1_method_42_code (4 : Nat) (Option.some Jvm.ClassFile.FieldType.int) [((33 : Nat), (50 : Nat), (51 : Nat), (305 : Nat)), ((33 : Nat), (50 : Nat), (55 : Nat), (307 : Nat)), ((33 : Nat), (50 : Nat), (59 : Nat), (244 : Nat))]) ∈ lw_all := lw_g (lw_at lw_m3 213 rfl) rfl
theorem q772 : (Jvm.Cond.classLink "MaypoleGreen" (305 : Nat) "java/lang/NullPointerException") ∈ lw_all := lw_g (lw_at lw_m3 214 rfl) rfl
theorem q791 : (Jvm.Cond.classLink "MaypoleGreen" (307 : Nat) "java/lang/ClassCastException") ∈ lw_all := lw_g (lw_at lw_m3 233 rfl) rfl
theorem q818 : (Jvm.Cond.methodLink "MaypoleGreen" (294 : Nat) ({ cls := "MaypoleGreen", name := "isTape", desc := "(I)Z" } : Jvm.MethodName)) ∈ lw_all := lw_g (lw_at lw_m4 20 rfl) rfl
theorem q819 : (Jvm.Cond.static ({ cls := "MaypoleGreen", name := "isTape", desc := "(I)Z" } : Jvm.MethodName)) ∈ lw_all := lw_g (lw_at lw_m4 21 rfl) rfl
theorem q820 : (Jvm.Cond.code ({ cls := "MaypoleGreen", name := "isTape", desc := "(I)Z" } : Jvm.MethodName) prog_1_method_55_code (1 : Nat) (Option.some Jvm.ClassFile.FieldType.boolean)) ∈ lw_all := lw_g (lw_at lw_m4 22 rfl) rfl
theorem q821 : (Jvm.Cond.classLink "MaypoleGreen" (300 : Nat) "[B") ∈ lw_all := lw_g (lw_at lw_m4 23 rfl) rfl
theorem q822 : (Jvm.Cond.methodLink "MaypoleGreen" (301 : Nat) ({ cls := "MaypoleGreen", name := "fewestTo", desc := "([BI)I" } : Jvm.MethodName)) ∈ lw_all := lw_g (lw_at lw_m4 24 rfl) rfl
theorem q823 : (Jvm.Cond.privateMethod ({ cls := "MaypoleGreen", name := "fewestTo", desc := "([BI)I" } : Jvm.MethodName)) ∈ lw_tbl := lw_at lw_m4 25 rfl
theorem q824 : (Jvm.Cond.instanceMethod ({ cls := "MaypoleGreen", name := "fewestTo", desc := "([BI)I" } : Jvm.MethodName)) ∈ lw_all := lw_g (lw_at lw_m4 26 rfl) rfl
theorem q825 : (Jvm.Cond.code ({ cls := "MaypoleGreen", name := "fewestTo", desc := "([BI)I" } : Jvm.MethodName) prog_1_method_41_code (10 : Nat) (Option.some Jvm.ClassFile.FieldType.int)) ∈ lw_all := lw_g (lw_at lw_m4 27 rfl) rfl
theorem q826 : (Jvm.Cond.methodLink "MaypoleGreen" (267 : Nat) ({ cls := "MaypoleGreen$Off", name := "<init>", desc := "(I)V" } : Jvm.MethodName)) ∈ lw_all := lw_g (lw_at lw_m4 28 rfl) rfl
theorem q827 : (Jvm.Cond.methodLink "MaypoleGreen" (268 : Nat) ({ cls := "MaypoleGreen", name := "at", desc := "(II)I" } : Jvm.MethodName)) ∈ lw_all := lw_g (lw_at lw_m4 29 rfl) rfl
theorem q828 : (Jvm.Cond.classLink "MaypoleGreen" (276 : Nat) "MaypoleGreen$Orders") ∈ lw_all := lw_g (lw_at lw_m4 30 rfl) rfl
theorem q830 : (Jvm.Cond.methodLink "MaypoleGreen" (280 : Nat) ({ cls := "MaypoleGreen$Orders", name := "<init>", desc := "(I)V" } : Jvm.MethodName)) ∈ lw_all := lw_g (lw_at lw_m4 32 rfl) rfl
theorem q835 : (Jvm.Cond.fieldLinkNest "MaypoleGreen" (275 : Nat) "MaypoleGreen$Orders" "n" "I" "MaypoleGreen") ∈ lw_tbl := lw_at lw_m4 37 rfl
theorem q837 : (Jvm.Cond.fieldLinkNest "MaypoleGreen" (286 : Nat) "MaypoleGreen$Orders" "far" "[I" "MaypoleGreen") ∈ lw_tbl := lw_at lw_m4 39 rfl
theorem q840 : (Jvm.Cond.fieldLinkNest "MaypoleGreen" (292 : Nat) "MaypoleGreen$Orders" "at" "[I" "MaypoleGreen") ∈ lw_tbl := lw_at lw_m4 42 rfl
theorem q850 : (Jvm.Cond.methodLink "MaypoleGreen" (281 : Nat) ({ cls := "MaypoleGreen$Orders", name := "rank", desc := "([I)I" } : Jvm.MethodName)) ∈ lw_all := lw_g (lw_at lw_m4 52 rfl) rfl
theorem q854 : (Jvm.Cond.methodLink "MaypoleGreen" (284 : Nat) ({ cls := "MaypoleGreen$Orders", name := "begins", desc := "(I)V" } : Jvm.MethodName)) ∈ lw_all := lw_g (lw_at lw_m4 56 rfl) rfl
theorem q867 : (Jvm.Cond.methodLink "MaypoleGreen" (289 : Nat) ({ cls := "MaypoleGreen$Orders", name := "nearer", desc := "(I)I" } : Jvm.MethodName)) ∈ lw_all := lw_g (lw_at lw_m4 69 rfl) rfl
theorem q872 : (Jvm.Cond.instanceMethod ({ cls := "MaypoleGreen", name := "set", desc := "(II)I" } : Jvm.MethodName)) ∈ lw_all := lw_g (lw_at lw_m4 74 rfl) rfl
theorem q873 : (Jvm.Cond.selects "MaypoleGreen" ({ cls := "MaypoleGreen", name := "set", desc := "(II)I" } : Jvm.MethodName) ({ cls := "MaypoleGreen", name := "set", desc := "(II)I" } : Jvm.MethodName)) ∈ lw_all := lw_g (lw_at lw_m4 75 rfl) rfl
theorem q874 : (Jvm.Cond.code ({ cls := "MaypoleGreen", name := "set", desc := "(II)I" } : Jvm.MethodName) prog_1_method_47_code (4 : Nat) (Option.some Jvm.ClassFile.FieldType.int)) ∈ lw_all := lw_g (lw_at lw_m4 76 rfl) rfl
theorem q875 : (Jvm.Cond.methodLink "MaypoleGreen" (333 : Nat) ({ cls := "MaypoleGreen", name := "refuses", desc := "(I)I" } : Jvm.MethodName)) ∈ lw_all := lw_g (lw_at lw_m4 77 rfl) rfl
theorem q876 : (Jvm.Cond.privateMethod ({ cls := "MaypoleGreen", name := "refuses", desc := "(I)I" } : Jvm.MethodName)) ∈ lw_tbl := lw_at lw_m4 78 rfl
theorem q877 : (Jvm.Cond.instanceMethod ({ cls := "MaypoleGreen", name := "refuses", desc := "(I)I" } : Jvm.MethodName)) ∈ lw_all := lw_g (lw_at lw_m4 79 rfl) rfl
theorem q878 : (Jvm.Cond.code ({ cls := "MaypoleGreen", name := "refuses", desc := "(I)I" } : Jvm.MethodName) prog_1_method_45_code (3 : Nat) (Option.some Jvm.ClassFile.FieldType.int)) ∈ lw_all := lw_g (lw_at lw_m4 80 rfl) rfl
theorem q879 : (Jvm.Cond.methodLink "MaypoleGreen" (327 : Nat) ({ cls := "java/lang/Integer", name := "bitCount", desc := "(I)I" } : Jvm.MethodName)) ∈ lw_all := lw_g (lw_at lw_m4 81 rfl) rfl
theorem q885 : (Jvm.Cond.methodLink "MaypoleGreen" (334 : Nat) ({ cls := "MaypoleGreen", name := "sets", desc := "(I)V" } : Jvm.MethodName)) ∈ lw_all := lw_g (lw_at lw_m4 87 rfl) rfl
theorem q886 : (Jvm.Cond.privateMethod ({ cls := "MaypoleGreen", name := "sets", desc := "(I)V" } : Jvm.MethodName)) ∈ lw_tbl := lw_at lw_m4 88 rfl
theorem q887 : (Jvm.Cond.instanceMethod ({ cls := "MaypoleGreen", name := "sets", desc := "(I)V" } : Jvm.MethodName)) ∈ lw_all := lw_g (lw_at lw_m4 89 rfl) rfl
theorem q888 : (Jvm.Cond.code ({ cls := "MaypoleGreen", name := "sets", desc := "(I)V" } : Jvm.MethodName) prog_1_method_46_code (2 : Nat) (Option.none : Option Jvm.ClassFile.FieldType)) ∈ lw_all := lw_g (lw_at lw_m4 90 rfl) rfl
theorem q889 : (Jvm.Cond.constant "MaypoleGreen" (332 : Nat) (2147483647 : Int32)) ∈ lw_all := lw_g (lw_at lw_m4 91 rfl) rfl
theorem q890 : (Jvm.Cond.methodLink "MaypoleGreen" (323 : Nat) ({ cls := "MaypoleGreen", name := "puts", desc := "(III)V" } : Jvm.MethodName)) ∈ lw_all := lw_g (lw_at lw_m4 92 rfl) rfl
theorem q891 : (Jvm.Cond.privateMethod ({ cls := "MaypoleGreen", name := "puts", desc := "(III)V" } : Jvm.MethodName)) ∈ lw_tbl := lw_at lw_m4 93 rfl
theorem q892 : (Jvm.Cond.instanceMethod ({ cls := "MaypoleGreen", name := "puts", desc := "(III)V" } : Jvm.MethodName)) ∈ lw_all := lw_g (lw_at lw_m4 94 rfl) rfl
theorem q893 : (Jvm.Cond.code ({ cls := "MaypoleGreen", name := "puts", desc := "(III)V" } : Jvm.MethodName) prog_1_method_44_code (5 : Nat) (Option.none : Option Jvm.ClassFile.FieldType)) ∈ lw_all := lw_g (lw_at lw_m4 95 rfl) rfl
theorem q894 : (Jvm.Cond.methodLink "MaypoleGreen" (320 : Nat) ({ cls := "MaypoleGreen", name := "apart", desc := "(II)I" } : Jvm.MethodName)) ∈ lw_all := lw_g (lw_at lw_m4 96 rfl) rfl
theorem q895 : (Jvm.Cond.privateMethod ({ cls := "MaypoleGreen", name := "apart", desc := "(II)I" } : Jvm.MethodName)) ∈ lw_tbl := lw_at lw_m4 97 rfl
theorem q896 : (Jvm.Cond.instanceMethod ({ cls := "MaypoleGreen", name := "apart", desc := "(II)I" } : Jvm.MethodName)) ∈ lw_all := lw_g (lw_at lw_m4 98 rfl) rfl
theorem q897 : (Jvm.Cond.code ({ cls := "MaypoleGreen", name := "apart", desc := "(II)I" } : Jvm.MethodName) prog_1_method_43_code (3 : Nat) (Option.some Jvm.ClassFile.FieldType.int)) ∈ lw_all := lw_g (lw_at lw_m4 99 rfl) rfl
theorem q898 : (Jvm.Cond.methodLink "MaypoleGreen" (312 : Nat) ({ cls := "java/lang/Math", name := "abs", desc := "(I)I" } : Jvm.MethodName)) ∈ lw_all := lw_g (lw_at lw_m4 100 rfl) rfl
theorem q902 : (Jvm.Cond.instanceMethod ({ cls := "MaypoleGreen", name := "spent", desc := "(II)I" } : Jvm.MethodName)) ∈ lw_all := lw_g (lw_at lw_m4 104 rfl) rfl
theorem q903 : (Jvm.Cond.selects "MaypoleGreen" ({ cls := "MaypoleGreen", name := "spent", desc := "(II)I" } : Jvm.MethodName) ({ cls := "MaypoleGreen", name := "spent", desc := "(II)I" } : Jvm.MethodName)) ∈ lw_all := lw_g (lw_at lw_m4 105 rfl) rfl
theorem q904 : (Jvm.Cond.code ({ cls := "MaypoleGreen", name := "spent", desc := "(II)I" } : Jvm.MethodName) prog_1_method_48_code (9 : Nat) (Option.some Jvm.ClassFile.FieldType.int)) ∈ lw_all := lw_g (lw_at lw_m4 106 rfl) rfl
theorem q905 : (Jvm.Cond.methodLink "MaypoleGreen" (340 : Nat) ({ cls := "java/lang/Math", name := "max", desc := "(II)I" } : Jvm.MethodName)) ∈ lw_all := lw_g (lw_at lw_m4 107 rfl) rfl
theorem q909 : (Jvm.Cond.instanceMethod ({ cls := "MaypoleGreen", name := "act", desc := "(III)I" } : Jvm.MethodName)) ∈ lw_all := lw_g (lw_at lw_m4 111 rfl) rfl
theorem q910 : (Jvm.Cond.selects "MaypoleGreen" ({ cls := "MaypoleGreen", name := "act", desc := "(III)I" } : Jvm.MethodName) ({ cls := "MaypoleGreen", name := "act", desc := "(III)I" } : Jvm.MethodName)) ∈ lw_all := lw_g (lw_at lw_m4 112 rfl) rfl
theorem q911 : (Jvm.Cond.code ({ cls := "MaypoleGreen", name := "act", desc := "(III)I" } : Jvm.MethodName) prog_1_method_49_code (5 : Nat) (Option.some Jvm.ClassFile.FieldType.int)) ∈ lw_all := lw_g (lw_at lw_m4 113 rfl) rfl
theorem q912 : (Jvm.Cond.methodLink "MaypoleGreen" (346 : Nat) ({ cls := "MaypoleGreen$Dancer", name := "greets", desc := "(I)I" } : Jvm.MethodName)) ∈ lw_all := lw_g (lw_at lw_m4 114 rfl) rfl
theorem q935 : (Jvm.Cond.methodLink "MaypoleGreen" (349 : Nat) ({ cls := "MaypoleGreen$Dancer", name := "leads", desc := "(I)I" } : Jvm.MethodName)) ∈ lw_all := lw_g (lw_at lw_m4 137 rfl) rfl
theorem q955 : (Jvm.Cond.methodLink "MaypoleGreen" (352 : Nat) ({ cls := "MaypoleGreen$Dancer", name := "rests", desc := "(I)I" } : Jvm.MethodName)) ∈ lw_all := lw_g (lw_at lw_m4 157 rfl) rfl
theorem q974 : (Jvm.Cond.instanceMethod ({ cls := "MaypoleGreen", name := "trace", desc := "(I)I" } : Jvm.MethodName)) ∈ lw_all := lw_g (lw_at lw_m4 176 rfl) rfl
theorem q975 : (Jvm.Cond.selects "MaypoleGreen" ({ cls := "MaypoleGreen", name := "trace", desc := "(I)I" } : Jvm.MethodName) ({ cls := "MaypoleGreen", name := "trace", desc := "(I)I" } : Jvm.MethodName)) ∈ lw_all := lw_g (lw_at lw_m4 177 rfl) rfl
theorem q976 : (Jvm.Cond.code ({ cls := "MaypoleGreen", name := "trace", desc := "(I)I" } : Jvm.MethodName) prog_1_method_50_code (2 : Nat) (Option.some Jvm.ClassFile.FieldType.int)) ∈ lw_all := lw_g (lw_at lw_m4 178 rfl) rfl
theorem q977 : (Jvm.Cond.methodLink "MaypoleGreen" (355 : Nat) ({ cls := "java/lang/Math", name := "min", desc := "(II)I" } : Jvm.MethodName)) ∈ lw_all := lw_g (lw_at lw_m4 179 rfl) rfl
theorem q981 : (Jvm.Cond.instanceMethod ({ cls := "MaypoleGreen", name := "taken", desc := "(II)I" } : Jvm.MethodName)) ∈ lw_all := lw_g (lw_at lw_m4 183 rfl) rfl
theorem q982 : (Jvm.Cond.selects "MaypoleGreen" ({ cls := "MaypoleGreen", name := "taken", desc := "(II)I" } : Jvm.MethodName) ({ cls := "MaypoleGreen", name := "taken", desc := "(II)I" } : Jvm.MethodName)) ∈ lw_all := lw_g (lw_at lw_m4 184 rfl) rfl
theorem q983 : (Jvm.Cond.codeWith ({ cls := "MaypoleGreen", name := "taken", desc := "(II)I" } : Jvm.MethodName) prog_1_method_52_code (4 : Nat) (Option.some Jvm.ClassFile.FieldType.int) [((12 : Nat), (37 : Nat), (38 : Nat), (305 : Nat)), ((12 : Nat), (37 : Nat), (42 : Nat), (307 : Nat))]) ∈ lw_all := lw_g (lw_at lw_m4 185 rfl) rfl
theorem q984 : (Jvm.Cond.methodLink "MaypoleGreen" (361 : Nat) ({ cls := "MaypoleGreen", name := "takenFor", desc := "(LMaypoleGreen$Leads;I)LMaypoleGreen$Dancer;" } : Jvm.MethodName)) ∈ lw_all := lw_g (lw_at lw_m4 186 rfl) rfl
theorem q985 : (Jvm.Cond.static ({ cls := "MaypoleGreen", name := "takenFor", desc := "(LMaypoleGreen$Leads;I)LMaypoleGreen$Dancer;" } : Jvm.MethodName)) ∈ lw_all := lw_g (lw_at lw_m4 187 rfl) rfl
theorem q986 : (Jvm.Cond.code ({ cls := "MaypoleGreen", name := "takenFor", desc := "(LMaypoleGreen$Leads;I)LMaypoleGreen$Dancer;" } : Jvm.MethodName) prog_1_method_51_code (2 : Nat) (Option.some (Jvm.ClassFile.FieldType.object "MaypoleGreen$Dancer"))) ∈ lw_all := lw_g (lw_at lw_m4 188 rfl) rfl
theorem q987 : (Jvm.Cond.methodLink "MaypoleGreen" (365 : Nat) ({ cls := "MaypoleGreen$Dancer", name := "kind", desc := "()I" } : Jvm.MethodName)) ∈ lw_all := lw_g (lw_at lw_m4 189 rfl) rfl
theorem q1005 : (Jvm.Cond.instanceMethod ({ cls := "MaypoleGreen", name := "count", desc := "(I)I" } : Jvm.MethodName)) ∈ lw_all := lw_g (lw_at lw_m4 207 rfl) rfl
theorem q1006 : (Jvm.Cond.selects "MaypoleGreen" ({ cls := "MaypoleGreen", name := "count", desc := "(I)I" } : Jvm.MethodName) ({ cls := "MaypoleGreen", name := "count", desc := "(I)I" } : Jvm.MethodName)) ∈ lw_all := lw_g (lw_at lw_m4 208 rfl) rfl
theorem q1007 : (Jvm.Cond.code ({ cls := "MaypoleGreen", name := "count", desc := "(I)I" } : Jvm.MethodName) prog_1_method_53_code (2 : Nat) (Option.some Jvm.ClassFile.FieldType.int)) ∈ lw_all := lw_g (lw_at lw_m4 209 rfl) rfl
theorem q1009 : (Jvm.Cond.instanceMethod ({ cls := "MaypoleGreen", name := "tape", desc := "(III)I" } : Jvm.MethodName)) ∈ lw_all := lw_g (lw_at lw_m4 211 rfl) rfl
theorem q1010 : (Jvm.Cond.selects "MaypoleGreen" ({ cls := "MaypoleGreen", name := "tape", desc := "(III)I" } : Jvm.MethodName) ({ cls := "MaypoleGreen", name := "tape", desc := "(III)I" } : Jvm.MethodName)) ∈ lw_all := lw_g (lw_at lw_m4 212 rfl) rfl
theorem q1011 : (Jvm.Cond.codeWith ({ cls := "MaypoleGreen", name := "tape", desc := "(III)I" } : Jvm.MethodName) prog_1_method_56_code (5 : Nat) (Option.some Jvm.ClassFile.FieldType.int) [((32 : Nat), (56 : Nat), (57 : Nat), (371 : Nat))]) ∈ lw_all := lw_g (lw_at lw_m4 213 rfl) rfl
theorem q1012 : (Jvm.Cond.classLink "MaypoleGreen" (371 : Nat) "java/lang/NegativeArraySizeException") ∈ lw_all := lw_g (lw_at lw_m4 214 rfl) rfl
theorem q1026 : (Jvm.Cond.methodLink "MaypoleGreen" (368 : Nat) ({ cls := "MaypoleGreen", name := "made", desc := "(II)Ljava/lang/Object;" } : Jvm.MethodName)) ∈ lw_all := lw_g (lw_at lw_m4 228 rfl) rfl
theorem q1027 : (Jvm.Cond.static ({ cls := "MaypoleGreen", name := "made", desc := "(II)Ljava/lang/Object;" } : Jvm.MethodName)) ∈ lw_all := lw_g (lw_at lw_m4 229 rfl) rfl
theorem q1028 : (Jvm.Cond.code ({ cls := "MaypoleGreen", name := "made", desc := "(II)Ljava/lang/Object;" } : Jvm.MethodName) prog_1_method_54_code (2 : Nat) (Option.some (Jvm.ClassFile.FieldType.object "java/lang/Object"))) ∈ lw_all := lw_g (lw_at lw_m4 230 rfl) rfl
theorem q1033 : (Jvm.Cond.instanceMethod ({ cls := "MaypoleGreen", name := "item", desc := "(III)I" } : Jvm.MethodName)) ∈ lw_all := lw_g (lw_at lw_m4 235 rfl) rfl
theorem q1034 : (Jvm.Cond.selects "MaypoleGreen" ({ cls := "MaypoleGreen", name := "item", desc := "(III)I" } : Jvm.MethodName) ({ cls := "MaypoleGreen", name := "item", desc := "(III)I" } : Jvm.MethodName)) ∈ lw_all := lw_g (lw_at lw_m4 236 rfl) rfl
theorem q1035 : (Jvm.Cond.codeWith ({ cls := "MaypoleGreen", name := "item", desc := "(III)I" } : Jvm.MethodName) prog_1_method_57_code (10 : Nat) (Option.some Jvm.ClassFile.FieldType.int) [((17 : Nat), (23 : Nat), (26 : Nat), (244 : Nat))]) ∈ lw_all := lw_g (lw_at lw_m4 237 rfl) rfl
theorem q1036 : (Jvm.Cond.methodLinkNest "MaypoleGreen" (373 : Nat) ({ cls := "MaypoleGreen$Tape", name := "has", desc := "(I)V" } : Jvm.MethodName) "MaypoleGreen") ∈ lw_tbl := lw_at lw_m4 238 rfl
theorem q1052 : (Jvm.Cond.classLink "MaypoleGreen" (376 : Nat) "[S") ∈ lw_all := lw_g (lw_at lw_m5 14 rfl) rfl
theorem q1053 : (Jvm.Cond.classLink "MaypoleGreen" (378 : Nat) "[I") ∈ lw_all := lw_g (lw_at lw_m5 15 rfl) rfl
theorem q1054 : (Jvm.Cond.classLink "MaypoleGreen" (379 : Nat) "[Z") ∈ lw_all := lw_g (lw_at lw_m5 16 rfl) rfl
theorem q1055 : (Jvm.Cond.classLink "MaypoleGreen" (381 : Nat) "[C") ∈ lw_all := lw_g (lw_at lw_m5 17 rfl) rfl
theorem q1057 : (Jvm.Cond.instanceMethod ({ cls := "MaypoleGreen", name := "read", desc := "(II)I" } : Jvm.MethodName)) ∈ lw_all := lw_g (lw_at lw_m5 19 rfl) rfl
theorem q1058 : (Jvm.Cond.selects "MaypoleGreen" ({ cls := "MaypoleGreen", name := "read", desc := "(II)I" } : Jvm.MethodName) ({ cls := "MaypoleGreen", name := "read", desc := "(II)I" } : Jvm.MethodName)) ∈ lw_all := lw_g (lw_at lw_m5 20 rfl) rfl
theorem q1059 : (Jvm.Cond.code ({ cls := "MaypoleGreen", name := "read", desc := "(II)I" } : Jvm.MethodName) prog_1_method_58_code (6 : Nat) (Option.some Jvm.ClassFile.FieldType.int)) ∈ lw_all := lw_g (lw_at lw_m5 21 rfl) rfl
theorem q1060 : (Jvm.Cond.methodLinkNest "MaypoleGreen" (383 : Nat) ({ cls := "MaypoleGreen$Tape", name := "size", desc := "()I" } : Jvm.MethodName) "MaypoleGreen") ∈ lw_tbl := lw_at lw_m5 22 rfl
theorem q1061 : (Jvm.Cond.constant "MaypoleGreen" (386 : Nat) (-1000000000 : Int32)) ∈ lw_all := lw_g (lw_at lw_m5 23 rfl) rfl
theorem q1063 : (Jvm.Cond.instanceMethod ({ cls := "MaypoleGreen", name := "shift", desc := "(IIIII)I" } : Jvm.MethodName)) ∈ lw_all := lw_g (lw_at lw_m5 25 rfl) rfl
theorem q1064 : (Jvm.Cond.selects "MaypoleGreen" ({ cls := "MaypoleGreen", name := "shift", desc := "(IIIII)I" } : Jvm.MethodName) ({ cls := "MaypoleGreen", name := "shift", desc := "(IIIII)I" } : Jvm.MethodName)) ∈ lw_all := lw_g (lw_at lw_m5 26 rfl) rfl
theorem q1065 : (Jvm.Cond.codeWith ({ cls := "MaypoleGreen", name := "shift", desc := "(IIIII)I" } : Jvm.MethodName) prog_1_method_59_code (7 : Nat) (Option.some Jvm.ClassFile.FieldType.int) [((16 : Nat), (44 : Nat), (45 : Nat), (305 : Nat)), ((16 : Nat), (44 : Nat), (50 : Nat), (387 : Nat)), ((16 : Nat), (44 : Nat), (55 : Nat), (389 : Nat))]) ∈ lw_all := lw_g (lw_at lw_m5 27 rfl) rfl
theorem q1066 : (Jvm.Cond.classLink "MaypoleGreen" (387 : Nat) "java/lang/ArrayStoreException") ∈ lw_all := lw_g (lw_at lw_m5 28 rfl) rfl
theorem q1080 : (Jvm.Cond.classLink "MaypoleGreen" (389 : Nat) "java/lang/IndexOutOfBoundsException") ∈ lw_all := lw_g (lw_at lw_m5 42 rfl) rfl
theorem in_X0 : ∀ w ∈ wsX00, w ∈ lw_all := lw_in wsX00 [178, 180, 182, 184, 186, 188, 190, 192, 194, 196, 198, 200, 202, 204, 206, 208, 210, 212, 214, 216, 218, 220, 222, 224, 226, 228, 230, 232, 234, 236] (by decide +kernel) (by decide +kernel)
