/-! MaypoleGreen$Trace -/
set_option maxRecDepth 100000
def RX1 : String := "MaypoleGreen$Trace"
def TX1 : u_T := fun k => match k with
  | 0 => ("MaypoleGreen$Trace", "bodies", "[I", true)
  | _ => ("MaypoleGreen$Trace", "count", "I", false)
def tyX1 : Nat → FieldType := fun k => match k with
  | 0 => .array .int
  | _ => .int
abbrev wsX10 : List Cond := u_ws RX1 TX1 2
theorem nmX1 : ∀ a, a < 2 → ∀ b, b < 2 → a ≠ b → (TX1 a).2.1 ≠ (TX1 b).2.1 := by decide +kernel
theorem tyX1_ok : ∀ k, k < 2 → parseFieldDescriptor (TX1 k).2.2.1 = some (tyX1 k) := by decide +kernel
abbrev cX1_init : ByteArray := prog_15_method_1_code
def yX1_init : MethodName := ⟨RX1, "<init>", "()V"⟩
def dkwX1_init_0 : List UInt8 := [42, 183, 0, 3, 42, 16, 20, 188, 10, 181, 0, 9, 177]
abbrev dktX1_init_0 : List UInt8 := dkwX1_init_0 ++ []
theorem dksX1_init_0 : cX1_init.data.toList.drop 0 = dktX1_init_0 := by decide +kernel
theorem dX1_init_0 : decode cX1_init 0 = .ok (.aload_n 0, 1) := dk_42 (dk_at dksX1_init_0 0 rfl rfl)
theorem dX1_init_1 : decode cX1_init 1 = .ok (.invokespecial 3, 3) := dk_183 0 3 (dk_at dksX1_init_0 1 rfl rfl)
theorem dX1_init_4 : decode cX1_init 4 = .ok (.aload_n 0, 1) := dk_42 (dk_at dksX1_init_0 4 rfl rfl)
theorem dX1_init_5 : decode cX1_init 5 = .ok (.bipush 20, 2) := dk_16 20 (dk_at dksX1_init_0 5 rfl rfl)
theorem dX1_init_7 : decode cX1_init 7 = .ok (.newarray .int, 2) := dk_188_10 (dk_at dksX1_init_0 7 rfl rfl)
theorem dX1_init_9 : decode cX1_init 9 = .ok (.putfield 9, 3) := dk_181 0 9 (dk_at dksX1_init_0 9 rfl rfl)
theorem dX1_init_12 : decode cX1_init 12 = .ok (.return_, 1) := dk_177 (dk_at dksX1_init_0 12 rfl rfl)
abbrev cX1_ran : ByteArray := prog_15_method_2_code
def yX1_ran : MethodName := ⟨RX1, "ran", "(I)V"⟩
def dkwX1_ran_1 : List UInt8 := [4, 96, 181, 0, 15, 177]
abbrev dktX1_ran_1 : List UInt8 := dkwX1_ran_1 ++ []
def dkwX1_ran_0 : List UInt8 := [42, 180, 0, 15, 16, 20, 162, 0, 13, 42, 180, 0, 9, 42, 180, 0, 15, 27, 79, 42, 89, 180, 0, 15]
abbrev dktX1_ran_0 : List UInt8 := dkwX1_ran_0 ++ dktX1_ran_1
theorem dksX1_ran_0 : cX1_ran.data.toList.drop 0 = dktX1_ran_0 := by decide +kernel
theorem dksX1_ran_1 : cX1_ran.data.toList.drop 24 = dktX1_ran_1 := dk_seg dksX1_ran_0 24 rfl rfl
theorem dX1_ran_0 : decode cX1_ran 0 = .ok (.aload_n 0, 1) := dk_42 (dk_at dksX1_ran_0 0 rfl rfl)
theorem dX1_ran_1 : decode cX1_ran 1 = .ok (.getfield 15, 3) := dk_180 0 15 (dk_at dksX1_ran_0 1 rfl rfl)
theorem dX1_ran_4 : decode cX1_ran 4 = .ok (.bipush 20, 2) := dk_16 20 (dk_at dksX1_ran_0 4 rfl rfl)
theorem dX1_ran_6 : decode cX1_ran 6 = .ok (.if_icmp .ge 13, 3) := dk_162 0 13 (dk_at dksX1_ran_0 6 rfl rfl)
theorem dX1_ran_9 : decode cX1_ran 9 = .ok (.aload_n 0, 1) := dk_42 (dk_at dksX1_ran_0 9 rfl rfl)
theorem dX1_ran_10 : decode cX1_ran 10 = .ok (.getfield 9, 3) := dk_180 0 9 (dk_at dksX1_ran_0 10 rfl rfl)
theorem dX1_ran_13 : decode cX1_ran 13 = .ok (.aload_n 0, 1) := dk_42 (dk_at dksX1_ran_0 13 rfl rfl)
theorem dX1_ran_14 : decode cX1_ran 14 = .ok (.getfield 15, 3) := dk_180 0 15 (dk_at dksX1_ran_0 14 rfl rfl)
theorem dX1_ran_17 : decode cX1_ran 17 = .ok (.iload_n 1, 1) := dk_27 (dk_at dksX1_ran_0 17 rfl rfl)
theorem dX1_ran_18 : decode cX1_ran 18 = .ok (.iastore, 1) := dk_79 (dk_at dksX1_ran_0 18 rfl rfl)
theorem dX1_ran_19 : decode cX1_ran 19 = .ok (.aload_n 0, 1) := dk_42 (dk_at dksX1_ran_0 19 rfl rfl)
theorem dX1_ran_20 : decode cX1_ran 20 = .ok (.dup, 1) := dk_89 (dk_at dksX1_ran_0 20 rfl rfl)
theorem dX1_ran_21 : decode cX1_ran 21 = .ok (.getfield 15, 3) := dk_180 0 15 (dk_at dksX1_ran_0 21 rfl rfl)
theorem dX1_ran_24 : decode cX1_ran 24 = .ok (.iconst 1, 1) := dk_4 (dk_at dksX1_ran_1 0 rfl rfl)
theorem dX1_ran_25 : decode cX1_ran 25 = .ok (.iadd, 1) := dk_96 (dk_at dksX1_ran_1 1 rfl rfl)
theorem dX1_ran_26 : decode cX1_ran 26 = .ok (.putfield 15, 3) := dk_181 0 15 (dk_at dksX1_ran_1 2 rfl rfl)
theorem dX1_ran_29 : decode cX1_ran 29 = .ok (.return_, 1) := dk_177 (dk_at dksX1_ran_1 5 rfl rfl)
theorem q80 : (Jvm.Cond.initialized "MaypoleGreen$Trace") ∈ lw_all := lw_g (lw_at lw_m1 2 rfl) rfl
theorem q120 : (Jvm.Cond.instantiable "MaypoleGreen$Trace" (2 : Nat)) ∈ lw_all := lw_g (lw_at lw_m1 42 rfl) rfl
theorem q122 : (Jvm.Cond.instanceMethod ({ cls := "MaypoleGreen$Trace", name := "<init>", desc := "()V" } : Jvm.MethodName)) ∈ lw_all := lw_g (lw_at lw_m1 44 rfl) rfl
theorem q123 : (Jvm.Cond.code ({ cls := "MaypoleGreen$Trace", name := "<init>", desc := "()V" } : Jvm.MethodName) prog_15_method_1_code (1 : Nat) (Option.none : Option Jvm.ClassFile.FieldType)) ∈ lw_all := lw_g (lw_at lw_m1 45 rfl) rfl
theorem q124 : (Jvm.Cond.methodLink "MaypoleGreen$Trace" (3 : Nat) ({ cls := "java/lang/Object", name := "<init>", desc := "()V" } : Jvm.MethodName)) ∈ lw_all := lw_g (lw_at lw_m1 46 rfl) rfl
theorem q125 : (Jvm.Cond.fieldLink "MaypoleGreen$Trace" (9 : Nat) "MaypoleGreen$Trace" "bodies" "[I") ∈ lw_all := lw_g (lw_at lw_m1 47 rfl) rfl
theorem q127 : (Jvm.Cond.fieldLink "MaypoleGreen$Trace" (15 : Nat) "MaypoleGreen$Trace" "count" "I") ∈ lw_all := lw_g (lw_at lw_m1 49 rfl) rfl
theorem q129 : (Jvm.Cond.laysFinal "MaypoleGreen$Trace" "MaypoleGreen$Trace" "bodies" "[I") ∈ lw_all := lw_g (lw_at lw_m1 51 rfl) rfl
theorem q130 : (Jvm.Cond.soleField "MaypoleGreen$Trace" "bodies") ∈ lw_all := lw_g (lw_at lw_m1 52 rfl) rfl
theorem q131 : (Jvm.Cond.lays "MaypoleGreen$Trace" "MaypoleGreen$Trace" "count" "I") ∈ lw_all := lw_g (lw_at lw_m1 53 rfl) rfl
theorem q132 : (Jvm.Cond.soleField "MaypoleGreen$Trace" "count") ∈ lw_all := lw_g (lw_at lw_m1 54 rfl) rfl
theorem q133 : (Jvm.Cond.superclass "MaypoleGreen$Trace" "java/lang/Object") ∈ lw_all := lw_g (lw_at lw_m1 55 rfl) rfl
theorem q920 : (Jvm.Cond.instanceMethod ({ cls := "MaypoleGreen$Trace", name := "ran", desc := "(I)V" } : Jvm.MethodName)) ∈ lw_all := lw_g (lw_at lw_m4 122 rfl) rfl
theorem q921 : (Jvm.Cond.selects "MaypoleGreen$Trace" ({ cls := "MaypoleGreen$Trace", name := "ran", desc := "(I)V" } : Jvm.MethodName) ({ cls := "MaypoleGreen$Trace", name := "ran", desc := "(I)V" } : Jvm.MethodName)) ∈ lw_all := lw_g (lw_at lw_m4 123 rfl) rfl
theorem q922 : (Jvm.Cond.code ({ cls := "MaypoleGreen$Trace", name := "ran", desc := "(I)V" } : Jvm.MethodName) prog_15_method_2_code (2 : Nat) (Option.none : Option Jvm.ClassFile.FieldType)) ∈ lw_all := lw_g (lw_at lw_m4 124 rfl) rfl
theorem in_X1 : ∀ w ∈ wsX10, w ∈ lw_all := lw_in wsX10 [129, 131] (by decide +kernel) (by decide +kernel)

/-! MaypoleGreen$Tape -/
set_option maxRecDepth 100000
def RX2 : String := "MaypoleGreen$Tape"
def TX2 : u_T := fun k => match k with
  | _ => ("MaypoleGreen$Tape", "row", "Ljava/lang/Object;", false)
def tyX2 : Nat → FieldType := fun k => match k with
  | _ => .object "java/lang/Object"
abbrev wsX20 : List Cond := u_ws RX2 TX2 1
theorem nmX2 : ∀ a, a < 1 → ∀ b, b < 1 → a ≠ b → (TX2 a).2.1 ≠ (TX2 b).2.1 := by decide +kernel
theorem tyX2_ok : ∀ k, k < 1 → parseFieldDescriptor (TX2 k).2.2.1 = some (tyX2 k) := by decide +kernel
abbrev cX2_init : ByteArray := prog_14_method_1_code
def yX2_init : MethodName := ⟨RX2, "<init>", "()V"⟩
theorem dX2_init_0 : decode cX2_init 0 = .ok (.aload_n 0, 1) := by decide +kernel
theorem dX2_init_1 : decode cX2_init 1 = .ok (.invokespecial 3, 3) := by decide +kernel
theorem dX2_init_4 : decode cX2_init 4 = .ok (.return_, 1) := by decide +kernel
abbrev cX2_has : ByteArray := prog_14_method_3_code
def yX2_has : MethodName := ⟨RX2, "has", "(I)V"⟩
def dkwX2_has_1 : List UInt8 := [100, 184, 0, 34, 154, 0, 13, 187, 0, 25, 89, 16, 243, 183, 0, 27, 191, 177]
abbrev dktX2_has_1 : List UInt8 := dkwX2_has_1 ++ []
def dkwX2_has_0 : List UInt8 := [42, 180, 0, 9, 199, 0, 13, 187, 0, 25, 89, 16, 245, 183, 0, 27, 191, 27, 3, 42, 182, 0, 30, 4]
abbrev dktX2_has_0 : List UInt8 := dkwX2_has_0 ++ dktX2_has_1
theorem dksX2_has_0 : cX2_has.data.toList.drop 0 = dktX2_has_0 := by decide +kernel
theorem dksX2_has_1 : cX2_has.data.toList.drop 24 = dktX2_has_1 := dk_seg dksX2_has_0 24 rfl rfl
theorem dX2_has_0 : decode cX2_has 0 = .ok (.aload_n 0, 1) := dk_42 (dk_at dksX2_has_0 0 rfl rfl)
theorem dX2_has_1 : decode cX2_has 1 = .ok (.getfield 9, 3) := dk_180 0 9 (dk_at dksX2_has_0 1 rfl rfl)
theorem dX2_has_4 : decode cX2_has 4 = .ok (.ifnonnull 13, 3) := dk_199 0 13 (dk_at dksX2_has_0 4 rfl rfl)
theorem dX2_has_7 : decode cX2_has 7 = .ok (.new 25, 3) := dk_187 0 25 (dk_at dksX2_has_0 7 rfl rfl)
theorem dX2_has_10 : decode cX2_has 10 = .ok (.dup, 1) := dk_89 (dk_at dksX2_has_0 10 rfl rfl)
theorem dX2_has_11 : decode cX2_has 11 = .ok (.bipush (-11), 2) := dk_16 245 (dk_at dksX2_has_0 11 rfl rfl)
theorem dX2_has_13 : decode cX2_has 13 = .ok (.invokespecial 27, 3) := dk_183 0 27 (dk_at dksX2_has_0 13 rfl rfl)
theorem dX2_has_16 : decode cX2_has 16 = .ok (.athrow, 1) := dk_191 (dk_at dksX2_has_0 16 rfl rfl)
theorem dX2_has_17 : decode cX2_has 17 = .ok (.iload_n 1, 1) := dk_27 (dk_at dksX2_has_0 17 rfl rfl)
theorem dX2_has_18 : decode cX2_has 18 = .ok (.iconst 0, 1) := dk_3 (dk_at dksX2_has_0 18 rfl rfl)
theorem dX2_has_19 : decode cX2_has 19 = .ok (.aload_n 0, 1) := dk_42 (dk_at dksX2_has_0 19 rfl rfl)
theorem dX2_has_20 : decode cX2_has 20 = .ok (.invokevirtual 30, 3) := dk_182 0 30 (dk_at dksX2_has_0 20 rfl rfl)
theorem dX2_has_23 : decode cX2_has 23 = .ok (.iconst 1, 1) := dk_4 (dk_at dksX2_has_0 23 rfl rfl)
theorem dX2_has_24 : decode cX2_has 24 = .ok (.isub, 1) := dk_100 (dk_at dksX2_has_1 0 rfl rfl)
theorem dX2_has_25 : decode cX2_has 25 = .ok (.invokestatic 34, 3) := dk_184 0 34 (dk_at dksX2_has_1 1 rfl rfl)
theorem dX2_has_28 : decode cX2_has 28 = .ok (.ifCond .ne 13, 3) := dk_154 0 13 (dk_at dksX2_has_1 4 rfl rfl)
theorem dX2_has_31 : decode cX2_has 31 = .ok (.new 25, 3) := dk_187 0 25 (dk_at dksX2_has_1 7 rfl rfl)
theorem dX2_has_34 : decode cX2_has 34 = .ok (.dup, 1) := dk_89 (dk_at dksX2_has_1 10 rfl rfl)
theorem dX2_has_35 : decode cX2_has 35 = .ok (.bipush (-13), 2) := dk_16 243 (dk_at dksX2_has_1 11 rfl rfl)
theorem dX2_has_37 : decode cX2_has 37 = .ok (.invokespecial 27, 3) := dk_183 0 27 (dk_at dksX2_has_1 13 rfl rfl)
theorem dX2_has_40 : decode cX2_has 40 = .ok (.athrow, 1) := dk_191 (dk_at dksX2_has_1 16 rfl rfl)
theorem dX2_has_41 : decode cX2_has 41 = .ok (.return_, 1) := dk_177 (dk_at dksX2_has_1 17 rfl rfl)
abbrev cX2_size : ByteArray := prog_14_method_2_code
def yX2_size : MethodName := ⟨RX2, "size", "()I"⟩
def dkwX2_size_3 : List UInt8 := [153, 0, 13, 44, 192, 0, 21, 76, 43, 190, 167, 0, 11, 42, 180, 0, 9, 192, 0, 23, 190, 172]
abbrev dktX2_size_3 : List UInt8 := dkwX2_size_3 ++ []
def dkwX2_size_2 : List UInt8 := [193, 0, 19, 153, 0, 11, 44, 192, 0, 19, 76, 43, 190, 172, 42, 180, 0, 9, 77, 44, 193, 0, 21]
abbrev dktX2_size_2 : List UInt8 := dkwX2_size_2 ++ dktX2_size_3
def dkwX2_size_1 : List UInt8 := [77, 44, 193, 0, 17, 153, 0, 11, 44, 192, 0, 17, 76, 43, 190, 172, 42, 180, 0, 9, 77, 44]
abbrev dktX2_size_1 : List UInt8 := dkwX2_size_1 ++ dktX2_size_2
def dkwX2_size_0 : List UInt8 := [42, 180, 0, 9, 77, 44, 193, 0, 15, 153, 0, 11, 44, 192, 0, 15, 76, 43, 190, 172, 42, 180, 0, 9]
abbrev dktX2_size_0 : List UInt8 := dkwX2_size_0 ++ dktX2_size_1
theorem dksX2_size_0 : cX2_size.data.toList.drop 0 = dktX2_size_0 := by decide +kernel
theorem dksX2_size_1 : cX2_size.data.toList.drop 24 = dktX2_size_1 := dk_seg dksX2_size_0 24 rfl rfl
theorem dksX2_size_2 : cX2_size.data.toList.drop 46 = dktX2_size_2 := dk_seg dksX2_size_1 22 rfl rfl
theorem dksX2_size_3 : cX2_size.data.toList.drop 69 = dktX2_size_3 := dk_seg dksX2_size_2 23 rfl rfl
theorem dX2_size_0 : decode cX2_size 0 = .ok (.aload_n 0, 1) := dk_42 (dk_at dksX2_size_0 0 rfl rfl)
theorem dX2_size_1 : decode cX2_size 1 = .ok (.getfield 9, 3) := dk_180 0 9 (dk_at dksX2_size_0 1 rfl rfl)
theorem dX2_size_4 : decode cX2_size 4 = .ok (.astore_n 2, 1) := dk_77 (dk_at dksX2_size_0 4 rfl rfl)
theorem dX2_size_5 : decode cX2_size 5 = .ok (.aload_n 2, 1) := dk_44 (dk_at dksX2_size_0 5 rfl rfl)
theorem dX2_size_6 : decode cX2_size 6 = .ok (.instanceof 15, 3) := dk_193 0 15 (dk_at dksX2_size_0 6 rfl rfl)
theorem dX2_size_9 : decode cX2_size 9 = .ok (.ifCond .eq 11, 3) := dk_153 0 11 (dk_at dksX2_size_0 9 rfl rfl)
theorem dX2_size_12 : decode cX2_size 12 = .ok (.aload_n 2, 1) := dk_44 (dk_at dksX2_size_0 12 rfl rfl)
theorem dX2_size_13 : decode cX2_size 13 = .ok (.checkcast 15, 3) := dk_192 0 15 (dk_at dksX2_size_0 13 rfl rfl)
theorem dX2_size_16 : decode cX2_size 16 = .ok (.astore_n 1, 1) := dk_76 (dk_at dksX2_size_0 16 rfl rfl)
theorem dX2_size_17 : decode cX2_size 17 = .ok (.aload_n 1, 1) := dk_43 (dk_at dksX2_size_0 17 rfl rfl)
theorem dX2_size_18 : decode cX2_size 18 = .ok (.arraylength, 1) := dk_190 (dk_at dksX2_size_0 18 rfl rfl)
theorem dX2_size_19 : decode cX2_size 19 = .ok (.ireturn, 1) := dk_172 (dk_at dksX2_size_0 19 rfl rfl)
theorem dX2_size_20 : decode cX2_size 20 = .ok (.aload_n 0, 1) := dk_42 (dk_at dksX2_size_0 20 rfl rfl)
theorem dX2_size_21 : decode cX2_size 21 = .ok (.getfield 9, 3) := dk_180 0 9 (dk_at dksX2_size_0 21 rfl rfl)
theorem dX2_size_24 : decode cX2_size 24 = .ok (.astore_n 2, 1) := dk_77 (dk_at dksX2_size_1 0 rfl rfl)
theorem dX2_size_25 : decode cX2_size 25 = .ok (.aload_n 2, 1) := dk_44 (dk_at dksX2_size_1 1 rfl rfl)
theorem dX2_size_26 : decode cX2_size 26 = .ok (.instanceof 17, 3) := dk_193 0 17 (dk_at dksX2_size_1 2 rfl rfl)
theorem dX2_size_29 : decode cX2_size 29 = .ok (.ifCond .eq 11, 3) := dk_153 0 11 (dk_at dksX2_size_1 5 rfl rfl)
theorem dX2_size_32 : decode cX2_size 32 = .ok (.aload_n 2, 1) := dk_44 (dk_at dksX2_size_1 8 rfl rfl)
theorem dX2_size_33 : decode cX2_size 33 = .ok (.checkcast 17, 3) := dk_192 0 17 (dk_at dksX2_size_1 9 rfl rfl)
theorem dX2_size_36 : decode cX2_size 36 = .ok (.astore_n 1, 1) := dk_76 (dk_at dksX2_size_1 12 rfl rfl)
theorem dX2_size_37 : decode cX2_size 37 = .ok (.aload_n 1, 1) := dk_43 (dk_at dksX2_size_1 13 rfl rfl)
theorem dX2_size_38 : decode cX2_size 38 = .ok (.arraylength, 1) := dk_190 (dk_at dksX2_size_1 14 rfl rfl)
theorem dX2_size_39 : decode cX2_size 39 = .ok (.ireturn, 1) := dk_172 (dk_at dksX2_size_1 15 rfl rfl)
theorem dX2_size_40 : decode cX2_size 40 = .ok (.aload_n 0, 1) := dk_42 (dk_at dksX2_size_1 16 rfl rfl)
theorem dX2_size_41 : decode cX2_size 41 = .ok (.getfield 9, 3) := dk_180 0 9 (dk_at dksX2_size_1 17 rfl rfl)
theorem dX2_size_44 : decode cX2_size 44 = .ok (.astore_n 2, 1) := dk_77 (dk_at dksX2_size_1 20 rfl rfl)
theorem dX2_size_45 : decode cX2_size 45 = .ok (.aload_n 2, 1) := dk_44 (dk_at dksX2_size_1 21 rfl rfl)
theorem dX2_size_46 : decode cX2_size 46 = .ok (.instanceof 19, 3) := dk_193 0 19 (dk_at dksX2_size_2 0 rfl rfl)
theorem dX2_size_49 : decode cX2_size 49 = .ok (.ifCond .eq 11, 3) := dk_153 0 11 (dk_at dksX2_size_2 3 rfl rfl)
theorem dX2_size_52 : decode cX2_size 52 = .ok (.aload_n 2, 1) := dk_44 (dk_at dksX2_size_2 6 rfl rfl)
theorem dX2_size_53 : decode cX2_size 53 = .ok (.checkcast 19, 3) := dk_192 0 19 (dk_at dksX2_size_2 7 rfl rfl)
theorem dX2_size_56 : decode cX2_size 56 = .ok (.astore_n 1, 1) := dk_76 (dk_at dksX2_size_2 10 rfl rfl)
theorem dX2_size_57 : decode cX2_size 57 = .ok (.aload_n 1, 1) := dk_43 (dk_at dksX2_size_2 11 rfl rfl)
theorem dX2_size_58 : decode cX2_size 58 = .ok (.arraylength, 1) := dk_190 (dk_at dksX2_size_2 12 rfl rfl)
theorem dX2_size_59 : decode cX2_size 59 = .ok (.ireturn, 1) := dk_172 (dk_at dksX2_size_2 13 rfl rfl)
theorem dX2_size_60 : decode cX2_size 60 = .ok (.aload_n 0, 1) := dk_42 (dk_at dksX2_size_2 14 rfl rfl)
theorem dX2_size_61 : decode cX2_size 61 = .ok (.getfield 9, 3) := dk_180 0 9 (dk_at dksX2_size_2 15 rfl rfl)
theorem dX2_size_64 : decode cX2_size 64 = .ok (.astore_n 2, 1) := dk_77 (dk_at dksX2_size_2 18 rfl rfl)
theorem dX2_size_65 : decode cX2_size 65 = .ok (.aload_n 2, 1) := dk_44 (dk_at dksX2_size_2 19 rfl rfl)
theorem dX2_size_66 : decode cX2_size 66 = .ok (.instanceof 21, 3) := dk_193 0 21 (dk_at dksX2_size_2 20 rfl rfl)
theorem dX2_size_69 : decode cX2_size 69 = .ok (.ifCond .eq 13, 3) := dk_153 0 13 (dk_at dksX2_size_3 0 rfl rfl)
theorem dX2_size_72 : decode cX2_size 72 = .ok (.aload_n 2, 1) := dk_44 (dk_at dksX2_size_3 3 rfl rfl)
theorem dX2_size_73 : decode cX2_size 73 = .ok (.checkcast 21, 3) := dk_192 0 21 (dk_at dksX2_size_3 4 rfl rfl)
theorem dX2_size_76 : decode cX2_size 76 = .ok (.astore_n 1, 1) := dk_76 (dk_at dksX2_size_3 7 rfl rfl)
theorem dX2_size_77 : decode cX2_size 77 = .ok (.aload_n 1, 1) := dk_43 (dk_at dksX2_size_3 8 rfl rfl)
theorem dX2_size_78 : decode cX2_size 78 = .ok (.arraylength, 1) := dk_190 (dk_at dksX2_size_3 9 rfl rfl)
theorem dX2_size_79 : decode cX2_size 79 = .ok (.goto 11, 3) := dk_167 0 11 (dk_at dksX2_size_3 10 rfl rfl)
theorem dX2_size_82 : decode cX2_size 82 = .ok (.aload_n 0, 1) := dk_42 (dk_at dksX2_size_3 13 rfl rfl)
theorem dX2_size_83 : decode cX2_size 83 = .ok (.getfield 9, 3) := dk_180 0 9 (dk_at dksX2_size_3 14 rfl rfl)
theorem dX2_size_86 : decode cX2_size 86 = .ok (.checkcast 23, 3) := dk_192 0 23 (dk_at dksX2_size_3 17 rfl rfl)
theorem dX2_size_89 : decode cX2_size 89 = .ok (.arraylength, 1) := dk_190 (dk_at dksX2_size_3 20 rfl rfl)
theorem dX2_size_90 : decode cX2_size 90 = .ok (.ireturn, 1) := dk_172 (dk_at dksX2_size_3 21 rfl rfl)
theorem q81 : (Jvm.Cond.initialized "MaypoleGreen$Tape") ∈ lw_all := lw_g (lw_at lw_m1 3 rfl) rfl
theorem q138 : (Jvm.Cond.instantiable "MaypoleGreen$Tape" (1 : Nat)) ∈ lw_all := lw_g (lw_at lw_m1 60 rfl) rfl
theorem q140 : (Jvm.Cond.instanceMethod ({ cls := "MaypoleGreen$Tape", name := "<init>", desc := "()V" } : Jvm.MethodName)) ∈ lw_all := lw_g (lw_at lw_m1 62 rfl) rfl
theorem q141 : (Jvm.Cond.code ({ cls := "MaypoleGreen$Tape", name := "<init>", desc := "()V" } : Jvm.MethodName) prog_14_method_1_code (1 : Nat) (Option.none : Option Jvm.ClassFile.FieldType)) ∈ lw_all := lw_g (lw_at lw_m1 63 rfl) rfl
theorem q142 : (Jvm.Cond.methodLink "MaypoleGreen$Tape" (3 : Nat) ({ cls := "java/lang/Object", name := "<init>", desc := "()V" } : Jvm.MethodName)) ∈ lw_all := lw_g (lw_at lw_m1 64 rfl) rfl
theorem q143 : (Jvm.Cond.fieldLink "MaypoleGreen$Tape" (9 : Nat) "MaypoleGreen$Tape" "row" "Ljava/lang/Object;") ∈ lw_all := lw_g (lw_at lw_m1 65 rfl) rfl
theorem q145 : (Jvm.Cond.lays "MaypoleGreen$Tape" "MaypoleGreen$Tape" "row" "Ljava/lang/Object;") ∈ lw_all := lw_g (lw_at lw_m1 67 rfl) rfl
theorem q146 : (Jvm.Cond.soleField "MaypoleGreen$Tape" "row") ∈ lw_all := lw_g (lw_at lw_m1 68 rfl) rfl
theorem q147 : (Jvm.Cond.superclass "MaypoleGreen$Tape" "java/lang/Object") ∈ lw_all := lw_g (lw_at lw_m1 69 rfl) rfl
theorem q1037 : (Jvm.Cond.privateMethod ({ cls := "MaypoleGreen$Tape", name := "has", desc := "(I)V" } : Jvm.MethodName)) ∈ lw_tbl := lw_at lw_m4 239 rfl
theorem q1038 : (Jvm.Cond.instanceMethod ({ cls := "MaypoleGreen$Tape", name := "has", desc := "(I)V" } : Jvm.MethodName)) ∈ lw_all := lw_g (lw_at lw_m5 0 rfl) rfl
theorem q1039 : (Jvm.Cond.code ({ cls := "MaypoleGreen$Tape", name := "has", desc := "(I)V" } : Jvm.MethodName) prog_14_method_3_code (2 : Nat) (Option.none : Option Jvm.ClassFile.FieldType)) ∈ lw_all := lw_g (lw_at lw_m5 1 rfl) rfl
theorem q1040 : (Jvm.Cond.classLink "MaypoleGreen$Tape" (25 : Nat) "MaypoleGreen$Off") ∈ lw_all := lw_g (lw_at lw_m5 2 rfl) rfl
theorem q1041 : (Jvm.Cond.methodLink "MaypoleGreen$Tape" (27 : Nat) ({ cls := "MaypoleGreen$Off", name := "<init>", desc := "(I)V" } : Jvm.MethodName)) ∈ lw_all := lw_g (lw_at lw_m5 3 rfl) rfl
theorem q1042 : (Jvm.Cond.methodLink "MaypoleGreen$Tape" (30 : Nat) ({ cls := "MaypoleGreen$Tape", name := "size", desc := "()I" } : Jvm.MethodName)) ∈ lw_all := lw_g (lw_at lw_m5 4 rfl) rfl
theorem q1043 : (Jvm.Cond.privateMethod ({ cls := "MaypoleGreen$Tape", name := "size", desc := "()I" } : Jvm.MethodName)) ∈ lw_tbl := lw_at lw_m5 5 rfl
theorem q1044 : (Jvm.Cond.instanceMethod ({ cls := "MaypoleGreen$Tape", name := "size", desc := "()I" } : Jvm.MethodName)) ∈ lw_all := lw_g (lw_at lw_m5 6 rfl) rfl
theorem q1045 : (Jvm.Cond.code ({ cls := "MaypoleGreen$Tape", name := "size", desc := "()I" } : Jvm.MethodName) prog_14_method_2_code (3 : Nat) (Option.some Jvm.ClassFile.FieldType.int)) ∈ lw_all := lw_g (lw_at lw_m5 7 rfl) rfl
theorem q1046 : (Jvm.Cond.classLink "MaypoleGreen$Tape" (15 : Nat) "[B") ∈ lw_all := lw_g (lw_at lw_m5 8 rfl) rfl
theorem q1047 : (Jvm.Cond.classLink "MaypoleGreen$Tape" (17 : Nat) "[S") ∈ lw_all := lw_g (lw_at lw_m5 9 rfl) rfl
theorem q1048 : (Jvm.Cond.classLink "MaypoleGreen$Tape" (19 : Nat) "[I") ∈ lw_all := lw_g (lw_at lw_m5 10 rfl) rfl
theorem q1049 : (Jvm.Cond.classLink "MaypoleGreen$Tape" (21 : Nat) "[Z") ∈ lw_all := lw_g (lw_at lw_m5 11 rfl) rfl
theorem q1050 : (Jvm.Cond.classLink "MaypoleGreen$Tape" (23 : Nat) "[C") ∈ lw_all := lw_g (lw_at lw_m5 12 rfl) rfl
theorem q1051 : (Jvm.Cond.methodLinkNest "MaypoleGreen$Tape" (34 : Nat) ({ cls := "MaypoleGreen", name := "in", desc := "(III)Z" } : Jvm.MethodName) "MaypoleGreen") ∈ lw_tbl := lw_at lw_m5 13 rfl
theorem in_X2 : ∀ w ∈ wsX20, w ∈ lw_all := lw_in wsX20 [145] (by decide +kernel) (by decide +kernel)

/-! MaypoleGreen$Dancer -/
set_option maxRecDepth 100000
def RX4 : String := "MaypoleGreen$Dancer"
def TX4 : u_T := fun k => match k with
  | 0 => ("MaypoleGreen$Dancer", "trace", "LMaypoleGreen$Trace;", true)
  | 1 => ("MaypoleGreen$Dancer", "number", "I", true)
  | 2 => ("MaypoleGreen$Dancer", "reach", "I", true)
  | _ => ("MaypoleGreen$Dancer", "pace", "I", true)
def tyX4 : Nat → FieldType := fun k => match k with
  | 0 => .object "MaypoleGreen$Trace"
  | 1 => .int
  | 2 => .int
  | _ => .int
abbrev wsX40 : List Cond := u_ws RX4 TX4 4
theorem nmX4 : ∀ a, a < 4 → ∀ b, b < 4 → a ≠ b → (TX4 a).2.1 ≠ (TX4 b).2.1 := by decide +kernel
theorem tyX4_ok : ∀ k, k < 4 → parseFieldDescriptor (TX4 k).2.2.1 = some (tyX4 k) := by decide +kernel
abbrev cX4_init : ByteArray := prog_3_method_1_code
def yX4_init : MethodName := ⟨RX4, "<init>", "(LMaypoleGreen$Trace;III)V"⟩
def dkwX4_init_1 : List UInt8 := [181, 0, 20, 177]
abbrev dktX4_init_1 : List UInt8 := dkwX4_init_1 ++ []
def dkwX4_init_0 : List UInt8 := [42, 183, 0, 1, 42, 43, 181, 0, 7, 42, 28, 181, 0, 13, 42, 29, 181, 0, 17, 42, 21, 4]
abbrev dktX4_init_0 : List UInt8 := dkwX4_init_0 ++ dktX4_init_1
theorem dksX4_init_0 : cX4_init.data.toList.drop 0 = dktX4_init_0 := by decide +kernel
theorem dksX4_init_1 : cX4_init.data.toList.drop 22 = dktX4_init_1 := dk_seg dksX4_init_0 22 rfl rfl
theorem dX4_init_0 : decode cX4_init 0 = .ok (.aload_n 0, 1) := dk_42 (dk_at dksX4_init_0 0 rfl rfl)
theorem dX4_init_1 : decode cX4_init 1 = .ok (.invokespecial 1, 3) := dk_183 0 1 (dk_at dksX4_init_0 1 rfl rfl)
theorem dX4_init_4 : decode cX4_init 4 = .ok (.aload_n 0, 1) := dk_42 (dk_at dksX4_init_0 4 rfl rfl)
theorem dX4_init_5 : decode cX4_init 5 = .ok (.aload_n 1, 1) := dk_43 (dk_at dksX4_init_0 5 rfl rfl)
theorem dX4_init_6 : decode cX4_init 6 = .ok (.putfield 7, 3) := dk_181 0 7 (dk_at dksX4_init_0 6 rfl rfl)
theorem dX4_init_9 : decode cX4_init 9 = .ok (.aload_n 0, 1) := dk_42 (dk_at dksX4_init_0 9 rfl rfl)
theorem dX4_init_10 : decode cX4_init 10 = .ok (.iload_n 2, 1) := dk_28 (dk_at dksX4_init_0 10 rfl rfl)
theorem dX4_init_11 : decode cX4_init 11 = .ok (.putfield 13, 3) := dk_181 0 13 (dk_at dksX4_init_0 11 rfl rfl)
theorem dX4_init_14 : decode cX4_init 14 = .ok (.aload_n 0, 1) := dk_42 (dk_at dksX4_init_0 14 rfl rfl)
theorem dX4_init_15 : decode cX4_init 15 = .ok (.iload_n 3, 1) := dk_29 (dk_at dksX4_init_0 15 rfl rfl)
theorem dX4_init_16 : decode cX4_init 16 = .ok (.putfield 17, 3) := dk_181 0 17 (dk_at dksX4_init_0 16 rfl rfl)
theorem dX4_init_19 : decode cX4_init 19 = .ok (.aload_n 0, 1) := dk_42 (dk_at dksX4_init_0 19 rfl rfl)
theorem dX4_init_20 : decode cX4_init 20 = .ok (.iload 4, 2) := dk_21 4 (dk_at dksX4_init_0 20 rfl rfl)
theorem dX4_init_22 : decode cX4_init 22 = .ok (.putfield 20, 3) := dk_181 0 20 (dk_at dksX4_init_1 0 rfl rfl)
theorem dX4_init_25 : decode cX4_init 25 = .ok (.return_, 1) := dk_177 (dk_at dksX4_init_1 3 rfl rfl)
abbrev cX4_greets : ByteArray := prog_3_method_3_code
def yX4_greets : MethodName := ⟨RX4, "greets", "(I)I"⟩
def dkwX4_greets_0 : List UInt8 := [42, 180, 0, 7, 16, 10, 182, 0, 23, 27, 42, 180, 0, 17, 96, 172]
abbrev dktX4_greets_0 : List UInt8 := dkwX4_greets_0 ++ []
theorem dksX4_greets_0 : cX4_greets.data.toList.drop 0 = dktX4_greets_0 := by decide +kernel
theorem dX4_greets_0 : decode cX4_greets 0 = .ok (.aload_n 0, 1) := dk_42 (dk_at dksX4_greets_0 0 rfl rfl)
theorem dX4_greets_1 : decode cX4_greets 1 = .ok (.getfield 7, 3) := dk_180 0 7 (dk_at dksX4_greets_0 1 rfl rfl)
theorem dX4_greets_4 : decode cX4_greets 4 = .ok (.bipush 10, 2) := dk_16 10 (dk_at dksX4_greets_0 4 rfl rfl)
theorem dX4_greets_6 : decode cX4_greets 6 = .ok (.invokevirtual 23, 3) := dk_182 0 23 (dk_at dksX4_greets_0 6 rfl rfl)
theorem dX4_greets_9 : decode cX4_greets 9 = .ok (.iload_n 1, 1) := dk_27 (dk_at dksX4_greets_0 9 rfl rfl)
theorem dX4_greets_10 : decode cX4_greets 10 = .ok (.aload_n 0, 1) := dk_42 (dk_at dksX4_greets_0 10 rfl rfl)
theorem dX4_greets_11 : decode cX4_greets 11 = .ok (.getfield 17, 3) := dk_180 0 17 (dk_at dksX4_greets_0 11 rfl rfl)
theorem dX4_greets_14 : decode cX4_greets 14 = .ok (.iadd, 1) := dk_96 (dk_at dksX4_greets_0 14 rfl rfl)
theorem dX4_greets_15 : decode cX4_greets 15 = .ok (.ireturn, 1) := dk_172 (dk_at dksX4_greets_0 15 rfl rfl)
abbrev cX4_leads : ByteArray := prog_3_method_4_code
def yX4_leads : MethodName := ⟨RX4, "leads", "(I)I"⟩
def dkwX4_leads_0 : List UInt8 := [42, 180, 0, 7, 16, 11, 182, 0, 23, 42, 27, 182, 0, 29, 42, 180, 0, 20, 100, 172]
abbrev dktX4_leads_0 : List UInt8 := dkwX4_leads_0 ++ []
theorem dksX4_leads_0 : cX4_leads.data.toList.drop 0 = dktX4_leads_0 := by decide +kernel
theorem dX4_leads_0 : decode cX4_leads 0 = .ok (.aload_n 0, 1) := dk_42 (dk_at dksX4_leads_0 0 rfl rfl)
theorem dX4_leads_1 : decode cX4_leads 1 = .ok (.getfield 7, 3) := dk_180 0 7 (dk_at dksX4_leads_0 1 rfl rfl)
theorem dX4_leads_4 : decode cX4_leads 4 = .ok (.bipush 11, 2) := dk_16 11 (dk_at dksX4_leads_0 4 rfl rfl)
theorem dX4_leads_6 : decode cX4_leads 6 = .ok (.invokevirtual 23, 3) := dk_182 0 23 (dk_at dksX4_leads_0 6 rfl rfl)
theorem dX4_leads_9 : decode cX4_leads 9 = .ok (.aload_n 0, 1) := dk_42 (dk_at dksX4_leads_0 9 rfl rfl)
theorem dX4_leads_10 : decode cX4_leads 10 = .ok (.iload_n 1, 1) := dk_27 (dk_at dksX4_leads_0 10 rfl rfl)
theorem dX4_leads_11 : decode cX4_leads 11 = .ok (.invokevirtual 29, 3) := dk_182 0 29 (dk_at dksX4_leads_0 11 rfl rfl)
theorem dX4_leads_14 : decode cX4_leads 14 = .ok (.aload_n 0, 1) := dk_42 (dk_at dksX4_leads_0 14 rfl rfl)
theorem dX4_leads_15 : decode cX4_leads 15 = .ok (.getfield 20, 3) := dk_180 0 20 (dk_at dksX4_leads_0 15 rfl rfl)
theorem dX4_leads_18 : decode cX4_leads 18 = .ok (.isub, 1) := dk_100 (dk_at dksX4_leads_0 18 rfl rfl)
theorem dX4_leads_19 : decode cX4_leads 19 = .ok (.ireturn, 1) := dk_172 (dk_at dksX4_leads_0 19 rfl rfl)
abbrev cX4_rests : ByteArray := prog_3_method_5_code
def yX4_rests : MethodName := ⟨RX4, "rests", "(I)I"⟩
def dkwX4_rests_0 : List UInt8 := [42, 180, 0, 7, 16, 12, 182, 0, 23, 42, 27, 182, 0, 33, 42, 180, 0, 13, 130, 172]
abbrev dktX4_rests_0 : List UInt8 := dkwX4_rests_0 ++ []
theorem dksX4_rests_0 : cX4_rests.data.toList.drop 0 = dktX4_rests_0 := by decide +kernel
theorem dX4_rests_0 : decode cX4_rests 0 = .ok (.aload_n 0, 1) := dk_42 (dk_at dksX4_rests_0 0 rfl rfl)
theorem dX4_rests_1 : decode cX4_rests 1 = .ok (.getfield 7, 3) := dk_180 0 7 (dk_at dksX4_rests_0 1 rfl rfl)
theorem dX4_rests_4 : decode cX4_rests 4 = .ok (.bipush 12, 2) := dk_16 12 (dk_at dksX4_rests_0 4 rfl rfl)
theorem dX4_rests_6 : decode cX4_rests 6 = .ok (.invokevirtual 23, 3) := dk_182 0 23 (dk_at dksX4_rests_0 6 rfl rfl)
theorem dX4_rests_9 : decode cX4_rests 9 = .ok (.aload_n 0, 1) := dk_42 (dk_at dksX4_rests_0 9 rfl rfl)
theorem dX4_rests_10 : decode cX4_rests 10 = .ok (.iload_n 1, 1) := dk_27 (dk_at dksX4_rests_0 10 rfl rfl)
theorem dX4_rests_11 : decode cX4_rests 11 = .ok (.invokevirtual 33, 3) := dk_182 0 33 (dk_at dksX4_rests_0 11 rfl rfl)
theorem dX4_rests_14 : decode cX4_rests 14 = .ok (.aload_n 0, 1) := dk_42 (dk_at dksX4_rests_0 14 rfl rfl)
theorem dX4_rests_15 : decode cX4_rests 15 = .ok (.getfield 13, 3) := dk_180 0 13 (dk_at dksX4_rests_0 15 rfl rfl)
theorem dX4_rests_18 : decode cX4_rests 18 = .ok (.ixor, 1) := dk_130 (dk_at dksX4_rests_0 18 rfl rfl)
theorem dX4_rests_19 : decode cX4_rests 19 = .ok (.ireturn, 1) := dk_172 (dk_at dksX4_rests_0 19 rfl rfl)
abbrev cX4_kind : ByteArray := prog_3_method_2_code
def yX4_kind : MethodName := ⟨RX4, "kind", "()I"⟩
theorem dX4_kind_0 : decode cX4_kind 0 = .ok (.iconst 0, 1) := by decide +kernel
theorem dX4_kind_1 : decode cX4_kind 1 = .ok (.ireturn, 1) := by decide +kernel
theorem q83 : (Jvm.Cond.initialized "MaypoleGreen$Dancer") ∈ lw_all := lw_g (lw_at lw_m1 5 rfl) rfl
theorem q250 : (Jvm.Cond.instantiable "MaypoleGreen$Dancer" (4 : Nat)) ∈ lw_all := lw_g (lw_at lw_m1 172 rfl) rfl
theorem q252 : (Jvm.Cond.instanceMethod ({ cls := "MaypoleGreen$Dancer", name := "<init>", desc := "(LMaypoleGreen$Trace;III)V" } : Jvm.MethodName)) ∈ lw_all := lw_g (lw_at lw_m1 174 rfl) rfl
theorem q253 : (Jvm.Cond.code ({ cls := "MaypoleGreen$Dancer", name := "<init>", desc := "(LMaypoleGreen$Trace;III)V" } : Jvm.MethodName) prog_3_method_1_code (5 : Nat) (Option.none : Option Jvm.ClassFile.FieldType)) ∈ lw_all := lw_g (lw_at lw_m1 175 rfl) rfl
theorem q254 : (Jvm.Cond.methodLink "MaypoleGreen$Dancer" (1 : Nat) ({ cls := "java/lang/Object", name := "<init>", desc := "()V" } : Jvm.MethodName)) ∈ lw_all := lw_g (lw_at lw_m1 176 rfl) rfl
theorem q255 : (Jvm.Cond.fieldLink "MaypoleGreen$Dancer" (7 : Nat) "MaypoleGreen$Dancer" "trace" "LMaypoleGreen$Trace;") ∈ lw_all := lw_g (lw_at lw_m1 177 rfl) rfl
theorem q264 : (Jvm.Cond.fieldLink "MaypoleGreen$Dancer" (13 : Nat) "MaypoleGreen$Dancer" "number" "I") ∈ lw_all := lw_g (lw_at lw_m1 186 rfl) rfl
theorem q265 : (Jvm.Cond.fieldLink "MaypoleGreen$Dancer" (17 : Nat) "MaypoleGreen$Dancer" "reach" "I") ∈ lw_all := lw_g (lw_at lw_m1 187 rfl) rfl
theorem q267 : (Jvm.Cond.fieldLink "MaypoleGreen$Dancer" (20 : Nat) "MaypoleGreen$Dancer" "pace" "I") ∈ lw_all := lw_g (lw_at lw_m1 189 rfl) rfl
theorem q269 : (Jvm.Cond.laysFinal "MaypoleGreen$Dancer" "MaypoleGreen$Dancer" "trace" "LMaypoleGreen$Trace;") ∈ lw_all := lw_g (lw_at lw_m1 191 rfl) rfl
theorem q270 : (Jvm.Cond.soleField "MaypoleGreen$Dancer" "trace") ∈ lw_all := lw_g (lw_at lw_m1 192 rfl) rfl
theorem q271 : (Jvm.Cond.laysFinal "MaypoleGreen$Dancer" "MaypoleGreen$Dancer" "number" "I") ∈ lw_all := lw_g (lw_at lw_m1 193 rfl) rfl
theorem q272 : (Jvm.Cond.soleField "MaypoleGreen$Dancer" "number") ∈ lw_all := lw_g (lw_at lw_m1 194 rfl) rfl
theorem q273 : (Jvm.Cond.laysFinal "MaypoleGreen$Dancer" "MaypoleGreen$Dancer" "reach" "I") ∈ lw_all := lw_g (lw_at lw_m1 195 rfl) rfl
theorem q274 : (Jvm.Cond.soleField "MaypoleGreen$Dancer" "reach") ∈ lw_all := lw_g (lw_at lw_m1 196 rfl) rfl
theorem q275 : (Jvm.Cond.laysFinal "MaypoleGreen$Dancer" "MaypoleGreen$Dancer" "pace" "I") ∈ lw_all := lw_g (lw_at lw_m1 197 rfl) rfl
theorem q276 : (Jvm.Cond.soleField "MaypoleGreen$Dancer" "pace") ∈ lw_all := lw_g (lw_at lw_m1 198 rfl) rfl
theorem q277 : (Jvm.Cond.superclass "MaypoleGreen$Dancer" "java/lang/Object") ∈ lw_all := lw_g (lw_at lw_m1 199 rfl) rfl
theorem q913 : (Jvm.Cond.instanceMethod ({ cls := "MaypoleGreen$Dancer", name := "greets", desc := "(I)I" } : Jvm.MethodName)) ∈ lw_all := lw_g (lw_at lw_m4 115 rfl) rfl
theorem q914 : (Jvm.Cond.selects "MaypoleGreen$Dancer" ({ cls := "MaypoleGreen$Dancer", name := "greets", desc := "(I)I" } : Jvm.MethodName) ({ cls := "MaypoleGreen$Dancer", name := "greets", desc := "(I)I" } : Jvm.MethodName)) ∈ lw_all := lw_g (lw_at lw_m4 116 rfl) rfl
theorem q915 : (Jvm.Cond.sameMethod "MaypoleGreen$Dancer" "MaypoleGreen$Dancer" "greets" "(I)I") ∈ lw_all := lw_g (lw_at lw_m4 117 rfl) rfl
theorem q924 : (Jvm.Cond.code ({ cls := "MaypoleGreen$Dancer", name := "greets", desc := "(I)I" } : Jvm.MethodName) prog_3_method_3_code (2 : Nat) (Option.some Jvm.ClassFile.FieldType.int)) ∈ lw_all := lw_g (lw_at lw_m4 126 rfl) rfl
theorem q925 : (Jvm.Cond.methodLink "MaypoleGreen$Dancer" (23 : Nat) ({ cls := "MaypoleGreen$Trace", name := "ran", desc := "(I)V" } : Jvm.MethodName)) ∈ lw_all := lw_g (lw_at lw_m4 127 rfl) rfl
theorem q932 : (Jvm.Cond.declares ({ cls := "MaypoleGreen$Dancer", name := "greets", desc := "(I)I" } : Jvm.MethodName)) ∈ lw_tbl := lw_at lw_m4 134 rfl
theorem q936 : (Jvm.Cond.instanceMethod ({ cls := "MaypoleGreen$Dancer", name := "leads", desc := "(I)I" } : Jvm.MethodName)) ∈ lw_all := lw_g (lw_at lw_m4 138 rfl) rfl
theorem q937 : (Jvm.Cond.selects "MaypoleGreen$Dancer" ({ cls := "MaypoleGreen$Dancer", name := "leads", desc := "(I)I" } : Jvm.MethodName) ({ cls := "MaypoleGreen$Dancer", name := "leads", desc := "(I)I" } : Jvm.MethodName)) ∈ lw_all := lw_g (lw_at lw_m4 139 rfl) rfl
theorem q938 : (Jvm.Cond.sameMethod "MaypoleGreen$Dancer" "MaypoleGreen$Dancer" "leads" "(I)I") ∈ lw_all := lw_g (lw_at lw_m4 140 rfl) rfl
theorem q948 : (Jvm.Cond.code ({ cls := "MaypoleGreen$Dancer", name := "leads", desc := "(I)I" } : Jvm.MethodName) prog_3_method_4_code (2 : Nat) (Option.some Jvm.ClassFile.FieldType.int)) ∈ lw_all := lw_g (lw_at lw_m4 150 rfl) rfl
theorem q949 : (Jvm.Cond.methodLink "MaypoleGreen$Dancer" (29 : Nat) ({ cls := "MaypoleGreen$Dancer", name := "greets", desc := "(I)I" } : Jvm.MethodName)) ∈ lw_all := lw_g (lw_at lw_m4 151 rfl) rfl
theorem q956 : (Jvm.Cond.instanceMethod ({ cls := "MaypoleGreen$Dancer", name := "rests", desc := "(I)I" } : Jvm.MethodName)) ∈ lw_all := lw_g (lw_at lw_m4 158 rfl) rfl
theorem q957 : (Jvm.Cond.selects "MaypoleGreen$Dancer" ({ cls := "MaypoleGreen$Dancer", name := "rests", desc := "(I)I" } : Jvm.MethodName) ({ cls := "MaypoleGreen$Dancer", name := "rests", desc := "(I)I" } : Jvm.MethodName)) ∈ lw_all := lw_g (lw_at lw_m4 159 rfl) rfl
theorem q958 : (Jvm.Cond.sameMethod "MaypoleGreen$Dancer" "MaypoleGreen$Dancer" "rests" "(I)I") ∈ lw_all := lw_g (lw_at lw_m4 160 rfl) rfl
theorem q968 : (Jvm.Cond.declares ({ cls := "MaypoleGreen$Dancer", name := "leads", desc := "(I)I" } : Jvm.MethodName)) ∈ lw_tbl := lw_at lw_m4 170 rfl
theorem q971 : (Jvm.Cond.code ({ cls := "MaypoleGreen$Dancer", name := "rests", desc := "(I)I" } : Jvm.MethodName) prog_3_method_5_code (2 : Nat) (Option.some Jvm.ClassFile.FieldType.int)) ∈ lw_all := lw_g (lw_at lw_m4 173 rfl) rfl
theorem q972 : (Jvm.Cond.methodLink "MaypoleGreen$Dancer" (33 : Nat) ({ cls := "MaypoleGreen$Dancer", name := "leads", desc := "(I)I" } : Jvm.MethodName)) ∈ lw_all := lw_g (lw_at lw_m4 174 rfl) rfl
theorem q988 : (Jvm.Cond.instanceMethod ({ cls := "MaypoleGreen$Dancer", name := "kind", desc := "()I" } : Jvm.MethodName)) ∈ lw_all := lw_g (lw_at lw_m4 190 rfl) rfl
theorem q989 : (Jvm.Cond.selects "MaypoleGreen$Dancer" ({ cls := "MaypoleGreen$Dancer", name := "kind", desc := "()I" } : Jvm.MethodName) ({ cls := "MaypoleGreen$Dancer", name := "kind", desc := "()I" } : Jvm.MethodName)) ∈ lw_all := lw_g (lw_at lw_m4 191 rfl) rfl
theorem q990 : (Jvm.Cond.sameMethod "MaypoleGreen$Dancer" "MaypoleGreen$Dancer" "kind" "()I") ∈ lw_all := lw_g (lw_at lw_m4 192 rfl) rfl
theorem q1003 : (Jvm.Cond.code ({ cls := "MaypoleGreen$Dancer", name := "kind", desc := "()I" } : Jvm.MethodName) prog_3_method_2_code (1 : Nat) (Option.some Jvm.ClassFile.FieldType.int)) ∈ lw_all := lw_g (lw_at lw_m4 205 rfl) rfl
theorem in_X4 : ∀ w ∈ wsX40, w ∈ lw_all := lw_in wsX40 [269, 271, 273, 275] (by decide +kernel) (by decide +kernel)

/-! MaypoleGreen$Child -/
set_option maxRecDepth 100000
def RX5 : String := "MaypoleGreen$Child"
def TX5 : u_T := fun k => match k with
  | 0 => ("MaypoleGreen$Dancer", "trace", "LMaypoleGreen$Trace;", true)
  | 1 => ("MaypoleGreen$Dancer", "number", "I", true)
  | 2 => ("MaypoleGreen$Dancer", "reach", "I", true)
  | _ => ("MaypoleGreen$Dancer", "pace", "I", true)
def tyX5 : Nat → FieldType := fun k => match k with
  | 0 => .object "MaypoleGreen$Trace"
  | 1 => .int
  | 2 => .int
  | _ => .int
abbrev wsX50 : List Cond := u_ws RX5 TX5 4
theorem nmX5 : ∀ a, a < 4 → ∀ b, b < 4 → a ≠ b → (TX5 a).2.1 ≠ (TX5 b).2.1 := by decide +kernel
theorem tyX5_ok : ∀ k, k < 4 → parseFieldDescriptor (TX5 k).2.2.1 = some (tyX5 k) := by decide +kernel
abbrev cX5_init : ByteArray := prog_2_method_1_code
def yX5_init : MethodName := ⟨RX5, "<init>", "(LMaypoleGreen$Trace;III)V"⟩
def dkwX5_init_0 : List UInt8 := [42, 43, 28, 29, 21, 4, 183, 0, 1, 177]
abbrev dktX5_init_0 : List UInt8 := dkwX5_init_0 ++ []
theorem dksX5_init_0 : cX5_init.data.toList.drop 0 = dktX5_init_0 := by decide +kernel
theorem dX5_init_0 : decode cX5_init 0 = .ok (.aload_n 0, 1) := dk_42 (dk_at dksX5_init_0 0 rfl rfl)
theorem dX5_init_1 : decode cX5_init 1 = .ok (.aload_n 1, 1) := dk_43 (dk_at dksX5_init_0 1 rfl rfl)
theorem dX5_init_2 : decode cX5_init 2 = .ok (.iload_n 2, 1) := dk_28 (dk_at dksX5_init_0 2 rfl rfl)
theorem dX5_init_3 : decode cX5_init 3 = .ok (.iload_n 3, 1) := dk_29 (dk_at dksX5_init_0 3 rfl rfl)
theorem dX5_init_4 : decode cX5_init 4 = .ok (.iload 4, 2) := dk_21 4 (dk_at dksX5_init_0 4 rfl rfl)
theorem dX5_init_6 : decode cX5_init 6 = .ok (.invokespecial 1, 3) := dk_183 0 1 (dk_at dksX5_init_0 6 rfl rfl)
theorem dX5_init_9 : decode cX5_init 9 = .ok (.return_, 1) := dk_177 (dk_at dksX5_init_0 9 rfl rfl)
abbrev cX5_greets : ByteArray := prog_2_method_3_code
def yX5_greets : MethodName := ⟨RX5, "greets", "(I)I"⟩
def dkwX5_greets_0 : List UInt8 := [42, 180, 0, 7, 16, 20, 182, 0, 13, 42, 27, 183, 0, 19, 7, 100, 172]
abbrev dktX5_greets_0 : List UInt8 := dkwX5_greets_0 ++ []
theorem dksX5_greets_0 : cX5_greets.data.toList.drop 0 = dktX5_greets_0 := by decide +kernel
theorem dX5_greets_0 : decode cX5_greets 0 = .ok (.aload_n 0, 1) := dk_42 (dk_at dksX5_greets_0 0 rfl rfl)
theorem dX5_greets_1 : decode cX5_greets 1 = .ok (.getfield 7, 3) := dk_180 0 7 (dk_at dksX5_greets_0 1 rfl rfl)
theorem dX5_greets_4 : decode cX5_greets 4 = .ok (.bipush 20, 2) := dk_16 20 (dk_at dksX5_greets_0 4 rfl rfl)
theorem dX5_greets_6 : decode cX5_greets 6 = .ok (.invokevirtual 13, 3) := dk_182 0 13 (dk_at dksX5_greets_0 6 rfl rfl)
theorem dX5_greets_9 : decode cX5_greets 9 = .ok (.aload_n 0, 1) := dk_42 (dk_at dksX5_greets_0 9 rfl rfl)
theorem dX5_greets_10 : decode cX5_greets 10 = .ok (.iload_n 1, 1) := dk_27 (dk_at dksX5_greets_0 10 rfl rfl)
theorem dX5_greets_11 : decode cX5_greets 11 = .ok (.invokespecial 19, 3) := dk_183 0 19 (dk_at dksX5_greets_0 11 rfl rfl)
theorem dX5_greets_14 : decode cX5_greets 14 = .ok (.iconst 4, 1) := dk_7 (dk_at dksX5_greets_0 14 rfl rfl)
theorem dX5_greets_15 : decode cX5_greets 15 = .ok (.isub, 1) := dk_100 (dk_at dksX5_greets_0 15 rfl rfl)
theorem dX5_greets_16 : decode cX5_greets 16 = .ok (.ireturn, 1) := dk_172 (dk_at dksX5_greets_0 16 rfl rfl)
abbrev cX5_kind : ByteArray := prog_2_method_2_code
def yX5_kind : MethodName := ⟨RX5, "kind", "()I"⟩
theorem dX5_kind_0 : decode cX5_kind 0 = .ok (.iconst 1, 1) := by decide +kernel
theorem dX5_kind_1 : decode cX5_kind 1 = .ok (.ireturn, 1) := by decide +kernel
theorem q84 : (Jvm.Cond.initialized "MaypoleGreen$Child") ∈ lw_all := lw_g (lw_at lw_m1 6 rfl) rfl
theorem q256 : (Jvm.Cond.fieldLink "MaypoleGreen$Child" (7 : Nat) "MaypoleGreen$Child" "trace" "LMaypoleGreen$Trace;") ∈ lw_all := lw_g (lw_at lw_m1 178 rfl) rfl
theorem q257 : (Jvm.Cond.sameField "MaypoleGreen$Child" "MaypoleGreen$Dancer" "trace" "LMaypoleGreen$Trace;") ∈ lw_all := lw_g (lw_at lw_m1 179 rfl) rfl
theorem q279 : (Jvm.Cond.instantiable "MaypoleGreen$Child" (4 : Nat)) ∈ lw_all := lw_g (lw_at lw_m1 201 rfl) rfl
theorem q281 : (Jvm.Cond.instanceMethod ({ cls := "MaypoleGreen$Child", name := "<init>", desc := "(LMaypoleGreen$Trace;III)V" } : Jvm.MethodName)) ∈ lw_all := lw_g (lw_at lw_m1 203 rfl) rfl
theorem q282 : (Jvm.Cond.code ({ cls := "MaypoleGreen$Child", name := "<init>", desc := "(LMaypoleGreen$Trace;III)V" } : Jvm.MethodName) prog_2_method_1_code (5 : Nat) (Option.none : Option Jvm.ClassFile.FieldType)) ∈ lw_all := lw_g (lw_at lw_m1 204 rfl) rfl
theorem q283 : (Jvm.Cond.methodLink "MaypoleGreen$Child" (1 : Nat) ({ cls := "MaypoleGreen$Dancer", name := "<init>", desc := "(LMaypoleGreen$Trace;III)V" } : Jvm.MethodName)) ∈ lw_all := lw_g (lw_at lw_m1 205 rfl) rfl
theorem q284 : (Jvm.Cond.laysFinal "MaypoleGreen$Child" "MaypoleGreen$Dancer" "trace" "LMaypoleGreen$Trace;") ∈ lw_all := lw_g (lw_at lw_m1 206 rfl) rfl
theorem q285 : (Jvm.Cond.laysFinal "MaypoleGreen$Child" "MaypoleGreen$Dancer" "number" "I") ∈ lw_all := lw_g (lw_at lw_m1 207 rfl) rfl
theorem q286 : (Jvm.Cond.laysFinal "MaypoleGreen$Child" "MaypoleGreen$Dancer" "reach" "I") ∈ lw_all := lw_g (lw_at lw_m1 208 rfl) rfl
theorem q287 : (Jvm.Cond.laysFinal "MaypoleGreen$Child" "MaypoleGreen$Dancer" "pace" "I") ∈ lw_all := lw_g (lw_at lw_m1 209 rfl) rfl
theorem q288 : (Jvm.Cond.superclass "MaypoleGreen$Child" "MaypoleGreen$Dancer") ∈ lw_all := lw_g (lw_at lw_m1 210 rfl) rfl
theorem q916 : (Jvm.Cond.selects "MaypoleGreen$Child" ({ cls := "MaypoleGreen$Dancer", name := "greets", desc := "(I)I" } : Jvm.MethodName) ({ cls := "MaypoleGreen$Child", name := "greets", desc := "(I)I" } : Jvm.MethodName)) ∈ lw_all := lw_g (lw_at lw_m4 118 rfl) rfl
theorem q917 : (Jvm.Cond.instanceMethod ({ cls := "MaypoleGreen$Child", name := "greets", desc := "(I)I" } : Jvm.MethodName)) ∈ lw_all := lw_g (lw_at lw_m4 119 rfl) rfl
theorem q918 : (Jvm.Cond.code ({ cls := "MaypoleGreen$Child", name := "greets", desc := "(I)I" } : Jvm.MethodName) prog_2_method_3_code (2 : Nat) (Option.some Jvm.ClassFile.FieldType.int)) ∈ lw_all := lw_g (lw_at lw_m4 120 rfl) rfl
theorem q919 : (Jvm.Cond.methodLink "MaypoleGreen$Child" (13 : Nat) ({ cls := "MaypoleGreen$Trace", name := "ran", desc := "(I)V" } : Jvm.MethodName)) ∈ lw_all := lw_g (lw_at lw_m4 121 rfl) rfl
theorem q923 : (Jvm.Cond.methodLink "MaypoleGreen$Child" (19 : Nat) ({ cls := "MaypoleGreen$Dancer", name := "greets", desc := "(I)I" } : Jvm.MethodName)) ∈ lw_all := lw_g (lw_at lw_m4 125 rfl) rfl
theorem q939 : (Jvm.Cond.selects "MaypoleGreen$Child" ({ cls := "MaypoleGreen$Dancer", name := "leads", desc := "(I)I" } : Jvm.MethodName) ({ cls := "MaypoleGreen$Dancer", name := "leads", desc := "(I)I" } : Jvm.MethodName)) ∈ lw_all := lw_g (lw_at lw_m4 141 rfl) rfl
theorem q959 : (Jvm.Cond.selects "MaypoleGreen$Child" ({ cls := "MaypoleGreen$Dancer", name := "rests", desc := "(I)I" } : Jvm.MethodName) ({ cls := "MaypoleGreen$Dancer", name := "rests", desc := "(I)I" } : Jvm.MethodName)) ∈ lw_all := lw_g (lw_at lw_m4 161 rfl) rfl
theorem q991 : (Jvm.Cond.selects "MaypoleGreen$Child" ({ cls := "MaypoleGreen$Dancer", name := "kind", desc := "()I" } : Jvm.MethodName) ({ cls := "MaypoleGreen$Child", name := "kind", desc := "()I" } : Jvm.MethodName)) ∈ lw_all := lw_g (lw_at lw_m4 193 rfl) rfl
theorem q992 : (Jvm.Cond.instanceMethod ({ cls := "MaypoleGreen$Child", name := "kind", desc := "()I" } : Jvm.MethodName)) ∈ lw_all := lw_g (lw_at lw_m4 194 rfl) rfl
theorem q993 : (Jvm.Cond.code ({ cls := "MaypoleGreen$Child", name := "kind", desc := "()I" } : Jvm.MethodName) prog_2_method_2_code (1 : Nat) (Option.some Jvm.ClassFile.FieldType.int)) ∈ lw_all := lw_g (lw_at lw_m4 195 rfl) rfl
theorem q1619 : (Jvm.Cond.castable "MaypoleGreen$Child" "MaypoleGreen$Dancer") ∈ lw_tbl := lw_at lw_m7 101 rfl
theorem in_X5 : ∀ w ∈ wsX50, w ∈ lw_all := lw_in wsX50 [284, 285, 286, 287] (by decide +kernel) (by decide +kernel)

/-! MaypoleGreen$Leader -/
set_option maxRecDepth 100000
def RX6 : String := "MaypoleGreen$Leader"
def TX6 : u_T := fun k => match k with
  | 0 => ("MaypoleGreen$Dancer", "trace", "LMaypoleGreen$Trace;", true)
  | 1 => ("MaypoleGreen$Dancer", "number", "I", true)
  | 2 => ("MaypoleGreen$Dancer", "reach", "I", true)
  | _ => ("MaypoleGreen$Dancer", "pace", "I", true)
def tyX6 : Nat → FieldType := fun k => match k with
  | 0 => .object "MaypoleGreen$Trace"
  | 1 => .int
  | 2 => .int
  | _ => .int
abbrev wsX60 : List Cond := u_ws RX6 TX6 4
theorem nmX6 : ∀ a, a < 4 → ∀ b, b < 4 → a ≠ b → (TX6 a).2.1 ≠ (TX6 b).2.1 := by decide +kernel
theorem tyX6_ok : ∀ k, k < 4 → parseFieldDescriptor (TX6 k).2.2.1 = some (tyX6 k) := by decide +kernel
abbrev cX6_init : ByteArray := prog_7_method_1_code
def yX6_init : MethodName := ⟨RX6, "<init>", "(LMaypoleGreen$Trace;III)V"⟩
def dkwX6_init_0 : List UInt8 := [42, 43, 28, 29, 21, 4, 183, 0, 1, 177]
abbrev dktX6_init_0 : List UInt8 := dkwX6_init_0 ++ []
theorem dksX6_init_0 : cX6_init.data.toList.drop 0 = dktX6_init_0 := by decide +kernel
theorem dX6_init_0 : decode cX6_init 0 = .ok (.aload_n 0, 1) := dk_42 (dk_at dksX6_init_0 0 rfl rfl)
theorem dX6_init_1 : decode cX6_init 1 = .ok (.aload_n 1, 1) := dk_43 (dk_at dksX6_init_0 1 rfl rfl)
theorem dX6_init_2 : decode cX6_init 2 = .ok (.iload_n 2, 1) := dk_28 (dk_at dksX6_init_0 2 rfl rfl)
theorem dX6_init_3 : decode cX6_init 3 = .ok (.iload_n 3, 1) := dk_29 (dk_at dksX6_init_0 3 rfl rfl)
theorem dX6_init_4 : decode cX6_init 4 = .ok (.iload 4, 2) := dk_21 4 (dk_at dksX6_init_0 4 rfl rfl)
theorem dX6_init_6 : decode cX6_init 6 = .ok (.invokespecial 1, 3) := dk_183 0 1 (dk_at dksX6_init_0 6 rfl rfl)
theorem dX6_init_9 : decode cX6_init 9 = .ok (.return_, 1) := dk_177 (dk_at dksX6_init_0 9 rfl rfl)
abbrev cX6_leads : ByteArray := prog_7_method_3_code
def yX6_leads : MethodName := ⟨RX6, "leads", "(I)I"⟩
def dkwX6_leads_0 : List UInt8 := [42, 180, 0, 7, 16, 30, 182, 0, 13, 42, 27, 183, 0, 19, 61, 28, 42, 27, 182, 0, 23, 96, 172]
abbrev dktX6_leads_0 : List UInt8 := dkwX6_leads_0 ++ []
theorem dksX6_leads_0 : cX6_leads.data.toList.drop 0 = dktX6_leads_0 := by decide +kernel
theorem dX6_leads_0 : decode cX6_leads 0 = .ok (.aload_n 0, 1) := dk_42 (dk_at dksX6_leads_0 0 rfl rfl)
theorem dX6_leads_1 : decode cX6_leads 1 = .ok (.getfield 7, 3) := dk_180 0 7 (dk_at dksX6_leads_0 1 rfl rfl)
theorem dX6_leads_4 : decode cX6_leads 4 = .ok (.bipush 30, 2) := dk_16 30 (dk_at dksX6_leads_0 4 rfl rfl)
theorem dX6_leads_6 : decode cX6_leads 6 = .ok (.invokevirtual 13, 3) := dk_182 0 13 (dk_at dksX6_leads_0 6 rfl rfl)
theorem dX6_leads_9 : decode cX6_leads 9 = .ok (.aload_n 0, 1) := dk_42 (dk_at dksX6_leads_0 9 rfl rfl)
theorem dX6_leads_10 : decode cX6_leads 10 = .ok (.iload_n 1, 1) := dk_27 (dk_at dksX6_leads_0 10 rfl rfl)
theorem dX6_leads_11 : decode cX6_leads 11 = .ok (.invokespecial 19, 3) := dk_183 0 19 (dk_at dksX6_leads_0 11 rfl rfl)
theorem dX6_leads_14 : decode cX6_leads 14 = .ok (.istore_n 2, 1) := dk_61 (dk_at dksX6_leads_0 14 rfl rfl)
theorem dX6_leads_15 : decode cX6_leads 15 = .ok (.iload_n 2, 1) := dk_28 (dk_at dksX6_leads_0 15 rfl rfl)
theorem dX6_leads_16 : decode cX6_leads 16 = .ok (.aload_n 0, 1) := dk_42 (dk_at dksX6_leads_0 16 rfl rfl)
theorem dX6_leads_17 : decode cX6_leads 17 = .ok (.iload_n 1, 1) := dk_27 (dk_at dksX6_leads_0 17 rfl rfl)
theorem dX6_leads_18 : decode cX6_leads 18 = .ok (.invokevirtual 23, 3) := dk_182 0 23 (dk_at dksX6_leads_0 18 rfl rfl)
theorem dX6_leads_21 : decode cX6_leads 21 = .ok (.iadd, 1) := dk_96 (dk_at dksX6_leads_0 21 rfl rfl)
theorem dX6_leads_22 : decode cX6_leads 22 = .ok (.ireturn, 1) := dk_172 (dk_at dksX6_leads_0 22 rfl rfl)
abbrev cX6_kind : ByteArray := prog_7_method_2_code
def yX6_kind : MethodName := ⟨RX6, "kind", "()I"⟩
theorem dX6_kind_0 : decode cX6_kind 0 = .ok (.iconst 2, 1) := by decide +kernel
theorem dX6_kind_1 : decode cX6_kind 1 = .ok (.ireturn, 1) := by decide +kernel
theorem q85 : (Jvm.Cond.initialized "MaypoleGreen$Leader") ∈ lw_all := lw_g (lw_at lw_m1 7 rfl) rfl
theorem q260 : (Jvm.Cond.fieldLink "MaypoleGreen$Leader" (7 : Nat) "MaypoleGreen$Leader" "trace" "LMaypoleGreen$Trace;") ∈ lw_all := lw_g (lw_at lw_m1 182 rfl) rfl
theorem q261 : (Jvm.Cond.sameField "MaypoleGreen$Leader" "MaypoleGreen$Dancer" "trace" "LMaypoleGreen$Trace;") ∈ lw_all := lw_g (lw_at lw_m1 183 rfl) rfl
theorem q290 : (Jvm.Cond.instantiable "MaypoleGreen$Leader" (4 : Nat)) ∈ lw_all := lw_g (lw_at lw_m1 212 rfl) rfl
theorem q292 : (Jvm.Cond.instanceMethod ({ cls := "MaypoleGreen$Leader", name := "<init>", desc := "(LMaypoleGreen$Trace;III)V" } : Jvm.MethodName)) ∈ lw_all := lw_g (lw_at lw_m1 214 rfl) rfl
theorem q293 : (Jvm.Cond.code ({ cls := "MaypoleGreen$Leader", name := "<init>", desc := "(LMaypoleGreen$Trace;III)V" } : Jvm.MethodName) prog_7_method_1_code (5 : Nat) (Option.none : Option Jvm.ClassFile.FieldType)) ∈ lw_all := lw_g (lw_at lw_m1 215 rfl) rfl
theorem q294 : (Jvm.Cond.methodLink "MaypoleGreen$Leader" (1 : Nat) ({ cls := "MaypoleGreen$Dancer", name := "<init>", desc := "(LMaypoleGreen$Trace;III)V" } : Jvm.MethodName)) ∈ lw_all := lw_g (lw_at lw_m1 216 rfl) rfl
theorem q295 : (Jvm.Cond.laysFinal "MaypoleGreen$Leader" "MaypoleGreen$Dancer" "trace" "LMaypoleGreen$Trace;") ∈ lw_all := lw_g (lw_at lw_m1 217 rfl) rfl
theorem q296 : (Jvm.Cond.laysFinal "MaypoleGreen$Leader" "MaypoleGreen$Dancer" "number" "I") ∈ lw_all := lw_g (lw_at lw_m1 218 rfl) rfl
theorem q297 : (Jvm.Cond.laysFinal "MaypoleGreen$Leader" "MaypoleGreen$Dancer" "reach" "I") ∈ lw_all := lw_g (lw_at lw_m1 219 rfl) rfl
theorem q298 : (Jvm.Cond.laysFinal "MaypoleGreen$Leader" "MaypoleGreen$Dancer" "pace" "I") ∈ lw_all := lw_g (lw_at lw_m1 220 rfl) rfl
theorem q299 : (Jvm.Cond.superclass "MaypoleGreen$Leader" "MaypoleGreen$Dancer") ∈ lw_all := lw_g (lw_at lw_m1 221 rfl) rfl
theorem q931 : (Jvm.Cond.sameMethod "MaypoleGreen$Leader" "MaypoleGreen$Dancer" "greets" "(I)I") ∈ lw_all := lw_g (lw_at lw_m4 133 rfl) rfl
theorem q933 : (Jvm.Cond.selects "MaypoleGreen$Leader" ({ cls := "MaypoleGreen$Dancer", name := "greets", desc := "(I)I" } : Jvm.MethodName) ({ cls := "MaypoleGreen$Dancer", name := "greets", desc := "(I)I" } : Jvm.MethodName)) ∈ lw_all := lw_g (lw_at lw_m4 135 rfl) rfl
theorem q944 : (Jvm.Cond.instanceMethod ({ cls := "MaypoleGreen$Leader", name := "leads", desc := "(I)I" } : Jvm.MethodName)) ∈ lw_all := lw_g (lw_at lw_m4 146 rfl) rfl
theorem q945 : (Jvm.Cond.code ({ cls := "MaypoleGreen$Leader", name := "leads", desc := "(I)I" } : Jvm.MethodName) prog_7_method_3_code (3 : Nat) (Option.some Jvm.ClassFile.FieldType.int)) ∈ lw_all := lw_g (lw_at lw_m4 147 rfl) rfl
theorem q946 : (Jvm.Cond.methodLink "MaypoleGreen$Leader" (13 : Nat) ({ cls := "MaypoleGreen$Trace", name := "ran", desc := "(I)V" } : Jvm.MethodName)) ∈ lw_all := lw_g (lw_at lw_m4 148 rfl) rfl
theorem q947 : (Jvm.Cond.methodLink "MaypoleGreen$Leader" (19 : Nat) ({ cls := "MaypoleGreen$Dancer", name := "leads", desc := "(I)I" } : Jvm.MethodName)) ∈ lw_all := lw_g (lw_at lw_m4 149 rfl) rfl
theorem q950 : (Jvm.Cond.methodLink "MaypoleGreen$Leader" (23 : Nat) ({ cls := "MaypoleGreen$Leader", name := "greets", desc := "(I)I" } : Jvm.MethodName)) ∈ lw_all := lw_g (lw_at lw_m4 152 rfl) rfl
theorem q952 : (Jvm.Cond.selects "MaypoleGreen$Leader" ({ cls := "MaypoleGreen$Leader", name := "greets", desc := "(I)I" } : Jvm.MethodName) ({ cls := "MaypoleGreen$Dancer", name := "greets", desc := "(I)I" } : Jvm.MethodName)) ∈ lw_all := lw_g (lw_at lw_m4 154 rfl) rfl
theorem q953 : (Jvm.Cond.selects "MaypoleGreen$Leader" ({ cls := "MaypoleGreen$Dancer", name := "leads", desc := "(I)I" } : Jvm.MethodName) ({ cls := "MaypoleGreen$Leader", name := "leads", desc := "(I)I" } : Jvm.MethodName)) ∈ lw_all := lw_g (lw_at lw_m4 155 rfl) rfl
theorem q961 : (Jvm.Cond.selects "MaypoleGreen$Leader" ({ cls := "MaypoleGreen$Dancer", name := "rests", desc := "(I)I" } : Jvm.MethodName) ({ cls := "MaypoleGreen$Dancer", name := "rests", desc := "(I)I" } : Jvm.MethodName)) ∈ lw_all := lw_g (lw_at lw_m4 163 rfl) rfl
theorem q997 : (Jvm.Cond.selects "MaypoleGreen$Leader" ({ cls := "MaypoleGreen$Dancer", name := "kind", desc := "()I" } : Jvm.MethodName) ({ cls := "MaypoleGreen$Leader", name := "kind", desc := "()I" } : Jvm.MethodName)) ∈ lw_all := lw_g (lw_at lw_m4 199 rfl) rfl
theorem q998 : (Jvm.Cond.instanceMethod ({ cls := "MaypoleGreen$Leader", name := "kind", desc := "()I" } : Jvm.MethodName)) ∈ lw_all := lw_g (lw_at lw_m4 200 rfl) rfl
theorem q999 : (Jvm.Cond.code ({ cls := "MaypoleGreen$Leader", name := "kind", desc := "()I" } : Jvm.MethodName) prog_7_method_2_code (1 : Nat) (Option.some Jvm.ClassFile.FieldType.int)) ∈ lw_all := lw_g (lw_at lw_m4 201 rfl) rfl
theorem q1617 : (Jvm.Cond.sameMethod "MaypoleGreen$Leader" "MaypoleGreen$Leader" "leads" "(I)I") ∈ lw_all := lw_g (lw_at lw_m7 99 rfl) rfl
theorem q1621 : (Jvm.Cond.castable "MaypoleGreen$Leader" "MaypoleGreen$Dancer") ∈ lw_tbl := lw_at lw_m7 103 rfl
theorem in_X6 : ∀ w ∈ wsX60, w ∈ lw_all := lw_in wsX60 [295, 296, 297, 298] (by decide +kernel) (by decide +kernel)

/-! MaypoleGreen$Fool -/
set_option maxRecDepth 100000
def RX7 : String := "MaypoleGreen$Fool"
def TX7 : u_T := fun k => match k with
  | 0 => ("MaypoleGreen$Dancer", "trace", "LMaypoleGreen$Trace;", true)
  | 1 => ("MaypoleGreen$Dancer", "number", "I", true)
  | 2 => ("MaypoleGreen$Dancer", "reach", "I", true)
  | _ => ("MaypoleGreen$Dancer", "pace", "I", true)
def tyX7 : Nat → FieldType := fun k => match k with
  | 0 => .object "MaypoleGreen$Trace"
  | 1 => .int
  | 2 => .int
  | _ => .int
abbrev wsX70 : List Cond := u_ws RX7 TX7 4
theorem nmX7 : ∀ a, a < 4 → ∀ b, b < 4 → a ≠ b → (TX7 a).2.1 ≠ (TX7 b).2.1 := by decide +kernel
theorem tyX7_ok : ∀ k, k < 4 → parseFieldDescriptor (TX7 k).2.2.1 = some (tyX7 k) := by decide +kernel
abbrev cX7_init : ByteArray := prog_5_method_1_code
def yX7_init : MethodName := ⟨RX7, "<init>", "(LMaypoleGreen$Trace;III)V"⟩
def dkwX7_init_0 : List UInt8 := [42, 43, 28, 29, 21, 4, 183, 0, 1, 177]
abbrev dktX7_init_0 : List UInt8 := dkwX7_init_0 ++ []
theorem dksX7_init_0 : cX7_init.data.toList.drop 0 = dktX7_init_0 := by decide +kernel
theorem dX7_init_0 : decode cX7_init 0 = .ok (.aload_n 0, 1) := dk_42 (dk_at dksX7_init_0 0 rfl rfl)
theorem dX7_init_1 : decode cX7_init 1 = .ok (.aload_n 1, 1) := dk_43 (dk_at dksX7_init_0 1 rfl rfl)
theorem dX7_init_2 : decode cX7_init 2 = .ok (.iload_n 2, 1) := dk_28 (dk_at dksX7_init_0 2 rfl rfl)
theorem dX7_init_3 : decode cX7_init 3 = .ok (.iload_n 3, 1) := dk_29 (dk_at dksX7_init_0 3 rfl rfl)
theorem dX7_init_4 : decode cX7_init 4 = .ok (.iload 4, 2) := dk_21 4 (dk_at dksX7_init_0 4 rfl rfl)
theorem dX7_init_6 : decode cX7_init 6 = .ok (.invokespecial 1, 3) := dk_183 0 1 (dk_at dksX7_init_0 6 rfl rfl)
theorem dX7_init_9 : decode cX7_init 9 = .ok (.return_, 1) := dk_177 (dk_at dksX7_init_0 9 rfl rfl)
abbrev cX7_greets : ByteArray := prog_5_method_3_code
def yX7_greets : MethodName := ⟨RX7, "greets", "(I)I"⟩
def dkwX7_greets_0 : List UInt8 := [42, 180, 0, 7, 16, 40, 182, 0, 13, 42, 27, 6, 104, 183, 0, 19, 172]
abbrev dktX7_greets_0 : List UInt8 := dkwX7_greets_0 ++ []
theorem dksX7_greets_0 : cX7_greets.data.toList.drop 0 = dktX7_greets_0 := by decide +kernel
theorem dX7_greets_0 : decode cX7_greets 0 = .ok (.aload_n 0, 1) := dk_42 (dk_at dksX7_greets_0 0 rfl rfl)
theorem dX7_greets_1 : decode cX7_greets 1 = .ok (.getfield 7, 3) := dk_180 0 7 (dk_at dksX7_greets_0 1 rfl rfl)
theorem dX7_greets_4 : decode cX7_greets 4 = .ok (.bipush 40, 2) := dk_16 40 (dk_at dksX7_greets_0 4 rfl rfl)
theorem dX7_greets_6 : decode cX7_greets 6 = .ok (.invokevirtual 13, 3) := dk_182 0 13 (dk_at dksX7_greets_0 6 rfl rfl)
theorem dX7_greets_9 : decode cX7_greets 9 = .ok (.aload_n 0, 1) := dk_42 (dk_at dksX7_greets_0 9 rfl rfl)
theorem dX7_greets_10 : decode cX7_greets 10 = .ok (.iload_n 1, 1) := dk_27 (dk_at dksX7_greets_0 10 rfl rfl)
theorem dX7_greets_11 : decode cX7_greets 11 = .ok (.iconst 3, 1) := dk_6 (dk_at dksX7_greets_0 11 rfl rfl)
theorem dX7_greets_12 : decode cX7_greets 12 = .ok (.imul, 1) := dk_104 (dk_at dksX7_greets_0 12 rfl rfl)
theorem dX7_greets_13 : decode cX7_greets 13 = .ok (.invokespecial 19, 3) := dk_183 0 19 (dk_at dksX7_greets_0 13 rfl rfl)
theorem dX7_greets_16 : decode cX7_greets 16 = .ok (.ireturn, 1) := dk_172 (dk_at dksX7_greets_0 16 rfl rfl)
abbrev cX7_leads : ByteArray := prog_5_method_4_code
def yX7_leads : MethodName := ⟨RX7, "leads", "(I)I"⟩
def dkwX7_leads_0 : List UInt8 := [42, 180, 0, 7, 16, 41, 182, 0, 13, 42, 27, 183, 0, 23, 116, 172]
abbrev dktX7_leads_0 : List UInt8 := dkwX7_leads_0 ++ []
theorem dksX7_leads_0 : cX7_leads.data.toList.drop 0 = dktX7_leads_0 := by decide +kernel
theorem dX7_leads_0 : decode cX7_leads 0 = .ok (.aload_n 0, 1) := dk_42 (dk_at dksX7_leads_0 0 rfl rfl)
theorem dX7_leads_1 : decode cX7_leads 1 = .ok (.getfield 7, 3) := dk_180 0 7 (dk_at dksX7_leads_0 1 rfl rfl)
theorem dX7_leads_4 : decode cX7_leads 4 = .ok (.bipush 41, 2) := dk_16 41 (dk_at dksX7_leads_0 4 rfl rfl)
theorem dX7_leads_6 : decode cX7_leads 6 = .ok (.invokevirtual 13, 3) := dk_182 0 13 (dk_at dksX7_leads_0 6 rfl rfl)
theorem dX7_leads_9 : decode cX7_leads 9 = .ok (.aload_n 0, 1) := dk_42 (dk_at dksX7_leads_0 9 rfl rfl)
theorem dX7_leads_10 : decode cX7_leads 10 = .ok (.iload_n 1, 1) := dk_27 (dk_at dksX7_leads_0 10 rfl rfl)
theorem dX7_leads_11 : decode cX7_leads 11 = .ok (.invokespecial 23, 3) := dk_183 0 23 (dk_at dksX7_leads_0 11 rfl rfl)
theorem dX7_leads_14 : decode cX7_leads 14 = .ok (.ineg, 1) := dk_116 (dk_at dksX7_leads_0 14 rfl rfl)
theorem dX7_leads_15 : decode cX7_leads 15 = .ok (.ireturn, 1) := dk_172 (dk_at dksX7_leads_0 15 rfl rfl)
abbrev cX7_kind : ByteArray := prog_5_method_2_code
def yX7_kind : MethodName := ⟨RX7, "kind", "()I"⟩
theorem dX7_kind_0 : decode cX7_kind 0 = .ok (.iconst 3, 1) := by decide +kernel
theorem dX7_kind_1 : decode cX7_kind 1 = .ok (.ireturn, 1) := by decide +kernel
theorem q86 : (Jvm.Cond.initialized "MaypoleGreen$Fool") ∈ lw_all := lw_g (lw_at lw_m1 8 rfl) rfl
theorem q258 : (Jvm.Cond.fieldLink "MaypoleGreen$Fool" (7 : Nat) "MaypoleGreen$Fool" "trace" "LMaypoleGreen$Trace;") ∈ lw_all := lw_g (lw_at lw_m1 180 rfl) rfl
theorem q259 : (Jvm.Cond.sameField "MaypoleGreen$Fool" "MaypoleGreen$Dancer" "trace" "LMaypoleGreen$Trace;") ∈ lw_all := lw_g (lw_at lw_m1 181 rfl) rfl
theorem q301 : (Jvm.Cond.instantiable "MaypoleGreen$Fool" (4 : Nat)) ∈ lw_all := lw_g (lw_at lw_m1 223 rfl) rfl
theorem q303 : (Jvm.Cond.instanceMethod ({ cls := "MaypoleGreen$Fool", name := "<init>", desc := "(LMaypoleGreen$Trace;III)V" } : Jvm.MethodName)) ∈ lw_all := lw_g (lw_at lw_m1 225 rfl) rfl
theorem q304 : (Jvm.Cond.code ({ cls := "MaypoleGreen$Fool", name := "<init>", desc := "(LMaypoleGreen$Trace;III)V" } : Jvm.MethodName) prog_5_method_1_code (5 : Nat) (Option.none : Option Jvm.ClassFile.FieldType)) ∈ lw_all := lw_g (lw_at lw_m1 226 rfl) rfl
theorem q305 : (Jvm.Cond.methodLink "MaypoleGreen$Fool" (1 : Nat) ({ cls := "MaypoleGreen$Leader", name := "<init>", desc := "(LMaypoleGreen$Trace;III)V" } : Jvm.MethodName)) ∈ lw_all := lw_g (lw_at lw_m1 227 rfl) rfl
theorem q306 : (Jvm.Cond.laysFinal "MaypoleGreen$Fool" "MaypoleGreen$Dancer" "trace" "LMaypoleGreen$Trace;") ∈ lw_all := lw_g (lw_at lw_m1 228 rfl) rfl
theorem q307 : (Jvm.Cond.laysFinal "MaypoleGreen$Fool" "MaypoleGreen$Dancer" "number" "I") ∈ lw_all := lw_g (lw_at lw_m1 229 rfl) rfl
theorem q308 : (Jvm.Cond.laysFinal "MaypoleGreen$Fool" "MaypoleGreen$Dancer" "reach" "I") ∈ lw_all := lw_g (lw_at lw_m1 230 rfl) rfl
theorem q309 : (Jvm.Cond.laysFinal "MaypoleGreen$Fool" "MaypoleGreen$Dancer" "pace" "I") ∈ lw_all := lw_g (lw_at lw_m1 231 rfl) rfl
theorem q310 : (Jvm.Cond.superclass "MaypoleGreen$Fool" "MaypoleGreen$Leader") ∈ lw_all := lw_g (lw_at lw_m1 232 rfl) rfl
theorem q926 : (Jvm.Cond.selects "MaypoleGreen$Fool" ({ cls := "MaypoleGreen$Dancer", name := "greets", desc := "(I)I" } : Jvm.MethodName) ({ cls := "MaypoleGreen$Fool", name := "greets", desc := "(I)I" } : Jvm.MethodName)) ∈ lw_all := lw_g (lw_at lw_m4 128 rfl) rfl
theorem q927 : (Jvm.Cond.instanceMethod ({ cls := "MaypoleGreen$Fool", name := "greets", desc := "(I)I" } : Jvm.MethodName)) ∈ lw_all := lw_g (lw_at lw_m4 129 rfl) rfl
theorem q928 : (Jvm.Cond.code ({ cls := "MaypoleGreen$Fool", name := "greets", desc := "(I)I" } : Jvm.MethodName) prog_5_method_3_code (2 : Nat) (Option.some Jvm.ClassFile.FieldType.int)) ∈ lw_all := lw_g (lw_at lw_m4 130 rfl) rfl
theorem q929 : (Jvm.Cond.methodLink "MaypoleGreen$Fool" (13 : Nat) ({ cls := "MaypoleGreen$Trace", name := "ran", desc := "(I)V" } : Jvm.MethodName)) ∈ lw_all := lw_g (lw_at lw_m4 131 rfl) rfl
theorem q930 : (Jvm.Cond.methodLink "MaypoleGreen$Fool" (19 : Nat) ({ cls := "MaypoleGreen$Leader", name := "greets", desc := "(I)I" } : Jvm.MethodName)) ∈ lw_all := lw_g (lw_at lw_m4 132 rfl) rfl
theorem q940 : (Jvm.Cond.selects "MaypoleGreen$Fool" ({ cls := "MaypoleGreen$Dancer", name := "leads", desc := "(I)I" } : Jvm.MethodName) ({ cls := "MaypoleGreen$Fool", name := "leads", desc := "(I)I" } : Jvm.MethodName)) ∈ lw_all := lw_g (lw_at lw_m4 142 rfl) rfl
theorem q941 : (Jvm.Cond.instanceMethod ({ cls := "MaypoleGreen$Fool", name := "leads", desc := "(I)I" } : Jvm.MethodName)) ∈ lw_all := lw_g (lw_at lw_m4 143 rfl) rfl
theorem q942 : (Jvm.Cond.code ({ cls := "MaypoleGreen$Fool", name := "leads", desc := "(I)I" } : Jvm.MethodName) prog_5_method_4_code (2 : Nat) (Option.some Jvm.ClassFile.FieldType.int)) ∈ lw_all := lw_g (lw_at lw_m4 144 rfl) rfl
theorem q943 : (Jvm.Cond.methodLink "MaypoleGreen$Fool" (23 : Nat) ({ cls := "MaypoleGreen$Leader", name := "leads", desc := "(I)I" } : Jvm.MethodName)) ∈ lw_all := lw_g (lw_at lw_m4 145 rfl) rfl
theorem q951 : (Jvm.Cond.selects "MaypoleGreen$Fool" ({ cls := "MaypoleGreen$Leader", name := "greets", desc := "(I)I" } : Jvm.MethodName) ({ cls := "MaypoleGreen$Fool", name := "greets", desc := "(I)I" } : Jvm.MethodName)) ∈ lw_all := lw_g (lw_at lw_m4 153 rfl) rfl
theorem q960 : (Jvm.Cond.selects "MaypoleGreen$Fool" ({ cls := "MaypoleGreen$Dancer", name := "rests", desc := "(I)I" } : Jvm.MethodName) ({ cls := "MaypoleGreen$Dancer", name := "rests", desc := "(I)I" } : Jvm.MethodName)) ∈ lw_all := lw_g (lw_at lw_m4 162 rfl) rfl
theorem q994 : (Jvm.Cond.selects "MaypoleGreen$Fool" ({ cls := "MaypoleGreen$Dancer", name := "kind", desc := "()I" } : Jvm.MethodName) ({ cls := "MaypoleGreen$Fool", name := "kind", desc := "()I" } : Jvm.MethodName)) ∈ lw_all := lw_g (lw_at lw_m4 196 rfl) rfl
theorem q995 : (Jvm.Cond.instanceMethod ({ cls := "MaypoleGreen$Fool", name := "kind", desc := "()I" } : Jvm.MethodName)) ∈ lw_all := lw_g (lw_at lw_m4 197 rfl) rfl
theorem q996 : (Jvm.Cond.code ({ cls := "MaypoleGreen$Fool", name := "kind", desc := "()I" } : Jvm.MethodName) prog_5_method_2_code (1 : Nat) (Option.some Jvm.ClassFile.FieldType.int)) ∈ lw_all := lw_g (lw_at lw_m4 198 rfl) rfl
theorem q1620 : (Jvm.Cond.castable "MaypoleGreen$Fool" "MaypoleGreen$Dancer") ∈ lw_tbl := lw_at lw_m7 102 rfl
theorem q1623 : (Jvm.Cond.castable "MaypoleGreen$Fool" "MaypoleGreen$Leader") ∈ lw_tbl := lw_at lw_m7 105 rfl
theorem in_X7 : ∀ w ∈ wsX70, w ∈ lw_all := lw_in wsX70 [306, 307, 308, 309] (by decide +kernel) (by decide +kernel)

/-! MaypoleGreen$Piper -/
set_option maxRecDepth 100000
def RX8 : String := "MaypoleGreen$Piper"
def TX8 : u_T := fun k => match k with
  | 0 => ("MaypoleGreen$Dancer", "trace", "LMaypoleGreen$Trace;", true)
  | 1 => ("MaypoleGreen$Dancer", "number", "I", true)
  | 2 => ("MaypoleGreen$Dancer", "reach", "I", true)
  | _ => ("MaypoleGreen$Dancer", "pace", "I", true)
def tyX8 : Nat → FieldType := fun k => match k with
  | 0 => .object "MaypoleGreen$Trace"
  | 1 => .int
  | 2 => .int
  | _ => .int
abbrev wsX80 : List Cond := u_ws RX8 TX8 4
theorem nmX8 : ∀ a, a < 4 → ∀ b, b < 4 → a ≠ b → (TX8 a).2.1 ≠ (TX8 b).2.1 := by decide +kernel
theorem tyX8_ok : ∀ k, k < 4 → parseFieldDescriptor (TX8 k).2.2.1 = some (tyX8 k) := by decide +kernel
abbrev cX8_init : ByteArray := prog_11_method_1_code
def yX8_init : MethodName := ⟨RX8, "<init>", "(LMaypoleGreen$Trace;III)V"⟩
def dkwX8_init_0 : List UInt8 := [42, 43, 28, 29, 21, 4, 183, 0, 3, 177]
abbrev dktX8_init_0 : List UInt8 := dkwX8_init_0 ++ []
theorem dksX8_init_0 : cX8_init.data.toList.drop 0 = dktX8_init_0 := by decide +kernel
theorem dX8_init_0 : decode cX8_init 0 = .ok (.aload_n 0, 1) := dk_42 (dk_at dksX8_init_0 0 rfl rfl)
theorem dX8_init_1 : decode cX8_init 1 = .ok (.aload_n 1, 1) := dk_43 (dk_at dksX8_init_0 1 rfl rfl)
theorem dX8_init_2 : decode cX8_init 2 = .ok (.iload_n 2, 1) := dk_28 (dk_at dksX8_init_0 2 rfl rfl)
theorem dX8_init_3 : decode cX8_init 3 = .ok (.iload_n 3, 1) := dk_29 (dk_at dksX8_init_0 3 rfl rfl)
theorem dX8_init_4 : decode cX8_init 4 = .ok (.iload 4, 2) := dk_21 4 (dk_at dksX8_init_0 4 rfl rfl)
theorem dX8_init_6 : decode cX8_init 6 = .ok (.invokespecial 3, 3) := dk_183 0 3 (dk_at dksX8_init_0 6 rfl rfl)
theorem dX8_init_9 : decode cX8_init 9 = .ok (.return_, 1) := dk_177 (dk_at dksX8_init_0 9 rfl rfl)
abbrev cX8_rests : ByteArray := prog_11_method_3_code
def yX8_rests : MethodName := ⟨RX8, "rests", "(I)I"⟩
def dkwX8_rests_1 : List UInt8 := [172]
abbrev dktX8_rests_1 : List UInt8 := dkwX8_rests_1 ++ []
def dkwX8_rests_0 : List UInt8 := [42, 180, 0, 9, 16, 50, 182, 0, 15, 42, 27, 182, 0, 21, 61, 28, 42, 27, 4, 100, 183, 0, 25, 96]
abbrev dktX8_rests_0 : List UInt8 := dkwX8_rests_0 ++ dktX8_rests_1
theorem dksX8_rests_0 : cX8_rests.data.toList.drop 0 = dktX8_rests_0 := by decide +kernel
theorem dksX8_rests_1 : cX8_rests.data.toList.drop 24 = dktX8_rests_1 := dk_seg dksX8_rests_0 24 rfl rfl
theorem dX8_rests_0 : decode cX8_rests 0 = .ok (.aload_n 0, 1) := dk_42 (dk_at dksX8_rests_0 0 rfl rfl)
theorem dX8_rests_1 : decode cX8_rests 1 = .ok (.getfield 9, 3) := dk_180 0 9 (dk_at dksX8_rests_0 1 rfl rfl)
theorem dX8_rests_4 : decode cX8_rests 4 = .ok (.bipush 50, 2) := dk_16 50 (dk_at dksX8_rests_0 4 rfl rfl)
theorem dX8_rests_6 : decode cX8_rests 6 = .ok (.invokevirtual 15, 3) := dk_182 0 15 (dk_at dksX8_rests_0 6 rfl rfl)
theorem dX8_rests_9 : decode cX8_rests 9 = .ok (.aload_n 0, 1) := dk_42 (dk_at dksX8_rests_0 9 rfl rfl)
theorem dX8_rests_10 : decode cX8_rests 10 = .ok (.iload_n 1, 1) := dk_27 (dk_at dksX8_rests_0 10 rfl rfl)
theorem dX8_rests_11 : decode cX8_rests 11 = .ok (.invokevirtual 21, 3) := dk_182 0 21 (dk_at dksX8_rests_0 11 rfl rfl)
theorem dX8_rests_14 : decode cX8_rests 14 = .ok (.istore_n 2, 1) := dk_61 (dk_at dksX8_rests_0 14 rfl rfl)
theorem dX8_rests_15 : decode cX8_rests 15 = .ok (.iload_n 2, 1) := dk_28 (dk_at dksX8_rests_0 15 rfl rfl)
theorem dX8_rests_16 : decode cX8_rests 16 = .ok (.aload_n 0, 1) := dk_42 (dk_at dksX8_rests_0 16 rfl rfl)
theorem dX8_rests_17 : decode cX8_rests 17 = .ok (.iload_n 1, 1) := dk_27 (dk_at dksX8_rests_0 17 rfl rfl)
theorem dX8_rests_18 : decode cX8_rests 18 = .ok (.iconst 1, 1) := dk_4 (dk_at dksX8_rests_0 18 rfl rfl)
theorem dX8_rests_19 : decode cX8_rests 19 = .ok (.isub, 1) := dk_100 (dk_at dksX8_rests_0 19 rfl rfl)
theorem dX8_rests_20 : decode cX8_rests 20 = .ok (.invokespecial 25, 3) := dk_183 0 25 (dk_at dksX8_rests_0 20 rfl rfl)
theorem dX8_rests_23 : decode cX8_rests 23 = .ok (.iadd, 1) := dk_96 (dk_at dksX8_rests_0 23 rfl rfl)
theorem dX8_rests_24 : decode cX8_rests 24 = .ok (.ireturn, 1) := dk_172 (dk_at dksX8_rests_1 0 rfl rfl)
abbrev cX8_kind : ByteArray := prog_11_method_2_code
def yX8_kind : MethodName := ⟨RX8, "kind", "()I"⟩
theorem dX8_kind_0 : decode cX8_kind 0 = .ok (.iconst 4, 1) := by decide +kernel
theorem dX8_kind_1 : decode cX8_kind 1 = .ok (.ireturn, 1) := by decide +kernel
theorem q87 : (Jvm.Cond.initialized "MaypoleGreen$Piper") ∈ lw_all := lw_g (lw_at lw_m1 9 rfl) rfl
theorem q262 : (Jvm.Cond.fieldLink "MaypoleGreen$Piper" (9 : Nat) "MaypoleGreen$Piper" "trace" "LMaypoleGreen$Trace;") ∈ lw_all := lw_g (lw_at lw_m1 184 rfl) rfl
theorem q263 : (Jvm.Cond.sameField "MaypoleGreen$Piper" "MaypoleGreen$Dancer" "trace" "LMaypoleGreen$Trace;") ∈ lw_all := lw_g (lw_at lw_m1 185 rfl) rfl
theorem q312 : (Jvm.Cond.instantiable "MaypoleGreen$Piper" (4 : Nat)) ∈ lw_all := lw_g (lw_at lw_m1 234 rfl) rfl
theorem q314 : (Jvm.Cond.instanceMethod ({ cls := "MaypoleGreen$Piper", name := "<init>", desc := "(LMaypoleGreen$Trace;III)V" } : Jvm.MethodName)) ∈ lw_all := lw_g (lw_at lw_m1 236 rfl) rfl
theorem q315 : (Jvm.Cond.code ({ cls := "MaypoleGreen$Piper", name := "<init>", desc := "(LMaypoleGreen$Trace;III)V" } : Jvm.MethodName) prog_11_method_1_code (5 : Nat) (Option.none : Option Jvm.ClassFile.FieldType)) ∈ lw_all := lw_g (lw_at lw_m1 237 rfl) rfl
theorem q316 : (Jvm.Cond.methodLink "MaypoleGreen$Piper" (3 : Nat) ({ cls := "MaypoleGreen$Dancer", name := "<init>", desc := "(LMaypoleGreen$Trace;III)V" } : Jvm.MethodName)) ∈ lw_all := lw_g (lw_at lw_m1 238 rfl) rfl
theorem q317 : (Jvm.Cond.laysFinal "MaypoleGreen$Piper" "MaypoleGreen$Dancer" "trace" "LMaypoleGreen$Trace;") ∈ lw_all := lw_g (lw_at lw_m1 239 rfl) rfl
theorem q318 : (Jvm.Cond.laysFinal "MaypoleGreen$Piper" "MaypoleGreen$Dancer" "number" "I") ∈ lw_all := lw_g (lw_at lw_m2 0 rfl) rfl
theorem q319 : (Jvm.Cond.laysFinal "MaypoleGreen$Piper" "MaypoleGreen$Dancer" "reach" "I") ∈ lw_all := lw_g (lw_at lw_m2 1 rfl) rfl
theorem q320 : (Jvm.Cond.laysFinal "MaypoleGreen$Piper" "MaypoleGreen$Dancer" "pace" "I") ∈ lw_all := lw_g (lw_at lw_m2 2 rfl) rfl
theorem q321 : (Jvm.Cond.superclass "MaypoleGreen$Piper" "MaypoleGreen$Dancer") ∈ lw_all := lw_g (lw_at lw_m2 3 rfl) rfl
theorem q934 : (Jvm.Cond.selects "MaypoleGreen$Piper" ({ cls := "MaypoleGreen$Dancer", name := "greets", desc := "(I)I" } : Jvm.MethodName) ({ cls := "MaypoleGreen$Dancer", name := "greets", desc := "(I)I" } : Jvm.MethodName)) ∈ lw_all := lw_g (lw_at lw_m4 136 rfl) rfl
theorem q954 : (Jvm.Cond.selects "MaypoleGreen$Piper" ({ cls := "MaypoleGreen$Dancer", name := "leads", desc := "(I)I" } : Jvm.MethodName) ({ cls := "MaypoleGreen$Dancer", name := "leads", desc := "(I)I" } : Jvm.MethodName)) ∈ lw_all := lw_g (lw_at lw_m4 156 rfl) rfl
theorem q962 : (Jvm.Cond.selects "MaypoleGreen$Piper" ({ cls := "MaypoleGreen$Dancer", name := "rests", desc := "(I)I" } : Jvm.MethodName) ({ cls := "MaypoleGreen$Piper", name := "rests", desc := "(I)I" } : Jvm.MethodName)) ∈ lw_all := lw_g (lw_at lw_m4 164 rfl) rfl
theorem q963 : (Jvm.Cond.instanceMethod ({ cls := "MaypoleGreen$Piper", name := "rests", desc := "(I)I" } : Jvm.MethodName)) ∈ lw_all := lw_g (lw_at lw_m4 165 rfl) rfl
theorem q964 : (Jvm.Cond.code ({ cls := "MaypoleGreen$Piper", name := "rests", desc := "(I)I" } : Jvm.MethodName) prog_11_method_3_code (3 : Nat) (Option.some Jvm.ClassFile.FieldType.int)) ∈ lw_all := lw_g (lw_at lw_m4 166 rfl) rfl
theorem q965 : (Jvm.Cond.methodLink "MaypoleGreen$Piper" (15 : Nat) ({ cls := "MaypoleGreen$Trace", name := "ran", desc := "(I)V" } : Jvm.MethodName)) ∈ lw_all := lw_g (lw_at lw_m4 167 rfl) rfl
theorem q966 : (Jvm.Cond.methodLink "MaypoleGreen$Piper" (21 : Nat) ({ cls := "MaypoleGreen$Piper", name := "leads", desc := "(I)I" } : Jvm.MethodName)) ∈ lw_all := lw_g (lw_at lw_m4 168 rfl) rfl
theorem q967 : (Jvm.Cond.sameMethod "MaypoleGreen$Piper" "MaypoleGreen$Dancer" "leads" "(I)I") ∈ lw_all := lw_g (lw_at lw_m4 169 rfl) rfl
theorem q969 : (Jvm.Cond.selects "MaypoleGreen$Piper" ({ cls := "MaypoleGreen$Piper", name := "leads", desc := "(I)I" } : Jvm.MethodName) ({ cls := "MaypoleGreen$Dancer", name := "leads", desc := "(I)I" } : Jvm.MethodName)) ∈ lw_all := lw_g (lw_at lw_m4 171 rfl) rfl
theorem q970 : (Jvm.Cond.methodLink "MaypoleGreen$Piper" (25 : Nat) ({ cls := "MaypoleGreen$Dancer", name := "rests", desc := "(I)I" } : Jvm.MethodName)) ∈ lw_all := lw_g (lw_at lw_m4 172 rfl) rfl
theorem q1000 : (Jvm.Cond.selects "MaypoleGreen$Piper" ({ cls := "MaypoleGreen$Dancer", name := "kind", desc := "()I" } : Jvm.MethodName) ({ cls := "MaypoleGreen$Piper", name := "kind", desc := "()I" } : Jvm.MethodName)) ∈ lw_all := lw_g (lw_at lw_m4 202 rfl) rfl
theorem q1001 : (Jvm.Cond.instanceMethod ({ cls := "MaypoleGreen$Piper", name := "kind", desc := "()I" } : Jvm.MethodName)) ∈ lw_all := lw_g (lw_at lw_m4 203 rfl) rfl
theorem q1002 : (Jvm.Cond.code ({ cls := "MaypoleGreen$Piper", name := "kind", desc := "()I" } : Jvm.MethodName) prog_11_method_2_code (1 : Nat) (Option.some Jvm.ClassFile.FieldType.int)) ∈ lw_all := lw_g (lw_at lw_m4 204 rfl) rfl
theorem q1622 : (Jvm.Cond.castable "MaypoleGreen$Piper" "MaypoleGreen$Dancer") ∈ lw_tbl := lw_at lw_m7 104 rfl
theorem in_X8 : ∀ w ∈ wsX80, w ∈ lw_all := lw_in wsX80 [317, 318, 319, 320] (by decide +kernel) (by decide +kernel)

/-! MaypoleGreen$Round -/
set_option maxRecDepth 100000
def RX9 : String := "MaypoleGreen$Round"
def TX9 : u_T := fun k => match k with
  | 0 => ("MaypoleGreen$Round", "places", "I", true)
  | 1 => ("MaypoleGreen$Round", "ribbonAt", "[I", true)
  | 2 => ("MaypoleGreen$Round", "left", "[I", true)
  | 3 => ("MaypoleGreen$Round", "marks", "[I", true)
  | 4 => ("MaypoleGreen$Round", "ribbons", "[[I", true)
  | 5 => ("MaypoleGreen$Round", "rowMarks", "[[I", true)
  | 6 => ("MaypoleGreen$Round", "rows", "I", false)
  | _ => ("MaypoleGreen$Round", "done", "I", false)
def tyX9 : Nat → FieldType := fun k => match k with
  | 0 => .int
  | 1 => .array .int
  | 2 => .array .int
  | 3 => .array .int
  | 4 => .array (.array .int)
  | 5 => .array (.array .int)
  | 6 => .int
  | _ => .int
abbrev wsX90 : List Cond := u_ws RX9 TX9 8
theorem nmX9 : ∀ a, a < 8 → ∀ b, b < 8 → a ≠ b → (TX9 a).2.1 ≠ (TX9 b).2.1 := by decide +kernel
theorem tyX9_ok : ∀ k, k < 8 → parseFieldDescriptor (TX9 k).2.2.1 = some (tyX9 k) := by decide +kernel
abbrev cX9_init : ByteArray := prog_13_method_1_code
def yX9_init : MethodName := ⟨RX9, "<init>", "(I)V"⟩
def dkwX9_init_2 : List UInt8 := [197, 0, 21, 2, 181, 0, 26, 42, 27, 181, 0, 29, 177]
abbrev dktX9_init_2 : List UInt8 := dkwX9_init_2 ++ []
def dkwX9_init_1 : List UInt8 := [188, 10, 181, 0, 18, 42, 16, 100, 16, 9, 197, 0, 21, 2, 181, 0, 23, 42, 16, 100, 16, 9]
abbrev dktX9_init_1 : List UInt8 := dkwX9_init_1 ++ dktX9_init_2
def dkwX9_init_0 : List UInt8 := [42, 183, 0, 3, 42, 16, 9, 188, 10, 181, 0, 9, 42, 16, 9, 188, 10, 181, 0, 15, 42, 16, 9]
abbrev dktX9_init_0 : List UInt8 := dkwX9_init_0 ++ dktX9_init_1
theorem dksX9_init_0 : cX9_init.data.toList.drop 0 = dktX9_init_0 := by decide +kernel
theorem dksX9_init_1 : cX9_init.data.toList.drop 23 = dktX9_init_1 := dk_seg dksX9_init_0 23 rfl rfl
theorem dksX9_init_2 : cX9_init.data.toList.drop 45 = dktX9_init_2 := dk_seg dksX9_init_1 22 rfl rfl
theorem dX9_init_0 : decode cX9_init 0 = .ok (.aload_n 0, 1) := dk_42 (dk_at dksX9_init_0 0 rfl rfl)
theorem dX9_init_1 : decode cX9_init 1 = .ok (.invokespecial 3, 3) := dk_183 0 3 (dk_at dksX9_init_0 1 rfl rfl)
theorem dX9_init_4 : decode cX9_init 4 = .ok (.aload_n 0, 1) := dk_42 (dk_at dksX9_init_0 4 rfl rfl)
theorem dX9_init_5 : decode cX9_init 5 = .ok (.bipush 9, 2) := dk_16 9 (dk_at dksX9_init_0 5 rfl rfl)
theorem dX9_init_7 : decode cX9_init 7 = .ok (.newarray .int, 2) := dk_188_10 (dk_at dksX9_init_0 7 rfl rfl)
theorem dX9_init_9 : decode cX9_init 9 = .ok (.putfield 9, 3) := dk_181 0 9 (dk_at dksX9_init_0 9 rfl rfl)
theorem dX9_init_12 : decode cX9_init 12 = .ok (.aload_n 0, 1) := dk_42 (dk_at dksX9_init_0 12 rfl rfl)
theorem dX9_init_13 : decode cX9_init 13 = .ok (.bipush 9, 2) := dk_16 9 (dk_at dksX9_init_0 13 rfl rfl)
theorem dX9_init_15 : decode cX9_init 15 = .ok (.newarray .int, 2) := dk_188_10 (dk_at dksX9_init_0 15 rfl rfl)
theorem dX9_init_17 : decode cX9_init 17 = .ok (.putfield 15, 3) := dk_181 0 15 (dk_at dksX9_init_0 17 rfl rfl)
theorem dX9_init_20 : decode cX9_init 20 = .ok (.aload_n 0, 1) := dk_42 (dk_at dksX9_init_0 20 rfl rfl)
theorem dX9_init_21 : decode cX9_init 21 = .ok (.bipush 9, 2) := dk_16 9 (dk_at dksX9_init_0 21 rfl rfl)
theorem dX9_init_23 : decode cX9_init 23 = .ok (.newarray .int, 2) := dk_188_10 (dk_at dksX9_init_1 0 rfl rfl)
theorem dX9_init_25 : decode cX9_init 25 = .ok (.putfield 18, 3) := dk_181 0 18 (dk_at dksX9_init_1 2 rfl rfl)
theorem dX9_init_28 : decode cX9_init 28 = .ok (.aload_n 0, 1) := dk_42 (dk_at dksX9_init_1 5 rfl rfl)
theorem dX9_init_29 : decode cX9_init 29 = .ok (.bipush 100, 2) := dk_16 100 (dk_at dksX9_init_1 6 rfl rfl)
theorem dX9_init_31 : decode cX9_init 31 = .ok (.bipush 9, 2) := dk_16 9 (dk_at dksX9_init_1 8 rfl rfl)
theorem dX9_init_33 : decode cX9_init 33 = .ok (.multianewarray 21 2, 4) := by decide +kernel
theorem dX9_init_37 : decode cX9_init 37 = .ok (.putfield 23, 3) := dk_181 0 23 (dk_at dksX9_init_1 14 rfl rfl)
theorem dX9_init_40 : decode cX9_init 40 = .ok (.aload_n 0, 1) := dk_42 (dk_at dksX9_init_1 17 rfl rfl)
theorem dX9_init_41 : decode cX9_init 41 = .ok (.bipush 100, 2) := dk_16 100 (dk_at dksX9_init_1 18 rfl rfl)
theorem dX9_init_43 : decode cX9_init 43 = .ok (.bipush 9, 2) := dk_16 9 (dk_at dksX9_init_1 20 rfl rfl)
theorem dX9_init_45 : decode cX9_init 45 = .ok (.multianewarray 21 2, 4) := by decide +kernel
theorem dX9_init_49 : decode cX9_init 49 = .ok (.putfield 26, 3) := dk_181 0 26 (dk_at dksX9_init_2 4 rfl rfl)
theorem dX9_init_52 : decode cX9_init 52 = .ok (.aload_n 0, 1) := dk_42 (dk_at dksX9_init_2 7 rfl rfl)
theorem dX9_init_53 : decode cX9_init 53 = .ok (.iload_n 1, 1) := dk_27 (dk_at dksX9_init_2 8 rfl rfl)
theorem dX9_init_54 : decode cX9_init 54 = .ok (.putfield 29, 3) := dk_181 0 29 (dk_at dksX9_init_2 9 rfl rfl)
theorem dX9_init_57 : decode cX9_init 57 = .ok (.return_, 1) := dk_177 (dk_at dksX9_init_2 12 rfl rfl)
abbrev cX9_begins : ByteArray := prog_13_method_2_code
def yX9_begins : MethodName := ⟨RX9, "begins", "([I)V"⟩
def dkwX9_begins_2 : List UInt8 := [181, 0, 36, 177]
abbrev dktX9_begins_2 : List UInt8 := dkwX9_begins_2 ++ []
def dkwX9_begins_1 : List UInt8 := [46, 79, 42, 180, 0, 18, 28, 3, 79, 132, 2, 1, 167, 255, 222, 42, 3, 181, 0, 33, 42, 3]
abbrev dktX9_begins_1 : List UInt8 := dkwX9_begins_1 ++ dktX9_begins_2
def dkwX9_begins_0 : List UInt8 := [3, 61, 28, 42, 180, 0, 29, 162, 0, 32, 42, 180, 0, 9, 28, 28, 79, 42, 180, 0, 15, 28, 43, 28]
abbrev dktX9_begins_0 : List UInt8 := dkwX9_begins_0 ++ dktX9_begins_1
theorem dksX9_begins_0 : cX9_begins.data.toList.drop 0 = dktX9_begins_0 := by decide +kernel
theorem dksX9_begins_1 : cX9_begins.data.toList.drop 24 = dktX9_begins_1 := dk_seg dksX9_begins_0 24 rfl rfl
theorem dksX9_begins_2 : cX9_begins.data.toList.drop 46 = dktX9_begins_2 := dk_seg dksX9_begins_1 22 rfl rfl
theorem dX9_begins_0 : decode cX9_begins 0 = .ok (.iconst 0, 1) := dk_3 (dk_at dksX9_begins_0 0 rfl rfl)
theorem dX9_begins_1 : decode cX9_begins 1 = .ok (.istore_n 2, 1) := dk_61 (dk_at dksX9_begins_0 1 rfl rfl)
theorem dX9_begins_2 : decode cX9_begins 2 = .ok (.iload_n 2, 1) := dk_28 (dk_at dksX9_begins_0 2 rfl rfl)
theorem dX9_begins_3 : decode cX9_begins 3 = .ok (.aload_n 0, 1) := dk_42 (dk_at dksX9_begins_0 3 rfl rfl)
theorem dX9_begins_4 : decode cX9_begins 4 = .ok (.getfield 29, 3) := dk_180 0 29 (dk_at dksX9_begins_0 4 rfl rfl)
theorem dX9_begins_7 : decode cX9_begins 7 = .ok (.if_icmp .ge 32, 3) := dk_162 0 32 (dk_at dksX9_begins_0 7 rfl rfl)
theorem dX9_begins_10 : decode cX9_begins 10 = .ok (.aload_n 0, 1) := dk_42 (dk_at dksX9_begins_0 10 rfl rfl)
theorem dX9_begins_11 : decode cX9_begins 11 = .ok (.getfield 9, 3) := dk_180 0 9 (dk_at dksX9_begins_0 11 rfl rfl)
theorem dX9_begins_14 : decode cX9_begins 14 = .ok (.iload_n 2, 1) := dk_28 (dk_at dksX9_begins_0 14 rfl rfl)
theorem dX9_begins_15 : decode cX9_begins 15 = .ok (.iload_n 2, 1) := dk_28 (dk_at dksX9_begins_0 15 rfl rfl)
theorem dX9_begins_16 : decode cX9_begins 16 = .ok (.iastore, 1) := dk_79 (dk_at dksX9_begins_0 16 rfl rfl)
theorem dX9_begins_17 : decode cX9_begins 17 = .ok (.aload_n 0, 1) := dk_42 (dk_at dksX9_begins_0 17 rfl rfl)
theorem dX9_begins_18 : decode cX9_begins 18 = .ok (.getfield 15, 3) := dk_180 0 15 (dk_at dksX9_begins_0 18 rfl rfl)
theorem dX9_begins_21 : decode cX9_begins 21 = .ok (.iload_n 2, 1) := dk_28 (dk_at dksX9_begins_0 21 rfl rfl)
theorem dX9_begins_22 : decode cX9_begins 22 = .ok (.aload_n 1, 1) := dk_43 (dk_at dksX9_begins_0 22 rfl rfl)
theorem dX9_begins_23 : decode cX9_begins 23 = .ok (.iload_n 2, 1) := dk_28 (dk_at dksX9_begins_0 23 rfl rfl)
theorem dX9_begins_24 : decode cX9_begins 24 = .ok (.iaload, 1) := dk_46 (dk_at dksX9_begins_1 0 rfl rfl)
theorem dX9_begins_25 : decode cX9_begins 25 = .ok (.iastore, 1) := dk_79 (dk_at dksX9_begins_1 1 rfl rfl)
theorem dX9_begins_26 : decode cX9_begins 26 = .ok (.aload_n 0, 1) := dk_42 (dk_at dksX9_begins_1 2 rfl rfl)
theorem dX9_begins_27 : decode cX9_begins 27 = .ok (.getfield 18, 3) := dk_180 0 18 (dk_at dksX9_begins_1 3 rfl rfl)
theorem dX9_begins_30 : decode cX9_begins 30 = .ok (.iload_n 2, 1) := dk_28 (dk_at dksX9_begins_1 6 rfl rfl)
theorem dX9_begins_31 : decode cX9_begins 31 = .ok (.iconst 0, 1) := dk_3 (dk_at dksX9_begins_1 7 rfl rfl)
theorem dX9_begins_32 : decode cX9_begins 32 = .ok (.iastore, 1) := dk_79 (dk_at dksX9_begins_1 8 rfl rfl)
theorem dX9_begins_33 : decode cX9_begins 33 = .ok (.iinc 2 1, 3) := dk_132 2 1 (dk_at dksX9_begins_1 9 rfl rfl)
theorem dX9_begins_36 : decode cX9_begins 36 = .ok (.goto (-34), 3) := dk_167 255 222 (dk_at dksX9_begins_1 12 rfl rfl)
theorem dX9_begins_39 : decode cX9_begins 39 = .ok (.aload_n 0, 1) := dk_42 (dk_at dksX9_begins_1 15 rfl rfl)
theorem dX9_begins_40 : decode cX9_begins 40 = .ok (.iconst 0, 1) := dk_3 (dk_at dksX9_begins_1 16 rfl rfl)
theorem dX9_begins_41 : decode cX9_begins 41 = .ok (.putfield 33, 3) := dk_181 0 33 (dk_at dksX9_begins_1 17 rfl rfl)
theorem dX9_begins_44 : decode cX9_begins 44 = .ok (.aload_n 0, 1) := dk_42 (dk_at dksX9_begins_1 20 rfl rfl)
theorem dX9_begins_45 : decode cX9_begins 45 = .ok (.iconst 0, 1) := dk_3 (dk_at dksX9_begins_1 21 rfl rfl)
theorem dX9_begins_46 : decode cX9_begins 46 = .ok (.putfield 36, 3) := dk_181 0 36 (dk_at dksX9_begins_2 0 rfl rfl)
theorem dX9_begins_49 : decode cX9_begins 49 = .ok (.return_, 1) := dk_177 (dk_at dksX9_begins_2 3 rfl rfl)
abbrev cX9_refuses : ByteArray := prog_13_method_4_code
def yX9_refuses : MethodName := ⟨RX9, "refuses", "(I)I"⟩
def dkwX9_refuses_7 : List UInt8 := [180, 0, 33, 16, 100, 160, 0, 8, 16, 252, 167, 0, 4, 3, 172]
abbrev dktX9_refuses_7 : List UInt8 := dkwX9_refuses_7 ++ []
def dkwX9_refuses_6 : List UInt8 := [167, 255, 224, 28, 153, 0, 8, 16, 253, 167, 0, 28, 42, 180, 0, 36, 17, 1, 44, 159, 0, 12, 42]
abbrev dktX9_refuses_6 : List UInt8 := dkwX9_refuses_6 ++ dktX9_refuses_7
def dkwX9_refuses_5 : List UInt8 := [180, 0, 15, 29, 46, 42, 182, 0, 39, 162, 0, 7, 4, 167, 0, 4, 3, 128, 61, 132, 3, 1]
abbrev dktX9_refuses_5 : List UInt8 := dkwX9_refuses_5 ++ dktX9_refuses_6
def dkwX9_refuses_4 : List UInt8 := [160, 0, 8, 16, 252, 167, 0, 4, 3, 172, 3, 61, 3, 62, 29, 42, 180, 0, 29, 162, 0, 30, 28, 42]
abbrev dktX9_refuses_4 : List UInt8 := dkwX9_refuses_4 ++ dktX9_refuses_5
def dkwX9_refuses_3 : List UInt8 := [167, 0, 4, 3, 54, 5, 21, 5, 153, 0, 8, 16, 253, 167, 0, 19, 42, 180, 0, 36, 17, 1, 44]
abbrev dktX9_refuses_3 : List UInt8 := dkwX9_refuses_3 ++ dktX9_refuses_4
def dkwX9_refuses_2 : List UInt8 := [161, 0, 23, 42, 180, 0, 15, 42, 180, 0, 9, 28, 29, 96, 21, 4, 100, 46, 46, 5, 162, 0, 7, 4]
abbrev dktX9_refuses_2 : List UInt8 := dkwX9_refuses_2 ++ dktX9_refuses_3
def dkwX9_refuses_1 : List UInt8 := [154, 0, 7, 28, 167, 0, 4, 29, 54, 4, 42, 180, 0, 15, 42, 180, 0, 9, 21, 4, 46, 46, 4]
abbrev dktX9_refuses_1 : List UInt8 := dkwX9_refuses_1 ++ dktX9_refuses_2
def dkwX9_refuses_0 : List UInt8 := [27, 16, 100, 162, 0, 101, 27, 16, 10, 108, 61, 28, 4, 96, 42, 180, 0, 29, 112, 62, 27, 16, 10, 112]
abbrev dktX9_refuses_0 : List UInt8 := dkwX9_refuses_0 ++ dktX9_refuses_1
theorem dksX9_refuses_0 : cX9_refuses.data.toList.drop 0 = dktX9_refuses_0 := by decide +kernel
theorem dksX9_refuses_1 : cX9_refuses.data.toList.drop 24 = dktX9_refuses_1 := dk_seg dksX9_refuses_0 24 rfl rfl
theorem dksX9_refuses_2 : cX9_refuses.data.toList.drop 47 = dktX9_refuses_2 := dk_seg dksX9_refuses_1 23 rfl rfl
theorem dksX9_refuses_3 : cX9_refuses.data.toList.drop 71 = dktX9_refuses_3 := dk_seg dksX9_refuses_2 24 rfl rfl
theorem dksX9_refuses_4 : cX9_refuses.data.toList.drop 94 = dktX9_refuses_4 := dk_seg dksX9_refuses_3 23 rfl rfl
theorem dksX9_refuses_5 : cX9_refuses.data.toList.drop 118 = dktX9_refuses_5 := dk_seg dksX9_refuses_4 24 rfl rfl
theorem dksX9_refuses_6 : cX9_refuses.data.toList.drop 140 = dktX9_refuses_6 := dk_seg dksX9_refuses_5 22 rfl rfl
theorem dksX9_refuses_7 : cX9_refuses.data.toList.drop 163 = dktX9_refuses_7 := dk_seg dksX9_refuses_6 23 rfl rfl
theorem dX9_refuses_0 : decode cX9_refuses 0 = .ok (.iload_n 1, 1) := dk_27 (dk_at dksX9_refuses_0 0 rfl rfl)
theorem dX9_refuses_1 : decode cX9_refuses 1 = .ok (.bipush 100, 2) := dk_16 100 (dk_at dksX9_refuses_0 1 rfl rfl)
theorem dX9_refuses_3 : decode cX9_refuses 3 = .ok (.if_icmp .ge 101, 3) := dk_162 0 101 (dk_at dksX9_refuses_0 3 rfl rfl)
theorem dX9_refuses_6 : decode cX9_refuses 6 = .ok (.iload_n 1, 1) := dk_27 (dk_at dksX9_refuses_0 6 rfl rfl)
theorem dX9_refuses_7 : decode cX9_refuses 7 = .ok (.bipush 10, 2) := dk_16 10 (dk_at dksX9_refuses_0 7 rfl rfl)
theorem dX9_refuses_9 : decode cX9_refuses 9 = .ok (.idiv, 1) := dk_108 (dk_at dksX9_refuses_0 9 rfl rfl)
theorem dX9_refuses_10 : decode cX9_refuses 10 = .ok (.istore_n 2, 1) := dk_61 (dk_at dksX9_refuses_0 10 rfl rfl)
theorem dX9_refuses_11 : decode cX9_refuses 11 = .ok (.iload_n 2, 1) := dk_28 (dk_at dksX9_refuses_0 11 rfl rfl)
theorem dX9_refuses_12 : decode cX9_refuses 12 = .ok (.iconst 1, 1) := dk_4 (dk_at dksX9_refuses_0 12 rfl rfl)
theorem dX9_refuses_13 : decode cX9_refuses 13 = .ok (.iadd, 1) := dk_96 (dk_at dksX9_refuses_0 13 rfl rfl)
theorem dX9_refuses_14 : decode cX9_refuses 14 = .ok (.aload_n 0, 1) := dk_42 (dk_at dksX9_refuses_0 14 rfl rfl)
theorem dX9_refuses_15 : decode cX9_refuses 15 = .ok (.getfield 29, 3) := dk_180 0 29 (dk_at dksX9_refuses_0 15 rfl rfl)
theorem dX9_refuses_18 : decode cX9_refuses 18 = .ok (.irem, 1) := dk_112 (dk_at dksX9_refuses_0 18 rfl rfl)
theorem dX9_refuses_19 : decode cX9_refuses 19 = .ok (.istore_n 3, 1) := dk_62 (dk_at dksX9_refuses_0 19 rfl rfl)
theorem dX9_refuses_20 : decode cX9_refuses 20 = .ok (.iload_n 1, 1) := dk_27 (dk_at dksX9_refuses_0 20 rfl rfl)
theorem dX9_refuses_21 : decode cX9_refuses 21 = .ok (.bipush 10, 2) := dk_16 10 (dk_at dksX9_refuses_0 21 rfl rfl)
theorem dX9_refuses_23 : decode cX9_refuses 23 = .ok (.irem, 1) := dk_112 (dk_at dksX9_refuses_0 23 rfl rfl)
theorem dX9_refuses_24 : decode cX9_refuses 24 = .ok (.ifCond .ne 7, 3) := dk_154 0 7 (dk_at dksX9_refuses_1 0 rfl rfl)
theorem dX9_refuses_27 : decode cX9_refuses 27 = .ok (.iload_n 2, 1) := dk_28 (dk_at dksX9_refuses_1 3 rfl rfl)
theorem dX9_refuses_28 : decode cX9_refuses 28 = .ok (.goto 4, 3) := dk_167 0 4 (dk_at dksX9_refuses_1 4 rfl rfl)
theorem dX9_refuses_31 : decode cX9_refuses 31 = .ok (.iload_n 3, 1) := dk_29 (dk_at dksX9_refuses_1 7 rfl rfl)
theorem dX9_refuses_32 : decode cX9_refuses 32 = .ok (.istore 4, 2) := dk_54 4 (dk_at dksX9_refuses_1 8 rfl rfl)
theorem dX9_refuses_34 : decode cX9_refuses 34 = .ok (.aload_n 0, 1) := dk_42 (dk_at dksX9_refuses_1 10 rfl rfl)
theorem dX9_refuses_35 : decode cX9_refuses 35 = .ok (.getfield 15, 3) := dk_180 0 15 (dk_at dksX9_refuses_1 11 rfl rfl)
theorem dX9_refuses_38 : decode cX9_refuses 38 = .ok (.aload_n 0, 1) := dk_42 (dk_at dksX9_refuses_1 14 rfl rfl)
theorem dX9_refuses_39 : decode cX9_refuses 39 = .ok (.getfield 9, 3) := dk_180 0 9 (dk_at dksX9_refuses_1 15 rfl rfl)
theorem dX9_refuses_42 : decode cX9_refuses 42 = .ok (.iload 4, 2) := dk_21 4 (dk_at dksX9_refuses_1 18 rfl rfl)
theorem dX9_refuses_44 : decode cX9_refuses 44 = .ok (.iaload, 1) := dk_46 (dk_at dksX9_refuses_1 20 rfl rfl)
theorem dX9_refuses_45 : decode cX9_refuses 45 = .ok (.iaload, 1) := dk_46 (dk_at dksX9_refuses_1 21 rfl rfl)
theorem dX9_refuses_46 : decode cX9_refuses 46 = .ok (.iconst 1, 1) := dk_4 (dk_at dksX9_refuses_1 22 rfl rfl)
theorem dX9_refuses_47 : decode cX9_refuses 47 = .ok (.if_icmp .lt 23, 3) := dk_161 0 23 (dk_at dksX9_refuses_2 0 rfl rfl)
theorem dX9_refuses_50 : decode cX9_refuses 50 = .ok (.aload_n 0, 1) := dk_42 (dk_at dksX9_refuses_2 3 rfl rfl)
theorem dX9_refuses_51 : decode cX9_refuses 51 = .ok (.getfield 15, 3) := dk_180 0 15 (dk_at dksX9_refuses_2 4 rfl rfl)
theorem dX9_refuses_54 : decode cX9_refuses 54 = .ok (.aload_n 0, 1) := dk_42 (dk_at dksX9_refuses_2 7 rfl rfl)
theorem dX9_refuses_55 : decode cX9_refuses 55 = .ok (.getfield 9, 3) := dk_180 0 9 (dk_at dksX9_refuses_2 8 rfl rfl)
theorem dX9_refuses_58 : decode cX9_refuses 58 = .ok (.iload_n 2, 1) := dk_28 (dk_at dksX9_refuses_2 11 rfl rfl)
theorem dX9_refuses_59 : decode cX9_refuses 59 = .ok (.iload_n 3, 1) := dk_29 (dk_at dksX9_refuses_2 12 rfl rfl)
theorem dX9_refuses_60 : decode cX9_refuses 60 = .ok (.iadd, 1) := dk_96 (dk_at dksX9_refuses_2 13 rfl rfl)
theorem dX9_refuses_61 : decode cX9_refuses 61 = .ok (.iload 4, 2) := dk_21 4 (dk_at dksX9_refuses_2 14 rfl rfl)
theorem dX9_refuses_63 : decode cX9_refuses 63 = .ok (.isub, 1) := dk_100 (dk_at dksX9_refuses_2 16 rfl rfl)
theorem dX9_refuses_64 : decode cX9_refuses 64 = .ok (.iaload, 1) := dk_46 (dk_at dksX9_refuses_2 17 rfl rfl)
theorem dX9_refuses_65 : decode cX9_refuses 65 = .ok (.iaload, 1) := dk_46 (dk_at dksX9_refuses_2 18 rfl rfl)
theorem dX9_refuses_66 : decode cX9_refuses 66 = .ok (.iconst 2, 1) := dk_5 (dk_at dksX9_refuses_2 19 rfl rfl)
theorem dX9_refuses_67 : decode cX9_refuses 67 = .ok (.if_icmp .ge 7, 3) := dk_162 0 7 (dk_at dksX9_refuses_2 20 rfl rfl)
theorem dX9_refuses_70 : decode cX9_refuses 70 = .ok (.iconst 1, 1) := dk_4 (dk_at dksX9_refuses_2 23 rfl rfl)
theorem dX9_refuses_71 : decode cX9_refuses 71 = .ok (.goto 4, 3) := dk_167 0 4 (dk_at dksX9_refuses_3 0 rfl rfl)
theorem dX9_refuses_74 : decode cX9_refuses 74 = .ok (.iconst 0, 1) := dk_3 (dk_at dksX9_refuses_3 3 rfl rfl)
theorem dX9_refuses_75 : decode cX9_refuses 75 = .ok (.istore 5, 2) := dk_54 5 (dk_at dksX9_refuses_3 4 rfl rfl)
theorem dX9_refuses_77 : decode cX9_refuses 77 = .ok (.iload 5, 2) := dk_21 5 (dk_at dksX9_refuses_3 6 rfl rfl)
theorem dX9_refuses_79 : decode cX9_refuses 79 = .ok (.ifCond .eq 8, 3) := dk_153 0 8 (dk_at dksX9_refuses_3 8 rfl rfl)
theorem dX9_refuses_82 : decode cX9_refuses 82 = .ok (.bipush (-3), 2) := dk_16 253 (dk_at dksX9_refuses_3 11 rfl rfl)
theorem dX9_refuses_84 : decode cX9_refuses 84 = .ok (.goto 19, 3) := dk_167 0 19 (dk_at dksX9_refuses_3 13 rfl rfl)
theorem dX9_refuses_87 : decode cX9_refuses 87 = .ok (.aload_n 0, 1) := dk_42 (dk_at dksX9_refuses_3 16 rfl rfl)
theorem dX9_refuses_88 : decode cX9_refuses 88 = .ok (.getfield 36, 3) := dk_180 0 36 (dk_at dksX9_refuses_3 17 rfl rfl)
theorem dX9_refuses_91 : decode cX9_refuses 91 = .ok (.sipush 300, 3) := dk_17 1 44 (dk_at dksX9_refuses_3 20 rfl rfl)
theorem dX9_refuses_94 : decode cX9_refuses 94 = .ok (.if_icmp .ne 8, 3) := dk_160 0 8 (dk_at dksX9_refuses_4 0 rfl rfl)
theorem dX9_refuses_97 : decode cX9_refuses 97 = .ok (.bipush (-4), 2) := dk_16 252 (dk_at dksX9_refuses_4 3 rfl rfl)
theorem dX9_refuses_99 : decode cX9_refuses 99 = .ok (.goto 4, 3) := dk_167 0 4 (dk_at dksX9_refuses_4 5 rfl rfl)
theorem dX9_refuses_102 : decode cX9_refuses 102 = .ok (.iconst 0, 1) := dk_3 (dk_at dksX9_refuses_4 8 rfl rfl)
theorem dX9_refuses_103 : decode cX9_refuses 103 = .ok (.ireturn, 1) := dk_172 (dk_at dksX9_refuses_4 9 rfl rfl)
theorem dX9_refuses_104 : decode cX9_refuses 104 = .ok (.iconst 0, 1) := dk_3 (dk_at dksX9_refuses_4 10 rfl rfl)
theorem dX9_refuses_105 : decode cX9_refuses 105 = .ok (.istore_n 2, 1) := dk_61 (dk_at dksX9_refuses_4 11 rfl rfl)
theorem dX9_refuses_106 : decode cX9_refuses 106 = .ok (.iconst 0, 1) := dk_3 (dk_at dksX9_refuses_4 12 rfl rfl)
theorem dX9_refuses_107 : decode cX9_refuses 107 = .ok (.istore_n 3, 1) := dk_62 (dk_at dksX9_refuses_4 13 rfl rfl)
theorem dX9_refuses_108 : decode cX9_refuses 108 = .ok (.iload_n 3, 1) := dk_29 (dk_at dksX9_refuses_4 14 rfl rfl)
theorem dX9_refuses_109 : decode cX9_refuses 109 = .ok (.aload_n 0, 1) := dk_42 (dk_at dksX9_refuses_4 15 rfl rfl)
theorem dX9_refuses_110 : decode cX9_refuses 110 = .ok (.getfield 29, 3) := dk_180 0 29 (dk_at dksX9_refuses_4 16 rfl rfl)
theorem dX9_refuses_113 : decode cX9_refuses 113 = .ok (.if_icmp .ge 30, 3) := dk_162 0 30 (dk_at dksX9_refuses_4 19 rfl rfl)
theorem dX9_refuses_116 : decode cX9_refuses 116 = .ok (.iload_n 2, 1) := dk_28 (dk_at dksX9_refuses_4 22 rfl rfl)
theorem dX9_refuses_117 : decode cX9_refuses 117 = .ok (.aload_n 0, 1) := dk_42 (dk_at dksX9_refuses_4 23 rfl rfl)
theorem dX9_refuses_118 : decode cX9_refuses 118 = .ok (.getfield 15, 3) := dk_180 0 15 (dk_at dksX9_refuses_5 0 rfl rfl)
theorem dX9_refuses_121 : decode cX9_refuses 121 = .ok (.iload_n 3, 1) := dk_29 (dk_at dksX9_refuses_5 3 rfl rfl)
theorem dX9_refuses_122 : decode cX9_refuses 122 = .ok (.iaload, 1) := dk_46 (dk_at dksX9_refuses_5 4 rfl rfl)
theorem dX9_refuses_123 : decode cX9_refuses 123 = .ok (.aload_n 0, 1) := dk_42 (dk_at dksX9_refuses_5 5 rfl rfl)
theorem dX9_refuses_124 : decode cX9_refuses 124 = .ok (.invokevirtual 39, 3) := dk_182 0 39 (dk_at dksX9_refuses_5 6 rfl rfl)
theorem dX9_refuses_127 : decode cX9_refuses 127 = .ok (.if_icmp .ge 7, 3) := dk_162 0 7 (dk_at dksX9_refuses_5 9 rfl rfl)
theorem dX9_refuses_130 : decode cX9_refuses 130 = .ok (.iconst 1, 1) := dk_4 (dk_at dksX9_refuses_5 12 rfl rfl)
theorem dX9_refuses_131 : decode cX9_refuses 131 = .ok (.goto 4, 3) := dk_167 0 4 (dk_at dksX9_refuses_5 13 rfl rfl)
theorem dX9_refuses_134 : decode cX9_refuses 134 = .ok (.iconst 0, 1) := dk_3 (dk_at dksX9_refuses_5 16 rfl rfl)
theorem dX9_refuses_135 : decode cX9_refuses 135 = .ok (.ior, 1) := dk_128 (dk_at dksX9_refuses_5 17 rfl rfl)
theorem dX9_refuses_136 : decode cX9_refuses 136 = .ok (.istore_n 2, 1) := dk_61 (dk_at dksX9_refuses_5 18 rfl rfl)
theorem dX9_refuses_137 : decode cX9_refuses 137 = .ok (.iinc 3 1, 3) := dk_132 3 1 (dk_at dksX9_refuses_5 19 rfl rfl)
theorem dX9_refuses_140 : decode cX9_refuses 140 = .ok (.goto (-32), 3) := dk_167 255 224 (dk_at dksX9_refuses_6 0 rfl rfl)
theorem dX9_refuses_143 : decode cX9_refuses 143 = .ok (.iload_n 2, 1) := dk_28 (dk_at dksX9_refuses_6 3 rfl rfl)
theorem dX9_refuses_144 : decode cX9_refuses 144 = .ok (.ifCond .eq 8, 3) := dk_153 0 8 (dk_at dksX9_refuses_6 4 rfl rfl)
theorem dX9_refuses_147 : decode cX9_refuses 147 = .ok (.bipush (-3), 2) := dk_16 253 (dk_at dksX9_refuses_6 7 rfl rfl)
theorem dX9_refuses_149 : decode cX9_refuses 149 = .ok (.goto 28, 3) := dk_167 0 28 (dk_at dksX9_refuses_6 9 rfl rfl)
theorem dX9_refuses_152 : decode cX9_refuses 152 = .ok (.aload_n 0, 1) := dk_42 (dk_at dksX9_refuses_6 12 rfl rfl)
theorem dX9_refuses_153 : decode cX9_refuses 153 = .ok (.getfield 36, 3) := dk_180 0 36 (dk_at dksX9_refuses_6 13 rfl rfl)
theorem dX9_refuses_156 : decode cX9_refuses 156 = .ok (.sipush 300, 3) := dk_17 1 44 (dk_at dksX9_refuses_6 16 rfl rfl)
theorem dX9_refuses_159 : decode cX9_refuses 159 = .ok (.if_icmp .eq 12, 3) := dk_159 0 12 (dk_at dksX9_refuses_6 19 rfl rfl)
theorem dX9_refuses_162 : decode cX9_refuses 162 = .ok (.aload_n 0, 1) := dk_42 (dk_at dksX9_refuses_6 22 rfl rfl)
theorem dX9_refuses_163 : decode cX9_refuses 163 = .ok (.getfield 33, 3) := dk_180 0 33 (dk_at dksX9_refuses_7 0 rfl rfl)
theorem dX9_refuses_166 : decode cX9_refuses 166 = .ok (.bipush 100, 2) := dk_16 100 (dk_at dksX9_refuses_7 3 rfl rfl)
theorem dX9_refuses_168 : decode cX9_refuses 168 = .ok (.if_icmp .ne 8, 3) := dk_160 0 8 (dk_at dksX9_refuses_7 5 rfl rfl)
theorem dX9_refuses_171 : decode cX9_refuses 171 = .ok (.bipush (-4), 2) := dk_16 252 (dk_at dksX9_refuses_7 8 rfl rfl)
theorem dX9_refuses_173 : decode cX9_refuses 173 = .ok (.goto 4, 3) := dk_167 0 4 (dk_at dksX9_refuses_7 10 rfl rfl)
theorem dX9_refuses_176 : decode cX9_refuses 176 = .ok (.iconst 0, 1) := dk_3 (dk_at dksX9_refuses_7 13 rfl rfl)
theorem dX9_refuses_177 : decode cX9_refuses 177 = .ok (.ireturn, 1) := dk_172 (dk_at dksX9_refuses_7 14 rfl rfl)
abbrev cX9_girth : ByteArray := prog_13_method_3_code
def yX9_girth : MethodName := ⟨RX9, "girth", "()I"⟩
def dkwX9_girth_0 : List UInt8 := [16, 10, 42, 180, 0, 33, 6, 108, 96, 172]
abbrev dktX9_girth_0 : List UInt8 := dkwX9_girth_0 ++ []
theorem dksX9_girth_0 : cX9_girth.data.toList.drop 0 = dktX9_girth_0 := by decide +kernel
theorem dX9_girth_0 : decode cX9_girth 0 = .ok (.bipush 10, 2) := dk_16 10 (dk_at dksX9_girth_0 0 rfl rfl)
theorem dX9_girth_2 : decode cX9_girth 2 = .ok (.aload_n 0, 1) := dk_42 (dk_at dksX9_girth_0 2 rfl rfl)
theorem dX9_girth_3 : decode cX9_girth 3 = .ok (.getfield 33, 3) := dk_180 0 33 (dk_at dksX9_girth_0 3 rfl rfl)
theorem dX9_girth_6 : decode cX9_girth 6 = .ok (.iconst 3, 1) := dk_6 (dk_at dksX9_girth_0 6 rfl rfl)
theorem dX9_girth_7 : decode cX9_girth 7 = .ok (.idiv, 1) := dk_108 (dk_at dksX9_girth_0 7 rfl rfl)
theorem dX9_girth_8 : decode cX9_girth 8 = .ok (.iadd, 1) := dk_96 (dk_at dksX9_girth_0 8 rfl rfl)
theorem dX9_girth_9 : decode cX9_girth 9 = .ok (.ireturn, 1) := dk_172 (dk_at dksX9_girth_0 9 rfl rfl)
abbrev cX9_does : ByteArray := prog_13_method_5_code
def yX9_does : MethodName := ⟨RX9, "does", "(I)V"⟩
def dkwX9_does_2 : List UInt8 := [182, 0, 47, 177]
abbrev dktX9_does_2 : List UInt8 := dkwX9_does_2 ++ []
def dkwX9_does_1 : List UInt8 := [112, 182, 0, 43, 167, 0, 23, 42, 27, 16, 100, 160, 0, 7, 4, 167, 0, 9, 42, 180, 0, 29, 4, 100]
abbrev dktX9_does_1 : List UInt8 := dkwX9_does_1 ++ dktX9_does_2
def dkwX9_does_0 : List UInt8 := [42, 89, 180, 0, 36, 4, 96, 181, 0, 36, 27, 16, 100, 162, 0, 18, 42, 27, 16, 10, 108, 27, 16, 10]
abbrev dktX9_does_0 : List UInt8 := dkwX9_does_0 ++ dktX9_does_1
theorem dksX9_does_0 : cX9_does.data.toList.drop 0 = dktX9_does_0 := by decide +kernel
theorem dksX9_does_1 : cX9_does.data.toList.drop 24 = dktX9_does_1 := dk_seg dksX9_does_0 24 rfl rfl
theorem dksX9_does_2 : cX9_does.data.toList.drop 48 = dktX9_does_2 := dk_seg dksX9_does_1 24 rfl rfl
theorem dX9_does_0 : decode cX9_does 0 = .ok (.aload_n 0, 1) := dk_42 (dk_at dksX9_does_0 0 rfl rfl)
theorem dX9_does_1 : decode cX9_does 1 = .ok (.dup, 1) := dk_89 (dk_at dksX9_does_0 1 rfl rfl)
theorem dX9_does_2 : decode cX9_does 2 = .ok (.getfield 36, 3) := dk_180 0 36 (dk_at dksX9_does_0 2 rfl rfl)
theorem dX9_does_5 : decode cX9_does 5 = .ok (.iconst 1, 1) := dk_4 (dk_at dksX9_does_0 5 rfl rfl)
theorem dX9_does_6 : decode cX9_does 6 = .ok (.iadd, 1) := dk_96 (dk_at dksX9_does_0 6 rfl rfl)
theorem dX9_does_7 : decode cX9_does 7 = .ok (.putfield 36, 3) := dk_181 0 36 (dk_at dksX9_does_0 7 rfl rfl)
theorem dX9_does_10 : decode cX9_does 10 = .ok (.iload_n 1, 1) := dk_27 (dk_at dksX9_does_0 10 rfl rfl)
theorem dX9_does_11 : decode cX9_does 11 = .ok (.bipush 100, 2) := dk_16 100 (dk_at dksX9_does_0 11 rfl rfl)
theorem dX9_does_13 : decode cX9_does 13 = .ok (.if_icmp .ge 18, 3) := dk_162 0 18 (dk_at dksX9_does_0 13 rfl rfl)
theorem dX9_does_16 : decode cX9_does 16 = .ok (.aload_n 0, 1) := dk_42 (dk_at dksX9_does_0 16 rfl rfl)
theorem dX9_does_17 : decode cX9_does 17 = .ok (.iload_n 1, 1) := dk_27 (dk_at dksX9_does_0 17 rfl rfl)
theorem dX9_does_18 : decode cX9_does 18 = .ok (.bipush 10, 2) := dk_16 10 (dk_at dksX9_does_0 18 rfl rfl)
theorem dX9_does_20 : decode cX9_does 20 = .ok (.idiv, 1) := dk_108 (dk_at dksX9_does_0 20 rfl rfl)
theorem dX9_does_21 : decode cX9_does 21 = .ok (.iload_n 1, 1) := dk_27 (dk_at dksX9_does_0 21 rfl rfl)
theorem dX9_does_22 : decode cX9_does 22 = .ok (.bipush 10, 2) := dk_16 10 (dk_at dksX9_does_0 22 rfl rfl)
theorem dX9_does_24 : decode cX9_does 24 = .ok (.irem, 1) := dk_112 (dk_at dksX9_does_1 0 rfl rfl)
theorem dX9_does_25 : decode cX9_does 25 = .ok (.invokevirtual 43, 3) := dk_182 0 43 (dk_at dksX9_does_1 1 rfl rfl)
theorem dX9_does_28 : decode cX9_does 28 = .ok (.goto 23, 3) := dk_167 0 23 (dk_at dksX9_does_1 4 rfl rfl)
theorem dX9_does_31 : decode cX9_does 31 = .ok (.aload_n 0, 1) := dk_42 (dk_at dksX9_does_1 7 rfl rfl)
theorem dX9_does_32 : decode cX9_does 32 = .ok (.iload_n 1, 1) := dk_27 (dk_at dksX9_does_1 8 rfl rfl)
theorem dX9_does_33 : decode cX9_does 33 = .ok (.bipush 100, 2) := dk_16 100 (dk_at dksX9_does_1 9 rfl rfl)
theorem dX9_does_35 : decode cX9_does 35 = .ok (.if_icmp .ne 7, 3) := dk_160 0 7 (dk_at dksX9_does_1 11 rfl rfl)
theorem dX9_does_38 : decode cX9_does 38 = .ok (.iconst 1, 1) := dk_4 (dk_at dksX9_does_1 14 rfl rfl)
theorem dX9_does_39 : decode cX9_does 39 = .ok (.goto 9, 3) := dk_167 0 9 (dk_at dksX9_does_1 15 rfl rfl)
theorem dX9_does_42 : decode cX9_does 42 = .ok (.aload_n 0, 1) := dk_42 (dk_at dksX9_does_1 18 rfl rfl)
theorem dX9_does_43 : decode cX9_does 43 = .ok (.getfield 29, 3) := dk_180 0 29 (dk_at dksX9_does_1 19 rfl rfl)
theorem dX9_does_46 : decode cX9_does 46 = .ok (.iconst 1, 1) := dk_4 (dk_at dksX9_does_1 22 rfl rfl)
theorem dX9_does_47 : decode cX9_does 47 = .ok (.isub, 1) := dk_100 (dk_at dksX9_does_1 23 rfl rfl)
theorem dX9_does_48 : decode cX9_does 48 = .ok (.invokevirtual 47, 3) := dk_182 0 47 (dk_at dksX9_does_2 0 rfl rfl)
theorem dX9_does_51 : decode cX9_does 51 = .ok (.return_, 1) := dk_177 (dk_at dksX9_does_2 3 rfl rfl)
abbrev cX9_passes : ByteArray := prog_13_method_6_code
def yX9_passes : MethodName := ⟨RX9, "passes", "(II)V"⟩
def dkwX9_passes_3 : List UInt8 := [21, 5, 79, 42, 180, 0, 9, 29, 21, 4, 79, 42, 180, 0, 18, 27, 4, 28, 96, 79, 177]
abbrev dktX9_passes_3 : List UInt8 := dkwX9_passes_3 ++ []
def dkwX9_passes_2 : List UInt8 := [180, 0, 15, 21, 5, 92, 46, 28, 154, 0, 7, 5, 167, 0, 4, 4, 100, 79, 42, 180, 0, 9, 27]
abbrev dktX9_passes_2 : List UInt8 := dkwX9_passes_2 ++ dktX9_passes_3
def dkwX9_passes_1 : List UInt8 := [54, 5, 42, 180, 0, 15, 21, 4, 92, 46, 28, 154, 0, 7, 4, 167, 0, 4, 5, 100, 79, 42]
abbrev dktX9_passes_1 : List UInt8 := dkwX9_passes_1 ++ dktX9_passes_2
def dkwX9_passes_0 : List UInt8 := [27, 4, 96, 42, 180, 0, 29, 112, 62, 42, 180, 0, 9, 27, 46, 54, 4, 42, 180, 0, 9, 29, 46]
abbrev dktX9_passes_0 : List UInt8 := dkwX9_passes_0 ++ dktX9_passes_1
theorem dksX9_passes_0 : cX9_passes.data.toList.drop 0 = dktX9_passes_0 := by decide +kernel
theorem dksX9_passes_1 : cX9_passes.data.toList.drop 23 = dktX9_passes_1 := dk_seg dksX9_passes_0 23 rfl rfl
theorem dksX9_passes_2 : cX9_passes.data.toList.drop 45 = dktX9_passes_2 := dk_seg dksX9_passes_1 22 rfl rfl
theorem dksX9_passes_3 : cX9_passes.data.toList.drop 68 = dktX9_passes_3 := dk_seg dksX9_passes_2 23 rfl rfl
theorem dX9_passes_0 : decode cX9_passes 0 = .ok (.iload_n 1, 1) := dk_27 (dk_at dksX9_passes_0 0 rfl rfl)
theorem dX9_passes_1 : decode cX9_passes 1 = .ok (.iconst 1, 1) := dk_4 (dk_at dksX9_passes_0 1 rfl rfl)
theorem dX9_passes_2 : decode cX9_passes 2 = .ok (.iadd, 1) := dk_96 (dk_at dksX9_passes_0 2 rfl rfl)
theorem dX9_passes_3 : decode cX9_passes 3 = .ok (.aload_n 0, 1) := dk_42 (dk_at dksX9_passes_0 3 rfl rfl)
theorem dX9_passes_4 : decode cX9_passes 4 = .ok (.getfield 29, 3) := dk_180 0 29 (dk_at dksX9_passes_0 4 rfl rfl)
theorem dX9_passes_7 : decode cX9_passes 7 = .ok (.irem, 1) := dk_112 (dk_at dksX9_passes_0 7 rfl rfl)
theorem dX9_passes_8 : decode cX9_passes 8 = .ok (.istore_n 3, 1) := dk_62 (dk_at dksX9_passes_0 8 rfl rfl)
theorem dX9_passes_9 : decode cX9_passes 9 = .ok (.aload_n 0, 1) := dk_42 (dk_at dksX9_passes_0 9 rfl rfl)
theorem dX9_passes_10 : decode cX9_passes 10 = .ok (.getfield 9, 3) := dk_180 0 9 (dk_at dksX9_passes_0 10 rfl rfl)
theorem dX9_passes_13 : decode cX9_passes 13 = .ok (.iload_n 1, 1) := dk_27 (dk_at dksX9_passes_0 13 rfl rfl)
theorem dX9_passes_14 : decode cX9_passes 14 = .ok (.iaload, 1) := dk_46 (dk_at dksX9_passes_0 14 rfl rfl)
theorem dX9_passes_15 : decode cX9_passes 15 = .ok (.istore 4, 2) := dk_54 4 (dk_at dksX9_passes_0 15 rfl rfl)
theorem dX9_passes_17 : decode cX9_passes 17 = .ok (.aload_n 0, 1) := dk_42 (dk_at dksX9_passes_0 17 rfl rfl)
theorem dX9_passes_18 : decode cX9_passes 18 = .ok (.getfield 9, 3) := dk_180 0 9 (dk_at dksX9_passes_0 18 rfl rfl)
theorem dX9_passes_21 : decode cX9_passes 21 = .ok (.iload_n 3, 1) := dk_29 (dk_at dksX9_passes_0 21 rfl rfl)
theorem dX9_passes_22 : decode cX9_passes 22 = .ok (.iaload, 1) := dk_46 (dk_at dksX9_passes_0 22 rfl rfl)
theorem dX9_passes_23 : decode cX9_passes 23 = .ok (.istore 5, 2) := dk_54 5 (dk_at dksX9_passes_1 0 rfl rfl)
theorem dX9_passes_25 : decode cX9_passes 25 = .ok (.aload_n 0, 1) := dk_42 (dk_at dksX9_passes_1 2 rfl rfl)
theorem dX9_passes_26 : decode cX9_passes 26 = .ok (.getfield 15, 3) := dk_180 0 15 (dk_at dksX9_passes_1 3 rfl rfl)
theorem dX9_passes_29 : decode cX9_passes 29 = .ok (.iload 4, 2) := dk_21 4 (dk_at dksX9_passes_1 6 rfl rfl)
theorem dX9_passes_31 : decode cX9_passes 31 = .ok (.dup2, 1) := dk_92 (dk_at dksX9_passes_1 8 rfl rfl)
theorem dX9_passes_32 : decode cX9_passes 32 = .ok (.iaload, 1) := dk_46 (dk_at dksX9_passes_1 9 rfl rfl)
theorem dX9_passes_33 : decode cX9_passes 33 = .ok (.iload_n 2, 1) := dk_28 (dk_at dksX9_passes_1 10 rfl rfl)
theorem dX9_passes_34 : decode cX9_passes 34 = .ok (.ifCond .ne 7, 3) := dk_154 0 7 (dk_at dksX9_passes_1 11 rfl rfl)
theorem dX9_passes_37 : decode cX9_passes 37 = .ok (.iconst 1, 1) := dk_4 (dk_at dksX9_passes_1 14 rfl rfl)
theorem dX9_passes_38 : decode cX9_passes 38 = .ok (.goto 4, 3) := dk_167 0 4 (dk_at dksX9_passes_1 15 rfl rfl)
theorem dX9_passes_41 : decode cX9_passes 41 = .ok (.iconst 2, 1) := dk_5 (dk_at dksX9_passes_1 18 rfl rfl)
theorem dX9_passes_42 : decode cX9_passes 42 = .ok (.isub, 1) := dk_100 (dk_at dksX9_passes_1 19 rfl rfl)
theorem dX9_passes_43 : decode cX9_passes 43 = .ok (.iastore, 1) := dk_79 (dk_at dksX9_passes_1 20 rfl rfl)
theorem dX9_passes_44 : decode cX9_passes 44 = .ok (.aload_n 0, 1) := dk_42 (dk_at dksX9_passes_1 21 rfl rfl)
theorem dX9_passes_45 : decode cX9_passes 45 = .ok (.getfield 15, 3) := dk_180 0 15 (dk_at dksX9_passes_2 0 rfl rfl)
theorem dX9_passes_48 : decode cX9_passes 48 = .ok (.iload 5, 2) := dk_21 5 (dk_at dksX9_passes_2 3 rfl rfl)
theorem dX9_passes_50 : decode cX9_passes 50 = .ok (.dup2, 1) := dk_92 (dk_at dksX9_passes_2 5 rfl rfl)
theorem dX9_passes_51 : decode cX9_passes 51 = .ok (.iaload, 1) := dk_46 (dk_at dksX9_passes_2 6 rfl rfl)
theorem dX9_passes_52 : decode cX9_passes 52 = .ok (.iload_n 2, 1) := dk_28 (dk_at dksX9_passes_2 7 rfl rfl)
theorem dX9_passes_53 : decode cX9_passes 53 = .ok (.ifCond .ne 7, 3) := dk_154 0 7 (dk_at dksX9_passes_2 8 rfl rfl)
theorem dX9_passes_56 : decode cX9_passes 56 = .ok (.iconst 2, 1) := dk_5 (dk_at dksX9_passes_2 11 rfl rfl)
theorem dX9_passes_57 : decode cX9_passes 57 = .ok (.goto 4, 3) := dk_167 0 4 (dk_at dksX9_passes_2 12 rfl rfl)
theorem dX9_passes_60 : decode cX9_passes 60 = .ok (.iconst 1, 1) := dk_4 (dk_at dksX9_passes_2 15 rfl rfl)
theorem dX9_passes_61 : decode cX9_passes 61 = .ok (.isub, 1) := dk_100 (dk_at dksX9_passes_2 16 rfl rfl)
theorem dX9_passes_62 : decode cX9_passes 62 = .ok (.iastore, 1) := dk_79 (dk_at dksX9_passes_2 17 rfl rfl)
theorem dX9_passes_63 : decode cX9_passes 63 = .ok (.aload_n 0, 1) := dk_42 (dk_at dksX9_passes_2 18 rfl rfl)
theorem dX9_passes_64 : decode cX9_passes 64 = .ok (.getfield 9, 3) := dk_180 0 9 (dk_at dksX9_passes_2 19 rfl rfl)
theorem dX9_passes_67 : decode cX9_passes 67 = .ok (.iload_n 1, 1) := dk_27 (dk_at dksX9_passes_2 22 rfl rfl)
theorem dX9_passes_68 : decode cX9_passes 68 = .ok (.iload 5, 2) := dk_21 5 (dk_at dksX9_passes_3 0 rfl rfl)
theorem dX9_passes_70 : decode cX9_passes 70 = .ok (.iastore, 1) := dk_79 (dk_at dksX9_passes_3 2 rfl rfl)
theorem dX9_passes_71 : decode cX9_passes 71 = .ok (.aload_n 0, 1) := dk_42 (dk_at dksX9_passes_3 3 rfl rfl)
theorem dX9_passes_72 : decode cX9_passes 72 = .ok (.getfield 9, 3) := dk_180 0 9 (dk_at dksX9_passes_3 4 rfl rfl)
theorem dX9_passes_75 : decode cX9_passes 75 = .ok (.iload_n 3, 1) := dk_29 (dk_at dksX9_passes_3 7 rfl rfl)
theorem dX9_passes_76 : decode cX9_passes 76 = .ok (.iload 4, 2) := dk_21 4 (dk_at dksX9_passes_3 8 rfl rfl)
theorem dX9_passes_78 : decode cX9_passes 78 = .ok (.iastore, 1) := dk_79 (dk_at dksX9_passes_3 10 rfl rfl)
theorem dX9_passes_79 : decode cX9_passes 79 = .ok (.aload_n 0, 1) := dk_42 (dk_at dksX9_passes_3 11 rfl rfl)
theorem dX9_passes_80 : decode cX9_passes 80 = .ok (.getfield 18, 3) := dk_180 0 18 (dk_at dksX9_passes_3 12 rfl rfl)
theorem dX9_passes_83 : decode cX9_passes 83 = .ok (.iload_n 1, 1) := dk_27 (dk_at dksX9_passes_3 15 rfl rfl)
theorem dX9_passes_84 : decode cX9_passes 84 = .ok (.iconst 1, 1) := dk_4 (dk_at dksX9_passes_3 16 rfl rfl)
theorem dX9_passes_85 : decode cX9_passes 85 = .ok (.iload_n 2, 1) := dk_28 (dk_at dksX9_passes_3 17 rfl rfl)
theorem dX9_passes_86 : decode cX9_passes 86 = .ok (.iadd, 1) := dk_96 (dk_at dksX9_passes_3 18 rfl rfl)
theorem dX9_passes_87 : decode cX9_passes 87 = .ok (.iastore, 1) := dk_79 (dk_at dksX9_passes_3 19 rfl rfl)
theorem dX9_passes_88 : decode cX9_passes 88 = .ok (.return_, 1) := dk_177 (dk_at dksX9_passes_3 20 rfl rfl)
abbrev cX9_walks : ByteArray := prog_13_method_7_code
def yX9_walks : MethodName := ⟨RX9, "walks", "(I)V"⟩
def dkwX9_walks_4 : List UInt8 := [180, 0, 29, 184, 0, 51, 42, 89, 180, 0, 33, 4, 96, 181, 0, 33, 177]
abbrev dktX9_walks_4 : List UInt8 := dkwX9_walks_4 ++ []
def dkwX9_walks_3 : List UInt8 := [79, 132, 3, 1, 167, 255, 187, 42, 180, 0, 23, 42, 180, 0, 33, 50, 3, 42, 180, 0, 9, 3, 42]
abbrev dktX9_walks_3 : List UInt8 := dkwX9_walks_3 ++ dktX9_walks_4
def dkwX9_walks_2 : List UInt8 := [79, 42, 180, 0, 26, 42, 180, 0, 33, 50, 29, 42, 180, 0, 18, 29, 46, 79, 42, 180, 0, 18, 29, 3]
abbrev dktX9_walks_2 : List UInt8 := dkwX9_walks_2 ++ dktX9_walks_3
def dkwX9_walks_1 : List UInt8 := [79, 42, 180, 0, 23, 42, 180, 0, 33, 50, 29, 27, 96, 42, 180, 0, 29, 112, 42, 180, 0, 9, 29, 46]
abbrev dktX9_walks_1 : List UInt8 := dkwX9_walks_1 ++ dktX9_walks_2
def dkwX9_walks_0 : List UInt8 := [42, 182, 0, 39, 61, 3, 62, 29, 42, 180, 0, 29, 162, 0, 67, 42, 180, 0, 15, 29, 92, 46, 28, 100]
abbrev dktX9_walks_0 : List UInt8 := dkwX9_walks_0 ++ dktX9_walks_1
theorem dksX9_walks_0 : cX9_walks.data.toList.drop 0 = dktX9_walks_0 := by decide +kernel
theorem dksX9_walks_1 : cX9_walks.data.toList.drop 24 = dktX9_walks_1 := dk_seg dksX9_walks_0 24 rfl rfl
theorem dksX9_walks_2 : cX9_walks.data.toList.drop 48 = dktX9_walks_2 := dk_seg dksX9_walks_1 24 rfl rfl
theorem dksX9_walks_3 : cX9_walks.data.toList.drop 72 = dktX9_walks_3 := dk_seg dksX9_walks_2 24 rfl rfl
theorem dksX9_walks_4 : cX9_walks.data.toList.drop 95 = dktX9_walks_4 := dk_seg dksX9_walks_3 23 rfl rfl
theorem dX9_walks_0 : decode cX9_walks 0 = .ok (.aload_n 0, 1) := dk_42 (dk_at dksX9_walks_0 0 rfl rfl)
theorem dX9_walks_1 : decode cX9_walks 1 = .ok (.invokevirtual 39, 3) := dk_182 0 39 (dk_at dksX9_walks_0 1 rfl rfl)
theorem dX9_walks_4 : decode cX9_walks 4 = .ok (.istore_n 2, 1) := dk_61 (dk_at dksX9_walks_0 4 rfl rfl)
theorem dX9_walks_5 : decode cX9_walks 5 = .ok (.iconst 0, 1) := dk_3 (dk_at dksX9_walks_0 5 rfl rfl)
theorem dX9_walks_6 : decode cX9_walks 6 = .ok (.istore_n 3, 1) := dk_62 (dk_at dksX9_walks_0 6 rfl rfl)
theorem dX9_walks_7 : decode cX9_walks 7 = .ok (.iload_n 3, 1) := dk_29 (dk_at dksX9_walks_0 7 rfl rfl)
theorem dX9_walks_8 : decode cX9_walks 8 = .ok (.aload_n 0, 1) := dk_42 (dk_at dksX9_walks_0 8 rfl rfl)
theorem dX9_walks_9 : decode cX9_walks 9 = .ok (.getfield 29, 3) := dk_180 0 29 (dk_at dksX9_walks_0 9 rfl rfl)
theorem dX9_walks_12 : decode cX9_walks 12 = .ok (.if_icmp .ge 67, 3) := dk_162 0 67 (dk_at dksX9_walks_0 12 rfl rfl)
theorem dX9_walks_15 : decode cX9_walks 15 = .ok (.aload_n 0, 1) := dk_42 (dk_at dksX9_walks_0 15 rfl rfl)
theorem dX9_walks_16 : decode cX9_walks 16 = .ok (.getfield 15, 3) := dk_180 0 15 (dk_at dksX9_walks_0 16 rfl rfl)
theorem dX9_walks_19 : decode cX9_walks 19 = .ok (.iload_n 3, 1) := dk_29 (dk_at dksX9_walks_0 19 rfl rfl)
theorem dX9_walks_20 : decode cX9_walks 20 = .ok (.dup2, 1) := dk_92 (dk_at dksX9_walks_0 20 rfl rfl)
theorem dX9_walks_21 : decode cX9_walks 21 = .ok (.iaload, 1) := dk_46 (dk_at dksX9_walks_0 21 rfl rfl)
theorem dX9_walks_22 : decode cX9_walks 22 = .ok (.iload_n 2, 1) := dk_28 (dk_at dksX9_walks_0 22 rfl rfl)
theorem dX9_walks_23 : decode cX9_walks 23 = .ok (.isub, 1) := dk_100 (dk_at dksX9_walks_0 23 rfl rfl)
theorem dX9_walks_24 : decode cX9_walks 24 = .ok (.iastore, 1) := dk_79 (dk_at dksX9_walks_1 0 rfl rfl)
theorem dX9_walks_25 : decode cX9_walks 25 = .ok (.aload_n 0, 1) := dk_42 (dk_at dksX9_walks_1 1 rfl rfl)
theorem dX9_walks_26 : decode cX9_walks 26 = .ok (.getfield 23, 3) := dk_180 0 23 (dk_at dksX9_walks_1 2 rfl rfl)
theorem dX9_walks_29 : decode cX9_walks 29 = .ok (.aload_n 0, 1) := dk_42 (dk_at dksX9_walks_1 5 rfl rfl)
theorem dX9_walks_30 : decode cX9_walks 30 = .ok (.getfield 33, 3) := dk_180 0 33 (dk_at dksX9_walks_1 6 rfl rfl)
theorem dX9_walks_33 : decode cX9_walks 33 = .ok (.aaload, 1) := dk_50 (dk_at dksX9_walks_1 9 rfl rfl)
theorem dX9_walks_34 : decode cX9_walks 34 = .ok (.iload_n 3, 1) := dk_29 (dk_at dksX9_walks_1 10 rfl rfl)
theorem dX9_walks_35 : decode cX9_walks 35 = .ok (.iload_n 1, 1) := dk_27 (dk_at dksX9_walks_1 11 rfl rfl)
theorem dX9_walks_36 : decode cX9_walks 36 = .ok (.iadd, 1) := dk_96 (dk_at dksX9_walks_1 12 rfl rfl)
theorem dX9_walks_37 : decode cX9_walks 37 = .ok (.aload_n 0, 1) := dk_42 (dk_at dksX9_walks_1 13 rfl rfl)
theorem dX9_walks_38 : decode cX9_walks 38 = .ok (.getfield 29, 3) := dk_180 0 29 (dk_at dksX9_walks_1 14 rfl rfl)
theorem dX9_walks_41 : decode cX9_walks 41 = .ok (.irem, 1) := dk_112 (dk_at dksX9_walks_1 17 rfl rfl)
theorem dX9_walks_42 : decode cX9_walks 42 = .ok (.aload_n 0, 1) := dk_42 (dk_at dksX9_walks_1 18 rfl rfl)
theorem dX9_walks_43 : decode cX9_walks 43 = .ok (.getfield 9, 3) := dk_180 0 9 (dk_at dksX9_walks_1 19 rfl rfl)
theorem dX9_walks_46 : decode cX9_walks 46 = .ok (.iload_n 3, 1) := dk_29 (dk_at dksX9_walks_1 22 rfl rfl)
theorem dX9_walks_47 : decode cX9_walks 47 = .ok (.iaload, 1) := dk_46 (dk_at dksX9_walks_1 23 rfl rfl)
theorem dX9_walks_48 : decode cX9_walks 48 = .ok (.iastore, 1) := dk_79 (dk_at dksX9_walks_2 0 rfl rfl)
theorem dX9_walks_49 : decode cX9_walks 49 = .ok (.aload_n 0, 1) := dk_42 (dk_at dksX9_walks_2 1 rfl rfl)
theorem dX9_walks_50 : decode cX9_walks 50 = .ok (.getfield 26, 3) := dk_180 0 26 (dk_at dksX9_walks_2 2 rfl rfl)
theorem dX9_walks_53 : decode cX9_walks 53 = .ok (.aload_n 0, 1) := dk_42 (dk_at dksX9_walks_2 5 rfl rfl)
theorem dX9_walks_54 : decode cX9_walks 54 = .ok (.getfield 33, 3) := dk_180 0 33 (dk_at dksX9_walks_2 6 rfl rfl)
theorem dX9_walks_57 : decode cX9_walks 57 = .ok (.aaload, 1) := dk_50 (dk_at dksX9_walks_2 9 rfl rfl)
theorem dX9_walks_58 : decode cX9_walks 58 = .ok (.iload_n 3, 1) := dk_29 (dk_at dksX9_walks_2 10 rfl rfl)
theorem dX9_walks_59 : decode cX9_walks 59 = .ok (.aload_n 0, 1) := dk_42 (dk_at dksX9_walks_2 11 rfl rfl)
theorem dX9_walks_60 : decode cX9_walks 60 = .ok (.getfield 18, 3) := dk_180 0 18 (dk_at dksX9_walks_2 12 rfl rfl)
theorem dX9_walks_63 : decode cX9_walks 63 = .ok (.iload_n 3, 1) := dk_29 (dk_at dksX9_walks_2 15 rfl rfl)
theorem dX9_walks_64 : decode cX9_walks 64 = .ok (.iaload, 1) := dk_46 (dk_at dksX9_walks_2 16 rfl rfl)
theorem dX9_walks_65 : decode cX9_walks 65 = .ok (.iastore, 1) := dk_79 (dk_at dksX9_walks_2 17 rfl rfl)
theorem dX9_walks_66 : decode cX9_walks 66 = .ok (.aload_n 0, 1) := dk_42 (dk_at dksX9_walks_2 18 rfl rfl)
theorem dX9_walks_67 : decode cX9_walks 67 = .ok (.getfield 18, 3) := dk_180 0 18 (dk_at dksX9_walks_2 19 rfl rfl)
theorem dX9_walks_70 : decode cX9_walks 70 = .ok (.iload_n 3, 1) := dk_29 (dk_at dksX9_walks_2 22 rfl rfl)
theorem dX9_walks_71 : decode cX9_walks 71 = .ok (.iconst 0, 1) := dk_3 (dk_at dksX9_walks_2 23 rfl rfl)
theorem dX9_walks_72 : decode cX9_walks 72 = .ok (.iastore, 1) := dk_79 (dk_at dksX9_walks_3 0 rfl rfl)
theorem dX9_walks_73 : decode cX9_walks 73 = .ok (.iinc 3 1, 3) := dk_132 3 1 (dk_at dksX9_walks_3 1 rfl rfl)
theorem dX9_walks_76 : decode cX9_walks 76 = .ok (.goto (-69), 3) := dk_167 255 187 (dk_at dksX9_walks_3 4 rfl rfl)
theorem dX9_walks_79 : decode cX9_walks 79 = .ok (.aload_n 0, 1) := dk_42 (dk_at dksX9_walks_3 7 rfl rfl)
theorem dX9_walks_80 : decode cX9_walks 80 = .ok (.getfield 23, 3) := dk_180 0 23 (dk_at dksX9_walks_3 8 rfl rfl)
theorem dX9_walks_83 : decode cX9_walks 83 = .ok (.aload_n 0, 1) := dk_42 (dk_at dksX9_walks_3 11 rfl rfl)
theorem dX9_walks_84 : decode cX9_walks 84 = .ok (.getfield 33, 3) := dk_180 0 33 (dk_at dksX9_walks_3 12 rfl rfl)
theorem dX9_walks_87 : decode cX9_walks 87 = .ok (.aaload, 1) := dk_50 (dk_at dksX9_walks_3 15 rfl rfl)
theorem dX9_walks_88 : decode cX9_walks 88 = .ok (.iconst 0, 1) := dk_3 (dk_at dksX9_walks_3 16 rfl rfl)
theorem dX9_walks_89 : decode cX9_walks 89 = .ok (.aload_n 0, 1) := dk_42 (dk_at dksX9_walks_3 17 rfl rfl)
theorem dX9_walks_90 : decode cX9_walks 90 = .ok (.getfield 9, 3) := dk_180 0 9 (dk_at dksX9_walks_3 18 rfl rfl)
theorem dX9_walks_93 : decode cX9_walks 93 = .ok (.iconst 0, 1) := dk_3 (dk_at dksX9_walks_3 21 rfl rfl)
theorem dX9_walks_94 : decode cX9_walks 94 = .ok (.aload_n 0, 1) := dk_42 (dk_at dksX9_walks_3 22 rfl rfl)
theorem dX9_walks_95 : decode cX9_walks 95 = .ok (.getfield 29, 3) := dk_180 0 29 (dk_at dksX9_walks_4 0 rfl rfl)
theorem dX9_walks_98 : decode cX9_walks 98 = .ok (.invokestatic 51, 3) := dk_184 0 51 (dk_at dksX9_walks_4 3 rfl rfl)
theorem dX9_walks_101 : decode cX9_walks 101 = .ok (.aload_n 0, 1) := dk_42 (dk_at dksX9_walks_4 6 rfl rfl)
theorem dX9_walks_102 : decode cX9_walks 102 = .ok (.dup, 1) := dk_89 (dk_at dksX9_walks_4 7 rfl rfl)
theorem dX9_walks_103 : decode cX9_walks 103 = .ok (.getfield 33, 3) := dk_180 0 33 (dk_at dksX9_walks_4 8 rfl rfl)
theorem dX9_walks_106 : decode cX9_walks 106 = .ok (.iconst 1, 1) := dk_4 (dk_at dksX9_walks_4 11 rfl rfl)
theorem dX9_walks_107 : decode cX9_walks 107 = .ok (.iadd, 1) := dk_96 (dk_at dksX9_walks_4 12 rfl rfl)
theorem dX9_walks_108 : decode cX9_walks 108 = .ok (.putfield 33, 3) := dk_181 0 33 (dk_at dksX9_walks_4 13 rfl rfl)
theorem dX9_walks_111 : decode cX9_walks 111 = .ok (.return_, 1) := dk_177 (dk_at dksX9_walks_4 16 rfl rfl)
abbrev cX9_top : ByteArray := prog_13_method_8_code
def yX9_top : MethodName := ⟨RX9, "top", "(II)I"⟩
def dkwX9_top_2 : List UInt8 := [29, 153, 0, 14, 28, 4, 96, 42, 180, 0, 29, 112, 167, 0, 4, 28, 46, 172]
abbrev dktX9_top_2 : List UInt8 := dkwX9_top_2 ++ []
def dkwX9_top_1 : List UInt8 := [4, 100, 42, 180, 0, 29, 112, 46, 5, 159, 0, 7, 4, 167, 0, 4, 3, 62, 42, 180, 0, 23, 27, 50]
abbrev dktX9_top_1 : List UInt8 := dkwX9_top_1 ++ dktX9_top_2
def dkwX9_top_0 : List UInt8 := [42, 180, 0, 26, 27, 50, 28, 46, 4, 160, 0, 31, 42, 180, 0, 26, 27, 50, 28, 42, 180, 0, 29, 96]
abbrev dktX9_top_0 : List UInt8 := dkwX9_top_0 ++ dktX9_top_1
theorem dksX9_top_0 : cX9_top.data.toList.drop 0 = dktX9_top_0 := by decide +kernel
theorem dksX9_top_1 : cX9_top.data.toList.drop 24 = dktX9_top_1 := dk_seg dksX9_top_0 24 rfl rfl
theorem dksX9_top_2 : cX9_top.data.toList.drop 48 = dktX9_top_2 := dk_seg dksX9_top_1 24 rfl rfl
theorem dX9_top_0 : decode cX9_top 0 = .ok (.aload_n 0, 1) := dk_42 (dk_at dksX9_top_0 0 rfl rfl)
theorem dX9_top_1 : decode cX9_top 1 = .ok (.getfield 26, 3) := dk_180 0 26 (dk_at dksX9_top_0 1 rfl rfl)
theorem dX9_top_4 : decode cX9_top 4 = .ok (.iload_n 1, 1) := dk_27 (dk_at dksX9_top_0 4 rfl rfl)
theorem dX9_top_5 : decode cX9_top 5 = .ok (.aaload, 1) := dk_50 (dk_at dksX9_top_0 5 rfl rfl)
theorem dX9_top_6 : decode cX9_top 6 = .ok (.iload_n 2, 1) := dk_28 (dk_at dksX9_top_0 6 rfl rfl)
theorem dX9_top_7 : decode cX9_top 7 = .ok (.iaload, 1) := dk_46 (dk_at dksX9_top_0 7 rfl rfl)
theorem dX9_top_8 : decode cX9_top 8 = .ok (.iconst 1, 1) := dk_4 (dk_at dksX9_top_0 8 rfl rfl)
theorem dX9_top_9 : decode cX9_top 9 = .ok (.if_icmp .ne 31, 3) := dk_160 0 31 (dk_at dksX9_top_0 9 rfl rfl)
theorem dX9_top_12 : decode cX9_top 12 = .ok (.aload_n 0, 1) := dk_42 (dk_at dksX9_top_0 12 rfl rfl)
theorem dX9_top_13 : decode cX9_top 13 = .ok (.getfield 26, 3) := dk_180 0 26 (dk_at dksX9_top_0 13 rfl rfl)
theorem dX9_top_16 : decode cX9_top 16 = .ok (.iload_n 1, 1) := dk_27 (dk_at dksX9_top_0 16 rfl rfl)
theorem dX9_top_17 : decode cX9_top 17 = .ok (.aaload, 1) := dk_50 (dk_at dksX9_top_0 17 rfl rfl)
theorem dX9_top_18 : decode cX9_top 18 = .ok (.iload_n 2, 1) := dk_28 (dk_at dksX9_top_0 18 rfl rfl)
theorem dX9_top_19 : decode cX9_top 19 = .ok (.aload_n 0, 1) := dk_42 (dk_at dksX9_top_0 19 rfl rfl)
theorem dX9_top_20 : decode cX9_top 20 = .ok (.getfield 29, 3) := dk_180 0 29 (dk_at dksX9_top_0 20 rfl rfl)
theorem dX9_top_23 : decode cX9_top 23 = .ok (.iadd, 1) := dk_96 (dk_at dksX9_top_0 23 rfl rfl)
theorem dX9_top_24 : decode cX9_top 24 = .ok (.iconst 1, 1) := dk_4 (dk_at dksX9_top_1 0 rfl rfl)
theorem dX9_top_25 : decode cX9_top 25 = .ok (.isub, 1) := dk_100 (dk_at dksX9_top_1 1 rfl rfl)
theorem dX9_top_26 : decode cX9_top 26 = .ok (.aload_n 0, 1) := dk_42 (dk_at dksX9_top_1 2 rfl rfl)
theorem dX9_top_27 : decode cX9_top 27 = .ok (.getfield 29, 3) := dk_180 0 29 (dk_at dksX9_top_1 3 rfl rfl)
theorem dX9_top_30 : decode cX9_top 30 = .ok (.irem, 1) := dk_112 (dk_at dksX9_top_1 6 rfl rfl)
theorem dX9_top_31 : decode cX9_top 31 = .ok (.iaload, 1) := dk_46 (dk_at dksX9_top_1 7 rfl rfl)
theorem dX9_top_32 : decode cX9_top 32 = .ok (.iconst 2, 1) := dk_5 (dk_at dksX9_top_1 8 rfl rfl)
theorem dX9_top_33 : decode cX9_top 33 = .ok (.if_icmp .eq 7, 3) := dk_159 0 7 (dk_at dksX9_top_1 9 rfl rfl)
theorem dX9_top_36 : decode cX9_top 36 = .ok (.iconst 1, 1) := dk_4 (dk_at dksX9_top_1 12 rfl rfl)
theorem dX9_top_37 : decode cX9_top 37 = .ok (.goto 4, 3) := dk_167 0 4 (dk_at dksX9_top_1 13 rfl rfl)
theorem dX9_top_40 : decode cX9_top 40 = .ok (.iconst 0, 1) := dk_3 (dk_at dksX9_top_1 16 rfl rfl)
theorem dX9_top_41 : decode cX9_top 41 = .ok (.istore_n 3, 1) := dk_62 (dk_at dksX9_top_1 17 rfl rfl)
theorem dX9_top_42 : decode cX9_top 42 = .ok (.aload_n 0, 1) := dk_42 (dk_at dksX9_top_1 18 rfl rfl)
theorem dX9_top_43 : decode cX9_top 43 = .ok (.getfield 23, 3) := dk_180 0 23 (dk_at dksX9_top_1 19 rfl rfl)
theorem dX9_top_46 : decode cX9_top 46 = .ok (.iload_n 1, 1) := dk_27 (dk_at dksX9_top_1 22 rfl rfl)
theorem dX9_top_47 : decode cX9_top 47 = .ok (.aaload, 1) := dk_50 (dk_at dksX9_top_1 23 rfl rfl)
theorem dX9_top_48 : decode cX9_top 48 = .ok (.iload_n 3, 1) := dk_29 (dk_at dksX9_top_2 0 rfl rfl)
theorem dX9_top_49 : decode cX9_top 49 = .ok (.ifCond .eq 14, 3) := dk_153 0 14 (dk_at dksX9_top_2 1 rfl rfl)
theorem dX9_top_52 : decode cX9_top 52 = .ok (.iload_n 2, 1) := dk_28 (dk_at dksX9_top_2 4 rfl rfl)
theorem dX9_top_53 : decode cX9_top 53 = .ok (.iconst 1, 1) := dk_4 (dk_at dksX9_top_2 5 rfl rfl)
theorem dX9_top_54 : decode cX9_top 54 = .ok (.iadd, 1) := dk_96 (dk_at dksX9_top_2 6 rfl rfl)
theorem dX9_top_55 : decode cX9_top 55 = .ok (.aload_n 0, 1) := dk_42 (dk_at dksX9_top_2 7 rfl rfl)
theorem dX9_top_56 : decode cX9_top 56 = .ok (.getfield 29, 3) := dk_180 0 29 (dk_at dksX9_top_2 8 rfl rfl)
theorem dX9_top_59 : decode cX9_top 59 = .ok (.irem, 1) := dk_112 (dk_at dksX9_top_2 11 rfl rfl)
theorem dX9_top_60 : decode cX9_top 60 = .ok (.goto 4, 3) := dk_167 0 4 (dk_at dksX9_top_2 12 rfl rfl)
theorem dX9_top_63 : decode cX9_top 63 = .ok (.iload_n 2, 1) := dk_28 (dk_at dksX9_top_2 15 rfl rfl)
theorem dX9_top_64 : decode cX9_top 64 = .ok (.iaload, 1) := dk_46 (dk_at dksX9_top_2 16 rfl rfl)
theorem dX9_top_65 : decode cX9_top 65 = .ok (.ireturn, 1) := dk_172 (dk_at dksX9_top_2 17 rfl rfl)
abbrev cX9_isLike : ByteArray := prog_13_method_9_code
def yX9_isLike : MethodName := ⟨RX9, "isLike", "(LMaypoleGreen$Round;)Z"⟩
def dkwX9_isLike_4 : List UInt8 := [132, 4, 1, 167, 255, 194, 132, 3, 1, 167, 255, 173, 28, 172]
abbrev dktX9_isLike_4 : List UInt8 := dkwX9_isLike_4 ++ []
def dkwX9_isLike_3 : List UInt8 := [21, 4, 46, 43, 180, 0, 26, 29, 50, 21, 4, 46, 160, 0, 7, 4, 167, 0, 4, 3, 126, 61]
abbrev dktX9_isLike_3 : List UInt8 := dkwX9_isLike_3 ++ dktX9_isLike_4
def dkwX9_isLike_2 : List UInt8 := [29, 50, 21, 4, 46, 43, 180, 0, 23, 29, 50, 21, 4, 46, 160, 0, 28, 42, 180, 0, 26, 29, 50]
abbrev dktX9_isLike_2 : List UInt8 := dkwX9_isLike_2 ++ dktX9_isLike_3
def dkwX9_isLike_1 : List UInt8 := [162, 0, 81, 28, 153, 0, 77, 3, 54, 4, 21, 4, 42, 180, 0, 29, 162, 0, 59, 28, 42, 180, 0, 23]
abbrev dktX9_isLike_1 : List UInt8 := dkwX9_isLike_1 ++ dktX9_isLike_2
def dkwX9_isLike_0 : List UInt8 := [42, 180, 0, 33, 43, 180, 0, 33, 160, 0, 7, 4, 167, 0, 4, 3, 61, 3, 62, 29, 42, 180, 0, 33]
abbrev dktX9_isLike_0 : List UInt8 := dkwX9_isLike_0 ++ dktX9_isLike_1
theorem dksX9_isLike_0 : cX9_isLike.data.toList.drop 0 = dktX9_isLike_0 := by decide +kernel
theorem dksX9_isLike_1 : cX9_isLike.data.toList.drop 24 = dktX9_isLike_1 := dk_seg dksX9_isLike_0 24 rfl rfl
theorem dksX9_isLike_2 : cX9_isLike.data.toList.drop 48 = dktX9_isLike_2 := dk_seg dksX9_isLike_1 24 rfl rfl
theorem dksX9_isLike_3 : cX9_isLike.data.toList.drop 71 = dktX9_isLike_3 := dk_seg dksX9_isLike_2 23 rfl rfl
theorem dksX9_isLike_4 : cX9_isLike.data.toList.drop 93 = dktX9_isLike_4 := dk_seg dksX9_isLike_3 22 rfl rfl
theorem dX9_isLike_0 : decode cX9_isLike 0 = .ok (.aload_n 0, 1) := dk_42 (dk_at dksX9_isLike_0 0 rfl rfl)
theorem dX9_isLike_1 : decode cX9_isLike 1 = .ok (.getfield 33, 3) := dk_180 0 33 (dk_at dksX9_isLike_0 1 rfl rfl)
theorem dX9_isLike_4 : decode cX9_isLike 4 = .ok (.aload_n 1, 1) := dk_43 (dk_at dksX9_isLike_0 4 rfl rfl)
theorem dX9_isLike_5 : decode cX9_isLike 5 = .ok (.getfield 33, 3) := dk_180 0 33 (dk_at dksX9_isLike_0 5 rfl rfl)
theorem dX9_isLike_8 : decode cX9_isLike 8 = .ok (.if_icmp .ne 7, 3) := dk_160 0 7 (dk_at dksX9_isLike_0 8 rfl rfl)
theorem dX9_isLike_11 : decode cX9_isLike 11 = .ok (.iconst 1, 1) := dk_4 (dk_at dksX9_isLike_0 11 rfl rfl)
theorem dX9_isLike_12 : decode cX9_isLike 12 = .ok (.goto 4, 3) := dk_167 0 4 (dk_at dksX9_isLike_0 12 rfl rfl)
theorem dX9_isLike_15 : decode cX9_isLike 15 = .ok (.iconst 0, 1) := dk_3 (dk_at dksX9_isLike_0 15 rfl rfl)
theorem dX9_isLike_16 : decode cX9_isLike 16 = .ok (.istore_n 2, 1) := dk_61 (dk_at dksX9_isLike_0 16 rfl rfl)
theorem dX9_isLike_17 : decode cX9_isLike 17 = .ok (.iconst 0, 1) := dk_3 (dk_at dksX9_isLike_0 17 rfl rfl)
theorem dX9_isLike_18 : decode cX9_isLike 18 = .ok (.istore_n 3, 1) := dk_62 (dk_at dksX9_isLike_0 18 rfl rfl)
theorem dX9_isLike_19 : decode cX9_isLike 19 = .ok (.iload_n 3, 1) := dk_29 (dk_at dksX9_isLike_0 19 rfl rfl)
theorem dX9_isLike_20 : decode cX9_isLike 20 = .ok (.aload_n 0, 1) := dk_42 (dk_at dksX9_isLike_0 20 rfl rfl)
theorem dX9_isLike_21 : decode cX9_isLike 21 = .ok (.getfield 33, 3) := dk_180 0 33 (dk_at dksX9_isLike_0 21 rfl rfl)
theorem dX9_isLike_24 : decode cX9_isLike 24 = .ok (.if_icmp .ge 81, 3) := dk_162 0 81 (dk_at dksX9_isLike_1 0 rfl rfl)
theorem dX9_isLike_27 : decode cX9_isLike 27 = .ok (.iload_n 2, 1) := dk_28 (dk_at dksX9_isLike_1 3 rfl rfl)
theorem dX9_isLike_28 : decode cX9_isLike 28 = .ok (.ifCond .eq 77, 3) := dk_153 0 77 (dk_at dksX9_isLike_1 4 rfl rfl)
theorem dX9_isLike_31 : decode cX9_isLike 31 = .ok (.iconst 0, 1) := dk_3 (dk_at dksX9_isLike_1 7 rfl rfl)
theorem dX9_isLike_32 : decode cX9_isLike 32 = .ok (.istore 4, 2) := dk_54 4 (dk_at dksX9_isLike_1 8 rfl rfl)
theorem dX9_isLike_34 : decode cX9_isLike 34 = .ok (.iload 4, 2) := dk_21 4 (dk_at dksX9_isLike_1 10 rfl rfl)
theorem dX9_isLike_36 : decode cX9_isLike 36 = .ok (.aload_n 0, 1) := dk_42 (dk_at dksX9_isLike_1 12 rfl rfl)
theorem dX9_isLike_37 : decode cX9_isLike 37 = .ok (.getfield 29, 3) := dk_180 0 29 (dk_at dksX9_isLike_1 13 rfl rfl)
theorem dX9_isLike_40 : decode cX9_isLike 40 = .ok (.if_icmp .ge 59, 3) := dk_162 0 59 (dk_at dksX9_isLike_1 16 rfl rfl)
theorem dX9_isLike_43 : decode cX9_isLike 43 = .ok (.iload_n 2, 1) := dk_28 (dk_at dksX9_isLike_1 19 rfl rfl)
theorem dX9_isLike_44 : decode cX9_isLike 44 = .ok (.aload_n 0, 1) := dk_42 (dk_at dksX9_isLike_1 20 rfl rfl)
theorem dX9_isLike_45 : decode cX9_isLike 45 = .ok (.getfield 23, 3) := dk_180 0 23 (dk_at dksX9_isLike_1 21 rfl rfl)
theorem dX9_isLike_48 : decode cX9_isLike 48 = .ok (.iload_n 3, 1) := dk_29 (dk_at dksX9_isLike_2 0 rfl rfl)
theorem dX9_isLike_49 : decode cX9_isLike 49 = .ok (.aaload, 1) := dk_50 (dk_at dksX9_isLike_2 1 rfl rfl)
theorem dX9_isLike_50 : decode cX9_isLike 50 = .ok (.iload 4, 2) := dk_21 4 (dk_at dksX9_isLike_2 2 rfl rfl)
theorem dX9_isLike_52 : decode cX9_isLike 52 = .ok (.iaload, 1) := dk_46 (dk_at dksX9_isLike_2 4 rfl rfl)
theorem dX9_isLike_53 : decode cX9_isLike 53 = .ok (.aload_n 1, 1) := dk_43 (dk_at dksX9_isLike_2 5 rfl rfl)
theorem dX9_isLike_54 : decode cX9_isLike 54 = .ok (.getfield 23, 3) := dk_180 0 23 (dk_at dksX9_isLike_2 6 rfl rfl)
theorem dX9_isLike_57 : decode cX9_isLike 57 = .ok (.iload_n 3, 1) := dk_29 (dk_at dksX9_isLike_2 9 rfl rfl)
theorem dX9_isLike_58 : decode cX9_isLike 58 = .ok (.aaload, 1) := dk_50 (dk_at dksX9_isLike_2 10 rfl rfl)
theorem dX9_isLike_59 : decode cX9_isLike 59 = .ok (.iload 4, 2) := dk_21 4 (dk_at dksX9_isLike_2 11 rfl rfl)
theorem dX9_isLike_61 : decode cX9_isLike 61 = .ok (.iaload, 1) := dk_46 (dk_at dksX9_isLike_2 13 rfl rfl)
theorem dX9_isLike_62 : decode cX9_isLike 62 = .ok (.if_icmp .ne 28, 3) := dk_160 0 28 (dk_at dksX9_isLike_2 14 rfl rfl)
theorem dX9_isLike_65 : decode cX9_isLike 65 = .ok (.aload_n 0, 1) := dk_42 (dk_at dksX9_isLike_2 17 rfl rfl)
theorem dX9_isLike_66 : decode cX9_isLike 66 = .ok (.getfield 26, 3) := dk_180 0 26 (dk_at dksX9_isLike_2 18 rfl rfl)
theorem dX9_isLike_69 : decode cX9_isLike 69 = .ok (.iload_n 3, 1) := dk_29 (dk_at dksX9_isLike_2 21 rfl rfl)
theorem dX9_isLike_70 : decode cX9_isLike 70 = .ok (.aaload, 1) := dk_50 (dk_at dksX9_isLike_2 22 rfl rfl)
theorem dX9_isLike_71 : decode cX9_isLike 71 = .ok (.iload 4, 2) := dk_21 4 (dk_at dksX9_isLike_3 0 rfl rfl)
theorem dX9_isLike_73 : decode cX9_isLike 73 = .ok (.iaload, 1) := dk_46 (dk_at dksX9_isLike_3 2 rfl rfl)
theorem dX9_isLike_74 : decode cX9_isLike 74 = .ok (.aload_n 1, 1) := dk_43 (dk_at dksX9_isLike_3 3 rfl rfl)
theorem dX9_isLike_75 : decode cX9_isLike 75 = .ok (.getfield 26, 3) := dk_180 0 26 (dk_at dksX9_isLike_3 4 rfl rfl)
theorem dX9_isLike_78 : decode cX9_isLike 78 = .ok (.iload_n 3, 1) := dk_29 (dk_at dksX9_isLike_3 7 rfl rfl)
theorem dX9_isLike_79 : decode cX9_isLike 79 = .ok (.aaload, 1) := dk_50 (dk_at dksX9_isLike_3 8 rfl rfl)
theorem dX9_isLike_80 : decode cX9_isLike 80 = .ok (.iload 4, 2) := dk_21 4 (dk_at dksX9_isLike_3 9 rfl rfl)
theorem dX9_isLike_82 : decode cX9_isLike 82 = .ok (.iaload, 1) := dk_46 (dk_at dksX9_isLike_3 11 rfl rfl)
theorem dX9_isLike_83 : decode cX9_isLike 83 = .ok (.if_icmp .ne 7, 3) := dk_160 0 7 (dk_at dksX9_isLike_3 12 rfl rfl)
theorem dX9_isLike_86 : decode cX9_isLike 86 = .ok (.iconst 1, 1) := dk_4 (dk_at dksX9_isLike_3 15 rfl rfl)
theorem dX9_isLike_87 : decode cX9_isLike 87 = .ok (.goto 4, 3) := dk_167 0 4 (dk_at dksX9_isLike_3 16 rfl rfl)
theorem dX9_isLike_90 : decode cX9_isLike 90 = .ok (.iconst 0, 1) := dk_3 (dk_at dksX9_isLike_3 19 rfl rfl)
theorem dX9_isLike_91 : decode cX9_isLike 91 = .ok (.iand, 1) := dk_126 (dk_at dksX9_isLike_3 20 rfl rfl)
theorem dX9_isLike_92 : decode cX9_isLike 92 = .ok (.istore_n 2, 1) := dk_61 (dk_at dksX9_isLike_3 21 rfl rfl)
theorem dX9_isLike_93 : decode cX9_isLike 93 = .ok (.iinc 4 1, 3) := dk_132 4 1 (dk_at dksX9_isLike_4 0 rfl rfl)
theorem dX9_isLike_96 : decode cX9_isLike 96 = .ok (.goto (-62), 3) := dk_167 255 194 (dk_at dksX9_isLike_4 3 rfl rfl)
theorem dX9_isLike_99 : decode cX9_isLike 99 = .ok (.iinc 3 1, 3) := dk_132 3 1 (dk_at dksX9_isLike_4 6 rfl rfl)
theorem dX9_isLike_102 : decode cX9_isLike 102 = .ok (.goto (-83), 3) := dk_167 255 173 (dk_at dksX9_isLike_4 9 rfl rfl)
theorem dX9_isLike_105 : decode cX9_isLike 105 = .ok (.iload_n 2, 1) := dk_28 (dk_at dksX9_isLike_4 12 rfl rfl)
theorem dX9_isLike_106 : decode cX9_isLike 106 = .ok (.ireturn, 1) := dk_172 (dk_at dksX9_isLike_4 13 rfl rfl)
theorem q88 : (Jvm.Cond.initialized "MaypoleGreen$Round") ∈ lw_all := lw_g (lw_at lw_m1 10 rfl) rfl
theorem q327 : (Jvm.Cond.instantiable "MaypoleGreen$Round" (8 : Nat)) ∈ lw_all := lw_g (lw_at lw_m2 9 rfl) rfl
theorem q329 : (Jvm.Cond.instanceMethod ({ cls := "MaypoleGreen$Round", name := "<init>", desc := "(I)V" } : Jvm.MethodName)) ∈ lw_all := lw_g (lw_at lw_m2 11 rfl) rfl
theorem q330 : (Jvm.Cond.code ({ cls := "MaypoleGreen$Round", name := "<init>", desc := "(I)V" } : Jvm.MethodName) prog_13_method_1_code (2 : Nat) (Option.none : Option Jvm.ClassFile.FieldType)) ∈ lw_all := lw_g (lw_at lw_m2 12 rfl) rfl
theorem q331 : (Jvm.Cond.methodLink "MaypoleGreen$Round" (3 : Nat) ({ cls := "java/lang/Object", name := "<init>", desc := "()V" } : Jvm.MethodName)) ∈ lw_all := lw_g (lw_at lw_m2 13 rfl) rfl
theorem q332 : (Jvm.Cond.classLink "MaypoleGreen$Round" (21 : Nat) "[[I") ∈ lw_all := lw_g (lw_at lw_m2 14 rfl) rfl
theorem q334 : (Jvm.Cond.fieldLink "MaypoleGreen$Round" (29 : Nat) "MaypoleGreen$Round" "places" "I") ∈ lw_all := lw_g (lw_at lw_m2 16 rfl) rfl
theorem q336 : (Jvm.Cond.fieldLink "MaypoleGreen$Round" (9 : Nat) "MaypoleGreen$Round" "ribbonAt" "[I") ∈ lw_all := lw_g (lw_at lw_m2 18 rfl) rfl
theorem q338 : (Jvm.Cond.fieldLink "MaypoleGreen$Round" (15 : Nat) "MaypoleGreen$Round" "left" "[I") ∈ lw_all := lw_g (lw_at lw_m2 20 rfl) rfl
theorem q340 : (Jvm.Cond.fieldLink "MaypoleGreen$Round" (18 : Nat) "MaypoleGreen$Round" "marks" "[I") ∈ lw_all := lw_g (lw_at lw_m2 22 rfl) rfl
theorem q341 : (Jvm.Cond.fieldLink "MaypoleGreen$Round" (23 : Nat) "MaypoleGreen$Round" "ribbons" "[[I") ∈ lw_all := lw_g (lw_at lw_m2 23 rfl) rfl
theorem q343 : (Jvm.Cond.fieldLink "MaypoleGreen$Round" (26 : Nat) "MaypoleGreen$Round" "rowMarks" "[[I") ∈ lw_all := lw_g (lw_at lw_m2 25 rfl) rfl
theorem q345 : (Jvm.Cond.fieldLink "MaypoleGreen$Round" (33 : Nat) "MaypoleGreen$Round" "rows" "I") ∈ lw_all := lw_g (lw_at lw_m2 27 rfl) rfl
theorem q347 : (Jvm.Cond.fieldLink "MaypoleGreen$Round" (36 : Nat) "MaypoleGreen$Round" "done" "I") ∈ lw_all := lw_g (lw_at lw_m2 29 rfl) rfl
theorem q348 : (Jvm.Cond.laysFinal "MaypoleGreen$Round" "MaypoleGreen$Round" "places" "I") ∈ lw_all := lw_g (lw_at lw_m2 30 rfl) rfl
theorem q349 : (Jvm.Cond.soleField "MaypoleGreen$Round" "places") ∈ lw_all := lw_g (lw_at lw_m2 31 rfl) rfl
theorem q350 : (Jvm.Cond.laysFinal "MaypoleGreen$Round" "MaypoleGreen$Round" "ribbonAt" "[I") ∈ lw_all := lw_g (lw_at lw_m2 32 rfl) rfl
theorem q351 : (Jvm.Cond.soleField "MaypoleGreen$Round" "ribbonAt") ∈ lw_all := lw_g (lw_at lw_m2 33 rfl) rfl
theorem q352 : (Jvm.Cond.laysFinal "MaypoleGreen$Round" "MaypoleGreen$Round" "left" "[I") ∈ lw_all := lw_g (lw_at lw_m2 34 rfl) rfl
theorem q353 : (Jvm.Cond.soleField "MaypoleGreen$Round" "left") ∈ lw_all := lw_g (lw_at lw_m2 35 rfl) rfl
theorem q354 : (Jvm.Cond.laysFinal "MaypoleGreen$Round" "MaypoleGreen$Round" "marks" "[I") ∈ lw_all := lw_g (lw_at lw_m2 36 rfl) rfl
theorem q355 : (Jvm.Cond.soleField "MaypoleGreen$Round" "marks") ∈ lw_all := lw_g (lw_at lw_m2 37 rfl) rfl
theorem q356 : (Jvm.Cond.laysFinal "MaypoleGreen$Round" "MaypoleGreen$Round" "ribbons" "[[I") ∈ lw_all := lw_g (lw_at lw_m2 38 rfl) rfl
theorem q357 : (Jvm.Cond.soleField "MaypoleGreen$Round" "ribbons") ∈ lw_all := lw_g (lw_at lw_m2 39 rfl) rfl
theorem q358 : (Jvm.Cond.laysFinal "MaypoleGreen$Round" "MaypoleGreen$Round" "rowMarks" "[[I") ∈ lw_all := lw_g (lw_at lw_m2 40 rfl) rfl
theorem q359 : (Jvm.Cond.soleField "MaypoleGreen$Round" "rowMarks") ∈ lw_all := lw_g (lw_at lw_m2 41 rfl) rfl
theorem q360 : (Jvm.Cond.lays "MaypoleGreen$Round" "MaypoleGreen$Round" "rows" "I") ∈ lw_all := lw_g (lw_at lw_m2 42 rfl) rfl
theorem q361 : (Jvm.Cond.soleField "MaypoleGreen$Round" "rows") ∈ lw_all := lw_g (lw_at lw_m2 43 rfl) rfl
theorem q362 : (Jvm.Cond.lays "MaypoleGreen$Round" "MaypoleGreen$Round" "done" "I") ∈ lw_all := lw_g (lw_at lw_m2 44 rfl) rfl
theorem q363 : (Jvm.Cond.soleField "MaypoleGreen$Round" "done") ∈ lw_all := lw_g (lw_at lw_m2 45 rfl) rfl
theorem q364 : (Jvm.Cond.superclass "MaypoleGreen$Round" "java/lang/Object") ∈ lw_all := lw_g (lw_at lw_m2 46 rfl) rfl
theorem q366 : (Jvm.Cond.instanceMethod ({ cls := "MaypoleGreen$Round", name := "begins", desc := "([I)V" } : Jvm.MethodName)) ∈ lw_all := lw_g (lw_at lw_m2 48 rfl) rfl
theorem q367 : (Jvm.Cond.selects "MaypoleGreen$Round" ({ cls := "MaypoleGreen$Round", name := "begins", desc := "([I)V" } : Jvm.MethodName) ({ cls := "MaypoleGreen$Round", name := "begins", desc := "([I)V" } : Jvm.MethodName)) ∈ lw_all := lw_g (lw_at lw_m2 49 rfl) rfl
theorem q368 : (Jvm.Cond.code ({ cls := "MaypoleGreen$Round", name := "begins", desc := "([I)V" } : Jvm.MethodName) prog_13_method_2_code (3 : Nat) (Option.none : Option Jvm.ClassFile.FieldType)) ∈ lw_all := lw_g (lw_at lw_m2 50 rfl) rfl
theorem q410 : (Jvm.Cond.instanceMethod ({ cls := "MaypoleGreen$Round", name := "refuses", desc := "(I)I" } : Jvm.MethodName)) ∈ lw_all := lw_g (lw_at lw_m2 92 rfl) rfl
theorem q411 : (Jvm.Cond.selects "MaypoleGreen$Round" ({ cls := "MaypoleGreen$Round", name := "refuses", desc := "(I)I" } : Jvm.MethodName) ({ cls := "MaypoleGreen$Round", name := "refuses", desc := "(I)I" } : Jvm.MethodName)) ∈ lw_all := lw_g (lw_at lw_m2 93 rfl) rfl
theorem q412 : (Jvm.Cond.code ({ cls := "MaypoleGreen$Round", name := "refuses", desc := "(I)I" } : Jvm.MethodName) prog_13_method_4_code (6 : Nat) (Option.some Jvm.ClassFile.FieldType.int)) ∈ lw_all := lw_g (lw_at lw_m2 94 rfl) rfl
theorem q413 : (Jvm.Cond.methodLink "MaypoleGreen$Round" (39 : Nat) ({ cls := "MaypoleGreen$Round", name := "girth", desc := "()I" } : Jvm.MethodName)) ∈ lw_all := lw_g (lw_at lw_m2 95 rfl) rfl
theorem q414 : (Jvm.Cond.instanceMethod ({ cls := "MaypoleGreen$Round", name := "girth", desc := "()I" } : Jvm.MethodName)) ∈ lw_all := lw_g (lw_at lw_m2 96 rfl) rfl
theorem q415 : (Jvm.Cond.selects "MaypoleGreen$Round" ({ cls := "MaypoleGreen$Round", name := "girth", desc := "()I" } : Jvm.MethodName) ({ cls := "MaypoleGreen$Round", name := "girth", desc := "()I" } : Jvm.MethodName)) ∈ lw_all := lw_g (lw_at lw_m2 97 rfl) rfl
theorem q416 : (Jvm.Cond.code ({ cls := "MaypoleGreen$Round", name := "girth", desc := "()I" } : Jvm.MethodName) prog_13_method_3_code (1 : Nat) (Option.some Jvm.ClassFile.FieldType.int)) ∈ lw_all := lw_g (lw_at lw_m2 98 rfl) rfl
theorem q418 : (Jvm.Cond.instanceMethod ({ cls := "MaypoleGreen$Round", name := "does", desc := "(I)V" } : Jvm.MethodName)) ∈ lw_all := lw_g (lw_at lw_m2 100 rfl) rfl
theorem q419 : (Jvm.Cond.selects "MaypoleGreen$Round" ({ cls := "MaypoleGreen$Round", name := "does", desc := "(I)V" } : Jvm.MethodName) ({ cls := "MaypoleGreen$Round", name := "does", desc := "(I)V" } : Jvm.MethodName)) ∈ lw_all := lw_g (lw_at lw_m2 101 rfl) rfl
theorem q420 : (Jvm.Cond.code ({ cls := "MaypoleGreen$Round", name := "does", desc := "(I)V" } : Jvm.MethodName) prog_13_method_5_code (2 : Nat) (Option.none : Option Jvm.ClassFile.FieldType)) ∈ lw_all := lw_g (lw_at lw_m2 102 rfl) rfl
theorem q421 : (Jvm.Cond.methodLink "MaypoleGreen$Round" (43 : Nat) ({ cls := "MaypoleGreen$Round", name := "passes", desc := "(II)V" } : Jvm.MethodName)) ∈ lw_all := lw_g (lw_at lw_m2 103 rfl) rfl
theorem q422 : (Jvm.Cond.privateMethod ({ cls := "MaypoleGreen$Round", name := "passes", desc := "(II)V" } : Jvm.MethodName)) ∈ lw_tbl := lw_at lw_m2 104 rfl
theorem q423 : (Jvm.Cond.instanceMethod ({ cls := "MaypoleGreen$Round", name := "passes", desc := "(II)V" } : Jvm.MethodName)) ∈ lw_all := lw_g (lw_at lw_m2 105 rfl) rfl
theorem q424 : (Jvm.Cond.code ({ cls := "MaypoleGreen$Round", name := "passes", desc := "(II)V" } : Jvm.MethodName) prog_13_method_6_code (6 : Nat) (Option.none : Option Jvm.ClassFile.FieldType)) ∈ lw_all := lw_g (lw_at lw_m2 106 rfl) rfl
theorem q425 : (Jvm.Cond.methodLink "MaypoleGreen$Round" (47 : Nat) ({ cls := "MaypoleGreen$Round", name := "walks", desc := "(I)V" } : Jvm.MethodName)) ∈ lw_all := lw_g (lw_at lw_m2 107 rfl) rfl
theorem q426 : (Jvm.Cond.privateMethod ({ cls := "MaypoleGreen$Round", name := "walks", desc := "(I)V" } : Jvm.MethodName)) ∈ lw_tbl := lw_at lw_m2 108 rfl
theorem q427 : (Jvm.Cond.instanceMethod ({ cls := "MaypoleGreen$Round", name := "walks", desc := "(I)V" } : Jvm.MethodName)) ∈ lw_all := lw_g (lw_at lw_m2 109 rfl) rfl
theorem q428 : (Jvm.Cond.code ({ cls := "MaypoleGreen$Round", name := "walks", desc := "(I)V" } : Jvm.MethodName) prog_13_method_7_code (4 : Nat) (Option.none : Option Jvm.ClassFile.FieldType)) ∈ lw_all := lw_g (lw_at lw_m2 110 rfl) rfl
theorem q429 : (Jvm.Cond.methodLink "MaypoleGreen$Round" (51 : Nat) ({ cls := "java/lang/System", name := "arraycopy", desc := "(Ljava/lang/Object;ILjava/lang/Object;II)V" } : Jvm.MethodName)) ∈ lw_all := lw_g (lw_at lw_m2 111 rfl) rfl
theorem q457 : (Jvm.Cond.instanceMethod ({ cls := "MaypoleGreen$Round", name := "top", desc := "(II)I" } : Jvm.MethodName)) ∈ lw_all := lw_g (lw_at lw_m2 139 rfl) rfl
theorem q458 : (Jvm.Cond.selects "MaypoleGreen$Round" ({ cls := "MaypoleGreen$Round", name := "top", desc := "(II)I" } : Jvm.MethodName) ({ cls := "MaypoleGreen$Round", name := "top", desc := "(II)I" } : Jvm.MethodName)) ∈ lw_all := lw_g (lw_at lw_m2 140 rfl) rfl
theorem q459 : (Jvm.Cond.code ({ cls := "MaypoleGreen$Round", name := "top", desc := "(II)I" } : Jvm.MethodName) prog_13_method_8_code (4 : Nat) (Option.some Jvm.ClassFile.FieldType.int)) ∈ lw_all := lw_g (lw_at lw_m2 141 rfl) rfl
theorem q757 : (Jvm.Cond.instanceMethod ({ cls := "MaypoleGreen$Round", name := "isLike", desc := "(LMaypoleGreen$Round;)Z" } : Jvm.MethodName)) ∈ lw_all := lw_g (lw_at lw_m3 199 rfl) rfl
theorem q758 : (Jvm.Cond.selects "MaypoleGreen$Round" ({ cls := "MaypoleGreen$Round", name := "isLike", desc := "(LMaypoleGreen$Round;)Z" } : Jvm.MethodName) ({ cls := "MaypoleGreen$Round", name := "isLike", desc := "(LMaypoleGreen$Round;)Z" } : Jvm.MethodName)) ∈ lw_all := lw_g (lw_at lw_m3 200 rfl) rfl
theorem q759 : (Jvm.Cond.code ({ cls := "MaypoleGreen$Round", name := "isLike", desc := "(LMaypoleGreen$Round;)Z" } : Jvm.MethodName) prog_13_method_9_code (5 : Nat) (Option.some Jvm.ClassFile.FieldType.boolean)) ∈ lw_all := lw_g (lw_at lw_m3 201 rfl) rfl
theorem in_X9 : ∀ w ∈ wsX90, w ∈ lw_all := lw_in wsX90 [348, 350, 352, 354, 356, 358, 360, 362] (by decide +kernel) (by decide +kernel)

/-! MaypoleGreen$Form -/
set_option maxRecDepth 100000
def RX10 : String := "MaypoleGreen$Form"
def TX10 : u_T := fun k => match k with
  | 0 => ("MaypoleGreen$Form", "places", "I", true)
  | 1 => ("MaypoleGreen$Form", "passes", "[I", true)
  | 2 => ("MaypoleGreen$Form", "many", "I", false)
  | _ => ("MaypoleGreen$Form", "turns", "I", false)
def tyX10 : Nat → FieldType := fun k => match k with
  | 0 => .int
  | 1 => .array .int
  | 2 => .int
  | _ => .int
abbrev wsX100 : List Cond := u_ws RX10 TX10 4
theorem nmX10 : ∀ a, a < 4 → ∀ b, b < 4 → a ≠ b → (TX10 a).2.1 ≠ (TX10 b).2.1 := by decide +kernel
theorem tyX10_ok : ∀ k, k < 4 → parseFieldDescriptor (TX10 k).2.2.1 = some (tyX10 k) := by decide +kernel
abbrev cX10_init : ByteArray := prog_6_method_1_code
def yX10_init : MethodName := ⟨RX10, "<init>", "(I[II)V"⟩
def dkwX10_init_4 : List UInt8 := [21, 4, 46, 16, 10, 112, 96, 182, 0, 28, 132, 4, 1, 167, 255, 172, 42, 182, 0, 32, 177]
abbrev dktX10_init_4 : List UInt8 := dkwX10_init_4 ++ []
def dkwX10_init_3 : List UInt8 := [167, 0, 34, 42, 16, 10, 44, 21, 4, 46, 16, 10, 108, 42, 180, 0, 19, 100, 27, 184, 0, 22, 104, 44]
abbrev dktX10_init_3 : List UInt8 := dkwX10_init_3 ++ dktX10_init_4
def dkwX10_init_2 : List UInt8 := [167, 0, 56, 44, 21, 4, 46, 16, 101, 160, 0, 16, 42, 89, 180, 0, 19, 4, 100, 181, 0, 19]
abbrev dktX10_init_2 : List UInt8 := dkwX10_init_2 ++ dktX10_init_3
def dkwX10_init_1 : List UInt8 := [162, 0, 84, 44, 21, 4, 46, 16, 100, 160, 0, 16, 42, 89, 180, 0, 19, 4, 96, 181, 0, 19]
abbrev dktX10_init_1 : List UInt8 := dkwX10_init_1 ++ dktX10_init_2
def dkwX10_init_0 : List UInt8 := [42, 183, 0, 3, 42, 17, 1, 44, 188, 10, 181, 0, 9, 42, 27, 181, 0, 15, 3, 54, 4, 21, 4, 29]
abbrev dktX10_init_0 : List UInt8 := dkwX10_init_0 ++ dktX10_init_1
theorem dksX10_init_0 : cX10_init.data.toList.drop 0 = dktX10_init_0 := by decide +kernel
theorem dksX10_init_1 : cX10_init.data.toList.drop 24 = dktX10_init_1 := dk_seg dksX10_init_0 24 rfl rfl
theorem dksX10_init_2 : cX10_init.data.toList.drop 46 = dktX10_init_2 := dk_seg dksX10_init_1 22 rfl rfl
theorem dksX10_init_3 : cX10_init.data.toList.drop 68 = dktX10_init_3 := dk_seg dksX10_init_2 22 rfl rfl
theorem dksX10_init_4 : cX10_init.data.toList.drop 92 = dktX10_init_4 := dk_seg dksX10_init_3 24 rfl rfl
theorem dX10_init_0 : decode cX10_init 0 = .ok (.aload_n 0, 1) := dk_42 (dk_at dksX10_init_0 0 rfl rfl)
theorem dX10_init_1 : decode cX10_init 1 = .ok (.invokespecial 3, 3) := dk_183 0 3 (dk_at dksX10_init_0 1 rfl rfl)
theorem dX10_init_4 : decode cX10_init 4 = .ok (.aload_n 0, 1) := dk_42 (dk_at dksX10_init_0 4 rfl rfl)
theorem dX10_init_5 : decode cX10_init 5 = .ok (.sipush 300, 3) := dk_17 1 44 (dk_at dksX10_init_0 5 rfl rfl)
theorem dX10_init_8 : decode cX10_init 8 = .ok (.newarray .int, 2) := dk_188_10 (dk_at dksX10_init_0 8 rfl rfl)
theorem dX10_init_10 : decode cX10_init 10 = .ok (.putfield 9, 3) := dk_181 0 9 (dk_at dksX10_init_0 10 rfl rfl)
theorem dX10_init_13 : decode cX10_init 13 = .ok (.aload_n 0, 1) := dk_42 (dk_at dksX10_init_0 13 rfl rfl)
theorem dX10_init_14 : decode cX10_init 14 = .ok (.iload_n 1, 1) := dk_27 (dk_at dksX10_init_0 14 rfl rfl)
theorem dX10_init_15 : decode cX10_init 15 = .ok (.putfield 15, 3) := dk_181 0 15 (dk_at dksX10_init_0 15 rfl rfl)
theorem dX10_init_18 : decode cX10_init 18 = .ok (.iconst 0, 1) := dk_3 (dk_at dksX10_init_0 18 rfl rfl)
theorem dX10_init_19 : decode cX10_init 19 = .ok (.istore 4, 2) := dk_54 4 (dk_at dksX10_init_0 19 rfl rfl)
theorem dX10_init_21 : decode cX10_init 21 = .ok (.iload 4, 2) := dk_21 4 (dk_at dksX10_init_0 21 rfl rfl)
theorem dX10_init_23 : decode cX10_init 23 = .ok (.iload_n 3, 1) := dk_29 (dk_at dksX10_init_0 23 rfl rfl)
theorem dX10_init_24 : decode cX10_init 24 = .ok (.if_icmp .ge 84, 3) := dk_162 0 84 (dk_at dksX10_init_1 0 rfl rfl)
theorem dX10_init_27 : decode cX10_init 27 = .ok (.aload_n 2, 1) := dk_44 (dk_at dksX10_init_1 3 rfl rfl)
theorem dX10_init_28 : decode cX10_init 28 = .ok (.iload 4, 2) := dk_21 4 (dk_at dksX10_init_1 4 rfl rfl)
theorem dX10_init_30 : decode cX10_init 30 = .ok (.iaload, 1) := dk_46 (dk_at dksX10_init_1 6 rfl rfl)
theorem dX10_init_31 : decode cX10_init 31 = .ok (.bipush 100, 2) := dk_16 100 (dk_at dksX10_init_1 7 rfl rfl)
theorem dX10_init_33 : decode cX10_init 33 = .ok (.if_icmp .ne 16, 3) := dk_160 0 16 (dk_at dksX10_init_1 9 rfl rfl)
theorem dX10_init_36 : decode cX10_init 36 = .ok (.aload_n 0, 1) := dk_42 (dk_at dksX10_init_1 12 rfl rfl)
theorem dX10_init_37 : decode cX10_init 37 = .ok (.dup, 1) := dk_89 (dk_at dksX10_init_1 13 rfl rfl)
theorem dX10_init_38 : decode cX10_init 38 = .ok (.getfield 19, 3) := dk_180 0 19 (dk_at dksX10_init_1 14 rfl rfl)
theorem dX10_init_41 : decode cX10_init 41 = .ok (.iconst 1, 1) := dk_4 (dk_at dksX10_init_1 17 rfl rfl)
theorem dX10_init_42 : decode cX10_init 42 = .ok (.iadd, 1) := dk_96 (dk_at dksX10_init_1 18 rfl rfl)
theorem dX10_init_43 : decode cX10_init 43 = .ok (.putfield 19, 3) := dk_181 0 19 (dk_at dksX10_init_1 19 rfl rfl)
theorem dX10_init_46 : decode cX10_init 46 = .ok (.goto 56, 3) := dk_167 0 56 (dk_at dksX10_init_2 0 rfl rfl)
theorem dX10_init_49 : decode cX10_init 49 = .ok (.aload_n 2, 1) := dk_44 (dk_at dksX10_init_2 3 rfl rfl)
theorem dX10_init_50 : decode cX10_init 50 = .ok (.iload 4, 2) := dk_21 4 (dk_at dksX10_init_2 4 rfl rfl)
theorem dX10_init_52 : decode cX10_init 52 = .ok (.iaload, 1) := dk_46 (dk_at dksX10_init_2 6 rfl rfl)
theorem dX10_init_53 : decode cX10_init 53 = .ok (.bipush 101, 2) := dk_16 101 (dk_at dksX10_init_2 7 rfl rfl)
theorem dX10_init_55 : decode cX10_init 55 = .ok (.if_icmp .ne 16, 3) := dk_160 0 16 (dk_at dksX10_init_2 9 rfl rfl)
theorem dX10_init_58 : decode cX10_init 58 = .ok (.aload_n 0, 1) := dk_42 (dk_at dksX10_init_2 12 rfl rfl)
theorem dX10_init_59 : decode cX10_init 59 = .ok (.dup, 1) := dk_89 (dk_at dksX10_init_2 13 rfl rfl)
theorem dX10_init_60 : decode cX10_init 60 = .ok (.getfield 19, 3) := dk_180 0 19 (dk_at dksX10_init_2 14 rfl rfl)
theorem dX10_init_63 : decode cX10_init 63 = .ok (.iconst 1, 1) := dk_4 (dk_at dksX10_init_2 17 rfl rfl)
theorem dX10_init_64 : decode cX10_init 64 = .ok (.isub, 1) := dk_100 (dk_at dksX10_init_2 18 rfl rfl)
theorem dX10_init_65 : decode cX10_init 65 = .ok (.putfield 19, 3) := dk_181 0 19 (dk_at dksX10_init_2 19 rfl rfl)
theorem dX10_init_68 : decode cX10_init 68 = .ok (.goto 34, 3) := dk_167 0 34 (dk_at dksX10_init_3 0 rfl rfl)
theorem dX10_init_71 : decode cX10_init 71 = .ok (.aload_n 0, 1) := dk_42 (dk_at dksX10_init_3 3 rfl rfl)
theorem dX10_init_72 : decode cX10_init 72 = .ok (.bipush 10, 2) := dk_16 10 (dk_at dksX10_init_3 4 rfl rfl)
theorem dX10_init_74 : decode cX10_init 74 = .ok (.aload_n 2, 1) := dk_44 (dk_at dksX10_init_3 6 rfl rfl)
theorem dX10_init_75 : decode cX10_init 75 = .ok (.iload 4, 2) := dk_21 4 (dk_at dksX10_init_3 7 rfl rfl)
theorem dX10_init_77 : decode cX10_init 77 = .ok (.iaload, 1) := dk_46 (dk_at dksX10_init_3 9 rfl rfl)
theorem dX10_init_78 : decode cX10_init 78 = .ok (.bipush 10, 2) := dk_16 10 (dk_at dksX10_init_3 10 rfl rfl)
theorem dX10_init_80 : decode cX10_init 80 = .ok (.idiv, 1) := dk_108 (dk_at dksX10_init_3 12 rfl rfl)
theorem dX10_init_81 : decode cX10_init 81 = .ok (.aload_n 0, 1) := dk_42 (dk_at dksX10_init_3 13 rfl rfl)
theorem dX10_init_82 : decode cX10_init 82 = .ok (.getfield 19, 3) := dk_180 0 19 (dk_at dksX10_init_3 14 rfl rfl)
theorem dX10_init_85 : decode cX10_init 85 = .ok (.isub, 1) := dk_100 (dk_at dksX10_init_3 17 rfl rfl)
theorem dX10_init_86 : decode cX10_init 86 = .ok (.iload_n 1, 1) := dk_27 (dk_at dksX10_init_3 18 rfl rfl)
theorem dX10_init_87 : decode cX10_init 87 = .ok (.invokestatic 22, 3) := dk_184 0 22 (dk_at dksX10_init_3 19 rfl rfl)
theorem dX10_init_90 : decode cX10_init 90 = .ok (.imul, 1) := dk_104 (dk_at dksX10_init_3 22 rfl rfl)
theorem dX10_init_91 : decode cX10_init 91 = .ok (.aload_n 2, 1) := dk_44 (dk_at dksX10_init_3 23 rfl rfl)
theorem dX10_init_92 : decode cX10_init 92 = .ok (.iload 4, 2) := dk_21 4 (dk_at dksX10_init_4 0 rfl rfl)
theorem dX10_init_94 : decode cX10_init 94 = .ok (.iaload, 1) := dk_46 (dk_at dksX10_init_4 2 rfl rfl)
theorem dX10_init_95 : decode cX10_init 95 = .ok (.bipush 10, 2) := dk_16 10 (dk_at dksX10_init_4 3 rfl rfl)
theorem dX10_init_97 : decode cX10_init 97 = .ok (.irem, 1) := dk_112 (dk_at dksX10_init_4 5 rfl rfl)
theorem dX10_init_98 : decode cX10_init 98 = .ok (.iadd, 1) := dk_96 (dk_at dksX10_init_4 6 rfl rfl)
theorem dX10_init_99 : decode cX10_init 99 = .ok (.invokevirtual 28, 3) := dk_182 0 28 (dk_at dksX10_init_4 7 rfl rfl)
theorem dX10_init_102 : decode cX10_init 102 = .ok (.iinc 4 1, 3) := dk_132 4 1 (dk_at dksX10_init_4 10 rfl rfl)
theorem dX10_init_105 : decode cX10_init 105 = .ok (.goto (-84), 3) := dk_167 255 172 (dk_at dksX10_init_4 13 rfl rfl)
theorem dX10_init_108 : decode cX10_init 108 = .ok (.aload_n 0, 1) := dk_42 (dk_at dksX10_init_4 16 rfl rfl)
theorem dX10_init_109 : decode cX10_init 109 = .ok (.invokevirtual 32, 3) := dk_182 0 32 (dk_at dksX10_init_4 17 rfl rfl)
theorem dX10_init_112 : decode cX10_init 112 = .ok (.return_, 1) := dk_177 (dk_at dksX10_init_4 20 rfl rfl)
abbrev cX10_comes : ByteArray := prog_6_method_3_code
def yX10_comes : MethodName := ⟨RX10, "comes", "(I)V"⟩
def dkwX10_comes_4 : List UInt8 := [42, 89, 180, 0, 35, 90, 4, 96, 181, 0, 35, 27, 79, 177]
abbrev dktX10_comes_4 : List UInt8 := dkwX10_comes_4 ++ []
def dkwX10_comes_3 : List UInt8 := [180, 0, 9, 29, 42, 180, 0, 9, 29, 4, 96, 46, 79, 132, 3, 1, 167, 255, 231, 177, 42, 180, 0, 9]
abbrev dktX10_comes_3 : List UInt8 := dkwX10_comes_3 ++ dktX10_comes_4
def dkwX10_comes_2 : List UInt8 := [160, 0, 44, 42, 89, 180, 0, 35, 4, 100, 181, 0, 35, 28, 62, 29, 42, 180, 0, 35, 162, 0, 23, 42]
abbrev dktX10_comes_2 : List UInt8 := dkwX10_comes_2 ++ dktX10_comes_3
def dkwX10_comes_1 : List UInt8 := [153, 0, 9, 132, 2, 255, 167, 255, 235, 28, 155, 0, 56, 42, 180, 0, 9, 28, 46, 27, 4, 130]
abbrev dktX10_comes_1 : List UInt8 := dkwX10_comes_1 ++ dktX10_comes_2
def dkwX10_comes_0 : List UInt8 := [42, 180, 0, 35, 4, 100, 61, 28, 155, 0, 23, 42, 42, 180, 0, 9, 28, 46, 27, 182, 0, 38]
abbrev dktX10_comes_0 : List UInt8 := dkwX10_comes_0 ++ dktX10_comes_1
theorem dksX10_comes_0 : cX10_comes.data.toList.drop 0 = dktX10_comes_0 := by decide +kernel
theorem dksX10_comes_1 : cX10_comes.data.toList.drop 22 = dktX10_comes_1 := dk_seg dksX10_comes_0 22 rfl rfl
theorem dksX10_comes_2 : cX10_comes.data.toList.drop 44 = dktX10_comes_2 := dk_seg dksX10_comes_1 22 rfl rfl
theorem dksX10_comes_3 : cX10_comes.data.toList.drop 68 = dktX10_comes_3 := dk_seg dksX10_comes_2 24 rfl rfl
theorem dksX10_comes_4 : cX10_comes.data.toList.drop 92 = dktX10_comes_4 := dk_seg dksX10_comes_3 24 rfl rfl
theorem dX10_comes_0 : decode cX10_comes 0 = .ok (.aload_n 0, 1) := dk_42 (dk_at dksX10_comes_0 0 rfl rfl)
theorem dX10_comes_1 : decode cX10_comes 1 = .ok (.getfield 35, 3) := dk_180 0 35 (dk_at dksX10_comes_0 1 rfl rfl)
theorem dX10_comes_4 : decode cX10_comes 4 = .ok (.iconst 1, 1) := dk_4 (dk_at dksX10_comes_0 4 rfl rfl)
theorem dX10_comes_5 : decode cX10_comes 5 = .ok (.isub, 1) := dk_100 (dk_at dksX10_comes_0 5 rfl rfl)
theorem dX10_comes_6 : decode cX10_comes 6 = .ok (.istore_n 2, 1) := dk_61 (dk_at dksX10_comes_0 6 rfl rfl)
theorem dX10_comes_7 : decode cX10_comes 7 = .ok (.iload_n 2, 1) := dk_28 (dk_at dksX10_comes_0 7 rfl rfl)
theorem dX10_comes_8 : decode cX10_comes 8 = .ok (.ifCond .lt 23, 3) := dk_155 0 23 (dk_at dksX10_comes_0 8 rfl rfl)
theorem dX10_comes_11 : decode cX10_comes 11 = .ok (.aload_n 0, 1) := dk_42 (dk_at dksX10_comes_0 11 rfl rfl)
theorem dX10_comes_12 : decode cX10_comes 12 = .ok (.aload_n 0, 1) := dk_42 (dk_at dksX10_comes_0 12 rfl rfl)
theorem dX10_comes_13 : decode cX10_comes 13 = .ok (.getfield 9, 3) := dk_180 0 9 (dk_at dksX10_comes_0 13 rfl rfl)
theorem dX10_comes_16 : decode cX10_comes 16 = .ok (.iload_n 2, 1) := dk_28 (dk_at dksX10_comes_0 16 rfl rfl)
theorem dX10_comes_17 : decode cX10_comes 17 = .ok (.iaload, 1) := dk_46 (dk_at dksX10_comes_0 17 rfl rfl)
theorem dX10_comes_18 : decode cX10_comes 18 = .ok (.iload_n 1, 1) := dk_27 (dk_at dksX10_comes_0 18 rfl rfl)
theorem dX10_comes_19 : decode cX10_comes 19 = .ok (.invokevirtual 38, 3) := dk_182 0 38 (dk_at dksX10_comes_0 19 rfl rfl)
theorem dX10_comes_22 : decode cX10_comes 22 = .ok (.ifCond .eq 9, 3) := dk_153 0 9 (dk_at dksX10_comes_1 0 rfl rfl)
theorem dX10_comes_25 : decode cX10_comes 25 = .ok (.iinc 2 (-1), 3) := dk_132 2 255 (dk_at dksX10_comes_1 3 rfl rfl)
theorem dX10_comes_28 : decode cX10_comes 28 = .ok (.goto (-21), 3) := dk_167 255 235 (dk_at dksX10_comes_1 6 rfl rfl)
theorem dX10_comes_31 : decode cX10_comes 31 = .ok (.iload_n 2, 1) := dk_28 (dk_at dksX10_comes_1 9 rfl rfl)
theorem dX10_comes_32 : decode cX10_comes 32 = .ok (.ifCond .lt 56, 3) := dk_155 0 56 (dk_at dksX10_comes_1 10 rfl rfl)
theorem dX10_comes_35 : decode cX10_comes 35 = .ok (.aload_n 0, 1) := dk_42 (dk_at dksX10_comes_1 13 rfl rfl)
theorem dX10_comes_36 : decode cX10_comes 36 = .ok (.getfield 9, 3) := dk_180 0 9 (dk_at dksX10_comes_1 14 rfl rfl)
theorem dX10_comes_39 : decode cX10_comes 39 = .ok (.iload_n 2, 1) := dk_28 (dk_at dksX10_comes_1 17 rfl rfl)
theorem dX10_comes_40 : decode cX10_comes 40 = .ok (.iaload, 1) := dk_46 (dk_at dksX10_comes_1 18 rfl rfl)
theorem dX10_comes_41 : decode cX10_comes 41 = .ok (.iload_n 1, 1) := dk_27 (dk_at dksX10_comes_1 19 rfl rfl)
theorem dX10_comes_42 : decode cX10_comes 42 = .ok (.iconst 1, 1) := dk_4 (dk_at dksX10_comes_1 20 rfl rfl)
theorem dX10_comes_43 : decode cX10_comes 43 = .ok (.ixor, 1) := dk_130 (dk_at dksX10_comes_1 21 rfl rfl)
theorem dX10_comes_44 : decode cX10_comes 44 = .ok (.if_icmp .ne 44, 3) := dk_160 0 44 (dk_at dksX10_comes_2 0 rfl rfl)
theorem dX10_comes_47 : decode cX10_comes 47 = .ok (.aload_n 0, 1) := dk_42 (dk_at dksX10_comes_2 3 rfl rfl)
theorem dX10_comes_48 : decode cX10_comes 48 = .ok (.dup, 1) := dk_89 (dk_at dksX10_comes_2 4 rfl rfl)
theorem dX10_comes_49 : decode cX10_comes 49 = .ok (.getfield 35, 3) := dk_180 0 35 (dk_at dksX10_comes_2 5 rfl rfl)
theorem dX10_comes_52 : decode cX10_comes 52 = .ok (.iconst 1, 1) := dk_4 (dk_at dksX10_comes_2 8 rfl rfl)
theorem dX10_comes_53 : decode cX10_comes 53 = .ok (.isub, 1) := dk_100 (dk_at dksX10_comes_2 9 rfl rfl)
theorem dX10_comes_54 : decode cX10_comes 54 = .ok (.putfield 35, 3) := dk_181 0 35 (dk_at dksX10_comes_2 10 rfl rfl)
theorem dX10_comes_57 : decode cX10_comes 57 = .ok (.iload_n 2, 1) := dk_28 (dk_at dksX10_comes_2 13 rfl rfl)
theorem dX10_comes_58 : decode cX10_comes 58 = .ok (.istore_n 3, 1) := dk_62 (dk_at dksX10_comes_2 14 rfl rfl)
theorem dX10_comes_59 : decode cX10_comes 59 = .ok (.iload_n 3, 1) := dk_29 (dk_at dksX10_comes_2 15 rfl rfl)
theorem dX10_comes_60 : decode cX10_comes 60 = .ok (.aload_n 0, 1) := dk_42 (dk_at dksX10_comes_2 16 rfl rfl)
theorem dX10_comes_61 : decode cX10_comes 61 = .ok (.getfield 35, 3) := dk_180 0 35 (dk_at dksX10_comes_2 17 rfl rfl)
theorem dX10_comes_64 : decode cX10_comes 64 = .ok (.if_icmp .ge 23, 3) := dk_162 0 23 (dk_at dksX10_comes_2 20 rfl rfl)
theorem dX10_comes_67 : decode cX10_comes 67 = .ok (.aload_n 0, 1) := dk_42 (dk_at dksX10_comes_2 23 rfl rfl)
theorem dX10_comes_68 : decode cX10_comes 68 = .ok (.getfield 9, 3) := dk_180 0 9 (dk_at dksX10_comes_3 0 rfl rfl)
theorem dX10_comes_71 : decode cX10_comes 71 = .ok (.iload_n 3, 1) := dk_29 (dk_at dksX10_comes_3 3 rfl rfl)
theorem dX10_comes_72 : decode cX10_comes 72 = .ok (.aload_n 0, 1) := dk_42 (dk_at dksX10_comes_3 4 rfl rfl)
theorem dX10_comes_73 : decode cX10_comes 73 = .ok (.getfield 9, 3) := dk_180 0 9 (dk_at dksX10_comes_3 5 rfl rfl)
theorem dX10_comes_76 : decode cX10_comes 76 = .ok (.iload_n 3, 1) := dk_29 (dk_at dksX10_comes_3 8 rfl rfl)
theorem dX10_comes_77 : decode cX10_comes 77 = .ok (.iconst 1, 1) := dk_4 (dk_at dksX10_comes_3 9 rfl rfl)
theorem dX10_comes_78 : decode cX10_comes 78 = .ok (.iadd, 1) := dk_96 (dk_at dksX10_comes_3 10 rfl rfl)
theorem dX10_comes_79 : decode cX10_comes 79 = .ok (.iaload, 1) := dk_46 (dk_at dksX10_comes_3 11 rfl rfl)
theorem dX10_comes_80 : decode cX10_comes 80 = .ok (.iastore, 1) := dk_79 (dk_at dksX10_comes_3 12 rfl rfl)
theorem dX10_comes_81 : decode cX10_comes 81 = .ok (.iinc 3 1, 3) := dk_132 3 1 (dk_at dksX10_comes_3 13 rfl rfl)
theorem dX10_comes_84 : decode cX10_comes 84 = .ok (.goto (-25), 3) := dk_167 255 231 (dk_at dksX10_comes_3 16 rfl rfl)
theorem dX10_comes_87 : decode cX10_comes 87 = .ok (.return_, 1) := dk_177 (dk_at dksX10_comes_3 19 rfl rfl)
theorem dX10_comes_88 : decode cX10_comes 88 = .ok (.aload_n 0, 1) := dk_42 (dk_at dksX10_comes_3 20 rfl rfl)
theorem dX10_comes_89 : decode cX10_comes 89 = .ok (.getfield 9, 3) := dk_180 0 9 (dk_at dksX10_comes_3 21 rfl rfl)
theorem dX10_comes_92 : decode cX10_comes 92 = .ok (.aload_n 0, 1) := dk_42 (dk_at dksX10_comes_4 0 rfl rfl)
theorem dX10_comes_93 : decode cX10_comes 93 = .ok (.dup, 1) := dk_89 (dk_at dksX10_comes_4 1 rfl rfl)
theorem dX10_comes_94 : decode cX10_comes 94 = .ok (.getfield 35, 3) := dk_180 0 35 (dk_at dksX10_comes_4 2 rfl rfl)
theorem dX10_comes_97 : decode cX10_comes 97 = .ok (.dup_x1, 1) := dk_90 (dk_at dksX10_comes_4 5 rfl rfl)
theorem dX10_comes_98 : decode cX10_comes 98 = .ok (.iconst 1, 1) := dk_4 (dk_at dksX10_comes_4 6 rfl rfl)
theorem dX10_comes_99 : decode cX10_comes 99 = .ok (.iadd, 1) := dk_96 (dk_at dksX10_comes_4 7 rfl rfl)
theorem dX10_comes_100 : decode cX10_comes 100 = .ok (.putfield 35, 3) := dk_181 0 35 (dk_at dksX10_comes_4 8 rfl rfl)
theorem dX10_comes_103 : decode cX10_comes 103 = .ok (.iload_n 1, 1) := dk_27 (dk_at dksX10_comes_4 11 rfl rfl)
theorem dX10_comes_104 : decode cX10_comes 104 = .ok (.iastore, 1) := dk_79 (dk_at dksX10_comes_4 12 rfl rfl)
theorem dX10_comes_105 : decode cX10_comes 105 = .ok (.return_, 1) := dk_177 (dk_at dksX10_comes_4 13 rfl rfl)
abbrev cX10_areFar : ByteArray := prog_6_method_2_code
def yX10_areFar : MethodName := ⟨RX10, "areFar", "(II)Z"⟩
def dkwX10_areFar_1 : List UInt8 := [180, 0, 15, 4, 100, 162, 0, 7, 4, 167, 0, 4, 3, 172]
abbrev dktX10_areFar_1 : List UInt8 := dkwX10_areFar_1 ++ []
def dkwX10_areFar_0 : List UInt8 := [27, 16, 10, 108, 28, 16, 10, 108, 100, 42, 180, 0, 15, 184, 0, 22, 62, 29, 4, 164, 0, 17, 29, 42]
abbrev dktX10_areFar_0 : List UInt8 := dkwX10_areFar_0 ++ dktX10_areFar_1
theorem dksX10_areFar_0 : cX10_areFar.data.toList.drop 0 = dktX10_areFar_0 := by decide +kernel
theorem dksX10_areFar_1 : cX10_areFar.data.toList.drop 24 = dktX10_areFar_1 := dk_seg dksX10_areFar_0 24 rfl rfl
theorem dX10_areFar_0 : decode cX10_areFar 0 = .ok (.iload_n 1, 1) := dk_27 (dk_at dksX10_areFar_0 0 rfl rfl)
theorem dX10_areFar_1 : decode cX10_areFar 1 = .ok (.bipush 10, 2) := dk_16 10 (dk_at dksX10_areFar_0 1 rfl rfl)
theorem dX10_areFar_3 : decode cX10_areFar 3 = .ok (.idiv, 1) := dk_108 (dk_at dksX10_areFar_0 3 rfl rfl)
theorem dX10_areFar_4 : decode cX10_areFar 4 = .ok (.iload_n 2, 1) := dk_28 (dk_at dksX10_areFar_0 4 rfl rfl)
theorem dX10_areFar_5 : decode cX10_areFar 5 = .ok (.bipush 10, 2) := dk_16 10 (dk_at dksX10_areFar_0 5 rfl rfl)
theorem dX10_areFar_7 : decode cX10_areFar 7 = .ok (.idiv, 1) := dk_108 (dk_at dksX10_areFar_0 7 rfl rfl)
theorem dX10_areFar_8 : decode cX10_areFar 8 = .ok (.isub, 1) := dk_100 (dk_at dksX10_areFar_0 8 rfl rfl)
theorem dX10_areFar_9 : decode cX10_areFar 9 = .ok (.aload_n 0, 1) := dk_42 (dk_at dksX10_areFar_0 9 rfl rfl)
theorem dX10_areFar_10 : decode cX10_areFar 10 = .ok (.getfield 15, 3) := dk_180 0 15 (dk_at dksX10_areFar_0 10 rfl rfl)
theorem dX10_areFar_13 : decode cX10_areFar 13 = .ok (.invokestatic 22, 3) := dk_184 0 22 (dk_at dksX10_areFar_0 13 rfl rfl)
theorem dX10_areFar_16 : decode cX10_areFar 16 = .ok (.istore_n 3, 1) := dk_62 (dk_at dksX10_areFar_0 16 rfl rfl)
theorem dX10_areFar_17 : decode cX10_areFar 17 = .ok (.iload_n 3, 1) := dk_29 (dk_at dksX10_areFar_0 17 rfl rfl)
theorem dX10_areFar_18 : decode cX10_areFar 18 = .ok (.iconst 1, 1) := dk_4 (dk_at dksX10_areFar_0 18 rfl rfl)
theorem dX10_areFar_19 : decode cX10_areFar 19 = .ok (.if_icmp .le 17, 3) := dk_164 0 17 (dk_at dksX10_areFar_0 19 rfl rfl)
theorem dX10_areFar_22 : decode cX10_areFar 22 = .ok (.iload_n 3, 1) := dk_29 (dk_at dksX10_areFar_0 22 rfl rfl)
theorem dX10_areFar_23 : decode cX10_areFar 23 = .ok (.aload_n 0, 1) := dk_42 (dk_at dksX10_areFar_0 23 rfl rfl)
theorem dX10_areFar_24 : decode cX10_areFar 24 = .ok (.getfield 15, 3) := dk_180 0 15 (dk_at dksX10_areFar_1 0 rfl rfl)
theorem dX10_areFar_27 : decode cX10_areFar 27 = .ok (.iconst 1, 1) := dk_4 (dk_at dksX10_areFar_1 3 rfl rfl)
theorem dX10_areFar_28 : decode cX10_areFar 28 = .ok (.isub, 1) := dk_100 (dk_at dksX10_areFar_1 4 rfl rfl)
theorem dX10_areFar_29 : decode cX10_areFar 29 = .ok (.if_icmp .ge 7, 3) := dk_162 0 7 (dk_at dksX10_areFar_1 5 rfl rfl)
theorem dX10_areFar_32 : decode cX10_areFar 32 = .ok (.iconst 1, 1) := dk_4 (dk_at dksX10_areFar_1 8 rfl rfl)
theorem dX10_areFar_33 : decode cX10_areFar 33 = .ok (.goto 4, 3) := dk_167 0 4 (dk_at dksX10_areFar_1 9 rfl rfl)
theorem dX10_areFar_36 : decode cX10_areFar 36 = .ok (.iconst 0, 1) := dk_3 (dk_at dksX10_areFar_1 12 rfl rfl)
theorem dX10_areFar_37 : decode cX10_areFar 37 = .ok (.ireturn, 1) := dk_172 (dk_at dksX10_areFar_1 13 rfl rfl)
abbrev cX10_orders : ByteArray := prog_6_method_5_code
def yX10_orders : MethodName := ⟨RX10, "orders", "()V"⟩
def dkwX10_orders_4 : List UInt8 := [180, 0, 9, 27, 29, 79, 132, 1, 1, 167, 255, 154, 177]
abbrev dktX10_orders_4 : List UInt8 := dkwX10_orders_4 ++ []
def dkwX10_orders_3 : List UInt8 := [42, 180, 0, 9, 21, 4, 42, 180, 0, 9, 21, 4, 4, 100, 46, 79, 132, 4, 255, 167, 255, 231, 42]
abbrev dktX10_orders_3 : List UInt8 := dkwX10_orders_3 ++ dktX10_orders_4
def dkwX10_orders_2 : List UInt8 := [29, 61, 132, 3, 1, 167, 255, 219, 42, 180, 0, 9, 28, 46, 62, 28, 54, 4, 21, 4, 27, 164, 0, 25]
abbrev dktX10_orders_2 : List UInt8 := dkwX10_orders_2 ++ dktX10_orders_3
def dkwX10_orders_1 : List UInt8 := [42, 180, 0, 9, 29, 46, 42, 180, 0, 9, 28, 46, 162, 0, 14, 42, 27, 29, 182, 0, 42, 153, 0, 5]
abbrev dktX10_orders_1 : List UInt8 := dkwX10_orders_1 ++ dktX10_orders_2
def dkwX10_orders_0 : List UInt8 := [3, 60, 27, 42, 180, 0, 35, 162, 0, 100, 27, 61, 27, 4, 96, 62, 29, 42, 180, 0, 35, 162, 0, 35]
abbrev dktX10_orders_0 : List UInt8 := dkwX10_orders_0 ++ dktX10_orders_1
theorem dksX10_orders_0 : cX10_orders.data.toList.drop 0 = dktX10_orders_0 := by decide +kernel
theorem dksX10_orders_1 : cX10_orders.data.toList.drop 24 = dktX10_orders_1 := dk_seg dksX10_orders_0 24 rfl rfl
theorem dksX10_orders_2 : cX10_orders.data.toList.drop 48 = dktX10_orders_2 := dk_seg dksX10_orders_1 24 rfl rfl
theorem dksX10_orders_3 : cX10_orders.data.toList.drop 72 = dktX10_orders_3 := dk_seg dksX10_orders_2 24 rfl rfl
theorem dksX10_orders_4 : cX10_orders.data.toList.drop 95 = dktX10_orders_4 := dk_seg dksX10_orders_3 23 rfl rfl
theorem dX10_orders_0 : decode cX10_orders 0 = .ok (.iconst 0, 1) := dk_3 (dk_at dksX10_orders_0 0 rfl rfl)
theorem dX10_orders_1 : decode cX10_orders 1 = .ok (.istore_n 1, 1) := dk_60 (dk_at dksX10_orders_0 1 rfl rfl)
theorem dX10_orders_2 : decode cX10_orders 2 = .ok (.iload_n 1, 1) := dk_27 (dk_at dksX10_orders_0 2 rfl rfl)
theorem dX10_orders_3 : decode cX10_orders 3 = .ok (.aload_n 0, 1) := dk_42 (dk_at dksX10_orders_0 3 rfl rfl)
theorem dX10_orders_4 : decode cX10_orders 4 = .ok (.getfield 35, 3) := dk_180 0 35 (dk_at dksX10_orders_0 4 rfl rfl)
theorem dX10_orders_7 : decode cX10_orders 7 = .ok (.if_icmp .ge 100, 3) := dk_162 0 100 (dk_at dksX10_orders_0 7 rfl rfl)
theorem dX10_orders_10 : decode cX10_orders 10 = .ok (.iload_n 1, 1) := dk_27 (dk_at dksX10_orders_0 10 rfl rfl)
theorem dX10_orders_11 : decode cX10_orders 11 = .ok (.istore_n 2, 1) := dk_61 (dk_at dksX10_orders_0 11 rfl rfl)
theorem dX10_orders_12 : decode cX10_orders 12 = .ok (.iload_n 1, 1) := dk_27 (dk_at dksX10_orders_0 12 rfl rfl)
theorem dX10_orders_13 : decode cX10_orders 13 = .ok (.iconst 1, 1) := dk_4 (dk_at dksX10_orders_0 13 rfl rfl)
theorem dX10_orders_14 : decode cX10_orders 14 = .ok (.iadd, 1) := dk_96 (dk_at dksX10_orders_0 14 rfl rfl)
theorem dX10_orders_15 : decode cX10_orders 15 = .ok (.istore_n 3, 1) := dk_62 (dk_at dksX10_orders_0 15 rfl rfl)
theorem dX10_orders_16 : decode cX10_orders 16 = .ok (.iload_n 3, 1) := dk_29 (dk_at dksX10_orders_0 16 rfl rfl)
theorem dX10_orders_17 : decode cX10_orders 17 = .ok (.aload_n 0, 1) := dk_42 (dk_at dksX10_orders_0 17 rfl rfl)
theorem dX10_orders_18 : decode cX10_orders 18 = .ok (.getfield 35, 3) := dk_180 0 35 (dk_at dksX10_orders_0 18 rfl rfl)
theorem dX10_orders_21 : decode cX10_orders 21 = .ok (.if_icmp .ge 35, 3) := dk_162 0 35 (dk_at dksX10_orders_0 21 rfl rfl)
theorem dX10_orders_24 : decode cX10_orders 24 = .ok (.aload_n 0, 1) := dk_42 (dk_at dksX10_orders_1 0 rfl rfl)
theorem dX10_orders_25 : decode cX10_orders 25 = .ok (.getfield 9, 3) := dk_180 0 9 (dk_at dksX10_orders_1 1 rfl rfl)
theorem dX10_orders_28 : decode cX10_orders 28 = .ok (.iload_n 3, 1) := dk_29 (dk_at dksX10_orders_1 4 rfl rfl)
theorem dX10_orders_29 : decode cX10_orders 29 = .ok (.iaload, 1) := dk_46 (dk_at dksX10_orders_1 5 rfl rfl)
theorem dX10_orders_30 : decode cX10_orders 30 = .ok (.aload_n 0, 1) := dk_42 (dk_at dksX10_orders_1 6 rfl rfl)
theorem dX10_orders_31 : decode cX10_orders 31 = .ok (.getfield 9, 3) := dk_180 0 9 (dk_at dksX10_orders_1 7 rfl rfl)
theorem dX10_orders_34 : decode cX10_orders 34 = .ok (.iload_n 2, 1) := dk_28 (dk_at dksX10_orders_1 10 rfl rfl)
theorem dX10_orders_35 : decode cX10_orders 35 = .ok (.iaload, 1) := dk_46 (dk_at dksX10_orders_1 11 rfl rfl)
theorem dX10_orders_36 : decode cX10_orders 36 = .ok (.if_icmp .ge 14, 3) := dk_162 0 14 (dk_at dksX10_orders_1 12 rfl rfl)
theorem dX10_orders_39 : decode cX10_orders 39 = .ok (.aload_n 0, 1) := dk_42 (dk_at dksX10_orders_1 15 rfl rfl)
theorem dX10_orders_40 : decode cX10_orders 40 = .ok (.iload_n 1, 1) := dk_27 (dk_at dksX10_orders_1 16 rfl rfl)
theorem dX10_orders_41 : decode cX10_orders 41 = .ok (.iload_n 3, 1) := dk_29 (dk_at dksX10_orders_1 17 rfl rfl)
theorem dX10_orders_42 : decode cX10_orders 42 = .ok (.invokevirtual 42, 3) := dk_182 0 42 (dk_at dksX10_orders_1 18 rfl rfl)
theorem dX10_orders_45 : decode cX10_orders 45 = .ok (.ifCond .eq 5, 3) := dk_153 0 5 (dk_at dksX10_orders_1 21 rfl rfl)
theorem dX10_orders_48 : decode cX10_orders 48 = .ok (.iload_n 3, 1) := dk_29 (dk_at dksX10_orders_2 0 rfl rfl)
theorem dX10_orders_49 : decode cX10_orders 49 = .ok (.istore_n 2, 1) := dk_61 (dk_at dksX10_orders_2 1 rfl rfl)
theorem dX10_orders_50 : decode cX10_orders 50 = .ok (.iinc 3 1, 3) := dk_132 3 1 (dk_at dksX10_orders_2 2 rfl rfl)
theorem dX10_orders_53 : decode cX10_orders 53 = .ok (.goto (-37), 3) := dk_167 255 219 (dk_at dksX10_orders_2 5 rfl rfl)
theorem dX10_orders_56 : decode cX10_orders 56 = .ok (.aload_n 0, 1) := dk_42 (dk_at dksX10_orders_2 8 rfl rfl)
theorem dX10_orders_57 : decode cX10_orders 57 = .ok (.getfield 9, 3) := dk_180 0 9 (dk_at dksX10_orders_2 9 rfl rfl)
theorem dX10_orders_60 : decode cX10_orders 60 = .ok (.iload_n 2, 1) := dk_28 (dk_at dksX10_orders_2 12 rfl rfl)
theorem dX10_orders_61 : decode cX10_orders 61 = .ok (.iaload, 1) := dk_46 (dk_at dksX10_orders_2 13 rfl rfl)
theorem dX10_orders_62 : decode cX10_orders 62 = .ok (.istore_n 3, 1) := dk_62 (dk_at dksX10_orders_2 14 rfl rfl)
theorem dX10_orders_63 : decode cX10_orders 63 = .ok (.iload_n 2, 1) := dk_28 (dk_at dksX10_orders_2 15 rfl rfl)
theorem dX10_orders_64 : decode cX10_orders 64 = .ok (.istore 4, 2) := dk_54 4 (dk_at dksX10_orders_2 16 rfl rfl)
theorem dX10_orders_66 : decode cX10_orders 66 = .ok (.iload 4, 2) := dk_21 4 (dk_at dksX10_orders_2 18 rfl rfl)
theorem dX10_orders_68 : decode cX10_orders 68 = .ok (.iload_n 1, 1) := dk_27 (dk_at dksX10_orders_2 20 rfl rfl)
theorem dX10_orders_69 : decode cX10_orders 69 = .ok (.if_icmp .le 25, 3) := dk_164 0 25 (dk_at dksX10_orders_2 21 rfl rfl)
theorem dX10_orders_72 : decode cX10_orders 72 = .ok (.aload_n 0, 1) := dk_42 (dk_at dksX10_orders_3 0 rfl rfl)
theorem dX10_orders_73 : decode cX10_orders 73 = .ok (.getfield 9, 3) := dk_180 0 9 (dk_at dksX10_orders_3 1 rfl rfl)
theorem dX10_orders_76 : decode cX10_orders 76 = .ok (.iload 4, 2) := dk_21 4 (dk_at dksX10_orders_3 4 rfl rfl)
theorem dX10_orders_78 : decode cX10_orders 78 = .ok (.aload_n 0, 1) := dk_42 (dk_at dksX10_orders_3 6 rfl rfl)
theorem dX10_orders_79 : decode cX10_orders 79 = .ok (.getfield 9, 3) := dk_180 0 9 (dk_at dksX10_orders_3 7 rfl rfl)
theorem dX10_orders_82 : decode cX10_orders 82 = .ok (.iload 4, 2) := dk_21 4 (dk_at dksX10_orders_3 10 rfl rfl)
theorem dX10_orders_84 : decode cX10_orders 84 = .ok (.iconst 1, 1) := dk_4 (dk_at dksX10_orders_3 12 rfl rfl)
theorem dX10_orders_85 : decode cX10_orders 85 = .ok (.isub, 1) := dk_100 (dk_at dksX10_orders_3 13 rfl rfl)
theorem dX10_orders_86 : decode cX10_orders 86 = .ok (.iaload, 1) := dk_46 (dk_at dksX10_orders_3 14 rfl rfl)
theorem dX10_orders_87 : decode cX10_orders 87 = .ok (.iastore, 1) := dk_79 (dk_at dksX10_orders_3 15 rfl rfl)
theorem dX10_orders_88 : decode cX10_orders 88 = .ok (.iinc 4 (-1), 3) := dk_132 4 255 (dk_at dksX10_orders_3 16 rfl rfl)
theorem dX10_orders_91 : decode cX10_orders 91 = .ok (.goto (-25), 3) := dk_167 255 231 (dk_at dksX10_orders_3 19 rfl rfl)
theorem dX10_orders_94 : decode cX10_orders 94 = .ok (.aload_n 0, 1) := dk_42 (dk_at dksX10_orders_3 22 rfl rfl)
theorem dX10_orders_95 : decode cX10_orders 95 = .ok (.getfield 9, 3) := dk_180 0 9 (dk_at dksX10_orders_4 0 rfl rfl)
theorem dX10_orders_98 : decode cX10_orders 98 = .ok (.iload_n 1, 1) := dk_27 (dk_at dksX10_orders_4 3 rfl rfl)
theorem dX10_orders_99 : decode cX10_orders 99 = .ok (.iload_n 3, 1) := dk_29 (dk_at dksX10_orders_4 4 rfl rfl)
theorem dX10_orders_100 : decode cX10_orders 100 = .ok (.iastore, 1) := dk_79 (dk_at dksX10_orders_4 5 rfl rfl)
theorem dX10_orders_101 : decode cX10_orders 101 = .ok (.iinc 1 1, 3) := dk_132 1 1 (dk_at dksX10_orders_4 6 rfl rfl)
theorem dX10_orders_104 : decode cX10_orders 104 = .ok (.goto (-102), 3) := dk_167 255 154 (dk_at dksX10_orders_4 9 rfl rfl)
theorem dX10_orders_107 : decode cX10_orders 107 = .ok (.return_, 1) := dk_177 (dk_at dksX10_orders_4 12 rfl rfl)
abbrev cX10_goesAhead : ByteArray := prog_6_method_4_code
def yX10_goesAhead : MethodName := ⟨RX10, "goesAhead", "(II)Z"⟩
def dkwX10_goesAhead_1 : List UInt8 := [154, 0, 5, 3, 172, 132, 3, 1, 167, 255, 227, 4, 172]
abbrev dktX10_goesAhead_1 : List UInt8 := dkwX10_goesAhead_1 ++ []
def dkwX10_goesAhead_0 : List UInt8 := [27, 62, 29, 28, 162, 0, 30, 42, 42, 180, 0, 9, 29, 46, 42, 180, 0, 9, 28, 46, 182, 0, 38]
abbrev dktX10_goesAhead_0 : List UInt8 := dkwX10_goesAhead_0 ++ dktX10_goesAhead_1
theorem dksX10_goesAhead_0 : cX10_goesAhead.data.toList.drop 0 = dktX10_goesAhead_0 := by decide +kernel
theorem dksX10_goesAhead_1 : cX10_goesAhead.data.toList.drop 23 = dktX10_goesAhead_1 := dk_seg dksX10_goesAhead_0 23 rfl rfl
theorem dX10_goesAhead_0 : decode cX10_goesAhead 0 = .ok (.iload_n 1, 1) := dk_27 (dk_at dksX10_goesAhead_0 0 rfl rfl)
theorem dX10_goesAhead_1 : decode cX10_goesAhead 1 = .ok (.istore_n 3, 1) := dk_62 (dk_at dksX10_goesAhead_0 1 rfl rfl)
theorem dX10_goesAhead_2 : decode cX10_goesAhead 2 = .ok (.iload_n 3, 1) := dk_29 (dk_at dksX10_goesAhead_0 2 rfl rfl)
theorem dX10_goesAhead_3 : decode cX10_goesAhead 3 = .ok (.iload_n 2, 1) := dk_28 (dk_at dksX10_goesAhead_0 3 rfl rfl)
theorem dX10_goesAhead_4 : decode cX10_goesAhead 4 = .ok (.if_icmp .ge 30, 3) := dk_162 0 30 (dk_at dksX10_goesAhead_0 4 rfl rfl)
theorem dX10_goesAhead_7 : decode cX10_goesAhead 7 = .ok (.aload_n 0, 1) := dk_42 (dk_at dksX10_goesAhead_0 7 rfl rfl)
theorem dX10_goesAhead_8 : decode cX10_goesAhead 8 = .ok (.aload_n 0, 1) := dk_42 (dk_at dksX10_goesAhead_0 8 rfl rfl)
theorem dX10_goesAhead_9 : decode cX10_goesAhead 9 = .ok (.getfield 9, 3) := dk_180 0 9 (dk_at dksX10_goesAhead_0 9 rfl rfl)
theorem dX10_goesAhead_12 : decode cX10_goesAhead 12 = .ok (.iload_n 3, 1) := dk_29 (dk_at dksX10_goesAhead_0 12 rfl rfl)
theorem dX10_goesAhead_13 : decode cX10_goesAhead 13 = .ok (.iaload, 1) := dk_46 (dk_at dksX10_goesAhead_0 13 rfl rfl)
theorem dX10_goesAhead_14 : decode cX10_goesAhead 14 = .ok (.aload_n 0, 1) := dk_42 (dk_at dksX10_goesAhead_0 14 rfl rfl)
theorem dX10_goesAhead_15 : decode cX10_goesAhead 15 = .ok (.getfield 9, 3) := dk_180 0 9 (dk_at dksX10_goesAhead_0 15 rfl rfl)
theorem dX10_goesAhead_18 : decode cX10_goesAhead 18 = .ok (.iload_n 2, 1) := dk_28 (dk_at dksX10_goesAhead_0 18 rfl rfl)
theorem dX10_goesAhead_19 : decode cX10_goesAhead 19 = .ok (.iaload, 1) := dk_46 (dk_at dksX10_goesAhead_0 19 rfl rfl)
theorem dX10_goesAhead_20 : decode cX10_goesAhead 20 = .ok (.invokevirtual 38, 3) := dk_182 0 38 (dk_at dksX10_goesAhead_0 20 rfl rfl)
theorem dX10_goesAhead_23 : decode cX10_goesAhead 23 = .ok (.ifCond .ne 5, 3) := dk_154 0 5 (dk_at dksX10_goesAhead_1 0 rfl rfl)
theorem dX10_goesAhead_26 : decode cX10_goesAhead 26 = .ok (.iconst 0, 1) := dk_3 (dk_at dksX10_goesAhead_1 3 rfl rfl)
theorem dX10_goesAhead_27 : decode cX10_goesAhead 27 = .ok (.ireturn, 1) := dk_172 (dk_at dksX10_goesAhead_1 4 rfl rfl)
theorem dX10_goesAhead_28 : decode cX10_goesAhead 28 = .ok (.iinc 3 1, 3) := dk_132 3 1 (dk_at dksX10_goesAhead_1 5 rfl rfl)
theorem dX10_goesAhead_31 : decode cX10_goesAhead 31 = .ok (.goto (-29), 3) := dk_167 255 227 (dk_at dksX10_goesAhead_1 8 rfl rfl)
theorem dX10_goesAhead_34 : decode cX10_goesAhead 34 = .ok (.iconst 1, 1) := dk_4 (dk_at dksX10_goesAhead_1 11 rfl rfl)
theorem dX10_goesAhead_35 : decode cX10_goesAhead 35 = .ok (.ireturn, 1) := dk_172 (dk_at dksX10_goesAhead_1 12 rfl rfl)
abbrev cX10_is : ByteArray := prog_6_method_6_code
def yX10_is : MethodName := ⟨RX10, "is", "(LMaypoleGreen$Form;)Z"⟩
def dkwX10_is_2 : List UInt8 := [46, 43, 180, 0, 9, 29, 46, 160, 0, 7, 4, 167, 0, 4, 3, 61, 132, 3, 1, 167, 255, 220, 28, 172]
abbrev dktX10_is_2 : List UInt8 := dkwX10_is_2 ++ []
def dkwX10_is_1 : List UInt8 := [167, 0, 4, 3, 61, 3, 62, 29, 42, 180, 0, 35, 162, 0, 34, 28, 153, 0, 30, 42, 180, 0, 9, 29]
abbrev dktX10_is_1 : List UInt8 := dkwX10_is_1 ++ dktX10_is_2
def dkwX10_is_0 : List UInt8 := [42, 180, 0, 35, 43, 180, 0, 35, 160, 0, 18, 42, 180, 0, 19, 43, 180, 0, 19, 160, 0, 7, 4]
abbrev dktX10_is_0 : List UInt8 := dkwX10_is_0 ++ dktX10_is_1
theorem dksX10_is_0 : cX10_is.data.toList.drop 0 = dktX10_is_0 := by decide +kernel
theorem dksX10_is_1 : cX10_is.data.toList.drop 23 = dktX10_is_1 := dk_seg dksX10_is_0 23 rfl rfl
theorem dksX10_is_2 : cX10_is.data.toList.drop 47 = dktX10_is_2 := dk_seg dksX10_is_1 24 rfl rfl
theorem dX10_is_0 : decode cX10_is 0 = .ok (.aload_n 0, 1) := dk_42 (dk_at dksX10_is_0 0 rfl rfl)
theorem dX10_is_1 : decode cX10_is 1 = .ok (.getfield 35, 3) := dk_180 0 35 (dk_at dksX10_is_0 1 rfl rfl)
theorem dX10_is_4 : decode cX10_is 4 = .ok (.aload_n 1, 1) := dk_43 (dk_at dksX10_is_0 4 rfl rfl)
theorem dX10_is_5 : decode cX10_is 5 = .ok (.getfield 35, 3) := dk_180 0 35 (dk_at dksX10_is_0 5 rfl rfl)
theorem dX10_is_8 : decode cX10_is 8 = .ok (.if_icmp .ne 18, 3) := dk_160 0 18 (dk_at dksX10_is_0 8 rfl rfl)
theorem dX10_is_11 : decode cX10_is 11 = .ok (.aload_n 0, 1) := dk_42 (dk_at dksX10_is_0 11 rfl rfl)
theorem dX10_is_12 : decode cX10_is 12 = .ok (.getfield 19, 3) := dk_180 0 19 (dk_at dksX10_is_0 12 rfl rfl)
theorem dX10_is_15 : decode cX10_is 15 = .ok (.aload_n 1, 1) := dk_43 (dk_at dksX10_is_0 15 rfl rfl)
theorem dX10_is_16 : decode cX10_is 16 = .ok (.getfield 19, 3) := dk_180 0 19 (dk_at dksX10_is_0 16 rfl rfl)
theorem dX10_is_19 : decode cX10_is 19 = .ok (.if_icmp .ne 7, 3) := dk_160 0 7 (dk_at dksX10_is_0 19 rfl rfl)
theorem dX10_is_22 : decode cX10_is 22 = .ok (.iconst 1, 1) := dk_4 (dk_at dksX10_is_0 22 rfl rfl)
theorem dX10_is_23 : decode cX10_is 23 = .ok (.goto 4, 3) := dk_167 0 4 (dk_at dksX10_is_1 0 rfl rfl)
theorem dX10_is_26 : decode cX10_is 26 = .ok (.iconst 0, 1) := dk_3 (dk_at dksX10_is_1 3 rfl rfl)
theorem dX10_is_27 : decode cX10_is 27 = .ok (.istore_n 2, 1) := dk_61 (dk_at dksX10_is_1 4 rfl rfl)
theorem dX10_is_28 : decode cX10_is 28 = .ok (.iconst 0, 1) := dk_3 (dk_at dksX10_is_1 5 rfl rfl)
theorem dX10_is_29 : decode cX10_is 29 = .ok (.istore_n 3, 1) := dk_62 (dk_at dksX10_is_1 6 rfl rfl)
theorem dX10_is_30 : decode cX10_is 30 = .ok (.iload_n 3, 1) := dk_29 (dk_at dksX10_is_1 7 rfl rfl)
theorem dX10_is_31 : decode cX10_is 31 = .ok (.aload_n 0, 1) := dk_42 (dk_at dksX10_is_1 8 rfl rfl)
theorem dX10_is_32 : decode cX10_is 32 = .ok (.getfield 35, 3) := dk_180 0 35 (dk_at dksX10_is_1 9 rfl rfl)
theorem dX10_is_35 : decode cX10_is 35 = .ok (.if_icmp .ge 34, 3) := dk_162 0 34 (dk_at dksX10_is_1 12 rfl rfl)
theorem dX10_is_38 : decode cX10_is 38 = .ok (.iload_n 2, 1) := dk_28 (dk_at dksX10_is_1 15 rfl rfl)
theorem dX10_is_39 : decode cX10_is 39 = .ok (.ifCond .eq 30, 3) := dk_153 0 30 (dk_at dksX10_is_1 16 rfl rfl)
theorem dX10_is_42 : decode cX10_is 42 = .ok (.aload_n 0, 1) := dk_42 (dk_at dksX10_is_1 19 rfl rfl)
theorem dX10_is_43 : decode cX10_is 43 = .ok (.getfield 9, 3) := dk_180 0 9 (dk_at dksX10_is_1 20 rfl rfl)
theorem dX10_is_46 : decode cX10_is 46 = .ok (.iload_n 3, 1) := dk_29 (dk_at dksX10_is_1 23 rfl rfl)
theorem dX10_is_47 : decode cX10_is 47 = .ok (.iaload, 1) := dk_46 (dk_at dksX10_is_2 0 rfl rfl)
theorem dX10_is_48 : decode cX10_is 48 = .ok (.aload_n 1, 1) := dk_43 (dk_at dksX10_is_2 1 rfl rfl)
theorem dX10_is_49 : decode cX10_is 49 = .ok (.getfield 9, 3) := dk_180 0 9 (dk_at dksX10_is_2 2 rfl rfl)
theorem dX10_is_52 : decode cX10_is 52 = .ok (.iload_n 3, 1) := dk_29 (dk_at dksX10_is_2 5 rfl rfl)
theorem dX10_is_53 : decode cX10_is 53 = .ok (.iaload, 1) := dk_46 (dk_at dksX10_is_2 6 rfl rfl)
theorem dX10_is_54 : decode cX10_is 54 = .ok (.if_icmp .ne 7, 3) := dk_160 0 7 (dk_at dksX10_is_2 7 rfl rfl)
theorem dX10_is_57 : decode cX10_is 57 = .ok (.iconst 1, 1) := dk_4 (dk_at dksX10_is_2 10 rfl rfl)
theorem dX10_is_58 : decode cX10_is 58 = .ok (.goto 4, 3) := dk_167 0 4 (dk_at dksX10_is_2 11 rfl rfl)
theorem dX10_is_61 : decode cX10_is 61 = .ok (.iconst 0, 1) := dk_3 (dk_at dksX10_is_2 14 rfl rfl)
theorem dX10_is_62 : decode cX10_is 62 = .ok (.istore_n 2, 1) := dk_61 (dk_at dksX10_is_2 15 rfl rfl)
theorem dX10_is_63 : decode cX10_is 63 = .ok (.iinc 3 1, 3) := dk_132 3 1 (dk_at dksX10_is_2 16 rfl rfl)
theorem dX10_is_66 : decode cX10_is 66 = .ok (.goto (-36), 3) := dk_167 255 220 (dk_at dksX10_is_2 19 rfl rfl)
theorem dX10_is_69 : decode cX10_is 69 = .ok (.iload_n 2, 1) := dk_28 (dk_at dksX10_is_2 22 rfl rfl)
theorem dX10_is_70 : decode cX10_is 70 = .ok (.ireturn, 1) := dk_172 (dk_at dksX10_is_2 23 rfl rfl)
theorem q90 : (Jvm.Cond.initialized "MaypoleGreen$Form") ∈ lw_all := lw_g (lw_at lw_m1 12 rfl) rfl
theorem q497 : (Jvm.Cond.instantiable "MaypoleGreen$Form" (4 : Nat)) ∈ lw_all := lw_g (lw_at lw_m2 179 rfl) rfl
theorem q499 : (Jvm.Cond.instanceMethod ({ cls := "MaypoleGreen$Form", name := "<init>", desc := "(I[II)V" } : Jvm.MethodName)) ∈ lw_all := lw_g (lw_at lw_m2 181 rfl) rfl
theorem q500 : (Jvm.Cond.code ({ cls := "MaypoleGreen$Form", name := "<init>", desc := "(I[II)V" } : Jvm.MethodName) prog_6_method_1_code (5 : Nat) (Option.none : Option Jvm.ClassFile.FieldType)) ∈ lw_all := lw_g (lw_at lw_m2 182 rfl) rfl
theorem q501 : (Jvm.Cond.methodLink "MaypoleGreen$Form" (3 : Nat) ({ cls := "java/lang/Object", name := "<init>", desc := "()V" } : Jvm.MethodName)) ∈ lw_all := lw_g (lw_at lw_m2 183 rfl) rfl
theorem q502 : (Jvm.Cond.methodLink "MaypoleGreen$Form" (22 : Nat) ({ cls := "java/lang/Math", name := "floorMod", desc := "(II)I" } : Jvm.MethodName)) ∈ lw_all := lw_g (lw_at lw_m2 184 rfl) rfl
theorem q505 : (Jvm.Cond.methodLink "MaypoleGreen$Form" (28 : Nat) ({ cls := "MaypoleGreen$Form", name := "comes", desc := "(I)V" } : Jvm.MethodName)) ∈ lw_all := lw_g (lw_at lw_m2 187 rfl) rfl
theorem q506 : (Jvm.Cond.privateMethod ({ cls := "MaypoleGreen$Form", name := "comes", desc := "(I)V" } : Jvm.MethodName)) ∈ lw_tbl := lw_at lw_m2 188 rfl
theorem q507 : (Jvm.Cond.instanceMethod ({ cls := "MaypoleGreen$Form", name := "comes", desc := "(I)V" } : Jvm.MethodName)) ∈ lw_all := lw_g (lw_at lw_m2 189 rfl) rfl
theorem q508 : (Jvm.Cond.code ({ cls := "MaypoleGreen$Form", name := "comes", desc := "(I)V" } : Jvm.MethodName) prog_6_method_3_code (4 : Nat) (Option.none : Option Jvm.ClassFile.FieldType)) ∈ lw_all := lw_g (lw_at lw_m2 190 rfl) rfl
theorem q509 : (Jvm.Cond.methodLink "MaypoleGreen$Form" (38 : Nat) ({ cls := "MaypoleGreen$Form", name := "areFar", desc := "(II)Z" } : Jvm.MethodName)) ∈ lw_all := lw_g (lw_at lw_m2 191 rfl) rfl
theorem q510 : (Jvm.Cond.privateMethod ({ cls := "MaypoleGreen$Form", name := "areFar", desc := "(II)Z" } : Jvm.MethodName)) ∈ lw_tbl := lw_at lw_m2 192 rfl
theorem q511 : (Jvm.Cond.instanceMethod ({ cls := "MaypoleGreen$Form", name := "areFar", desc := "(II)Z" } : Jvm.MethodName)) ∈ lw_all := lw_g (lw_at lw_m2 193 rfl) rfl
theorem q512 : (Jvm.Cond.code ({ cls := "MaypoleGreen$Form", name := "areFar", desc := "(II)Z" } : Jvm.MethodName) prog_6_method_2_code (4 : Nat) (Option.some Jvm.ClassFile.FieldType.boolean)) ∈ lw_all := lw_g (lw_at lw_m2 194 rfl) rfl
theorem q513 : (Jvm.Cond.methodLink "MaypoleGreen$Form" (32 : Nat) ({ cls := "MaypoleGreen$Form", name := "orders", desc := "()V" } : Jvm.MethodName)) ∈ lw_all := lw_g (lw_at lw_m2 195 rfl) rfl
theorem q514 : (Jvm.Cond.privateMethod ({ cls := "MaypoleGreen$Form", name := "orders", desc := "()V" } : Jvm.MethodName)) ∈ lw_tbl := lw_at lw_m2 196 rfl
theorem q515 : (Jvm.Cond.instanceMethod ({ cls := "MaypoleGreen$Form", name := "orders", desc := "()V" } : Jvm.MethodName)) ∈ lw_all := lw_g (lw_at lw_m2 197 rfl) rfl
theorem q516 : (Jvm.Cond.code ({ cls := "MaypoleGreen$Form", name := "orders", desc := "()V" } : Jvm.MethodName) prog_6_method_5_code (5 : Nat) (Option.none : Option Jvm.ClassFile.FieldType)) ∈ lw_all := lw_g (lw_at lw_m2 198 rfl) rfl
theorem q517 : (Jvm.Cond.methodLink "MaypoleGreen$Form" (42 : Nat) ({ cls := "MaypoleGreen$Form", name := "goesAhead", desc := "(II)Z" } : Jvm.MethodName)) ∈ lw_all := lw_g (lw_at lw_m2 199 rfl) rfl
theorem q518 : (Jvm.Cond.privateMethod ({ cls := "MaypoleGreen$Form", name := "goesAhead", desc := "(II)Z" } : Jvm.MethodName)) ∈ lw_tbl := lw_at lw_m2 200 rfl
theorem q519 : (Jvm.Cond.instanceMethod ({ cls := "MaypoleGreen$Form", name := "goesAhead", desc := "(II)Z" } : Jvm.MethodName)) ∈ lw_all := lw_g (lw_at lw_m2 201 rfl) rfl
theorem q520 : (Jvm.Cond.code ({ cls := "MaypoleGreen$Form", name := "goesAhead", desc := "(II)Z" } : Jvm.MethodName) prog_6_method_4_code (4 : Nat) (Option.some Jvm.ClassFile.FieldType.boolean)) ∈ lw_all := lw_g (lw_at lw_m2 202 rfl) rfl
theorem q521 : (Jvm.Cond.fieldLink "MaypoleGreen$Form" (15 : Nat) "MaypoleGreen$Form" "places" "I") ∈ lw_all := lw_g (lw_at lw_m2 203 rfl) rfl
theorem q522 : (Jvm.Cond.fieldLink "MaypoleGreen$Form" (9 : Nat) "MaypoleGreen$Form" "passes" "[I") ∈ lw_all := lw_g (lw_at lw_m2 204 rfl) rfl
theorem q524 : (Jvm.Cond.fieldLink "MaypoleGreen$Form" (35 : Nat) "MaypoleGreen$Form" "many" "I") ∈ lw_all := lw_g (lw_at lw_m2 206 rfl) rfl
theorem q526 : (Jvm.Cond.fieldLink "MaypoleGreen$Form" (19 : Nat) "MaypoleGreen$Form" "turns" "I") ∈ lw_all := lw_g (lw_at lw_m2 208 rfl) rfl
theorem q528 : (Jvm.Cond.laysFinal "MaypoleGreen$Form" "MaypoleGreen$Form" "places" "I") ∈ lw_all := lw_g (lw_at lw_m2 210 rfl) rfl
theorem q529 : (Jvm.Cond.soleField "MaypoleGreen$Form" "places") ∈ lw_all := lw_g (lw_at lw_m2 211 rfl) rfl
theorem q530 : (Jvm.Cond.laysFinal "MaypoleGreen$Form" "MaypoleGreen$Form" "passes" "[I") ∈ lw_all := lw_g (lw_at lw_m2 212 rfl) rfl
theorem q531 : (Jvm.Cond.soleField "MaypoleGreen$Form" "passes") ∈ lw_all := lw_g (lw_at lw_m2 213 rfl) rfl
theorem q532 : (Jvm.Cond.lays "MaypoleGreen$Form" "MaypoleGreen$Form" "many" "I") ∈ lw_all := lw_g (lw_at lw_m2 214 rfl) rfl
theorem q533 : (Jvm.Cond.soleField "MaypoleGreen$Form" "many") ∈ lw_all := lw_g (lw_at lw_m2 215 rfl) rfl
theorem q534 : (Jvm.Cond.lays "MaypoleGreen$Form" "MaypoleGreen$Form" "turns" "I") ∈ lw_all := lw_g (lw_at lw_m2 216 rfl) rfl
theorem q535 : (Jvm.Cond.soleField "MaypoleGreen$Form" "turns") ∈ lw_all := lw_g (lw_at lw_m2 217 rfl) rfl
theorem q536 : (Jvm.Cond.superclass "MaypoleGreen$Form" "java/lang/Object") ∈ lw_all := lw_g (lw_at lw_m2 218 rfl) rfl
theorem q546 : (Jvm.Cond.instanceMethod ({ cls := "MaypoleGreen$Form", name := "is", desc := "(LMaypoleGreen$Form;)Z" } : Jvm.MethodName)) ∈ lw_all := lw_g (lw_at lw_m2 228 rfl) rfl
theorem q547 : (Jvm.Cond.selects "MaypoleGreen$Form" ({ cls := "MaypoleGreen$Form", name := "is", desc := "(LMaypoleGreen$Form;)Z" } : Jvm.MethodName) ({ cls := "MaypoleGreen$Form", name := "is", desc := "(LMaypoleGreen$Form;)Z" } : Jvm.MethodName)) ∈ lw_all := lw_g (lw_at lw_m2 229 rfl) rfl
theorem q548 : (Jvm.Cond.code ({ cls := "MaypoleGreen$Form", name := "is", desc := "(LMaypoleGreen$Form;)Z" } : Jvm.MethodName) prog_6_method_6_code (4 : Nat) (Option.some Jvm.ClassFile.FieldType.boolean)) ∈ lw_all := lw_g (lw_at lw_m2 230 rfl) rfl
theorem in_X10 : ∀ w ∈ wsX100, w ∈ lw_all := lw_in wsX100 [528, 530, 532, 534] (by decide +kernel) (by decide +kernel)

/-! MaypoleGreen$Reader -/
set_option maxRecDepth 100000
def RX11 : String := "MaypoleGreen$Reader"
def TX11 : u_T := fun k => match k with
  | 0 => ("MaypoleGreen$Reader", "text", "[B", true)
  | 1 => ("MaypoleGreen$Reader", "size", "I", true)
  | 2 => ("MaypoleGreen$Reader", "known", "[LMaypoleGreen$Figure;", true)
  | 3 => ("MaypoleGreen$Reader", "figures", "I", true)
  | 4 => ("MaypoleGreen$Reader", "at", "I", false)
  | _ => ("MaypoleGreen$Reader", "deep", "I", false)
def tyX11 : Nat → FieldType := fun k => match k with
  | 0 => .array .byte
  | 1 => .int
  | 2 => .array (.object "MaypoleGreen$Figure")
  | 3 => .int
  | 4 => .int
  | _ => .int
abbrev wsX110 : List Cond := u_ws RX11 TX11 6
theorem nmX11 : ∀ a, a < 6 → ∀ b, b < 6 → a ≠ b → (TX11 a).2.1 ≠ (TX11 b).2.1 := by decide +kernel
theorem tyX11_ok : ∀ k, k < 6 → parseFieldDescriptor (TX11 k).2.2.1 = some (tyX11 k) := by decide +kernel
abbrev cX11_init : ByteArray := prog_12_method_1_code
def yX11_init : MethodName := ⟨RX11, "<init>", "([BI[LMaypoleGreen$Figure;I)V"⟩
def dkwX11_init_1 : List UInt8 := [181, 0, 23, 177]
abbrev dktX11_init_1 : List UInt8 := dkwX11_init_1 ++ []
def dkwX11_init_0 : List UInt8 := [42, 183, 0, 3, 42, 43, 181, 0, 9, 42, 28, 181, 0, 15, 42, 45, 181, 0, 19, 42, 21, 4]
abbrev dktX11_init_0 : List UInt8 := dkwX11_init_0 ++ dktX11_init_1
theorem dksX11_init_0 : cX11_init.data.toList.drop 0 = dktX11_init_0 := by decide +kernel
theorem dksX11_init_1 : cX11_init.data.toList.drop 22 = dktX11_init_1 := dk_seg dksX11_init_0 22 rfl rfl
theorem dX11_init_0 : decode cX11_init 0 = .ok (.aload_n 0, 1) := dk_42 (dk_at dksX11_init_0 0 rfl rfl)
theorem dX11_init_1 : decode cX11_init 1 = .ok (.invokespecial 3, 3) := dk_183 0 3 (dk_at dksX11_init_0 1 rfl rfl)
theorem dX11_init_4 : decode cX11_init 4 = .ok (.aload_n 0, 1) := dk_42 (dk_at dksX11_init_0 4 rfl rfl)
theorem dX11_init_5 : decode cX11_init 5 = .ok (.aload_n 1, 1) := dk_43 (dk_at dksX11_init_0 5 rfl rfl)
theorem dX11_init_6 : decode cX11_init 6 = .ok (.putfield 9, 3) := dk_181 0 9 (dk_at dksX11_init_0 6 rfl rfl)
theorem dX11_init_9 : decode cX11_init 9 = .ok (.aload_n 0, 1) := dk_42 (dk_at dksX11_init_0 9 rfl rfl)
theorem dX11_init_10 : decode cX11_init 10 = .ok (.iload_n 2, 1) := dk_28 (dk_at dksX11_init_0 10 rfl rfl)
theorem dX11_init_11 : decode cX11_init 11 = .ok (.putfield 15, 3) := dk_181 0 15 (dk_at dksX11_init_0 11 rfl rfl)
theorem dX11_init_14 : decode cX11_init 14 = .ok (.aload_n 0, 1) := dk_42 (dk_at dksX11_init_0 14 rfl rfl)
theorem dX11_init_15 : decode cX11_init 15 = .ok (.aload_n 3, 1) := dk_45 (dk_at dksX11_init_0 15 rfl rfl)
theorem dX11_init_16 : decode cX11_init 16 = .ok (.putfield 19, 3) := dk_181 0 19 (dk_at dksX11_init_0 16 rfl rfl)
theorem dX11_init_19 : decode cX11_init 19 = .ok (.aload_n 0, 1) := dk_42 (dk_at dksX11_init_0 19 rfl rfl)
theorem dX11_init_20 : decode cX11_init 20 = .ok (.iload 4, 2) := dk_21 4 (dk_at dksX11_init_0 20 rfl rfl)
theorem dX11_init_22 : decode cX11_init 22 = .ok (.putfield 23, 3) := dk_181 0 23 (dk_at dksX11_init_1 0 rfl rfl)
theorem dX11_init_25 : decode cX11_init 25 = .ok (.return_, 1) := dk_177 (dk_at dksX11_init_1 3 rfl rfl)
abbrev cX11_figure : ByteArray := prog_12_method_9_code
def yX11_figure : MethodName := ⟨RX11, "figure", "()LMaypoleGreen$Figure;"⟩
def dkwX11_figure_0 : List UInt8 := [42, 182, 0, 50, 76, 42, 180, 0, 26, 42, 180, 0, 15, 162, 0, 8, 42, 182, 0, 38, 191, 43, 176]
abbrev dktX11_figure_0 : List UInt8 := dkwX11_figure_0 ++ []
theorem dksX11_figure_0 : cX11_figure.data.toList.drop 0 = dktX11_figure_0 := by decide +kernel
theorem dX11_figure_0 : decode cX11_figure 0 = .ok (.aload_n 0, 1) := dk_42 (dk_at dksX11_figure_0 0 rfl rfl)
theorem dX11_figure_1 : decode cX11_figure 1 = .ok (.invokevirtual 50, 3) := dk_182 0 50 (dk_at dksX11_figure_0 1 rfl rfl)
theorem dX11_figure_4 : decode cX11_figure 4 = .ok (.astore_n 1, 1) := dk_76 (dk_at dksX11_figure_0 4 rfl rfl)
theorem dX11_figure_5 : decode cX11_figure 5 = .ok (.aload_n 0, 1) := dk_42 (dk_at dksX11_figure_0 5 rfl rfl)
theorem dX11_figure_6 : decode cX11_figure 6 = .ok (.getfield 26, 3) := dk_180 0 26 (dk_at dksX11_figure_0 6 rfl rfl)
theorem dX11_figure_9 : decode cX11_figure 9 = .ok (.aload_n 0, 1) := dk_42 (dk_at dksX11_figure_0 9 rfl rfl)
theorem dX11_figure_10 : decode cX11_figure 10 = .ok (.getfield 15, 3) := dk_180 0 15 (dk_at dksX11_figure_0 10 rfl rfl)
theorem dX11_figure_13 : decode cX11_figure 13 = .ok (.if_icmp .ge 8, 3) := dk_162 0 8 (dk_at dksX11_figure_0 13 rfl rfl)
theorem dX11_figure_16 : decode cX11_figure 16 = .ok (.aload_n 0, 1) := dk_42 (dk_at dksX11_figure_0 16 rfl rfl)
theorem dX11_figure_17 : decode cX11_figure 17 = .ok (.invokevirtual 38, 3) := dk_182 0 38 (dk_at dksX11_figure_0 17 rfl rfl)
theorem dX11_figure_20 : decode cX11_figure 20 = .ok (.athrow, 1) := dk_191 (dk_at dksX11_figure_0 20 rfl rfl)
theorem dX11_figure_21 : decode cX11_figure 21 = .ok (.aload_n 1, 1) := dk_43 (dk_at dksX11_figure_0 21 rfl rfl)
theorem dX11_figure_22 : decode cX11_figure 22 = .ok (.areturn, 1) := dk_176 (dk_at dksX11_figure_0 22 rfl rfl)
abbrev cX11_items : ByteArray := prog_12_method_8_code
def yX11_items : MethodName := ⟨RX11, "items", "()LMaypoleGreen$Figure;"⟩
def dkwX11_items_1 : List UInt8 := [153, 0, 11, 42, 43, 182, 0, 75, 167, 255, 244, 43, 176]
abbrev dktX11_items_1 : List UInt8 := dkwX11_items_1 ++ []
def dkwX11_items_0 : List UInt8 := [187, 0, 43, 89, 183, 0, 70, 76, 42, 182, 0, 71, 154, 0, 8, 42, 182, 0, 38, 191, 42, 182, 0, 71]
abbrev dktX11_items_0 : List UInt8 := dkwX11_items_0 ++ dktX11_items_1
theorem dksX11_items_0 : cX11_items.data.toList.drop 0 = dktX11_items_0 := by decide +kernel
theorem dksX11_items_1 : cX11_items.data.toList.drop 24 = dktX11_items_1 := dk_seg dksX11_items_0 24 rfl rfl
theorem dX11_items_0 : decode cX11_items 0 = .ok (.new 43, 3) := dk_187 0 43 (dk_at dksX11_items_0 0 rfl rfl)
theorem dX11_items_3 : decode cX11_items 3 = .ok (.dup, 1) := dk_89 (dk_at dksX11_items_0 3 rfl rfl)
theorem dX11_items_4 : decode cX11_items 4 = .ok (.invokespecial 70, 3) := dk_183 0 70 (dk_at dksX11_items_0 4 rfl rfl)
theorem dX11_items_7 : decode cX11_items 7 = .ok (.astore_n 1, 1) := dk_76 (dk_at dksX11_items_0 7 rfl rfl)
theorem dX11_items_8 : decode cX11_items 8 = .ok (.aload_n 0, 1) := dk_42 (dk_at dksX11_items_0 8 rfl rfl)
theorem dX11_items_9 : decode cX11_items 9 = .ok (.invokevirtual 71, 3) := dk_182 0 71 (dk_at dksX11_items_0 9 rfl rfl)
theorem dX11_items_12 : decode cX11_items 12 = .ok (.ifCond .ne 8, 3) := dk_154 0 8 (dk_at dksX11_items_0 12 rfl rfl)
theorem dX11_items_15 : decode cX11_items 15 = .ok (.aload_n 0, 1) := dk_42 (dk_at dksX11_items_0 15 rfl rfl)
theorem dX11_items_16 : decode cX11_items 16 = .ok (.invokevirtual 38, 3) := dk_182 0 38 (dk_at dksX11_items_0 16 rfl rfl)
theorem dX11_items_19 : decode cX11_items 19 = .ok (.athrow, 1) := dk_191 (dk_at dksX11_items_0 19 rfl rfl)
theorem dX11_items_20 : decode cX11_items 20 = .ok (.aload_n 0, 1) := dk_42 (dk_at dksX11_items_0 20 rfl rfl)
theorem dX11_items_21 : decode cX11_items 21 = .ok (.invokevirtual 71, 3) := dk_182 0 71 (dk_at dksX11_items_0 21 rfl rfl)
theorem dX11_items_24 : decode cX11_items 24 = .ok (.ifCond .eq 11, 3) := dk_153 0 11 (dk_at dksX11_items_1 0 rfl rfl)
theorem dX11_items_27 : decode cX11_items 27 = .ok (.aload_n 0, 1) := dk_42 (dk_at dksX11_items_1 3 rfl rfl)
theorem dX11_items_28 : decode cX11_items 28 = .ok (.aload_n 1, 1) := dk_43 (dk_at dksX11_items_1 4 rfl rfl)
theorem dX11_items_29 : decode cX11_items 29 = .ok (.invokevirtual 75, 3) := dk_182 0 75 (dk_at dksX11_items_1 5 rfl rfl)
theorem dX11_items_32 : decode cX11_items 32 = .ok (.goto (-12), 3) := dk_167 255 244 (dk_at dksX11_items_1 8 rfl rfl)
theorem dX11_items_35 : decode cX11_items 35 = .ok (.aload_n 1, 1) := dk_43 (dk_at dksX11_items_1 11 rfl rfl)
theorem dX11_items_36 : decode cX11_items 36 = .ok (.areturn, 1) := dk_176 (dk_at dksX11_items_1 12 rfl rfl)
abbrev cX11_isItem : ByteArray := prog_12_method_6_code
def yX11_isItem : MethodName := ⟨RX11, "isItem", "()Z"⟩
def dkwX11_isItem_2 : List UInt8 := [167, 0, 4, 3, 172]
abbrev dktX11_isItem_2 : List UInt8 := dkwX11_isItem_2 ++ []
def dkwX11_isItem_1 : List UInt8 := [16, 118, 159, 0, 20, 27, 16, 40, 159, 0, 14, 27, 16, 65, 16, 74, 184, 0, 58, 153, 0, 7, 4]
abbrev dktX11_isItem_1 : List UInt8 := dkwX11_isItem_1 ++ dktX11_isItem_2
def dkwX11_isItem_0 : List UInt8 := [42, 182, 0, 34, 60, 27, 16, 48, 16, 57, 184, 0, 58, 154, 0, 32, 27, 16, 119, 159, 0, 26, 27]
abbrev dktX11_isItem_0 : List UInt8 := dkwX11_isItem_0 ++ dktX11_isItem_1
theorem dksX11_isItem_0 : cX11_isItem.data.toList.drop 0 = dktX11_isItem_0 := by decide +kernel
theorem dksX11_isItem_1 : cX11_isItem.data.toList.drop 23 = dktX11_isItem_1 := dk_seg dksX11_isItem_0 23 rfl rfl
theorem dksX11_isItem_2 : cX11_isItem.data.toList.drop 46 = dktX11_isItem_2 := dk_seg dksX11_isItem_1 23 rfl rfl
theorem dX11_isItem_0 : decode cX11_isItem 0 = .ok (.aload_n 0, 1) := dk_42 (dk_at dksX11_isItem_0 0 rfl rfl)
theorem dX11_isItem_1 : decode cX11_isItem 1 = .ok (.invokevirtual 34, 3) := dk_182 0 34 (dk_at dksX11_isItem_0 1 rfl rfl)
theorem dX11_isItem_4 : decode cX11_isItem 4 = .ok (.istore_n 1, 1) := dk_60 (dk_at dksX11_isItem_0 4 rfl rfl)
theorem dX11_isItem_5 : decode cX11_isItem 5 = .ok (.iload_n 1, 1) := dk_27 (dk_at dksX11_isItem_0 5 rfl rfl)
theorem dX11_isItem_6 : decode cX11_isItem 6 = .ok (.bipush 48, 2) := dk_16 48 (dk_at dksX11_isItem_0 6 rfl rfl)
theorem dX11_isItem_8 : decode cX11_isItem 8 = .ok (.bipush 57, 2) := dk_16 57 (dk_at dksX11_isItem_0 8 rfl rfl)
theorem dX11_isItem_10 : decode cX11_isItem 10 = .ok (.invokestatic 58, 3) := dk_184 0 58 (dk_at dksX11_isItem_0 10 rfl rfl)
theorem dX11_isItem_13 : decode cX11_isItem 13 = .ok (.ifCond .ne 32, 3) := dk_154 0 32 (dk_at dksX11_isItem_0 13 rfl rfl)
theorem dX11_isItem_16 : decode cX11_isItem 16 = .ok (.iload_n 1, 1) := dk_27 (dk_at dksX11_isItem_0 16 rfl rfl)
theorem dX11_isItem_17 : decode cX11_isItem 17 = .ok (.bipush 119, 2) := dk_16 119 (dk_at dksX11_isItem_0 17 rfl rfl)
theorem dX11_isItem_19 : decode cX11_isItem 19 = .ok (.if_icmp .eq 26, 3) := dk_159 0 26 (dk_at dksX11_isItem_0 19 rfl rfl)
theorem dX11_isItem_22 : decode cX11_isItem 22 = .ok (.iload_n 1, 1) := dk_27 (dk_at dksX11_isItem_0 22 rfl rfl)
theorem dX11_isItem_23 : decode cX11_isItem 23 = .ok (.bipush 118, 2) := dk_16 118 (dk_at dksX11_isItem_1 0 rfl rfl)
theorem dX11_isItem_25 : decode cX11_isItem 25 = .ok (.if_icmp .eq 20, 3) := dk_159 0 20 (dk_at dksX11_isItem_1 2 rfl rfl)
theorem dX11_isItem_28 : decode cX11_isItem 28 = .ok (.iload_n 1, 1) := dk_27 (dk_at dksX11_isItem_1 5 rfl rfl)
theorem dX11_isItem_29 : decode cX11_isItem 29 = .ok (.bipush 40, 2) := dk_16 40 (dk_at dksX11_isItem_1 6 rfl rfl)
theorem dX11_isItem_31 : decode cX11_isItem 31 = .ok (.if_icmp .eq 14, 3) := dk_159 0 14 (dk_at dksX11_isItem_1 8 rfl rfl)
theorem dX11_isItem_34 : decode cX11_isItem 34 = .ok (.iload_n 1, 1) := dk_27 (dk_at dksX11_isItem_1 11 rfl rfl)
theorem dX11_isItem_35 : decode cX11_isItem 35 = .ok (.bipush 65, 2) := dk_16 65 (dk_at dksX11_isItem_1 12 rfl rfl)
theorem dX11_isItem_37 : decode cX11_isItem 37 = .ok (.bipush 74, 2) := dk_16 74 (dk_at dksX11_isItem_1 14 rfl rfl)
theorem dX11_isItem_39 : decode cX11_isItem 39 = .ok (.invokestatic 58, 3) := dk_184 0 58 (dk_at dksX11_isItem_1 16 rfl rfl)
theorem dX11_isItem_42 : decode cX11_isItem 42 = .ok (.ifCond .eq 7, 3) := dk_153 0 7 (dk_at dksX11_isItem_1 19 rfl rfl)
theorem dX11_isItem_45 : decode cX11_isItem 45 = .ok (.iconst 1, 1) := dk_4 (dk_at dksX11_isItem_1 22 rfl rfl)
theorem dX11_isItem_46 : decode cX11_isItem 46 = .ok (.goto 4, 3) := dk_167 0 4 (dk_at dksX11_isItem_2 0 rfl rfl)
theorem dX11_isItem_49 : decode cX11_isItem 49 = .ok (.iconst 0, 1) := dk_3 (dk_at dksX11_isItem_2 3 rfl rfl)
theorem dX11_isItem_50 : decode cX11_isItem 50 = .ok (.ireturn, 1) := dk_172 (dk_at dksX11_isItem_2 4 rfl rfl)
abbrev cX11_here : ByteArray := prog_12_method_2_code
def yX11_here : MethodName := ⟨RX11, "here", "()I"⟩
def dkwX11_here_1 : List UInt8 := [172]
abbrev dktX11_here_1 : List UInt8 := dkwX11_here_1 ++ []
def dkwX11_here_0 : List UInt8 := [42, 180, 0, 26, 42, 180, 0, 15, 162, 0, 15, 42, 180, 0, 9, 42, 180, 0, 26, 51, 167, 0, 4, 2]
abbrev dktX11_here_0 : List UInt8 := dkwX11_here_0 ++ dktX11_here_1
theorem dksX11_here_0 : cX11_here.data.toList.drop 0 = dktX11_here_0 := by decide +kernel
theorem dksX11_here_1 : cX11_here.data.toList.drop 24 = dktX11_here_1 := dk_seg dksX11_here_0 24 rfl rfl
theorem dX11_here_0 : decode cX11_here 0 = .ok (.aload_n 0, 1) := dk_42 (dk_at dksX11_here_0 0 rfl rfl)
theorem dX11_here_1 : decode cX11_here 1 = .ok (.getfield 26, 3) := dk_180 0 26 (dk_at dksX11_here_0 1 rfl rfl)
theorem dX11_here_4 : decode cX11_here 4 = .ok (.aload_n 0, 1) := dk_42 (dk_at dksX11_here_0 4 rfl rfl)
theorem dX11_here_5 : decode cX11_here 5 = .ok (.getfield 15, 3) := dk_180 0 15 (dk_at dksX11_here_0 5 rfl rfl)
theorem dX11_here_8 : decode cX11_here 8 = .ok (.if_icmp .ge 15, 3) := dk_162 0 15 (dk_at dksX11_here_0 8 rfl rfl)
theorem dX11_here_11 : decode cX11_here 11 = .ok (.aload_n 0, 1) := dk_42 (dk_at dksX11_here_0 11 rfl rfl)
theorem dX11_here_12 : decode cX11_here 12 = .ok (.getfield 9, 3) := dk_180 0 9 (dk_at dksX11_here_0 12 rfl rfl)
theorem dX11_here_15 : decode cX11_here 15 = .ok (.aload_n 0, 1) := dk_42 (dk_at dksX11_here_0 15 rfl rfl)
theorem dX11_here_16 : decode cX11_here 16 = .ok (.getfield 26, 3) := dk_180 0 26 (dk_at dksX11_here_0 16 rfl rfl)
theorem dX11_here_19 : decode cX11_here 19 = .ok (.baload, 1) := dk_51 (dk_at dksX11_here_0 19 rfl rfl)
theorem dX11_here_20 : decode cX11_here 20 = .ok (.goto 4, 3) := dk_167 0 4 (dk_at dksX11_here_0 20 rfl rfl)
theorem dX11_here_23 : decode cX11_here 23 = .ok (.iconst (-1), 1) := dk_2 (dk_at dksX11_here_0 23 rfl rfl)
theorem dX11_here_24 : decode cX11_here 24 = .ok (.ireturn, 1) := dk_172 (dk_at dksX11_here_1 0 rfl rfl)
abbrev cX11_off : ByteArray := prog_12_method_3_code
def yX11_off : MethodName := ⟨RX11, "off", "()LMaypoleGreen$Off;"⟩
def dkwX11_off_0 : List UInt8 := [187, 0, 29, 89, 42, 180, 0, 26, 183, 0, 31, 176]
abbrev dktX11_off_0 : List UInt8 := dkwX11_off_0 ++ []
theorem dksX11_off_0 : cX11_off.data.toList.drop 0 = dktX11_off_0 := by decide +kernel
theorem dX11_off_0 : decode cX11_off 0 = .ok (.new 29, 3) := dk_187 0 29 (dk_at dksX11_off_0 0 rfl rfl)
theorem dX11_off_3 : decode cX11_off 3 = .ok (.dup, 1) := dk_89 (dk_at dksX11_off_0 3 rfl rfl)
theorem dX11_off_4 : decode cX11_off 4 = .ok (.aload_n 0, 1) := dk_42 (dk_at dksX11_off_0 4 rfl rfl)
theorem dX11_off_5 : decode cX11_off 5 = .ok (.getfield 26, 3) := dk_180 0 26 (dk_at dksX11_off_0 5 rfl rfl)
theorem dX11_off_8 : decode cX11_off 8 = .ok (.invokespecial 31, 3) := dk_183 0 31 (dk_at dksX11_off_0 8 rfl rfl)
theorem dX11_off_11 : decode cX11_off 11 = .ok (.areturn, 1) := dk_176 (dk_at dksX11_off_0 11 rfl rfl)
abbrev cX11_item : ByteArray := prog_12_method_7_code
def yX11_item : MethodName := ⟨RX11, "item", "(LMaypoleGreen$Figure;)V"⟩
def dkwX11_item_5 : List UInt8 := [181, 0, 26, 177]
abbrev dktX11_item_5 : List UInt8 := dkwX11_item_5 ++ []
def dkwX11_item_4 : List UInt8 := [182, 0, 38, 191, 43, 42, 180, 0, 19, 28, 16, 65, 100, 50, 182, 0, 62, 42, 89, 180, 0, 26, 4, 96]
abbrev dktX11_item_4 : List UInt8 := dkwX11_item_4 ++ dktX11_item_5
def dkwX11_item_3 : List UInt8 := [180, 0, 26, 4, 96, 181, 0, 26, 167, 0, 42, 28, 16, 65, 100, 42, 180, 0, 23, 161, 0, 8, 42]
abbrev dktX11_item_3 : List UInt8 := dkwX11_item_3 ++ dktX11_item_4
def dkwX11_item_2 : List UInt8 := [160, 0, 33, 43, 28, 16, 119, 160, 0, 8, 16, 100, 167, 0, 5, 16, 101, 182, 0, 42, 42, 89]
abbrev dktX11_item_2 : List UInt8 := dkwX11_item_2 ++ dktX11_item_3
def dkwX11_item_1 : List UInt8 := [28, 16, 40, 160, 0, 11, 42, 43, 182, 0, 67, 167, 0, 84, 28, 16, 119, 159, 0, 9, 28, 16, 118]
abbrev dktX11_item_1 : List UInt8 := dkwX11_item_1 ++ dktX11_item_2
def dkwX11_item_0 : List UInt8 := [42, 182, 0, 34, 61, 28, 16, 48, 16, 57, 184, 0, 58, 153, 0, 11, 42, 43, 182, 0, 64, 167, 0, 98]
abbrev dktX11_item_0 : List UInt8 := dkwX11_item_0 ++ dktX11_item_1
theorem dksX11_item_0 : cX11_item.data.toList.drop 0 = dktX11_item_0 := by decide +kernel
theorem dksX11_item_1 : cX11_item.data.toList.drop 24 = dktX11_item_1 := dk_seg dksX11_item_0 24 rfl rfl
theorem dksX11_item_2 : cX11_item.data.toList.drop 47 = dktX11_item_2 := dk_seg dksX11_item_1 23 rfl rfl
theorem dksX11_item_3 : cX11_item.data.toList.drop 69 = dktX11_item_3 := dk_seg dksX11_item_2 22 rfl rfl
theorem dksX11_item_4 : cX11_item.data.toList.drop 92 = dktX11_item_4 := dk_seg dksX11_item_3 23 rfl rfl
theorem dksX11_item_5 : cX11_item.data.toList.drop 116 = dktX11_item_5 := dk_seg dksX11_item_4 24 rfl rfl
theorem dX11_item_0 : decode cX11_item 0 = .ok (.aload_n 0, 1) := dk_42 (dk_at dksX11_item_0 0 rfl rfl)
theorem dX11_item_1 : decode cX11_item 1 = .ok (.invokevirtual 34, 3) := dk_182 0 34 (dk_at dksX11_item_0 1 rfl rfl)
theorem dX11_item_4 : decode cX11_item 4 = .ok (.istore_n 2, 1) := dk_61 (dk_at dksX11_item_0 4 rfl rfl)
theorem dX11_item_5 : decode cX11_item 5 = .ok (.iload_n 2, 1) := dk_28 (dk_at dksX11_item_0 5 rfl rfl)
theorem dX11_item_6 : decode cX11_item 6 = .ok (.bipush 48, 2) := dk_16 48 (dk_at dksX11_item_0 6 rfl rfl)
theorem dX11_item_8 : decode cX11_item 8 = .ok (.bipush 57, 2) := dk_16 57 (dk_at dksX11_item_0 8 rfl rfl)
theorem dX11_item_10 : decode cX11_item 10 = .ok (.invokestatic 58, 3) := dk_184 0 58 (dk_at dksX11_item_0 10 rfl rfl)
theorem dX11_item_13 : decode cX11_item 13 = .ok (.ifCond .eq 11, 3) := dk_153 0 11 (dk_at dksX11_item_0 13 rfl rfl)
theorem dX11_item_16 : decode cX11_item 16 = .ok (.aload_n 0, 1) := dk_42 (dk_at dksX11_item_0 16 rfl rfl)
theorem dX11_item_17 : decode cX11_item 17 = .ok (.aload_n 1, 1) := dk_43 (dk_at dksX11_item_0 17 rfl rfl)
theorem dX11_item_18 : decode cX11_item 18 = .ok (.invokevirtual 64, 3) := dk_182 0 64 (dk_at dksX11_item_0 18 rfl rfl)
theorem dX11_item_21 : decode cX11_item 21 = .ok (.goto 98, 3) := dk_167 0 98 (dk_at dksX11_item_0 21 rfl rfl)
theorem dX11_item_24 : decode cX11_item 24 = .ok (.iload_n 2, 1) := dk_28 (dk_at dksX11_item_1 0 rfl rfl)
theorem dX11_item_25 : decode cX11_item 25 = .ok (.bipush 40, 2) := dk_16 40 (dk_at dksX11_item_1 1 rfl rfl)
theorem dX11_item_27 : decode cX11_item 27 = .ok (.if_icmp .ne 11, 3) := dk_160 0 11 (dk_at dksX11_item_1 3 rfl rfl)
theorem dX11_item_30 : decode cX11_item 30 = .ok (.aload_n 0, 1) := dk_42 (dk_at dksX11_item_1 6 rfl rfl)
theorem dX11_item_31 : decode cX11_item 31 = .ok (.aload_n 1, 1) := dk_43 (dk_at dksX11_item_1 7 rfl rfl)
theorem dX11_item_32 : decode cX11_item 32 = .ok (.invokevirtual 67, 3) := dk_182 0 67 (dk_at dksX11_item_1 8 rfl rfl)
theorem dX11_item_35 : decode cX11_item 35 = .ok (.goto 84, 3) := dk_167 0 84 (dk_at dksX11_item_1 11 rfl rfl)
theorem dX11_item_38 : decode cX11_item 38 = .ok (.iload_n 2, 1) := dk_28 (dk_at dksX11_item_1 14 rfl rfl)
theorem dX11_item_39 : decode cX11_item 39 = .ok (.bipush 119, 2) := dk_16 119 (dk_at dksX11_item_1 15 rfl rfl)
theorem dX11_item_41 : decode cX11_item 41 = .ok (.if_icmp .eq 9, 3) := dk_159 0 9 (dk_at dksX11_item_1 17 rfl rfl)
theorem dX11_item_44 : decode cX11_item 44 = .ok (.iload_n 2, 1) := dk_28 (dk_at dksX11_item_1 20 rfl rfl)
theorem dX11_item_45 : decode cX11_item 45 = .ok (.bipush 118, 2) := dk_16 118 (dk_at dksX11_item_1 21 rfl rfl)
theorem dX11_item_47 : decode cX11_item 47 = .ok (.if_icmp .ne 33, 3) := dk_160 0 33 (dk_at dksX11_item_2 0 rfl rfl)
theorem dX11_item_50 : decode cX11_item 50 = .ok (.aload_n 1, 1) := dk_43 (dk_at dksX11_item_2 3 rfl rfl)
theorem dX11_item_51 : decode cX11_item 51 = .ok (.iload_n 2, 1) := dk_28 (dk_at dksX11_item_2 4 rfl rfl)
theorem dX11_item_52 : decode cX11_item 52 = .ok (.bipush 119, 2) := dk_16 119 (dk_at dksX11_item_2 5 rfl rfl)
theorem dX11_item_54 : decode cX11_item 54 = .ok (.if_icmp .ne 8, 3) := dk_160 0 8 (dk_at dksX11_item_2 7 rfl rfl)
theorem dX11_item_57 : decode cX11_item 57 = .ok (.bipush 100, 2) := dk_16 100 (dk_at dksX11_item_2 10 rfl rfl)
theorem dX11_item_59 : decode cX11_item 59 = .ok (.goto 5, 3) := dk_167 0 5 (dk_at dksX11_item_2 12 rfl rfl)
theorem dX11_item_62 : decode cX11_item 62 = .ok (.bipush 101, 2) := dk_16 101 (dk_at dksX11_item_2 15 rfl rfl)
theorem dX11_item_64 : decode cX11_item 64 = .ok (.invokevirtual 42, 3) := dk_182 0 42 (dk_at dksX11_item_2 17 rfl rfl)
theorem dX11_item_67 : decode cX11_item 67 = .ok (.aload_n 0, 1) := dk_42 (dk_at dksX11_item_2 20 rfl rfl)
theorem dX11_item_68 : decode cX11_item 68 = .ok (.dup, 1) := dk_89 (dk_at dksX11_item_2 21 rfl rfl)
theorem dX11_item_69 : decode cX11_item 69 = .ok (.getfield 26, 3) := dk_180 0 26 (dk_at dksX11_item_3 0 rfl rfl)
theorem dX11_item_72 : decode cX11_item 72 = .ok (.iconst 1, 1) := dk_4 (dk_at dksX11_item_3 3 rfl rfl)
theorem dX11_item_73 : decode cX11_item 73 = .ok (.iadd, 1) := dk_96 (dk_at dksX11_item_3 4 rfl rfl)
theorem dX11_item_74 : decode cX11_item 74 = .ok (.putfield 26, 3) := dk_181 0 26 (dk_at dksX11_item_3 5 rfl rfl)
theorem dX11_item_77 : decode cX11_item 77 = .ok (.goto 42, 3) := dk_167 0 42 (dk_at dksX11_item_3 8 rfl rfl)
theorem dX11_item_80 : decode cX11_item 80 = .ok (.iload_n 2, 1) := dk_28 (dk_at dksX11_item_3 11 rfl rfl)
theorem dX11_item_81 : decode cX11_item 81 = .ok (.bipush 65, 2) := dk_16 65 (dk_at dksX11_item_3 12 rfl rfl)
theorem dX11_item_83 : decode cX11_item 83 = .ok (.isub, 1) := dk_100 (dk_at dksX11_item_3 14 rfl rfl)
theorem dX11_item_84 : decode cX11_item 84 = .ok (.aload_n 0, 1) := dk_42 (dk_at dksX11_item_3 15 rfl rfl)
theorem dX11_item_85 : decode cX11_item 85 = .ok (.getfield 23, 3) := dk_180 0 23 (dk_at dksX11_item_3 16 rfl rfl)
theorem dX11_item_88 : decode cX11_item 88 = .ok (.if_icmp .lt 8, 3) := dk_161 0 8 (dk_at dksX11_item_3 19 rfl rfl)
theorem dX11_item_91 : decode cX11_item 91 = .ok (.aload_n 0, 1) := dk_42 (dk_at dksX11_item_3 22 rfl rfl)
theorem dX11_item_92 : decode cX11_item 92 = .ok (.invokevirtual 38, 3) := dk_182 0 38 (dk_at dksX11_item_4 0 rfl rfl)
theorem dX11_item_95 : decode cX11_item 95 = .ok (.athrow, 1) := dk_191 (dk_at dksX11_item_4 3 rfl rfl)
theorem dX11_item_96 : decode cX11_item 96 = .ok (.aload_n 1, 1) := dk_43 (dk_at dksX11_item_4 4 rfl rfl)
theorem dX11_item_97 : decode cX11_item 97 = .ok (.aload_n 0, 1) := dk_42 (dk_at dksX11_item_4 5 rfl rfl)
theorem dX11_item_98 : decode cX11_item 98 = .ok (.getfield 19, 3) := dk_180 0 19 (dk_at dksX11_item_4 6 rfl rfl)
theorem dX11_item_101 : decode cX11_item 101 = .ok (.iload_n 2, 1) := dk_28 (dk_at dksX11_item_4 9 rfl rfl)
theorem dX11_item_102 : decode cX11_item 102 = .ok (.bipush 65, 2) := dk_16 65 (dk_at dksX11_item_4 10 rfl rfl)
theorem dX11_item_104 : decode cX11_item 104 = .ok (.isub, 1) := dk_100 (dk_at dksX11_item_4 12 rfl rfl)
theorem dX11_item_105 : decode cX11_item 105 = .ok (.aaload, 1) := dk_50 (dk_at dksX11_item_4 13 rfl rfl)
theorem dX11_item_106 : decode cX11_item 106 = .ok (.invokevirtual 62, 3) := dk_182 0 62 (dk_at dksX11_item_4 14 rfl rfl)
theorem dX11_item_109 : decode cX11_item 109 = .ok (.aload_n 0, 1) := dk_42 (dk_at dksX11_item_4 17 rfl rfl)
theorem dX11_item_110 : decode cX11_item 110 = .ok (.dup, 1) := dk_89 (dk_at dksX11_item_4 18 rfl rfl)
theorem dX11_item_111 : decode cX11_item 111 = .ok (.getfield 26, 3) := dk_180 0 26 (dk_at dksX11_item_4 19 rfl rfl)
theorem dX11_item_114 : decode cX11_item 114 = .ok (.iconst 1, 1) := dk_4 (dk_at dksX11_item_4 22 rfl rfl)
theorem dX11_item_115 : decode cX11_item 115 = .ok (.iadd, 1) := dk_96 (dk_at dksX11_item_4 23 rfl rfl)
theorem dX11_item_116 : decode cX11_item 116 = .ok (.putfield 26, 3) := dk_181 0 26 (dk_at dksX11_item_5 0 rfl rfl)
theorem dX11_item_119 : decode cX11_item 119 = .ok (.return_, 1) := dk_177 (dk_at dksX11_item_5 3 rfl rfl)
abbrev cX11_passes : ByteArray := prog_12_method_4_code
def yX11_passes : MethodName := ⟨RX11, "passes", "(LMaypoleGreen$Figure;)V"⟩
def dkwX11_passes_3 : List UInt8 := [167, 0, 4, 4, 96, 182, 0, 42, 177]
abbrev dktX11_passes_3 : List UInt8 := dkwX11_passes_3 ++ []
def dkwX11_passes_2 : List UInt8 := [42, 180, 0, 9, 42, 89, 180, 0, 26, 90, 4, 96, 181, 0, 26, 51, 16, 60, 160, 0, 7, 3]
abbrev dktX11_passes_2 : List UInt8 := dkwX11_passes_2 ++ dktX11_passes_3
def dkwX11_passes_1 : List UInt8 := [16, 60, 159, 0, 17, 42, 182, 0, 34, 16, 62, 159, 0, 8, 42, 182, 0, 38, 191, 43, 16, 10, 28, 104]
abbrev dktX11_passes_1 : List UInt8 := dkwX11_passes_1 ++ dktX11_passes_2
def dkwX11_passes_0 : List UInt8 := [42, 180, 0, 9, 42, 89, 180, 0, 26, 90, 4, 96, 181, 0, 26, 51, 16, 48, 100, 61, 42, 182, 0, 34]
abbrev dktX11_passes_0 : List UInt8 := dkwX11_passes_0 ++ dktX11_passes_1
theorem dksX11_passes_0 : cX11_passes.data.toList.drop 0 = dktX11_passes_0 := by decide +kernel
theorem dksX11_passes_1 : cX11_passes.data.toList.drop 24 = dktX11_passes_1 := dk_seg dksX11_passes_0 24 rfl rfl
theorem dksX11_passes_2 : cX11_passes.data.toList.drop 48 = dktX11_passes_2 := dk_seg dksX11_passes_1 24 rfl rfl
theorem dksX11_passes_3 : cX11_passes.data.toList.drop 70 = dktX11_passes_3 := dk_seg dksX11_passes_2 22 rfl rfl
theorem dX11_passes_0 : decode cX11_passes 0 = .ok (.aload_n 0, 1) := dk_42 (dk_at dksX11_passes_0 0 rfl rfl)
theorem dX11_passes_1 : decode cX11_passes 1 = .ok (.getfield 9, 3) := dk_180 0 9 (dk_at dksX11_passes_0 1 rfl rfl)
theorem dX11_passes_4 : decode cX11_passes 4 = .ok (.aload_n 0, 1) := dk_42 (dk_at dksX11_passes_0 4 rfl rfl)
theorem dX11_passes_5 : decode cX11_passes 5 = .ok (.dup, 1) := dk_89 (dk_at dksX11_passes_0 5 rfl rfl)
theorem dX11_passes_6 : decode cX11_passes 6 = .ok (.getfield 26, 3) := dk_180 0 26 (dk_at dksX11_passes_0 6 rfl rfl)
theorem dX11_passes_9 : decode cX11_passes 9 = .ok (.dup_x1, 1) := dk_90 (dk_at dksX11_passes_0 9 rfl rfl)
theorem dX11_passes_10 : decode cX11_passes 10 = .ok (.iconst 1, 1) := dk_4 (dk_at dksX11_passes_0 10 rfl rfl)
theorem dX11_passes_11 : decode cX11_passes 11 = .ok (.iadd, 1) := dk_96 (dk_at dksX11_passes_0 11 rfl rfl)
theorem dX11_passes_12 : decode cX11_passes 12 = .ok (.putfield 26, 3) := dk_181 0 26 (dk_at dksX11_passes_0 12 rfl rfl)
theorem dX11_passes_15 : decode cX11_passes 15 = .ok (.baload, 1) := dk_51 (dk_at dksX11_passes_0 15 rfl rfl)
theorem dX11_passes_16 : decode cX11_passes 16 = .ok (.bipush 48, 2) := dk_16 48 (dk_at dksX11_passes_0 16 rfl rfl)
theorem dX11_passes_18 : decode cX11_passes 18 = .ok (.isub, 1) := dk_100 (dk_at dksX11_passes_0 18 rfl rfl)
theorem dX11_passes_19 : decode cX11_passes 19 = .ok (.istore_n 2, 1) := dk_61 (dk_at dksX11_passes_0 19 rfl rfl)
theorem dX11_passes_20 : decode cX11_passes 20 = .ok (.aload_n 0, 1) := dk_42 (dk_at dksX11_passes_0 20 rfl rfl)
theorem dX11_passes_21 : decode cX11_passes 21 = .ok (.invokevirtual 34, 3) := dk_182 0 34 (dk_at dksX11_passes_0 21 rfl rfl)
theorem dX11_passes_24 : decode cX11_passes 24 = .ok (.bipush 60, 2) := dk_16 60 (dk_at dksX11_passes_1 0 rfl rfl)
theorem dX11_passes_26 : decode cX11_passes 26 = .ok (.if_icmp .eq 17, 3) := dk_159 0 17 (dk_at dksX11_passes_1 2 rfl rfl)
theorem dX11_passes_29 : decode cX11_passes 29 = .ok (.aload_n 0, 1) := dk_42 (dk_at dksX11_passes_1 5 rfl rfl)
theorem dX11_passes_30 : decode cX11_passes 30 = .ok (.invokevirtual 34, 3) := dk_182 0 34 (dk_at dksX11_passes_1 6 rfl rfl)
theorem dX11_passes_33 : decode cX11_passes 33 = .ok (.bipush 62, 2) := dk_16 62 (dk_at dksX11_passes_1 9 rfl rfl)
theorem dX11_passes_35 : decode cX11_passes 35 = .ok (.if_icmp .eq 8, 3) := dk_159 0 8 (dk_at dksX11_passes_1 11 rfl rfl)
theorem dX11_passes_38 : decode cX11_passes 38 = .ok (.aload_n 0, 1) := dk_42 (dk_at dksX11_passes_1 14 rfl rfl)
theorem dX11_passes_39 : decode cX11_passes 39 = .ok (.invokevirtual 38, 3) := dk_182 0 38 (dk_at dksX11_passes_1 15 rfl rfl)
theorem dX11_passes_42 : decode cX11_passes 42 = .ok (.athrow, 1) := dk_191 (dk_at dksX11_passes_1 18 rfl rfl)
theorem dX11_passes_43 : decode cX11_passes 43 = .ok (.aload_n 1, 1) := dk_43 (dk_at dksX11_passes_1 19 rfl rfl)
theorem dX11_passes_44 : decode cX11_passes 44 = .ok (.bipush 10, 2) := dk_16 10 (dk_at dksX11_passes_1 20 rfl rfl)
theorem dX11_passes_46 : decode cX11_passes 46 = .ok (.iload_n 2, 1) := dk_28 (dk_at dksX11_passes_1 22 rfl rfl)
theorem dX11_passes_47 : decode cX11_passes 47 = .ok (.imul, 1) := dk_104 (dk_at dksX11_passes_1 23 rfl rfl)
theorem dX11_passes_48 : decode cX11_passes 48 = .ok (.aload_n 0, 1) := dk_42 (dk_at dksX11_passes_2 0 rfl rfl)
theorem dX11_passes_49 : decode cX11_passes 49 = .ok (.getfield 9, 3) := dk_180 0 9 (dk_at dksX11_passes_2 1 rfl rfl)
theorem dX11_passes_52 : decode cX11_passes 52 = .ok (.aload_n 0, 1) := dk_42 (dk_at dksX11_passes_2 4 rfl rfl)
theorem dX11_passes_53 : decode cX11_passes 53 = .ok (.dup, 1) := dk_89 (dk_at dksX11_passes_2 5 rfl rfl)
theorem dX11_passes_54 : decode cX11_passes 54 = .ok (.getfield 26, 3) := dk_180 0 26 (dk_at dksX11_passes_2 6 rfl rfl)
theorem dX11_passes_57 : decode cX11_passes 57 = .ok (.dup_x1, 1) := dk_90 (dk_at dksX11_passes_2 9 rfl rfl)
theorem dX11_passes_58 : decode cX11_passes 58 = .ok (.iconst 1, 1) := dk_4 (dk_at dksX11_passes_2 10 rfl rfl)
theorem dX11_passes_59 : decode cX11_passes 59 = .ok (.iadd, 1) := dk_96 (dk_at dksX11_passes_2 11 rfl rfl)
theorem dX11_passes_60 : decode cX11_passes 60 = .ok (.putfield 26, 3) := dk_181 0 26 (dk_at dksX11_passes_2 12 rfl rfl)
theorem dX11_passes_63 : decode cX11_passes 63 = .ok (.baload, 1) := dk_51 (dk_at dksX11_passes_2 15 rfl rfl)
theorem dX11_passes_64 : decode cX11_passes 64 = .ok (.bipush 60, 2) := dk_16 60 (dk_at dksX11_passes_2 16 rfl rfl)
theorem dX11_passes_66 : decode cX11_passes 66 = .ok (.if_icmp .ne 7, 3) := dk_160 0 7 (dk_at dksX11_passes_2 18 rfl rfl)
theorem dX11_passes_69 : decode cX11_passes 69 = .ok (.iconst 0, 1) := dk_3 (dk_at dksX11_passes_2 21 rfl rfl)
theorem dX11_passes_70 : decode cX11_passes 70 = .ok (.goto 4, 3) := dk_167 0 4 (dk_at dksX11_passes_3 0 rfl rfl)
theorem dX11_passes_73 : decode cX11_passes 73 = .ok (.iconst 1, 1) := dk_4 (dk_at dksX11_passes_3 3 rfl rfl)
theorem dX11_passes_74 : decode cX11_passes 74 = .ok (.iadd, 1) := dk_96 (dk_at dksX11_passes_3 4 rfl rfl)
theorem dX11_passes_75 : decode cX11_passes 75 = .ok (.invokevirtual 42, 3) := dk_182 0 42 (dk_at dksX11_passes_3 5 rfl rfl)
theorem dX11_passes_78 : decode cX11_passes 78 = .ok (.return_, 1) := dk_177 (dk_at dksX11_passes_3 8 rfl rfl)
abbrev cX11_group : ByteArray := prog_12_method_5_code
def yX11_group : MethodName := ⟨RX11, "group", "(LMaypoleGreen$Figure;)V"⟩
def dkwX11_group_6 : List UInt8 := [177]
abbrev dktX11_group_6 : List UInt8 := dkwX11_group_6 ++ []
def dkwX11_group_5 : List UInt8 := [158, 0, 14, 43, 44, 182, 0, 62, 132, 3, 255, 167, 255, 244, 42, 89, 180, 0, 26, 4, 96, 181, 0, 26]
abbrev dktX11_group_5 : List UInt8 := dkwX11_group_5 ++ dktX11_group_6
def dkwX11_group_4 : List UInt8 := [16, 57, 184, 0, 58, 154, 0, 8, 42, 182, 0, 38, 191, 42, 182, 0, 34, 16, 48, 100, 62, 29]
abbrev dktX11_group_4 : List UInt8 := dkwX11_group_4 ++ dktX11_group_5
def dkwX11_group_3 : List UInt8 := [42, 182, 0, 34, 16, 45, 160, 0, 11, 43, 44, 182, 0, 54, 167, 0, 45, 42, 182, 0, 34, 16, 50]
abbrev dktX11_group_3 : List UInt8 := dkwX11_group_3 ++ dktX11_group_4
def dkwX11_group_2 : List UInt8 := [182, 0, 38, 191, 42, 89, 180, 0, 26, 4, 96, 181, 0, 26, 42, 89, 180, 0, 47, 4, 100, 181, 0, 47]
abbrev dktX11_group_2 : List UInt8 := dkwX11_group_2 ++ dktX11_group_3
def dkwX11_group_1 : List UInt8 := [89, 180, 0, 26, 4, 96, 181, 0, 26, 42, 182, 0, 50, 77, 42, 182, 0, 34, 16, 41, 159, 0, 8, 42]
abbrev dktX11_group_1 : List UInt8 := dkwX11_group_1 ++ dktX11_group_2
def dkwX11_group_0 : List UInt8 := [42, 180, 0, 47, 7, 160, 0, 8, 42, 182, 0, 38, 191, 42, 89, 180, 0, 47, 4, 96, 181, 0, 47, 42]
abbrev dktX11_group_0 : List UInt8 := dkwX11_group_0 ++ dktX11_group_1
theorem dksX11_group_0 : cX11_group.data.toList.drop 0 = dktX11_group_0 := by decide +kernel
theorem dksX11_group_1 : cX11_group.data.toList.drop 24 = dktX11_group_1 := dk_seg dksX11_group_0 24 rfl rfl
theorem dksX11_group_2 : cX11_group.data.toList.drop 48 = dktX11_group_2 := dk_seg dksX11_group_1 24 rfl rfl
theorem dksX11_group_3 : cX11_group.data.toList.drop 72 = dktX11_group_3 := dk_seg dksX11_group_2 24 rfl rfl
theorem dksX11_group_4 : cX11_group.data.toList.drop 95 = dktX11_group_4 := dk_seg dksX11_group_3 23 rfl rfl
theorem dksX11_group_5 : cX11_group.data.toList.drop 117 = dktX11_group_5 := dk_seg dksX11_group_4 22 rfl rfl
theorem dksX11_group_6 : cX11_group.data.toList.drop 141 = dktX11_group_6 := dk_seg dksX11_group_5 24 rfl rfl
theorem dX11_group_0 : decode cX11_group 0 = .ok (.aload_n 0, 1) := dk_42 (dk_at dksX11_group_0 0 rfl rfl)
theorem dX11_group_1 : decode cX11_group 1 = .ok (.getfield 47, 3) := dk_180 0 47 (dk_at dksX11_group_0 1 rfl rfl)
theorem dX11_group_4 : decode cX11_group 4 = .ok (.iconst 4, 1) := dk_7 (dk_at dksX11_group_0 4 rfl rfl)
theorem dX11_group_5 : decode cX11_group 5 = .ok (.if_icmp .ne 8, 3) := dk_160 0 8 (dk_at dksX11_group_0 5 rfl rfl)
theorem dX11_group_8 : decode cX11_group 8 = .ok (.aload_n 0, 1) := dk_42 (dk_at dksX11_group_0 8 rfl rfl)
theorem dX11_group_9 : decode cX11_group 9 = .ok (.invokevirtual 38, 3) := dk_182 0 38 (dk_at dksX11_group_0 9 rfl rfl)
theorem dX11_group_12 : decode cX11_group 12 = .ok (.athrow, 1) := dk_191 (dk_at dksX11_group_0 12 rfl rfl)
theorem dX11_group_13 : decode cX11_group 13 = .ok (.aload_n 0, 1) := dk_42 (dk_at dksX11_group_0 13 rfl rfl)
theorem dX11_group_14 : decode cX11_group 14 = .ok (.dup, 1) := dk_89 (dk_at dksX11_group_0 14 rfl rfl)
theorem dX11_group_15 : decode cX11_group 15 = .ok (.getfield 47, 3) := dk_180 0 47 (dk_at dksX11_group_0 15 rfl rfl)
theorem dX11_group_18 : decode cX11_group 18 = .ok (.iconst 1, 1) := dk_4 (dk_at dksX11_group_0 18 rfl rfl)
theorem dX11_group_19 : decode cX11_group 19 = .ok (.iadd, 1) := dk_96 (dk_at dksX11_group_0 19 rfl rfl)
theorem dX11_group_20 : decode cX11_group 20 = .ok (.putfield 47, 3) := dk_181 0 47 (dk_at dksX11_group_0 20 rfl rfl)
theorem dX11_group_23 : decode cX11_group 23 = .ok (.aload_n 0, 1) := dk_42 (dk_at dksX11_group_0 23 rfl rfl)
theorem dX11_group_24 : decode cX11_group 24 = .ok (.dup, 1) := dk_89 (dk_at dksX11_group_1 0 rfl rfl)
theorem dX11_group_25 : decode cX11_group 25 = .ok (.getfield 26, 3) := dk_180 0 26 (dk_at dksX11_group_1 1 rfl rfl)
theorem dX11_group_28 : decode cX11_group 28 = .ok (.iconst 1, 1) := dk_4 (dk_at dksX11_group_1 4 rfl rfl)
theorem dX11_group_29 : decode cX11_group 29 = .ok (.iadd, 1) := dk_96 (dk_at dksX11_group_1 5 rfl rfl)
theorem dX11_group_30 : decode cX11_group 30 = .ok (.putfield 26, 3) := dk_181 0 26 (dk_at dksX11_group_1 6 rfl rfl)
theorem dX11_group_33 : decode cX11_group 33 = .ok (.aload_n 0, 1) := dk_42 (dk_at dksX11_group_1 9 rfl rfl)
theorem dX11_group_34 : decode cX11_group 34 = .ok (.invokevirtual 50, 3) := dk_182 0 50 (dk_at dksX11_group_1 10 rfl rfl)
theorem dX11_group_37 : decode cX11_group 37 = .ok (.astore_n 2, 1) := dk_77 (dk_at dksX11_group_1 13 rfl rfl)
theorem dX11_group_38 : decode cX11_group 38 = .ok (.aload_n 0, 1) := dk_42 (dk_at dksX11_group_1 14 rfl rfl)
theorem dX11_group_39 : decode cX11_group 39 = .ok (.invokevirtual 34, 3) := dk_182 0 34 (dk_at dksX11_group_1 15 rfl rfl)
theorem dX11_group_42 : decode cX11_group 42 = .ok (.bipush 41, 2) := dk_16 41 (dk_at dksX11_group_1 18 rfl rfl)
theorem dX11_group_44 : decode cX11_group 44 = .ok (.if_icmp .eq 8, 3) := dk_159 0 8 (dk_at dksX11_group_1 20 rfl rfl)
theorem dX11_group_47 : decode cX11_group 47 = .ok (.aload_n 0, 1) := dk_42 (dk_at dksX11_group_1 23 rfl rfl)
theorem dX11_group_48 : decode cX11_group 48 = .ok (.invokevirtual 38, 3) := dk_182 0 38 (dk_at dksX11_group_2 0 rfl rfl)
theorem dX11_group_51 : decode cX11_group 51 = .ok (.athrow, 1) := dk_191 (dk_at dksX11_group_2 3 rfl rfl)
theorem dX11_group_52 : decode cX11_group 52 = .ok (.aload_n 0, 1) := dk_42 (dk_at dksX11_group_2 4 rfl rfl)
theorem dX11_group_53 : decode cX11_group 53 = .ok (.dup, 1) := dk_89 (dk_at dksX11_group_2 5 rfl rfl)
theorem dX11_group_54 : decode cX11_group 54 = .ok (.getfield 26, 3) := dk_180 0 26 (dk_at dksX11_group_2 6 rfl rfl)
theorem dX11_group_57 : decode cX11_group 57 = .ok (.iconst 1, 1) := dk_4 (dk_at dksX11_group_2 9 rfl rfl)
theorem dX11_group_58 : decode cX11_group 58 = .ok (.iadd, 1) := dk_96 (dk_at dksX11_group_2 10 rfl rfl)
theorem dX11_group_59 : decode cX11_group 59 = .ok (.putfield 26, 3) := dk_181 0 26 (dk_at dksX11_group_2 11 rfl rfl)
theorem dX11_group_62 : decode cX11_group 62 = .ok (.aload_n 0, 1) := dk_42 (dk_at dksX11_group_2 14 rfl rfl)
theorem dX11_group_63 : decode cX11_group 63 = .ok (.dup, 1) := dk_89 (dk_at dksX11_group_2 15 rfl rfl)
theorem dX11_group_64 : decode cX11_group 64 = .ok (.getfield 47, 3) := dk_180 0 47 (dk_at dksX11_group_2 16 rfl rfl)
theorem dX11_group_67 : decode cX11_group 67 = .ok (.iconst 1, 1) := dk_4 (dk_at dksX11_group_2 19 rfl rfl)
theorem dX11_group_68 : decode cX11_group 68 = .ok (.isub, 1) := dk_100 (dk_at dksX11_group_2 20 rfl rfl)
theorem dX11_group_69 : decode cX11_group 69 = .ok (.putfield 47, 3) := dk_181 0 47 (dk_at dksX11_group_2 21 rfl rfl)
theorem dX11_group_72 : decode cX11_group 72 = .ok (.aload_n 0, 1) := dk_42 (dk_at dksX11_group_3 0 rfl rfl)
theorem dX11_group_73 : decode cX11_group 73 = .ok (.invokevirtual 34, 3) := dk_182 0 34 (dk_at dksX11_group_3 1 rfl rfl)
theorem dX11_group_76 : decode cX11_group 76 = .ok (.bipush 45, 2) := dk_16 45 (dk_at dksX11_group_3 4 rfl rfl)
theorem dX11_group_78 : decode cX11_group 78 = .ok (.if_icmp .ne 11, 3) := dk_160 0 11 (dk_at dksX11_group_3 6 rfl rfl)
theorem dX11_group_81 : decode cX11_group 81 = .ok (.aload_n 1, 1) := dk_43 (dk_at dksX11_group_3 9 rfl rfl)
theorem dX11_group_82 : decode cX11_group 82 = .ok (.aload_n 2, 1) := dk_44 (dk_at dksX11_group_3 10 rfl rfl)
theorem dX11_group_83 : decode cX11_group 83 = .ok (.invokevirtual 54, 3) := dk_182 0 54 (dk_at dksX11_group_3 11 rfl rfl)
theorem dX11_group_86 : decode cX11_group 86 = .ok (.goto 45, 3) := dk_167 0 45 (dk_at dksX11_group_3 14 rfl rfl)
theorem dX11_group_89 : decode cX11_group 89 = .ok (.aload_n 0, 1) := dk_42 (dk_at dksX11_group_3 17 rfl rfl)
theorem dX11_group_90 : decode cX11_group 90 = .ok (.invokevirtual 34, 3) := dk_182 0 34 (dk_at dksX11_group_3 18 rfl rfl)
theorem dX11_group_93 : decode cX11_group 93 = .ok (.bipush 50, 2) := dk_16 50 (dk_at dksX11_group_3 21 rfl rfl)
theorem dX11_group_95 : decode cX11_group 95 = .ok (.bipush 57, 2) := dk_16 57 (dk_at dksX11_group_4 0 rfl rfl)
theorem dX11_group_97 : decode cX11_group 97 = .ok (.invokestatic 58, 3) := dk_184 0 58 (dk_at dksX11_group_4 2 rfl rfl)
theorem dX11_group_100 : decode cX11_group 100 = .ok (.ifCond .ne 8, 3) := dk_154 0 8 (dk_at dksX11_group_4 5 rfl rfl)
theorem dX11_group_103 : decode cX11_group 103 = .ok (.aload_n 0, 1) := dk_42 (dk_at dksX11_group_4 8 rfl rfl)
theorem dX11_group_104 : decode cX11_group 104 = .ok (.invokevirtual 38, 3) := dk_182 0 38 (dk_at dksX11_group_4 9 rfl rfl)
theorem dX11_group_107 : decode cX11_group 107 = .ok (.athrow, 1) := dk_191 (dk_at dksX11_group_4 12 rfl rfl)
theorem dX11_group_108 : decode cX11_group 108 = .ok (.aload_n 0, 1) := dk_42 (dk_at dksX11_group_4 13 rfl rfl)
theorem dX11_group_109 : decode cX11_group 109 = .ok (.invokevirtual 34, 3) := dk_182 0 34 (dk_at dksX11_group_4 14 rfl rfl)
theorem dX11_group_112 : decode cX11_group 112 = .ok (.bipush 48, 2) := dk_16 48 (dk_at dksX11_group_4 17 rfl rfl)
theorem dX11_group_114 : decode cX11_group 114 = .ok (.isub, 1) := dk_100 (dk_at dksX11_group_4 19 rfl rfl)
theorem dX11_group_115 : decode cX11_group 115 = .ok (.istore_n 3, 1) := dk_62 (dk_at dksX11_group_4 20 rfl rfl)
theorem dX11_group_116 : decode cX11_group 116 = .ok (.iload_n 3, 1) := dk_29 (dk_at dksX11_group_4 21 rfl rfl)
theorem dX11_group_117 : decode cX11_group 117 = .ok (.ifCond .le 14, 3) := dk_158 0 14 (dk_at dksX11_group_5 0 rfl rfl)
theorem dX11_group_120 : decode cX11_group 120 = .ok (.aload_n 1, 1) := dk_43 (dk_at dksX11_group_5 3 rfl rfl)
theorem dX11_group_121 : decode cX11_group 121 = .ok (.aload_n 2, 1) := dk_44 (dk_at dksX11_group_5 4 rfl rfl)
theorem dX11_group_122 : decode cX11_group 122 = .ok (.invokevirtual 62, 3) := dk_182 0 62 (dk_at dksX11_group_5 5 rfl rfl)
theorem dX11_group_125 : decode cX11_group 125 = .ok (.iinc 3 (-1), 3) := dk_132 3 255 (dk_at dksX11_group_5 8 rfl rfl)
theorem dX11_group_128 : decode cX11_group 128 = .ok (.goto (-12), 3) := dk_167 255 244 (dk_at dksX11_group_5 11 rfl rfl)
theorem dX11_group_131 : decode cX11_group 131 = .ok (.aload_n 0, 1) := dk_42 (dk_at dksX11_group_5 14 rfl rfl)
theorem dX11_group_132 : decode cX11_group 132 = .ok (.dup, 1) := dk_89 (dk_at dksX11_group_5 15 rfl rfl)
theorem dX11_group_133 : decode cX11_group 133 = .ok (.getfield 26, 3) := dk_180 0 26 (dk_at dksX11_group_5 16 rfl rfl)
theorem dX11_group_136 : decode cX11_group 136 = .ok (.iconst 1, 1) := dk_4 (dk_at dksX11_group_5 19 rfl rfl)
theorem dX11_group_137 : decode cX11_group 137 = .ok (.iadd, 1) := dk_96 (dk_at dksX11_group_5 20 rfl rfl)
theorem dX11_group_138 : decode cX11_group 138 = .ok (.putfield 26, 3) := dk_181 0 26 (dk_at dksX11_group_5 21 rfl rfl)
theorem dX11_group_141 : decode cX11_group 141 = .ok (.return_, 1) := dk_177 (dk_at dksX11_group_6 0 rfl rfl)
theorem q92 : (Jvm.Cond.initialized "MaypoleGreen$Reader") ∈ lw_all := lw_g (lw_at lw_m1 14 rfl) rfl
theorem q559 : (Jvm.Cond.instantiable "MaypoleGreen$Reader" (6 : Nat)) ∈ lw_all := lw_g (lw_at lw_m3 1 rfl) rfl
theorem q561 : (Jvm.Cond.instanceMethod ({ cls := "MaypoleGreen$Reader", name := "<init>", desc := "([BI[LMaypoleGreen$Figure;I)V" } : Jvm.MethodName)) ∈ lw_all := lw_g (lw_at lw_m3 3 rfl) rfl
theorem q562 : (Jvm.Cond.code ({ cls := "MaypoleGreen$Reader", name := "<init>", desc := "([BI[LMaypoleGreen$Figure;I)V" } : Jvm.MethodName) prog_12_method_1_code (5 : Nat) (Option.none : Option Jvm.ClassFile.FieldType)) ∈ lw_all := lw_g (lw_at lw_m3 4 rfl) rfl
theorem q563 : (Jvm.Cond.methodLink "MaypoleGreen$Reader" (3 : Nat) ({ cls := "java/lang/Object", name := "<init>", desc := "()V" } : Jvm.MethodName)) ∈ lw_all := lw_g (lw_at lw_m3 5 rfl) rfl
theorem q564 : (Jvm.Cond.fieldLink "MaypoleGreen$Reader" (9 : Nat) "MaypoleGreen$Reader" "text" "[B") ∈ lw_all := lw_g (lw_at lw_m3 6 rfl) rfl
theorem q565 : (Jvm.Cond.fieldLink "MaypoleGreen$Reader" (15 : Nat) "MaypoleGreen$Reader" "size" "I") ∈ lw_all := lw_g (lw_at lw_m3 7 rfl) rfl
theorem q566 : (Jvm.Cond.fieldLink "MaypoleGreen$Reader" (19 : Nat) "MaypoleGreen$Reader" "known" "[LMaypoleGreen$Figure;") ∈ lw_all := lw_g (lw_at lw_m3 8 rfl) rfl
theorem q567 : (Jvm.Cond.fieldLink "MaypoleGreen$Reader" (23 : Nat) "MaypoleGreen$Reader" "figures" "I") ∈ lw_all := lw_g (lw_at lw_m3 9 rfl) rfl
theorem q568 : (Jvm.Cond.fieldLink "MaypoleGreen$Reader" (26 : Nat) "MaypoleGreen$Reader" "at" "I") ∈ lw_all := lw_g (lw_at lw_m3 10 rfl) rfl
theorem q569 : (Jvm.Cond.fieldLink "MaypoleGreen$Reader" (47 : Nat) "MaypoleGreen$Reader" "deep" "I") ∈ lw_all := lw_g (lw_at lw_m3 11 rfl) rfl
theorem q570 : (Jvm.Cond.laysFinal "MaypoleGreen$Reader" "MaypoleGreen$Reader" "text" "[B") ∈ lw_all := lw_g (lw_at lw_m3 12 rfl) rfl
theorem q571 : (Jvm.Cond.soleField "MaypoleGreen$Reader" "text") ∈ lw_all := lw_g (lw_at lw_m3 13 rfl) rfl
theorem q572 : (Jvm.Cond.laysFinal "MaypoleGreen$Reader" "MaypoleGreen$Reader" "size" "I") ∈ lw_all := lw_g (lw_at lw_m3 14 rfl) rfl
theorem q573 : (Jvm.Cond.soleField "MaypoleGreen$Reader" "size") ∈ lw_all := lw_g (lw_at lw_m3 15 rfl) rfl
theorem q574 : (Jvm.Cond.laysFinal "MaypoleGreen$Reader" "MaypoleGreen$Reader" "known" "[LMaypoleGreen$Figure;") ∈ lw_all := lw_g (lw_at lw_m3 16 rfl) rfl
theorem q575 : (Jvm.Cond.soleField "MaypoleGreen$Reader" "known") ∈ lw_all := lw_g (lw_at lw_m3 17 rfl) rfl
theorem q576 : (Jvm.Cond.laysFinal "MaypoleGreen$Reader" "MaypoleGreen$Reader" "figures" "I") ∈ lw_all := lw_g (lw_at lw_m3 18 rfl) rfl
theorem q577 : (Jvm.Cond.soleField "MaypoleGreen$Reader" "figures") ∈ lw_all := lw_g (lw_at lw_m3 19 rfl) rfl
theorem q578 : (Jvm.Cond.lays "MaypoleGreen$Reader" "MaypoleGreen$Reader" "at" "I") ∈ lw_all := lw_g (lw_at lw_m3 20 rfl) rfl
theorem q579 : (Jvm.Cond.soleField "MaypoleGreen$Reader" "at") ∈ lw_all := lw_g (lw_at lw_m3 21 rfl) rfl
theorem q580 : (Jvm.Cond.lays "MaypoleGreen$Reader" "MaypoleGreen$Reader" "deep" "I") ∈ lw_all := lw_g (lw_at lw_m3 22 rfl) rfl
theorem q581 : (Jvm.Cond.soleField "MaypoleGreen$Reader" "deep") ∈ lw_all := lw_g (lw_at lw_m3 23 rfl) rfl
theorem q582 : (Jvm.Cond.superclass "MaypoleGreen$Reader" "java/lang/Object") ∈ lw_all := lw_g (lw_at lw_m3 24 rfl) rfl
theorem q584 : (Jvm.Cond.instanceMethod ({ cls := "MaypoleGreen$Reader", name := "figure", desc := "()LMaypoleGreen$Figure;" } : Jvm.MethodName)) ∈ lw_all := lw_g (lw_at lw_m3 26 rfl) rfl
theorem q585 : (Jvm.Cond.selects "MaypoleGreen$Reader" ({ cls := "MaypoleGreen$Reader", name := "figure", desc := "()LMaypoleGreen$Figure;" } : Jvm.MethodName) ({ cls := "MaypoleGreen$Reader", name := "figure", desc := "()LMaypoleGreen$Figure;" } : Jvm.MethodName)) ∈ lw_all := lw_g (lw_at lw_m3 27 rfl) rfl
theorem q586 : (Jvm.Cond.code ({ cls := "MaypoleGreen$Reader", name := "figure", desc := "()LMaypoleGreen$Figure;" } : Jvm.MethodName) prog_12_method_9_code (2 : Nat) (Option.some (Jvm.ClassFile.FieldType.object "MaypoleGreen$Figure"))) ∈ lw_all := lw_g (lw_at lw_m3 28 rfl) rfl
theorem q587 : (Jvm.Cond.methodLink "MaypoleGreen$Reader" (50 : Nat) ({ cls := "MaypoleGreen$Reader", name := "items", desc := "()LMaypoleGreen$Figure;" } : Jvm.MethodName)) ∈ lw_all := lw_g (lw_at lw_m3 29 rfl) rfl
theorem q588 : (Jvm.Cond.privateMethod ({ cls := "MaypoleGreen$Reader", name := "items", desc := "()LMaypoleGreen$Figure;" } : Jvm.MethodName)) ∈ lw_tbl := lw_at lw_m3 30 rfl
theorem q589 : (Jvm.Cond.instanceMethod ({ cls := "MaypoleGreen$Reader", name := "items", desc := "()LMaypoleGreen$Figure;" } : Jvm.MethodName)) ∈ lw_all := lw_g (lw_at lw_m3 31 rfl) rfl
theorem q590 : (Jvm.Cond.code ({ cls := "MaypoleGreen$Reader", name := "items", desc := "()LMaypoleGreen$Figure;" } : Jvm.MethodName) prog_12_method_8_code (2 : Nat) (Option.some (Jvm.ClassFile.FieldType.object "MaypoleGreen$Figure"))) ∈ lw_all := lw_g (lw_at lw_m3 32 rfl) rfl
theorem q591 : (Jvm.Cond.classLink "MaypoleGreen$Reader" (43 : Nat) "MaypoleGreen$Figure") ∈ lw_all := lw_g (lw_at lw_m3 33 rfl) rfl
theorem q593 : (Jvm.Cond.methodLinkNest "MaypoleGreen$Reader" (70 : Nat) ({ cls := "MaypoleGreen$Figure", name := "<init>", desc := "()V" } : Jvm.MethodName) "MaypoleGreen") ∈ lw_tbl := lw_at lw_m3 35 rfl
theorem q610 : (Jvm.Cond.methodLink "MaypoleGreen$Reader" (71 : Nat) ({ cls := "MaypoleGreen$Reader", name := "isItem", desc := "()Z" } : Jvm.MethodName)) ∈ lw_all := lw_g (lw_at lw_m3 52 rfl) rfl
theorem q611 : (Jvm.Cond.privateMethod ({ cls := "MaypoleGreen$Reader", name := "isItem", desc := "()Z" } : Jvm.MethodName)) ∈ lw_tbl := lw_at lw_m3 53 rfl
theorem q612 : (Jvm.Cond.instanceMethod ({ cls := "MaypoleGreen$Reader", name := "isItem", desc := "()Z" } : Jvm.MethodName)) ∈ lw_all := lw_g (lw_at lw_m3 54 rfl) rfl
theorem q613 : (Jvm.Cond.code ({ cls := "MaypoleGreen$Reader", name := "isItem", desc := "()Z" } : Jvm.MethodName) prog_12_method_6_code (2 : Nat) (Option.some Jvm.ClassFile.FieldType.boolean)) ∈ lw_all := lw_g (lw_at lw_m3 55 rfl) rfl
theorem q614 : (Jvm.Cond.methodLink "MaypoleGreen$Reader" (34 : Nat) ({ cls := "MaypoleGreen$Reader", name := "here", desc := "()I" } : Jvm.MethodName)) ∈ lw_all := lw_g (lw_at lw_m3 56 rfl) rfl
theorem q615 : (Jvm.Cond.privateMethod ({ cls := "MaypoleGreen$Reader", name := "here", desc := "()I" } : Jvm.MethodName)) ∈ lw_tbl := lw_at lw_m3 57 rfl
theorem q616 : (Jvm.Cond.instanceMethod ({ cls := "MaypoleGreen$Reader", name := "here", desc := "()I" } : Jvm.MethodName)) ∈ lw_all := lw_g (lw_at lw_m3 58 rfl) rfl
theorem q617 : (Jvm.Cond.code ({ cls := "MaypoleGreen$Reader", name := "here", desc := "()I" } : Jvm.MethodName) prog_12_method_2_code (1 : Nat) (Option.some Jvm.ClassFile.FieldType.int)) ∈ lw_all := lw_g (lw_at lw_m3 59 rfl) rfl
theorem q618 : (Jvm.Cond.methodLinkNest "MaypoleGreen$Reader" (58 : Nat) ({ cls := "MaypoleGreen", name := "in", desc := "(III)Z" } : Jvm.MethodName) "MaypoleGreen") ∈ lw_tbl := lw_at lw_m3 60 rfl
theorem q619 : (Jvm.Cond.methodLink "MaypoleGreen$Reader" (38 : Nat) ({ cls := "MaypoleGreen$Reader", name := "off", desc := "()LMaypoleGreen$Off;" } : Jvm.MethodName)) ∈ lw_all := lw_g (lw_at lw_m3 61 rfl) rfl
theorem q620 : (Jvm.Cond.privateMethod ({ cls := "MaypoleGreen$Reader", name := "off", desc := "()LMaypoleGreen$Off;" } : Jvm.MethodName)) ∈ lw_tbl := lw_at lw_m3 62 rfl
theorem q621 : (Jvm.Cond.instanceMethod ({ cls := "MaypoleGreen$Reader", name := "off", desc := "()LMaypoleGreen$Off;" } : Jvm.MethodName)) ∈ lw_all := lw_g (lw_at lw_m3 63 rfl) rfl
theorem q622 : (Jvm.Cond.code ({ cls := "MaypoleGreen$Reader", name := "off", desc := "()LMaypoleGreen$Off;" } : Jvm.MethodName) prog_12_method_3_code (1 : Nat) (Option.some (Jvm.ClassFile.FieldType.object "MaypoleGreen$Off"))) ∈ lw_all := lw_g (lw_at lw_m3 64 rfl) rfl
theorem q623 : (Jvm.Cond.classLink "MaypoleGreen$Reader" (29 : Nat) "MaypoleGreen$Off") ∈ lw_all := lw_g (lw_at lw_m3 65 rfl) rfl
theorem q680 : (Jvm.Cond.methodLink "MaypoleGreen$Reader" (31 : Nat) ({ cls := "MaypoleGreen$Off", name := "<init>", desc := "(I)V" } : Jvm.MethodName)) ∈ lw_all := lw_g (lw_at lw_m3 122 rfl) rfl
theorem q707 : (Jvm.Cond.methodLink "MaypoleGreen$Reader" (75 : Nat) ({ cls := "MaypoleGreen$Reader", name := "item", desc := "(LMaypoleGreen$Figure;)V" } : Jvm.MethodName)) ∈ lw_all := lw_g (lw_at lw_m3 149 rfl) rfl
theorem q708 : (Jvm.Cond.privateMethod ({ cls := "MaypoleGreen$Reader", name := "item", desc := "(LMaypoleGreen$Figure;)V" } : Jvm.MethodName)) ∈ lw_tbl := lw_at lw_m3 150 rfl
theorem q709 : (Jvm.Cond.instanceMethod ({ cls := "MaypoleGreen$Reader", name := "item", desc := "(LMaypoleGreen$Figure;)V" } : Jvm.MethodName)) ∈ lw_all := lw_g (lw_at lw_m3 151 rfl) rfl
theorem q710 : (Jvm.Cond.code ({ cls := "MaypoleGreen$Reader", name := "item", desc := "(LMaypoleGreen$Figure;)V" } : Jvm.MethodName) prog_12_method_7_code (3 : Nat) (Option.none : Option Jvm.ClassFile.FieldType)) ∈ lw_all := lw_g (lw_at lw_m3 152 rfl) rfl
theorem q711 : (Jvm.Cond.methodLink "MaypoleGreen$Reader" (64 : Nat) ({ cls := "MaypoleGreen$Reader", name := "passes", desc := "(LMaypoleGreen$Figure;)V" } : Jvm.MethodName)) ∈ lw_all := lw_g (lw_at lw_m3 153 rfl) rfl
theorem q712 : (Jvm.Cond.privateMethod ({ cls := "MaypoleGreen$Reader", name := "passes", desc := "(LMaypoleGreen$Figure;)V" } : Jvm.MethodName)) ∈ lw_tbl := lw_at lw_m3 154 rfl
theorem q713 : (Jvm.Cond.instanceMethod ({ cls := "MaypoleGreen$Reader", name := "passes", desc := "(LMaypoleGreen$Figure;)V" } : Jvm.MethodName)) ∈ lw_all := lw_g (lw_at lw_m3 155 rfl) rfl
theorem q714 : (Jvm.Cond.code ({ cls := "MaypoleGreen$Reader", name := "passes", desc := "(LMaypoleGreen$Figure;)V" } : Jvm.MethodName) prog_12_method_4_code (3 : Nat) (Option.none : Option Jvm.ClassFile.FieldType)) ∈ lw_all := lw_g (lw_at lw_m3 156 rfl) rfl
theorem q715 : (Jvm.Cond.methodLink "MaypoleGreen$Reader" (42 : Nat) ({ cls := "MaypoleGreen$Figure", name := "adds", desc := "(I)V" } : Jvm.MethodName)) ∈ lw_all := lw_g (lw_at lw_m3 157 rfl) rfl
theorem q719 : (Jvm.Cond.methodLink "MaypoleGreen$Reader" (67 : Nat) ({ cls := "MaypoleGreen$Reader", name := "group", desc := "(LMaypoleGreen$Figure;)V" } : Jvm.MethodName)) ∈ lw_all := lw_g (lw_at lw_m3 161 rfl) rfl
theorem q720 : (Jvm.Cond.privateMethod ({ cls := "MaypoleGreen$Reader", name := "group", desc := "(LMaypoleGreen$Figure;)V" } : Jvm.MethodName)) ∈ lw_tbl := lw_at lw_m3 162 rfl
theorem q721 : (Jvm.Cond.instanceMethod ({ cls := "MaypoleGreen$Reader", name := "group", desc := "(LMaypoleGreen$Figure;)V" } : Jvm.MethodName)) ∈ lw_all := lw_g (lw_at lw_m3 163 rfl) rfl
theorem q722 : (Jvm.Cond.code ({ cls := "MaypoleGreen$Reader", name := "group", desc := "(LMaypoleGreen$Figure;)V" } : Jvm.MethodName) prog_12_method_5_code (4 : Nat) (Option.none : Option Jvm.ClassFile.FieldType)) ∈ lw_all := lw_g (lw_at lw_m3 164 rfl) rfl
theorem q723 : (Jvm.Cond.methodLink "MaypoleGreen$Reader" (54 : Nat) ({ cls := "MaypoleGreen$Figure", name := "undoes", desc := "(LMaypoleGreen$Figure;)V" } : Jvm.MethodName)) ∈ lw_all := lw_g (lw_at lw_m3 165 rfl) rfl
theorem q731 : (Jvm.Cond.methodLink "MaypoleGreen$Reader" (62 : Nat) ({ cls := "MaypoleGreen$Figure", name := "adds", desc := "(LMaypoleGreen$Figure;)V" } : Jvm.MethodName)) ∈ lw_all := lw_g (lw_at lw_m3 173 rfl) rfl
theorem in_X11 : ∀ w ∈ wsX110, w ∈ lw_all := lw_in wsX110 [570, 572, 574, 576, 578, 580] (by decide +kernel) (by decide +kernel)

/-! MaypoleGreen$Figure -/
set_option maxRecDepth 100000
def RX12 : String := "MaypoleGreen$Figure"
def TX12 : u_T := fun k => match k with
  | 0 => ("MaypoleGreen$Figure", "steps", "[I", true)
  | 1 => ("MaypoleGreen$Figure", "many", "I", false)
  | _ => ("MaypoleGreen$Figure", "isTooLong", "Z", false)
def tyX12 : Nat → FieldType := fun k => match k with
  | 0 => .array .int
  | 1 => .int
  | _ => .boolean
abbrev wsX120 : List Cond := u_ws RX12 TX12 3
theorem nmX12 : ∀ a, a < 3 → ∀ b, b < 3 → a ≠ b → (TX12 a).2.1 ≠ (TX12 b).2.1 := by decide +kernel
theorem tyX12_ok : ∀ k, k < 3 → parseFieldDescriptor (TX12 k).2.2.1 = some (tyX12 k) := by decide +kernel
abbrev cX12_isOf : ByteArray := prog_4_method_5_code
def yX12_isOf : MethodName := ⟨RX12, "isOf", "(I)Z"⟩
def dkwX12_isOf_1 : List UInt8 := [180, 0, 9, 28, 46, 16, 10, 108, 27, 161, 0, 5, 3, 172, 132, 2, 1, 167, 255, 219, 4, 172]
abbrev dktX12_isOf_1 : List UInt8 := dkwX12_isOf_1 ++ []
def dkwX12_isOf_0 : List UInt8 := [3, 61, 28, 42, 180, 0, 15, 162, 0, 35, 42, 180, 0, 9, 28, 46, 16, 100, 162, 0, 18, 42]
abbrev dktX12_isOf_0 : List UInt8 := dkwX12_isOf_0 ++ dktX12_isOf_1
theorem dksX12_isOf_0 : cX12_isOf.data.toList.drop 0 = dktX12_isOf_0 := by decide +kernel
theorem dksX12_isOf_1 : cX12_isOf.data.toList.drop 22 = dktX12_isOf_1 := dk_seg dksX12_isOf_0 22 rfl rfl
theorem dX12_isOf_0 : decode cX12_isOf 0 = .ok (.iconst 0, 1) := dk_3 (dk_at dksX12_isOf_0 0 rfl rfl)
theorem dX12_isOf_1 : decode cX12_isOf 1 = .ok (.istore_n 2, 1) := dk_61 (dk_at dksX12_isOf_0 1 rfl rfl)
theorem dX12_isOf_2 : decode cX12_isOf 2 = .ok (.iload_n 2, 1) := dk_28 (dk_at dksX12_isOf_0 2 rfl rfl)
theorem dX12_isOf_3 : decode cX12_isOf 3 = .ok (.aload_n 0, 1) := dk_42 (dk_at dksX12_isOf_0 3 rfl rfl)
theorem dX12_isOf_4 : decode cX12_isOf 4 = .ok (.getfield 15, 3) := dk_180 0 15 (dk_at dksX12_isOf_0 4 rfl rfl)
theorem dX12_isOf_7 : decode cX12_isOf 7 = .ok (.if_icmp .ge 35, 3) := dk_162 0 35 (dk_at dksX12_isOf_0 7 rfl rfl)
theorem dX12_isOf_10 : decode cX12_isOf 10 = .ok (.aload_n 0, 1) := dk_42 (dk_at dksX12_isOf_0 10 rfl rfl)
theorem dX12_isOf_11 : decode cX12_isOf 11 = .ok (.getfield 9, 3) := dk_180 0 9 (dk_at dksX12_isOf_0 11 rfl rfl)
theorem dX12_isOf_14 : decode cX12_isOf 14 = .ok (.iload_n 2, 1) := dk_28 (dk_at dksX12_isOf_0 14 rfl rfl)
theorem dX12_isOf_15 : decode cX12_isOf 15 = .ok (.iaload, 1) := dk_46 (dk_at dksX12_isOf_0 15 rfl rfl)
theorem dX12_isOf_16 : decode cX12_isOf 16 = .ok (.bipush 100, 2) := dk_16 100 (dk_at dksX12_isOf_0 16 rfl rfl)
theorem dX12_isOf_18 : decode cX12_isOf 18 = .ok (.if_icmp .ge 18, 3) := dk_162 0 18 (dk_at dksX12_isOf_0 18 rfl rfl)
theorem dX12_isOf_21 : decode cX12_isOf 21 = .ok (.aload_n 0, 1) := dk_42 (dk_at dksX12_isOf_0 21 rfl rfl)
theorem dX12_isOf_22 : decode cX12_isOf 22 = .ok (.getfield 9, 3) := dk_180 0 9 (dk_at dksX12_isOf_1 0 rfl rfl)
theorem dX12_isOf_25 : decode cX12_isOf 25 = .ok (.iload_n 2, 1) := dk_28 (dk_at dksX12_isOf_1 3 rfl rfl)
theorem dX12_isOf_26 : decode cX12_isOf 26 = .ok (.iaload, 1) := dk_46 (dk_at dksX12_isOf_1 4 rfl rfl)
theorem dX12_isOf_27 : decode cX12_isOf 27 = .ok (.bipush 10, 2) := dk_16 10 (dk_at dksX12_isOf_1 5 rfl rfl)
theorem dX12_isOf_29 : decode cX12_isOf 29 = .ok (.idiv, 1) := dk_108 (dk_at dksX12_isOf_1 7 rfl rfl)
theorem dX12_isOf_30 : decode cX12_isOf 30 = .ok (.iload_n 1, 1) := dk_27 (dk_at dksX12_isOf_1 8 rfl rfl)
theorem dX12_isOf_31 : decode cX12_isOf 31 = .ok (.if_icmp .lt 5, 3) := dk_161 0 5 (dk_at dksX12_isOf_1 9 rfl rfl)
theorem dX12_isOf_34 : decode cX12_isOf 34 = .ok (.iconst 0, 1) := dk_3 (dk_at dksX12_isOf_1 12 rfl rfl)
theorem dX12_isOf_35 : decode cX12_isOf 35 = .ok (.ireturn, 1) := dk_172 (dk_at dksX12_isOf_1 13 rfl rfl)
theorem dX12_isOf_36 : decode cX12_isOf 36 = .ok (.iinc 2 1, 3) := dk_132 2 1 (dk_at dksX12_isOf_1 14 rfl rfl)
theorem dX12_isOf_39 : decode cX12_isOf 39 = .ok (.goto (-37), 3) := dk_167 255 219 (dk_at dksX12_isOf_1 17 rfl rfl)
theorem dX12_isOf_42 : decode cX12_isOf 42 = .ok (.iconst 1, 1) := dk_4 (dk_at dksX12_isOf_1 20 rfl rfl)
theorem dX12_isOf_43 : decode cX12_isOf 43 = .ok (.ireturn, 1) := dk_172 (dk_at dksX12_isOf_1 21 rfl rfl)
abbrev cX12_init : ByteArray := prog_4_method_1_code
def yX12_init : MethodName := ⟨RX12, "<init>", "()V"⟩
def dkwX12_init_0 : List UInt8 := [42, 183, 0, 3, 42, 17, 1, 44, 188, 10, 181, 0, 9, 177]
abbrev dktX12_init_0 : List UInt8 := dkwX12_init_0 ++ []
theorem dksX12_init_0 : cX12_init.data.toList.drop 0 = dktX12_init_0 := by decide +kernel
theorem dX12_init_0 : decode cX12_init 0 = .ok (.aload_n 0, 1) := dk_42 (dk_at dksX12_init_0 0 rfl rfl)
theorem dX12_init_1 : decode cX12_init 1 = .ok (.invokespecial 3, 3) := dk_183 0 3 (dk_at dksX12_init_0 1 rfl rfl)
theorem dX12_init_4 : decode cX12_init 4 = .ok (.aload_n 0, 1) := dk_42 (dk_at dksX12_init_0 4 rfl rfl)
theorem dX12_init_5 : decode cX12_init 5 = .ok (.sipush 300, 3) := dk_17 1 44 (dk_at dksX12_init_0 5 rfl rfl)
theorem dX12_init_8 : decode cX12_init 8 = .ok (.newarray .int, 2) := dk_188_10 (dk_at dksX12_init_0 8 rfl rfl)
theorem dX12_init_10 : decode cX12_init 10 = .ok (.putfield 9, 3) := dk_181 0 9 (dk_at dksX12_init_0 10 rfl rfl)
theorem dX12_init_13 : decode cX12_init 13 = .ok (.return_, 1) := dk_177 (dk_at dksX12_init_0 13 rfl rfl)
abbrev cX12_adds : ByteArray := prog_4_method_2_code
def yX12_adds : MethodName := ⟨RX12, "adds", "(I)V"⟩
def dkwX12_adds_1 : List UInt8 := [180, 0, 15, 90, 4, 96, 181, 0, 15, 27, 79, 177]
abbrev dktX12_adds_1 : List UInt8 := dkwX12_adds_1 ++ []
def dkwX12_adds_0 : List UInt8 := [42, 180, 0, 15, 17, 1, 44, 160, 0, 9, 42, 4, 181, 0, 19, 177, 42, 180, 0, 9, 42, 89]
abbrev dktX12_adds_0 : List UInt8 := dkwX12_adds_0 ++ dktX12_adds_1
theorem dksX12_adds_0 : cX12_adds.data.toList.drop 0 = dktX12_adds_0 := by decide +kernel
theorem dksX12_adds_1 : cX12_adds.data.toList.drop 22 = dktX12_adds_1 := dk_seg dksX12_adds_0 22 rfl rfl
theorem dX12_adds_0 : decode cX12_adds 0 = .ok (.aload_n 0, 1) := dk_42 (dk_at dksX12_adds_0 0 rfl rfl)
theorem dX12_adds_1 : decode cX12_adds 1 = .ok (.getfield 15, 3) := dk_180 0 15 (dk_at dksX12_adds_0 1 rfl rfl)
theorem dX12_adds_4 : decode cX12_adds 4 = .ok (.sipush 300, 3) := dk_17 1 44 (dk_at dksX12_adds_0 4 rfl rfl)
theorem dX12_adds_7 : decode cX12_adds 7 = .ok (.if_icmp .ne 9, 3) := dk_160 0 9 (dk_at dksX12_adds_0 7 rfl rfl)
theorem dX12_adds_10 : decode cX12_adds 10 = .ok (.aload_n 0, 1) := dk_42 (dk_at dksX12_adds_0 10 rfl rfl)
theorem dX12_adds_11 : decode cX12_adds 11 = .ok (.iconst 1, 1) := dk_4 (dk_at dksX12_adds_0 11 rfl rfl)
theorem dX12_adds_12 : decode cX12_adds 12 = .ok (.putfield 19, 3) := dk_181 0 19 (dk_at dksX12_adds_0 12 rfl rfl)
theorem dX12_adds_15 : decode cX12_adds 15 = .ok (.return_, 1) := dk_177 (dk_at dksX12_adds_0 15 rfl rfl)
theorem dX12_adds_16 : decode cX12_adds 16 = .ok (.aload_n 0, 1) := dk_42 (dk_at dksX12_adds_0 16 rfl rfl)
theorem dX12_adds_17 : decode cX12_adds 17 = .ok (.getfield 9, 3) := dk_180 0 9 (dk_at dksX12_adds_0 17 rfl rfl)
theorem dX12_adds_20 : decode cX12_adds 20 = .ok (.aload_n 0, 1) := dk_42 (dk_at dksX12_adds_0 20 rfl rfl)
theorem dX12_adds_21 : decode cX12_adds 21 = .ok (.dup, 1) := dk_89 (dk_at dksX12_adds_0 21 rfl rfl)
theorem dX12_adds_22 : decode cX12_adds 22 = .ok (.getfield 15, 3) := dk_180 0 15 (dk_at dksX12_adds_1 0 rfl rfl)
theorem dX12_adds_25 : decode cX12_adds 25 = .ok (.dup_x1, 1) := dk_90 (dk_at dksX12_adds_1 3 rfl rfl)
theorem dX12_adds_26 : decode cX12_adds 26 = .ok (.iconst 1, 1) := dk_4 (dk_at dksX12_adds_1 4 rfl rfl)
theorem dX12_adds_27 : decode cX12_adds 27 = .ok (.iadd, 1) := dk_96 (dk_at dksX12_adds_1 5 rfl rfl)
theorem dX12_adds_28 : decode cX12_adds 28 = .ok (.putfield 15, 3) := dk_181 0 15 (dk_at dksX12_adds_1 6 rfl rfl)
theorem dX12_adds_31 : decode cX12_adds 31 = .ok (.iload_n 1, 1) := dk_27 (dk_at dksX12_adds_1 9 rfl rfl)
theorem dX12_adds_32 : decode cX12_adds 32 = .ok (.iastore, 1) := dk_79 (dk_at dksX12_adds_1 10 rfl rfl)
theorem dX12_adds_33 : decode cX12_adds 33 = .ok (.return_, 1) := dk_177 (dk_at dksX12_adds_1 11 rfl rfl)
abbrev cX12_undoes : ByteArray := prog_4_method_4_code
def yX12_undoes : MethodName := ⟨RX12, "undoes", "(LMaypoleGreen$Figure;)V"⟩
def dkwX12_undoes_1 : List UInt8 := [42, 43, 180, 0, 9, 28, 46, 184, 0, 27, 182, 0, 23, 132, 2, 255, 167, 255, 236, 177]
abbrev dktX12_undoes_1 : List UInt8 := dkwX12_undoes_1 ++ []
def dkwX12_undoes_0 : List UInt8 := [42, 89, 180, 0, 19, 43, 180, 0, 19, 128, 181, 0, 19, 43, 180, 0, 15, 4, 100, 61, 28, 155, 0, 22]
abbrev dktX12_undoes_0 : List UInt8 := dkwX12_undoes_0 ++ dktX12_undoes_1
theorem dksX12_undoes_0 : cX12_undoes.data.toList.drop 0 = dktX12_undoes_0 := by decide +kernel
theorem dksX12_undoes_1 : cX12_undoes.data.toList.drop 24 = dktX12_undoes_1 := dk_seg dksX12_undoes_0 24 rfl rfl
theorem dX12_undoes_0 : decode cX12_undoes 0 = .ok (.aload_n 0, 1) := dk_42 (dk_at dksX12_undoes_0 0 rfl rfl)
theorem dX12_undoes_1 : decode cX12_undoes 1 = .ok (.dup, 1) := dk_89 (dk_at dksX12_undoes_0 1 rfl rfl)
theorem dX12_undoes_2 : decode cX12_undoes 2 = .ok (.getfield 19, 3) := dk_180 0 19 (dk_at dksX12_undoes_0 2 rfl rfl)
theorem dX12_undoes_5 : decode cX12_undoes 5 = .ok (.aload_n 1, 1) := dk_43 (dk_at dksX12_undoes_0 5 rfl rfl)
theorem dX12_undoes_6 : decode cX12_undoes 6 = .ok (.getfield 19, 3) := dk_180 0 19 (dk_at dksX12_undoes_0 6 rfl rfl)
theorem dX12_undoes_9 : decode cX12_undoes 9 = .ok (.ior, 1) := dk_128 (dk_at dksX12_undoes_0 9 rfl rfl)
theorem dX12_undoes_10 : decode cX12_undoes 10 = .ok (.putfield 19, 3) := dk_181 0 19 (dk_at dksX12_undoes_0 10 rfl rfl)
theorem dX12_undoes_13 : decode cX12_undoes 13 = .ok (.aload_n 1, 1) := dk_43 (dk_at dksX12_undoes_0 13 rfl rfl)
theorem dX12_undoes_14 : decode cX12_undoes 14 = .ok (.getfield 15, 3) := dk_180 0 15 (dk_at dksX12_undoes_0 14 rfl rfl)
theorem dX12_undoes_17 : decode cX12_undoes 17 = .ok (.iconst 1, 1) := dk_4 (dk_at dksX12_undoes_0 17 rfl rfl)
theorem dX12_undoes_18 : decode cX12_undoes 18 = .ok (.isub, 1) := dk_100 (dk_at dksX12_undoes_0 18 rfl rfl)
theorem dX12_undoes_19 : decode cX12_undoes 19 = .ok (.istore_n 2, 1) := dk_61 (dk_at dksX12_undoes_0 19 rfl rfl)
theorem dX12_undoes_20 : decode cX12_undoes 20 = .ok (.iload_n 2, 1) := dk_28 (dk_at dksX12_undoes_0 20 rfl rfl)
theorem dX12_undoes_21 : decode cX12_undoes 21 = .ok (.ifCond .lt 22, 3) := dk_155 0 22 (dk_at dksX12_undoes_0 21 rfl rfl)
theorem dX12_undoes_24 : decode cX12_undoes 24 = .ok (.aload_n 0, 1) := dk_42 (dk_at dksX12_undoes_1 0 rfl rfl)
theorem dX12_undoes_25 : decode cX12_undoes 25 = .ok (.aload_n 1, 1) := dk_43 (dk_at dksX12_undoes_1 1 rfl rfl)
theorem dX12_undoes_26 : decode cX12_undoes 26 = .ok (.getfield 9, 3) := dk_180 0 9 (dk_at dksX12_undoes_1 2 rfl rfl)
theorem dX12_undoes_29 : decode cX12_undoes 29 = .ok (.iload_n 2, 1) := dk_28 (dk_at dksX12_undoes_1 5 rfl rfl)
theorem dX12_undoes_30 : decode cX12_undoes 30 = .ok (.iaload, 1) := dk_46 (dk_at dksX12_undoes_1 6 rfl rfl)
theorem dX12_undoes_31 : decode cX12_undoes 31 = .ok (.invokestatic 27, 3) := dk_184 0 27 (dk_at dksX12_undoes_1 7 rfl rfl)
theorem dX12_undoes_34 : decode cX12_undoes 34 = .ok (.invokevirtual 23, 3) := dk_182 0 23 (dk_at dksX12_undoes_1 10 rfl rfl)
theorem dX12_undoes_37 : decode cX12_undoes 37 = .ok (.iinc 2 (-1), 3) := dk_132 2 255 (dk_at dksX12_undoes_1 13 rfl rfl)
theorem dX12_undoes_40 : decode cX12_undoes 40 = .ok (.goto (-20), 3) := dk_167 255 236 (dk_at dksX12_undoes_1 16 rfl rfl)
theorem dX12_undoes_43 : decode cX12_undoes 43 = .ok (.return_, 1) := dk_177 (dk_at dksX12_undoes_1 19 rfl rfl)
abbrev cX12_adds_2 : ByteArray := prog_4_method_3_code
def yX12_adds_2 : MethodName := ⟨RX12, "adds", "(LMaypoleGreen$Figure;)V"⟩
def dkwX12_adds_2_1 : List UInt8 := [43, 180, 0, 9, 28, 46, 182, 0, 23, 132, 2, 1, 167, 255, 235, 177]
abbrev dktX12_adds_2_1 : List UInt8 := dkwX12_adds_2_1 ++ []
def dkwX12_adds_2_0 : List UInt8 := [42, 89, 180, 0, 19, 43, 180, 0, 19, 128, 181, 0, 19, 3, 61, 28, 43, 180, 0, 15, 162, 0, 19, 42]
abbrev dktX12_adds_2_0 : List UInt8 := dkwX12_adds_2_0 ++ dktX12_adds_2_1
theorem dksX12_adds_2_0 : cX12_adds_2.data.toList.drop 0 = dktX12_adds_2_0 := by decide +kernel
theorem dksX12_adds_2_1 : cX12_adds_2.data.toList.drop 24 = dktX12_adds_2_1 := dk_seg dksX12_adds_2_0 24 rfl rfl
theorem dX12_adds_2_0 : decode cX12_adds_2 0 = .ok (.aload_n 0, 1) := dk_42 (dk_at dksX12_adds_2_0 0 rfl rfl)
theorem dX12_adds_2_1 : decode cX12_adds_2 1 = .ok (.dup, 1) := dk_89 (dk_at dksX12_adds_2_0 1 rfl rfl)
theorem dX12_adds_2_2 : decode cX12_adds_2 2 = .ok (.getfield 19, 3) := dk_180 0 19 (dk_at dksX12_adds_2_0 2 rfl rfl)
theorem dX12_adds_2_5 : decode cX12_adds_2 5 = .ok (.aload_n 1, 1) := dk_43 (dk_at dksX12_adds_2_0 5 rfl rfl)
theorem dX12_adds_2_6 : decode cX12_adds_2 6 = .ok (.getfield 19, 3) := dk_180 0 19 (dk_at dksX12_adds_2_0 6 rfl rfl)
theorem dX12_adds_2_9 : decode cX12_adds_2 9 = .ok (.ior, 1) := dk_128 (dk_at dksX12_adds_2_0 9 rfl rfl)
theorem dX12_adds_2_10 : decode cX12_adds_2 10 = .ok (.putfield 19, 3) := dk_181 0 19 (dk_at dksX12_adds_2_0 10 rfl rfl)
theorem dX12_adds_2_13 : decode cX12_adds_2 13 = .ok (.iconst 0, 1) := dk_3 (dk_at dksX12_adds_2_0 13 rfl rfl)
theorem dX12_adds_2_14 : decode cX12_adds_2 14 = .ok (.istore_n 2, 1) := dk_61 (dk_at dksX12_adds_2_0 14 rfl rfl)
theorem dX12_adds_2_15 : decode cX12_adds_2 15 = .ok (.iload_n 2, 1) := dk_28 (dk_at dksX12_adds_2_0 15 rfl rfl)
theorem dX12_adds_2_16 : decode cX12_adds_2 16 = .ok (.aload_n 1, 1) := dk_43 (dk_at dksX12_adds_2_0 16 rfl rfl)
theorem dX12_adds_2_17 : decode cX12_adds_2 17 = .ok (.getfield 15, 3) := dk_180 0 15 (dk_at dksX12_adds_2_0 17 rfl rfl)
theorem dX12_adds_2_20 : decode cX12_adds_2 20 = .ok (.if_icmp .ge 19, 3) := dk_162 0 19 (dk_at dksX12_adds_2_0 20 rfl rfl)
theorem dX12_adds_2_23 : decode cX12_adds_2 23 = .ok (.aload_n 0, 1) := dk_42 (dk_at dksX12_adds_2_0 23 rfl rfl)
theorem dX12_adds_2_24 : decode cX12_adds_2 24 = .ok (.aload_n 1, 1) := dk_43 (dk_at dksX12_adds_2_1 0 rfl rfl)
theorem dX12_adds_2_25 : decode cX12_adds_2 25 = .ok (.getfield 9, 3) := dk_180 0 9 (dk_at dksX12_adds_2_1 1 rfl rfl)
theorem dX12_adds_2_28 : decode cX12_adds_2 28 = .ok (.iload_n 2, 1) := dk_28 (dk_at dksX12_adds_2_1 4 rfl rfl)
theorem dX12_adds_2_29 : decode cX12_adds_2 29 = .ok (.iaload, 1) := dk_46 (dk_at dksX12_adds_2_1 5 rfl rfl)
theorem dX12_adds_2_30 : decode cX12_adds_2 30 = .ok (.invokevirtual 23, 3) := dk_182 0 23 (dk_at dksX12_adds_2_1 6 rfl rfl)
theorem dX12_adds_2_33 : decode cX12_adds_2 33 = .ok (.iinc 2 1, 3) := dk_132 2 1 (dk_at dksX12_adds_2_1 9 rfl rfl)
theorem dX12_adds_2_36 : decode cX12_adds_2 36 = .ok (.goto (-21), 3) := dk_167 255 235 (dk_at dksX12_adds_2_1 12 rfl rfl)
theorem dX12_adds_2_39 : decode cX12_adds_2 39 = .ok (.return_, 1) := dk_177 (dk_at dksX12_adds_2_1 15 rfl rfl)
theorem q93 : (Jvm.Cond.initialized "MaypoleGreen$Figure") ∈ lw_all := lw_g (lw_at lw_m1 15 rfl) rfl
theorem q538 : (Jvm.Cond.instanceMethod ({ cls := "MaypoleGreen$Figure", name := "isOf", desc := "(I)Z" } : Jvm.MethodName)) ∈ lw_all := lw_g (lw_at lw_m2 220 rfl) rfl
theorem q539 : (Jvm.Cond.selects "MaypoleGreen$Figure" ({ cls := "MaypoleGreen$Figure", name := "isOf", desc := "(I)Z" } : Jvm.MethodName) ({ cls := "MaypoleGreen$Figure", name := "isOf", desc := "(I)Z" } : Jvm.MethodName)) ∈ lw_all := lw_g (lw_at lw_m2 221 rfl) rfl
theorem q540 : (Jvm.Cond.code ({ cls := "MaypoleGreen$Figure", name := "isOf", desc := "(I)Z" } : Jvm.MethodName) prog_4_method_5_code (3 : Nat) (Option.some Jvm.ClassFile.FieldType.boolean)) ∈ lw_all := lw_g (lw_at lw_m2 222 rfl) rfl
theorem q592 : (Jvm.Cond.instantiable "MaypoleGreen$Figure" (3 : Nat)) ∈ lw_all := lw_g (lw_at lw_m3 34 rfl) rfl
theorem q594 : (Jvm.Cond.instanceMethod ({ cls := "MaypoleGreen$Figure", name := "<init>", desc := "()V" } : Jvm.MethodName)) ∈ lw_all := lw_g (lw_at lw_m3 36 rfl) rfl
theorem q595 : (Jvm.Cond.code ({ cls := "MaypoleGreen$Figure", name := "<init>", desc := "()V" } : Jvm.MethodName) prog_4_method_1_code (1 : Nat) (Option.none : Option Jvm.ClassFile.FieldType)) ∈ lw_all := lw_g (lw_at lw_m3 37 rfl) rfl
theorem q596 : (Jvm.Cond.methodLink "MaypoleGreen$Figure" (3 : Nat) ({ cls := "java/lang/Object", name := "<init>", desc := "()V" } : Jvm.MethodName)) ∈ lw_all := lw_g (lw_at lw_m3 38 rfl) rfl
theorem q597 : (Jvm.Cond.fieldLink "MaypoleGreen$Figure" (9 : Nat) "MaypoleGreen$Figure" "steps" "[I") ∈ lw_all := lw_g (lw_at lw_m3 39 rfl) rfl
theorem q599 : (Jvm.Cond.fieldLink "MaypoleGreen$Figure" (15 : Nat) "MaypoleGreen$Figure" "many" "I") ∈ lw_all := lw_g (lw_at lw_m3 41 rfl) rfl
theorem q601 : (Jvm.Cond.fieldLink "MaypoleGreen$Figure" (19 : Nat) "MaypoleGreen$Figure" "isTooLong" "Z") ∈ lw_all := lw_g (lw_at lw_m3 43 rfl) rfl
theorem q603 : (Jvm.Cond.laysFinal "MaypoleGreen$Figure" "MaypoleGreen$Figure" "steps" "[I") ∈ lw_all := lw_g (lw_at lw_m3 45 rfl) rfl
theorem q604 : (Jvm.Cond.soleField "MaypoleGreen$Figure" "steps") ∈ lw_all := lw_g (lw_at lw_m3 46 rfl) rfl
theorem q605 : (Jvm.Cond.lays "MaypoleGreen$Figure" "MaypoleGreen$Figure" "many" "I") ∈ lw_all := lw_g (lw_at lw_m3 47 rfl) rfl
theorem q606 : (Jvm.Cond.soleField "MaypoleGreen$Figure" "many") ∈ lw_all := lw_g (lw_at lw_m3 48 rfl) rfl
theorem q607 : (Jvm.Cond.lays "MaypoleGreen$Figure" "MaypoleGreen$Figure" "isTooLong" "Z") ∈ lw_all := lw_g (lw_at lw_m3 49 rfl) rfl
theorem q608 : (Jvm.Cond.soleField "MaypoleGreen$Figure" "isTooLong") ∈ lw_all := lw_g (lw_at lw_m3 50 rfl) rfl
theorem q609 : (Jvm.Cond.superclass "MaypoleGreen$Figure" "java/lang/Object") ∈ lw_all := lw_g (lw_at lw_m3 51 rfl) rfl
theorem q716 : (Jvm.Cond.instanceMethod ({ cls := "MaypoleGreen$Figure", name := "adds", desc := "(I)V" } : Jvm.MethodName)) ∈ lw_all := lw_g (lw_at lw_m3 158 rfl) rfl
theorem q717 : (Jvm.Cond.selects "MaypoleGreen$Figure" ({ cls := "MaypoleGreen$Figure", name := "adds", desc := "(I)V" } : Jvm.MethodName) ({ cls := "MaypoleGreen$Figure", name := "adds", desc := "(I)V" } : Jvm.MethodName)) ∈ lw_all := lw_g (lw_at lw_m3 159 rfl) rfl
theorem q718 : (Jvm.Cond.code ({ cls := "MaypoleGreen$Figure", name := "adds", desc := "(I)V" } : Jvm.MethodName) prog_4_method_2_code (2 : Nat) (Option.none : Option Jvm.ClassFile.FieldType)) ∈ lw_all := lw_g (lw_at lw_m3 160 rfl) rfl
theorem q724 : (Jvm.Cond.instanceMethod ({ cls := "MaypoleGreen$Figure", name := "undoes", desc := "(LMaypoleGreen$Figure;)V" } : Jvm.MethodName)) ∈ lw_all := lw_g (lw_at lw_m3 166 rfl) rfl
theorem q725 : (Jvm.Cond.selects "MaypoleGreen$Figure" ({ cls := "MaypoleGreen$Figure", name := "undoes", desc := "(LMaypoleGreen$Figure;)V" } : Jvm.MethodName) ({ cls := "MaypoleGreen$Figure", name := "undoes", desc := "(LMaypoleGreen$Figure;)V" } : Jvm.MethodName)) ∈ lw_all := lw_g (lw_at lw_m3 167 rfl) rfl
theorem q726 : (Jvm.Cond.code ({ cls := "MaypoleGreen$Figure", name := "undoes", desc := "(LMaypoleGreen$Figure;)V" } : Jvm.MethodName) prog_4_method_4_code (3 : Nat) (Option.none : Option Jvm.ClassFile.FieldType)) ∈ lw_all := lw_g (lw_at lw_m3 168 rfl) rfl
theorem q727 : (Jvm.Cond.methodLinkNest "MaypoleGreen$Figure" (27 : Nat) ({ cls := "MaypoleGreen", name := "undoing", desc := "(I)I" } : Jvm.MethodName) "MaypoleGreen") ∈ lw_tbl := lw_at lw_m3 169 rfl
theorem q730 : (Jvm.Cond.methodLink "MaypoleGreen$Figure" (23 : Nat) ({ cls := "MaypoleGreen$Figure", name := "adds", desc := "(I)V" } : Jvm.MethodName)) ∈ lw_all := lw_g (lw_at lw_m3 172 rfl) rfl
theorem q732 : (Jvm.Cond.instanceMethod ({ cls := "MaypoleGreen$Figure", name := "adds", desc := "(LMaypoleGreen$Figure;)V" } : Jvm.MethodName)) ∈ lw_all := lw_g (lw_at lw_m3 174 rfl) rfl
theorem q733 : (Jvm.Cond.selects "MaypoleGreen$Figure" ({ cls := "MaypoleGreen$Figure", name := "adds", desc := "(LMaypoleGreen$Figure;)V" } : Jvm.MethodName) ({ cls := "MaypoleGreen$Figure", name := "adds", desc := "(LMaypoleGreen$Figure;)V" } : Jvm.MethodName)) ∈ lw_all := lw_g (lw_at lw_m3 175 rfl) rfl
theorem q734 : (Jvm.Cond.code ({ cls := "MaypoleGreen$Figure", name := "adds", desc := "(LMaypoleGreen$Figure;)V" } : Jvm.MethodName) prog_4_method_3_code (3 : Nat) (Option.none : Option Jvm.ClassFile.FieldType)) ∈ lw_all := lw_g (lw_at lw_m3 176 rfl) rfl
theorem in_X12 : ∀ w ∈ wsX120, w ∈ lw_all := lw_in wsX120 [603, 605, 607] (by decide +kernel) (by decide +kernel)

/-! MaypoleGreen$Off -/
set_option maxRecDepth 100000
def RX13 : String := "MaypoleGreen$Off"
def TX13 : u_T := fun k => match k with
  | 0 => ("java/lang/Throwable", "cause", "Ljava/lang/Throwable;", false)
  | 1 => ("java/lang/Throwable", "stackTrace", "[Ljava/lang/StackTraceElement;", false)
  | 2 => ("java/lang/Throwable", "suppressedExceptions", "Ljava/util/List;", false)
  | 3 => ("java/lang/Throwable", "detailMessage", "Ljava/lang/String;", false)
  | 4 => ("java/lang/Throwable", "backtrace", "Ljava/lang/Object;", false)
  | 5 => ("java/lang/Throwable", "depth", "I", false)
  | _ => ("MaypoleGreen$Off", "place", "I", true)
def tyX13 : Nat → FieldType := fun k => match k with
  | 0 => .object "java/lang/Throwable"
  | 1 => .array (.object "java/lang/StackTraceElement")
  | 2 => .object "java/util/List"
  | 3 => .object "java/lang/String"
  | 4 => .object "java/lang/Object"
  | 5 => .int
  | _ => .int
abbrev wsX130 : List Cond := u_ws RX13 TX13 7
theorem nmX13 : ∀ a, a < 7 → ∀ b, b < 7 → a ≠ b → (TX13 a).2.1 ≠ (TX13 b).2.1 := by decide +kernel
theorem tyX13_ok : ∀ k, k < 7 → parseFieldDescriptor (TX13 k).2.2.1 = some (tyX13 k) := by decide +kernel
abbrev cX13_init : ByteArray := prog_9_method_1_code
def yX13_init : MethodName := ⟨RX13, "<init>", "(I)V"⟩
def dkwX13_init_0 : List UInt8 := [42, 183, 0, 1, 42, 27, 181, 0, 7, 177]
abbrev dktX13_init_0 : List UInt8 := dkwX13_init_0 ++ []
theorem dksX13_init_0 : cX13_init.data.toList.drop 0 = dktX13_init_0 := by decide +kernel
theorem dX13_init_0 : decode cX13_init 0 = .ok (.aload_n 0, 1) := dk_42 (dk_at dksX13_init_0 0 rfl rfl)
theorem dX13_init_1 : decode cX13_init 1 = .ok (.invokespecial 1, 3) := dk_183 0 1 (dk_at dksX13_init_0 1 rfl rfl)
theorem dX13_init_4 : decode cX13_init 4 = .ok (.aload_n 0, 1) := dk_42 (dk_at dksX13_init_0 4 rfl rfl)
theorem dX13_init_5 : decode cX13_init 5 = .ok (.iload_n 1, 1) := dk_27 (dk_at dksX13_init_0 5 rfl rfl)
theorem dX13_init_6 : decode cX13_init 6 = .ok (.putfield 7, 3) := dk_181 0 7 (dk_at dksX13_init_0 6 rfl rfl)
theorem dX13_init_9 : decode cX13_init 9 = .ok (.return_, 1) := dk_177 (dk_at dksX13_init_0 9 rfl rfl)
theorem q97 : (Jvm.Cond.initialized "MaypoleGreen$Off") ∈ lw_all := lw_g (lw_at lw_m1 19 rfl) rfl
theorem q624 : (Jvm.Cond.instantiable "MaypoleGreen$Off" (7 : Nat)) ∈ lw_all := lw_g (lw_at lw_m3 66 rfl) rfl
theorem q625 : (Jvm.Cond.castable "MaypoleGreen$Off" "MaypoleGreen$Off") ∈ lw_tbl := lw_at lw_m3 67 rfl
theorem q632 : (Jvm.Cond.selects "MaypoleGreen$Off" ({ cls := "java/lang/Throwable", name := "fillInStackTrace", desc := "(I)Ljava/lang/Throwable;" } : Jvm.MethodName) ({ cls := "java/lang/Throwable", name := "fillInStackTrace", desc := "(I)Ljava/lang/Throwable;" } : Jvm.MethodName)) ∈ lw_all := lw_g (lw_at lw_m3 74 rfl) rfl
theorem q633 : (Jvm.Cond.selects "MaypoleGreen$Off" ({ cls := "java/lang/Throwable", name := "fillInStackTrace", desc := "()Ljava/lang/Throwable;" } : Jvm.MethodName) ({ cls := "java/lang/Throwable", name := "fillInStackTrace", desc := "()Ljava/lang/Throwable;" } : Jvm.MethodName)) ∈ lw_all := lw_g (lw_at lw_m3 75 rfl) rfl
theorem q634 : (Jvm.Cond.lays "MaypoleGreen$Off" "java/lang/Throwable" "cause" "Ljava/lang/Throwable;") ∈ lw_all := lw_g (lw_at lw_m3 76 rfl) rfl
theorem q636 : (Jvm.Cond.lays "MaypoleGreen$Off" "java/lang/Throwable" "stackTrace" "[Ljava/lang/StackTraceElement;") ∈ lw_all := lw_g (lw_at lw_m3 78 rfl) rfl
theorem q638 : (Jvm.Cond.lays "MaypoleGreen$Off" "java/lang/Throwable" "suppressedExceptions" "Ljava/util/List;") ∈ lw_all := lw_g (lw_at lw_m3 80 rfl) rfl
theorem q640 : (Jvm.Cond.lays "MaypoleGreen$Off" "java/lang/Throwable" "detailMessage" "Ljava/lang/String;") ∈ lw_all := lw_g (lw_at lw_m3 82 rfl) rfl
theorem q642 : (Jvm.Cond.lays "MaypoleGreen$Off" "java/lang/Throwable" "backtrace" "Ljava/lang/Object;") ∈ lw_all := lw_g (lw_at lw_m3 84 rfl) rfl
theorem q681 : (Jvm.Cond.instanceMethod ({ cls := "MaypoleGreen$Off", name := "<init>", desc := "(I)V" } : Jvm.MethodName)) ∈ lw_all := lw_g (lw_at lw_m3 123 rfl) rfl
theorem q682 : (Jvm.Cond.code ({ cls := "MaypoleGreen$Off", name := "<init>", desc := "(I)V" } : Jvm.MethodName) prog_9_method_1_code (2 : Nat) (Option.none : Option Jvm.ClassFile.FieldType)) ∈ lw_all := lw_g (lw_at lw_m3 124 rfl) rfl
theorem q683 : (Jvm.Cond.methodLink "MaypoleGreen$Off" (1 : Nat) ({ cls := "java/lang/RuntimeException", name := "<init>", desc := "()V" } : Jvm.MethodName)) ∈ lw_all := lw_g (lw_at lw_m3 125 rfl) rfl
theorem q690 : (Jvm.Cond.fieldLink "MaypoleGreen$Off" (7 : Nat) "MaypoleGreen$Off" "place" "I") ∈ lw_all := lw_g (lw_at lw_m3 132 rfl) rfl
theorem q697 : (Jvm.Cond.laysFinal "MaypoleGreen$Off" "MaypoleGreen$Off" "place" "I") ∈ lw_all := lw_g (lw_at lw_m3 139 rfl) rfl
theorem q698 : (Jvm.Cond.soleField "MaypoleGreen$Off" "place") ∈ lw_all := lw_g (lw_at lw_m3 140 rfl) rfl
theorem q703 : (Jvm.Cond.lays "MaypoleGreen$Off" "java/lang/Throwable" "depth" "I") ∈ lw_all := lw_g (lw_at lw_m3 145 rfl) rfl
theorem q706 : (Jvm.Cond.superclass "MaypoleGreen$Off" "java/lang/RuntimeException") ∈ lw_all := lw_g (lw_at lw_m3 148 rfl) rfl
theorem in_X13 : ∀ w ∈ wsX130, w ∈ lw_all := lw_in wsX130 [634, 636, 638, 640, 642, 703, 697] (by decide +kernel) (by decide +kernel)

/-! MaypoleGreen$Orders -/
set_option maxRecDepth 100000
def RX14 : String := "MaypoleGreen$Orders"
def TX14 : u_T := fun k => match k with
  | 0 => ("MaypoleGreen$Orders", "n", "I", true)
  | 1 => ("MaypoleGreen$Orders", "far", "[I", true)
  | 2 => ("MaypoleGreen$Orders", "line", "[I", true)
  | _ => ("MaypoleGreen$Orders", "at", "[I", true)
def tyX14 : Nat → FieldType := fun k => match k with
  | 0 => .int
  | 1 => .array .int
  | 2 => .array .int
  | _ => .array .int
abbrev wsX140 : List Cond := u_ws RX14 TX14 4
theorem nmX14 : ∀ a, a < 4 → ∀ b, b < 4 → a ≠ b → (TX14 a).2.1 ≠ (TX14 b).2.1 := by decide +kernel
theorem tyX14_ok : ∀ k, k < 4 → parseFieldDescriptor (TX14 k).2.2.1 = some (tyX14 k) := by decide +kernel
abbrev cX14_init : ByteArray := prog_10_method_1_code
def yX14_init : MethodName := ⟨RX14, "<init>", "(I)V"⟩
def dkwX14_init_2 : List UInt8 := [181, 0, 22, 177]
abbrev dktX14_init_2 : List UInt8 := dkwX14_init_2 ++ []
def dkwX14_init_1 : List UInt8 := [132, 3, 1, 167, 255, 244, 42, 28, 188, 10, 181, 0, 15, 42, 28, 188, 10, 181, 0, 19, 42, 27, 188, 10]
abbrev dktX14_init_1 : List UInt8 := dkwX14_init_1 ++ dktX14_init_2
def dkwX14_init_0 : List UInt8 := [42, 183, 0, 3, 42, 27, 181, 0, 9, 4, 61, 5, 62, 29, 27, 163, 0, 13, 28, 29, 104, 61]
abbrev dktX14_init_0 : List UInt8 := dkwX14_init_0 ++ dktX14_init_1
theorem dksX14_init_0 : cX14_init.data.toList.drop 0 = dktX14_init_0 := by decide +kernel
theorem dksX14_init_1 : cX14_init.data.toList.drop 22 = dktX14_init_1 := dk_seg dksX14_init_0 22 rfl rfl
theorem dksX14_init_2 : cX14_init.data.toList.drop 46 = dktX14_init_2 := dk_seg dksX14_init_1 24 rfl rfl
theorem dX14_init_0 : decode cX14_init 0 = .ok (.aload_n 0, 1) := dk_42 (dk_at dksX14_init_0 0 rfl rfl)
theorem dX14_init_1 : decode cX14_init 1 = .ok (.invokespecial 3, 3) := dk_183 0 3 (dk_at dksX14_init_0 1 rfl rfl)
theorem dX14_init_4 : decode cX14_init 4 = .ok (.aload_n 0, 1) := dk_42 (dk_at dksX14_init_0 4 rfl rfl)
theorem dX14_init_5 : decode cX14_init 5 = .ok (.iload_n 1, 1) := dk_27 (dk_at dksX14_init_0 5 rfl rfl)
theorem dX14_init_6 : decode cX14_init 6 = .ok (.putfield 9, 3) := dk_181 0 9 (dk_at dksX14_init_0 6 rfl rfl)
theorem dX14_init_9 : decode cX14_init 9 = .ok (.iconst 1, 1) := dk_4 (dk_at dksX14_init_0 9 rfl rfl)
theorem dX14_init_10 : decode cX14_init 10 = .ok (.istore_n 2, 1) := dk_61 (dk_at dksX14_init_0 10 rfl rfl)
theorem dX14_init_11 : decode cX14_init 11 = .ok (.iconst 2, 1) := dk_5 (dk_at dksX14_init_0 11 rfl rfl)
theorem dX14_init_12 : decode cX14_init 12 = .ok (.istore_n 3, 1) := dk_62 (dk_at dksX14_init_0 12 rfl rfl)
theorem dX14_init_13 : decode cX14_init 13 = .ok (.iload_n 3, 1) := dk_29 (dk_at dksX14_init_0 13 rfl rfl)
theorem dX14_init_14 : decode cX14_init 14 = .ok (.iload_n 1, 1) := dk_27 (dk_at dksX14_init_0 14 rfl rfl)
theorem dX14_init_15 : decode cX14_init 15 = .ok (.if_icmp .gt 13, 3) := dk_163 0 13 (dk_at dksX14_init_0 15 rfl rfl)
theorem dX14_init_18 : decode cX14_init 18 = .ok (.iload_n 2, 1) := dk_28 (dk_at dksX14_init_0 18 rfl rfl)
theorem dX14_init_19 : decode cX14_init 19 = .ok (.iload_n 3, 1) := dk_29 (dk_at dksX14_init_0 19 rfl rfl)
theorem dX14_init_20 : decode cX14_init 20 = .ok (.imul, 1) := dk_104 (dk_at dksX14_init_0 20 rfl rfl)
theorem dX14_init_21 : decode cX14_init 21 = .ok (.istore_n 2, 1) := dk_61 (dk_at dksX14_init_0 21 rfl rfl)
theorem dX14_init_22 : decode cX14_init 22 = .ok (.iinc 3 1, 3) := dk_132 3 1 (dk_at dksX14_init_1 0 rfl rfl)
theorem dX14_init_25 : decode cX14_init 25 = .ok (.goto (-12), 3) := dk_167 255 244 (dk_at dksX14_init_1 3 rfl rfl)
theorem dX14_init_28 : decode cX14_init 28 = .ok (.aload_n 0, 1) := dk_42 (dk_at dksX14_init_1 6 rfl rfl)
theorem dX14_init_29 : decode cX14_init 29 = .ok (.iload_n 2, 1) := dk_28 (dk_at dksX14_init_1 7 rfl rfl)
theorem dX14_init_30 : decode cX14_init 30 = .ok (.newarray .int, 2) := dk_188_10 (dk_at dksX14_init_1 8 rfl rfl)
theorem dX14_init_32 : decode cX14_init 32 = .ok (.putfield 15, 3) := dk_181 0 15 (dk_at dksX14_init_1 10 rfl rfl)
theorem dX14_init_35 : decode cX14_init 35 = .ok (.aload_n 0, 1) := dk_42 (dk_at dksX14_init_1 13 rfl rfl)
theorem dX14_init_36 : decode cX14_init 36 = .ok (.iload_n 2, 1) := dk_28 (dk_at dksX14_init_1 14 rfl rfl)
theorem dX14_init_37 : decode cX14_init 37 = .ok (.newarray .int, 2) := dk_188_10 (dk_at dksX14_init_1 15 rfl rfl)
theorem dX14_init_39 : decode cX14_init 39 = .ok (.putfield 19, 3) := dk_181 0 19 (dk_at dksX14_init_1 17 rfl rfl)
theorem dX14_init_42 : decode cX14_init 42 = .ok (.aload_n 0, 1) := dk_42 (dk_at dksX14_init_1 20 rfl rfl)
theorem dX14_init_43 : decode cX14_init 43 = .ok (.iload_n 1, 1) := dk_27 (dk_at dksX14_init_1 21 rfl rfl)
theorem dX14_init_44 : decode cX14_init 44 = .ok (.newarray .int, 2) := dk_188_10 (dk_at dksX14_init_1 22 rfl rfl)
theorem dX14_init_46 : decode cX14_init 46 = .ok (.putfield 22, 3) := dk_181 0 22 (dk_at dksX14_init_2 0 rfl rfl)
theorem dX14_init_49 : decode cX14_init 49 = .ok (.return_, 1) := dk_177 (dk_at dksX14_init_2 3 rfl rfl)
abbrev cX14_rank : ByteArray := prog_10_method_2_code
def yX14_rank : MethodName := ⟨RX14, "rank", "([I)I"⟩
def dkwX14_rank_2 : List UInt8 := [167, 255, 231, 28, 42, 180, 0, 9, 29, 100, 104, 21, 4, 96, 61, 132, 3, 1, 167, 255, 197, 28, 172]
abbrev dktX14_rank_2 : List UInt8 := dkwX14_rank_2 ++ []
def dkwX14_rank_1 : List UInt8 := [180, 0, 9, 162, 0, 22, 43, 21, 5, 46, 43, 29, 46, 162, 0, 6, 132, 4, 1, 132, 5, 1]
abbrev dktX14_rank_1 : List UInt8 := dkwX14_rank_1 ++ dktX14_rank_2
def dkwX14_rank_0 : List UInt8 := [3, 61, 3, 62, 29, 42, 180, 0, 9, 162, 0, 57, 3, 54, 4, 29, 4, 96, 54, 5, 21, 5, 42]
abbrev dktX14_rank_0 : List UInt8 := dkwX14_rank_0 ++ dktX14_rank_1
theorem dksX14_rank_0 : cX14_rank.data.toList.drop 0 = dktX14_rank_0 := by decide +kernel
theorem dksX14_rank_1 : cX14_rank.data.toList.drop 23 = dktX14_rank_1 := dk_seg dksX14_rank_0 23 rfl rfl
theorem dksX14_rank_2 : cX14_rank.data.toList.drop 45 = dktX14_rank_2 := dk_seg dksX14_rank_1 22 rfl rfl
theorem dX14_rank_0 : decode cX14_rank 0 = .ok (.iconst 0, 1) := dk_3 (dk_at dksX14_rank_0 0 rfl rfl)
theorem dX14_rank_1 : decode cX14_rank 1 = .ok (.istore_n 2, 1) := dk_61 (dk_at dksX14_rank_0 1 rfl rfl)
theorem dX14_rank_2 : decode cX14_rank 2 = .ok (.iconst 0, 1) := dk_3 (dk_at dksX14_rank_0 2 rfl rfl)
theorem dX14_rank_3 : decode cX14_rank 3 = .ok (.istore_n 3, 1) := dk_62 (dk_at dksX14_rank_0 3 rfl rfl)
theorem dX14_rank_4 : decode cX14_rank 4 = .ok (.iload_n 3, 1) := dk_29 (dk_at dksX14_rank_0 4 rfl rfl)
theorem dX14_rank_5 : decode cX14_rank 5 = .ok (.aload_n 0, 1) := dk_42 (dk_at dksX14_rank_0 5 rfl rfl)
theorem dX14_rank_6 : decode cX14_rank 6 = .ok (.getfield 9, 3) := dk_180 0 9 (dk_at dksX14_rank_0 6 rfl rfl)
theorem dX14_rank_9 : decode cX14_rank 9 = .ok (.if_icmp .ge 57, 3) := dk_162 0 57 (dk_at dksX14_rank_0 9 rfl rfl)
theorem dX14_rank_12 : decode cX14_rank 12 = .ok (.iconst 0, 1) := dk_3 (dk_at dksX14_rank_0 12 rfl rfl)
theorem dX14_rank_13 : decode cX14_rank 13 = .ok (.istore 4, 2) := dk_54 4 (dk_at dksX14_rank_0 13 rfl rfl)
theorem dX14_rank_15 : decode cX14_rank 15 = .ok (.iload_n 3, 1) := dk_29 (dk_at dksX14_rank_0 15 rfl rfl)
theorem dX14_rank_16 : decode cX14_rank 16 = .ok (.iconst 1, 1) := dk_4 (dk_at dksX14_rank_0 16 rfl rfl)
theorem dX14_rank_17 : decode cX14_rank 17 = .ok (.iadd, 1) := dk_96 (dk_at dksX14_rank_0 17 rfl rfl)
theorem dX14_rank_18 : decode cX14_rank 18 = .ok (.istore 5, 2) := dk_54 5 (dk_at dksX14_rank_0 18 rfl rfl)
theorem dX14_rank_20 : decode cX14_rank 20 = .ok (.iload 5, 2) := dk_21 5 (dk_at dksX14_rank_0 20 rfl rfl)
theorem dX14_rank_22 : decode cX14_rank 22 = .ok (.aload_n 0, 1) := dk_42 (dk_at dksX14_rank_0 22 rfl rfl)
theorem dX14_rank_23 : decode cX14_rank 23 = .ok (.getfield 9, 3) := dk_180 0 9 (dk_at dksX14_rank_1 0 rfl rfl)
theorem dX14_rank_26 : decode cX14_rank 26 = .ok (.if_icmp .ge 22, 3) := dk_162 0 22 (dk_at dksX14_rank_1 3 rfl rfl)
theorem dX14_rank_29 : decode cX14_rank 29 = .ok (.aload_n 1, 1) := dk_43 (dk_at dksX14_rank_1 6 rfl rfl)
theorem dX14_rank_30 : decode cX14_rank 30 = .ok (.iload 5, 2) := dk_21 5 (dk_at dksX14_rank_1 7 rfl rfl)
theorem dX14_rank_32 : decode cX14_rank 32 = .ok (.iaload, 1) := dk_46 (dk_at dksX14_rank_1 9 rfl rfl)
theorem dX14_rank_33 : decode cX14_rank 33 = .ok (.aload_n 1, 1) := dk_43 (dk_at dksX14_rank_1 10 rfl rfl)
theorem dX14_rank_34 : decode cX14_rank 34 = .ok (.iload_n 3, 1) := dk_29 (dk_at dksX14_rank_1 11 rfl rfl)
theorem dX14_rank_35 : decode cX14_rank 35 = .ok (.iaload, 1) := dk_46 (dk_at dksX14_rank_1 12 rfl rfl)
theorem dX14_rank_36 : decode cX14_rank 36 = .ok (.if_icmp .ge 6, 3) := dk_162 0 6 (dk_at dksX14_rank_1 13 rfl rfl)
theorem dX14_rank_39 : decode cX14_rank 39 = .ok (.iinc 4 1, 3) := dk_132 4 1 (dk_at dksX14_rank_1 16 rfl rfl)
theorem dX14_rank_42 : decode cX14_rank 42 = .ok (.iinc 5 1, 3) := dk_132 5 1 (dk_at dksX14_rank_1 19 rfl rfl)
theorem dX14_rank_45 : decode cX14_rank 45 = .ok (.goto (-25), 3) := dk_167 255 231 (dk_at dksX14_rank_2 0 rfl rfl)
theorem dX14_rank_48 : decode cX14_rank 48 = .ok (.iload_n 2, 1) := dk_28 (dk_at dksX14_rank_2 3 rfl rfl)
theorem dX14_rank_49 : decode cX14_rank 49 = .ok (.aload_n 0, 1) := dk_42 (dk_at dksX14_rank_2 4 rfl rfl)
theorem dX14_rank_50 : decode cX14_rank 50 = .ok (.getfield 9, 3) := dk_180 0 9 (dk_at dksX14_rank_2 5 rfl rfl)
theorem dX14_rank_53 : decode cX14_rank 53 = .ok (.iload_n 3, 1) := dk_29 (dk_at dksX14_rank_2 8 rfl rfl)
theorem dX14_rank_54 : decode cX14_rank 54 = .ok (.isub, 1) := dk_100 (dk_at dksX14_rank_2 9 rfl rfl)
theorem dX14_rank_55 : decode cX14_rank 55 = .ok (.imul, 1) := dk_104 (dk_at dksX14_rank_2 10 rfl rfl)
theorem dX14_rank_56 : decode cX14_rank 56 = .ok (.iload 4, 2) := dk_21 4 (dk_at dksX14_rank_2 11 rfl rfl)
theorem dX14_rank_58 : decode cX14_rank 58 = .ok (.iadd, 1) := dk_96 (dk_at dksX14_rank_2 13 rfl rfl)
theorem dX14_rank_59 : decode cX14_rank 59 = .ok (.istore_n 2, 1) := dk_61 (dk_at dksX14_rank_2 14 rfl rfl)
theorem dX14_rank_60 : decode cX14_rank 60 = .ok (.iinc 3 1, 3) := dk_132 3 1 (dk_at dksX14_rank_2 15 rfl rfl)
theorem dX14_rank_63 : decode cX14_rank 63 = .ok (.goto (-59), 3) := dk_167 255 197 (dk_at dksX14_rank_2 18 rfl rfl)
theorem dX14_rank_66 : decode cX14_rank 66 = .ok (.iload_n 2, 1) := dk_28 (dk_at dksX14_rank_2 21 rfl rfl)
theorem dX14_rank_67 : decode cX14_rank 67 = .ok (.ireturn, 1) := dk_172 (dk_at dksX14_rank_2 22 rfl rfl)
abbrev cX14_begins : ByteArray := prog_10_method_5_code
def yX14_begins : MethodName := ⟨RX14, "begins", "(I)V"⟩
def dkwX14_begins_5 : List UInt8 := [180, 0, 19, 28, 132, 2, 1, 21, 5, 79, 132, 4, 1, 167, 255, 173, 132, 3, 1, 167, 255, 159, 177]
abbrev dktX14_begins_5 : List UInt8 := dkwX14_begins_5 ++ []
def dkwX14_begins_4 : List UInt8 := [167, 0, 34, 42, 180, 0, 15, 21, 5, 42, 180, 0, 15, 42, 180, 0, 19, 29, 46, 46, 4, 96, 79, 42]
abbrev dktX14_begins_4 : List UInt8 := dkwX14_begins_4 ++ dktX14_begins_5
def dkwX14_begins_3 : List UInt8 := [182, 0, 29, 42, 42, 180, 0, 22, 182, 0, 32, 54, 5, 42, 180, 0, 15, 21, 5, 46, 2, 159, 0, 6]
abbrev dktX14_begins_3 : List UInt8 := dkwX14_begins_3 ++ dktX14_begins_4
def dkwX14_begins_2 : List UInt8 := [54, 4, 21, 4, 42, 180, 0, 9, 162, 0, 80, 42, 42, 180, 0, 19, 29, 46, 182, 0, 25, 42, 21, 4]
abbrev dktX14_begins_2 : List UInt8 := dkwX14_begins_2 ++ dktX14_begins_3
def dkwX14_begins_1 : List UInt8 := [42, 180, 0, 15, 27, 3, 79, 42, 180, 0, 19, 3, 27, 79, 4, 61, 3, 62, 29, 28, 162, 0, 98, 3]
abbrev dktX14_begins_1 : List UInt8 := dkwX14_begins_1 ++ dktX14_begins_2
def dkwX14_begins_0 : List UInt8 := [3, 61, 28, 42, 180, 0, 15, 190, 162, 0, 16, 42, 180, 0, 15, 28, 2, 79, 132, 2, 1, 167, 255, 237]
abbrev dktX14_begins_0 : List UInt8 := dkwX14_begins_0 ++ dktX14_begins_1
theorem dksX14_begins_0 : cX14_begins.data.toList.drop 0 = dktX14_begins_0 := by decide +kernel
theorem dksX14_begins_1 : cX14_begins.data.toList.drop 24 = dktX14_begins_1 := dk_seg dksX14_begins_0 24 rfl rfl
theorem dksX14_begins_2 : cX14_begins.data.toList.drop 48 = dktX14_begins_2 := dk_seg dksX14_begins_1 24 rfl rfl
theorem dksX14_begins_3 : cX14_begins.data.toList.drop 72 = dktX14_begins_3 := dk_seg dksX14_begins_2 24 rfl rfl
theorem dksX14_begins_4 : cX14_begins.data.toList.drop 96 = dktX14_begins_4 := dk_seg dksX14_begins_3 24 rfl rfl
theorem dksX14_begins_5 : cX14_begins.data.toList.drop 120 = dktX14_begins_5 := dk_seg dksX14_begins_4 24 rfl rfl
theorem dX14_begins_0 : decode cX14_begins 0 = .ok (.iconst 0, 1) := dk_3 (dk_at dksX14_begins_0 0 rfl rfl)
theorem dX14_begins_1 : decode cX14_begins 1 = .ok (.istore_n 2, 1) := dk_61 (dk_at dksX14_begins_0 1 rfl rfl)
theorem dX14_begins_2 : decode cX14_begins 2 = .ok (.iload_n 2, 1) := dk_28 (dk_at dksX14_begins_0 2 rfl rfl)
theorem dX14_begins_3 : decode cX14_begins 3 = .ok (.aload_n 0, 1) := dk_42 (dk_at dksX14_begins_0 3 rfl rfl)
theorem dX14_begins_4 : decode cX14_begins 4 = .ok (.getfield 15, 3) := dk_180 0 15 (dk_at dksX14_begins_0 4 rfl rfl)
theorem dX14_begins_7 : decode cX14_begins 7 = .ok (.arraylength, 1) := dk_190 (dk_at dksX14_begins_0 7 rfl rfl)
theorem dX14_begins_8 : decode cX14_begins 8 = .ok (.if_icmp .ge 16, 3) := dk_162 0 16 (dk_at dksX14_begins_0 8 rfl rfl)
theorem dX14_begins_11 : decode cX14_begins 11 = .ok (.aload_n 0, 1) := dk_42 (dk_at dksX14_begins_0 11 rfl rfl)
theorem dX14_begins_12 : decode cX14_begins 12 = .ok (.getfield 15, 3) := dk_180 0 15 (dk_at dksX14_begins_0 12 rfl rfl)
theorem dX14_begins_15 : decode cX14_begins 15 = .ok (.iload_n 2, 1) := dk_28 (dk_at dksX14_begins_0 15 rfl rfl)
theorem dX14_begins_16 : decode cX14_begins 16 = .ok (.iconst (-1), 1) := dk_2 (dk_at dksX14_begins_0 16 rfl rfl)
theorem dX14_begins_17 : decode cX14_begins 17 = .ok (.iastore, 1) := dk_79 (dk_at dksX14_begins_0 17 rfl rfl)
theorem dX14_begins_18 : decode cX14_begins 18 = .ok (.iinc 2 1, 3) := dk_132 2 1 (dk_at dksX14_begins_0 18 rfl rfl)
theorem dX14_begins_21 : decode cX14_begins 21 = .ok (.goto (-19), 3) := dk_167 255 237 (dk_at dksX14_begins_0 21 rfl rfl)
theorem dX14_begins_24 : decode cX14_begins 24 = .ok (.aload_n 0, 1) := dk_42 (dk_at dksX14_begins_1 0 rfl rfl)
theorem dX14_begins_25 : decode cX14_begins 25 = .ok (.getfield 15, 3) := dk_180 0 15 (dk_at dksX14_begins_1 1 rfl rfl)
theorem dX14_begins_28 : decode cX14_begins 28 = .ok (.iload_n 1, 1) := dk_27 (dk_at dksX14_begins_1 4 rfl rfl)
theorem dX14_begins_29 : decode cX14_begins 29 = .ok (.iconst 0, 1) := dk_3 (dk_at dksX14_begins_1 5 rfl rfl)
theorem dX14_begins_30 : decode cX14_begins 30 = .ok (.iastore, 1) := dk_79 (dk_at dksX14_begins_1 6 rfl rfl)
theorem dX14_begins_31 : decode cX14_begins 31 = .ok (.aload_n 0, 1) := dk_42 (dk_at dksX14_begins_1 7 rfl rfl)
theorem dX14_begins_32 : decode cX14_begins 32 = .ok (.getfield 19, 3) := dk_180 0 19 (dk_at dksX14_begins_1 8 rfl rfl)
theorem dX14_begins_35 : decode cX14_begins 35 = .ok (.iconst 0, 1) := dk_3 (dk_at dksX14_begins_1 11 rfl rfl)
theorem dX14_begins_36 : decode cX14_begins 36 = .ok (.iload_n 1, 1) := dk_27 (dk_at dksX14_begins_1 12 rfl rfl)
theorem dX14_begins_37 : decode cX14_begins 37 = .ok (.iastore, 1) := dk_79 (dk_at dksX14_begins_1 13 rfl rfl)
theorem dX14_begins_38 : decode cX14_begins 38 = .ok (.iconst 1, 1) := dk_4 (dk_at dksX14_begins_1 14 rfl rfl)
theorem dX14_begins_39 : decode cX14_begins 39 = .ok (.istore_n 2, 1) := dk_61 (dk_at dksX14_begins_1 15 rfl rfl)
theorem dX14_begins_40 : decode cX14_begins 40 = .ok (.iconst 0, 1) := dk_3 (dk_at dksX14_begins_1 16 rfl rfl)
theorem dX14_begins_41 : decode cX14_begins 41 = .ok (.istore_n 3, 1) := dk_62 (dk_at dksX14_begins_1 17 rfl rfl)
theorem dX14_begins_42 : decode cX14_begins 42 = .ok (.iload_n 3, 1) := dk_29 (dk_at dksX14_begins_1 18 rfl rfl)
theorem dX14_begins_43 : decode cX14_begins 43 = .ok (.iload_n 2, 1) := dk_28 (dk_at dksX14_begins_1 19 rfl rfl)
theorem dX14_begins_44 : decode cX14_begins 44 = .ok (.if_icmp .ge 98, 3) := dk_162 0 98 (dk_at dksX14_begins_1 20 rfl rfl)
theorem dX14_begins_47 : decode cX14_begins 47 = .ok (.iconst 0, 1) := dk_3 (dk_at dksX14_begins_1 23 rfl rfl)
theorem dX14_begins_48 : decode cX14_begins 48 = .ok (.istore 4, 2) := dk_54 4 (dk_at dksX14_begins_2 0 rfl rfl)
theorem dX14_begins_50 : decode cX14_begins 50 = .ok (.iload 4, 2) := dk_21 4 (dk_at dksX14_begins_2 2 rfl rfl)
theorem dX14_begins_52 : decode cX14_begins 52 = .ok (.aload_n 0, 1) := dk_42 (dk_at dksX14_begins_2 4 rfl rfl)
theorem dX14_begins_53 : decode cX14_begins 53 = .ok (.getfield 9, 3) := dk_180 0 9 (dk_at dksX14_begins_2 5 rfl rfl)
theorem dX14_begins_56 : decode cX14_begins 56 = .ok (.if_icmp .ge 80, 3) := dk_162 0 80 (dk_at dksX14_begins_2 8 rfl rfl)
theorem dX14_begins_59 : decode cX14_begins 59 = .ok (.aload_n 0, 1) := dk_42 (dk_at dksX14_begins_2 11 rfl rfl)
theorem dX14_begins_60 : decode cX14_begins 60 = .ok (.aload_n 0, 1) := dk_42 (dk_at dksX14_begins_2 12 rfl rfl)
theorem dX14_begins_61 : decode cX14_begins 61 = .ok (.getfield 19, 3) := dk_180 0 19 (dk_at dksX14_begins_2 13 rfl rfl)
theorem dX14_begins_64 : decode cX14_begins 64 = .ok (.iload_n 3, 1) := dk_29 (dk_at dksX14_begins_2 16 rfl rfl)
theorem dX14_begins_65 : decode cX14_begins 65 = .ok (.iaload, 1) := dk_46 (dk_at dksX14_begins_2 17 rfl rfl)
theorem dX14_begins_66 : decode cX14_begins 66 = .ok (.invokevirtual 25, 3) := dk_182 0 25 (dk_at dksX14_begins_2 18 rfl rfl)
theorem dX14_begins_69 : decode cX14_begins 69 = .ok (.aload_n 0, 1) := dk_42 (dk_at dksX14_begins_2 21 rfl rfl)
theorem dX14_begins_70 : decode cX14_begins 70 = .ok (.iload 4, 2) := dk_21 4 (dk_at dksX14_begins_2 22 rfl rfl)
theorem dX14_begins_72 : decode cX14_begins 72 = .ok (.invokevirtual 29, 3) := dk_182 0 29 (dk_at dksX14_begins_3 0 rfl rfl)
theorem dX14_begins_75 : decode cX14_begins 75 = .ok (.aload_n 0, 1) := dk_42 (dk_at dksX14_begins_3 3 rfl rfl)
theorem dX14_begins_76 : decode cX14_begins 76 = .ok (.aload_n 0, 1) := dk_42 (dk_at dksX14_begins_3 4 rfl rfl)
theorem dX14_begins_77 : decode cX14_begins 77 = .ok (.getfield 22, 3) := dk_180 0 22 (dk_at dksX14_begins_3 5 rfl rfl)
theorem dX14_begins_80 : decode cX14_begins 80 = .ok (.invokevirtual 32, 3) := dk_182 0 32 (dk_at dksX14_begins_3 8 rfl rfl)
theorem dX14_begins_83 : decode cX14_begins 83 = .ok (.istore 5, 2) := dk_54 5 (dk_at dksX14_begins_3 11 rfl rfl)
theorem dX14_begins_85 : decode cX14_begins 85 = .ok (.aload_n 0, 1) := dk_42 (dk_at dksX14_begins_3 13 rfl rfl)
theorem dX14_begins_86 : decode cX14_begins 86 = .ok (.getfield 15, 3) := dk_180 0 15 (dk_at dksX14_begins_3 14 rfl rfl)
theorem dX14_begins_89 : decode cX14_begins 89 = .ok (.iload 5, 2) := dk_21 5 (dk_at dksX14_begins_3 17 rfl rfl)
theorem dX14_begins_91 : decode cX14_begins 91 = .ok (.iaload, 1) := dk_46 (dk_at dksX14_begins_3 19 rfl rfl)
theorem dX14_begins_92 : decode cX14_begins 92 = .ok (.iconst (-1), 1) := dk_2 (dk_at dksX14_begins_3 20 rfl rfl)
theorem dX14_begins_93 : decode cX14_begins 93 = .ok (.if_icmp .eq 6, 3) := dk_159 0 6 (dk_at dksX14_begins_3 21 rfl rfl)
theorem dX14_begins_96 : decode cX14_begins 96 = .ok (.goto 34, 3) := dk_167 0 34 (dk_at dksX14_begins_4 0 rfl rfl)
theorem dX14_begins_99 : decode cX14_begins 99 = .ok (.aload_n 0, 1) := dk_42 (dk_at dksX14_begins_4 3 rfl rfl)
theorem dX14_begins_100 : decode cX14_begins 100 = .ok (.getfield 15, 3) := dk_180 0 15 (dk_at dksX14_begins_4 4 rfl rfl)
theorem dX14_begins_103 : decode cX14_begins 103 = .ok (.iload 5, 2) := dk_21 5 (dk_at dksX14_begins_4 7 rfl rfl)
theorem dX14_begins_105 : decode cX14_begins 105 = .ok (.aload_n 0, 1) := dk_42 (dk_at dksX14_begins_4 9 rfl rfl)
theorem dX14_begins_106 : decode cX14_begins 106 = .ok (.getfield 15, 3) := dk_180 0 15 (dk_at dksX14_begins_4 10 rfl rfl)
theorem dX14_begins_109 : decode cX14_begins 109 = .ok (.aload_n 0, 1) := dk_42 (dk_at dksX14_begins_4 13 rfl rfl)
theorem dX14_begins_110 : decode cX14_begins 110 = .ok (.getfield 19, 3) := dk_180 0 19 (dk_at dksX14_begins_4 14 rfl rfl)
theorem dX14_begins_113 : decode cX14_begins 113 = .ok (.iload_n 3, 1) := dk_29 (dk_at dksX14_begins_4 17 rfl rfl)
theorem dX14_begins_114 : decode cX14_begins 114 = .ok (.iaload, 1) := dk_46 (dk_at dksX14_begins_4 18 rfl rfl)
theorem dX14_begins_115 : decode cX14_begins 115 = .ok (.iaload, 1) := dk_46 (dk_at dksX14_begins_4 19 rfl rfl)
theorem dX14_begins_116 : decode cX14_begins 116 = .ok (.iconst 1, 1) := dk_4 (dk_at dksX14_begins_4 20 rfl rfl)
theorem dX14_begins_117 : decode cX14_begins 117 = .ok (.iadd, 1) := dk_96 (dk_at dksX14_begins_4 21 rfl rfl)
theorem dX14_begins_118 : decode cX14_begins 118 = .ok (.iastore, 1) := dk_79 (dk_at dksX14_begins_4 22 rfl rfl)
theorem dX14_begins_119 : decode cX14_begins 119 = .ok (.aload_n 0, 1) := dk_42 (dk_at dksX14_begins_4 23 rfl rfl)
theorem dX14_begins_120 : decode cX14_begins 120 = .ok (.getfield 19, 3) := dk_180 0 19 (dk_at dksX14_begins_5 0 rfl rfl)
theorem dX14_begins_123 : decode cX14_begins 123 = .ok (.iload_n 2, 1) := dk_28 (dk_at dksX14_begins_5 3 rfl rfl)
theorem dX14_begins_124 : decode cX14_begins 124 = .ok (.iinc 2 1, 3) := dk_132 2 1 (dk_at dksX14_begins_5 4 rfl rfl)
theorem dX14_begins_127 : decode cX14_begins 127 = .ok (.iload 5, 2) := dk_21 5 (dk_at dksX14_begins_5 7 rfl rfl)
theorem dX14_begins_129 : decode cX14_begins 129 = .ok (.iastore, 1) := dk_79 (dk_at dksX14_begins_5 9 rfl rfl)
theorem dX14_begins_130 : decode cX14_begins 130 = .ok (.iinc 4 1, 3) := dk_132 4 1 (dk_at dksX14_begins_5 10 rfl rfl)
theorem dX14_begins_133 : decode cX14_begins 133 = .ok (.goto (-83), 3) := dk_167 255 173 (dk_at dksX14_begins_5 13 rfl rfl)
theorem dX14_begins_136 : decode cX14_begins 136 = .ok (.iinc 3 1, 3) := dk_132 3 1 (dk_at dksX14_begins_5 16 rfl rfl)
theorem dX14_begins_139 : decode cX14_begins 139 = .ok (.goto (-97), 3) := dk_167 255 159 (dk_at dksX14_begins_5 19 rfl rfl)
theorem dX14_begins_142 : decode cX14_begins 142 = .ok (.return_, 1) := dk_177 (dk_at dksX14_begins_5 22 rfl rfl)
abbrev cX14_puts : ByteArray := prog_10_method_3_code
def yX14_puts : MethodName := ⟨RX14, "puts", "(I)V"⟩
def dkwX14_puts_3 : List UInt8 := [21, 4, 92, 46, 4, 96, 79, 132, 4, 1, 167, 255, 217, 132, 3, 255, 167, 255, 179, 177]
abbrev dktX14_puts_3 : List UInt8 := dkwX14_puts_3 ++ []
def dkwX14_puts_2 : List UInt8 := [162, 0, 36, 42, 180, 0, 22, 21, 4, 46, 42, 180, 0, 22, 29, 46, 161, 0, 14, 42, 180, 0, 22]
abbrev dktX14_puts_2 : List UInt8 := dkwX14_puts_2 ++ dktX14_puts_3
def dkwX14_puts_1 : List UInt8 := [100, 112, 79, 28, 42, 180, 0, 9, 29, 100, 108, 61, 29, 4, 96, 54, 4, 21, 4, 42, 180, 0, 9]
abbrev dktX14_puts_1 : List UInt8 := dkwX14_puts_1 ++ dktX14_puts_2
def dkwX14_puts_0 : List UInt8 := [27, 61, 42, 180, 0, 9, 4, 100, 62, 29, 155, 0, 79, 42, 180, 0, 22, 29, 28, 42, 180, 0, 9, 29]
abbrev dktX14_puts_0 : List UInt8 := dkwX14_puts_0 ++ dktX14_puts_1
theorem dksX14_puts_0 : cX14_puts.data.toList.drop 0 = dktX14_puts_0 := by decide +kernel
theorem dksX14_puts_1 : cX14_puts.data.toList.drop 24 = dktX14_puts_1 := dk_seg dksX14_puts_0 24 rfl rfl
theorem dksX14_puts_2 : cX14_puts.data.toList.drop 47 = dktX14_puts_2 := dk_seg dksX14_puts_1 23 rfl rfl
theorem dksX14_puts_3 : cX14_puts.data.toList.drop 70 = dktX14_puts_3 := dk_seg dksX14_puts_2 23 rfl rfl
theorem dX14_puts_0 : decode cX14_puts 0 = .ok (.iload_n 1, 1) := dk_27 (dk_at dksX14_puts_0 0 rfl rfl)
theorem dX14_puts_1 : decode cX14_puts 1 = .ok (.istore_n 2, 1) := dk_61 (dk_at dksX14_puts_0 1 rfl rfl)
theorem dX14_puts_2 : decode cX14_puts 2 = .ok (.aload_n 0, 1) := dk_42 (dk_at dksX14_puts_0 2 rfl rfl)
theorem dX14_puts_3 : decode cX14_puts 3 = .ok (.getfield 9, 3) := dk_180 0 9 (dk_at dksX14_puts_0 3 rfl rfl)
theorem dX14_puts_6 : decode cX14_puts 6 = .ok (.iconst 1, 1) := dk_4 (dk_at dksX14_puts_0 6 rfl rfl)
theorem dX14_puts_7 : decode cX14_puts 7 = .ok (.isub, 1) := dk_100 (dk_at dksX14_puts_0 7 rfl rfl)
theorem dX14_puts_8 : decode cX14_puts 8 = .ok (.istore_n 3, 1) := dk_62 (dk_at dksX14_puts_0 8 rfl rfl)
theorem dX14_puts_9 : decode cX14_puts 9 = .ok (.iload_n 3, 1) := dk_29 (dk_at dksX14_puts_0 9 rfl rfl)
theorem dX14_puts_10 : decode cX14_puts 10 = .ok (.ifCond .lt 79, 3) := dk_155 0 79 (dk_at dksX14_puts_0 10 rfl rfl)
theorem dX14_puts_13 : decode cX14_puts 13 = .ok (.aload_n 0, 1) := dk_42 (dk_at dksX14_puts_0 13 rfl rfl)
theorem dX14_puts_14 : decode cX14_puts 14 = .ok (.getfield 22, 3) := dk_180 0 22 (dk_at dksX14_puts_0 14 rfl rfl)
theorem dX14_puts_17 : decode cX14_puts 17 = .ok (.iload_n 3, 1) := dk_29 (dk_at dksX14_puts_0 17 rfl rfl)
theorem dX14_puts_18 : decode cX14_puts 18 = .ok (.iload_n 2, 1) := dk_28 (dk_at dksX14_puts_0 18 rfl rfl)
theorem dX14_puts_19 : decode cX14_puts 19 = .ok (.aload_n 0, 1) := dk_42 (dk_at dksX14_puts_0 19 rfl rfl)
theorem dX14_puts_20 : decode cX14_puts 20 = .ok (.getfield 9, 3) := dk_180 0 9 (dk_at dksX14_puts_0 20 rfl rfl)
theorem dX14_puts_23 : decode cX14_puts 23 = .ok (.iload_n 3, 1) := dk_29 (dk_at dksX14_puts_0 23 rfl rfl)
theorem dX14_puts_24 : decode cX14_puts 24 = .ok (.isub, 1) := dk_100 (dk_at dksX14_puts_1 0 rfl rfl)
theorem dX14_puts_25 : decode cX14_puts 25 = .ok (.irem, 1) := dk_112 (dk_at dksX14_puts_1 1 rfl rfl)
theorem dX14_puts_26 : decode cX14_puts 26 = .ok (.iastore, 1) := dk_79 (dk_at dksX14_puts_1 2 rfl rfl)
theorem dX14_puts_27 : decode cX14_puts 27 = .ok (.iload_n 2, 1) := dk_28 (dk_at dksX14_puts_1 3 rfl rfl)
theorem dX14_puts_28 : decode cX14_puts 28 = .ok (.aload_n 0, 1) := dk_42 (dk_at dksX14_puts_1 4 rfl rfl)
theorem dX14_puts_29 : decode cX14_puts 29 = .ok (.getfield 9, 3) := dk_180 0 9 (dk_at dksX14_puts_1 5 rfl rfl)
theorem dX14_puts_32 : decode cX14_puts 32 = .ok (.iload_n 3, 1) := dk_29 (dk_at dksX14_puts_1 8 rfl rfl)
theorem dX14_puts_33 : decode cX14_puts 33 = .ok (.isub, 1) := dk_100 (dk_at dksX14_puts_1 9 rfl rfl)
theorem dX14_puts_34 : decode cX14_puts 34 = .ok (.idiv, 1) := dk_108 (dk_at dksX14_puts_1 10 rfl rfl)
theorem dX14_puts_35 : decode cX14_puts 35 = .ok (.istore_n 2, 1) := dk_61 (dk_at dksX14_puts_1 11 rfl rfl)
theorem dX14_puts_36 : decode cX14_puts 36 = .ok (.iload_n 3, 1) := dk_29 (dk_at dksX14_puts_1 12 rfl rfl)
theorem dX14_puts_37 : decode cX14_puts 37 = .ok (.iconst 1, 1) := dk_4 (dk_at dksX14_puts_1 13 rfl rfl)
theorem dX14_puts_38 : decode cX14_puts 38 = .ok (.iadd, 1) := dk_96 (dk_at dksX14_puts_1 14 rfl rfl)
theorem dX14_puts_39 : decode cX14_puts 39 = .ok (.istore 4, 2) := dk_54 4 (dk_at dksX14_puts_1 15 rfl rfl)
theorem dX14_puts_41 : decode cX14_puts 41 = .ok (.iload 4, 2) := dk_21 4 (dk_at dksX14_puts_1 17 rfl rfl)
theorem dX14_puts_43 : decode cX14_puts 43 = .ok (.aload_n 0, 1) := dk_42 (dk_at dksX14_puts_1 19 rfl rfl)
theorem dX14_puts_44 : decode cX14_puts 44 = .ok (.getfield 9, 3) := dk_180 0 9 (dk_at dksX14_puts_1 20 rfl rfl)
theorem dX14_puts_47 : decode cX14_puts 47 = .ok (.if_icmp .ge 36, 3) := dk_162 0 36 (dk_at dksX14_puts_2 0 rfl rfl)
theorem dX14_puts_50 : decode cX14_puts 50 = .ok (.aload_n 0, 1) := dk_42 (dk_at dksX14_puts_2 3 rfl rfl)
theorem dX14_puts_51 : decode cX14_puts 51 = .ok (.getfield 22, 3) := dk_180 0 22 (dk_at dksX14_puts_2 4 rfl rfl)
theorem dX14_puts_54 : decode cX14_puts 54 = .ok (.iload 4, 2) := dk_21 4 (dk_at dksX14_puts_2 7 rfl rfl)
theorem dX14_puts_56 : decode cX14_puts 56 = .ok (.iaload, 1) := dk_46 (dk_at dksX14_puts_2 9 rfl rfl)
theorem dX14_puts_57 : decode cX14_puts 57 = .ok (.aload_n 0, 1) := dk_42 (dk_at dksX14_puts_2 10 rfl rfl)
theorem dX14_puts_58 : decode cX14_puts 58 = .ok (.getfield 22, 3) := dk_180 0 22 (dk_at dksX14_puts_2 11 rfl rfl)
theorem dX14_puts_61 : decode cX14_puts 61 = .ok (.iload_n 3, 1) := dk_29 (dk_at dksX14_puts_2 14 rfl rfl)
theorem dX14_puts_62 : decode cX14_puts 62 = .ok (.iaload, 1) := dk_46 (dk_at dksX14_puts_2 15 rfl rfl)
theorem dX14_puts_63 : decode cX14_puts 63 = .ok (.if_icmp .lt 14, 3) := dk_161 0 14 (dk_at dksX14_puts_2 16 rfl rfl)
theorem dX14_puts_66 : decode cX14_puts 66 = .ok (.aload_n 0, 1) := dk_42 (dk_at dksX14_puts_2 19 rfl rfl)
theorem dX14_puts_67 : decode cX14_puts 67 = .ok (.getfield 22, 3) := dk_180 0 22 (dk_at dksX14_puts_2 20 rfl rfl)
theorem dX14_puts_70 : decode cX14_puts 70 = .ok (.iload 4, 2) := dk_21 4 (dk_at dksX14_puts_3 0 rfl rfl)
theorem dX14_puts_72 : decode cX14_puts 72 = .ok (.dup2, 1) := dk_92 (dk_at dksX14_puts_3 2 rfl rfl)
theorem dX14_puts_73 : decode cX14_puts 73 = .ok (.iaload, 1) := dk_46 (dk_at dksX14_puts_3 3 rfl rfl)
theorem dX14_puts_74 : decode cX14_puts 74 = .ok (.iconst 1, 1) := dk_4 (dk_at dksX14_puts_3 4 rfl rfl)
theorem dX14_puts_75 : decode cX14_puts 75 = .ok (.iadd, 1) := dk_96 (dk_at dksX14_puts_3 5 rfl rfl)
theorem dX14_puts_76 : decode cX14_puts 76 = .ok (.iastore, 1) := dk_79 (dk_at dksX14_puts_3 6 rfl rfl)
theorem dX14_puts_77 : decode cX14_puts 77 = .ok (.iinc 4 1, 3) := dk_132 4 1 (dk_at dksX14_puts_3 7 rfl rfl)
theorem dX14_puts_80 : decode cX14_puts 80 = .ok (.goto (-39), 3) := dk_167 255 217 (dk_at dksX14_puts_3 10 rfl rfl)
theorem dX14_puts_83 : decode cX14_puts 83 = .ok (.iinc 3 (-1), 3) := dk_132 3 255 (dk_at dksX14_puts_3 13 rfl rfl)
theorem dX14_puts_86 : decode cX14_puts 86 = .ok (.goto (-77), 3) := dk_167 255 179 (dk_at dksX14_puts_3 16 rfl rfl)
theorem dX14_puts_89 : decode cX14_puts 89 = .ok (.return_, 1) := dk_177 (dk_at dksX14_puts_3 19 rfl rfl)
abbrev cX14_swaps : ByteArray := prog_10_method_4_code
def yX14_swaps : MethodName := ⟨RX14, "swaps", "(I)V"⟩
def dkwX14_swaps_1 : List UInt8 := [180, 0, 22, 28, 46, 79, 42, 180, 0, 22, 28, 29, 79, 177]
abbrev dktX14_swaps_1 : List UInt8 := dkwX14_swaps_1 ++ []
def dkwX14_swaps_0 : List UInt8 := [27, 4, 96, 42, 180, 0, 9, 112, 61, 42, 180, 0, 22, 27, 46, 62, 42, 180, 0, 22, 27, 42]
abbrev dktX14_swaps_0 : List UInt8 := dkwX14_swaps_0 ++ dktX14_swaps_1
theorem dksX14_swaps_0 : cX14_swaps.data.toList.drop 0 = dktX14_swaps_0 := by decide +kernel
theorem dksX14_swaps_1 : cX14_swaps.data.toList.drop 22 = dktX14_swaps_1 := dk_seg dksX14_swaps_0 22 rfl rfl
theorem dX14_swaps_0 : decode cX14_swaps 0 = .ok (.iload_n 1, 1) := dk_27 (dk_at dksX14_swaps_0 0 rfl rfl)
theorem dX14_swaps_1 : decode cX14_swaps 1 = .ok (.iconst 1, 1) := dk_4 (dk_at dksX14_swaps_0 1 rfl rfl)
theorem dX14_swaps_2 : decode cX14_swaps 2 = .ok (.iadd, 1) := dk_96 (dk_at dksX14_swaps_0 2 rfl rfl)
theorem dX14_swaps_3 : decode cX14_swaps 3 = .ok (.aload_n 0, 1) := dk_42 (dk_at dksX14_swaps_0 3 rfl rfl)
theorem dX14_swaps_4 : decode cX14_swaps 4 = .ok (.getfield 9, 3) := dk_180 0 9 (dk_at dksX14_swaps_0 4 rfl rfl)
theorem dX14_swaps_7 : decode cX14_swaps 7 = .ok (.irem, 1) := dk_112 (dk_at dksX14_swaps_0 7 rfl rfl)
theorem dX14_swaps_8 : decode cX14_swaps 8 = .ok (.istore_n 2, 1) := dk_61 (dk_at dksX14_swaps_0 8 rfl rfl)
theorem dX14_swaps_9 : decode cX14_swaps 9 = .ok (.aload_n 0, 1) := dk_42 (dk_at dksX14_swaps_0 9 rfl rfl)
theorem dX14_swaps_10 : decode cX14_swaps 10 = .ok (.getfield 22, 3) := dk_180 0 22 (dk_at dksX14_swaps_0 10 rfl rfl)
theorem dX14_swaps_13 : decode cX14_swaps 13 = .ok (.iload_n 1, 1) := dk_27 (dk_at dksX14_swaps_0 13 rfl rfl)
theorem dX14_swaps_14 : decode cX14_swaps 14 = .ok (.iaload, 1) := dk_46 (dk_at dksX14_swaps_0 14 rfl rfl)
theorem dX14_swaps_15 : decode cX14_swaps 15 = .ok (.istore_n 3, 1) := dk_62 (dk_at dksX14_swaps_0 15 rfl rfl)
theorem dX14_swaps_16 : decode cX14_swaps 16 = .ok (.aload_n 0, 1) := dk_42 (dk_at dksX14_swaps_0 16 rfl rfl)
theorem dX14_swaps_17 : decode cX14_swaps 17 = .ok (.getfield 22, 3) := dk_180 0 22 (dk_at dksX14_swaps_0 17 rfl rfl)
theorem dX14_swaps_20 : decode cX14_swaps 20 = .ok (.iload_n 1, 1) := dk_27 (dk_at dksX14_swaps_0 20 rfl rfl)
theorem dX14_swaps_21 : decode cX14_swaps 21 = .ok (.aload_n 0, 1) := dk_42 (dk_at dksX14_swaps_0 21 rfl rfl)
theorem dX14_swaps_22 : decode cX14_swaps 22 = .ok (.getfield 22, 3) := dk_180 0 22 (dk_at dksX14_swaps_1 0 rfl rfl)
theorem dX14_swaps_25 : decode cX14_swaps 25 = .ok (.iload_n 2, 1) := dk_28 (dk_at dksX14_swaps_1 3 rfl rfl)
theorem dX14_swaps_26 : decode cX14_swaps 26 = .ok (.iaload, 1) := dk_46 (dk_at dksX14_swaps_1 4 rfl rfl)
theorem dX14_swaps_27 : decode cX14_swaps 27 = .ok (.iastore, 1) := dk_79 (dk_at dksX14_swaps_1 5 rfl rfl)
theorem dX14_swaps_28 : decode cX14_swaps 28 = .ok (.aload_n 0, 1) := dk_42 (dk_at dksX14_swaps_1 6 rfl rfl)
theorem dX14_swaps_29 : decode cX14_swaps 29 = .ok (.getfield 22, 3) := dk_180 0 22 (dk_at dksX14_swaps_1 7 rfl rfl)
theorem dX14_swaps_32 : decode cX14_swaps 32 = .ok (.iload_n 2, 1) := dk_28 (dk_at dksX14_swaps_1 10 rfl rfl)
theorem dX14_swaps_33 : decode cX14_swaps 33 = .ok (.iload_n 3, 1) := dk_29 (dk_at dksX14_swaps_1 11 rfl rfl)
theorem dX14_swaps_34 : decode cX14_swaps 34 = .ok (.iastore, 1) := dk_79 (dk_at dksX14_swaps_1 12 rfl rfl)
theorem dX14_swaps_35 : decode cX14_swaps 35 = .ok (.return_, 1) := dk_177 (dk_at dksX14_swaps_1 13 rfl rfl)
abbrev cX14_nearer : ByteArray := prog_10_method_6_code
def yX14_nearer : MethodName := ⟨RX14, "nearer", "(I)I"⟩
def dkwX14_nearer_2 : List UInt8 := [167, 255, 211, 2, 172]
abbrev dktX14_nearer_2 : List UInt8 := dkwX14_nearer_2 ++ []
def dkwX14_nearer_1 : List UInt8 := [42, 42, 180, 0, 22, 182, 0, 32, 46, 42, 180, 0, 15, 27, 46, 162, 0, 5, 28, 172, 132, 2, 1]
abbrev dktX14_nearer_1 : List UInt8 := dkwX14_nearer_1 ++ dktX14_nearer_2
def dkwX14_nearer_0 : List UInt8 := [3, 61, 28, 42, 180, 0, 9, 162, 0, 43, 42, 27, 182, 0, 25, 42, 28, 182, 0, 29, 42, 180, 0, 15]
abbrev dktX14_nearer_0 : List UInt8 := dkwX14_nearer_0 ++ dktX14_nearer_1
theorem dksX14_nearer_0 : cX14_nearer.data.toList.drop 0 = dktX14_nearer_0 := by decide +kernel
theorem dksX14_nearer_1 : cX14_nearer.data.toList.drop 24 = dktX14_nearer_1 := dk_seg dksX14_nearer_0 24 rfl rfl
theorem dksX14_nearer_2 : cX14_nearer.data.toList.drop 47 = dktX14_nearer_2 := dk_seg dksX14_nearer_1 23 rfl rfl
theorem dX14_nearer_0 : decode cX14_nearer 0 = .ok (.iconst 0, 1) := dk_3 (dk_at dksX14_nearer_0 0 rfl rfl)
theorem dX14_nearer_1 : decode cX14_nearer 1 = .ok (.istore_n 2, 1) := dk_61 (dk_at dksX14_nearer_0 1 rfl rfl)
theorem dX14_nearer_2 : decode cX14_nearer 2 = .ok (.iload_n 2, 1) := dk_28 (dk_at dksX14_nearer_0 2 rfl rfl)
theorem dX14_nearer_3 : decode cX14_nearer 3 = .ok (.aload_n 0, 1) := dk_42 (dk_at dksX14_nearer_0 3 rfl rfl)
theorem dX14_nearer_4 : decode cX14_nearer 4 = .ok (.getfield 9, 3) := dk_180 0 9 (dk_at dksX14_nearer_0 4 rfl rfl)
theorem dX14_nearer_7 : decode cX14_nearer 7 = .ok (.if_icmp .ge 43, 3) := dk_162 0 43 (dk_at dksX14_nearer_0 7 rfl rfl)
theorem dX14_nearer_10 : decode cX14_nearer 10 = .ok (.aload_n 0, 1) := dk_42 (dk_at dksX14_nearer_0 10 rfl rfl)
theorem dX14_nearer_11 : decode cX14_nearer 11 = .ok (.iload_n 1, 1) := dk_27 (dk_at dksX14_nearer_0 11 rfl rfl)
theorem dX14_nearer_12 : decode cX14_nearer 12 = .ok (.invokevirtual 25, 3) := dk_182 0 25 (dk_at dksX14_nearer_0 12 rfl rfl)
theorem dX14_nearer_15 : decode cX14_nearer 15 = .ok (.aload_n 0, 1) := dk_42 (dk_at dksX14_nearer_0 15 rfl rfl)
theorem dX14_nearer_16 : decode cX14_nearer 16 = .ok (.iload_n 2, 1) := dk_28 (dk_at dksX14_nearer_0 16 rfl rfl)
theorem dX14_nearer_17 : decode cX14_nearer 17 = .ok (.invokevirtual 29, 3) := dk_182 0 29 (dk_at dksX14_nearer_0 17 rfl rfl)
theorem dX14_nearer_20 : decode cX14_nearer 20 = .ok (.aload_n 0, 1) := dk_42 (dk_at dksX14_nearer_0 20 rfl rfl)
theorem dX14_nearer_21 : decode cX14_nearer 21 = .ok (.getfield 15, 3) := dk_180 0 15 (dk_at dksX14_nearer_0 21 rfl rfl)
theorem dX14_nearer_24 : decode cX14_nearer 24 = .ok (.aload_n 0, 1) := dk_42 (dk_at dksX14_nearer_1 0 rfl rfl)
theorem dX14_nearer_25 : decode cX14_nearer 25 = .ok (.aload_n 0, 1) := dk_42 (dk_at dksX14_nearer_1 1 rfl rfl)
theorem dX14_nearer_26 : decode cX14_nearer 26 = .ok (.getfield 22, 3) := dk_180 0 22 (dk_at dksX14_nearer_1 2 rfl rfl)
theorem dX14_nearer_29 : decode cX14_nearer 29 = .ok (.invokevirtual 32, 3) := dk_182 0 32 (dk_at dksX14_nearer_1 5 rfl rfl)
theorem dX14_nearer_32 : decode cX14_nearer 32 = .ok (.iaload, 1) := dk_46 (dk_at dksX14_nearer_1 8 rfl rfl)
theorem dX14_nearer_33 : decode cX14_nearer 33 = .ok (.aload_n 0, 1) := dk_42 (dk_at dksX14_nearer_1 9 rfl rfl)
theorem dX14_nearer_34 : decode cX14_nearer 34 = .ok (.getfield 15, 3) := dk_180 0 15 (dk_at dksX14_nearer_1 10 rfl rfl)
theorem dX14_nearer_37 : decode cX14_nearer 37 = .ok (.iload_n 1, 1) := dk_27 (dk_at dksX14_nearer_1 13 rfl rfl)
theorem dX14_nearer_38 : decode cX14_nearer 38 = .ok (.iaload, 1) := dk_46 (dk_at dksX14_nearer_1 14 rfl rfl)
theorem dX14_nearer_39 : decode cX14_nearer 39 = .ok (.if_icmp .ge 5, 3) := dk_162 0 5 (dk_at dksX14_nearer_1 15 rfl rfl)
theorem dX14_nearer_42 : decode cX14_nearer 42 = .ok (.iload_n 2, 1) := dk_28 (dk_at dksX14_nearer_1 18 rfl rfl)
theorem dX14_nearer_43 : decode cX14_nearer 43 = .ok (.ireturn, 1) := dk_172 (dk_at dksX14_nearer_1 19 rfl rfl)
theorem dX14_nearer_44 : decode cX14_nearer 44 = .ok (.iinc 2 1, 3) := dk_132 2 1 (dk_at dksX14_nearer_1 20 rfl rfl)
theorem dX14_nearer_47 : decode cX14_nearer 47 = .ok (.goto (-45), 3) := dk_167 255 211 (dk_at dksX14_nearer_2 0 rfl rfl)
theorem dX14_nearer_50 : decode cX14_nearer 50 = .ok (.iconst (-1), 1) := dk_2 (dk_at dksX14_nearer_2 3 rfl rfl)
theorem dX14_nearer_51 : decode cX14_nearer 51 = .ok (.ireturn, 1) := dk_172 (dk_at dksX14_nearer_2 4 rfl rfl)
theorem q101 : (Jvm.Cond.initialized "MaypoleGreen$Orders") ∈ lw_all := lw_g (lw_at lw_m1 23 rfl) rfl
theorem q829 : (Jvm.Cond.instantiable "MaypoleGreen$Orders" (4 : Nat)) ∈ lw_all := lw_g (lw_at lw_m4 31 rfl) rfl
theorem q831 : (Jvm.Cond.instanceMethod ({ cls := "MaypoleGreen$Orders", name := "<init>", desc := "(I)V" } : Jvm.MethodName)) ∈ lw_all := lw_g (lw_at lw_m4 33 rfl) rfl
theorem q832 : (Jvm.Cond.code ({ cls := "MaypoleGreen$Orders", name := "<init>", desc := "(I)V" } : Jvm.MethodName) prog_10_method_1_code (4 : Nat) (Option.none : Option Jvm.ClassFile.FieldType)) ∈ lw_all := lw_g (lw_at lw_m4 34 rfl) rfl
theorem q833 : (Jvm.Cond.methodLink "MaypoleGreen$Orders" (3 : Nat) ({ cls := "java/lang/Object", name := "<init>", desc := "()V" } : Jvm.MethodName)) ∈ lw_all := lw_g (lw_at lw_m4 35 rfl) rfl
theorem q834 : (Jvm.Cond.fieldLink "MaypoleGreen$Orders" (9 : Nat) "MaypoleGreen$Orders" "n" "I") ∈ lw_all := lw_g (lw_at lw_m4 36 rfl) rfl
theorem q836 : (Jvm.Cond.fieldLink "MaypoleGreen$Orders" (15 : Nat) "MaypoleGreen$Orders" "far" "[I") ∈ lw_all := lw_g (lw_at lw_m4 38 rfl) rfl
theorem q838 : (Jvm.Cond.fieldLink "MaypoleGreen$Orders" (19 : Nat) "MaypoleGreen$Orders" "line" "[I") ∈ lw_all := lw_g (lw_at lw_m4 40 rfl) rfl
theorem q839 : (Jvm.Cond.fieldLink "MaypoleGreen$Orders" (22 : Nat) "MaypoleGreen$Orders" "at" "[I") ∈ lw_all := lw_g (lw_at lw_m4 41 rfl) rfl
theorem q841 : (Jvm.Cond.laysFinal "MaypoleGreen$Orders" "MaypoleGreen$Orders" "n" "I") ∈ lw_all := lw_g (lw_at lw_m4 43 rfl) rfl
theorem q842 : (Jvm.Cond.soleField "MaypoleGreen$Orders" "n") ∈ lw_all := lw_g (lw_at lw_m4 44 rfl) rfl
theorem q843 : (Jvm.Cond.laysFinal "MaypoleGreen$Orders" "MaypoleGreen$Orders" "far" "[I") ∈ lw_all := lw_g (lw_at lw_m4 45 rfl) rfl
theorem q844 : (Jvm.Cond.soleField "MaypoleGreen$Orders" "far") ∈ lw_all := lw_g (lw_at lw_m4 46 rfl) rfl
theorem q845 : (Jvm.Cond.laysFinal "MaypoleGreen$Orders" "MaypoleGreen$Orders" "line" "[I") ∈ lw_all := lw_g (lw_at lw_m4 47 rfl) rfl
theorem q846 : (Jvm.Cond.soleField "MaypoleGreen$Orders" "line") ∈ lw_all := lw_g (lw_at lw_m4 48 rfl) rfl
theorem q847 : (Jvm.Cond.laysFinal "MaypoleGreen$Orders" "MaypoleGreen$Orders" "at" "[I") ∈ lw_all := lw_g (lw_at lw_m4 49 rfl) rfl
theorem q848 : (Jvm.Cond.soleField "MaypoleGreen$Orders" "at") ∈ lw_all := lw_g (lw_at lw_m4 50 rfl) rfl
theorem q849 : (Jvm.Cond.superclass "MaypoleGreen$Orders" "java/lang/Object") ∈ lw_all := lw_g (lw_at lw_m4 51 rfl) rfl
theorem q851 : (Jvm.Cond.instanceMethod ({ cls := "MaypoleGreen$Orders", name := "rank", desc := "([I)I" } : Jvm.MethodName)) ∈ lw_all := lw_g (lw_at lw_m4 53 rfl) rfl
theorem q852 : (Jvm.Cond.selects "MaypoleGreen$Orders" ({ cls := "MaypoleGreen$Orders", name := "rank", desc := "([I)I" } : Jvm.MethodName) ({ cls := "MaypoleGreen$Orders", name := "rank", desc := "([I)I" } : Jvm.MethodName)) ∈ lw_all := lw_g (lw_at lw_m4 54 rfl) rfl
theorem q853 : (Jvm.Cond.code ({ cls := "MaypoleGreen$Orders", name := "rank", desc := "([I)I" } : Jvm.MethodName) prog_10_method_2_code (6 : Nat) (Option.some Jvm.ClassFile.FieldType.int)) ∈ lw_all := lw_g (lw_at lw_m4 55 rfl) rfl
theorem q855 : (Jvm.Cond.instanceMethod ({ cls := "MaypoleGreen$Orders", name := "begins", desc := "(I)V" } : Jvm.MethodName)) ∈ lw_all := lw_g (lw_at lw_m4 57 rfl) rfl
theorem q856 : (Jvm.Cond.selects "MaypoleGreen$Orders" ({ cls := "MaypoleGreen$Orders", name := "begins", desc := "(I)V" } : Jvm.MethodName) ({ cls := "MaypoleGreen$Orders", name := "begins", desc := "(I)V" } : Jvm.MethodName)) ∈ lw_all := lw_g (lw_at lw_m4 58 rfl) rfl
theorem q857 : (Jvm.Cond.code ({ cls := "MaypoleGreen$Orders", name := "begins", desc := "(I)V" } : Jvm.MethodName) prog_10_method_5_code (6 : Nat) (Option.none : Option Jvm.ClassFile.FieldType)) ∈ lw_all := lw_g (lw_at lw_m4 59 rfl) rfl
theorem q858 : (Jvm.Cond.methodLink "MaypoleGreen$Orders" (25 : Nat) ({ cls := "MaypoleGreen$Orders", name := "puts", desc := "(I)V" } : Jvm.MethodName)) ∈ lw_all := lw_g (lw_at lw_m4 60 rfl) rfl
theorem q859 : (Jvm.Cond.privateMethod ({ cls := "MaypoleGreen$Orders", name := "puts", desc := "(I)V" } : Jvm.MethodName)) ∈ lw_tbl := lw_at lw_m4 61 rfl
theorem q860 : (Jvm.Cond.instanceMethod ({ cls := "MaypoleGreen$Orders", name := "puts", desc := "(I)V" } : Jvm.MethodName)) ∈ lw_all := lw_g (lw_at lw_m4 62 rfl) rfl
theorem q861 : (Jvm.Cond.code ({ cls := "MaypoleGreen$Orders", name := "puts", desc := "(I)V" } : Jvm.MethodName) prog_10_method_3_code (5 : Nat) (Option.none : Option Jvm.ClassFile.FieldType)) ∈ lw_all := lw_g (lw_at lw_m4 63 rfl) rfl
theorem q862 : (Jvm.Cond.methodLink "MaypoleGreen$Orders" (29 : Nat) ({ cls := "MaypoleGreen$Orders", name := "swaps", desc := "(I)V" } : Jvm.MethodName)) ∈ lw_all := lw_g (lw_at lw_m4 64 rfl) rfl
theorem q863 : (Jvm.Cond.privateMethod ({ cls := "MaypoleGreen$Orders", name := "swaps", desc := "(I)V" } : Jvm.MethodName)) ∈ lw_tbl := lw_at lw_m4 65 rfl
theorem q864 : (Jvm.Cond.instanceMethod ({ cls := "MaypoleGreen$Orders", name := "swaps", desc := "(I)V" } : Jvm.MethodName)) ∈ lw_all := lw_g (lw_at lw_m4 66 rfl) rfl
theorem q865 : (Jvm.Cond.code ({ cls := "MaypoleGreen$Orders", name := "swaps", desc := "(I)V" } : Jvm.MethodName) prog_10_method_4_code (4 : Nat) (Option.none : Option Jvm.ClassFile.FieldType)) ∈ lw_all := lw_g (lw_at lw_m4 67 rfl) rfl
theorem q866 : (Jvm.Cond.methodLink "MaypoleGreen$Orders" (32 : Nat) ({ cls := "MaypoleGreen$Orders", name := "rank", desc := "([I)I" } : Jvm.MethodName)) ∈ lw_all := lw_g (lw_at lw_m4 68 rfl) rfl
theorem q868 : (Jvm.Cond.instanceMethod ({ cls := "MaypoleGreen$Orders", name := "nearer", desc := "(I)I" } : Jvm.MethodName)) ∈ lw_all := lw_g (lw_at lw_m4 70 rfl) rfl
theorem q869 : (Jvm.Cond.selects "MaypoleGreen$Orders" ({ cls := "MaypoleGreen$Orders", name := "nearer", desc := "(I)I" } : Jvm.MethodName) ({ cls := "MaypoleGreen$Orders", name := "nearer", desc := "(I)I" } : Jvm.MethodName)) ∈ lw_all := lw_g (lw_at lw_m4 71 rfl) rfl
theorem q870 : (Jvm.Cond.code ({ cls := "MaypoleGreen$Orders", name := "nearer", desc := "(I)I" } : Jvm.MethodName) prog_10_method_6_code (3 : Nat) (Option.some Jvm.ClassFile.FieldType.int)) ∈ lw_all := lw_g (lw_at lw_m4 72 rfl) rfl
theorem in_X14 : ∀ w ∈ wsX140, w ∈ lw_all := lw_in wsX140 [841, 843, 845, 847] (by decide +kernel) (by decide +kernel)

/-! java/lang/Math -/
set_option maxRecDepth 100000
def RJ0 : String := "java/lang/Math"
abbrev cJ0_floorMod : ByteArray := prog_24_method_50_code
def yJ0_floorMod : MethodName := ⟨RJ0, "floorMod", "(II)I"⟩
def dkwJ0_floorMod_0 : List UInt8 := [26, 27, 112, 61, 26, 27, 130, 156, 0, 11, 28, 153, 0, 7, 28, 27, 96, 172, 28, 172]
abbrev dktJ0_floorMod_0 : List UInt8 := dkwJ0_floorMod_0 ++ []
theorem dksJ0_floorMod_0 : cJ0_floorMod.data.toList.drop 0 = dktJ0_floorMod_0 := by decide +kernel
theorem dJ0_floorMod_0 : decode cJ0_floorMod 0 = .ok (.iload_n 0, 1) := dk_26 (dk_at dksJ0_floorMod_0 0 rfl rfl)
theorem dJ0_floorMod_1 : decode cJ0_floorMod 1 = .ok (.iload_n 1, 1) := dk_27 (dk_at dksJ0_floorMod_0 1 rfl rfl)
theorem dJ0_floorMod_2 : decode cJ0_floorMod 2 = .ok (.irem, 1) := dk_112 (dk_at dksJ0_floorMod_0 2 rfl rfl)
theorem dJ0_floorMod_3 : decode cJ0_floorMod 3 = .ok (.istore_n 2, 1) := dk_61 (dk_at dksJ0_floorMod_0 3 rfl rfl)
theorem dJ0_floorMod_4 : decode cJ0_floorMod 4 = .ok (.iload_n 0, 1) := dk_26 (dk_at dksJ0_floorMod_0 4 rfl rfl)
theorem dJ0_floorMod_5 : decode cJ0_floorMod 5 = .ok (.iload_n 1, 1) := dk_27 (dk_at dksJ0_floorMod_0 5 rfl rfl)
theorem dJ0_floorMod_6 : decode cJ0_floorMod 6 = .ok (.ixor, 1) := dk_130 (dk_at dksJ0_floorMod_0 6 rfl rfl)
theorem dJ0_floorMod_7 : decode cJ0_floorMod 7 = .ok (.ifCond .ge 11, 3) := dk_156 0 11 (dk_at dksJ0_floorMod_0 7 rfl rfl)
theorem dJ0_floorMod_10 : decode cJ0_floorMod 10 = .ok (.iload_n 2, 1) := dk_28 (dk_at dksJ0_floorMod_0 10 rfl rfl)
theorem dJ0_floorMod_11 : decode cJ0_floorMod 11 = .ok (.ifCond .eq 7, 3) := dk_153 0 7 (dk_at dksJ0_floorMod_0 11 rfl rfl)
theorem dJ0_floorMod_14 : decode cJ0_floorMod 14 = .ok (.iload_n 2, 1) := dk_28 (dk_at dksJ0_floorMod_0 14 rfl rfl)
theorem dJ0_floorMod_15 : decode cJ0_floorMod 15 = .ok (.iload_n 1, 1) := dk_27 (dk_at dksJ0_floorMod_0 15 rfl rfl)
theorem dJ0_floorMod_16 : decode cJ0_floorMod 16 = .ok (.iadd, 1) := dk_96 (dk_at dksJ0_floorMod_0 16 rfl rfl)
theorem dJ0_floorMod_17 : decode cJ0_floorMod 17 = .ok (.ireturn, 1) := dk_172 (dk_at dksJ0_floorMod_0 17 rfl rfl)
theorem dJ0_floorMod_18 : decode cJ0_floorMod 18 = .ok (.iload_n 2, 1) := dk_28 (dk_at dksJ0_floorMod_0 18 rfl rfl)
theorem dJ0_floorMod_19 : decode cJ0_floorMod 19 = .ok (.ireturn, 1) := dk_172 (dk_at dksJ0_floorMod_0 19 rfl rfl)
abbrev cJ0_abs : ByteArray := prog_24_method_59_code
def yJ0_abs : MethodName := ⟨RJ0, "abs", "(I)I"⟩
def dkwJ0_abs_0 : List UInt8 := [26, 156, 0, 8, 26, 116, 167, 0, 4, 26, 172]
abbrev dktJ0_abs_0 : List UInt8 := dkwJ0_abs_0 ++ []
theorem dksJ0_abs_0 : cJ0_abs.data.toList.drop 0 = dktJ0_abs_0 := by decide +kernel
theorem dJ0_abs_0 : decode cJ0_abs 0 = .ok (.iload_n 0, 1) := dk_26 (dk_at dksJ0_abs_0 0 rfl rfl)
theorem dJ0_abs_1 : decode cJ0_abs 1 = .ok (.ifCond .ge 8, 3) := dk_156 0 8 (dk_at dksJ0_abs_0 1 rfl rfl)
theorem dJ0_abs_4 : decode cJ0_abs 4 = .ok (.iload_n 0, 1) := dk_26 (dk_at dksJ0_abs_0 4 rfl rfl)
theorem dJ0_abs_5 : decode cJ0_abs 5 = .ok (.ineg, 1) := dk_116 (dk_at dksJ0_abs_0 5 rfl rfl)
theorem dJ0_abs_6 : decode cJ0_abs 6 = .ok (.goto 4, 3) := dk_167 0 4 (dk_at dksJ0_abs_0 6 rfl rfl)
theorem dJ0_abs_9 : decode cJ0_abs 9 = .ok (.iload_n 0, 1) := dk_26 (dk_at dksJ0_abs_0 9 rfl rfl)
theorem dJ0_abs_10 : decode cJ0_abs 10 = .ok (.ireturn, 1) := dk_172 (dk_at dksJ0_abs_0 10 rfl rfl)
abbrev cJ0_max : ByteArray := prog_24_method_65_code
def yJ0_max : MethodName := ⟨RJ0, "max", "(II)I"⟩
def dkwJ0_max_0 : List UInt8 := [26, 27, 161, 0, 7, 26, 167, 0, 4, 27, 172]
abbrev dktJ0_max_0 : List UInt8 := dkwJ0_max_0 ++ []
theorem dksJ0_max_0 : cJ0_max.data.toList.drop 0 = dktJ0_max_0 := by decide +kernel
theorem dJ0_max_0 : decode cJ0_max 0 = .ok (.iload_n 0, 1) := dk_26 (dk_at dksJ0_max_0 0 rfl rfl)
theorem dJ0_max_1 : decode cJ0_max 1 = .ok (.iload_n 1, 1) := dk_27 (dk_at dksJ0_max_0 1 rfl rfl)
theorem dJ0_max_2 : decode cJ0_max 2 = .ok (.if_icmp .lt 7, 3) := dk_161 0 7 (dk_at dksJ0_max_0 2 rfl rfl)
theorem dJ0_max_5 : decode cJ0_max 5 = .ok (.iload_n 0, 1) := dk_26 (dk_at dksJ0_max_0 5 rfl rfl)
theorem dJ0_max_6 : decode cJ0_max 6 = .ok (.goto 4, 3) := dk_167 0 4 (dk_at dksJ0_max_0 6 rfl rfl)
theorem dJ0_max_9 : decode cJ0_max 9 = .ok (.iload_n 1, 1) := dk_27 (dk_at dksJ0_max_0 9 rfl rfl)
theorem dJ0_max_10 : decode cJ0_max 10 = .ok (.ireturn, 1) := dk_172 (dk_at dksJ0_max_0 10 rfl rfl)
abbrev cJ0_min : ByteArray := prog_24_method_69_code
def yJ0_min : MethodName := ⟨RJ0, "min", "(II)I"⟩
def dkwJ0_min_0 : List UInt8 := [26, 27, 163, 0, 7, 26, 167, 0, 4, 27, 172]
abbrev dktJ0_min_0 : List UInt8 := dkwJ0_min_0 ++ []
theorem dksJ0_min_0 : cJ0_min.data.toList.drop 0 = dktJ0_min_0 := by decide +kernel
theorem dJ0_min_0 : decode cJ0_min 0 = .ok (.iload_n 0, 1) := dk_26 (dk_at dksJ0_min_0 0 rfl rfl)
theorem dJ0_min_1 : decode cJ0_min 1 = .ok (.iload_n 1, 1) := dk_27 (dk_at dksJ0_min_0 1 rfl rfl)
theorem dJ0_min_2 : decode cJ0_min 2 = .ok (.if_icmp .gt 7, 3) := dk_163 0 7 (dk_at dksJ0_min_0 2 rfl rfl)
theorem dJ0_min_5 : decode cJ0_min 5 = .ok (.iload_n 0, 1) := dk_26 (dk_at dksJ0_min_0 5 rfl rfl)
theorem dJ0_min_6 : decode cJ0_min 6 = .ok (.goto 4, 3) := dk_167 0 4 (dk_at dksJ0_min_0 6 rfl rfl)
theorem dJ0_min_9 : decode cJ0_min 9 = .ok (.iload_n 1, 1) := dk_27 (dk_at dksJ0_min_0 9 rfl rfl)
theorem dJ0_min_10 : decode cJ0_min 10 = .ok (.ireturn, 1) := dk_172 (dk_at dksJ0_min_0 10 rfl rfl)
theorem q91 : (Jvm.Cond.initialized "java/lang/Math") ∈ lw_all := lw_g (lw_at lw_m1 13 rfl) rfl
theorem q503 : (Jvm.Cond.static ({ cls := "java/lang/Math", name := "floorMod", desc := "(II)I" } : Jvm.MethodName)) ∈ lw_all := lw_g (lw_at lw_m2 185 rfl) rfl
theorem q504 : (Jvm.Cond.code ({ cls := "java/lang/Math", name := "floorMod", desc := "(II)I" } : Jvm.MethodName) prog_24_method_50_code (3 : Nat) (Option.some Jvm.ClassFile.FieldType.int)) ∈ lw_all := lw_g (lw_at lw_m2 186 rfl) rfl
theorem q899 : (Jvm.Cond.static ({ cls := "java/lang/Math", name := "abs", desc := "(I)I" } : Jvm.MethodName)) ∈ lw_all := lw_g (lw_at lw_m4 101 rfl) rfl
theorem q900 : (Jvm.Cond.code ({ cls := "java/lang/Math", name := "abs", desc := "(I)I" } : Jvm.MethodName) prog_24_method_59_code (1 : Nat) (Option.some Jvm.ClassFile.FieldType.int)) ∈ lw_all := lw_g (lw_at lw_m4 102 rfl) rfl
theorem q906 : (Jvm.Cond.static ({ cls := "java/lang/Math", name := "max", desc := "(II)I" } : Jvm.MethodName)) ∈ lw_all := lw_g (lw_at lw_m4 108 rfl) rfl
theorem q907 : (Jvm.Cond.code ({ cls := "java/lang/Math", name := "max", desc := "(II)I" } : Jvm.MethodName) prog_24_method_65_code (2 : Nat) (Option.some Jvm.ClassFile.FieldType.int)) ∈ lw_all := lw_g (lw_at lw_m4 109 rfl) rfl
theorem q978 : (Jvm.Cond.static ({ cls := "java/lang/Math", name := "min", desc := "(II)I" } : Jvm.MethodName)) ∈ lw_all := lw_g (lw_at lw_m4 180 rfl) rfl
theorem q979 : (Jvm.Cond.code ({ cls := "java/lang/Math", name := "min", desc := "(II)I" } : Jvm.MethodName) prog_24_method_69_code (2 : Nat) (Option.some Jvm.ClassFile.FieldType.int)) ∈ lw_all := lw_g (lw_at lw_m4 181 rfl) rfl

/-! java/lang/Throwable -/
set_option maxRecDepth 100000
def RJ1 : String := "java/lang/Throwable"
def TJ1 : u_T := fun k => match k with
  | 0 => ("java/lang/Throwable", "cause", "Ljava/lang/Throwable;", false)
  | 1 => ("java/lang/Throwable", "stackTrace", "[Ljava/lang/StackTraceElement;", false)
  | 2 => ("java/lang/Throwable", "suppressedExceptions", "Ljava/util/List;", false)
  | 3 => ("java/lang/Throwable", "detailMessage", "Ljava/lang/String;", false)
  | _ => ("java/lang/Throwable", "backtrace", "Ljava/lang/Object;", false)
def tyJ1 : Nat → FieldType := fun k => match k with
  | 0 => .object "java/lang/Throwable"
  | 1 => .array (.object "java/lang/StackTraceElement")
  | 2 => .object "java/util/List"
  | 3 => .object "java/lang/String"
  | _ => .object "java/lang/Object"
abbrev wsJ10 : List Cond := u_ws RJ1 TJ1 5
theorem nmJ1 : ∀ a, a < 5 → ∀ b, b < 5 → a ≠ b → (TJ1 a).2.1 ≠ (TJ1 b).2.1 := by decide +kernel
theorem tyJ1_ok : ∀ k, k < 5 → parseFieldDescriptor (TJ1 k).2.2.1 = some (tyJ1 k) := by decide +kernel
abbrev cJ1_init : ByteArray := prog_30_method_1_code
def yJ1_init : MethodName := ⟨RJ1, "<init>", "()V"⟩
def dkwJ1_init_1 : List UInt8 := [182, 0, 27, 87, 177]
abbrev dktJ1_init_1 : List UInt8 := dkwJ1_init_1 ++ []
def dkwJ1_init_0 : List UInt8 := [42, 183, 0, 1, 42, 42, 181, 0, 7, 42, 178, 0, 13, 181, 0, 17, 42, 178, 0, 20, 181, 0, 24, 42]
abbrev dktJ1_init_0 : List UInt8 := dkwJ1_init_0 ++ dktJ1_init_1
theorem dksJ1_init_0 : cJ1_init.data.toList.drop 0 = dktJ1_init_0 := by decide +kernel
theorem dksJ1_init_1 : cJ1_init.data.toList.drop 24 = dktJ1_init_1 := dk_seg dksJ1_init_0 24 rfl rfl
theorem dJ1_init_0 : decode cJ1_init 0 = .ok (.aload_n 0, 1) := dk_42 (dk_at dksJ1_init_0 0 rfl rfl)
theorem dJ1_init_1 : decode cJ1_init 1 = .ok (.invokespecial 1, 3) := dk_183 0 1 (dk_at dksJ1_init_0 1 rfl rfl)
theorem dJ1_init_4 : decode cJ1_init 4 = .ok (.aload_n 0, 1) := dk_42 (dk_at dksJ1_init_0 4 rfl rfl)
theorem dJ1_init_5 : decode cJ1_init 5 = .ok (.aload_n 0, 1) := dk_42 (dk_at dksJ1_init_0 5 rfl rfl)
theorem dJ1_init_6 : decode cJ1_init 6 = .ok (.putfield 7, 3) := dk_181 0 7 (dk_at dksJ1_init_0 6 rfl rfl)
theorem dJ1_init_9 : decode cJ1_init 9 = .ok (.aload_n 0, 1) := dk_42 (dk_at dksJ1_init_0 9 rfl rfl)
theorem dJ1_init_10 : decode cJ1_init 10 = .ok (.getstatic 13, 3) := dk_178 0 13 (dk_at dksJ1_init_0 10 rfl rfl)
theorem dJ1_init_13 : decode cJ1_init 13 = .ok (.putfield 17, 3) := dk_181 0 17 (dk_at dksJ1_init_0 13 rfl rfl)
theorem dJ1_init_16 : decode cJ1_init 16 = .ok (.aload_n 0, 1) := dk_42 (dk_at dksJ1_init_0 16 rfl rfl)
theorem dJ1_init_17 : decode cJ1_init 17 = .ok (.getstatic 20, 3) := dk_178 0 20 (dk_at dksJ1_init_0 17 rfl rfl)
theorem dJ1_init_20 : decode cJ1_init 20 = .ok (.putfield 24, 3) := dk_181 0 24 (dk_at dksJ1_init_0 20 rfl rfl)
theorem dJ1_init_23 : decode cJ1_init 23 = .ok (.aload_n 0, 1) := dk_42 (dk_at dksJ1_init_0 23 rfl rfl)
theorem dJ1_init_24 : decode cJ1_init 24 = .ok (.invokevirtual 27, 3) := dk_182 0 27 (dk_at dksJ1_init_1 0 rfl rfl)
theorem dJ1_init_27 : decode cJ1_init 27 = .ok (.pop, 1) := dk_87 (dk_at dksJ1_init_1 3 rfl rfl)
theorem dJ1_init_28 : decode cJ1_init 28 = .ok (.return_, 1) := dk_177 (dk_at dksJ1_init_1 4 rfl rfl)
abbrev cJ1_init_2 : ByteArray := prog_30_method_2_code
def yJ1_init_2 : MethodName := ⟨RJ1, "<init>", "(Ljava/lang/String;)V"⟩
def dkwJ1_init_2_1 : List UInt8 := [182, 0, 27, 87, 42, 43, 181, 0, 31, 177]
abbrev dktJ1_init_2_1 : List UInt8 := dkwJ1_init_2_1 ++ []
def dkwJ1_init_2_0 : List UInt8 := [42, 183, 0, 1, 42, 42, 181, 0, 7, 42, 178, 0, 13, 181, 0, 17, 42, 178, 0, 20, 181, 0, 24, 42]
abbrev dktJ1_init_2_0 : List UInt8 := dkwJ1_init_2_0 ++ dktJ1_init_2_1
theorem dksJ1_init_2_0 : cJ1_init_2.data.toList.drop 0 = dktJ1_init_2_0 := by decide +kernel
theorem dksJ1_init_2_1 : cJ1_init_2.data.toList.drop 24 = dktJ1_init_2_1 := dk_seg dksJ1_init_2_0 24 rfl rfl
theorem dJ1_init_2_0 : decode cJ1_init_2 0 = .ok (.aload_n 0, 1) := dk_42 (dk_at dksJ1_init_2_0 0 rfl rfl)
theorem dJ1_init_2_1 : decode cJ1_init_2 1 = .ok (.invokespecial 1, 3) := dk_183 0 1 (dk_at dksJ1_init_2_0 1 rfl rfl)
theorem dJ1_init_2_4 : decode cJ1_init_2 4 = .ok (.aload_n 0, 1) := dk_42 (dk_at dksJ1_init_2_0 4 rfl rfl)
theorem dJ1_init_2_5 : decode cJ1_init_2 5 = .ok (.aload_n 0, 1) := dk_42 (dk_at dksJ1_init_2_0 5 rfl rfl)
theorem dJ1_init_2_6 : decode cJ1_init_2 6 = .ok (.putfield 7, 3) := dk_181 0 7 (dk_at dksJ1_init_2_0 6 rfl rfl)
theorem dJ1_init_2_9 : decode cJ1_init_2 9 = .ok (.aload_n 0, 1) := dk_42 (dk_at dksJ1_init_2_0 9 rfl rfl)
theorem dJ1_init_2_10 : decode cJ1_init_2 10 = .ok (.getstatic 13, 3) := dk_178 0 13 (dk_at dksJ1_init_2_0 10 rfl rfl)
theorem dJ1_init_2_13 : decode cJ1_init_2 13 = .ok (.putfield 17, 3) := dk_181 0 17 (dk_at dksJ1_init_2_0 13 rfl rfl)
theorem dJ1_init_2_16 : decode cJ1_init_2 16 = .ok (.aload_n 0, 1) := dk_42 (dk_at dksJ1_init_2_0 16 rfl rfl)
theorem dJ1_init_2_17 : decode cJ1_init_2 17 = .ok (.getstatic 20, 3) := dk_178 0 20 (dk_at dksJ1_init_2_0 17 rfl rfl)
theorem dJ1_init_2_20 : decode cJ1_init_2 20 = .ok (.putfield 24, 3) := dk_181 0 24 (dk_at dksJ1_init_2_0 20 rfl rfl)
theorem dJ1_init_2_23 : decode cJ1_init_2 23 = .ok (.aload_n 0, 1) := dk_42 (dk_at dksJ1_init_2_0 23 rfl rfl)
theorem dJ1_init_2_24 : decode cJ1_init_2 24 = .ok (.invokevirtual 27, 3) := dk_182 0 27 (dk_at dksJ1_init_2_1 0 rfl rfl)
theorem dJ1_init_2_27 : decode cJ1_init_2 27 = .ok (.pop, 1) := dk_87 (dk_at dksJ1_init_2_1 3 rfl rfl)
theorem dJ1_init_2_28 : decode cJ1_init_2 28 = .ok (.aload_n 0, 1) := dk_42 (dk_at dksJ1_init_2_1 4 rfl rfl)
theorem dJ1_init_2_29 : decode cJ1_init_2 29 = .ok (.aload_n 1, 1) := dk_43 (dk_at dksJ1_init_2_1 5 rfl rfl)
theorem dJ1_init_2_30 : decode cJ1_init_2 30 = .ok (.putfield 31, 3) := dk_181 0 31 (dk_at dksJ1_init_2_1 6 rfl rfl)
theorem dJ1_init_2_33 : decode cJ1_init_2 33 = .ok (.return_, 1) := dk_177 (dk_at dksJ1_init_2_1 9 rfl rfl)
theorem q94 : (Jvm.Cond.initialized "java/lang/Throwable") ∈ lw_all := lw_g (lw_at lw_m1 16 rfl) rfl
theorem q630 : (Jvm.Cond.declares ({ cls := "java/lang/Throwable", name := "<init>", desc := "()V" } : Jvm.MethodName)) ∈ lw_tbl := lw_at lw_m3 72 rfl
theorem q631 : (Jvm.Cond.declares ({ cls := "java/lang/Throwable", name := "<init>", desc := "(Ljava/lang/String;)V" } : Jvm.MethodName)) ∈ lw_tbl := lw_at lw_m3 73 rfl
theorem q635 : (Jvm.Cond.lays "java/lang/Throwable" "java/lang/Throwable" "cause" "Ljava/lang/Throwable;") ∈ lw_all := lw_g (lw_at lw_m3 77 rfl) rfl
theorem q637 : (Jvm.Cond.lays "java/lang/Throwable" "java/lang/Throwable" "stackTrace" "[Ljava/lang/StackTraceElement;") ∈ lw_all := lw_g (lw_at lw_m3 79 rfl) rfl
theorem q639 : (Jvm.Cond.lays "java/lang/Throwable" "java/lang/Throwable" "suppressedExceptions" "Ljava/util/List;") ∈ lw_all := lw_g (lw_at lw_m3 81 rfl) rfl
theorem q641 : (Jvm.Cond.lays "java/lang/Throwable" "java/lang/Throwable" "detailMessage" "Ljava/lang/String;") ∈ lw_all := lw_g (lw_at lw_m3 83 rfl) rfl
theorem q643 : (Jvm.Cond.lays "java/lang/Throwable" "java/lang/Throwable" "backtrace" "Ljava/lang/Object;") ∈ lw_all := lw_g (lw_at lw_m3 85 rfl) rfl
theorem q644 : (Jvm.Cond.fieldLink "java/lang/Throwable" (198 : Nat) "java/lang/Throwable" "backtrace" "Ljava/lang/Object;") ∈ lw_all := lw_g (lw_at lw_m3 86 rfl) rfl
theorem q645 : (Jvm.Cond.superclass "java/lang/Throwable" "java/lang/Object") ∈ lw_all := lw_g (lw_at lw_m3 87 rfl) rfl
theorem q646 : (Jvm.Cond.instanceMethod ({ cls := "java/lang/Throwable", name := "<init>", desc := "()V" } : Jvm.MethodName)) ∈ lw_all := lw_g (lw_at lw_m3 88 rfl) rfl
theorem q647 : (Jvm.Cond.code ({ cls := "java/lang/Throwable", name := "<init>", desc := "()V" } : Jvm.MethodName) prog_30_method_1_code (1 : Nat) (Option.none : Option Jvm.ClassFile.FieldType)) ∈ lw_all := lw_g (lw_at lw_m3 89 rfl) rfl
theorem q648 : (Jvm.Cond.methodLink "java/lang/Throwable" (1 : Nat) ({ cls := "java/lang/Object", name := "<init>", desc := "()V" } : Jvm.MethodName)) ∈ lw_all := lw_g (lw_at lw_m3 90 rfl) rfl
theorem q649 : (Jvm.Cond.fieldLink "java/lang/Throwable" (13 : Nat) "java/lang/Throwable" "UNASSIGNED_STACK" "[Ljava/lang/StackTraceElement;") ∈ lw_all := lw_g (lw_at lw_m3 91 rfl) rfl
theorem q650 : (Jvm.Cond.laysStatic "java/lang/Throwable" "UNASSIGNED_STACK" "[Ljava/lang/StackTraceElement;") ∈ lw_tbl := lw_at lw_m3 92 rfl
theorem q651 : (Jvm.Cond.fieldLink "java/lang/Throwable" (20 : Nat) "java/lang/Throwable" "SUPPRESSED_SENTINEL" "Ljava/util/List;") ∈ lw_all := lw_g (lw_at lw_m3 93 rfl) rfl
theorem q652 : (Jvm.Cond.laysStatic "java/lang/Throwable" "SUPPRESSED_SENTINEL" "Ljava/util/List;") ∈ lw_tbl := lw_at lw_m3 94 rfl
theorem q653 : (Jvm.Cond.methodLink "java/lang/Throwable" (27 : Nat) ({ cls := "java/lang/Throwable", name := "fillInStackTrace", desc := "()Ljava/lang/Throwable;" } : Jvm.MethodName)) ∈ lw_all := lw_g (lw_at lw_m3 95 rfl) rfl
theorem q654 : (Jvm.Cond.instanceMethod ({ cls := "java/lang/Throwable", name := "fillInStackTrace", desc := "()Ljava/lang/Throwable;" } : Jvm.MethodName)) ∈ lw_all := lw_g (lw_at lw_m3 96 rfl) rfl
theorem q655 : (Jvm.Cond.sameMethod "java/lang/Throwable" "java/lang/Throwable" "fillInStackTrace" "()Ljava/lang/Throwable;") ∈ lw_all := lw_g (lw_at lw_m3 97 rfl) rfl
theorem q670 : (Jvm.Cond.declares ({ cls := "java/lang/Throwable", name := "fillInStackTrace", desc := "()Ljava/lang/Throwable;" } : Jvm.MethodName)) ∈ lw_tbl := lw_at lw_m3 112 rfl
theorem q674 : (Jvm.Cond.codeSync ({ cls := "java/lang/Throwable", name := "fillInStackTrace", desc := "()Ljava/lang/Throwable;" } : Jvm.MethodName) prog_30_method_18_code (1 : Nat) (Option.some (Jvm.ClassFile.FieldType.object "java/lang/Throwable"))) ∈ lw_all := lw_g (lw_at lw_m3 116 rfl) rfl
theorem q675 : (Jvm.Cond.methodLink "java/lang/Throwable" (202 : Nat) ({ cls := "java/lang/Throwable", name := "fillInStackTrace", desc := "(I)Ljava/lang/Throwable;" } : Jvm.MethodName)) ∈ lw_all := lw_g (lw_at lw_m3 117 rfl) rfl
theorem q676 : (Jvm.Cond.privateMethod ({ cls := "java/lang/Throwable", name := "fillInStackTrace", desc := "(I)Ljava/lang/Throwable;" } : Jvm.MethodName)) ∈ lw_tbl := lw_at lw_m3 118 rfl
theorem q677 : (Jvm.Cond.instanceMethod ({ cls := "java/lang/Throwable", name := "fillInStackTrace", desc := "(I)Ljava/lang/Throwable;" } : Jvm.MethodName)) ∈ lw_all := lw_g (lw_at lw_m3 119 rfl) rfl
theorem q678 : (Jvm.Cond.instantiable "java/lang/Throwable" (6 : Nat)) ∈ lw_all := lw_g (lw_at lw_m3 120 rfl) rfl
theorem q679 : (Jvm.Cond.native ({ cls := "java/lang/Throwable", name := "fillInStackTrace", desc := "(I)Ljava/lang/Throwable;" } : Jvm.MethodName)) ∈ lw_all := lw_g (lw_at lw_m3 121 rfl) rfl
theorem q692 : (Jvm.Cond.fieldLink "java/lang/Throwable" (198 : Nat) "java/lang/Throwable" "backtrace" "Ljava/lang/Object;") ∈ lw_all := lw_g (lw_at lw_m3 134 rfl) rfl
theorem q693 : (Jvm.Cond.fieldLink "java/lang/Throwable" (31 : Nat) "java/lang/Throwable" "detailMessage" "Ljava/lang/String;") ∈ lw_all := lw_g (lw_at lw_m3 135 rfl) rfl
theorem q694 : (Jvm.Cond.fieldLink "java/lang/Throwable" (7 : Nat) "java/lang/Throwable" "cause" "Ljava/lang/Throwable;") ∈ lw_all := lw_g (lw_at lw_m3 136 rfl) rfl
theorem q695 : (Jvm.Cond.fieldLink "java/lang/Throwable" (17 : Nat) "java/lang/Throwable" "stackTrace" "[Ljava/lang/StackTraceElement;") ∈ lw_all := lw_g (lw_at lw_m3 137 rfl) rfl
theorem q696 : (Jvm.Cond.fieldLink "java/lang/Throwable" (24 : Nat) "java/lang/Throwable" "suppressedExceptions" "Ljava/util/List;") ∈ lw_all := lw_g (lw_at lw_m3 138 rfl) rfl
theorem q699 : (Jvm.Cond.soleField "java/lang/Throwable" "backtrace") ∈ lw_all := lw_g (lw_at lw_m3 141 rfl) rfl
theorem q700 : (Jvm.Cond.soleField "java/lang/Throwable" "detailMessage") ∈ lw_all := lw_g (lw_at lw_m3 142 rfl) rfl
theorem q701 : (Jvm.Cond.soleField "java/lang/Throwable" "cause") ∈ lw_all := lw_g (lw_at lw_m3 143 rfl) rfl
theorem q702 : (Jvm.Cond.soleField "java/lang/Throwable" "stackTrace") ∈ lw_all := lw_g (lw_at lw_m3 144 rfl) rfl
theorem q704 : (Jvm.Cond.soleField "java/lang/Throwable" "depth") ∈ lw_all := lw_g (lw_at lw_m3 146 rfl) rfl
theorem q705 : (Jvm.Cond.soleField "java/lang/Throwable" "suppressedExceptions") ∈ lw_all := lw_g (lw_at lw_m3 147 rfl) rfl
theorem q802 : (Jvm.Cond.instanceMethod ({ cls := "java/lang/Throwable", name := "<init>", desc := "(Ljava/lang/String;)V" } : Jvm.MethodName)) ∈ lw_all := lw_g (lw_at lw_m4 4 rfl) rfl
theorem q803 : (Jvm.Cond.code ({ cls := "java/lang/Throwable", name := "<init>", desc := "(Ljava/lang/String;)V" } : Jvm.MethodName) prog_30_method_2_code (2 : Nat) (Option.none : Option Jvm.ClassFile.FieldType)) ∈ lw_all := lw_g (lw_at lw_m4 5 rfl) rfl
theorem q1616 : (Jvm.Cond.sameMethod "java/lang/Throwable" "java/lang/Throwable" "fillInStackTrace" "(I)Ljava/lang/Throwable;") ∈ lw_all := lw_g (lw_at lw_m7 98 rfl) rfl
theorem in_J1 : ∀ w ∈ wsJ10, w ∈ lw_all := lw_in wsJ10 [635, 637, 639, 641, 643] (by decide +kernel) (by decide +kernel)

/-! java/lang/Exception -/
set_option maxRecDepth 100000
def RJ2 : String := "java/lang/Exception"
abbrev cJ2_init : ByteArray := prog_21_method_1_code
def yJ2_init : MethodName := ⟨RJ2, "<init>", "()V"⟩
theorem dJ2_init_0 : decode cJ2_init 0 = .ok (.aload_n 0, 1) := by decide +kernel
theorem dJ2_init_1 : decode cJ2_init 1 = .ok (.invokespecial 1, 3) := by decide +kernel
theorem dJ2_init_4 : decode cJ2_init 4 = .ok (.return_, 1) := by decide +kernel
abbrev cJ2_init_2 : ByteArray := prog_21_method_2_code
def yJ2_init_2 : MethodName := ⟨RJ2, "<init>", "(Ljava/lang/String;)V"⟩
def dkwJ2_init_2_0 : List UInt8 := [42, 43, 183, 0, 7, 177]
abbrev dktJ2_init_2_0 : List UInt8 := dkwJ2_init_2_0 ++ []
theorem dksJ2_init_2_0 : cJ2_init_2.data.toList.drop 0 = dktJ2_init_2_0 := by decide +kernel
theorem dJ2_init_2_0 : decode cJ2_init_2 0 = .ok (.aload_n 0, 1) := dk_42 (dk_at dksJ2_init_2_0 0 rfl rfl)
theorem dJ2_init_2_1 : decode cJ2_init_2 1 = .ok (.aload_n 1, 1) := dk_43 (dk_at dksJ2_init_2_0 1 rfl rfl)
theorem dJ2_init_2_2 : decode cJ2_init_2 2 = .ok (.invokespecial 7, 3) := dk_183 0 7 (dk_at dksJ2_init_2_0 2 rfl rfl)
theorem dJ2_init_2_5 : decode cJ2_init_2 5 = .ok (.return_, 1) := dk_177 (dk_at dksJ2_init_2_0 5 rfl rfl)
theorem q95 : (Jvm.Cond.initialized "java/lang/Exception") ∈ lw_all := lw_g (lw_at lw_m1 17 rfl) rfl
theorem q628 : (Jvm.Cond.declares ({ cls := "java/lang/Exception", name := "<init>", desc := "()V" } : Jvm.MethodName)) ∈ lw_tbl := lw_at lw_m3 70 rfl
theorem q629 : (Jvm.Cond.declares ({ cls := "java/lang/Exception", name := "<init>", desc := "(Ljava/lang/String;)V" } : Jvm.MethodName)) ∈ lw_tbl := lw_at lw_m3 71 rfl
theorem q673 : (Jvm.Cond.superclass "java/lang/Exception" "java/lang/Throwable") ∈ lw_all := lw_g (lw_at lw_m3 115 rfl) rfl
theorem q687 : (Jvm.Cond.instanceMethod ({ cls := "java/lang/Exception", name := "<init>", desc := "()V" } : Jvm.MethodName)) ∈ lw_all := lw_g (lw_at lw_m3 129 rfl) rfl
theorem q688 : (Jvm.Cond.code ({ cls := "java/lang/Exception", name := "<init>", desc := "()V" } : Jvm.MethodName) prog_21_method_1_code (1 : Nat) (Option.none : Option Jvm.ClassFile.FieldType)) ∈ lw_all := lw_g (lw_at lw_m3 130 rfl) rfl
theorem q689 : (Jvm.Cond.methodLink "java/lang/Exception" (1 : Nat) ({ cls := "java/lang/Throwable", name := "<init>", desc := "()V" } : Jvm.MethodName)) ∈ lw_all := lw_g (lw_at lw_m3 131 rfl) rfl
theorem q799 : (Jvm.Cond.instanceMethod ({ cls := "java/lang/Exception", name := "<init>", desc := "(Ljava/lang/String;)V" } : Jvm.MethodName)) ∈ lw_all := lw_g (lw_at lw_m4 1 rfl) rfl
theorem q800 : (Jvm.Cond.code ({ cls := "java/lang/Exception", name := "<init>", desc := "(Ljava/lang/String;)V" } : Jvm.MethodName) prog_21_method_2_code (2 : Nat) (Option.none : Option Jvm.ClassFile.FieldType)) ∈ lw_all := lw_g (lw_at lw_m4 2 rfl) rfl
theorem q801 : (Jvm.Cond.methodLink "java/lang/Exception" (7 : Nat) ({ cls := "java/lang/Throwable", name := "<init>", desc := "(Ljava/lang/String;)V" } : Jvm.MethodName)) ∈ lw_all := lw_g (lw_at lw_m4 3 rfl) rfl

/-! java/lang/RuntimeException -/
set_option maxRecDepth 100000
def RJ3 : String := "java/lang/RuntimeException"
abbrev cJ3_init : ByteArray := prog_27_method_1_code
def yJ3_init : MethodName := ⟨RJ3, "<init>", "()V"⟩
theorem dJ3_init_0 : decode cJ3_init 0 = .ok (.aload_n 0, 1) := by decide +kernel
theorem dJ3_init_1 : decode cJ3_init 1 = .ok (.invokespecial 1, 3) := by decide +kernel
theorem dJ3_init_4 : decode cJ3_init 4 = .ok (.return_, 1) := by decide +kernel
abbrev cJ3_init_2 : ByteArray := prog_27_method_2_code
def yJ3_init_2 : MethodName := ⟨RJ3, "<init>", "(Ljava/lang/String;)V"⟩
def dkwJ3_init_2_0 : List UInt8 := [42, 43, 183, 0, 7, 177]
abbrev dktJ3_init_2_0 : List UInt8 := dkwJ3_init_2_0 ++ []
theorem dksJ3_init_2_0 : cJ3_init_2.data.toList.drop 0 = dktJ3_init_2_0 := by decide +kernel
theorem dJ3_init_2_0 : decode cJ3_init_2 0 = .ok (.aload_n 0, 1) := dk_42 (dk_at dksJ3_init_2_0 0 rfl rfl)
theorem dJ3_init_2_1 : decode cJ3_init_2 1 = .ok (.aload_n 1, 1) := dk_43 (dk_at dksJ3_init_2_0 1 rfl rfl)
theorem dJ3_init_2_2 : decode cJ3_init_2 2 = .ok (.invokespecial 7, 3) := dk_183 0 7 (dk_at dksJ3_init_2_0 2 rfl rfl)
theorem dJ3_init_2_5 : decode cJ3_init_2 5 = .ok (.return_, 1) := dk_177 (dk_at dksJ3_init_2_0 5 rfl rfl)
theorem q96 : (Jvm.Cond.initialized "java/lang/RuntimeException") ∈ lw_all := lw_g (lw_at lw_m1 18 rfl) rfl
theorem q626 : (Jvm.Cond.declares ({ cls := "java/lang/RuntimeException", name := "<init>", desc := "()V" } : Jvm.MethodName)) ∈ lw_tbl := lw_at lw_m3 68 rfl
theorem q627 : (Jvm.Cond.declares ({ cls := "java/lang/RuntimeException", name := "<init>", desc := "(Ljava/lang/String;)V" } : Jvm.MethodName)) ∈ lw_tbl := lw_at lw_m3 69 rfl
theorem q669 : (Jvm.Cond.sameMethod "java/lang/RuntimeException" "java/lang/Throwable" "fillInStackTrace" "()Ljava/lang/Throwable;") ∈ lw_all := lw_g (lw_at lw_m3 111 rfl) rfl
theorem q672 : (Jvm.Cond.superclass "java/lang/RuntimeException" "java/lang/Exception") ∈ lw_all := lw_g (lw_at lw_m3 114 rfl) rfl
theorem q684 : (Jvm.Cond.instanceMethod ({ cls := "java/lang/RuntimeException", name := "<init>", desc := "()V" } : Jvm.MethodName)) ∈ lw_all := lw_g (lw_at lw_m3 126 rfl) rfl
theorem q685 : (Jvm.Cond.code ({ cls := "java/lang/RuntimeException", name := "<init>", desc := "()V" } : Jvm.MethodName) prog_27_method_1_code (1 : Nat) (Option.none : Option Jvm.ClassFile.FieldType)) ∈ lw_all := lw_g (lw_at lw_m3 127 rfl) rfl
theorem q686 : (Jvm.Cond.methodLink "java/lang/RuntimeException" (1 : Nat) ({ cls := "java/lang/Exception", name := "<init>", desc := "()V" } : Jvm.MethodName)) ∈ lw_all := lw_g (lw_at lw_m3 128 rfl) rfl
theorem q790 : (Jvm.Cond.castable "java/lang/RuntimeException" "java/lang/Throwable") ∈ lw_tbl := lw_at lw_m3 232 rfl
theorem q796 : (Jvm.Cond.instanceMethod ({ cls := "java/lang/RuntimeException", name := "<init>", desc := "(Ljava/lang/String;)V" } : Jvm.MethodName)) ∈ lw_all := lw_g (lw_at lw_m3 238 rfl) rfl
theorem q797 : (Jvm.Cond.code ({ cls := "java/lang/RuntimeException", name := "<init>", desc := "(Ljava/lang/String;)V" } : Jvm.MethodName) prog_27_method_2_code (2 : Nat) (Option.none : Option Jvm.ClassFile.FieldType)) ∈ lw_all := lw_g (lw_at lw_m3 239 rfl) rfl
theorem q798 : (Jvm.Cond.methodLink "java/lang/RuntimeException" (7 : Nat) ({ cls := "java/lang/Exception", name := "<init>", desc := "(Ljava/lang/String;)V" } : Jvm.MethodName)) ∈ lw_all := lw_g (lw_at lw_m4 0 rfl) rfl

/-! java/lang/NullPointerException -/
set_option maxRecDepth 100000
def RJ4 : String := "java/lang/NullPointerException"
def TJ4 : u_T := fun k => match k with
  | 0 => ("java/lang/Throwable", "backtrace", "Ljava/lang/Object;", false)
  | 1 => ("java/lang/Throwable", "detailMessage", "Ljava/lang/String;", false)
  | 2 => ("java/lang/Throwable", "cause", "Ljava/lang/Throwable;", false)
  | 3 => ("java/lang/Throwable", "stackTrace", "[Ljava/lang/StackTraceElement;", false)
  | 4 => ("java/lang/Throwable", "depth", "I", false)
  | 5 => ("java/lang/Throwable", "suppressedExceptions", "Ljava/util/List;", false)
  | 6 => ("java/lang/NullPointerException", "extendedMessageState", "I", false)
  | _ => ("java/lang/NullPointerException", "extendedMessage", "Ljava/lang/String;", false)
def tyJ4 : Nat → FieldType := fun k => match k with
  | 0 => .object "java/lang/Object"
  | 1 => .object "java/lang/String"
  | 2 => .object "java/lang/Throwable"
  | 3 => .array (.object "java/lang/StackTraceElement")
  | 4 => .int
  | 5 => .object "java/util/List"
  | 6 => .int
  | _ => .object "java/lang/String"
abbrev wsJ40 : List Cond := u_ws RJ4 TJ4 8
theorem nmJ4 : ∀ a, a < 8 → ∀ b, b < 8 → a ≠ b → (TJ4 a).2.1 ≠ (TJ4 b).2.1 := by decide +kernel
theorem tyJ4_ok : ∀ k, k < 8 → parseFieldDescriptor (TJ4 k).2.2.1 = some (tyJ4 k) := by decide +kernel
abbrev cJ4_init : ByteArray := prog_26_method_1_code
def yJ4_init : MethodName := ⟨RJ4, "<init>", "()V"⟩
theorem dJ4_init_0 : decode cJ4_init 0 = .ok (.aload_n 0, 1) := by decide +kernel
theorem dJ4_init_1 : decode cJ4_init 1 = .ok (.invokespecial 1, 3) := by decide +kernel
theorem dJ4_init_4 : decode cJ4_init 4 = .ok (.return_, 1) := by decide +kernel
theorem q98 : (Jvm.Cond.initialized "java/lang/NullPointerException") ∈ lw_all := lw_g (lw_at lw_m1 20 rfl) rfl
theorem q660 : (Jvm.Cond.selects "java/lang/NullPointerException" ({ cls := "java/lang/Throwable", name := "fillInStackTrace", desc := "()Ljava/lang/Throwable;" } : Jvm.MethodName) ({ cls := "java/lang/NullPointerException", name := "fillInStackTrace", desc := "()Ljava/lang/Throwable;" } : Jvm.MethodName)) ∈ lw_all := lw_g (lw_at lw_m3 102 rfl) rfl
theorem q661 : (Jvm.Cond.instanceMethod ({ cls := "java/lang/NullPointerException", name := "fillInStackTrace", desc := "()Ljava/lang/Throwable;" } : Jvm.MethodName)) ∈ lw_all := lw_g (lw_at lw_m3 103 rfl) rfl
theorem q662 : (Jvm.Cond.codeSync ({ cls := "java/lang/NullPointerException", name := "fillInStackTrace", desc := "()Ljava/lang/Throwable;" } : Jvm.MethodName) prog_26_method_3_code (1 : Nat) (Option.some (Jvm.ClassFile.FieldType.object "java/lang/Throwable"))) ∈ lw_all := lw_g (lw_at lw_m3 104 rfl) rfl
theorem q663 : (Jvm.Cond.methodLink "java/lang/NullPointerException" (16 : Nat) ({ cls := "java/lang/NullPointerException", name := "getExtendedNPEMessage", desc := "()Ljava/lang/String;" } : Jvm.MethodName)) ∈ lw_all := lw_g (lw_at lw_m3 105 rfl) rfl
theorem q664 : (Jvm.Cond.privateMethod ({ cls := "java/lang/NullPointerException", name := "getExtendedNPEMessage", desc := "()Ljava/lang/String;" } : Jvm.MethodName)) ∈ lw_tbl := lw_at lw_m3 106 rfl
theorem q665 : (Jvm.Cond.instanceMethod ({ cls := "java/lang/NullPointerException", name := "getExtendedNPEMessage", desc := "()Ljava/lang/String;" } : Jvm.MethodName)) ∈ lw_all := lw_g (lw_at lw_m3 107 rfl) rfl
theorem q666 : (Jvm.Cond.instantiable "java/lang/NullPointerException" (8 : Nat)) ∈ lw_all := lw_g (lw_at lw_m3 108 rfl) rfl
theorem q667 : (Jvm.Cond.native ({ cls := "java/lang/NullPointerException", name := "getExtendedNPEMessage", desc := "()Ljava/lang/String;" } : Jvm.MethodName)) ∈ lw_all := lw_g (lw_at lw_m3 109 rfl) rfl
theorem q668 : (Jvm.Cond.methodLink "java/lang/NullPointerException" (24 : Nat) ({ cls := "java/lang/RuntimeException", name := "fillInStackTrace", desc := "()Ljava/lang/Throwable;" } : Jvm.MethodName)) ∈ lw_all := lw_g (lw_at lw_m3 110 rfl) rfl
theorem q671 : (Jvm.Cond.superclass "java/lang/NullPointerException" "java/lang/RuntimeException") ∈ lw_all := lw_g (lw_at lw_m3 113 rfl) rfl
theorem q773 : (Jvm.Cond.instanceMethod ({ cls := "java/lang/NullPointerException", name := "<init>", desc := "()V" } : Jvm.MethodName)) ∈ lw_all := lw_g (lw_at lw_m3 215 rfl) rfl
theorem q774 : (Jvm.Cond.code ({ cls := "java/lang/NullPointerException", name := "<init>", desc := "()V" } : Jvm.MethodName) prog_26_method_1_code (1 : Nat) (Option.none : Option Jvm.ClassFile.FieldType)) ∈ lw_all := lw_g (lw_at lw_m3 216 rfl) rfl
theorem q775 : (Jvm.Cond.methodLink "java/lang/NullPointerException" (1 : Nat) ({ cls := "java/lang/RuntimeException", name := "<init>", desc := "()V" } : Jvm.MethodName)) ∈ lw_all := lw_g (lw_at lw_m3 217 rfl) rfl
theorem q776 : (Jvm.Cond.fieldLink "java/lang/NullPointerException" (10 : Nat) "java/lang/NullPointerException" "extendedMessageState" "I") ∈ lw_all := lw_g (lw_at lw_m3 218 rfl) rfl
theorem q777 : (Jvm.Cond.fieldLink "java/lang/NullPointerException" (20 : Nat) "java/lang/NullPointerException" "extendedMessage" "Ljava/lang/String;") ∈ lw_all := lw_g (lw_at lw_m3 219 rfl) rfl
theorem q778 : (Jvm.Cond.lays "java/lang/NullPointerException" "java/lang/NullPointerException" "extendedMessageState" "I") ∈ lw_all := lw_g (lw_at lw_m3 220 rfl) rfl
theorem q779 : (Jvm.Cond.soleField "java/lang/NullPointerException" "extendedMessageState") ∈ lw_all := lw_g (lw_at lw_m3 221 rfl) rfl
theorem q780 : (Jvm.Cond.lays "java/lang/NullPointerException" "java/lang/NullPointerException" "extendedMessage" "Ljava/lang/String;") ∈ lw_all := lw_g (lw_at lw_m3 222 rfl) rfl
theorem q781 : (Jvm.Cond.soleField "java/lang/NullPointerException" "extendedMessage") ∈ lw_all := lw_g (lw_at lw_m3 223 rfl) rfl
theorem q782 : (Jvm.Cond.lays "java/lang/NullPointerException" "java/lang/Throwable" "backtrace" "Ljava/lang/Object;") ∈ lw_all := lw_g (lw_at lw_m3 224 rfl) rfl
theorem q783 : (Jvm.Cond.lays "java/lang/NullPointerException" "java/lang/Throwable" "detailMessage" "Ljava/lang/String;") ∈ lw_all := lw_g (lw_at lw_m3 225 rfl) rfl
theorem q784 : (Jvm.Cond.lays "java/lang/NullPointerException" "java/lang/Throwable" "cause" "Ljava/lang/Throwable;") ∈ lw_all := lw_g (lw_at lw_m3 226 rfl) rfl
theorem q785 : (Jvm.Cond.lays "java/lang/NullPointerException" "java/lang/Throwable" "stackTrace" "[Ljava/lang/StackTraceElement;") ∈ lw_all := lw_g (lw_at lw_m3 227 rfl) rfl
theorem q786 : (Jvm.Cond.lays "java/lang/NullPointerException" "java/lang/Throwable" "depth" "I") ∈ lw_all := lw_g (lw_at lw_m3 228 rfl) rfl
theorem q787 : (Jvm.Cond.lays "java/lang/NullPointerException" "java/lang/Throwable" "suppressedExceptions" "Ljava/util/List;") ∈ lw_all := lw_g (lw_at lw_m3 229 rfl) rfl
theorem q788 : (Jvm.Cond.castable "java/lang/NullPointerException" "java/lang/NullPointerException") ∈ lw_tbl := lw_at lw_m3 230 rfl
theorem q789 : (Jvm.Cond.selects "java/lang/NullPointerException" ({ cls := "java/lang/Throwable", name := "fillInStackTrace", desc := "(I)Ljava/lang/Throwable;" } : Jvm.MethodName) ({ cls := "java/lang/Throwable", name := "fillInStackTrace", desc := "(I)Ljava/lang/Throwable;" } : Jvm.MethodName)) ∈ lw_all := lw_g (lw_at lw_m3 231 rfl) rfl
theorem in_J4 : ∀ w ∈ wsJ40, w ∈ lw_all := lw_in wsJ40 [782, 783, 784, 785, 786, 787, 778, 780] (by decide +kernel) (by decide +kernel)

/-! java/lang/ClassCastException -/
set_option maxRecDepth 100000
def RJ5 : String := "java/lang/ClassCastException"
def TJ5 : u_T := fun k => match k with
  | 0 => ("java/lang/Throwable", "backtrace", "Ljava/lang/Object;", false)
  | 1 => ("java/lang/Throwable", "detailMessage", "Ljava/lang/String;", false)
  | 2 => ("java/lang/Throwable", "cause", "Ljava/lang/Throwable;", false)
  | 3 => ("java/lang/Throwable", "stackTrace", "[Ljava/lang/StackTraceElement;", false)
  | 4 => ("java/lang/Throwable", "depth", "I", false)
  | _ => ("java/lang/Throwable", "suppressedExceptions", "Ljava/util/List;", false)
def tyJ5 : Nat → FieldType := fun k => match k with
  | 0 => .object "java/lang/Object"
  | 1 => .object "java/lang/String"
  | 2 => .object "java/lang/Throwable"
  | 3 => .array (.object "java/lang/StackTraceElement")
  | 4 => .int
  | _ => .object "java/util/List"
abbrev wsJ50 : List Cond := u_ws RJ5 TJ5 6
theorem nmJ5 : ∀ a, a < 6 → ∀ b, b < 6 → a ≠ b → (TJ5 a).2.1 ≠ (TJ5 b).2.1 := by decide +kernel
theorem tyJ5_ok : ∀ k, k < 6 → parseFieldDescriptor (TJ5 k).2.2.1 = some (tyJ5 k) := by decide +kernel
abbrev cJ5_init : ByteArray := prog_20_method_2_code
def yJ5_init : MethodName := ⟨RJ5, "<init>", "(Ljava/lang/String;)V"⟩
def dkwJ5_init_0 : List UInt8 := [42, 43, 183, 0, 7, 177]
abbrev dktJ5_init_0 : List UInt8 := dkwJ5_init_0 ++ []
theorem dksJ5_init_0 : cJ5_init.data.toList.drop 0 = dktJ5_init_0 := by decide +kernel
theorem dJ5_init_0 : decode cJ5_init 0 = .ok (.aload_n 0, 1) := dk_42 (dk_at dksJ5_init_0 0 rfl rfl)
theorem dJ5_init_1 : decode cJ5_init 1 = .ok (.aload_n 1, 1) := dk_43 (dk_at dksJ5_init_0 1 rfl rfl)
theorem dJ5_init_2 : decode cJ5_init 2 = .ok (.invokespecial 7, 3) := dk_183 0 7 (dk_at dksJ5_init_0 2 rfl rfl)
theorem dJ5_init_5 : decode cJ5_init 5 = .ok (.return_, 1) := dk_177 (dk_at dksJ5_init_0 5 rfl rfl)
theorem q99 : (Jvm.Cond.initialized "java/lang/ClassCastException") ∈ lw_all := lw_g (lw_at lw_m1 21 rfl) rfl
theorem q658 : (Jvm.Cond.selects "java/lang/ClassCastException" ({ cls := "java/lang/Throwable", name := "fillInStackTrace", desc := "()Ljava/lang/Throwable;" } : Jvm.MethodName) ({ cls := "java/lang/Throwable", name := "fillInStackTrace", desc := "()Ljava/lang/Throwable;" } : Jvm.MethodName)) ∈ lw_all := lw_g (lw_at lw_m3 100 rfl) rfl
theorem q792 : (Jvm.Cond.instantiable "java/lang/ClassCastException" (6 : Nat)) ∈ lw_all := lw_g (lw_at lw_m3 234 rfl) rfl
theorem q793 : (Jvm.Cond.instanceMethod ({ cls := "java/lang/ClassCastException", name := "<init>", desc := "(Ljava/lang/String;)V" } : Jvm.MethodName)) ∈ lw_all := lw_g (lw_at lw_m3 235 rfl) rfl
theorem q794 : (Jvm.Cond.code ({ cls := "java/lang/ClassCastException", name := "<init>", desc := "(Ljava/lang/String;)V" } : Jvm.MethodName) prog_20_method_2_code (2 : Nat) (Option.none : Option Jvm.ClassFile.FieldType)) ∈ lw_all := lw_g (lw_at lw_m3 236 rfl) rfl
theorem q795 : (Jvm.Cond.methodLink "java/lang/ClassCastException" (7 : Nat) ({ cls := "java/lang/RuntimeException", name := "<init>", desc := "(Ljava/lang/String;)V" } : Jvm.MethodName)) ∈ lw_all := lw_g (lw_at lw_m3 237 rfl) rfl
theorem q804 : (Jvm.Cond.lays "java/lang/ClassCastException" "java/lang/Throwable" "backtrace" "Ljava/lang/Object;") ∈ lw_all := lw_g (lw_at lw_m4 6 rfl) rfl
theorem q805 : (Jvm.Cond.lays "java/lang/ClassCastException" "java/lang/Throwable" "detailMessage" "Ljava/lang/String;") ∈ lw_all := lw_g (lw_at lw_m4 7 rfl) rfl
theorem q806 : (Jvm.Cond.lays "java/lang/ClassCastException" "java/lang/Throwable" "cause" "Ljava/lang/Throwable;") ∈ lw_all := lw_g (lw_at lw_m4 8 rfl) rfl
theorem q807 : (Jvm.Cond.lays "java/lang/ClassCastException" "java/lang/Throwable" "stackTrace" "[Ljava/lang/StackTraceElement;") ∈ lw_all := lw_g (lw_at lw_m4 9 rfl) rfl
theorem q808 : (Jvm.Cond.lays "java/lang/ClassCastException" "java/lang/Throwable" "depth" "I") ∈ lw_all := lw_g (lw_at lw_m4 10 rfl) rfl
theorem q809 : (Jvm.Cond.lays "java/lang/ClassCastException" "java/lang/Throwable" "suppressedExceptions" "Ljava/util/List;") ∈ lw_all := lw_g (lw_at lw_m4 11 rfl) rfl
theorem q810 : (Jvm.Cond.superclass "java/lang/ClassCastException" "java/lang/RuntimeException") ∈ lw_all := lw_g (lw_at lw_m4 12 rfl) rfl
theorem q811 : (Jvm.Cond.castable "java/lang/ClassCastException" "java/lang/ClassCastException") ∈ lw_tbl := lw_at lw_m4 13 rfl
theorem q812 : (Jvm.Cond.selects "java/lang/ClassCastException" ({ cls := "java/lang/Throwable", name := "fillInStackTrace", desc := "(I)Ljava/lang/Throwable;" } : Jvm.MethodName) ({ cls := "java/lang/Throwable", name := "fillInStackTrace", desc := "(I)Ljava/lang/Throwable;" } : Jvm.MethodName)) ∈ lw_all := lw_g (lw_at lw_m4 14 rfl) rfl
theorem in_J5 : ∀ w ∈ wsJ50, w ∈ lw_all := lw_in wsJ50 [804, 805, 806, 807, 808, 809] (by decide +kernel) (by decide +kernel)

/-! java/lang/String -/
set_option maxRecDepth 100000
def RJ6 : String := "java/lang/String"
def TJ6 : u_T := fun k => match k with
  | 0 => ("java/lang/String", "value", "[B", true)
  | _ => ("java/lang/String", "coder", "B", true)
def tyJ6 : Nat → FieldType := fun k => match k with
  | 0 => .array .byte
  | _ => .byte
abbrev wsJ60 : List Cond := u_ws RJ6 TJ6 2
theorem nmJ6 : ∀ a, a < 2 → ∀ b, b < 2 → a ≠ b → (TJ6 a).2.1 ≠ (TJ6 b).2.1 := by decide +kernel
theorem tyJ6_ok : ∀ k, k < 2 → parseFieldDescriptor (TJ6 k).2.2.1 = some (tyJ6 k) := by decide +kernel
theorem q100 : (Jvm.Cond.initialized "java/lang/String") ∈ lw_all := lw_g (lw_at lw_m1 22 rfl) rfl
theorem q813 : (Jvm.Cond.instantiable "java/lang/String" (4 : Nat)) ∈ lw_all := lw_g (lw_at lw_m4 15 rfl) rfl
theorem q814 : (Jvm.Cond.laysFinal "java/lang/String" "java/lang/String" "value" "[B") ∈ lw_all := lw_g (lw_at lw_m4 16 rfl) rfl
theorem q815 : (Jvm.Cond.soleField "java/lang/String" "value") ∈ lw_all := lw_g (lw_at lw_m4 17 rfl) rfl
theorem q816 : (Jvm.Cond.laysFinal "java/lang/String" "java/lang/String" "coder" "B") ∈ lw_all := lw_g (lw_at lw_m4 18 rfl) rfl
theorem q817 : (Jvm.Cond.soleField "java/lang/String" "coder") ∈ lw_all := lw_g (lw_at lw_m4 19 rfl) rfl
theorem in_J6 : ∀ w ∈ wsJ60, w ∈ lw_all := lw_in wsJ60 [814, 816] (by decide +kernel) (by decide +kernel)

/-! java/lang/Integer -/
set_option maxRecDepth 100000
def RJ7 : String := "java/lang/Integer"
abbrev cJ7_bitCount : ByteArray := prog_23_method_49_code
def yJ7_bitCount : MethodName := ⟨RJ7, "bitCount", "(I)I"⟩
def dkwJ7_bitCount_2 : List UInt8 := [26, 16, 63, 126, 172]
abbrev dktJ7_bitCount_2 : List UInt8 := dkwJ7_bitCount_2 ++ []
def dkwJ7_bitCount_1 : List UInt8 := [26, 26, 7, 124, 96, 19, 1, 11, 126, 59, 26, 26, 16, 8, 124, 96, 59, 26, 26, 16, 16, 124, 96, 59]
abbrev dktJ7_bitCount_1 : List UInt8 := dkwJ7_bitCount_1 ++ dktJ7_bitCount_2
def dkwJ7_bitCount_0 : List UInt8 := [26, 26, 4, 124, 19, 1, 9, 126, 100, 59, 26, 19, 1, 10, 126, 26, 5, 124, 19, 1, 10, 126, 96, 59]
abbrev dktJ7_bitCount_0 : List UInt8 := dkwJ7_bitCount_0 ++ dktJ7_bitCount_1
theorem dksJ7_bitCount_0 : cJ7_bitCount.data.toList.drop 0 = dktJ7_bitCount_0 := by decide +kernel
theorem dksJ7_bitCount_1 : cJ7_bitCount.data.toList.drop 24 = dktJ7_bitCount_1 := dk_seg dksJ7_bitCount_0 24 rfl rfl
theorem dksJ7_bitCount_2 : cJ7_bitCount.data.toList.drop 48 = dktJ7_bitCount_2 := dk_seg dksJ7_bitCount_1 24 rfl rfl
theorem dJ7_bitCount_0 : decode cJ7_bitCount 0 = .ok (.iload_n 0, 1) := dk_26 (dk_at dksJ7_bitCount_0 0 rfl rfl)
theorem dJ7_bitCount_1 : decode cJ7_bitCount 1 = .ok (.iload_n 0, 1) := dk_26 (dk_at dksJ7_bitCount_0 1 rfl rfl)
theorem dJ7_bitCount_2 : decode cJ7_bitCount 2 = .ok (.iconst 1, 1) := dk_4 (dk_at dksJ7_bitCount_0 2 rfl rfl)
theorem dJ7_bitCount_3 : decode cJ7_bitCount 3 = .ok (.iushr, 1) := dk_124 (dk_at dksJ7_bitCount_0 3 rfl rfl)
theorem dJ7_bitCount_4 : decode cJ7_bitCount 4 = .ok (.ldc_w 265, 3) := dk_19 1 9 (dk_at dksJ7_bitCount_0 4 rfl rfl)
theorem dJ7_bitCount_7 : decode cJ7_bitCount 7 = .ok (.iand, 1) := dk_126 (dk_at dksJ7_bitCount_0 7 rfl rfl)
theorem dJ7_bitCount_8 : decode cJ7_bitCount 8 = .ok (.isub, 1) := dk_100 (dk_at dksJ7_bitCount_0 8 rfl rfl)
theorem dJ7_bitCount_9 : decode cJ7_bitCount 9 = .ok (.istore_n 0, 1) := dk_59 (dk_at dksJ7_bitCount_0 9 rfl rfl)
theorem dJ7_bitCount_10 : decode cJ7_bitCount 10 = .ok (.iload_n 0, 1) := dk_26 (dk_at dksJ7_bitCount_0 10 rfl rfl)
theorem dJ7_bitCount_11 : decode cJ7_bitCount 11 = .ok (.ldc_w 266, 3) := dk_19 1 10 (dk_at dksJ7_bitCount_0 11 rfl rfl)
theorem dJ7_bitCount_14 : decode cJ7_bitCount 14 = .ok (.iand, 1) := dk_126 (dk_at dksJ7_bitCount_0 14 rfl rfl)
theorem dJ7_bitCount_15 : decode cJ7_bitCount 15 = .ok (.iload_n 0, 1) := dk_26 (dk_at dksJ7_bitCount_0 15 rfl rfl)
theorem dJ7_bitCount_16 : decode cJ7_bitCount 16 = .ok (.iconst 2, 1) := dk_5 (dk_at dksJ7_bitCount_0 16 rfl rfl)
theorem dJ7_bitCount_17 : decode cJ7_bitCount 17 = .ok (.iushr, 1) := dk_124 (dk_at dksJ7_bitCount_0 17 rfl rfl)
theorem dJ7_bitCount_18 : decode cJ7_bitCount 18 = .ok (.ldc_w 266, 3) := dk_19 1 10 (dk_at dksJ7_bitCount_0 18 rfl rfl)
theorem dJ7_bitCount_21 : decode cJ7_bitCount 21 = .ok (.iand, 1) := dk_126 (dk_at dksJ7_bitCount_0 21 rfl rfl)
theorem dJ7_bitCount_22 : decode cJ7_bitCount 22 = .ok (.iadd, 1) := dk_96 (dk_at dksJ7_bitCount_0 22 rfl rfl)
theorem dJ7_bitCount_23 : decode cJ7_bitCount 23 = .ok (.istore_n 0, 1) := dk_59 (dk_at dksJ7_bitCount_0 23 rfl rfl)
theorem dJ7_bitCount_24 : decode cJ7_bitCount 24 = .ok (.iload_n 0, 1) := dk_26 (dk_at dksJ7_bitCount_1 0 rfl rfl)
theorem dJ7_bitCount_25 : decode cJ7_bitCount 25 = .ok (.iload_n 0, 1) := dk_26 (dk_at dksJ7_bitCount_1 1 rfl rfl)
theorem dJ7_bitCount_26 : decode cJ7_bitCount 26 = .ok (.iconst 4, 1) := dk_7 (dk_at dksJ7_bitCount_1 2 rfl rfl)
theorem dJ7_bitCount_27 : decode cJ7_bitCount 27 = .ok (.iushr, 1) := dk_124 (dk_at dksJ7_bitCount_1 3 rfl rfl)
theorem dJ7_bitCount_28 : decode cJ7_bitCount 28 = .ok (.iadd, 1) := dk_96 (dk_at dksJ7_bitCount_1 4 rfl rfl)
theorem dJ7_bitCount_29 : decode cJ7_bitCount 29 = .ok (.ldc_w 267, 3) := dk_19 1 11 (dk_at dksJ7_bitCount_1 5 rfl rfl)
theorem dJ7_bitCount_32 : decode cJ7_bitCount 32 = .ok (.iand, 1) := dk_126 (dk_at dksJ7_bitCount_1 8 rfl rfl)
theorem dJ7_bitCount_33 : decode cJ7_bitCount 33 = .ok (.istore_n 0, 1) := dk_59 (dk_at dksJ7_bitCount_1 9 rfl rfl)
theorem dJ7_bitCount_34 : decode cJ7_bitCount 34 = .ok (.iload_n 0, 1) := dk_26 (dk_at dksJ7_bitCount_1 10 rfl rfl)
theorem dJ7_bitCount_35 : decode cJ7_bitCount 35 = .ok (.iload_n 0, 1) := dk_26 (dk_at dksJ7_bitCount_1 11 rfl rfl)
theorem dJ7_bitCount_36 : decode cJ7_bitCount 36 = .ok (.bipush 8, 2) := dk_16 8 (dk_at dksJ7_bitCount_1 12 rfl rfl)
theorem dJ7_bitCount_38 : decode cJ7_bitCount 38 = .ok (.iushr, 1) := dk_124 (dk_at dksJ7_bitCount_1 14 rfl rfl)
theorem dJ7_bitCount_39 : decode cJ7_bitCount 39 = .ok (.iadd, 1) := dk_96 (dk_at dksJ7_bitCount_1 15 rfl rfl)
theorem dJ7_bitCount_40 : decode cJ7_bitCount 40 = .ok (.istore_n 0, 1) := dk_59 (dk_at dksJ7_bitCount_1 16 rfl rfl)
theorem dJ7_bitCount_41 : decode cJ7_bitCount 41 = .ok (.iload_n 0, 1) := dk_26 (dk_at dksJ7_bitCount_1 17 rfl rfl)
theorem dJ7_bitCount_42 : decode cJ7_bitCount 42 = .ok (.iload_n 0, 1) := dk_26 (dk_at dksJ7_bitCount_1 18 rfl rfl)
theorem dJ7_bitCount_43 : decode cJ7_bitCount 43 = .ok (.bipush 16, 2) := dk_16 16 (dk_at dksJ7_bitCount_1 19 rfl rfl)
theorem dJ7_bitCount_45 : decode cJ7_bitCount 45 = .ok (.iushr, 1) := dk_124 (dk_at dksJ7_bitCount_1 21 rfl rfl)
theorem dJ7_bitCount_46 : decode cJ7_bitCount 46 = .ok (.iadd, 1) := dk_96 (dk_at dksJ7_bitCount_1 22 rfl rfl)
theorem dJ7_bitCount_47 : decode cJ7_bitCount 47 = .ok (.istore_n 0, 1) := dk_59 (dk_at dksJ7_bitCount_1 23 rfl rfl)
theorem dJ7_bitCount_48 : decode cJ7_bitCount 48 = .ok (.iload_n 0, 1) := dk_26 (dk_at dksJ7_bitCount_2 0 rfl rfl)
theorem dJ7_bitCount_49 : decode cJ7_bitCount 49 = .ok (.bipush 63, 2) := dk_16 63 (dk_at dksJ7_bitCount_2 1 rfl rfl)
theorem dJ7_bitCount_51 : decode cJ7_bitCount 51 = .ok (.iand, 1) := dk_126 (dk_at dksJ7_bitCount_2 3 rfl rfl)
theorem dJ7_bitCount_52 : decode cJ7_bitCount 52 = .ok (.ireturn, 1) := dk_172 (dk_at dksJ7_bitCount_2 4 rfl rfl)
theorem q102 : (Jvm.Cond.initialized "java/lang/Integer") ∈ lw_all := lw_g (lw_at lw_m1 24 rfl) rfl
theorem q880 : (Jvm.Cond.static ({ cls := "java/lang/Integer", name := "bitCount", desc := "(I)I" } : Jvm.MethodName)) ∈ lw_all := lw_g (lw_at lw_m4 82 rfl) rfl
theorem q881 : (Jvm.Cond.code ({ cls := "java/lang/Integer", name := "bitCount", desc := "(I)I" } : Jvm.MethodName) prog_23_method_49_code (1 : Nat) (Option.some Jvm.ClassFile.FieldType.int)) ∈ lw_all := lw_g (lw_at lw_m4 83 rfl) rfl
theorem q882 : (Jvm.Cond.constant "java/lang/Integer" (265 : Nat) (1431655765 : Int32)) ∈ lw_all := lw_g (lw_at lw_m4 84 rfl) rfl
theorem q883 : (Jvm.Cond.constant "java/lang/Integer" (266 : Nat) (858993459 : Int32)) ∈ lw_all := lw_g (lw_at lw_m4 85 rfl) rfl
theorem q884 : (Jvm.Cond.constant "java/lang/Integer" (267 : Nat) (252645135 : Int32)) ∈ lw_all := lw_g (lw_at lw_m4 86 rfl) rfl

/-! java/lang/NegativeArraySizeException -/
set_option maxRecDepth 100000
def RJ8 : String := "java/lang/NegativeArraySizeException"
def TJ8 : u_T := fun k => match k with
  | 0 => ("java/lang/Throwable", "backtrace", "Ljava/lang/Object;", false)
  | 1 => ("java/lang/Throwable", "detailMessage", "Ljava/lang/String;", false)
  | 2 => ("java/lang/Throwable", "cause", "Ljava/lang/Throwable;", false)
  | 3 => ("java/lang/Throwable", "stackTrace", "[Ljava/lang/StackTraceElement;", false)
  | 4 => ("java/lang/Throwable", "depth", "I", false)
  | _ => ("java/lang/Throwable", "suppressedExceptions", "Ljava/util/List;", false)
def tyJ8 : Nat → FieldType := fun k => match k with
  | 0 => .object "java/lang/Object"
  | 1 => .object "java/lang/String"
  | 2 => .object "java/lang/Throwable"
  | 3 => .array (.object "java/lang/StackTraceElement")
  | 4 => .int
  | _ => .object "java/util/List"
abbrev wsJ80 : List Cond := u_ws RJ8 TJ8 6
theorem nmJ8 : ∀ a, a < 6 → ∀ b, b < 6 → a ≠ b → (TJ8 a).2.1 ≠ (TJ8 b).2.1 := by decide +kernel
theorem tyJ8_ok : ∀ k, k < 6 → parseFieldDescriptor (TJ8 k).2.2.1 = some (tyJ8 k) := by decide +kernel
abbrev cJ8_init : ByteArray := prog_25_method_2_code
def yJ8_init : MethodName := ⟨RJ8, "<init>", "(Ljava/lang/String;)V"⟩
def dkwJ8_init_0 : List UInt8 := [42, 43, 183, 0, 7, 177]
abbrev dktJ8_init_0 : List UInt8 := dkwJ8_init_0 ++ []
theorem dksJ8_init_0 : cJ8_init.data.toList.drop 0 = dktJ8_init_0 := by decide +kernel
theorem dJ8_init_0 : decode cJ8_init 0 = .ok (.aload_n 0, 1) := dk_42 (dk_at dksJ8_init_0 0 rfl rfl)
theorem dJ8_init_1 : decode cJ8_init 1 = .ok (.aload_n 1, 1) := dk_43 (dk_at dksJ8_init_0 1 rfl rfl)
theorem dJ8_init_2 : decode cJ8_init 2 = .ok (.invokespecial 7, 3) := dk_183 0 7 (dk_at dksJ8_init_0 2 rfl rfl)
theorem dJ8_init_5 : decode cJ8_init 5 = .ok (.return_, 1) := dk_177 (dk_at dksJ8_init_0 5 rfl rfl)
theorem q103 : (Jvm.Cond.initialized "java/lang/NegativeArraySizeException") ∈ lw_all := lw_g (lw_at lw_m1 25 rfl) rfl
theorem q659 : (Jvm.Cond.selects "java/lang/NegativeArraySizeException" ({ cls := "java/lang/Throwable", name := "fillInStackTrace", desc := "()Ljava/lang/Throwable;" } : Jvm.MethodName) ({ cls := "java/lang/Throwable", name := "fillInStackTrace", desc := "()Ljava/lang/Throwable;" } : Jvm.MethodName)) ∈ lw_all := lw_g (lw_at lw_m3 101 rfl) rfl
theorem q1013 : (Jvm.Cond.instantiable "java/lang/NegativeArraySizeException" (6 : Nat)) ∈ lw_all := lw_g (lw_at lw_m4 215 rfl) rfl
theorem q1014 : (Jvm.Cond.instanceMethod ({ cls := "java/lang/NegativeArraySizeException", name := "<init>", desc := "(Ljava/lang/String;)V" } : Jvm.MethodName)) ∈ lw_all := lw_g (lw_at lw_m4 216 rfl) rfl
theorem q1015 : (Jvm.Cond.code ({ cls := "java/lang/NegativeArraySizeException", name := "<init>", desc := "(Ljava/lang/String;)V" } : Jvm.MethodName) prog_25_method_2_code (2 : Nat) (Option.none : Option Jvm.ClassFile.FieldType)) ∈ lw_all := lw_g (lw_at lw_m4 217 rfl) rfl
theorem q1016 : (Jvm.Cond.methodLink "java/lang/NegativeArraySizeException" (7 : Nat) ({ cls := "java/lang/RuntimeException", name := "<init>", desc := "(Ljava/lang/String;)V" } : Jvm.MethodName)) ∈ lw_all := lw_g (lw_at lw_m4 218 rfl) rfl
theorem q1017 : (Jvm.Cond.lays "java/lang/NegativeArraySizeException" "java/lang/Throwable" "backtrace" "Ljava/lang/Object;") ∈ lw_all := lw_g (lw_at lw_m4 219 rfl) rfl
theorem q1018 : (Jvm.Cond.lays "java/lang/NegativeArraySizeException" "java/lang/Throwable" "detailMessage" "Ljava/lang/String;") ∈ lw_all := lw_g (lw_at lw_m4 220 rfl) rfl
theorem q1019 : (Jvm.Cond.lays "java/lang/NegativeArraySizeException" "java/lang/Throwable" "cause" "Ljava/lang/Throwable;") ∈ lw_all := lw_g (lw_at lw_m4 221 rfl) rfl
theorem q1020 : (Jvm.Cond.lays "java/lang/NegativeArraySizeException" "java/lang/Throwable" "stackTrace" "[Ljava/lang/StackTraceElement;") ∈ lw_all := lw_g (lw_at lw_m4 222 rfl) rfl
theorem q1021 : (Jvm.Cond.lays "java/lang/NegativeArraySizeException" "java/lang/Throwable" "depth" "I") ∈ lw_all := lw_g (lw_at lw_m4 223 rfl) rfl
theorem q1022 : (Jvm.Cond.lays "java/lang/NegativeArraySizeException" "java/lang/Throwable" "suppressedExceptions" "Ljava/util/List;") ∈ lw_all := lw_g (lw_at lw_m4 224 rfl) rfl
theorem q1023 : (Jvm.Cond.superclass "java/lang/NegativeArraySizeException" "java/lang/RuntimeException") ∈ lw_all := lw_g (lw_at lw_m4 225 rfl) rfl
theorem q1024 : (Jvm.Cond.castable "java/lang/NegativeArraySizeException" "java/lang/NegativeArraySizeException") ∈ lw_tbl := lw_at lw_m4 226 rfl
theorem q1025 : (Jvm.Cond.selects "java/lang/NegativeArraySizeException" ({ cls := "java/lang/Throwable", name := "fillInStackTrace", desc := "(I)Ljava/lang/Throwable;" } : Jvm.MethodName) ({ cls := "java/lang/Throwable", name := "fillInStackTrace", desc := "(I)Ljava/lang/Throwable;" } : Jvm.MethodName)) ∈ lw_all := lw_g (lw_at lw_m4 227 rfl) rfl
theorem in_J8 : ∀ w ∈ wsJ80, w ∈ lw_all := lw_in wsJ80 [1017, 1018, 1019, 1020, 1021, 1022] (by decide +kernel) (by decide +kernel)

/-! java/lang/ArrayStoreException -/
set_option maxRecDepth 100000
def RJ9 : String := "java/lang/ArrayStoreException"
def TJ9 : u_T := fun k => match k with
  | 0 => ("java/lang/Throwable", "backtrace", "Ljava/lang/Object;", false)
  | 1 => ("java/lang/Throwable", "detailMessage", "Ljava/lang/String;", false)
  | 2 => ("java/lang/Throwable", "cause", "Ljava/lang/Throwable;", false)
  | 3 => ("java/lang/Throwable", "stackTrace", "[Ljava/lang/StackTraceElement;", false)
  | 4 => ("java/lang/Throwable", "depth", "I", false)
  | _ => ("java/lang/Throwable", "suppressedExceptions", "Ljava/util/List;", false)
def tyJ9 : Nat → FieldType := fun k => match k with
  | 0 => .object "java/lang/Object"
  | 1 => .object "java/lang/String"
  | 2 => .object "java/lang/Throwable"
  | 3 => .array (.object "java/lang/StackTraceElement")
  | 4 => .int
  | _ => .object "java/util/List"
abbrev wsJ90 : List Cond := u_ws RJ9 TJ9 6
theorem nmJ9 : ∀ a, a < 6 → ∀ b, b < 6 → a ≠ b → (TJ9 a).2.1 ≠ (TJ9 b).2.1 := by decide +kernel
theorem tyJ9_ok : ∀ k, k < 6 → parseFieldDescriptor (TJ9 k).2.2.1 = some (tyJ9 k) := by decide +kernel
abbrev cJ9_init : ByteArray := prog_19_method_2_code
def yJ9_init : MethodName := ⟨RJ9, "<init>", "(Ljava/lang/String;)V"⟩
def dkwJ9_init_0 : List UInt8 := [42, 43, 183, 0, 7, 177]
abbrev dktJ9_init_0 : List UInt8 := dkwJ9_init_0 ++ []
theorem dksJ9_init_0 : cJ9_init.data.toList.drop 0 = dktJ9_init_0 := by decide +kernel
theorem dJ9_init_0 : decode cJ9_init 0 = .ok (.aload_n 0, 1) := dk_42 (dk_at dksJ9_init_0 0 rfl rfl)
theorem dJ9_init_1 : decode cJ9_init 1 = .ok (.aload_n 1, 1) := dk_43 (dk_at dksJ9_init_0 1 rfl rfl)
theorem dJ9_init_2 : decode cJ9_init 2 = .ok (.invokespecial 7, 3) := dk_183 0 7 (dk_at dksJ9_init_0 2 rfl rfl)
theorem dJ9_init_5 : decode cJ9_init 5 = .ok (.return_, 1) := dk_177 (dk_at dksJ9_init_0 5 rfl rfl)
theorem q104 : (Jvm.Cond.initialized "java/lang/ArrayStoreException") ∈ lw_all := lw_g (lw_at lw_m1 26 rfl) rfl
theorem q657 : (Jvm.Cond.selects "java/lang/ArrayStoreException" ({ cls := "java/lang/Throwable", name := "fillInStackTrace", desc := "()Ljava/lang/Throwable;" } : Jvm.MethodName) ({ cls := "java/lang/Throwable", name := "fillInStackTrace", desc := "()Ljava/lang/Throwable;" } : Jvm.MethodName)) ∈ lw_all := lw_g (lw_at lw_m3 99 rfl) rfl
theorem q1067 : (Jvm.Cond.instantiable "java/lang/ArrayStoreException" (6 : Nat)) ∈ lw_all := lw_g (lw_at lw_m5 29 rfl) rfl
theorem q1068 : (Jvm.Cond.instanceMethod ({ cls := "java/lang/ArrayStoreException", name := "<init>", desc := "(Ljava/lang/String;)V" } : Jvm.MethodName)) ∈ lw_all := lw_g (lw_at lw_m5 30 rfl) rfl
theorem q1069 : (Jvm.Cond.code ({ cls := "java/lang/ArrayStoreException", name := "<init>", desc := "(Ljava/lang/String;)V" } : Jvm.MethodName) prog_19_method_2_code (2 : Nat) (Option.none : Option Jvm.ClassFile.FieldType)) ∈ lw_all := lw_g (lw_at lw_m5 31 rfl) rfl
theorem q1070 : (Jvm.Cond.methodLink "java/lang/ArrayStoreException" (7 : Nat) ({ cls := "java/lang/RuntimeException", name := "<init>", desc := "(Ljava/lang/String;)V" } : Jvm.MethodName)) ∈ lw_all := lw_g (lw_at lw_m5 32 rfl) rfl
theorem q1071 : (Jvm.Cond.lays "java/lang/ArrayStoreException" "java/lang/Throwable" "backtrace" "Ljava/lang/Object;") ∈ lw_all := lw_g (lw_at lw_m5 33 rfl) rfl
theorem q1072 : (Jvm.Cond.lays "java/lang/ArrayStoreException" "java/lang/Throwable" "detailMessage" "Ljava/lang/String;") ∈ lw_all := lw_g (lw_at lw_m5 34 rfl) rfl
theorem q1073 : (Jvm.Cond.lays "java/lang/ArrayStoreException" "java/lang/Throwable" "cause" "Ljava/lang/Throwable;") ∈ lw_all := lw_g (lw_at lw_m5 35 rfl) rfl
theorem q1074 : (Jvm.Cond.lays "java/lang/ArrayStoreException" "java/lang/Throwable" "stackTrace" "[Ljava/lang/StackTraceElement;") ∈ lw_all := lw_g (lw_at lw_m5 36 rfl) rfl
theorem q1075 : (Jvm.Cond.lays "java/lang/ArrayStoreException" "java/lang/Throwable" "depth" "I") ∈ lw_all := lw_g (lw_at lw_m5 37 rfl) rfl
theorem q1076 : (Jvm.Cond.lays "java/lang/ArrayStoreException" "java/lang/Throwable" "suppressedExceptions" "Ljava/util/List;") ∈ lw_all := lw_g (lw_at lw_m5 38 rfl) rfl
theorem q1077 : (Jvm.Cond.superclass "java/lang/ArrayStoreException" "java/lang/RuntimeException") ∈ lw_all := lw_g (lw_at lw_m5 39 rfl) rfl
theorem q1078 : (Jvm.Cond.castable "java/lang/ArrayStoreException" "java/lang/ArrayStoreException") ∈ lw_tbl := lw_at lw_m5 40 rfl
theorem q1079 : (Jvm.Cond.selects "java/lang/ArrayStoreException" ({ cls := "java/lang/Throwable", name := "fillInStackTrace", desc := "(I)Ljava/lang/Throwable;" } : Jvm.MethodName) ({ cls := "java/lang/Throwable", name := "fillInStackTrace", desc := "(I)Ljava/lang/Throwable;" } : Jvm.MethodName)) ∈ lw_all := lw_g (lw_at lw_m5 41 rfl) rfl
theorem in_J9 : ∀ w ∈ wsJ90, w ∈ lw_all := lw_in wsJ90 [1071, 1072, 1073, 1074, 1075, 1076] (by decide +kernel) (by decide +kernel)

/-! java/lang/IndexOutOfBoundsException -/
set_option maxRecDepth 100000
def RJ10 : String := "java/lang/IndexOutOfBoundsException"
abbrev cJ10_init : ByteArray := prog_22_method_2_code
def yJ10_init : MethodName := ⟨RJ10, "<init>", "(Ljava/lang/String;)V"⟩
def dkwJ10_init_0 : List UInt8 := [42, 43, 183, 0, 7, 177]
abbrev dktJ10_init_0 : List UInt8 := dkwJ10_init_0 ++ []
theorem dksJ10_init_0 : cJ10_init.data.toList.drop 0 = dktJ10_init_0 := by decide +kernel
theorem dJ10_init_0 : decode cJ10_init 0 = .ok (.aload_n 0, 1) := dk_42 (dk_at dksJ10_init_0 0 rfl rfl)
theorem dJ10_init_1 : decode cJ10_init 1 = .ok (.aload_n 1, 1) := dk_43 (dk_at dksJ10_init_0 1 rfl rfl)
theorem dJ10_init_2 : decode cJ10_init 2 = .ok (.invokespecial 7, 3) := dk_183 0 7 (dk_at dksJ10_init_0 2 rfl rfl)
theorem dJ10_init_5 : decode cJ10_init 5 = .ok (.return_, 1) := dk_177 (dk_at dksJ10_init_0 5 rfl rfl)
theorem q105 : (Jvm.Cond.initialized "java/lang/IndexOutOfBoundsException") ∈ lw_all := lw_g (lw_at lw_m1 27 rfl) rfl
theorem q1085 : (Jvm.Cond.instanceMethod ({ cls := "java/lang/IndexOutOfBoundsException", name := "<init>", desc := "(Ljava/lang/String;)V" } : Jvm.MethodName)) ∈ lw_all := lw_g (lw_at lw_m5 47 rfl) rfl
theorem q1086 : (Jvm.Cond.code ({ cls := "java/lang/IndexOutOfBoundsException", name := "<init>", desc := "(Ljava/lang/String;)V" } : Jvm.MethodName) prog_22_method_2_code (2 : Nat) (Option.none : Option Jvm.ClassFile.FieldType)) ∈ lw_all := lw_g (lw_at lw_m5 48 rfl) rfl
theorem q1087 : (Jvm.Cond.methodLink "java/lang/IndexOutOfBoundsException" (7 : Nat) ({ cls := "java/lang/RuntimeException", name := "<init>", desc := "(Ljava/lang/String;)V" } : Jvm.MethodName)) ∈ lw_all := lw_g (lw_at lw_m5 49 rfl) rfl
theorem q1096 : (Jvm.Cond.declares ({ cls := "java/lang/IndexOutOfBoundsException", name := "<init>", desc := "()V" } : Jvm.MethodName)) ∈ lw_tbl := lw_at lw_m5 58 rfl
theorem q1097 : (Jvm.Cond.declares ({ cls := "java/lang/IndexOutOfBoundsException", name := "<init>", desc := "(Ljava/lang/String;)V" } : Jvm.MethodName)) ∈ lw_tbl := lw_at lw_m5 59 rfl

/-! java/lang/ArrayIndexOutOfBoundsException -/
set_option maxRecDepth 100000
def RJ11 : String := "java/lang/ArrayIndexOutOfBoundsException"
def TJ11 : u_T := fun k => match k with
  | 0 => ("java/lang/Throwable", "backtrace", "Ljava/lang/Object;", false)
  | 1 => ("java/lang/Throwable", "detailMessage", "Ljava/lang/String;", false)
  | 2 => ("java/lang/Throwable", "cause", "Ljava/lang/Throwable;", false)
  | 3 => ("java/lang/Throwable", "stackTrace", "[Ljava/lang/StackTraceElement;", false)
  | 4 => ("java/lang/Throwable", "depth", "I", false)
  | _ => ("java/lang/Throwable", "suppressedExceptions", "Ljava/util/List;", false)
def tyJ11 : Nat → FieldType := fun k => match k with
  | 0 => .object "java/lang/Object"
  | 1 => .object "java/lang/String"
  | 2 => .object "java/lang/Throwable"
  | 3 => .array (.object "java/lang/StackTraceElement")
  | 4 => .int
  | _ => .object "java/util/List"
abbrev wsJ110 : List Cond := u_ws RJ11 TJ11 6
theorem nmJ11 : ∀ a, a < 6 → ∀ b, b < 6 → a ≠ b → (TJ11 a).2.1 ≠ (TJ11 b).2.1 := by decide +kernel
theorem tyJ11_ok : ∀ k, k < 6 → parseFieldDescriptor (TJ11 k).2.2.1 = some (tyJ11 k) := by decide +kernel
abbrev cJ11_init : ByteArray := prog_18_method_2_code
def yJ11_init : MethodName := ⟨RJ11, "<init>", "(Ljava/lang/String;)V"⟩
def dkwJ11_init_0 : List UInt8 := [42, 43, 183, 0, 7, 177]
abbrev dktJ11_init_0 : List UInt8 := dkwJ11_init_0 ++ []
theorem dksJ11_init_0 : cJ11_init.data.toList.drop 0 = dktJ11_init_0 := by decide +kernel
theorem dJ11_init_0 : decode cJ11_init 0 = .ok (.aload_n 0, 1) := dk_42 (dk_at dksJ11_init_0 0 rfl rfl)
theorem dJ11_init_1 : decode cJ11_init 1 = .ok (.aload_n 1, 1) := dk_43 (dk_at dksJ11_init_0 1 rfl rfl)
theorem dJ11_init_2 : decode cJ11_init 2 = .ok (.invokespecial 7, 3) := dk_183 0 7 (dk_at dksJ11_init_0 2 rfl rfl)
theorem dJ11_init_5 : decode cJ11_init 5 = .ok (.return_, 1) := dk_177 (dk_at dksJ11_init_0 5 rfl rfl)
theorem q106 : (Jvm.Cond.initialized "java/lang/ArrayIndexOutOfBoundsException") ∈ lw_all := lw_g (lw_at lw_m1 28 rfl) rfl
theorem q656 : (Jvm.Cond.selects "java/lang/ArrayIndexOutOfBoundsException" ({ cls := "java/lang/Throwable", name := "fillInStackTrace", desc := "()Ljava/lang/Throwable;" } : Jvm.MethodName) ({ cls := "java/lang/Throwable", name := "fillInStackTrace", desc := "()Ljava/lang/Throwable;" } : Jvm.MethodName)) ∈ lw_all := lw_g (lw_at lw_m3 98 rfl) rfl
theorem q1081 : (Jvm.Cond.instantiable "java/lang/ArrayIndexOutOfBoundsException" (6 : Nat)) ∈ lw_all := lw_g (lw_at lw_m5 43 rfl) rfl
theorem q1082 : (Jvm.Cond.instanceMethod ({ cls := "java/lang/ArrayIndexOutOfBoundsException", name := "<init>", desc := "(Ljava/lang/String;)V" } : Jvm.MethodName)) ∈ lw_all := lw_g (lw_at lw_m5 44 rfl) rfl
theorem q1083 : (Jvm.Cond.code ({ cls := "java/lang/ArrayIndexOutOfBoundsException", name := "<init>", desc := "(Ljava/lang/String;)V" } : Jvm.MethodName) prog_18_method_2_code (2 : Nat) (Option.none : Option Jvm.ClassFile.FieldType)) ∈ lw_all := lw_g (lw_at lw_m5 45 rfl) rfl
theorem q1084 : (Jvm.Cond.methodLink "java/lang/ArrayIndexOutOfBoundsException" (7 : Nat) ({ cls := "java/lang/IndexOutOfBoundsException", name := "<init>", desc := "(Ljava/lang/String;)V" } : Jvm.MethodName)) ∈ lw_all := lw_g (lw_at lw_m5 46 rfl) rfl
theorem q1088 : (Jvm.Cond.lays "java/lang/ArrayIndexOutOfBoundsException" "java/lang/Throwable" "backtrace" "Ljava/lang/Object;") ∈ lw_all := lw_g (lw_at lw_m5 50 rfl) rfl
theorem q1089 : (Jvm.Cond.lays "java/lang/ArrayIndexOutOfBoundsException" "java/lang/Throwable" "detailMessage" "Ljava/lang/String;") ∈ lw_all := lw_g (lw_at lw_m5 51 rfl) rfl
theorem q1090 : (Jvm.Cond.lays "java/lang/ArrayIndexOutOfBoundsException" "java/lang/Throwable" "cause" "Ljava/lang/Throwable;") ∈ lw_all := lw_g (lw_at lw_m5 52 rfl) rfl
theorem q1091 : (Jvm.Cond.lays "java/lang/ArrayIndexOutOfBoundsException" "java/lang/Throwable" "stackTrace" "[Ljava/lang/StackTraceElement;") ∈ lw_all := lw_g (lw_at lw_m5 53 rfl) rfl
theorem q1092 : (Jvm.Cond.lays "java/lang/ArrayIndexOutOfBoundsException" "java/lang/Throwable" "depth" "I") ∈ lw_all := lw_g (lw_at lw_m5 54 rfl) rfl
theorem q1093 : (Jvm.Cond.lays "java/lang/ArrayIndexOutOfBoundsException" "java/lang/Throwable" "suppressedExceptions" "Ljava/util/List;") ∈ lw_all := lw_g (lw_at lw_m5 55 rfl) rfl
theorem q1094 : (Jvm.Cond.superclass "java/lang/ArrayIndexOutOfBoundsException" "java/lang/IndexOutOfBoundsException") ∈ lw_all := lw_g (lw_at lw_m5 56 rfl) rfl
theorem q1095 : (Jvm.Cond.castable "java/lang/ArrayIndexOutOfBoundsException" "java/lang/ArrayIndexOutOfBoundsException") ∈ lw_tbl := lw_at lw_m5 57 rfl
theorem q1098 : (Jvm.Cond.selects "java/lang/ArrayIndexOutOfBoundsException" ({ cls := "java/lang/Throwable", name := "fillInStackTrace", desc := "(I)Ljava/lang/Throwable;" } : Jvm.MethodName) ({ cls := "java/lang/Throwable", name := "fillInStackTrace", desc := "(I)Ljava/lang/Throwable;" } : Jvm.MethodName)) ∈ lw_all := lw_g (lw_at lw_m5 60 rfl) rfl
theorem q1618 : (Jvm.Cond.castable "java/lang/ArrayIndexOutOfBoundsException" "java/lang/IndexOutOfBoundsException") ∈ lw_tbl := lw_at lw_m7 100 rfl
theorem in_J11 : ∀ w ∈ wsJ110, w ∈ lw_all := lw_in wsJ110 [1088, 1089, 1090, 1091, 1092, 1093] (by decide +kernel) (by decide +kernel)

/-! java/lang/Object -/
set_option maxRecDepth 100000
def RJ12 : String := "java/lang/Object"
abbrev cJ12_init : ByteArray := object_method_1_code
def yJ12_init : MethodName := ⟨RJ12, "<init>", "()V"⟩
theorem dJ12_init_0 : decode cJ12_init 0 = .ok (.return_, 1) := by decide +kernel
theorem q113 : (Jvm.Cond.instanceMethod ({ cls := "java/lang/Object", name := "<init>", desc := "()V" } : Jvm.MethodName)) ∈ lw_all := lw_g (lw_at lw_m1 35 rfl) rfl
theorem q114 : (Jvm.Cond.code ({ cls := "java/lang/Object", name := "<init>", desc := "()V" } : Jvm.MethodName) object_method_1_code (1 : Nat) (Option.none : Option Jvm.ClassFile.FieldType)) ∈ lw_all := lw_g (lw_at lw_m1 36 rfl) rfl

theorem q78 : (Jvm.Cond.initialized "MaypoleGreenLaw") ∈ lw_all := lw_g (lw_at lw_m1 0 rfl) rfl
set_option maxRecDepth 100000
theorem q107 : (Jvm.Cond.classLink "MaypoleGreenLaw" (7 : Nat) "MaypoleGreen") ∈ lw_all := lw_g (lw_at lw_m1 29 rfl) rfl
theorem q109 : (Jvm.Cond.methodLink "MaypoleGreenLaw" (9 : Nat) ({ cls := "MaypoleGreen", name := "<init>", desc := "()V" } : Jvm.MethodName)) ∈ lw_all := lw_g (lw_at lw_m1 31 rfl) rfl
theorem q239 : (Jvm.Cond.methodLink "MaypoleGreenLaw" (13 : Nat) ({ cls := "MaypoleGreen", name := "person", desc := "(III)I" } : Jvm.MethodName)) ∈ lw_all := lw_g (lw_at lw_m1 161 rfl) rfl
theorem q322 : (Jvm.Cond.methodLink "MaypoleGreenLaw" (18 : Nat) ({ cls := "MaypoleGreen", name := "ring", desc := "(I)I" } : Jvm.MethodName)) ∈ lw_all := lw_g (lw_at lw_m2 4 rfl) rfl
theorem q369 : (Jvm.Cond.methodLink "MaypoleGreenLaw" (23 : Nat) ({ cls := "MaypoleGreen", name := "stand", desc := "(II)I" } : Jvm.MethodName)) ∈ lw_all := lw_g (lw_at lw_m2 51 rfl) rfl
theorem q381 : (Jvm.Cond.methodLink "MaypoleGreenLaw" (28 : Nat) ({ cls := "MaypoleGreen", name := "ribbon", desc := "(III)I" } : Jvm.MethodName)) ∈ lw_all := lw_g (lw_at lw_m2 63 rfl) rfl
theorem q386 : (Jvm.Cond.methodLink "MaypoleGreenLaw" (32 : Nat) ({ cls := "MaypoleGreen", name := "at", desc := "(II)I" } : Jvm.MethodName)) ∈ lw_all := lw_g (lw_at lw_m2 68 rfl) rfl
theorem q390 : (Jvm.Cond.methodLink "MaypoleGreenLaw" (36 : Nat) ({ cls := "MaypoleGreen", name := "begin", desc := "()I" } : Jvm.MethodName)) ∈ lw_all := lw_g (lw_at lw_m2 72 rfl) rfl
theorem q397 : (Jvm.Cond.methodLink "MaypoleGreenLaw" (41 : Nat) ({ cls := "MaypoleGreen", name := "end", desc := "()I" } : Jvm.MethodName)) ∈ lw_all := lw_g (lw_at lw_m2 79 rfl) rfl
theorem q401 : (Jvm.Cond.methodLink "MaypoleGreenLaw" (45 : Nat) ({ cls := "MaypoleGreen", name := "pass", desc := "(II)I" } : Jvm.MethodName)) ∈ lw_all := lw_g (lw_at lw_m2 83 rfl) rfl
theorem q434 : (Jvm.Cond.methodLink "MaypoleGreenLaw" (49 : Nat) ({ cls := "MaypoleGreen", name := "walk", desc := "(I)I" } : Jvm.MethodName)) ∈ lw_all := lw_g (lw_at lw_m2 116 rfl) rfl
theorem q438 : (Jvm.Cond.methodLink "MaypoleGreenLaw" (53 : Nat) ({ cls := "MaypoleGreen", name := "girth", desc := "()I" } : Jvm.MethodName)) ∈ lw_all := lw_g (lw_at lw_m2 120 rfl) rfl
theorem q443 : (Jvm.Cond.methodLink "MaypoleGreenLaw" (57 : Nat) ({ cls := "MaypoleGreen", name := "step", desc := "(I)I" } : Jvm.MethodName)) ∈ lw_all := lw_g (lw_at lw_m2 125 rfl) rfl
theorem q447 : (Jvm.Cond.methodLink "MaypoleGreenLaw" (61 : Nat) ({ cls := "MaypoleGreen", name := "rows", desc := "()I" } : Jvm.MethodName)) ∈ lw_all := lw_g (lw_at lw_m2 129 rfl) rfl
theorem q451 : (Jvm.Cond.methodLink "MaypoleGreenLaw" (65 : Nat) ({ cls := "MaypoleGreen", name := "cloth", desc := "(III)I" } : Jvm.MethodName)) ∈ lw_all := lw_g (lw_at lw_m2 133 rfl) rfl
theorem q460 : (Jvm.Cond.methodLink "MaypoleGreenLaw" (69 : Nat) ({ cls := "MaypoleGreen", name := "beat", desc := "()I" } : Jvm.MethodName)) ∈ lw_all := lw_g (lw_at lw_m2 142 rfl) rfl
theorem q468 : (Jvm.Cond.methodLink "MaypoleGreenLaw" (73 : Nat) ({ cls := "MaypoleGreen", name := "picture", desc := "(III)I" } : Jvm.MethodName)) ∈ lw_all := lw_g (lw_at lw_m2 150 rfl) rfl
theorem q472 : (Jvm.Cond.methodLink "MaypoleGreenLaw" (77 : Nat) ({ cls := "MaypoleGreen", name := "pictureless", desc := "()I" } : Jvm.MethodName)) ∈ lw_all := lw_g (lw_at lw_m2 154 rfl) rfl
theorem q476 : (Jvm.Cond.methodLink "MaypoleGreenLaw" (81 : Nat) ({ cls := "MaypoleGreen", name := "wrong", desc := "()I" } : Jvm.MethodName)) ∈ lw_all := lw_g (lw_at lw_m2 158 rfl) rfl
theorem q484 : (Jvm.Cond.methodLink "MaypoleGreenLaw" (85 : Nat) ({ cls := "MaypoleGreen", name := "colours", desc := "(II)I" } : Jvm.MethodName)) ∈ lw_all := lw_g (lw_at lw_m2 166 rfl) rfl
theorem q488 : (Jvm.Cond.methodLink "MaypoleGreenLaw" (89 : Nat) ({ cls := "MaypoleGreen", name := "form", desc := "(II)I" } : Jvm.MethodName)) ∈ lw_all := lw_g (lw_at lw_m2 170 rfl) rfl
theorem q541 : (Jvm.Cond.methodLink "MaypoleGreenLaw" (93 : Nat) ({ cls := "MaypoleGreen", name := "akin", desc := "(II)I" } : Jvm.MethodName)) ∈ lw_all := lw_g (lw_at lw_m2 223 rfl) rfl
theorem q549 : (Jvm.Cond.methodLink "MaypoleGreenLaw" (97 : Nat) ({ cls := "MaypoleGreen", name := "feed", desc := "(II)I" } : Jvm.MethodName)) ∈ lw_all := lw_g (lw_at lw_m2 231 rfl) rfl
theorem q553 : (Jvm.Cond.methodLink "MaypoleGreenLaw" (101 : Nat) ({ cls := "MaypoleGreen", name := "figure", desc := "()I" } : Jvm.MethodName)) ∈ lw_all := lw_g (lw_at lw_m2 235 rfl) rfl
theorem q735 : (Jvm.Cond.methodLink "MaypoleGreenLaw" (105 : Nat) ({ cls := "MaypoleGreen", name := "told", desc := "(II)I" } : Jvm.MethodName)) ∈ lw_all := lw_g (lw_at lw_m3 177 rfl) rfl
theorem q743 : (Jvm.Cond.methodLink "MaypoleGreenLaw" (109 : Nat) ({ cls := "MaypoleGreen", name := "dance", desc := "(I)I" } : Jvm.MethodName)) ∈ lw_all := lw_g (lw_at lw_m3 185 rfl) rfl
theorem q747 : (Jvm.Cond.methodLink "MaypoleGreenLaw" (113 : Nat) ({ cls := "MaypoleGreen", name := "right", desc := "(I)I" } : Jvm.MethodName)) ∈ lw_all := lw_g (lw_at lw_m3 189 rfl) rfl
theorem q760 : (Jvm.Cond.methodLink "MaypoleGreenLaw" (117 : Nat) ({ cls := "MaypoleGreen", name := "slips", desc := "(II)I" } : Jvm.MethodName)) ∈ lw_all := lw_g (lw_at lw_m3 202 rfl) rfl
theorem q768 : (Jvm.Cond.methodLink "MaypoleGreenLaw" (121 : Nat) ({ cls := "MaypoleGreen", name := "fewest", desc := "(II)I" } : Jvm.MethodName)) ∈ lw_all := lw_g (lw_at lw_m3 210 rfl) rfl
theorem q871 : (Jvm.Cond.methodLink "MaypoleGreenLaw" (125 : Nat) ({ cls := "MaypoleGreen", name := "set", desc := "(II)I" } : Jvm.MethodName)) ∈ lw_all := lw_g (lw_at lw_m4 73 rfl) rfl
theorem q901 : (Jvm.Cond.methodLink "MaypoleGreenLaw" (129 : Nat) ({ cls := "MaypoleGreen", name := "spent", desc := "(II)I" } : Jvm.MethodName)) ∈ lw_all := lw_g (lw_at lw_m4 103 rfl) rfl
theorem q908 : (Jvm.Cond.methodLink "MaypoleGreenLaw" (133 : Nat) ({ cls := "MaypoleGreen", name := "act", desc := "(III)I" } : Jvm.MethodName)) ∈ lw_all := lw_g (lw_at lw_m4 110 rfl) rfl
theorem q973 : (Jvm.Cond.methodLink "MaypoleGreenLaw" (137 : Nat) ({ cls := "MaypoleGreen", name := "trace", desc := "(I)I" } : Jvm.MethodName)) ∈ lw_all := lw_g (lw_at lw_m4 175 rfl) rfl
theorem q980 : (Jvm.Cond.methodLink "MaypoleGreenLaw" (141 : Nat) ({ cls := "MaypoleGreen", name := "taken", desc := "(II)I" } : Jvm.MethodName)) ∈ lw_all := lw_g (lw_at lw_m4 182 rfl) rfl
theorem q1004 : (Jvm.Cond.methodLink "MaypoleGreenLaw" (145 : Nat) ({ cls := "MaypoleGreen", name := "count", desc := "(I)I" } : Jvm.MethodName)) ∈ lw_all := lw_g (lw_at lw_m4 206 rfl) rfl
theorem q1008 : (Jvm.Cond.methodLink "MaypoleGreenLaw" (149 : Nat) ({ cls := "MaypoleGreen", name := "tape", desc := "(III)I" } : Jvm.MethodName)) ∈ lw_all := lw_g (lw_at lw_m4 210 rfl) rfl
theorem q1032 : (Jvm.Cond.methodLink "MaypoleGreenLaw" (153 : Nat) ({ cls := "MaypoleGreen", name := "item", desc := "(III)I" } : Jvm.MethodName)) ∈ lw_all := lw_g (lw_at lw_m4 234 rfl) rfl
theorem q1056 : (Jvm.Cond.methodLink "MaypoleGreenLaw" (157 : Nat) ({ cls := "MaypoleGreen", name := "read", desc := "(II)I" } : Jvm.MethodName)) ∈ lw_all := lw_g (lw_at lw_m5 18 rfl) rfl
theorem q1062 : (Jvm.Cond.methodLink "MaypoleGreenLaw" (161 : Nat) ({ cls := "MaypoleGreen", name := "shift", desc := "(IIIII)I" } : Jvm.MethodName)) ∈ lw_all := lw_g (lw_at lw_m5 24 rfl) rfl
theorem q1099 : (Jvm.Cond.classLink "MaypoleGreenLaw" (10 : Nat) "MaypoleGreenModel") ∈ lw_all := lw_g (lw_at lw_m5 61 rfl) rfl
theorem q1101 : (Jvm.Cond.methodLink "MaypoleGreenLaw" (12 : Nat) ({ cls := "MaypoleGreenModel", name := "<init>", desc := "()V" } : Jvm.MethodName)) ∈ lw_all := lw_g (lw_at lw_m5 63 rfl) rfl
theorem q1289 : (Jvm.Cond.methodLink "MaypoleGreenLaw" (17 : Nat) ({ cls := "MaypoleGreenModel", name := "person", desc := "(III)I" } : Jvm.MethodName)) ∈ lw_all := lw_g (lw_at lw_m6 11 rfl) rfl
theorem q1297 : (Jvm.Cond.methodLink "MaypoleGreenLaw" (22 : Nat) ({ cls := "MaypoleGreenModel", name := "ring", desc := "(I)I" } : Jvm.MethodName)) ∈ lw_all := lw_g (lw_at lw_m6 19 rfl) rfl
theorem q1301 : (Jvm.Cond.methodLink "MaypoleGreenLaw" (27 : Nat) ({ cls := "MaypoleGreenModel", name := "stand", desc := "(II)I" } : Jvm.MethodName)) ∈ lw_all := lw_g (lw_at lw_m6 23 rfl) rfl
theorem q1313 : (Jvm.Cond.methodLink "MaypoleGreenLaw" (31 : Nat) ({ cls := "MaypoleGreenModel", name := "ribbon", desc := "(III)I" } : Jvm.MethodName)) ∈ lw_all := lw_g (lw_at lw_m6 35 rfl) rfl
theorem q1318 : (Jvm.Cond.methodLink "MaypoleGreenLaw" (35 : Nat) ({ cls := "MaypoleGreenModel", name := "at", desc := "(II)I" } : Jvm.MethodName)) ∈ lw_all := lw_g (lw_at lw_m6 40 rfl) rfl
theorem q1322 : (Jvm.Cond.methodLink "MaypoleGreenLaw" (40 : Nat) ({ cls := "MaypoleGreenModel", name := "begin", desc := "()I" } : Jvm.MethodName)) ∈ lw_all := lw_g (lw_at lw_m6 44 rfl) rfl
theorem q1326 : (Jvm.Cond.methodLink "MaypoleGreenLaw" (44 : Nat) ({ cls := "MaypoleGreenModel", name := "end", desc := "()I" } : Jvm.MethodName)) ∈ lw_all := lw_g (lw_at lw_m6 48 rfl) rfl
theorem q1330 : (Jvm.Cond.methodLink "MaypoleGreenLaw" (56 : Nat) ({ cls := "MaypoleGreenModel", name := "girth", desc := "()I" } : Jvm.MethodName)) ∈ lw_all := lw_g (lw_at lw_m6 52 rfl) rfl
theorem q1334 : (Jvm.Cond.methodLink "MaypoleGreenLaw" (48 : Nat) ({ cls := "MaypoleGreenModel", name := "pass", desc := "(II)I" } : Jvm.MethodName)) ∈ lw_all := lw_g (lw_at lw_m6 56 rfl) rfl
theorem q1342 : (Jvm.Cond.methodLink "MaypoleGreenLaw" (52 : Nat) ({ cls := "MaypoleGreenModel", name := "walk", desc := "(I)I" } : Jvm.MethodName)) ∈ lw_all := lw_g (lw_at lw_m6 64 rfl) rfl
theorem q1351 : (Jvm.Cond.methodLink "MaypoleGreenLaw" (60 : Nat) ({ cls := "MaypoleGreenModel", name := "step", desc := "(I)I" } : Jvm.MethodName)) ∈ lw_all := lw_g (lw_at lw_m6 73 rfl) rfl
theorem q1355 : (Jvm.Cond.methodLink "MaypoleGreenLaw" (64 : Nat) ({ cls := "MaypoleGreenModel", name := "rows", desc := "()I" } : Jvm.MethodName)) ∈ lw_all := lw_g (lw_at lw_m6 77 rfl) rfl
theorem q1359 : (Jvm.Cond.methodLink "MaypoleGreenLaw" (68 : Nat) ({ cls := "MaypoleGreenModel", name := "cloth", desc := "(III)I" } : Jvm.MethodName)) ∈ lw_all := lw_g (lw_at lw_m6 81 rfl) rfl
theorem q1371 : (Jvm.Cond.methodLink "MaypoleGreenLaw" (72 : Nat) ({ cls := "MaypoleGreenModel", name := "beat", desc := "()I" } : Jvm.MethodName)) ∈ lw_all := lw_g (lw_at lw_m6 93 rfl) rfl
theorem q1379 : (Jvm.Cond.methodLink "MaypoleGreenLaw" (76 : Nat) ({ cls := "MaypoleGreenModel", name := "picture", desc := "(III)I" } : Jvm.MethodName)) ∈ lw_all := lw_g (lw_at lw_m6 101 rfl) rfl
theorem q1383 : (Jvm.Cond.methodLink "MaypoleGreenLaw" (80 : Nat) ({ cls := "MaypoleGreenModel", name := "pictureless", desc := "()I" } : Jvm.MethodName)) ∈ lw_all := lw_g (lw_at lw_m6 105 rfl) rfl
theorem q1387 : (Jvm.Cond.methodLink "MaypoleGreenLaw" (84 : Nat) ({ cls := "MaypoleGreenModel", name := "wrong", desc := "()I" } : Jvm.MethodName)) ∈ lw_all := lw_g (lw_at lw_m6 109 rfl) rfl
theorem q1395 : (Jvm.Cond.methodLink "MaypoleGreenLaw" (88 : Nat) ({ cls := "MaypoleGreenModel", name := "colours", desc := "(II)I" } : Jvm.MethodName)) ∈ lw_all := lw_g (lw_at lw_m6 117 rfl) rfl
theorem q1399 : (Jvm.Cond.methodLink "MaypoleGreenLaw" (100 : Nat) ({ cls := "MaypoleGreenModel", name := "feed", desc := "(II)I" } : Jvm.MethodName)) ∈ lw_all := lw_g (lw_at lw_m6 121 rfl) rfl
theorem q1403 : (Jvm.Cond.methodLink "MaypoleGreenLaw" (104 : Nat) ({ cls := "MaypoleGreenModel", name := "figure", desc := "()I" } : Jvm.MethodName)) ∈ lw_all := lw_g (lw_at lw_m6 125 rfl) rfl
theorem q1435 : (Jvm.Cond.methodLink "MaypoleGreenLaw" (108 : Nat) ({ cls := "MaypoleGreenModel", name := "told", desc := "(II)I" } : Jvm.MethodName)) ∈ lw_all := lw_g (lw_at lw_m6 157 rfl) rfl
theorem q1439 : (Jvm.Cond.methodLink "MaypoleGreenLaw" (112 : Nat) ({ cls := "MaypoleGreenModel", name := "dance", desc := "(I)I" } : Jvm.MethodName)) ∈ lw_all := lw_g (lw_at lw_m6 161 rfl) rfl
theorem q1445 : (Jvm.Cond.methodLink "MaypoleGreenLaw" (92 : Nat) ({ cls := "MaypoleGreenModel", name := "form", desc := "(II)I" } : Jvm.MethodName)) ∈ lw_all := lw_g (lw_at lw_m6 167 rfl) rfl
theorem q1477 : (Jvm.Cond.methodLink "MaypoleGreenLaw" (96 : Nat) ({ cls := "MaypoleGreenModel", name := "akin", desc := "(II)I" } : Jvm.MethodName)) ∈ lw_all := lw_g (lw_at lw_m6 199 rfl) rfl
theorem q1481 : (Jvm.Cond.methodLink "MaypoleGreenLaw" (116 : Nat) ({ cls := "MaypoleGreenModel", name := "right", desc := "(I)I" } : Jvm.MethodName)) ∈ lw_all := lw_g (lw_at lw_m6 203 rfl) rfl
theorem q1505 : (Jvm.Cond.methodLink "MaypoleGreenLaw" (120 : Nat) ({ cls := "MaypoleGreenModel", name := "slips", desc := "(II)I" } : Jvm.MethodName)) ∈ lw_all := lw_g (lw_at lw_m6 227 rfl) rfl
theorem q1509 : (Jvm.Cond.methodLink "MaypoleGreenLaw" (124 : Nat) ({ cls := "MaypoleGreenModel", name := "fewest", desc := "(II)I" } : Jvm.MethodName)) ∈ lw_all := lw_g (lw_at lw_m6 231 rfl) rfl
theorem q1533 : (Jvm.Cond.methodLink "MaypoleGreenLaw" (128 : Nat) ({ cls := "MaypoleGreenModel", name := "set", desc := "(II)I" } : Jvm.MethodName)) ∈ lw_all := lw_g (lw_at lw_m7 15 rfl) rfl
theorem q1542 : (Jvm.Cond.methodLink "MaypoleGreenLaw" (132 : Nat) ({ cls := "MaypoleGreenModel", name := "spent", desc := "(II)I" } : Jvm.MethodName)) ∈ lw_all := lw_g (lw_at lw_m7 24 rfl) rfl
theorem q1546 : (Jvm.Cond.methodLink "MaypoleGreenLaw" (136 : Nat) ({ cls := "MaypoleGreenModel", name := "act", desc := "(III)I" } : Jvm.MethodName)) ∈ lw_all := lw_g (lw_at lw_m7 28 rfl) rfl
theorem q1582 : (Jvm.Cond.methodLink "MaypoleGreenLaw" (140 : Nat) ({ cls := "MaypoleGreenModel", name := "trace", desc := "(I)I" } : Jvm.MethodName)) ∈ lw_all := lw_g (lw_at lw_m7 64 rfl) rfl
theorem q1586 : (Jvm.Cond.methodLink "MaypoleGreenLaw" (144 : Nat) ({ cls := "MaypoleGreenModel", name := "taken", desc := "(II)I" } : Jvm.MethodName)) ∈ lw_all := lw_g (lw_at lw_m7 68 rfl) rfl
theorem q1590 : (Jvm.Cond.methodLink "MaypoleGreenLaw" (148 : Nat) ({ cls := "MaypoleGreenModel", name := "count", desc := "(I)I" } : Jvm.MethodName)) ∈ lw_all := lw_g (lw_at lw_m7 72 rfl) rfl
theorem q1594 : (Jvm.Cond.methodLink "MaypoleGreenLaw" (152 : Nat) ({ cls := "MaypoleGreenModel", name := "tape", desc := "(III)I" } : Jvm.MethodName)) ∈ lw_all := lw_g (lw_at lw_m7 76 rfl) rfl
theorem q1598 : (Jvm.Cond.methodLink "MaypoleGreenLaw" (156 : Nat) ({ cls := "MaypoleGreenModel", name := "item", desc := "(III)I" } : Jvm.MethodName)) ∈ lw_all := lw_g (lw_at lw_m7 80 rfl) rfl
theorem q1607 : (Jvm.Cond.methodLink "MaypoleGreenLaw" (160 : Nat) ({ cls := "MaypoleGreenModel", name := "read", desc := "(II)I" } : Jvm.MethodName)) ∈ lw_all := lw_g (lw_at lw_m7 89 rfl) rfl
theorem q1612 : (Jvm.Cond.methodLink "MaypoleGreenLaw" (165 : Nat) ({ cls := "MaypoleGreenModel", name := "shift", desc := "(IIIII)I" } : Jvm.MethodName)) ∈ lw_all := lw_g (lw_at lw_m7 94 rfl) rfl

theorem q89 : (Jvm.Cond.initialized "java/lang/System") ∈ lw_all := lw_g (lw_at lw_m1 11 rfl) rfl
set_option maxRecDepth 100000
theorem q395 : (Jvm.Cond.static ({ cls := "java/lang/System", name := "arraycopy", desc := "(Ljava/lang/Object;ILjava/lang/Object;II)V" } : Jvm.MethodName)) ∈ lw_all := lw_g (lw_at lw_m2 77 rfl) rfl
theorem q396 : (Jvm.Cond.native ({ cls := "java/lang/System", name := "arraycopy", desc := "(Ljava/lang/Object;ILjava/lang/Object;II)V" } : Jvm.MethodName)) ∈ lw_all := lw_g (lw_at lw_m2 78 rfl) rfl

theorem q116 : (Jvm.Cond.arrayOver (Jvm.ClassFile.FieldType.object "MaypoleGreen$Dancer")) ∈ lw_tbl := lw_at lw_m1 38 rfl
set_option maxRecDepth 100000
theorem q118 : (Jvm.Cond.arrayOver (Jvm.ClassFile.FieldType.object "MaypoleGreen$Figure")) ∈ lw_tbl := lw_at lw_m1 40 rfl
theorem q134 : (Jvm.Cond.arrayClass Jvm.ClassFile.FieldType.int) ∈ lw_all := lw_g (lw_at lw_m1 56 rfl) rfl
theorem q135 : (Jvm.Cond.arrayClass Jvm.ClassFile.FieldType.byte) ∈ lw_all := lw_g (lw_at lw_m1 57 rfl) rfl
theorem q137 : (Jvm.Cond.arrayOver (Jvm.ClassFile.FieldType.object "MaypoleGreen$Tape")) ∈ lw_tbl := lw_at lw_m1 59 rfl
theorem q333 : (Jvm.Cond.arrayOver (Jvm.ClassFile.FieldType.array Jvm.ClassFile.FieldType.int)) ∈ lw_tbl := lw_at lw_m2 15 rfl
theorem q1029 : (Jvm.Cond.arrayClass Jvm.ClassFile.FieldType.short) ∈ lw_all := lw_g (lw_at lw_m4 231 rfl) rfl
theorem q1030 : (Jvm.Cond.arrayClass Jvm.ClassFile.FieldType.boolean) ∈ lw_all := lw_g (lw_at lw_m4 232 rfl) rfl
theorem q1031 : (Jvm.Cond.arrayClass Jvm.ClassFile.FieldType.char) ∈ lw_all := lw_g (lw_at lw_m4 233 rfl) rfl
