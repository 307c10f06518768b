/-! java/lang/Number -/
set_option maxRecDepth 100000
def RJ0 : String := "java/lang/Number"
abbrev cJ0_init : ByteArray := prog_48_method_1_code
def yJ0_init : MethodName := ⟨RJ0, "<init>", "()V"⟩
theorem dJ0_init_0 : decode cJ0_init 0 = .ok (.aload_n 0, 1) := by decide +kernel
theorem dJ0_init_1 : decode cJ0_init 1 = .ok (.invokespecial 1, 3) := by decide +kernel
theorem dJ0_init_4 : decode cJ0_init 4 = .ok (.return_, 1) := by decide +kernel
theorem q108 : (Jvm.Cond.initialized "java/lang/Number") ∈ lw_all := lw_g (lw_at lw_m1 3 rfl) rfl
theorem q1855 : (Jvm.Cond.instanceMethod ({ cls := "java/lang/Number", name := "<init>", desc := "()V" } : Jvm.MethodName)) ∈ lw_all := lw_g (lw_at lw_m8 70 rfl) rfl
theorem q1856 : (Jvm.Cond.code ({ cls := "java/lang/Number", name := "<init>", desc := "()V" } : Jvm.MethodName) prog_48_method_1_code (1 : Nat) (Option.none : Option Jvm.ClassFile.FieldType)) ∈ lw_all := lw_g (lw_at lw_m8 71 rfl) rfl
theorem q1857 : (Jvm.Cond.methodLink "java/lang/Number" (1 : Nat) ({ cls := "java/lang/Object", name := "<init>", desc := "()V" } : Jvm.MethodName)) ∈ lw_all := lw_g (lw_at lw_m8 72 rfl) rfl
/-! java/lang/Integer -/
set_option maxRecDepth 100000
def RJ1 : String := "java/lang/Integer"
def TJ1 : u_T := fun k => match k with
  | _ => ("java/lang/Integer", "value", "I", true)
def tyJ1 : Nat → FieldType := fun k => match k with
  | _ => .int
abbrev wsJ10 : List Cond := u_ws RJ1 TJ1 1
theorem nmJ1 : ∀ a, a < 1 → ∀ b, b < 1 → a ≠ b → (TJ1 a).2.1 ≠ (TJ1 b).2.1 := by decide +kernel
theorem tyJ1_ok : ∀ k, k < 1 → parseFieldDescriptor (TJ1 k).2.2.1 = some (tyJ1 k) := by decide +kernel
abbrev cJ1_bitCount : ByteArray := prog_41_method_49_code
def yJ1_bitCount : MethodName := ⟨RJ1, "bitCount", "(I)I"⟩
def dkwJ1_bitCount_2 : List UInt8 := [26, 16, 63, 126, 172]
abbrev dktJ1_bitCount_2 : List UInt8 := dkwJ1_bitCount_2 ++ []
def dkwJ1_bitCount_1 : List UInt8 := [26, 26, 7, 124, 96, 19, 1, 11, 126, 59, 26, 26, 16, 8, 124, 96, 59, 26, 26, 16, 16, 124, 96, 59]
abbrev dktJ1_bitCount_1 : List UInt8 := dkwJ1_bitCount_1 ++ dktJ1_bitCount_2
def dkwJ1_bitCount_0 : List UInt8 := [26, 26, 4, 124, 19, 1, 9, 126, 100, 59, 26, 19, 1, 10, 126, 26, 5, 124, 19, 1, 10, 126, 96, 59]
abbrev dktJ1_bitCount_0 : List UInt8 := dkwJ1_bitCount_0 ++ dktJ1_bitCount_1
theorem dksJ1_bitCount_0 : cJ1_bitCount.data.toList.drop 0 = dktJ1_bitCount_0 := by decide +kernel
theorem dksJ1_bitCount_1 : cJ1_bitCount.data.toList.drop 24 = dktJ1_bitCount_1 := dk_seg dksJ1_bitCount_0 24 rfl rfl
theorem dksJ1_bitCount_2 : cJ1_bitCount.data.toList.drop 48 = dktJ1_bitCount_2 := dk_seg dksJ1_bitCount_1 24 rfl rfl
theorem dJ1_bitCount_0 : decode cJ1_bitCount 0 = .ok (.iload_n 0, 1) := dk_26 (dk_at dksJ1_bitCount_0 0 rfl rfl)
theorem dJ1_bitCount_1 : decode cJ1_bitCount 1 = .ok (.iload_n 0, 1) := dk_26 (dk_at dksJ1_bitCount_0 1 rfl rfl)
theorem dJ1_bitCount_2 : decode cJ1_bitCount 2 = .ok (.iconst 1, 1) := dk_4 (dk_at dksJ1_bitCount_0 2 rfl rfl)
theorem dJ1_bitCount_3 : decode cJ1_bitCount 3 = .ok (.iushr, 1) := dk_124 (dk_at dksJ1_bitCount_0 3 rfl rfl)
theorem dJ1_bitCount_4 : decode cJ1_bitCount 4 = .ok (.ldc_w 265, 3) := dk_19 1 9 (dk_at dksJ1_bitCount_0 4 rfl rfl)
theorem dJ1_bitCount_7 : decode cJ1_bitCount 7 = .ok (.iand, 1) := dk_126 (dk_at dksJ1_bitCount_0 7 rfl rfl)
theorem dJ1_bitCount_8 : decode cJ1_bitCount 8 = .ok (.isub, 1) := dk_100 (dk_at dksJ1_bitCount_0 8 rfl rfl)
theorem dJ1_bitCount_9 : decode cJ1_bitCount 9 = .ok (.istore_n 0, 1) := dk_59 (dk_at dksJ1_bitCount_0 9 rfl rfl)
theorem dJ1_bitCount_10 : decode cJ1_bitCount 10 = .ok (.iload_n 0, 1) := dk_26 (dk_at dksJ1_bitCount_0 10 rfl rfl)
theorem dJ1_bitCount_11 : decode cJ1_bitCount 11 = .ok (.ldc_w 266, 3) := dk_19 1 10 (dk_at dksJ1_bitCount_0 11 rfl rfl)
theorem dJ1_bitCount_14 : decode cJ1_bitCount 14 = .ok (.iand, 1) := dk_126 (dk_at dksJ1_bitCount_0 14 rfl rfl)
theorem dJ1_bitCount_15 : decode cJ1_bitCount 15 = .ok (.iload_n 0, 1) := dk_26 (dk_at dksJ1_bitCount_0 15 rfl rfl)
theorem dJ1_bitCount_16 : decode cJ1_bitCount 16 = .ok (.iconst 2, 1) := dk_5 (dk_at dksJ1_bitCount_0 16 rfl rfl)
theorem dJ1_bitCount_17 : decode cJ1_bitCount 17 = .ok (.iushr, 1) := dk_124 (dk_at dksJ1_bitCount_0 17 rfl rfl)
theorem dJ1_bitCount_18 : decode cJ1_bitCount 18 = .ok (.ldc_w 266, 3) := dk_19 1 10 (dk_at dksJ1_bitCount_0 18 rfl rfl)
theorem dJ1_bitCount_21 : decode cJ1_bitCount 21 = .ok (.iand, 1) := dk_126 (dk_at dksJ1_bitCount_0 21 rfl rfl)
theorem dJ1_bitCount_22 : decode cJ1_bitCount 22 = .ok (.iadd, 1) := dk_96 (dk_at dksJ1_bitCount_0 22 rfl rfl)
theorem dJ1_bitCount_23 : decode cJ1_bitCount 23 = .ok (.istore_n 0, 1) := dk_59 (dk_at dksJ1_bitCount_0 23 rfl rfl)
theorem dJ1_bitCount_24 : decode cJ1_bitCount 24 = .ok (.iload_n 0, 1) := dk_26 (dk_at dksJ1_bitCount_1 0 rfl rfl)
theorem dJ1_bitCount_25 : decode cJ1_bitCount 25 = .ok (.iload_n 0, 1) := dk_26 (dk_at dksJ1_bitCount_1 1 rfl rfl)
theorem dJ1_bitCount_26 : decode cJ1_bitCount 26 = .ok (.iconst 4, 1) := dk_7 (dk_at dksJ1_bitCount_1 2 rfl rfl)
theorem dJ1_bitCount_27 : decode cJ1_bitCount 27 = .ok (.iushr, 1) := dk_124 (dk_at dksJ1_bitCount_1 3 rfl rfl)
theorem dJ1_bitCount_28 : decode cJ1_bitCount 28 = .ok (.iadd, 1) := dk_96 (dk_at dksJ1_bitCount_1 4 rfl rfl)
theorem dJ1_bitCount_29 : decode cJ1_bitCount 29 = .ok (.ldc_w 267, 3) := dk_19 1 11 (dk_at dksJ1_bitCount_1 5 rfl rfl)
theorem dJ1_bitCount_32 : decode cJ1_bitCount 32 = .ok (.iand, 1) := dk_126 (dk_at dksJ1_bitCount_1 8 rfl rfl)
theorem dJ1_bitCount_33 : decode cJ1_bitCount 33 = .ok (.istore_n 0, 1) := dk_59 (dk_at dksJ1_bitCount_1 9 rfl rfl)
theorem dJ1_bitCount_34 : decode cJ1_bitCount 34 = .ok (.iload_n 0, 1) := dk_26 (dk_at dksJ1_bitCount_1 10 rfl rfl)
theorem dJ1_bitCount_35 : decode cJ1_bitCount 35 = .ok (.iload_n 0, 1) := dk_26 (dk_at dksJ1_bitCount_1 11 rfl rfl)
theorem dJ1_bitCount_36 : decode cJ1_bitCount 36 = .ok (.bipush 8, 2) := dk_16 8 (dk_at dksJ1_bitCount_1 12 rfl rfl)
theorem dJ1_bitCount_38 : decode cJ1_bitCount 38 = .ok (.iushr, 1) := dk_124 (dk_at dksJ1_bitCount_1 14 rfl rfl)
theorem dJ1_bitCount_39 : decode cJ1_bitCount 39 = .ok (.iadd, 1) := dk_96 (dk_at dksJ1_bitCount_1 15 rfl rfl)
theorem dJ1_bitCount_40 : decode cJ1_bitCount 40 = .ok (.istore_n 0, 1) := dk_59 (dk_at dksJ1_bitCount_1 16 rfl rfl)
theorem dJ1_bitCount_41 : decode cJ1_bitCount 41 = .ok (.iload_n 0, 1) := dk_26 (dk_at dksJ1_bitCount_1 17 rfl rfl)
theorem dJ1_bitCount_42 : decode cJ1_bitCount 42 = .ok (.iload_n 0, 1) := dk_26 (dk_at dksJ1_bitCount_1 18 rfl rfl)
theorem dJ1_bitCount_43 : decode cJ1_bitCount 43 = .ok (.bipush 16, 2) := dk_16 16 (dk_at dksJ1_bitCount_1 19 rfl rfl)
theorem dJ1_bitCount_45 : decode cJ1_bitCount 45 = .ok (.iushr, 1) := dk_124 (dk_at dksJ1_bitCount_1 21 rfl rfl)
theorem dJ1_bitCount_46 : decode cJ1_bitCount 46 = .ok (.iadd, 1) := dk_96 (dk_at dksJ1_bitCount_1 22 rfl rfl)
theorem dJ1_bitCount_47 : decode cJ1_bitCount 47 = .ok (.istore_n 0, 1) := dk_59 (dk_at dksJ1_bitCount_1 23 rfl rfl)
theorem dJ1_bitCount_48 : decode cJ1_bitCount 48 = .ok (.iload_n 0, 1) := dk_26 (dk_at dksJ1_bitCount_2 0 rfl rfl)
theorem dJ1_bitCount_49 : decode cJ1_bitCount 49 = .ok (.bipush 63, 2) := dk_16 63 (dk_at dksJ1_bitCount_2 1 rfl rfl)
theorem dJ1_bitCount_51 : decode cJ1_bitCount 51 = .ok (.iand, 1) := dk_126 (dk_at dksJ1_bitCount_2 3 rfl rfl)
theorem dJ1_bitCount_52 : decode cJ1_bitCount 52 = .ok (.ireturn, 1) := dk_172 (dk_at dksJ1_bitCount_2 4 rfl rfl)
abbrev cJ1_numberOfTrailingZeros : ByteArray := prog_41_method_48_code
def yJ1_numberOfTrailingZeros : MethodName := ⟨RJ1, "numberOfTrailingZeros", "(I)I"⟩
def dkwJ1_numberOfTrailingZeros_3 : List UInt8 := [5, 124, 59, 27, 26, 4, 124, 96, 172]
abbrev dktJ1_numberOfTrailingZeros_3 : List UInt8 := dkwJ1_numberOfTrailingZeros_3 ++ []
def dkwJ1_numberOfTrailingZeros_2 : List UInt8 := [124, 59, 26, 16, 16, 164, 0, 10, 132, 1, 4, 26, 7, 124, 59, 26, 7, 164, 0, 10, 132, 1, 2, 26]
abbrev dktJ1_numberOfTrailingZeros_2 : List UInt8 := dkwJ1_numberOfTrailingZeros_2 ++ dktJ1_numberOfTrailingZeros_3
def dkwJ1_numberOfTrailingZeros_1 : List UInt8 := [164, 0, 11, 132, 1, 16, 26, 16, 16, 124, 59, 26, 17, 1, 0, 164, 0, 11, 132, 1, 8, 26, 16, 8]
abbrev dktJ1_numberOfTrailingZeros_1 : List UInt8 := dkwJ1_numberOfTrailingZeros_1 ++ dktJ1_numberOfTrailingZeros_2
def dkwJ1_numberOfTrailingZeros_0 : List UInt8 := [26, 2, 130, 26, 4, 100, 126, 59, 26, 157, 0, 8, 26, 16, 32, 126, 172, 4, 60, 26, 19, 1, 8]
abbrev dktJ1_numberOfTrailingZeros_0 : List UInt8 := dkwJ1_numberOfTrailingZeros_0 ++ dktJ1_numberOfTrailingZeros_1
theorem dksJ1_numberOfTrailingZeros_0 : cJ1_numberOfTrailingZeros.data.toList.drop 0 = dktJ1_numberOfTrailingZeros_0 := by decide +kernel
theorem dksJ1_numberOfTrailingZeros_1 : cJ1_numberOfTrailingZeros.data.toList.drop 23 = dktJ1_numberOfTrailingZeros_1 := dk_seg dksJ1_numberOfTrailingZeros_0 23 rfl rfl
theorem dksJ1_numberOfTrailingZeros_2 : cJ1_numberOfTrailingZeros.data.toList.drop 47 = dktJ1_numberOfTrailingZeros_2 := dk_seg dksJ1_numberOfTrailingZeros_1 24 rfl rfl
theorem dksJ1_numberOfTrailingZeros_3 : cJ1_numberOfTrailingZeros.data.toList.drop 71 = dktJ1_numberOfTrailingZeros_3 := dk_seg dksJ1_numberOfTrailingZeros_2 24 rfl rfl
theorem dJ1_numberOfTrailingZeros_0 : decode cJ1_numberOfTrailingZeros 0 = .ok (.iload_n 0, 1) := dk_26 (dk_at dksJ1_numberOfTrailingZeros_0 0 rfl rfl)
theorem dJ1_numberOfTrailingZeros_1 : decode cJ1_numberOfTrailingZeros 1 = .ok (.iconst (-1), 1) := dk_2 (dk_at dksJ1_numberOfTrailingZeros_0 1 rfl rfl)
theorem dJ1_numberOfTrailingZeros_2 : decode cJ1_numberOfTrailingZeros 2 = .ok (.ixor, 1) := dk_130 (dk_at dksJ1_numberOfTrailingZeros_0 2 rfl rfl)
theorem dJ1_numberOfTrailingZeros_3 : decode cJ1_numberOfTrailingZeros 3 = .ok (.iload_n 0, 1) := dk_26 (dk_at dksJ1_numberOfTrailingZeros_0 3 rfl rfl)
theorem dJ1_numberOfTrailingZeros_4 : decode cJ1_numberOfTrailingZeros 4 = .ok (.iconst 1, 1) := dk_4 (dk_at dksJ1_numberOfTrailingZeros_0 4 rfl rfl)
theorem dJ1_numberOfTrailingZeros_5 : decode cJ1_numberOfTrailingZeros 5 = .ok (.isub, 1) := dk_100 (dk_at dksJ1_numberOfTrailingZeros_0 5 rfl rfl)
theorem dJ1_numberOfTrailingZeros_6 : decode cJ1_numberOfTrailingZeros 6 = .ok (.iand, 1) := dk_126 (dk_at dksJ1_numberOfTrailingZeros_0 6 rfl rfl)
theorem dJ1_numberOfTrailingZeros_7 : decode cJ1_numberOfTrailingZeros 7 = .ok (.istore_n 0, 1) := dk_59 (dk_at dksJ1_numberOfTrailingZeros_0 7 rfl rfl)
theorem dJ1_numberOfTrailingZeros_8 : decode cJ1_numberOfTrailingZeros 8 = .ok (.iload_n 0, 1) := dk_26 (dk_at dksJ1_numberOfTrailingZeros_0 8 rfl rfl)
theorem dJ1_numberOfTrailingZeros_9 : decode cJ1_numberOfTrailingZeros 9 = .ok (.ifCond .gt 8, 3) := dk_157 0 8 (dk_at dksJ1_numberOfTrailingZeros_0 9 rfl rfl)
theorem dJ1_numberOfTrailingZeros_12 : decode cJ1_numberOfTrailingZeros 12 = .ok (.iload_n 0, 1) := dk_26 (dk_at dksJ1_numberOfTrailingZeros_0 12 rfl rfl)
theorem dJ1_numberOfTrailingZeros_13 : decode cJ1_numberOfTrailingZeros 13 = .ok (.bipush 32, 2) := dk_16 32 (dk_at dksJ1_numberOfTrailingZeros_0 13 rfl rfl)
theorem dJ1_numberOfTrailingZeros_15 : decode cJ1_numberOfTrailingZeros 15 = .ok (.iand, 1) := dk_126 (dk_at dksJ1_numberOfTrailingZeros_0 15 rfl rfl)
theorem dJ1_numberOfTrailingZeros_16 : decode cJ1_numberOfTrailingZeros 16 = .ok (.ireturn, 1) := dk_172 (dk_at dksJ1_numberOfTrailingZeros_0 16 rfl rfl)
theorem dJ1_numberOfTrailingZeros_17 : decode cJ1_numberOfTrailingZeros 17 = .ok (.iconst 1, 1) := dk_4 (dk_at dksJ1_numberOfTrailingZeros_0 17 rfl rfl)
theorem dJ1_numberOfTrailingZeros_18 : decode cJ1_numberOfTrailingZeros 18 = .ok (.istore_n 1, 1) := dk_60 (dk_at dksJ1_numberOfTrailingZeros_0 18 rfl rfl)
theorem dJ1_numberOfTrailingZeros_19 : decode cJ1_numberOfTrailingZeros 19 = .ok (.iload_n 0, 1) := dk_26 (dk_at dksJ1_numberOfTrailingZeros_0 19 rfl rfl)
theorem dJ1_numberOfTrailingZeros_20 : decode cJ1_numberOfTrailingZeros 20 = .ok (.ldc_w 264, 3) := dk_19 1 8 (dk_at dksJ1_numberOfTrailingZeros_0 20 rfl rfl)
theorem dJ1_numberOfTrailingZeros_23 : decode cJ1_numberOfTrailingZeros 23 = .ok (.if_icmp .le 11, 3) := dk_164 0 11 (dk_at dksJ1_numberOfTrailingZeros_1 0 rfl rfl)
theorem dJ1_numberOfTrailingZeros_26 : decode cJ1_numberOfTrailingZeros 26 = .ok (.iinc 1 16, 3) := dk_132 1 16 (dk_at dksJ1_numberOfTrailingZeros_1 3 rfl rfl)
theorem dJ1_numberOfTrailingZeros_29 : decode cJ1_numberOfTrailingZeros 29 = .ok (.iload_n 0, 1) := dk_26 (dk_at dksJ1_numberOfTrailingZeros_1 6 rfl rfl)
theorem dJ1_numberOfTrailingZeros_30 : decode cJ1_numberOfTrailingZeros 30 = .ok (.bipush 16, 2) := dk_16 16 (dk_at dksJ1_numberOfTrailingZeros_1 7 rfl rfl)
theorem dJ1_numberOfTrailingZeros_32 : decode cJ1_numberOfTrailingZeros 32 = .ok (.iushr, 1) := dk_124 (dk_at dksJ1_numberOfTrailingZeros_1 9 rfl rfl)
theorem dJ1_numberOfTrailingZeros_33 : decode cJ1_numberOfTrailingZeros 33 = .ok (.istore_n 0, 1) := dk_59 (dk_at dksJ1_numberOfTrailingZeros_1 10 rfl rfl)
theorem dJ1_numberOfTrailingZeros_34 : decode cJ1_numberOfTrailingZeros 34 = .ok (.iload_n 0, 1) := dk_26 (dk_at dksJ1_numberOfTrailingZeros_1 11 rfl rfl)
theorem dJ1_numberOfTrailingZeros_35 : decode cJ1_numberOfTrailingZeros 35 = .ok (.sipush 256, 3) := dk_17 1 0 (dk_at dksJ1_numberOfTrailingZeros_1 12 rfl rfl)
theorem dJ1_numberOfTrailingZeros_38 : decode cJ1_numberOfTrailingZeros 38 = .ok (.if_icmp .le 11, 3) := dk_164 0 11 (dk_at dksJ1_numberOfTrailingZeros_1 15 rfl rfl)
theorem dJ1_numberOfTrailingZeros_41 : decode cJ1_numberOfTrailingZeros 41 = .ok (.iinc 1 8, 3) := dk_132 1 8 (dk_at dksJ1_numberOfTrailingZeros_1 18 rfl rfl)
theorem dJ1_numberOfTrailingZeros_44 : decode cJ1_numberOfTrailingZeros 44 = .ok (.iload_n 0, 1) := dk_26 (dk_at dksJ1_numberOfTrailingZeros_1 21 rfl rfl)
theorem dJ1_numberOfTrailingZeros_45 : decode cJ1_numberOfTrailingZeros 45 = .ok (.bipush 8, 2) := dk_16 8 (dk_at dksJ1_numberOfTrailingZeros_1 22 rfl rfl)
theorem dJ1_numberOfTrailingZeros_47 : decode cJ1_numberOfTrailingZeros 47 = .ok (.iushr, 1) := dk_124 (dk_at dksJ1_numberOfTrailingZeros_2 0 rfl rfl)
theorem dJ1_numberOfTrailingZeros_48 : decode cJ1_numberOfTrailingZeros 48 = .ok (.istore_n 0, 1) := dk_59 (dk_at dksJ1_numberOfTrailingZeros_2 1 rfl rfl)
theorem dJ1_numberOfTrailingZeros_49 : decode cJ1_numberOfTrailingZeros 49 = .ok (.iload_n 0, 1) := dk_26 (dk_at dksJ1_numberOfTrailingZeros_2 2 rfl rfl)
theorem dJ1_numberOfTrailingZeros_50 : decode cJ1_numberOfTrailingZeros 50 = .ok (.bipush 16, 2) := dk_16 16 (dk_at dksJ1_numberOfTrailingZeros_2 3 rfl rfl)
theorem dJ1_numberOfTrailingZeros_52 : decode cJ1_numberOfTrailingZeros 52 = .ok (.if_icmp .le 10, 3) := dk_164 0 10 (dk_at dksJ1_numberOfTrailingZeros_2 5 rfl rfl)
theorem dJ1_numberOfTrailingZeros_55 : decode cJ1_numberOfTrailingZeros 55 = .ok (.iinc 1 4, 3) := dk_132 1 4 (dk_at dksJ1_numberOfTrailingZeros_2 8 rfl rfl)
theorem dJ1_numberOfTrailingZeros_58 : decode cJ1_numberOfTrailingZeros 58 = .ok (.iload_n 0, 1) := dk_26 (dk_at dksJ1_numberOfTrailingZeros_2 11 rfl rfl)
theorem dJ1_numberOfTrailingZeros_59 : decode cJ1_numberOfTrailingZeros 59 = .ok (.iconst 4, 1) := dk_7 (dk_at dksJ1_numberOfTrailingZeros_2 12 rfl rfl)
theorem dJ1_numberOfTrailingZeros_60 : decode cJ1_numberOfTrailingZeros 60 = .ok (.iushr, 1) := dk_124 (dk_at dksJ1_numberOfTrailingZeros_2 13 rfl rfl)
theorem dJ1_numberOfTrailingZeros_61 : decode cJ1_numberOfTrailingZeros 61 = .ok (.istore_n 0, 1) := dk_59 (dk_at dksJ1_numberOfTrailingZeros_2 14 rfl rfl)
theorem dJ1_numberOfTrailingZeros_62 : decode cJ1_numberOfTrailingZeros 62 = .ok (.iload_n 0, 1) := dk_26 (dk_at dksJ1_numberOfTrailingZeros_2 15 rfl rfl)
theorem dJ1_numberOfTrailingZeros_63 : decode cJ1_numberOfTrailingZeros 63 = .ok (.iconst 4, 1) := dk_7 (dk_at dksJ1_numberOfTrailingZeros_2 16 rfl rfl)
theorem dJ1_numberOfTrailingZeros_64 : decode cJ1_numberOfTrailingZeros 64 = .ok (.if_icmp .le 10, 3) := dk_164 0 10 (dk_at dksJ1_numberOfTrailingZeros_2 17 rfl rfl)
theorem dJ1_numberOfTrailingZeros_67 : decode cJ1_numberOfTrailingZeros 67 = .ok (.iinc 1 2, 3) := dk_132 1 2 (dk_at dksJ1_numberOfTrailingZeros_2 20 rfl rfl)
theorem dJ1_numberOfTrailingZeros_70 : decode cJ1_numberOfTrailingZeros 70 = .ok (.iload_n 0, 1) := dk_26 (dk_at dksJ1_numberOfTrailingZeros_2 23 rfl rfl)
theorem dJ1_numberOfTrailingZeros_71 : decode cJ1_numberOfTrailingZeros 71 = .ok (.iconst 2, 1) := dk_5 (dk_at dksJ1_numberOfTrailingZeros_3 0 rfl rfl)
theorem dJ1_numberOfTrailingZeros_72 : decode cJ1_numberOfTrailingZeros 72 = .ok (.iushr, 1) := dk_124 (dk_at dksJ1_numberOfTrailingZeros_3 1 rfl rfl)
theorem dJ1_numberOfTrailingZeros_73 : decode cJ1_numberOfTrailingZeros 73 = .ok (.istore_n 0, 1) := dk_59 (dk_at dksJ1_numberOfTrailingZeros_3 2 rfl rfl)
theorem dJ1_numberOfTrailingZeros_74 : decode cJ1_numberOfTrailingZeros 74 = .ok (.iload_n 1, 1) := dk_27 (dk_at dksJ1_numberOfTrailingZeros_3 3 rfl rfl)
theorem dJ1_numberOfTrailingZeros_75 : decode cJ1_numberOfTrailingZeros 75 = .ok (.iload_n 0, 1) := dk_26 (dk_at dksJ1_numberOfTrailingZeros_3 4 rfl rfl)
theorem dJ1_numberOfTrailingZeros_76 : decode cJ1_numberOfTrailingZeros 76 = .ok (.iconst 1, 1) := dk_4 (dk_at dksJ1_numberOfTrailingZeros_3 5 rfl rfl)
theorem dJ1_numberOfTrailingZeros_77 : decode cJ1_numberOfTrailingZeros 77 = .ok (.iushr, 1) := dk_124 (dk_at dksJ1_numberOfTrailingZeros_3 6 rfl rfl)
theorem dJ1_numberOfTrailingZeros_78 : decode cJ1_numberOfTrailingZeros 78 = .ok (.iadd, 1) := dk_96 (dk_at dksJ1_numberOfTrailingZeros_3 7 rfl rfl)
theorem dJ1_numberOfTrailingZeros_79 : decode cJ1_numberOfTrailingZeros 79 = .ok (.ireturn, 1) := dk_172 (dk_at dksJ1_numberOfTrailingZeros_3 8 rfl rfl)
abbrev cJ1_hashCode : ByteArray := prog_41_method_32_code
def yJ1_hashCode : MethodName := ⟨RJ1, "hashCode", "()I"⟩
def dkwJ1_hashCode_0 : List UInt8 := [42, 180, 0, 205, 184, 0, 208, 172]
abbrev dktJ1_hashCode_0 : List UInt8 := dkwJ1_hashCode_0 ++ []
theorem dksJ1_hashCode_0 : cJ1_hashCode.data.toList.drop 0 = dktJ1_hashCode_0 := by decide +kernel
theorem dJ1_hashCode_0 : decode cJ1_hashCode 0 = .ok (.aload_n 0, 1) := dk_42 (dk_at dksJ1_hashCode_0 0 rfl rfl)
theorem dJ1_hashCode_1 : decode cJ1_hashCode 1 = .ok (.getfield 205, 3) := dk_180 0 205 (dk_at dksJ1_hashCode_0 1 rfl rfl)
theorem dJ1_hashCode_4 : decode cJ1_hashCode 4 = .ok (.invokestatic 208, 3) := dk_184 0 208 (dk_at dksJ1_hashCode_0 4 rfl rfl)
theorem dJ1_hashCode_7 : decode cJ1_hashCode 7 = .ok (.ireturn, 1) := dk_172 (dk_at dksJ1_hashCode_0 7 rfl rfl)
abbrev cJ1_hashCode_2 : ByteArray := prog_41_method_33_code
def yJ1_hashCode_2 : MethodName := ⟨RJ1, "hashCode", "(I)I"⟩
theorem dJ1_hashCode_2_0 : decode cJ1_hashCode_2 0 = .ok (.iload_n 0, 1) := by decide +kernel
theorem dJ1_hashCode_2_1 : decode cJ1_hashCode_2 1 = .ok (.ireturn, 1) := by decide +kernel
abbrev cJ1_compareTo : ByteArray := prog_41_method_63_code
def yJ1_compareTo : MethodName := ⟨RJ1, "compareTo", "(Ljava/lang/Object;)I"⟩
def dkwJ1_compareTo_0 : List UInt8 := [42, 43, 192, 0, 1, 182, 1, 28, 172]
abbrev dktJ1_compareTo_0 : List UInt8 := dkwJ1_compareTo_0 ++ []
theorem dksJ1_compareTo_0 : cJ1_compareTo.data.toList.drop 0 = dktJ1_compareTo_0 := by decide +kernel
theorem dJ1_compareTo_0 : decode cJ1_compareTo 0 = .ok (.aload_n 0, 1) := dk_42 (dk_at dksJ1_compareTo_0 0 rfl rfl)
theorem dJ1_compareTo_1 : decode cJ1_compareTo 1 = .ok (.aload_n 1, 1) := dk_43 (dk_at dksJ1_compareTo_0 1 rfl rfl)
theorem dJ1_compareTo_2 : decode cJ1_compareTo 2 = .ok (.checkcast 1, 3) := dk_192 0 1 (dk_at dksJ1_compareTo_0 2 rfl rfl)
theorem dJ1_compareTo_5 : decode cJ1_compareTo 5 = .ok (.invokevirtual 284, 3) := dk_182 1 28 (dk_at dksJ1_compareTo_0 5 rfl rfl)
theorem dJ1_compareTo_8 : decode cJ1_compareTo 8 = .ok (.ireturn, 1) := dk_172 (dk_at dksJ1_compareTo_0 8 rfl rfl)
abbrev cJ1_compareTo_2 : ByteArray := prog_41_method_39_code
def yJ1_compareTo_2 : MethodName := ⟨RJ1, "compareTo", "(Ljava/lang/Integer;)I"⟩
def dkwJ1_compareTo_2_0 : List UInt8 := [42, 180, 0, 205, 43, 180, 0, 205, 184, 1, 3, 172]
abbrev dktJ1_compareTo_2_0 : List UInt8 := dkwJ1_compareTo_2_0 ++ []
theorem dksJ1_compareTo_2_0 : cJ1_compareTo_2.data.toList.drop 0 = dktJ1_compareTo_2_0 := by decide +kernel
theorem dJ1_compareTo_2_0 : decode cJ1_compareTo_2 0 = .ok (.aload_n 0, 1) := dk_42 (dk_at dksJ1_compareTo_2_0 0 rfl rfl)
theorem dJ1_compareTo_2_1 : decode cJ1_compareTo_2 1 = .ok (.getfield 205, 3) := dk_180 0 205 (dk_at dksJ1_compareTo_2_0 1 rfl rfl)
theorem dJ1_compareTo_2_4 : decode cJ1_compareTo_2 4 = .ok (.aload_n 1, 1) := dk_43 (dk_at dksJ1_compareTo_2_0 4 rfl rfl)
theorem dJ1_compareTo_2_5 : decode cJ1_compareTo_2 5 = .ok (.getfield 205, 3) := dk_180 0 205 (dk_at dksJ1_compareTo_2_0 5 rfl rfl)
theorem dJ1_compareTo_2_8 : decode cJ1_compareTo_2 8 = .ok (.invokestatic 259, 3) := dk_184 1 3 (dk_at dksJ1_compareTo_2_0 8 rfl rfl)
theorem dJ1_compareTo_2_11 : decode cJ1_compareTo_2 11 = .ok (.ireturn, 1) := dk_172 (dk_at dksJ1_compareTo_2_0 11 rfl rfl)
abbrev cJ1_compare : ByteArray := prog_41_method_40_code
def yJ1_compare : MethodName := ⟨RJ1, "compare", "(II)I"⟩
def dkwJ1_compare_0 : List UInt8 := [26, 27, 162, 0, 7, 2, 167, 0, 13, 26, 27, 160, 0, 7, 3, 167, 0, 4, 4, 172]
abbrev dktJ1_compare_0 : List UInt8 := dkwJ1_compare_0 ++ []
theorem dksJ1_compare_0 : cJ1_compare.data.toList.drop 0 = dktJ1_compare_0 := by decide +kernel
theorem dJ1_compare_0 : decode cJ1_compare 0 = .ok (.iload_n 0, 1) := dk_26 (dk_at dksJ1_compare_0 0 rfl rfl)
theorem dJ1_compare_1 : decode cJ1_compare 1 = .ok (.iload_n 1, 1) := dk_27 (dk_at dksJ1_compare_0 1 rfl rfl)
theorem dJ1_compare_2 : decode cJ1_compare 2 = .ok (.if_icmp .ge 7, 3) := dk_162 0 7 (dk_at dksJ1_compare_0 2 rfl rfl)
theorem dJ1_compare_5 : decode cJ1_compare 5 = .ok (.iconst (-1), 1) := dk_2 (dk_at dksJ1_compare_0 5 rfl rfl)
theorem dJ1_compare_6 : decode cJ1_compare 6 = .ok (.goto 13, 3) := dk_167 0 13 (dk_at dksJ1_compare_0 6 rfl rfl)
theorem dJ1_compare_9 : decode cJ1_compare 9 = .ok (.iload_n 0, 1) := dk_26 (dk_at dksJ1_compare_0 9 rfl rfl)
theorem dJ1_compare_10 : decode cJ1_compare 10 = .ok (.iload_n 1, 1) := dk_27 (dk_at dksJ1_compare_0 10 rfl rfl)
theorem dJ1_compare_11 : decode cJ1_compare 11 = .ok (.if_icmp .ne 7, 3) := dk_160 0 7 (dk_at dksJ1_compare_0 11 rfl rfl)
theorem dJ1_compare_14 : decode cJ1_compare 14 = .ok (.iconst 0, 1) := dk_3 (dk_at dksJ1_compare_0 14 rfl rfl)
theorem dJ1_compare_15 : decode cJ1_compare 15 = .ok (.goto 4, 3) := dk_167 0 4 (dk_at dksJ1_compare_0 15 rfl rfl)
theorem dJ1_compare_18 : decode cJ1_compare 18 = .ok (.iconst 1, 1) := dk_4 (dk_at dksJ1_compare_0 18 rfl rfl)
theorem dJ1_compare_19 : decode cJ1_compare 19 = .ok (.ireturn, 1) := dk_172 (dk_at dksJ1_compare_0 19 rfl rfl)
abbrev cJ1_numberOfLeadingZeros : ByteArray := prog_41_method_47_code
def yJ1_numberOfLeadingZeros : MethodName := ⟨RJ1, "numberOfLeadingZeros", "(I)I"⟩
def dkwJ1_numberOfLeadingZeros_3 : List UInt8 := [5, 124, 59, 27, 26, 4, 124, 100, 172]
abbrev dktJ1_numberOfLeadingZeros_3 : List UInt8 := dkwJ1_numberOfLeadingZeros_3 ++ []
def dkwJ1_numberOfLeadingZeros_2 : List UInt8 := [124, 59, 26, 16, 16, 161, 0, 10, 132, 1, 252, 26, 7, 124, 59, 26, 7, 161, 0, 10, 132, 1, 254, 26]
abbrev dktJ1_numberOfLeadingZeros_2 : List UInt8 := dkwJ1_numberOfLeadingZeros_2 ++ dktJ1_numberOfLeadingZeros_3
def dkwJ1_numberOfLeadingZeros_1 : List UInt8 := [161, 0, 11, 132, 1, 240, 26, 16, 16, 124, 59, 26, 17, 1, 0, 161, 0, 11, 132, 1, 248, 26, 16, 8]
abbrev dktJ1_numberOfLeadingZeros_1 : List UInt8 := dkwJ1_numberOfLeadingZeros_1 ++ dktJ1_numberOfLeadingZeros_2
def dkwJ1_numberOfLeadingZeros_0 : List UInt8 := [26, 157, 0, 14, 26, 154, 0, 8, 16, 32, 167, 0, 4, 3, 172, 16, 31, 60, 26, 19, 1, 8]
abbrev dktJ1_numberOfLeadingZeros_0 : List UInt8 := dkwJ1_numberOfLeadingZeros_0 ++ dktJ1_numberOfLeadingZeros_1
theorem dksJ1_numberOfLeadingZeros_0 : cJ1_numberOfLeadingZeros.data.toList.drop 0 = dktJ1_numberOfLeadingZeros_0 := by decide +kernel
theorem dksJ1_numberOfLeadingZeros_1 : cJ1_numberOfLeadingZeros.data.toList.drop 22 = dktJ1_numberOfLeadingZeros_1 := dk_seg dksJ1_numberOfLeadingZeros_0 22 rfl rfl
theorem dksJ1_numberOfLeadingZeros_2 : cJ1_numberOfLeadingZeros.data.toList.drop 46 = dktJ1_numberOfLeadingZeros_2 := dk_seg dksJ1_numberOfLeadingZeros_1 24 rfl rfl
theorem dksJ1_numberOfLeadingZeros_3 : cJ1_numberOfLeadingZeros.data.toList.drop 70 = dktJ1_numberOfLeadingZeros_3 := dk_seg dksJ1_numberOfLeadingZeros_2 24 rfl rfl
theorem dJ1_numberOfLeadingZeros_0 : decode cJ1_numberOfLeadingZeros 0 = .ok (.iload_n 0, 1) := dk_26 (dk_at dksJ1_numberOfLeadingZeros_0 0 rfl rfl)
theorem dJ1_numberOfLeadingZeros_1 : decode cJ1_numberOfLeadingZeros 1 = .ok (.ifCond .gt 14, 3) := dk_157 0 14 (dk_at dksJ1_numberOfLeadingZeros_0 1 rfl rfl)
theorem dJ1_numberOfLeadingZeros_4 : decode cJ1_numberOfLeadingZeros 4 = .ok (.iload_n 0, 1) := dk_26 (dk_at dksJ1_numberOfLeadingZeros_0 4 rfl rfl)
theorem dJ1_numberOfLeadingZeros_5 : decode cJ1_numberOfLeadingZeros 5 = .ok (.ifCond .ne 8, 3) := dk_154 0 8 (dk_at dksJ1_numberOfLeadingZeros_0 5 rfl rfl)
theorem dJ1_numberOfLeadingZeros_8 : decode cJ1_numberOfLeadingZeros 8 = .ok (.bipush 32, 2) := dk_16 32 (dk_at dksJ1_numberOfLeadingZeros_0 8 rfl rfl)
theorem dJ1_numberOfLeadingZeros_10 : decode cJ1_numberOfLeadingZeros 10 = .ok (.goto 4, 3) := dk_167 0 4 (dk_at dksJ1_numberOfLeadingZeros_0 10 rfl rfl)
theorem dJ1_numberOfLeadingZeros_13 : decode cJ1_numberOfLeadingZeros 13 = .ok (.iconst 0, 1) := dk_3 (dk_at dksJ1_numberOfLeadingZeros_0 13 rfl rfl)
theorem dJ1_numberOfLeadingZeros_14 : decode cJ1_numberOfLeadingZeros 14 = .ok (.ireturn, 1) := dk_172 (dk_at dksJ1_numberOfLeadingZeros_0 14 rfl rfl)
theorem dJ1_numberOfLeadingZeros_15 : decode cJ1_numberOfLeadingZeros 15 = .ok (.bipush 31, 2) := dk_16 31 (dk_at dksJ1_numberOfLeadingZeros_0 15 rfl rfl)
theorem dJ1_numberOfLeadingZeros_17 : decode cJ1_numberOfLeadingZeros 17 = .ok (.istore_n 1, 1) := dk_60 (dk_at dksJ1_numberOfLeadingZeros_0 17 rfl rfl)
theorem dJ1_numberOfLeadingZeros_18 : decode cJ1_numberOfLeadingZeros 18 = .ok (.iload_n 0, 1) := dk_26 (dk_at dksJ1_numberOfLeadingZeros_0 18 rfl rfl)
theorem dJ1_numberOfLeadingZeros_19 : decode cJ1_numberOfLeadingZeros 19 = .ok (.ldc_w 264, 3) := dk_19 1 8 (dk_at dksJ1_numberOfLeadingZeros_0 19 rfl rfl)
theorem dJ1_numberOfLeadingZeros_22 : decode cJ1_numberOfLeadingZeros 22 = .ok (.if_icmp .lt 11, 3) := dk_161 0 11 (dk_at dksJ1_numberOfLeadingZeros_1 0 rfl rfl)
theorem dJ1_numberOfLeadingZeros_25 : decode cJ1_numberOfLeadingZeros 25 = .ok (.iinc 1 (-16), 3) := dk_132 1 240 (dk_at dksJ1_numberOfLeadingZeros_1 3 rfl rfl)
theorem dJ1_numberOfLeadingZeros_28 : decode cJ1_numberOfLeadingZeros 28 = .ok (.iload_n 0, 1) := dk_26 (dk_at dksJ1_numberOfLeadingZeros_1 6 rfl rfl)
theorem dJ1_numberOfLeadingZeros_29 : decode cJ1_numberOfLeadingZeros 29 = .ok (.bipush 16, 2) := dk_16 16 (dk_at dksJ1_numberOfLeadingZeros_1 7 rfl rfl)
theorem dJ1_numberOfLeadingZeros_31 : decode cJ1_numberOfLeadingZeros 31 = .ok (.iushr, 1) := dk_124 (dk_at dksJ1_numberOfLeadingZeros_1 9 rfl rfl)
theorem dJ1_numberOfLeadingZeros_32 : decode cJ1_numberOfLeadingZeros 32 = .ok (.istore_n 0, 1) := dk_59 (dk_at dksJ1_numberOfLeadingZeros_1 10 rfl rfl)
theorem dJ1_numberOfLeadingZeros_33 : decode cJ1_numberOfLeadingZeros 33 = .ok (.iload_n 0, 1) := dk_26 (dk_at dksJ1_numberOfLeadingZeros_1 11 rfl rfl)
theorem dJ1_numberOfLeadingZeros_34 : decode cJ1_numberOfLeadingZeros 34 = .ok (.sipush 256, 3) := dk_17 1 0 (dk_at dksJ1_numberOfLeadingZeros_1 12 rfl rfl)
theorem dJ1_numberOfLeadingZeros_37 : decode cJ1_numberOfLeadingZeros 37 = .ok (.if_icmp .lt 11, 3) := dk_161 0 11 (dk_at dksJ1_numberOfLeadingZeros_1 15 rfl rfl)
theorem dJ1_numberOfLeadingZeros_40 : decode cJ1_numberOfLeadingZeros 40 = .ok (.iinc 1 (-8), 3) := dk_132 1 248 (dk_at dksJ1_numberOfLeadingZeros_1 18 rfl rfl)
theorem dJ1_numberOfLeadingZeros_43 : decode cJ1_numberOfLeadingZeros 43 = .ok (.iload_n 0, 1) := dk_26 (dk_at dksJ1_numberOfLeadingZeros_1 21 rfl rfl)
theorem dJ1_numberOfLeadingZeros_44 : decode cJ1_numberOfLeadingZeros 44 = .ok (.bipush 8, 2) := dk_16 8 (dk_at dksJ1_numberOfLeadingZeros_1 22 rfl rfl)
theorem dJ1_numberOfLeadingZeros_46 : decode cJ1_numberOfLeadingZeros 46 = .ok (.iushr, 1) := dk_124 (dk_at dksJ1_numberOfLeadingZeros_2 0 rfl rfl)
theorem dJ1_numberOfLeadingZeros_47 : decode cJ1_numberOfLeadingZeros 47 = .ok (.istore_n 0, 1) := dk_59 (dk_at dksJ1_numberOfLeadingZeros_2 1 rfl rfl)
theorem dJ1_numberOfLeadingZeros_48 : decode cJ1_numberOfLeadingZeros 48 = .ok (.iload_n 0, 1) := dk_26 (dk_at dksJ1_numberOfLeadingZeros_2 2 rfl rfl)
theorem dJ1_numberOfLeadingZeros_49 : decode cJ1_numberOfLeadingZeros 49 = .ok (.bipush 16, 2) := dk_16 16 (dk_at dksJ1_numberOfLeadingZeros_2 3 rfl rfl)
theorem dJ1_numberOfLeadingZeros_51 : decode cJ1_numberOfLeadingZeros 51 = .ok (.if_icmp .lt 10, 3) := dk_161 0 10 (dk_at dksJ1_numberOfLeadingZeros_2 5 rfl rfl)
theorem dJ1_numberOfLeadingZeros_54 : decode cJ1_numberOfLeadingZeros 54 = .ok (.iinc 1 (-4), 3) := dk_132 1 252 (dk_at dksJ1_numberOfLeadingZeros_2 8 rfl rfl)
theorem dJ1_numberOfLeadingZeros_57 : decode cJ1_numberOfLeadingZeros 57 = .ok (.iload_n 0, 1) := dk_26 (dk_at dksJ1_numberOfLeadingZeros_2 11 rfl rfl)
theorem dJ1_numberOfLeadingZeros_58 : decode cJ1_numberOfLeadingZeros 58 = .ok (.iconst 4, 1) := dk_7 (dk_at dksJ1_numberOfLeadingZeros_2 12 rfl rfl)
theorem dJ1_numberOfLeadingZeros_59 : decode cJ1_numberOfLeadingZeros 59 = .ok (.iushr, 1) := dk_124 (dk_at dksJ1_numberOfLeadingZeros_2 13 rfl rfl)
theorem dJ1_numberOfLeadingZeros_60 : decode cJ1_numberOfLeadingZeros 60 = .ok (.istore_n 0, 1) := dk_59 (dk_at dksJ1_numberOfLeadingZeros_2 14 rfl rfl)
theorem dJ1_numberOfLeadingZeros_61 : decode cJ1_numberOfLeadingZeros 61 = .ok (.iload_n 0, 1) := dk_26 (dk_at dksJ1_numberOfLeadingZeros_2 15 rfl rfl)
theorem dJ1_numberOfLeadingZeros_62 : decode cJ1_numberOfLeadingZeros 62 = .ok (.iconst 4, 1) := dk_7 (dk_at dksJ1_numberOfLeadingZeros_2 16 rfl rfl)
theorem dJ1_numberOfLeadingZeros_63 : decode cJ1_numberOfLeadingZeros 63 = .ok (.if_icmp .lt 10, 3) := dk_161 0 10 (dk_at dksJ1_numberOfLeadingZeros_2 17 rfl rfl)
theorem dJ1_numberOfLeadingZeros_66 : decode cJ1_numberOfLeadingZeros 66 = .ok (.iinc 1 (-2), 3) := dk_132 1 254 (dk_at dksJ1_numberOfLeadingZeros_2 20 rfl rfl)
theorem dJ1_numberOfLeadingZeros_69 : decode cJ1_numberOfLeadingZeros 69 = .ok (.iload_n 0, 1) := dk_26 (dk_at dksJ1_numberOfLeadingZeros_2 23 rfl rfl)
theorem dJ1_numberOfLeadingZeros_70 : decode cJ1_numberOfLeadingZeros 70 = .ok (.iconst 2, 1) := dk_5 (dk_at dksJ1_numberOfLeadingZeros_3 0 rfl rfl)
theorem dJ1_numberOfLeadingZeros_71 : decode cJ1_numberOfLeadingZeros 71 = .ok (.iushr, 1) := dk_124 (dk_at dksJ1_numberOfLeadingZeros_3 1 rfl rfl)
theorem dJ1_numberOfLeadingZeros_72 : decode cJ1_numberOfLeadingZeros 72 = .ok (.istore_n 0, 1) := dk_59 (dk_at dksJ1_numberOfLeadingZeros_3 2 rfl rfl)
theorem dJ1_numberOfLeadingZeros_73 : decode cJ1_numberOfLeadingZeros 73 = .ok (.iload_n 1, 1) := dk_27 (dk_at dksJ1_numberOfLeadingZeros_3 3 rfl rfl)
theorem dJ1_numberOfLeadingZeros_74 : decode cJ1_numberOfLeadingZeros 74 = .ok (.iload_n 0, 1) := dk_26 (dk_at dksJ1_numberOfLeadingZeros_3 4 rfl rfl)
theorem dJ1_numberOfLeadingZeros_75 : decode cJ1_numberOfLeadingZeros 75 = .ok (.iconst 1, 1) := dk_4 (dk_at dksJ1_numberOfLeadingZeros_3 5 rfl rfl)
theorem dJ1_numberOfLeadingZeros_76 : decode cJ1_numberOfLeadingZeros 76 = .ok (.iushr, 1) := dk_124 (dk_at dksJ1_numberOfLeadingZeros_3 6 rfl rfl)
theorem dJ1_numberOfLeadingZeros_77 : decode cJ1_numberOfLeadingZeros 77 = .ok (.isub, 1) := dk_100 (dk_at dksJ1_numberOfLeadingZeros_3 7 rfl rfl)
theorem dJ1_numberOfLeadingZeros_78 : decode cJ1_numberOfLeadingZeros 78 = .ok (.ireturn, 1) := dk_172 (dk_at dksJ1_numberOfLeadingZeros_3 8 rfl rfl)
abbrev cJ1_equals : ByteArray := prog_41_method_34_code
def yJ1_equals : MethodName := ⟨RJ1, "equals", "(Ljava/lang/Object;)Z"⟩
def dkwJ1_equals_1 : List UInt8 := [167, 0, 4, 3, 172, 3, 172]
abbrev dktJ1_equals_1 : List UInt8 := dkwJ1_equals_1 ++ []
def dkwJ1_equals_0 : List UInt8 := [43, 193, 0, 1, 153, 0, 23, 42, 180, 0, 205, 43, 192, 0, 1, 182, 0, 211, 160, 0, 7, 4]
abbrev dktJ1_equals_0 : List UInt8 := dkwJ1_equals_0 ++ dktJ1_equals_1
theorem dksJ1_equals_0 : cJ1_equals.data.toList.drop 0 = dktJ1_equals_0 := by decide +kernel
theorem dksJ1_equals_1 : cJ1_equals.data.toList.drop 22 = dktJ1_equals_1 := dk_seg dksJ1_equals_0 22 rfl rfl
theorem dJ1_equals_0 : decode cJ1_equals 0 = .ok (.aload_n 1, 1) := dk_43 (dk_at dksJ1_equals_0 0 rfl rfl)
theorem dJ1_equals_1 : decode cJ1_equals 1 = .ok (.instanceof 1, 3) := dk_193 0 1 (dk_at dksJ1_equals_0 1 rfl rfl)
theorem dJ1_equals_4 : decode cJ1_equals 4 = .ok (.ifCond .eq 23, 3) := dk_153 0 23 (dk_at dksJ1_equals_0 4 rfl rfl)
theorem dJ1_equals_7 : decode cJ1_equals 7 = .ok (.aload_n 0, 1) := dk_42 (dk_at dksJ1_equals_0 7 rfl rfl)
theorem dJ1_equals_8 : decode cJ1_equals 8 = .ok (.getfield 205, 3) := dk_180 0 205 (dk_at dksJ1_equals_0 8 rfl rfl)
theorem dJ1_equals_11 : decode cJ1_equals 11 = .ok (.aload_n 1, 1) := dk_43 (dk_at dksJ1_equals_0 11 rfl rfl)
theorem dJ1_equals_12 : decode cJ1_equals 12 = .ok (.checkcast 1, 3) := dk_192 0 1 (dk_at dksJ1_equals_0 12 rfl rfl)
theorem dJ1_equals_15 : decode cJ1_equals 15 = .ok (.invokevirtual 211, 3) := dk_182 0 211 (dk_at dksJ1_equals_0 15 rfl rfl)
theorem dJ1_equals_18 : decode cJ1_equals 18 = .ok (.if_icmp .ne 7, 3) := dk_160 0 7 (dk_at dksJ1_equals_0 18 rfl rfl)
theorem dJ1_equals_21 : decode cJ1_equals 21 = .ok (.iconst 1, 1) := dk_4 (dk_at dksJ1_equals_0 21 rfl rfl)
theorem dJ1_equals_22 : decode cJ1_equals 22 = .ok (.goto 4, 3) := dk_167 0 4 (dk_at dksJ1_equals_1 0 rfl rfl)
theorem dJ1_equals_25 : decode cJ1_equals 25 = .ok (.iconst 0, 1) := dk_3 (dk_at dksJ1_equals_1 3 rfl rfl)
theorem dJ1_equals_26 : decode cJ1_equals 26 = .ok (.ireturn, 1) := dk_172 (dk_at dksJ1_equals_1 4 rfl rfl)
theorem dJ1_equals_27 : decode cJ1_equals 27 = .ok (.iconst 0, 1) := dk_3 (dk_at dksJ1_equals_1 5 rfl rfl)
theorem dJ1_equals_28 : decode cJ1_equals 28 = .ok (.ireturn, 1) := dk_172 (dk_at dksJ1_equals_1 6 rfl rfl)
abbrev cJ1_intValue : ByteArray := prog_41_method_27_code
def yJ1_intValue : MethodName := ⟨RJ1, "intValue", "()I"⟩
theorem dJ1_intValue_0 : decode cJ1_intValue 0 = .ok (.aload_n 0, 1) := by decide +kernel
theorem dJ1_intValue_1 : decode cJ1_intValue 1 = .ok (.getfield 205, 3) := by decide +kernel
theorem dJ1_intValue_4 : decode cJ1_intValue 4 = .ok (.ireturn, 1) := by decide +kernel
abbrev cJ1_valueOf : ByteArray := prog_41_method_22_code
def yJ1_valueOf : MethodName := ⟨RJ1, "valueOf", "(I)Ljava/lang/Integer;"⟩
def dkwJ1_valueOf_1 : List UInt8 := [187, 0, 1, 89, 26, 183, 0, 199, 176]
abbrev dktJ1_valueOf_1 : List UInt8 := dkwJ1_valueOf_1 ++ []
def dkwJ1_valueOf_0 : List UInt8 := [26, 16, 128, 161, 0, 20, 26, 178, 0, 191, 163, 0, 13, 178, 0, 195, 26, 17, 0, 128, 96, 50, 176]
abbrev dktJ1_valueOf_0 : List UInt8 := dkwJ1_valueOf_0 ++ dktJ1_valueOf_1
theorem dksJ1_valueOf_0 : cJ1_valueOf.data.toList.drop 0 = dktJ1_valueOf_0 := by decide +kernel
theorem dksJ1_valueOf_1 : cJ1_valueOf.data.toList.drop 23 = dktJ1_valueOf_1 := dk_seg dksJ1_valueOf_0 23 rfl rfl
theorem dJ1_valueOf_0 : decode cJ1_valueOf 0 = .ok (.iload_n 0, 1) := dk_26 (dk_at dksJ1_valueOf_0 0 rfl rfl)
theorem dJ1_valueOf_1 : decode cJ1_valueOf 1 = .ok (.bipush (-128), 2) := dk_16 128 (dk_at dksJ1_valueOf_0 1 rfl rfl)
theorem dJ1_valueOf_3 : decode cJ1_valueOf 3 = .ok (.if_icmp .lt 20, 3) := dk_161 0 20 (dk_at dksJ1_valueOf_0 3 rfl rfl)
theorem dJ1_valueOf_6 : decode cJ1_valueOf 6 = .ok (.iload_n 0, 1) := dk_26 (dk_at dksJ1_valueOf_0 6 rfl rfl)
theorem dJ1_valueOf_7 : decode cJ1_valueOf 7 = .ok (.getstatic 191, 3) := dk_178 0 191 (dk_at dksJ1_valueOf_0 7 rfl rfl)
theorem dJ1_valueOf_10 : decode cJ1_valueOf 10 = .ok (.if_icmp .gt 13, 3) := dk_163 0 13 (dk_at dksJ1_valueOf_0 10 rfl rfl)
theorem dJ1_valueOf_13 : decode cJ1_valueOf 13 = .ok (.getstatic 195, 3) := dk_178 0 195 (dk_at dksJ1_valueOf_0 13 rfl rfl)
theorem dJ1_valueOf_16 : decode cJ1_valueOf 16 = .ok (.iload_n 0, 1) := dk_26 (dk_at dksJ1_valueOf_0 16 rfl rfl)
theorem dJ1_valueOf_17 : decode cJ1_valueOf 17 = .ok (.sipush 128, 3) := dk_17 0 128 (dk_at dksJ1_valueOf_0 17 rfl rfl)
theorem dJ1_valueOf_20 : decode cJ1_valueOf 20 = .ok (.iadd, 1) := dk_96 (dk_at dksJ1_valueOf_0 20 rfl rfl)
theorem dJ1_valueOf_21 : decode cJ1_valueOf 21 = .ok (.aaload, 1) := dk_50 (dk_at dksJ1_valueOf_0 21 rfl rfl)
theorem dJ1_valueOf_22 : decode cJ1_valueOf 22 = .ok (.areturn, 1) := dk_176 (dk_at dksJ1_valueOf_0 22 rfl rfl)
theorem dJ1_valueOf_23 : decode cJ1_valueOf 23 = .ok (.new 1, 3) := dk_187 0 1 (dk_at dksJ1_valueOf_1 0 rfl rfl)
theorem dJ1_valueOf_26 : decode cJ1_valueOf 26 = .ok (.dup, 1) := dk_89 (dk_at dksJ1_valueOf_1 3 rfl rfl)
theorem dJ1_valueOf_27 : decode cJ1_valueOf 27 = .ok (.iload_n 0, 1) := dk_26 (dk_at dksJ1_valueOf_1 4 rfl rfl)
theorem dJ1_valueOf_28 : decode cJ1_valueOf 28 = .ok (.invokespecial 199, 3) := dk_183 0 199 (dk_at dksJ1_valueOf_1 5 rfl rfl)
theorem dJ1_valueOf_31 : decode cJ1_valueOf 31 = .ok (.areturn, 1) := dk_176 (dk_at dksJ1_valueOf_1 8 rfl rfl)
abbrev cJ1_init : ByteArray := prog_41_method_23_code
def yJ1_init : MethodName := ⟨RJ1, "<init>", "(I)V"⟩
def dkwJ1_init_0 : List UInt8 := [42, 183, 0, 202, 42, 27, 181, 0, 205, 177]
abbrev dktJ1_init_0 : List UInt8 := dkwJ1_init_0 ++ []
theorem dksJ1_init_0 : cJ1_init.data.toList.drop 0 = dktJ1_init_0 := by decide +kernel
theorem dJ1_init_0 : decode cJ1_init 0 = .ok (.aload_n 0, 1) := dk_42 (dk_at dksJ1_init_0 0 rfl rfl)
theorem dJ1_init_1 : decode cJ1_init 1 = .ok (.invokespecial 202, 3) := dk_183 0 202 (dk_at dksJ1_init_0 1 rfl rfl)
theorem dJ1_init_4 : decode cJ1_init 4 = .ok (.aload_n 0, 1) := dk_42 (dk_at dksJ1_init_0 4 rfl rfl)
theorem dJ1_init_5 : decode cJ1_init 5 = .ok (.iload_n 1, 1) := dk_27 (dk_at dksJ1_init_0 5 rfl rfl)
theorem dJ1_init_6 : decode cJ1_init 6 = .ok (.putfield 205, 3) := dk_181 0 205 (dk_at dksJ1_init_0 6 rfl rfl)
theorem dJ1_init_9 : decode cJ1_init 9 = .ok (.return_, 1) := dk_177 (dk_at dksJ1_init_0 9 rfl rfl)
theorem q109 : (Jvm.Cond.initialized "java/lang/Integer") ∈ lw_all := lw_g (lw_at lw_m1 4 rfl) rfl
theorem q221 : (Jvm.Cond.static ({ cls := "java/lang/Integer", name := "bitCount", desc := "(I)I" } : Jvm.MethodName)) ∈ lw_all := lw_g (lw_at lw_m1 116 rfl) rfl
theorem q222 : (Jvm.Cond.code ({ cls := "java/lang/Integer", name := "bitCount", desc := "(I)I" } : Jvm.MethodName) prog_41_method_49_code (1 : Nat) (Option.some Jvm.ClassFile.FieldType.int)) ∈ lw_all := lw_g (lw_at lw_m1 117 rfl) rfl
theorem q223 : (Jvm.Cond.constant "java/lang/Integer" (265 : Nat) (1431655765 : Int32)) ∈ lw_all := lw_g (lw_at lw_m1 118 rfl) rfl
theorem q224 : (Jvm.Cond.constant "java/lang/Integer" (266 : Nat) (858993459 : Int32)) ∈ lw_all := lw_g (lw_at lw_m1 119 rfl) rfl
theorem q225 : (Jvm.Cond.constant "java/lang/Integer" (267 : Nat) (252645135 : Int32)) ∈ lw_all := lw_g (lw_at lw_m1 120 rfl) rfl
theorem q286 : (Jvm.Cond.static ({ cls := "java/lang/Integer", name := "numberOfTrailingZeros", desc := "(I)I" } : Jvm.MethodName)) ∈ lw_all := lw_g (lw_at lw_m1 181 rfl) rfl
theorem q287 : (Jvm.Cond.code ({ cls := "java/lang/Integer", name := "numberOfTrailingZeros", desc := "(I)I" } : Jvm.MethodName) prog_41_method_48_code (2 : Nat) (Option.some Jvm.ClassFile.FieldType.int)) ∈ lw_all := lw_g (lw_at lw_m1 182 rfl) rfl
theorem q288 : (Jvm.Cond.constant "java/lang/Integer" (264 : Nat) (65536 : Int32)) ∈ lw_all := lw_g (lw_at lw_m1 183 rfl) rfl
theorem q916 : (Jvm.Cond.selects "java/lang/Integer" ({ cls := "java/lang/Object", name := "hashCode", desc := "()I" } : Jvm.MethodName) ({ cls := "java/lang/Integer", name := "hashCode", desc := "()I" } : Jvm.MethodName)) ∈ lw_all := lw_g (lw_at lw_m4 91 rfl) rfl
theorem q917 : (Jvm.Cond.instanceMethod ({ cls := "java/lang/Integer", name := "hashCode", desc := "()I" } : Jvm.MethodName)) ∈ lw_all := lw_g (lw_at lw_m4 92 rfl) rfl
theorem q918 : (Jvm.Cond.code ({ cls := "java/lang/Integer", name := "hashCode", desc := "()I" } : Jvm.MethodName) prog_41_method_32_code (1 : Nat) (Option.some Jvm.ClassFile.FieldType.int)) ∈ lw_all := lw_g (lw_at lw_m4 93 rfl) rfl
theorem q919 : (Jvm.Cond.methodLink "java/lang/Integer" (208 : Nat) ({ cls := "java/lang/Integer", name := "hashCode", desc := "(I)I" } : Jvm.MethodName)) ∈ lw_all := lw_g (lw_at lw_m4 94 rfl) rfl
theorem q920 : (Jvm.Cond.static ({ cls := "java/lang/Integer", name := "hashCode", desc := "(I)I" } : Jvm.MethodName)) ∈ lw_all := lw_g (lw_at lw_m4 95 rfl) rfl
theorem q921 : (Jvm.Cond.code ({ cls := "java/lang/Integer", name := "hashCode", desc := "(I)I" } : Jvm.MethodName) prog_41_method_33_code (1 : Nat) (Option.some Jvm.ClassFile.FieldType.int)) ∈ lw_all := lw_g (lw_at lw_m4 96 rfl) rfl
theorem q1127 : (Jvm.Cond.selects "java/lang/Integer" ({ cls := "java/lang/Object", name := "getClass", desc := "()Ljava/lang/Class;" } : Jvm.MethodName) ({ cls := "java/lang/Object", name := "getClass", desc := "()Ljava/lang/Class;" } : Jvm.MethodName)) ∈ lw_all := lw_g (lw_at lw_m5 62 rfl) rfl
theorem q1153 : (Jvm.Cond.castable "java/lang/Integer" "java/lang/Comparable") ∈ lw_tbl := lw_at lw_m5 88 rfl
theorem q1154 : (Jvm.Cond.selects "java/lang/Integer" ({ cls := "java/lang/Comparable", name := "compareTo", desc := "(Ljava/lang/Object;)I" } : Jvm.MethodName) ({ cls := "java/lang/Integer", name := "compareTo", desc := "(Ljava/lang/Object;)I" } : Jvm.MethodName)) ∈ lw_all := lw_g (lw_at lw_m5 89 rfl) rfl
theorem q1155 : (Jvm.Cond.unhidden "java/lang/Integer" "compareTo" "(Ljava/lang/Object;)I") ∈ lw_tbl := lw_at lw_m5 90 rfl
theorem q1156 : (Jvm.Cond.instanceMethod ({ cls := "java/lang/Integer", name := "compareTo", desc := "(Ljava/lang/Object;)I" } : Jvm.MethodName)) ∈ lw_all := lw_g (lw_at lw_m5 91 rfl) rfl
theorem q1157 : (Jvm.Cond.publicMethod ({ cls := "java/lang/Integer", name := "compareTo", desc := "(Ljava/lang/Object;)I" } : Jvm.MethodName)) ∈ lw_tbl := lw_at lw_m5 92 rfl
theorem q1158 : (Jvm.Cond.code ({ cls := "java/lang/Integer", name := "compareTo", desc := "(Ljava/lang/Object;)I" } : Jvm.MethodName) prog_41_method_63_code (2 : Nat) (Option.some Jvm.ClassFile.FieldType.int)) ∈ lw_all := lw_g (lw_at lw_m5 93 rfl) rfl
theorem q1159 : (Jvm.Cond.classLink "java/lang/Integer" (1 : Nat) "java/lang/Integer") ∈ lw_all := lw_g (lw_at lw_m5 94 rfl) rfl
theorem q1160 : (Jvm.Cond.methodLink "java/lang/Integer" (284 : Nat) ({ cls := "java/lang/Integer", name := "compareTo", desc := "(Ljava/lang/Integer;)I" } : Jvm.MethodName)) ∈ lw_all := lw_g (lw_at lw_m5 95 rfl) rfl
theorem q1161 : (Jvm.Cond.instanceMethod ({ cls := "java/lang/Integer", name := "compareTo", desc := "(Ljava/lang/Integer;)I" } : Jvm.MethodName)) ∈ lw_all := lw_g (lw_at lw_m5 96 rfl) rfl
theorem q1162 : (Jvm.Cond.selects "java/lang/Integer" ({ cls := "java/lang/Integer", name := "compareTo", desc := "(Ljava/lang/Integer;)I" } : Jvm.MethodName) ({ cls := "java/lang/Integer", name := "compareTo", desc := "(Ljava/lang/Integer;)I" } : Jvm.MethodName)) ∈ lw_all := lw_g (lw_at lw_m5 97 rfl) rfl
theorem q1163 : (Jvm.Cond.code ({ cls := "java/lang/Integer", name := "compareTo", desc := "(Ljava/lang/Integer;)I" } : Jvm.MethodName) prog_41_method_39_code (2 : Nat) (Option.some Jvm.ClassFile.FieldType.int)) ∈ lw_all := lw_g (lw_at lw_m5 98 rfl) rfl
theorem q1164 : (Jvm.Cond.methodLink "java/lang/Integer" (259 : Nat) ({ cls := "java/lang/Integer", name := "compare", desc := "(II)I" } : Jvm.MethodName)) ∈ lw_all := lw_g (lw_at lw_m5 99 rfl) rfl
theorem q1165 : (Jvm.Cond.static ({ cls := "java/lang/Integer", name := "compare", desc := "(II)I" } : Jvm.MethodName)) ∈ lw_all := lw_g (lw_at lw_m5 100 rfl) rfl
theorem q1166 : (Jvm.Cond.code ({ cls := "java/lang/Integer", name := "compare", desc := "(II)I" } : Jvm.MethodName) prog_41_method_40_code (2 : Nat) (Option.some Jvm.ClassFile.FieldType.int)) ∈ lw_all := lw_g (lw_at lw_m5 101 rfl) rfl
theorem q1261 : (Jvm.Cond.static ({ cls := "java/lang/Integer", name := "numberOfLeadingZeros", desc := "(I)I" } : Jvm.MethodName)) ∈ lw_all := lw_g (lw_at lw_m5 196 rfl) rfl
theorem q1262 : (Jvm.Cond.code ({ cls := "java/lang/Integer", name := "numberOfLeadingZeros", desc := "(I)I" } : Jvm.MethodName) prog_41_method_47_code (2 : Nat) (Option.some Jvm.ClassFile.FieldType.int)) ∈ lw_all := lw_g (lw_at lw_m5 197 rfl) rfl
theorem q1376 : (Jvm.Cond.selects "java/lang/Integer" ({ cls := "java/lang/Object", name := "equals", desc := "(Ljava/lang/Object;)Z" } : Jvm.MethodName) ({ cls := "java/lang/Integer", name := "equals", desc := "(Ljava/lang/Object;)Z" } : Jvm.MethodName)) ∈ lw_all := lw_g (lw_at lw_m6 71 rfl) rfl
theorem q1377 : (Jvm.Cond.instanceMethod ({ cls := "java/lang/Integer", name := "equals", desc := "(Ljava/lang/Object;)Z" } : Jvm.MethodName)) ∈ lw_all := lw_g (lw_at lw_m6 72 rfl) rfl
theorem q1378 : (Jvm.Cond.code ({ cls := "java/lang/Integer", name := "equals", desc := "(Ljava/lang/Object;)Z" } : Jvm.MethodName) prog_41_method_34_code (2 : Nat) (Option.some Jvm.ClassFile.FieldType.boolean)) ∈ lw_all := lw_g (lw_at lw_m6 73 rfl) rfl
theorem q1379 : (Jvm.Cond.methodLink "java/lang/Integer" (211 : Nat) ({ cls := "java/lang/Integer", name := "intValue", desc := "()I" } : Jvm.MethodName)) ∈ lw_all := lw_g (lw_at lw_m6 74 rfl) rfl
theorem q1380 : (Jvm.Cond.instanceMethod ({ cls := "java/lang/Integer", name := "intValue", desc := "()I" } : Jvm.MethodName)) ∈ lw_all := lw_g (lw_at lw_m6 75 rfl) rfl
theorem q1381 : (Jvm.Cond.selects "java/lang/Integer" ({ cls := "java/lang/Integer", name := "intValue", desc := "()I" } : Jvm.MethodName) ({ cls := "java/lang/Integer", name := "intValue", desc := "()I" } : Jvm.MethodName)) ∈ lw_all := lw_g (lw_at lw_m6 76 rfl) rfl
theorem q1382 : (Jvm.Cond.code ({ cls := "java/lang/Integer", name := "intValue", desc := "()I" } : Jvm.MethodName) prog_41_method_27_code (1 : Nat) (Option.some Jvm.ClassFile.FieldType.int)) ∈ lw_all := lw_g (lw_at lw_m6 77 rfl) rfl
theorem q1844 : (Jvm.Cond.static ({ cls := "java/lang/Integer", name := "valueOf", desc := "(I)Ljava/lang/Integer;" } : Jvm.MethodName)) ∈ lw_all := lw_g (lw_at lw_m8 59 rfl) rfl
theorem q1845 : (Jvm.Cond.code ({ cls := "java/lang/Integer", name := "valueOf", desc := "(I)Ljava/lang/Integer;" } : Jvm.MethodName) prog_41_method_22_code (1 : Nat) (Option.some (Jvm.ClassFile.FieldType.object "java/lang/Integer"))) ∈ lw_all := lw_g (lw_at lw_m8 60 rfl) rfl
theorem q1846 : (Jvm.Cond.fieldLink "java/lang/Integer" (191 : Nat) "java/lang/Integer$IntegerCache" "high" "I") ∈ lw_all := lw_g (lw_at lw_m8 61 rfl) rfl
theorem q1848 : (Jvm.Cond.fieldLink "java/lang/Integer" (195 : Nat) "java/lang/Integer$IntegerCache" "cache" "[Ljava/lang/Integer;") ∈ lw_all := lw_g (lw_at lw_m8 63 rfl) rfl
theorem q1850 : (Jvm.Cond.instantiable "java/lang/Integer" (1 : Nat)) ∈ lw_all := lw_g (lw_at lw_m8 65 rfl) rfl
theorem q1851 : (Jvm.Cond.methodLink "java/lang/Integer" (199 : Nat) ({ cls := "java/lang/Integer", name := "<init>", desc := "(I)V" } : Jvm.MethodName)) ∈ lw_all := lw_g (lw_at lw_m8 66 rfl) rfl
theorem q1852 : (Jvm.Cond.instanceMethod ({ cls := "java/lang/Integer", name := "<init>", desc := "(I)V" } : Jvm.MethodName)) ∈ lw_all := lw_g (lw_at lw_m8 67 rfl) rfl
theorem q1853 : (Jvm.Cond.code ({ cls := "java/lang/Integer", name := "<init>", desc := "(I)V" } : Jvm.MethodName) prog_41_method_23_code (2 : Nat) (Option.none : Option Jvm.ClassFile.FieldType)) ∈ lw_all := lw_g (lw_at lw_m8 68 rfl) rfl
theorem q1854 : (Jvm.Cond.methodLink "java/lang/Integer" (202 : Nat) ({ cls := "java/lang/Number", name := "<init>", desc := "()V" } : Jvm.MethodName)) ∈ lw_all := lw_g (lw_at lw_m8 69 rfl) rfl
theorem q1858 : (Jvm.Cond.fieldLink "java/lang/Integer" (205 : Nat) "java/lang/Integer" "value" "I") ∈ lw_all := lw_g (lw_at lw_m8 73 rfl) rfl
theorem q1859 : (Jvm.Cond.laysFinal "java/lang/Integer" "java/lang/Integer" "value" "I") ∈ lw_all := lw_g (lw_at lw_m8 74 rfl) rfl
theorem q1860 : (Jvm.Cond.soleField "java/lang/Integer" "value") ∈ lw_all := lw_g (lw_at lw_m8 75 rfl) rfl
theorem q1861 : (Jvm.Cond.superclass "java/lang/Integer" "java/lang/Number") ∈ lw_all := lw_g (lw_at lw_m8 76 rfl) rfl
theorem q3155 : (Jvm.Cond.castable "java/lang/Integer" "java/lang/Object") ∈ lw_tbl := lw_at lw_m13 170 rfl
theorem in_J1 : ∀ w ∈ wsJ10, w ∈ lw_all := lw_in wsJ10 [1859] (by decide +kernel) (by decide +kernel)
/-! java/lang/Long -/
set_option maxRecDepth 100000
def RJ2 : String := "java/lang/Long"
abbrev cJ2_bitCount : ByteArray := prog_44_method_50_code
def yJ2_bitCount : MethodName := ⟨RJ2, "bitCount", "(J)I"⟩
def dkwJ2_bitCount_2 : List UInt8 := [30, 30, 16, 32, 125, 97, 63, 30, 136, 16, 127, 126, 172]
abbrev dktJ2_bitCount_2 : List UInt8 := dkwJ2_bitCount_2 ++ []
def dkwJ2_bitCount_1 : List UInt8 := [30, 30, 7, 125, 97, 20, 1, 62, 127, 63, 30, 30, 16, 8, 125, 97, 63, 30, 30, 16, 16, 125, 97, 63]
abbrev dktJ2_bitCount_1 : List UInt8 := dkwJ2_bitCount_1 ++ dktJ2_bitCount_2
def dkwJ2_bitCount_0 : List UInt8 := [30, 30, 4, 125, 20, 1, 58, 127, 101, 63, 30, 20, 1, 60, 127, 30, 5, 125, 20, 1, 60, 127, 97, 63]
abbrev dktJ2_bitCount_0 : List UInt8 := dkwJ2_bitCount_0 ++ dktJ2_bitCount_1
theorem dksJ2_bitCount_0 : cJ2_bitCount.data.toList.drop 0 = dktJ2_bitCount_0 := by decide +kernel
theorem dksJ2_bitCount_1 : cJ2_bitCount.data.toList.drop 24 = dktJ2_bitCount_1 := dk_seg dksJ2_bitCount_0 24 rfl rfl
theorem dksJ2_bitCount_2 : cJ2_bitCount.data.toList.drop 48 = dktJ2_bitCount_2 := dk_seg dksJ2_bitCount_1 24 rfl rfl
theorem dJ2_bitCount_0 : decode cJ2_bitCount 0 = .ok (.lload_n 0, 1) := dk_30 (dk_at dksJ2_bitCount_0 0 rfl rfl)
theorem dJ2_bitCount_1 : decode cJ2_bitCount 1 = .ok (.lload_n 0, 1) := dk_30 (dk_at dksJ2_bitCount_0 1 rfl rfl)
theorem dJ2_bitCount_2 : decode cJ2_bitCount 2 = .ok (.iconst 1, 1) := dk_4 (dk_at dksJ2_bitCount_0 2 rfl rfl)
theorem dJ2_bitCount_3 : decode cJ2_bitCount 3 = .ok (.lushr, 1) := dk_125 (dk_at dksJ2_bitCount_0 3 rfl rfl)
theorem dJ2_bitCount_4 : decode cJ2_bitCount 4 = .ok (.ldc2_w 314, 3) := dk_20 1 58 (dk_at dksJ2_bitCount_0 4 rfl rfl)
theorem dJ2_bitCount_7 : decode cJ2_bitCount 7 = .ok (.land, 1) := dk_127 (dk_at dksJ2_bitCount_0 7 rfl rfl)
theorem dJ2_bitCount_8 : decode cJ2_bitCount 8 = .ok (.lsub, 1) := dk_101 (dk_at dksJ2_bitCount_0 8 rfl rfl)
theorem dJ2_bitCount_9 : decode cJ2_bitCount 9 = .ok (.lstore_n 0, 1) := dk_63 (dk_at dksJ2_bitCount_0 9 rfl rfl)
theorem dJ2_bitCount_10 : decode cJ2_bitCount 10 = .ok (.lload_n 0, 1) := dk_30 (dk_at dksJ2_bitCount_0 10 rfl rfl)
theorem dJ2_bitCount_11 : decode cJ2_bitCount 11 = .ok (.ldc2_w 316, 3) := dk_20 1 60 (dk_at dksJ2_bitCount_0 11 rfl rfl)
theorem dJ2_bitCount_14 : decode cJ2_bitCount 14 = .ok (.land, 1) := dk_127 (dk_at dksJ2_bitCount_0 14 rfl rfl)
theorem dJ2_bitCount_15 : decode cJ2_bitCount 15 = .ok (.lload_n 0, 1) := dk_30 (dk_at dksJ2_bitCount_0 15 rfl rfl)
theorem dJ2_bitCount_16 : decode cJ2_bitCount 16 = .ok (.iconst 2, 1) := dk_5 (dk_at dksJ2_bitCount_0 16 rfl rfl)
theorem dJ2_bitCount_17 : decode cJ2_bitCount 17 = .ok (.lushr, 1) := dk_125 (dk_at dksJ2_bitCount_0 17 rfl rfl)
theorem dJ2_bitCount_18 : decode cJ2_bitCount 18 = .ok (.ldc2_w 316, 3) := dk_20 1 60 (dk_at dksJ2_bitCount_0 18 rfl rfl)
theorem dJ2_bitCount_21 : decode cJ2_bitCount 21 = .ok (.land, 1) := dk_127 (dk_at dksJ2_bitCount_0 21 rfl rfl)
theorem dJ2_bitCount_22 : decode cJ2_bitCount 22 = .ok (.ladd, 1) := dk_97 (dk_at dksJ2_bitCount_0 22 rfl rfl)
theorem dJ2_bitCount_23 : decode cJ2_bitCount 23 = .ok (.lstore_n 0, 1) := dk_63 (dk_at dksJ2_bitCount_0 23 rfl rfl)
theorem dJ2_bitCount_24 : decode cJ2_bitCount 24 = .ok (.lload_n 0, 1) := dk_30 (dk_at dksJ2_bitCount_1 0 rfl rfl)
theorem dJ2_bitCount_25 : decode cJ2_bitCount 25 = .ok (.lload_n 0, 1) := dk_30 (dk_at dksJ2_bitCount_1 1 rfl rfl)
theorem dJ2_bitCount_26 : decode cJ2_bitCount 26 = .ok (.iconst 4, 1) := dk_7 (dk_at dksJ2_bitCount_1 2 rfl rfl)
theorem dJ2_bitCount_27 : decode cJ2_bitCount 27 = .ok (.lushr, 1) := dk_125 (dk_at dksJ2_bitCount_1 3 rfl rfl)
theorem dJ2_bitCount_28 : decode cJ2_bitCount 28 = .ok (.ladd, 1) := dk_97 (dk_at dksJ2_bitCount_1 4 rfl rfl)
theorem dJ2_bitCount_29 : decode cJ2_bitCount 29 = .ok (.ldc2_w 318, 3) := dk_20 1 62 (dk_at dksJ2_bitCount_1 5 rfl rfl)
theorem dJ2_bitCount_32 : decode cJ2_bitCount 32 = .ok (.land, 1) := dk_127 (dk_at dksJ2_bitCount_1 8 rfl rfl)
theorem dJ2_bitCount_33 : decode cJ2_bitCount 33 = .ok (.lstore_n 0, 1) := dk_63 (dk_at dksJ2_bitCount_1 9 rfl rfl)
theorem dJ2_bitCount_34 : decode cJ2_bitCount 34 = .ok (.lload_n 0, 1) := dk_30 (dk_at dksJ2_bitCount_1 10 rfl rfl)
theorem dJ2_bitCount_35 : decode cJ2_bitCount 35 = .ok (.lload_n 0, 1) := dk_30 (dk_at dksJ2_bitCount_1 11 rfl rfl)
theorem dJ2_bitCount_36 : decode cJ2_bitCount 36 = .ok (.bipush 8, 2) := dk_16 8 (dk_at dksJ2_bitCount_1 12 rfl rfl)
theorem dJ2_bitCount_38 : decode cJ2_bitCount 38 = .ok (.lushr, 1) := dk_125 (dk_at dksJ2_bitCount_1 14 rfl rfl)
theorem dJ2_bitCount_39 : decode cJ2_bitCount 39 = .ok (.ladd, 1) := dk_97 (dk_at dksJ2_bitCount_1 15 rfl rfl)
theorem dJ2_bitCount_40 : decode cJ2_bitCount 40 = .ok (.lstore_n 0, 1) := dk_63 (dk_at dksJ2_bitCount_1 16 rfl rfl)
theorem dJ2_bitCount_41 : decode cJ2_bitCount 41 = .ok (.lload_n 0, 1) := dk_30 (dk_at dksJ2_bitCount_1 17 rfl rfl)
theorem dJ2_bitCount_42 : decode cJ2_bitCount 42 = .ok (.lload_n 0, 1) := dk_30 (dk_at dksJ2_bitCount_1 18 rfl rfl)
theorem dJ2_bitCount_43 : decode cJ2_bitCount 43 = .ok (.bipush 16, 2) := dk_16 16 (dk_at dksJ2_bitCount_1 19 rfl rfl)
theorem dJ2_bitCount_45 : decode cJ2_bitCount 45 = .ok (.lushr, 1) := dk_125 (dk_at dksJ2_bitCount_1 21 rfl rfl)
theorem dJ2_bitCount_46 : decode cJ2_bitCount 46 = .ok (.ladd, 1) := dk_97 (dk_at dksJ2_bitCount_1 22 rfl rfl)
theorem dJ2_bitCount_47 : decode cJ2_bitCount 47 = .ok (.lstore_n 0, 1) := dk_63 (dk_at dksJ2_bitCount_1 23 rfl rfl)
theorem dJ2_bitCount_48 : decode cJ2_bitCount 48 = .ok (.lload_n 0, 1) := dk_30 (dk_at dksJ2_bitCount_2 0 rfl rfl)
theorem dJ2_bitCount_49 : decode cJ2_bitCount 49 = .ok (.lload_n 0, 1) := dk_30 (dk_at dksJ2_bitCount_2 1 rfl rfl)
theorem dJ2_bitCount_50 : decode cJ2_bitCount 50 = .ok (.bipush 32, 2) := dk_16 32 (dk_at dksJ2_bitCount_2 2 rfl rfl)
theorem dJ2_bitCount_52 : decode cJ2_bitCount 52 = .ok (.lushr, 1) := dk_125 (dk_at dksJ2_bitCount_2 4 rfl rfl)
theorem dJ2_bitCount_53 : decode cJ2_bitCount 53 = .ok (.ladd, 1) := dk_97 (dk_at dksJ2_bitCount_2 5 rfl rfl)
theorem dJ2_bitCount_54 : decode cJ2_bitCount 54 = .ok (.lstore_n 0, 1) := dk_63 (dk_at dksJ2_bitCount_2 6 rfl rfl)
theorem dJ2_bitCount_55 : decode cJ2_bitCount 55 = .ok (.lload_n 0, 1) := dk_30 (dk_at dksJ2_bitCount_2 7 rfl rfl)
theorem dJ2_bitCount_56 : decode cJ2_bitCount 56 = .ok (.l2i, 1) := dk_136 (dk_at dksJ2_bitCount_2 8 rfl rfl)
theorem dJ2_bitCount_57 : decode cJ2_bitCount 57 = .ok (.bipush 127, 2) := dk_16 127 (dk_at dksJ2_bitCount_2 9 rfl rfl)
theorem dJ2_bitCount_59 : decode cJ2_bitCount 59 = .ok (.iand, 1) := dk_126 (dk_at dksJ2_bitCount_2 11 rfl rfl)
theorem dJ2_bitCount_60 : decode cJ2_bitCount 60 = .ok (.ireturn, 1) := dk_172 (dk_at dksJ2_bitCount_2 12 rfl rfl)
abbrev cJ2_numberOfLeadingZeros : ByteArray := prog_44_method_48_code
def yJ2_numberOfLeadingZeros : MethodName := ⟨RJ2, "numberOfLeadingZeros", "(J)I"⟩
def dkwJ2_numberOfLeadingZeros_1 : List UInt8 := [184, 1, 52, 172]
abbrev dktJ2_numberOfLeadingZeros_1 : List UInt8 := dkwJ2_numberOfLeadingZeros_1 ++ []
def dkwJ2_numberOfLeadingZeros_0 : List UInt8 := [30, 16, 32, 125, 136, 61, 28, 154, 0, 14, 16, 32, 30, 136, 184, 1, 52, 96, 167, 0, 7, 28]
abbrev dktJ2_numberOfLeadingZeros_0 : List UInt8 := dkwJ2_numberOfLeadingZeros_0 ++ dktJ2_numberOfLeadingZeros_1
theorem dksJ2_numberOfLeadingZeros_0 : cJ2_numberOfLeadingZeros.data.toList.drop 0 = dktJ2_numberOfLeadingZeros_0 := by decide +kernel
theorem dksJ2_numberOfLeadingZeros_1 : cJ2_numberOfLeadingZeros.data.toList.drop 22 = dktJ2_numberOfLeadingZeros_1 := dk_seg dksJ2_numberOfLeadingZeros_0 22 rfl rfl
theorem dJ2_numberOfLeadingZeros_0 : decode cJ2_numberOfLeadingZeros 0 = .ok (.lload_n 0, 1) := dk_30 (dk_at dksJ2_numberOfLeadingZeros_0 0 rfl rfl)
theorem dJ2_numberOfLeadingZeros_1 : decode cJ2_numberOfLeadingZeros 1 = .ok (.bipush 32, 2) := dk_16 32 (dk_at dksJ2_numberOfLeadingZeros_0 1 rfl rfl)
theorem dJ2_numberOfLeadingZeros_3 : decode cJ2_numberOfLeadingZeros 3 = .ok (.lushr, 1) := dk_125 (dk_at dksJ2_numberOfLeadingZeros_0 3 rfl rfl)
theorem dJ2_numberOfLeadingZeros_4 : decode cJ2_numberOfLeadingZeros 4 = .ok (.l2i, 1) := dk_136 (dk_at dksJ2_numberOfLeadingZeros_0 4 rfl rfl)
theorem dJ2_numberOfLeadingZeros_5 : decode cJ2_numberOfLeadingZeros 5 = .ok (.istore_n 2, 1) := dk_61 (dk_at dksJ2_numberOfLeadingZeros_0 5 rfl rfl)
theorem dJ2_numberOfLeadingZeros_6 : decode cJ2_numberOfLeadingZeros 6 = .ok (.iload_n 2, 1) := dk_28 (dk_at dksJ2_numberOfLeadingZeros_0 6 rfl rfl)
theorem dJ2_numberOfLeadingZeros_7 : decode cJ2_numberOfLeadingZeros 7 = .ok (.ifCond .ne 14, 3) := dk_154 0 14 (dk_at dksJ2_numberOfLeadingZeros_0 7 rfl rfl)
theorem dJ2_numberOfLeadingZeros_10 : decode cJ2_numberOfLeadingZeros 10 = .ok (.bipush 32, 2) := dk_16 32 (dk_at dksJ2_numberOfLeadingZeros_0 10 rfl rfl)
theorem dJ2_numberOfLeadingZeros_12 : decode cJ2_numberOfLeadingZeros 12 = .ok (.lload_n 0, 1) := dk_30 (dk_at dksJ2_numberOfLeadingZeros_0 12 rfl rfl)
theorem dJ2_numberOfLeadingZeros_13 : decode cJ2_numberOfLeadingZeros 13 = .ok (.l2i, 1) := dk_136 (dk_at dksJ2_numberOfLeadingZeros_0 13 rfl rfl)
theorem dJ2_numberOfLeadingZeros_14 : decode cJ2_numberOfLeadingZeros 14 = .ok (.invokestatic 308, 3) := dk_184 1 52 (dk_at dksJ2_numberOfLeadingZeros_0 14 rfl rfl)
theorem dJ2_numberOfLeadingZeros_17 : decode cJ2_numberOfLeadingZeros 17 = .ok (.iadd, 1) := dk_96 (dk_at dksJ2_numberOfLeadingZeros_0 17 rfl rfl)
theorem dJ2_numberOfLeadingZeros_18 : decode cJ2_numberOfLeadingZeros 18 = .ok (.goto 7, 3) := dk_167 0 7 (dk_at dksJ2_numberOfLeadingZeros_0 18 rfl rfl)
theorem dJ2_numberOfLeadingZeros_21 : decode cJ2_numberOfLeadingZeros 21 = .ok (.iload_n 2, 1) := dk_28 (dk_at dksJ2_numberOfLeadingZeros_0 21 rfl rfl)
theorem dJ2_numberOfLeadingZeros_22 : decode cJ2_numberOfLeadingZeros 22 = .ok (.invokestatic 308, 3) := dk_184 1 52 (dk_at dksJ2_numberOfLeadingZeros_1 0 rfl rfl)
theorem dJ2_numberOfLeadingZeros_25 : decode cJ2_numberOfLeadingZeros 25 = .ok (.ireturn, 1) := dk_172 (dk_at dksJ2_numberOfLeadingZeros_1 3 rfl rfl)
abbrev cJ2_numberOfTrailingZeros : ByteArray := prog_44_method_49_code
def yJ2_numberOfTrailingZeros : MethodName := ⟨RJ2, "numberOfTrailingZeros", "(J)I"⟩
def dkwJ2_numberOfTrailingZeros_1 : List UInt8 := [184, 1, 55, 172]
abbrev dktJ2_numberOfTrailingZeros_1 : List UInt8 := dkwJ2_numberOfTrailingZeros_1 ++ []
def dkwJ2_numberOfTrailingZeros_0 : List UInt8 := [30, 136, 61, 28, 154, 0, 17, 16, 32, 30, 16, 32, 125, 136, 184, 1, 55, 96, 167, 0, 7, 28]
abbrev dktJ2_numberOfTrailingZeros_0 : List UInt8 := dkwJ2_numberOfTrailingZeros_0 ++ dktJ2_numberOfTrailingZeros_1
theorem dksJ2_numberOfTrailingZeros_0 : cJ2_numberOfTrailingZeros.data.toList.drop 0 = dktJ2_numberOfTrailingZeros_0 := by decide +kernel
theorem dksJ2_numberOfTrailingZeros_1 : cJ2_numberOfTrailingZeros.data.toList.drop 22 = dktJ2_numberOfTrailingZeros_1 := dk_seg dksJ2_numberOfTrailingZeros_0 22 rfl rfl
theorem dJ2_numberOfTrailingZeros_0 : decode cJ2_numberOfTrailingZeros 0 = .ok (.lload_n 0, 1) := dk_30 (dk_at dksJ2_numberOfTrailingZeros_0 0 rfl rfl)
theorem dJ2_numberOfTrailingZeros_1 : decode cJ2_numberOfTrailingZeros 1 = .ok (.l2i, 1) := dk_136 (dk_at dksJ2_numberOfTrailingZeros_0 1 rfl rfl)
theorem dJ2_numberOfTrailingZeros_2 : decode cJ2_numberOfTrailingZeros 2 = .ok (.istore_n 2, 1) := dk_61 (dk_at dksJ2_numberOfTrailingZeros_0 2 rfl rfl)
theorem dJ2_numberOfTrailingZeros_3 : decode cJ2_numberOfTrailingZeros 3 = .ok (.iload_n 2, 1) := dk_28 (dk_at dksJ2_numberOfTrailingZeros_0 3 rfl rfl)
theorem dJ2_numberOfTrailingZeros_4 : decode cJ2_numberOfTrailingZeros 4 = .ok (.ifCond .ne 17, 3) := dk_154 0 17 (dk_at dksJ2_numberOfTrailingZeros_0 4 rfl rfl)
theorem dJ2_numberOfTrailingZeros_7 : decode cJ2_numberOfTrailingZeros 7 = .ok (.bipush 32, 2) := dk_16 32 (dk_at dksJ2_numberOfTrailingZeros_0 7 rfl rfl)
theorem dJ2_numberOfTrailingZeros_9 : decode cJ2_numberOfTrailingZeros 9 = .ok (.lload_n 0, 1) := dk_30 (dk_at dksJ2_numberOfTrailingZeros_0 9 rfl rfl)
theorem dJ2_numberOfTrailingZeros_10 : decode cJ2_numberOfTrailingZeros 10 = .ok (.bipush 32, 2) := dk_16 32 (dk_at dksJ2_numberOfTrailingZeros_0 10 rfl rfl)
theorem dJ2_numberOfTrailingZeros_12 : decode cJ2_numberOfTrailingZeros 12 = .ok (.lushr, 1) := dk_125 (dk_at dksJ2_numberOfTrailingZeros_0 12 rfl rfl)
theorem dJ2_numberOfTrailingZeros_13 : decode cJ2_numberOfTrailingZeros 13 = .ok (.l2i, 1) := dk_136 (dk_at dksJ2_numberOfTrailingZeros_0 13 rfl rfl)
theorem dJ2_numberOfTrailingZeros_14 : decode cJ2_numberOfTrailingZeros 14 = .ok (.invokestatic 311, 3) := dk_184 1 55 (dk_at dksJ2_numberOfTrailingZeros_0 14 rfl rfl)
theorem dJ2_numberOfTrailingZeros_17 : decode cJ2_numberOfTrailingZeros 17 = .ok (.iadd, 1) := dk_96 (dk_at dksJ2_numberOfTrailingZeros_0 17 rfl rfl)
theorem dJ2_numberOfTrailingZeros_18 : decode cJ2_numberOfTrailingZeros 18 = .ok (.goto 7, 3) := dk_167 0 7 (dk_at dksJ2_numberOfTrailingZeros_0 18 rfl rfl)
theorem dJ2_numberOfTrailingZeros_21 : decode cJ2_numberOfTrailingZeros 21 = .ok (.iload_n 2, 1) := dk_28 (dk_at dksJ2_numberOfTrailingZeros_0 21 rfl rfl)
theorem dJ2_numberOfTrailingZeros_22 : decode cJ2_numberOfTrailingZeros 22 = .ok (.invokestatic 311, 3) := dk_184 1 55 (dk_at dksJ2_numberOfTrailingZeros_1 0 rfl rfl)
theorem dJ2_numberOfTrailingZeros_25 : decode cJ2_numberOfTrailingZeros 25 = .ok (.ireturn, 1) := dk_172 (dk_at dksJ2_numberOfTrailingZeros_1 3 rfl rfl)
theorem q111 : (Jvm.Cond.initialized "java/lang/Long") ∈ lw_all := lw_g (lw_at lw_m1 6 rfl) rfl
theorem q269 : (Jvm.Cond.static ({ cls := "java/lang/Long", name := "bitCount", desc := "(J)I" } : Jvm.MethodName)) ∈ lw_all := lw_g (lw_at lw_m1 164 rfl) rfl
theorem q270 : (Jvm.Cond.code ({ cls := "java/lang/Long", name := "bitCount", desc := "(J)I" } : Jvm.MethodName) prog_44_method_50_code (2 : Nat) (Option.some Jvm.ClassFile.FieldType.int)) ∈ lw_all := lw_g (lw_at lw_m1 165 rfl) rfl
theorem q271 : (Jvm.Cond.constantLong "java/lang/Long" (314 : Nat) (6148914691236517205 : Int64)) ∈ lw_all := lw_g (lw_at lw_m1 166 rfl) rfl
theorem q272 : (Jvm.Cond.constantLong "java/lang/Long" (316 : Nat) (3689348814741910323 : Int64)) ∈ lw_all := lw_g (lw_at lw_m1 167 rfl) rfl
theorem q273 : (Jvm.Cond.constantLong "java/lang/Long" (318 : Nat) (1085102592571150095 : Int64)) ∈ lw_all := lw_g (lw_at lw_m1 168 rfl) rfl
theorem q1258 : (Jvm.Cond.static ({ cls := "java/lang/Long", name := "numberOfLeadingZeros", desc := "(J)I" } : Jvm.MethodName)) ∈ lw_all := lw_g (lw_at lw_m5 193 rfl) rfl
theorem q1259 : (Jvm.Cond.code ({ cls := "java/lang/Long", name := "numberOfLeadingZeros", desc := "(J)I" } : Jvm.MethodName) prog_44_method_48_code (3 : Nat) (Option.some Jvm.ClassFile.FieldType.int)) ∈ lw_all := lw_g (lw_at lw_m5 194 rfl) rfl
theorem q1260 : (Jvm.Cond.methodLink "java/lang/Long" (308 : Nat) ({ cls := "java/lang/Integer", name := "numberOfLeadingZeros", desc := "(I)I" } : Jvm.MethodName)) ∈ lw_all := lw_g (lw_at lw_m5 195 rfl) rfl
theorem q1266 : (Jvm.Cond.static ({ cls := "java/lang/Long", name := "numberOfTrailingZeros", desc := "(J)I" } : Jvm.MethodName)) ∈ lw_all := lw_g (lw_at lw_m5 201 rfl) rfl
theorem q1267 : (Jvm.Cond.code ({ cls := "java/lang/Long", name := "numberOfTrailingZeros", desc := "(J)I" } : Jvm.MethodName) prog_44_method_49_code (3 : Nat) (Option.some Jvm.ClassFile.FieldType.int)) ∈ lw_all := lw_g (lw_at lw_m5 202 rfl) rfl
theorem q1268 : (Jvm.Cond.methodLink "java/lang/Long" (311 : Nat) ({ cls := "java/lang/Integer", name := "numberOfTrailingZeros", desc := "(I)I" } : Jvm.MethodName)) ∈ lw_all := lw_g (lw_at lw_m5 203 rfl) rfl
/-! java/util/AbstractMap -/
set_option maxRecDepth 100000
def RJ3 : String := "java/util/AbstractMap"
abbrev cJ3_init : ByteArray := prog_60_method_1_code
def yJ3_init : MethodName := ⟨RJ3, "<init>", "()V"⟩
theorem dJ3_init_0 : decode cJ3_init 0 = .ok (.aload_n 0, 1) := by decide +kernel
theorem dJ3_init_1 : decode cJ3_init 1 = .ok (.invokespecial 1, 3) := by decide +kernel
theorem dJ3_init_4 : decode cJ3_init 4 = .ok (.return_, 1) := by decide +kernel
theorem q112 : (Jvm.Cond.initialized "java/util/AbstractMap") ∈ lw_all := lw_g (lw_at lw_m1 7 rfl) rfl
theorem q314 : (Jvm.Cond.instanceMethod ({ cls := "java/util/AbstractMap", name := "<init>", desc := "()V" } : Jvm.MethodName)) ∈ lw_all := lw_g (lw_at lw_m1 209 rfl) rfl
theorem q315 : (Jvm.Cond.code ({ cls := "java/util/AbstractMap", name := "<init>", desc := "()V" } : Jvm.MethodName) prog_60_method_1_code (1 : Nat) (Option.none : Option Jvm.ClassFile.FieldType)) ∈ lw_all := lw_g (lw_at lw_m1 210 rfl) rfl
theorem q316 : (Jvm.Cond.methodLink "java/util/AbstractMap" (1 : Nat) ({ cls := "java/lang/Object", name := "<init>", desc := "()V" } : Jvm.MethodName)) ∈ lw_all := lw_g (lw_at lw_m1 211 rfl) rfl
theorem q362 : (Jvm.Cond.soleField "java/util/AbstractMap" "keySet") ∈ lw_all := lw_g (lw_at lw_m2 17 rfl) rfl
theorem q364 : (Jvm.Cond.soleField "java/util/AbstractMap" "values") ∈ lw_all := lw_g (lw_at lw_m2 19 rfl) rfl
/-! java/util/HashMap -/
set_option maxRecDepth 100000
def RJ4 : String := "java/util/HashMap"
def TJ4 : u_T := fun k => match k with
  | 0 => ("java/util/AbstractMap", "keySet", "Ljava/util/Set;", false)
  | 1 => ("java/util/AbstractMap", "values", "Ljava/util/Collection;", false)
  | 2 => ("java/util/HashMap", "table", "[Ljava/util/HashMap$Node;", false)
  | 3 => ("java/util/HashMap", "entrySet", "Ljava/util/Set;", false)
  | 4 => ("java/util/HashMap", "size", "I", false)
  | 5 => ("java/util/HashMap", "modCount", "I", false)
  | 6 => ("java/util/HashMap", "threshold", "I", false)
  | _ => ("java/util/HashMap", "loadFactor", "F", true)
def tyJ4 : Nat → FieldType := fun k => match k with
  | 0 => .object "java/util/Set"
  | 1 => .object "java/util/Collection"
  | 2 => .array (.object "java/util/HashMap$Node")
  | 3 => .object "java/util/Set"
  | 4 => .int
  | 5 => .int
  | 6 => .int
  | _ => .float
abbrev wsJ40 : List Cond := u_ws RJ4 TJ4 8
theorem nmJ4 : ∀ a, a < 8 → ∀ b, b < 8 → a ≠ b → (TJ4 a).2.1 ≠ (TJ4 b).2.1 := by decide +kernel
theorem tyJ4_ok : ∀ k, k < 8 → parseFieldDescriptor (TJ4 k).2.2.1 = some (tyJ4 k) := by decide +kernel
abbrev cJ4_init : ByteArray := prog_64_method_7_code
def yJ4_init : MethodName := ⟨RJ4, "<init>", "()V"⟩
def dkwJ4_init_0 : List UInt8 := [42, 183, 0, 43, 42, 18, 92, 181, 0, 81, 177]
abbrev dktJ4_init_0 : List UInt8 := dkwJ4_init_0 ++ []
theorem dksJ4_init_0 : cJ4_init.data.toList.drop 0 = dktJ4_init_0 := by decide +kernel
theorem dJ4_init_0 : decode cJ4_init 0 = .ok (.aload_n 0, 1) := dk_42 (dk_at dksJ4_init_0 0 rfl rfl)
theorem dJ4_init_1 : decode cJ4_init 1 = .ok (.invokespecial 43, 3) := dk_183 0 43 (dk_at dksJ4_init_0 1 rfl rfl)
theorem dJ4_init_4 : decode cJ4_init 4 = .ok (.aload_n 0, 1) := dk_42 (dk_at dksJ4_init_0 4 rfl rfl)
theorem dJ4_init_5 : decode cJ4_init 5 = .ok (.ldc 92, 2) := dk_18 92 (dk_at dksJ4_init_0 5 rfl rfl)
theorem dJ4_init_7 : decode cJ4_init 7 = .ok (.putfield 81, 3) := dk_181 0 81 (dk_at dksJ4_init_0 7 rfl rfl)
theorem dJ4_init_10 : decode cJ4_init 10 = .ok (.return_, 1) := dk_177 (dk_at dksJ4_init_0 10 rfl rfl)
abbrev cJ4_put : ByteArray := prog_64_method_15_code
def yJ4_put : MethodName := ⟨RJ4, "put", "(Ljava/lang/Object;Ljava/lang/Object;)Ljava/lang/Object;"⟩
def dkwJ4_put_0 : List UInt8 := [42, 43, 184, 0, 149, 43, 44, 3, 4, 182, 0, 152, 176]
abbrev dktJ4_put_0 : List UInt8 := dkwJ4_put_0 ++ []
theorem dksJ4_put_0 : cJ4_put.data.toList.drop 0 = dktJ4_put_0 := by decide +kernel
theorem dJ4_put_0 : decode cJ4_put 0 = .ok (.aload_n 0, 1) := dk_42 (dk_at dksJ4_put_0 0 rfl rfl)
theorem dJ4_put_1 : decode cJ4_put 1 = .ok (.aload_n 1, 1) := dk_43 (dk_at dksJ4_put_0 1 rfl rfl)
theorem dJ4_put_2 : decode cJ4_put 2 = .ok (.invokestatic 149, 3) := dk_184 0 149 (dk_at dksJ4_put_0 2 rfl rfl)
theorem dJ4_put_5 : decode cJ4_put 5 = .ok (.aload_n 1, 1) := dk_43 (dk_at dksJ4_put_0 5 rfl rfl)
theorem dJ4_put_6 : decode cJ4_put 6 = .ok (.aload_n 2, 1) := dk_44 (dk_at dksJ4_put_0 6 rfl rfl)
theorem dJ4_put_7 : decode cJ4_put 7 = .ok (.iconst 0, 1) := dk_3 (dk_at dksJ4_put_0 7 rfl rfl)
theorem dJ4_put_8 : decode cJ4_put 8 = .ok (.iconst 1, 1) := dk_4 (dk_at dksJ4_put_0 8 rfl rfl)
theorem dJ4_put_9 : decode cJ4_put 9 = .ok (.invokevirtual 152, 3) := dk_182 0 152 (dk_at dksJ4_put_0 9 rfl rfl)
theorem dJ4_put_12 : decode cJ4_put 12 = .ok (.areturn, 1) := dk_176 (dk_at dksJ4_put_0 12 rfl rfl)
abbrev cJ4_hash : ByteArray := prog_64_method_1_code
def yJ4_hash : MethodName := ⟨RJ4, "hash", "(Ljava/lang/Object;)I"⟩
def dkwJ4_hash_0 : List UInt8 := [42, 199, 0, 7, 3, 167, 0, 14, 42, 182, 0, 1, 89, 60, 27, 16, 16, 124, 130, 172]
abbrev dktJ4_hash_0 : List UInt8 := dkwJ4_hash_0 ++ []
theorem dksJ4_hash_0 : cJ4_hash.data.toList.drop 0 = dktJ4_hash_0 := by decide +kernel
theorem dJ4_hash_0 : decode cJ4_hash 0 = .ok (.aload_n 0, 1) := dk_42 (dk_at dksJ4_hash_0 0 rfl rfl)
theorem dJ4_hash_1 : decode cJ4_hash 1 = .ok (.ifnonnull 7, 3) := dk_199 0 7 (dk_at dksJ4_hash_0 1 rfl rfl)
theorem dJ4_hash_4 : decode cJ4_hash 4 = .ok (.iconst 0, 1) := dk_3 (dk_at dksJ4_hash_0 4 rfl rfl)
theorem dJ4_hash_5 : decode cJ4_hash 5 = .ok (.goto 14, 3) := dk_167 0 14 (dk_at dksJ4_hash_0 5 rfl rfl)
theorem dJ4_hash_8 : decode cJ4_hash 8 = .ok (.aload_n 0, 1) := dk_42 (dk_at dksJ4_hash_0 8 rfl rfl)
theorem dJ4_hash_9 : decode cJ4_hash 9 = .ok (.invokevirtual 1, 3) := dk_182 0 1 (dk_at dksJ4_hash_0 9 rfl rfl)
theorem dJ4_hash_12 : decode cJ4_hash 12 = .ok (.dup, 1) := dk_89 (dk_at dksJ4_hash_0 12 rfl rfl)
theorem dJ4_hash_13 : decode cJ4_hash 13 = .ok (.istore_n 1, 1) := dk_60 (dk_at dksJ4_hash_0 13 rfl rfl)
theorem dJ4_hash_14 : decode cJ4_hash 14 = .ok (.iload_n 1, 1) := dk_27 (dk_at dksJ4_hash_0 14 rfl rfl)
theorem dJ4_hash_15 : decode cJ4_hash 15 = .ok (.bipush 16, 2) := dk_16 16 (dk_at dksJ4_hash_0 15 rfl rfl)
theorem dJ4_hash_17 : decode cJ4_hash 17 = .ok (.iushr, 1) := dk_124 (dk_at dksJ4_hash_0 17 rfl rfl)
theorem dJ4_hash_18 : decode cJ4_hash 18 = .ok (.ixor, 1) := dk_130 (dk_at dksJ4_hash_0 18 rfl rfl)
theorem dJ4_hash_19 : decode cJ4_hash 19 = .ok (.ireturn, 1) := dk_172 (dk_at dksJ4_hash_0 19 rfl rfl)
abbrev cJ4_putVal : ByteArray := prog_64_method_16_code
def yJ4_putVal : MethodName := ⟨RJ4, "putVal", "(ILjava/lang/Object;Ljava/lang/Object;ZZ)Ljava/lang/Object;"⟩
def dkwJ4_putVal_12 : List UInt8 := [181, 0, 156, 42, 180, 0, 88, 164, 0, 8, 42, 182, 0, 117, 87, 42, 21, 5, 182, 0, 205, 1, 176]
abbrev dktJ4_putVal_12 : List UInt8 := dkwJ4_putVal_12 ++ []
def dkwJ4_putVal_11 : List UInt8 := [182, 0, 198, 25, 12, 176, 42, 89, 180, 0, 202, 4, 96, 181, 0, 202, 42, 89, 180, 0, 156, 4, 96, 90]
abbrev dktJ4_putVal_11 : List UInt8 := dkwJ4_putVal_11 ++ dktJ4_putVal_12
def dkwJ4_putVal_10 : List UInt8 := [180, 0, 162, 58, 12, 21, 4, 153, 0, 8, 25, 12, 199, 0, 9, 25, 10, 45, 181, 0, 162, 42, 25, 10]
abbrev dktJ4_putVal_10 : List UInt8 := dkwJ4_putVal_10 ++ dktJ4_putVal_11
def dkwJ4_putVal_9 : List UInt8 := [153, 0, 6, 167, 0, 13, 25, 10, 58, 7, 132, 12, 1, 167, 255, 171, 25, 10, 198, 0, 35, 25, 10]
abbrev dktJ4_putVal_9 : List UInt8 := dkwJ4_putVal_9 ++ dktJ4_putVal_10
def dkwJ4_putVal_8 : List UInt8 := [25, 10, 180, 0, 170, 89, 58, 11, 44, 165, 0, 29, 44, 198, 0, 15, 44, 25, 11, 182, 0, 173]
abbrev dktJ4_putVal_8 : List UInt8 := dkwJ4_putVal_8 ++ dktJ4_putVal_9
def dkwJ4_putVal_7 : List UInt8 := [16, 7, 161, 0, 60, 42, 25, 6, 27, 182, 0, 194, 167, 0, 50, 25, 10, 180, 0, 168, 27, 160, 0, 31]
abbrev dktJ4_putVal_7 : List UInt8 := dkwJ4_putVal_7 ++ dktJ4_putVal_8
def dkwJ4_putVal_6 : List UInt8 := [180, 0, 177, 89, 58, 10, 199, 0, 33, 25, 7, 42, 27, 44, 45, 1, 182, 0, 186, 181, 0, 177, 21, 12]
abbrev dktJ4_putVal_6 : List UInt8 := dkwJ4_putVal_6 ++ dktJ4_putVal_7
def dkwJ4_putVal_5 : List UInt8 := [192, 0, 180, 42, 25, 6, 27, 44, 45, 182, 0, 190, 58, 10, 167, 0, 94, 3, 54, 12, 25, 7]
abbrev dktJ4_putVal_5 : List UInt8 := dkwJ4_putVal_5 ++ dktJ4_putVal_6
def dkwJ4_putVal_4 : List UInt8 := [182, 0, 173, 153, 0, 10, 25, 7, 58, 10, 167, 0, 121, 25, 7, 193, 0, 180, 153, 0, 22, 25, 7]
abbrev dktJ4_putVal_4 : List UInt8 := dkwJ4_putVal_4 ++ dktJ4_putVal_5
def dkwJ4_putVal_3 : List UInt8 := [160, 0, 35, 25, 7, 180, 0, 170, 89, 58, 11, 44, 165, 0, 16, 44, 198, 0, 19, 44, 25, 11]
abbrev dktJ4_putVal_3 : List UInt8 := dkwJ4_putVal_3 ++ dktJ4_putVal_4
def dkwJ4_putVal_2 : List UInt8 := [25, 6, 21, 9, 42, 27, 44, 45, 1, 182, 0, 186, 83, 167, 0, 199, 25, 7, 180, 0, 168, 27]
abbrev dktJ4_putVal_2 : List UInt8 := dkwJ4_putVal_2 ++ dktJ4_putVal_3
def dkwJ4_putVal_1 : List UInt8 := [58, 6, 190, 54, 8, 25, 6, 21, 8, 4, 100, 27, 126, 89, 54, 9, 50, 89, 58, 7, 199, 0, 19]
abbrev dktJ4_putVal_1 : List UInt8 := dkwJ4_putVal_1 ++ dktJ4_putVal_2
def dkwJ4_putVal_0 : List UInt8 := [42, 180, 0, 105, 89, 58, 6, 198, 0, 12, 25, 6, 190, 89, 54, 8, 154, 0, 13, 42, 182, 0, 117, 89]
abbrev dktJ4_putVal_0 : List UInt8 := dkwJ4_putVal_0 ++ dktJ4_putVal_1
theorem dksJ4_putVal_0 : cJ4_putVal.data.toList.drop 0 = dktJ4_putVal_0 := by decide +kernel
theorem dksJ4_putVal_1 : cJ4_putVal.data.toList.drop 24 = dktJ4_putVal_1 := dk_seg dksJ4_putVal_0 24 rfl rfl
theorem dksJ4_putVal_2 : cJ4_putVal.data.toList.drop 47 = dktJ4_putVal_2 := dk_seg dksJ4_putVal_1 23 rfl rfl
theorem dksJ4_putVal_3 : cJ4_putVal.data.toList.drop 69 = dktJ4_putVal_3 := dk_seg dksJ4_putVal_2 22 rfl rfl
theorem dksJ4_putVal_4 : cJ4_putVal.data.toList.drop 91 = dktJ4_putVal_4 := dk_seg dksJ4_putVal_3 22 rfl rfl
theorem dksJ4_putVal_5 : cJ4_putVal.data.toList.drop 114 = dktJ4_putVal_5 := dk_seg dksJ4_putVal_4 23 rfl rfl
theorem dksJ4_putVal_6 : cJ4_putVal.data.toList.drop 136 = dktJ4_putVal_6 := dk_seg dksJ4_putVal_5 22 rfl rfl
theorem dksJ4_putVal_7 : cJ4_putVal.data.toList.drop 160 = dktJ4_putVal_7 := dk_seg dksJ4_putVal_6 24 rfl rfl
theorem dksJ4_putVal_8 : cJ4_putVal.data.toList.drop 184 = dktJ4_putVal_8 := dk_seg dksJ4_putVal_7 24 rfl rfl
theorem dksJ4_putVal_9 : cJ4_putVal.data.toList.drop 206 = dktJ4_putVal_9 := dk_seg dksJ4_putVal_8 22 rfl rfl
theorem dksJ4_putVal_10 : cJ4_putVal.data.toList.drop 229 = dktJ4_putVal_10 := dk_seg dksJ4_putVal_9 23 rfl rfl
theorem dksJ4_putVal_11 : cJ4_putVal.data.toList.drop 253 = dktJ4_putVal_11 := dk_seg dksJ4_putVal_10 24 rfl rfl
theorem dksJ4_putVal_12 : cJ4_putVal.data.toList.drop 277 = dktJ4_putVal_12 := dk_seg dksJ4_putVal_11 24 rfl rfl
theorem dJ4_putVal_0 : decode cJ4_putVal 0 = .ok (.aload_n 0, 1) := dk_42 (dk_at dksJ4_putVal_0 0 rfl rfl)
theorem dJ4_putVal_1 : decode cJ4_putVal 1 = .ok (.getfield 105, 3) := dk_180 0 105 (dk_at dksJ4_putVal_0 1 rfl rfl)
theorem dJ4_putVal_4 : decode cJ4_putVal 4 = .ok (.dup, 1) := dk_89 (dk_at dksJ4_putVal_0 4 rfl rfl)
theorem dJ4_putVal_5 : decode cJ4_putVal 5 = .ok (.astore 6, 2) := dk_58 6 (dk_at dksJ4_putVal_0 5 rfl rfl)
theorem dJ4_putVal_7 : decode cJ4_putVal 7 = .ok (.ifnull 12, 3) := dk_198 0 12 (dk_at dksJ4_putVal_0 7 rfl rfl)
theorem dJ4_putVal_10 : decode cJ4_putVal 10 = .ok (.aload 6, 2) := dk_25 6 (dk_at dksJ4_putVal_0 10 rfl rfl)
theorem dJ4_putVal_12 : decode cJ4_putVal 12 = .ok (.arraylength, 1) := dk_190 (dk_at dksJ4_putVal_0 12 rfl rfl)
theorem dJ4_putVal_13 : decode cJ4_putVal 13 = .ok (.dup, 1) := dk_89 (dk_at dksJ4_putVal_0 13 rfl rfl)
theorem dJ4_putVal_14 : decode cJ4_putVal 14 = .ok (.istore 8, 2) := dk_54 8 (dk_at dksJ4_putVal_0 14 rfl rfl)
theorem dJ4_putVal_16 : decode cJ4_putVal 16 = .ok (.ifCond .ne 13, 3) := dk_154 0 13 (dk_at dksJ4_putVal_0 16 rfl rfl)
theorem dJ4_putVal_19 : decode cJ4_putVal 19 = .ok (.aload_n 0, 1) := dk_42 (dk_at dksJ4_putVal_0 19 rfl rfl)
theorem dJ4_putVal_20 : decode cJ4_putVal 20 = .ok (.invokevirtual 117, 3) := dk_182 0 117 (dk_at dksJ4_putVal_0 20 rfl rfl)
theorem dJ4_putVal_23 : decode cJ4_putVal 23 = .ok (.dup, 1) := dk_89 (dk_at dksJ4_putVal_0 23 rfl rfl)
theorem dJ4_putVal_24 : decode cJ4_putVal 24 = .ok (.astore 6, 2) := dk_58 6 (dk_at dksJ4_putVal_1 0 rfl rfl)
theorem dJ4_putVal_26 : decode cJ4_putVal 26 = .ok (.arraylength, 1) := dk_190 (dk_at dksJ4_putVal_1 2 rfl rfl)
theorem dJ4_putVal_27 : decode cJ4_putVal 27 = .ok (.istore 8, 2) := dk_54 8 (dk_at dksJ4_putVal_1 3 rfl rfl)
theorem dJ4_putVal_29 : decode cJ4_putVal 29 = .ok (.aload 6, 2) := dk_25 6 (dk_at dksJ4_putVal_1 5 rfl rfl)
theorem dJ4_putVal_31 : decode cJ4_putVal 31 = .ok (.iload 8, 2) := dk_21 8 (dk_at dksJ4_putVal_1 7 rfl rfl)
theorem dJ4_putVal_33 : decode cJ4_putVal 33 = .ok (.iconst 1, 1) := dk_4 (dk_at dksJ4_putVal_1 9 rfl rfl)
theorem dJ4_putVal_34 : decode cJ4_putVal 34 = .ok (.isub, 1) := dk_100 (dk_at dksJ4_putVal_1 10 rfl rfl)
theorem dJ4_putVal_35 : decode cJ4_putVal 35 = .ok (.iload_n 1, 1) := dk_27 (dk_at dksJ4_putVal_1 11 rfl rfl)
theorem dJ4_putVal_36 : decode cJ4_putVal 36 = .ok (.iand, 1) := dk_126 (dk_at dksJ4_putVal_1 12 rfl rfl)
theorem dJ4_putVal_37 : decode cJ4_putVal 37 = .ok (.dup, 1) := dk_89 (dk_at dksJ4_putVal_1 13 rfl rfl)
theorem dJ4_putVal_38 : decode cJ4_putVal 38 = .ok (.istore 9, 2) := dk_54 9 (dk_at dksJ4_putVal_1 14 rfl rfl)
theorem dJ4_putVal_40 : decode cJ4_putVal 40 = .ok (.aaload, 1) := dk_50 (dk_at dksJ4_putVal_1 16 rfl rfl)
theorem dJ4_putVal_41 : decode cJ4_putVal 41 = .ok (.dup, 1) := dk_89 (dk_at dksJ4_putVal_1 17 rfl rfl)
theorem dJ4_putVal_42 : decode cJ4_putVal 42 = .ok (.astore 7, 2) := dk_58 7 (dk_at dksJ4_putVal_1 18 rfl rfl)
theorem dJ4_putVal_44 : decode cJ4_putVal 44 = .ok (.ifnonnull 19, 3) := dk_199 0 19 (dk_at dksJ4_putVal_1 20 rfl rfl)
theorem dJ4_putVal_47 : decode cJ4_putVal 47 = .ok (.aload 6, 2) := dk_25 6 (dk_at dksJ4_putVal_2 0 rfl rfl)
theorem dJ4_putVal_49 : decode cJ4_putVal 49 = .ok (.iload 9, 2) := dk_21 9 (dk_at dksJ4_putVal_2 2 rfl rfl)
theorem dJ4_putVal_51 : decode cJ4_putVal 51 = .ok (.aload_n 0, 1) := dk_42 (dk_at dksJ4_putVal_2 4 rfl rfl)
theorem dJ4_putVal_52 : decode cJ4_putVal 52 = .ok (.iload_n 1, 1) := dk_27 (dk_at dksJ4_putVal_2 5 rfl rfl)
theorem dJ4_putVal_53 : decode cJ4_putVal 53 = .ok (.aload_n 2, 1) := dk_44 (dk_at dksJ4_putVal_2 6 rfl rfl)
theorem dJ4_putVal_54 : decode cJ4_putVal 54 = .ok (.aload_n 3, 1) := dk_45 (dk_at dksJ4_putVal_2 7 rfl rfl)
theorem dJ4_putVal_55 : decode cJ4_putVal 55 = .ok (.aconst_null, 1) := dk_1 (dk_at dksJ4_putVal_2 8 rfl rfl)
theorem dJ4_putVal_56 : decode cJ4_putVal 56 = .ok (.invokevirtual 186, 3) := dk_182 0 186 (dk_at dksJ4_putVal_2 9 rfl rfl)
theorem dJ4_putVal_59 : decode cJ4_putVal 59 = .ok (.aastore, 1) := dk_83 (dk_at dksJ4_putVal_2 12 rfl rfl)
theorem dJ4_putVal_60 : decode cJ4_putVal 60 = .ok (.goto 199, 3) := dk_167 0 199 (dk_at dksJ4_putVal_2 13 rfl rfl)
theorem dJ4_putVal_63 : decode cJ4_putVal 63 = .ok (.aload 7, 2) := dk_25 7 (dk_at dksJ4_putVal_2 16 rfl rfl)
theorem dJ4_putVal_65 : decode cJ4_putVal 65 = .ok (.getfield 168, 3) := dk_180 0 168 (dk_at dksJ4_putVal_2 18 rfl rfl)
theorem dJ4_putVal_68 : decode cJ4_putVal 68 = .ok (.iload_n 1, 1) := dk_27 (dk_at dksJ4_putVal_2 21 rfl rfl)
theorem dJ4_putVal_69 : decode cJ4_putVal 69 = .ok (.if_icmp .ne 35, 3) := dk_160 0 35 (dk_at dksJ4_putVal_3 0 rfl rfl)
theorem dJ4_putVal_72 : decode cJ4_putVal 72 = .ok (.aload 7, 2) := dk_25 7 (dk_at dksJ4_putVal_3 3 rfl rfl)
theorem dJ4_putVal_74 : decode cJ4_putVal 74 = .ok (.getfield 170, 3) := dk_180 0 170 (dk_at dksJ4_putVal_3 5 rfl rfl)
theorem dJ4_putVal_77 : decode cJ4_putVal 77 = .ok (.dup, 1) := dk_89 (dk_at dksJ4_putVal_3 8 rfl rfl)
theorem dJ4_putVal_78 : decode cJ4_putVal 78 = .ok (.astore 11, 2) := dk_58 11 (dk_at dksJ4_putVal_3 9 rfl rfl)
theorem dJ4_putVal_80 : decode cJ4_putVal 80 = .ok (.aload_n 2, 1) := dk_44 (dk_at dksJ4_putVal_3 11 rfl rfl)
theorem dJ4_putVal_81 : decode cJ4_putVal 81 = .ok (.if_acmp .eq 16, 3) := dk_165 0 16 (dk_at dksJ4_putVal_3 12 rfl rfl)
theorem dJ4_putVal_84 : decode cJ4_putVal 84 = .ok (.aload_n 2, 1) := dk_44 (dk_at dksJ4_putVal_3 15 rfl rfl)
theorem dJ4_putVal_85 : decode cJ4_putVal 85 = .ok (.ifnull 19, 3) := dk_198 0 19 (dk_at dksJ4_putVal_3 16 rfl rfl)
theorem dJ4_putVal_88 : decode cJ4_putVal 88 = .ok (.aload_n 2, 1) := dk_44 (dk_at dksJ4_putVal_3 19 rfl rfl)
theorem dJ4_putVal_89 : decode cJ4_putVal 89 = .ok (.aload 11, 2) := dk_25 11 (dk_at dksJ4_putVal_3 20 rfl rfl)
theorem dJ4_putVal_91 : decode cJ4_putVal 91 = .ok (.invokevirtual 173, 3) := dk_182 0 173 (dk_at dksJ4_putVal_4 0 rfl rfl)
theorem dJ4_putVal_94 : decode cJ4_putVal 94 = .ok (.ifCond .eq 10, 3) := dk_153 0 10 (dk_at dksJ4_putVal_4 3 rfl rfl)
theorem dJ4_putVal_97 : decode cJ4_putVal 97 = .ok (.aload 7, 2) := dk_25 7 (dk_at dksJ4_putVal_4 6 rfl rfl)
theorem dJ4_putVal_99 : decode cJ4_putVal 99 = .ok (.astore 10, 2) := dk_58 10 (dk_at dksJ4_putVal_4 8 rfl rfl)
theorem dJ4_putVal_101 : decode cJ4_putVal 101 = .ok (.goto 121, 3) := dk_167 0 121 (dk_at dksJ4_putVal_4 10 rfl rfl)
theorem dJ4_putVal_104 : decode cJ4_putVal 104 = .ok (.aload 7, 2) := dk_25 7 (dk_at dksJ4_putVal_4 13 rfl rfl)
theorem dJ4_putVal_106 : decode cJ4_putVal 106 = .ok (.instanceof 180, 3) := dk_193 0 180 (dk_at dksJ4_putVal_4 15 rfl rfl)
theorem dJ4_putVal_109 : decode cJ4_putVal 109 = .ok (.ifCond .eq 22, 3) := dk_153 0 22 (dk_at dksJ4_putVal_4 18 rfl rfl)
theorem dJ4_putVal_112 : decode cJ4_putVal 112 = .ok (.aload 7, 2) := dk_25 7 (dk_at dksJ4_putVal_4 21 rfl rfl)
theorem dJ4_putVal_114 : decode cJ4_putVal 114 = .ok (.checkcast 180, 3) := dk_192 0 180 (dk_at dksJ4_putVal_5 0 rfl rfl)
theorem dJ4_putVal_117 : decode cJ4_putVal 117 = .ok (.aload_n 0, 1) := dk_42 (dk_at dksJ4_putVal_5 3 rfl rfl)
theorem dJ4_putVal_118 : decode cJ4_putVal 118 = .ok (.aload 6, 2) := dk_25 6 (dk_at dksJ4_putVal_5 4 rfl rfl)
theorem dJ4_putVal_120 : decode cJ4_putVal 120 = .ok (.iload_n 1, 1) := dk_27 (dk_at dksJ4_putVal_5 6 rfl rfl)
theorem dJ4_putVal_121 : decode cJ4_putVal 121 = .ok (.aload_n 2, 1) := dk_44 (dk_at dksJ4_putVal_5 7 rfl rfl)
theorem dJ4_putVal_122 : decode cJ4_putVal 122 = .ok (.aload_n 3, 1) := dk_45 (dk_at dksJ4_putVal_5 8 rfl rfl)
theorem dJ4_putVal_123 : decode cJ4_putVal 123 = .ok (.invokevirtual 190, 3) := dk_182 0 190 (dk_at dksJ4_putVal_5 9 rfl rfl)
theorem dJ4_putVal_126 : decode cJ4_putVal 126 = .ok (.astore 10, 2) := dk_58 10 (dk_at dksJ4_putVal_5 12 rfl rfl)
theorem dJ4_putVal_128 : decode cJ4_putVal 128 = .ok (.goto 94, 3) := dk_167 0 94 (dk_at dksJ4_putVal_5 14 rfl rfl)
theorem dJ4_putVal_131 : decode cJ4_putVal 131 = .ok (.iconst 0, 1) := dk_3 (dk_at dksJ4_putVal_5 17 rfl rfl)
theorem dJ4_putVal_132 : decode cJ4_putVal 132 = .ok (.istore 12, 2) := dk_54 12 (dk_at dksJ4_putVal_5 18 rfl rfl)
theorem dJ4_putVal_134 : decode cJ4_putVal 134 = .ok (.aload 7, 2) := dk_25 7 (dk_at dksJ4_putVal_5 20 rfl rfl)
theorem dJ4_putVal_136 : decode cJ4_putVal 136 = .ok (.getfield 177, 3) := dk_180 0 177 (dk_at dksJ4_putVal_6 0 rfl rfl)
theorem dJ4_putVal_139 : decode cJ4_putVal 139 = .ok (.dup, 1) := dk_89 (dk_at dksJ4_putVal_6 3 rfl rfl)
theorem dJ4_putVal_140 : decode cJ4_putVal 140 = .ok (.astore 10, 2) := dk_58 10 (dk_at dksJ4_putVal_6 4 rfl rfl)
theorem dJ4_putVal_142 : decode cJ4_putVal 142 = .ok (.ifnonnull 33, 3) := dk_199 0 33 (dk_at dksJ4_putVal_6 6 rfl rfl)
theorem dJ4_putVal_145 : decode cJ4_putVal 145 = .ok (.aload 7, 2) := dk_25 7 (dk_at dksJ4_putVal_6 9 rfl rfl)
theorem dJ4_putVal_147 : decode cJ4_putVal 147 = .ok (.aload_n 0, 1) := dk_42 (dk_at dksJ4_putVal_6 11 rfl rfl)
theorem dJ4_putVal_148 : decode cJ4_putVal 148 = .ok (.iload_n 1, 1) := dk_27 (dk_at dksJ4_putVal_6 12 rfl rfl)
theorem dJ4_putVal_149 : decode cJ4_putVal 149 = .ok (.aload_n 2, 1) := dk_44 (dk_at dksJ4_putVal_6 13 rfl rfl)
theorem dJ4_putVal_150 : decode cJ4_putVal 150 = .ok (.aload_n 3, 1) := dk_45 (dk_at dksJ4_putVal_6 14 rfl rfl)
theorem dJ4_putVal_151 : decode cJ4_putVal 151 = .ok (.aconst_null, 1) := dk_1 (dk_at dksJ4_putVal_6 15 rfl rfl)
theorem dJ4_putVal_152 : decode cJ4_putVal 152 = .ok (.invokevirtual 186, 3) := dk_182 0 186 (dk_at dksJ4_putVal_6 16 rfl rfl)
theorem dJ4_putVal_155 : decode cJ4_putVal 155 = .ok (.putfield 177, 3) := dk_181 0 177 (dk_at dksJ4_putVal_6 19 rfl rfl)
theorem dJ4_putVal_158 : decode cJ4_putVal 158 = .ok (.iload 12, 2) := dk_21 12 (dk_at dksJ4_putVal_6 22 rfl rfl)
theorem dJ4_putVal_160 : decode cJ4_putVal 160 = .ok (.bipush 7, 2) := dk_16 7 (dk_at dksJ4_putVal_7 0 rfl rfl)
theorem dJ4_putVal_162 : decode cJ4_putVal 162 = .ok (.if_icmp .lt 60, 3) := dk_161 0 60 (dk_at dksJ4_putVal_7 2 rfl rfl)
theorem dJ4_putVal_165 : decode cJ4_putVal 165 = .ok (.aload_n 0, 1) := dk_42 (dk_at dksJ4_putVal_7 5 rfl rfl)
theorem dJ4_putVal_166 : decode cJ4_putVal 166 = .ok (.aload 6, 2) := dk_25 6 (dk_at dksJ4_putVal_7 6 rfl rfl)
theorem dJ4_putVal_168 : decode cJ4_putVal 168 = .ok (.iload_n 1, 1) := dk_27 (dk_at dksJ4_putVal_7 8 rfl rfl)
theorem dJ4_putVal_169 : decode cJ4_putVal 169 = .ok (.invokevirtual 194, 3) := dk_182 0 194 (dk_at dksJ4_putVal_7 9 rfl rfl)
theorem dJ4_putVal_172 : decode cJ4_putVal 172 = .ok (.goto 50, 3) := dk_167 0 50 (dk_at dksJ4_putVal_7 12 rfl rfl)
theorem dJ4_putVal_175 : decode cJ4_putVal 175 = .ok (.aload 10, 2) := dk_25 10 (dk_at dksJ4_putVal_7 15 rfl rfl)
theorem dJ4_putVal_177 : decode cJ4_putVal 177 = .ok (.getfield 168, 3) := dk_180 0 168 (dk_at dksJ4_putVal_7 17 rfl rfl)
theorem dJ4_putVal_180 : decode cJ4_putVal 180 = .ok (.iload_n 1, 1) := dk_27 (dk_at dksJ4_putVal_7 20 rfl rfl)
theorem dJ4_putVal_181 : decode cJ4_putVal 181 = .ok (.if_icmp .ne 31, 3) := dk_160 0 31 (dk_at dksJ4_putVal_7 21 rfl rfl)
theorem dJ4_putVal_184 : decode cJ4_putVal 184 = .ok (.aload 10, 2) := dk_25 10 (dk_at dksJ4_putVal_8 0 rfl rfl)
theorem dJ4_putVal_186 : decode cJ4_putVal 186 = .ok (.getfield 170, 3) := dk_180 0 170 (dk_at dksJ4_putVal_8 2 rfl rfl)
theorem dJ4_putVal_189 : decode cJ4_putVal 189 = .ok (.dup, 1) := dk_89 (dk_at dksJ4_putVal_8 5 rfl rfl)
theorem dJ4_putVal_190 : decode cJ4_putVal 190 = .ok (.astore 11, 2) := dk_58 11 (dk_at dksJ4_putVal_8 6 rfl rfl)
theorem dJ4_putVal_192 : decode cJ4_putVal 192 = .ok (.aload_n 2, 1) := dk_44 (dk_at dksJ4_putVal_8 8 rfl rfl)
theorem dJ4_putVal_193 : decode cJ4_putVal 193 = .ok (.if_acmp .eq 29, 3) := dk_165 0 29 (dk_at dksJ4_putVal_8 9 rfl rfl)
theorem dJ4_putVal_196 : decode cJ4_putVal 196 = .ok (.aload_n 2, 1) := dk_44 (dk_at dksJ4_putVal_8 12 rfl rfl)
theorem dJ4_putVal_197 : decode cJ4_putVal 197 = .ok (.ifnull 15, 3) := dk_198 0 15 (dk_at dksJ4_putVal_8 13 rfl rfl)
theorem dJ4_putVal_200 : decode cJ4_putVal 200 = .ok (.aload_n 2, 1) := dk_44 (dk_at dksJ4_putVal_8 16 rfl rfl)
theorem dJ4_putVal_201 : decode cJ4_putVal 201 = .ok (.aload 11, 2) := dk_25 11 (dk_at dksJ4_putVal_8 17 rfl rfl)
theorem dJ4_putVal_203 : decode cJ4_putVal 203 = .ok (.invokevirtual 173, 3) := dk_182 0 173 (dk_at dksJ4_putVal_8 19 rfl rfl)
theorem dJ4_putVal_206 : decode cJ4_putVal 206 = .ok (.ifCond .eq 6, 3) := dk_153 0 6 (dk_at dksJ4_putVal_9 0 rfl rfl)
theorem dJ4_putVal_209 : decode cJ4_putVal 209 = .ok (.goto 13, 3) := dk_167 0 13 (dk_at dksJ4_putVal_9 3 rfl rfl)
theorem dJ4_putVal_212 : decode cJ4_putVal 212 = .ok (.aload 10, 2) := dk_25 10 (dk_at dksJ4_putVal_9 6 rfl rfl)
theorem dJ4_putVal_214 : decode cJ4_putVal 214 = .ok (.astore 7, 2) := dk_58 7 (dk_at dksJ4_putVal_9 8 rfl rfl)
theorem dJ4_putVal_216 : decode cJ4_putVal 216 = .ok (.iinc 12 1, 3) := dk_132 12 1 (dk_at dksJ4_putVal_9 10 rfl rfl)
theorem dJ4_putVal_219 : decode cJ4_putVal 219 = .ok (.goto (-85), 3) := dk_167 255 171 (dk_at dksJ4_putVal_9 13 rfl rfl)
theorem dJ4_putVal_222 : decode cJ4_putVal 222 = .ok (.aload 10, 2) := dk_25 10 (dk_at dksJ4_putVal_9 16 rfl rfl)
theorem dJ4_putVal_224 : decode cJ4_putVal 224 = .ok (.ifnull 35, 3) := dk_198 0 35 (dk_at dksJ4_putVal_9 18 rfl rfl)
theorem dJ4_putVal_227 : decode cJ4_putVal 227 = .ok (.aload 10, 2) := dk_25 10 (dk_at dksJ4_putVal_9 21 rfl rfl)
theorem dJ4_putVal_229 : decode cJ4_putVal 229 = .ok (.getfield 162, 3) := dk_180 0 162 (dk_at dksJ4_putVal_10 0 rfl rfl)
theorem dJ4_putVal_232 : decode cJ4_putVal 232 = .ok (.astore 12, 2) := dk_58 12 (dk_at dksJ4_putVal_10 3 rfl rfl)
theorem dJ4_putVal_234 : decode cJ4_putVal 234 = .ok (.iload 4, 2) := dk_21 4 (dk_at dksJ4_putVal_10 5 rfl rfl)
theorem dJ4_putVal_236 : decode cJ4_putVal 236 = .ok (.ifCond .eq 8, 3) := dk_153 0 8 (dk_at dksJ4_putVal_10 7 rfl rfl)
theorem dJ4_putVal_239 : decode cJ4_putVal 239 = .ok (.aload 12, 2) := dk_25 12 (dk_at dksJ4_putVal_10 10 rfl rfl)
theorem dJ4_putVal_241 : decode cJ4_putVal 241 = .ok (.ifnonnull 9, 3) := dk_199 0 9 (dk_at dksJ4_putVal_10 12 rfl rfl)
theorem dJ4_putVal_244 : decode cJ4_putVal 244 = .ok (.aload 10, 2) := dk_25 10 (dk_at dksJ4_putVal_10 15 rfl rfl)
theorem dJ4_putVal_246 : decode cJ4_putVal 246 = .ok (.aload_n 3, 1) := dk_45 (dk_at dksJ4_putVal_10 17 rfl rfl)
theorem dJ4_putVal_247 : decode cJ4_putVal 247 = .ok (.putfield 162, 3) := dk_181 0 162 (dk_at dksJ4_putVal_10 18 rfl rfl)
theorem dJ4_putVal_250 : decode cJ4_putVal 250 = .ok (.aload_n 0, 1) := dk_42 (dk_at dksJ4_putVal_10 21 rfl rfl)
theorem dJ4_putVal_251 : decode cJ4_putVal 251 = .ok (.aload 10, 2) := dk_25 10 (dk_at dksJ4_putVal_10 22 rfl rfl)
theorem dJ4_putVal_253 : decode cJ4_putVal 253 = .ok (.invokevirtual 198, 3) := dk_182 0 198 (dk_at dksJ4_putVal_11 0 rfl rfl)
theorem dJ4_putVal_256 : decode cJ4_putVal 256 = .ok (.aload 12, 2) := dk_25 12 (dk_at dksJ4_putVal_11 3 rfl rfl)
theorem dJ4_putVal_258 : decode cJ4_putVal 258 = .ok (.areturn, 1) := dk_176 (dk_at dksJ4_putVal_11 5 rfl rfl)
theorem dJ4_putVal_259 : decode cJ4_putVal 259 = .ok (.aload_n 0, 1) := dk_42 (dk_at dksJ4_putVal_11 6 rfl rfl)
theorem dJ4_putVal_260 : decode cJ4_putVal 260 = .ok (.dup, 1) := dk_89 (dk_at dksJ4_putVal_11 7 rfl rfl)
theorem dJ4_putVal_261 : decode cJ4_putVal 261 = .ok (.getfield 202, 3) := dk_180 0 202 (dk_at dksJ4_putVal_11 8 rfl rfl)
theorem dJ4_putVal_264 : decode cJ4_putVal 264 = .ok (.iconst 1, 1) := dk_4 (dk_at dksJ4_putVal_11 11 rfl rfl)
theorem dJ4_putVal_265 : decode cJ4_putVal 265 = .ok (.iadd, 1) := dk_96 (dk_at dksJ4_putVal_11 12 rfl rfl)
theorem dJ4_putVal_266 : decode cJ4_putVal 266 = .ok (.putfield 202, 3) := dk_181 0 202 (dk_at dksJ4_putVal_11 13 rfl rfl)
theorem dJ4_putVal_269 : decode cJ4_putVal 269 = .ok (.aload_n 0, 1) := dk_42 (dk_at dksJ4_putVal_11 16 rfl rfl)
theorem dJ4_putVal_270 : decode cJ4_putVal 270 = .ok (.dup, 1) := dk_89 (dk_at dksJ4_putVal_11 17 rfl rfl)
theorem dJ4_putVal_271 : decode cJ4_putVal 271 = .ok (.getfield 156, 3) := dk_180 0 156 (dk_at dksJ4_putVal_11 18 rfl rfl)
theorem dJ4_putVal_274 : decode cJ4_putVal 274 = .ok (.iconst 1, 1) := dk_4 (dk_at dksJ4_putVal_11 21 rfl rfl)
theorem dJ4_putVal_275 : decode cJ4_putVal 275 = .ok (.iadd, 1) := dk_96 (dk_at dksJ4_putVal_11 22 rfl rfl)
theorem dJ4_putVal_276 : decode cJ4_putVal 276 = .ok (.dup_x1, 1) := dk_90 (dk_at dksJ4_putVal_11 23 rfl rfl)
theorem dJ4_putVal_277 : decode cJ4_putVal 277 = .ok (.putfield 156, 3) := dk_181 0 156 (dk_at dksJ4_putVal_12 0 rfl rfl)
theorem dJ4_putVal_280 : decode cJ4_putVal 280 = .ok (.aload_n 0, 1) := dk_42 (dk_at dksJ4_putVal_12 3 rfl rfl)
theorem dJ4_putVal_281 : decode cJ4_putVal 281 = .ok (.getfield 88, 3) := dk_180 0 88 (dk_at dksJ4_putVal_12 4 rfl rfl)
theorem dJ4_putVal_284 : decode cJ4_putVal 284 = .ok (.if_icmp .le 8, 3) := dk_164 0 8 (dk_at dksJ4_putVal_12 7 rfl rfl)
theorem dJ4_putVal_287 : decode cJ4_putVal 287 = .ok (.aload_n 0, 1) := dk_42 (dk_at dksJ4_putVal_12 10 rfl rfl)
theorem dJ4_putVal_288 : decode cJ4_putVal 288 = .ok (.invokevirtual 117, 3) := dk_182 0 117 (dk_at dksJ4_putVal_12 11 rfl rfl)
theorem dJ4_putVal_291 : decode cJ4_putVal 291 = .ok (.pop, 1) := dk_87 (dk_at dksJ4_putVal_12 14 rfl rfl)
theorem dJ4_putVal_292 : decode cJ4_putVal 292 = .ok (.aload_n 0, 1) := dk_42 (dk_at dksJ4_putVal_12 15 rfl rfl)
theorem dJ4_putVal_293 : decode cJ4_putVal 293 = .ok (.iload 5, 2) := dk_21 5 (dk_at dksJ4_putVal_12 16 rfl rfl)
theorem dJ4_putVal_295 : decode cJ4_putVal 295 = .ok (.invokevirtual 205, 3) := dk_182 0 205 (dk_at dksJ4_putVal_12 18 rfl rfl)
theorem dJ4_putVal_298 : decode cJ4_putVal 298 = .ok (.aconst_null, 1) := dk_1 (dk_at dksJ4_putVal_12 21 rfl rfl)
theorem dJ4_putVal_299 : decode cJ4_putVal 299 = .ok (.areturn, 1) := dk_176 (dk_at dksJ4_putVal_12 22 rfl rfl)
abbrev cJ4_resize : ByteArray := prog_64_method_17_code
def yJ4_resize : MethodName := ⟨RJ4, "resize", "()[Ljava/util/HashMap$Node;"⟩
def dkwJ4_resize_15 : List UInt8 := [25, 6, 176]
abbrev dktJ4_resize_15 : List UInt8 := dkwJ4_resize_15 ++ []
def dkwJ4_resize_14 : List UInt8 := [198, 0, 18, 25, 12, 1, 181, 0, 177, 25, 6, 21, 7, 28, 96, 25, 11, 83, 132, 7, 1, 167, 255, 57]
abbrev dktJ4_resize_14 : List UInt8 := dkwJ4_resize_14 ++ dktJ4_resize_15
def dkwJ4_resize_13 : List UInt8 := [199, 255, 185, 25, 10, 198, 0, 16, 25, 10, 1, 181, 0, 177, 25, 6, 21, 7, 25, 9, 83, 25, 12]
abbrev dktJ4_resize_13 : List UInt8 := dkwJ4_resize_13 ++ dktJ4_resize_14
def dkwJ4_resize_12 : List UInt8 := [25, 8, 58, 11, 167, 0, 10, 25, 12, 25, 8, 181, 0, 177, 25, 8, 58, 12, 25, 13, 89, 58, 8]
abbrev dktJ4_resize_12 : List UInt8 := dkwJ4_resize_12 ++ dktJ4_resize_13
def dkwJ4_resize_11 : List UInt8 := [58, 9, 167, 0, 10, 25, 10, 25, 8, 181, 0, 177, 25, 8, 58, 10, 167, 0, 26, 25, 12, 199, 0, 10]
abbrev dktJ4_resize_11 : List UInt8 := dkwJ4_resize_11 ++ dktJ4_resize_12
def dkwJ4_resize_10 : List UInt8 := [25, 8, 180, 0, 177, 58, 13, 25, 8, 180, 0, 168, 28, 126, 154, 0, 29, 25, 10, 199, 0, 10, 25, 8]
abbrev dktJ4_resize_10 : List UInt8 := dkwJ4_resize_10 ++ dktJ4_resize_11
def dkwJ4_resize_9 : List UInt8 := [42, 25, 6, 21, 7, 28, 182, 0, 211, 167, 0, 127, 1, 58, 9, 1, 58, 10, 1, 58, 11, 1, 58, 12]
abbrev dktJ4_resize_9 : List UInt8 := dkwJ4_resize_9 ++ dktJ4_resize_10
def dkwJ4_resize_8 : List UInt8 := [21, 4, 4, 100, 126, 25, 8, 83, 167, 0, 152, 25, 8, 193, 0, 180, 153, 0, 20, 25, 8, 192, 0, 180]
abbrev dktJ4_resize_8 : List UInt8 := dkwJ4_resize_8 ++ dktJ4_resize_9
def dkwJ4_resize_7 : List UInt8 := [198, 0, 183, 43, 21, 7, 1, 83, 25, 8, 180, 0, 177, 199, 0, 21, 25, 6, 25, 8, 180, 0, 168]
abbrev dktJ4_resize_7 : List UInt8 := dkwJ4_resize_7 ++ dktJ4_resize_8
def dkwJ4_resize_6 : List UInt8 := [181, 0, 105, 43, 198, 0, 208, 3, 54, 7, 21, 7, 28, 162, 0, 199, 43, 21, 7, 50, 89, 58, 8]
abbrev dktJ4_resize_6 : List UInt8 := dkwJ4_resize_6 ++ dktJ4_resize_7
def dkwJ4_resize_5 : List UInt8 := [167, 0, 5, 18, 209, 54, 5, 42, 21, 5, 181, 0, 88, 21, 4, 189, 0, 163, 58, 6, 42, 25, 6]
abbrev dktJ4_resize_5 : List UInt8 := dkwJ4_resize_5 ++ dktJ4_resize_6
def dkwJ4_resize_4 : List UInt8 := [180, 0, 81, 106, 56, 6, 21, 4, 18, 42, 162, 0, 17, 23, 6, 18, 210, 150, 156, 0, 9, 23, 6, 139]
abbrev dktJ4_resize_4 : List UInt8 := dkwJ4_resize_4 ++ dktJ4_resize_5
def dkwJ4_resize_3 : List UInt8 := [54, 4, 167, 0, 11, 16, 16, 54, 4, 16, 12, 54, 5, 21, 5, 154, 0, 38, 21, 4, 134, 42]
abbrev dktJ4_resize_3 : List UInt8 := dkwJ4_resize_3 ++ dktJ4_resize_4
def dkwJ4_resize_2 : List UInt8 := [18, 42, 162, 0, 35, 28, 16, 16, 161, 0, 29, 29, 4, 120, 54, 5, 167, 0, 21, 29, 158, 0, 9, 29]
abbrev dktJ4_resize_2 : List UInt8 := dkwJ4_resize_2 ++ dktJ4_resize_3
def dkwJ4_resize_1 : List UInt8 := [28, 158, 0, 42, 28, 18, 42, 161, 0, 11, 42, 18, 209, 181, 0, 88, 43, 176, 28, 4, 120, 89, 54, 4]
abbrev dktJ4_resize_1 : List UInt8 := dkwJ4_resize_1 ++ dktJ4_resize_2
def dkwJ4_resize_0 : List UInt8 := [42, 180, 0, 105, 76, 43, 199, 0, 7, 3, 167, 0, 5, 43, 190, 61, 42, 180, 0, 88, 62, 3, 54, 5]
abbrev dktJ4_resize_0 : List UInt8 := dkwJ4_resize_0 ++ dktJ4_resize_1
theorem dksJ4_resize_0 : cJ4_resize.data.toList.drop 0 = dktJ4_resize_0 := by decide +kernel
theorem dksJ4_resize_1 : cJ4_resize.data.toList.drop 24 = dktJ4_resize_1 := dk_seg dksJ4_resize_0 24 rfl rfl
theorem dksJ4_resize_2 : cJ4_resize.data.toList.drop 48 = dktJ4_resize_2 := dk_seg dksJ4_resize_1 24 rfl rfl
theorem dksJ4_resize_3 : cJ4_resize.data.toList.drop 72 = dktJ4_resize_3 := dk_seg dksJ4_resize_2 24 rfl rfl
theorem dksJ4_resize_4 : cJ4_resize.data.toList.drop 94 = dktJ4_resize_4 := dk_seg dksJ4_resize_3 22 rfl rfl
theorem dksJ4_resize_5 : cJ4_resize.data.toList.drop 118 = dktJ4_resize_5 := dk_seg dksJ4_resize_4 24 rfl rfl
theorem dksJ4_resize_6 : cJ4_resize.data.toList.drop 141 = dktJ4_resize_6 := dk_seg dksJ4_resize_5 23 rfl rfl
theorem dksJ4_resize_7 : cJ4_resize.data.toList.drop 164 = dktJ4_resize_7 := dk_seg dksJ4_resize_6 23 rfl rfl
theorem dksJ4_resize_8 : cJ4_resize.data.toList.drop 187 = dktJ4_resize_8 := dk_seg dksJ4_resize_7 23 rfl rfl
theorem dksJ4_resize_9 : cJ4_resize.data.toList.drop 211 = dktJ4_resize_9 := dk_seg dksJ4_resize_8 24 rfl rfl
theorem dksJ4_resize_10 : cJ4_resize.data.toList.drop 235 = dktJ4_resize_10 := dk_seg dksJ4_resize_9 24 rfl rfl
theorem dksJ4_resize_11 : cJ4_resize.data.toList.drop 259 = dktJ4_resize_11 := dk_seg dksJ4_resize_10 24 rfl rfl
theorem dksJ4_resize_12 : cJ4_resize.data.toList.drop 283 = dktJ4_resize_12 := dk_seg dksJ4_resize_11 24 rfl rfl
theorem dksJ4_resize_13 : cJ4_resize.data.toList.drop 306 = dktJ4_resize_13 := dk_seg dksJ4_resize_12 23 rfl rfl
theorem dksJ4_resize_14 : cJ4_resize.data.toList.drop 329 = dktJ4_resize_14 := dk_seg dksJ4_resize_13 23 rfl rfl
theorem dksJ4_resize_15 : cJ4_resize.data.toList.drop 353 = dktJ4_resize_15 := dk_seg dksJ4_resize_14 24 rfl rfl
theorem dJ4_resize_0 : decode cJ4_resize 0 = .ok (.aload_n 0, 1) := dk_42 (dk_at dksJ4_resize_0 0 rfl rfl)
theorem dJ4_resize_1 : decode cJ4_resize 1 = .ok (.getfield 105, 3) := dk_180 0 105 (dk_at dksJ4_resize_0 1 rfl rfl)
theorem dJ4_resize_4 : decode cJ4_resize 4 = .ok (.astore_n 1, 1) := dk_76 (dk_at dksJ4_resize_0 4 rfl rfl)
theorem dJ4_resize_5 : decode cJ4_resize 5 = .ok (.aload_n 1, 1) := dk_43 (dk_at dksJ4_resize_0 5 rfl rfl)
theorem dJ4_resize_6 : decode cJ4_resize 6 = .ok (.ifnonnull 7, 3) := dk_199 0 7 (dk_at dksJ4_resize_0 6 rfl rfl)
theorem dJ4_resize_9 : decode cJ4_resize 9 = .ok (.iconst 0, 1) := dk_3 (dk_at dksJ4_resize_0 9 rfl rfl)
theorem dJ4_resize_10 : decode cJ4_resize 10 = .ok (.goto 5, 3) := dk_167 0 5 (dk_at dksJ4_resize_0 10 rfl rfl)
theorem dJ4_resize_13 : decode cJ4_resize 13 = .ok (.aload_n 1, 1) := dk_43 (dk_at dksJ4_resize_0 13 rfl rfl)
theorem dJ4_resize_14 : decode cJ4_resize 14 = .ok (.arraylength, 1) := dk_190 (dk_at dksJ4_resize_0 14 rfl rfl)
theorem dJ4_resize_15 : decode cJ4_resize 15 = .ok (.istore_n 2, 1) := dk_61 (dk_at dksJ4_resize_0 15 rfl rfl)
theorem dJ4_resize_16 : decode cJ4_resize 16 = .ok (.aload_n 0, 1) := dk_42 (dk_at dksJ4_resize_0 16 rfl rfl)
theorem dJ4_resize_17 : decode cJ4_resize 17 = .ok (.getfield 88, 3) := dk_180 0 88 (dk_at dksJ4_resize_0 17 rfl rfl)
theorem dJ4_resize_20 : decode cJ4_resize 20 = .ok (.istore_n 3, 1) := dk_62 (dk_at dksJ4_resize_0 20 rfl rfl)
theorem dJ4_resize_21 : decode cJ4_resize 21 = .ok (.iconst 0, 1) := dk_3 (dk_at dksJ4_resize_0 21 rfl rfl)
theorem dJ4_resize_22 : decode cJ4_resize 22 = .ok (.istore 5, 2) := dk_54 5 (dk_at dksJ4_resize_0 22 rfl rfl)
theorem dJ4_resize_24 : decode cJ4_resize 24 = .ok (.iload_n 2, 1) := dk_28 (dk_at dksJ4_resize_1 0 rfl rfl)
theorem dJ4_resize_25 : decode cJ4_resize 25 = .ok (.ifCond .le 42, 3) := dk_158 0 42 (dk_at dksJ4_resize_1 1 rfl rfl)
theorem dJ4_resize_28 : decode cJ4_resize 28 = .ok (.iload_n 2, 1) := dk_28 (dk_at dksJ4_resize_1 4 rfl rfl)
theorem dJ4_resize_29 : decode cJ4_resize 29 = .ok (.ldc 42, 2) := dk_18 42 (dk_at dksJ4_resize_1 5 rfl rfl)
theorem dJ4_resize_31 : decode cJ4_resize 31 = .ok (.if_icmp .lt 11, 3) := dk_161 0 11 (dk_at dksJ4_resize_1 7 rfl rfl)
theorem dJ4_resize_34 : decode cJ4_resize 34 = .ok (.aload_n 0, 1) := dk_42 (dk_at dksJ4_resize_1 10 rfl rfl)
theorem dJ4_resize_35 : decode cJ4_resize 35 = .ok (.ldc 209, 2) := dk_18 209 (dk_at dksJ4_resize_1 11 rfl rfl)
theorem dJ4_resize_37 : decode cJ4_resize 37 = .ok (.putfield 88, 3) := dk_181 0 88 (dk_at dksJ4_resize_1 13 rfl rfl)
theorem dJ4_resize_40 : decode cJ4_resize 40 = .ok (.aload_n 1, 1) := dk_43 (dk_at dksJ4_resize_1 16 rfl rfl)
theorem dJ4_resize_41 : decode cJ4_resize 41 = .ok (.areturn, 1) := dk_176 (dk_at dksJ4_resize_1 17 rfl rfl)
theorem dJ4_resize_42 : decode cJ4_resize 42 = .ok (.iload_n 2, 1) := dk_28 (dk_at dksJ4_resize_1 18 rfl rfl)
theorem dJ4_resize_43 : decode cJ4_resize 43 = .ok (.iconst 1, 1) := dk_4 (dk_at dksJ4_resize_1 19 rfl rfl)
theorem dJ4_resize_44 : decode cJ4_resize 44 = .ok (.ishl, 1) := dk_120 (dk_at dksJ4_resize_1 20 rfl rfl)
theorem dJ4_resize_45 : decode cJ4_resize 45 = .ok (.dup, 1) := dk_89 (dk_at dksJ4_resize_1 21 rfl rfl)
theorem dJ4_resize_46 : decode cJ4_resize 46 = .ok (.istore 4, 2) := dk_54 4 (dk_at dksJ4_resize_1 22 rfl rfl)
theorem dJ4_resize_48 : decode cJ4_resize 48 = .ok (.ldc 42, 2) := dk_18 42 (dk_at dksJ4_resize_2 0 rfl rfl)
theorem dJ4_resize_50 : decode cJ4_resize 50 = .ok (.if_icmp .ge 35, 3) := dk_162 0 35 (dk_at dksJ4_resize_2 2 rfl rfl)
theorem dJ4_resize_53 : decode cJ4_resize 53 = .ok (.iload_n 2, 1) := dk_28 (dk_at dksJ4_resize_2 5 rfl rfl)
theorem dJ4_resize_54 : decode cJ4_resize 54 = .ok (.bipush 16, 2) := dk_16 16 (dk_at dksJ4_resize_2 6 rfl rfl)
theorem dJ4_resize_56 : decode cJ4_resize 56 = .ok (.if_icmp .lt 29, 3) := dk_161 0 29 (dk_at dksJ4_resize_2 8 rfl rfl)
theorem dJ4_resize_59 : decode cJ4_resize 59 = .ok (.iload_n 3, 1) := dk_29 (dk_at dksJ4_resize_2 11 rfl rfl)
theorem dJ4_resize_60 : decode cJ4_resize 60 = .ok (.iconst 1, 1) := dk_4 (dk_at dksJ4_resize_2 12 rfl rfl)
theorem dJ4_resize_61 : decode cJ4_resize 61 = .ok (.ishl, 1) := dk_120 (dk_at dksJ4_resize_2 13 rfl rfl)
theorem dJ4_resize_62 : decode cJ4_resize 62 = .ok (.istore 5, 2) := dk_54 5 (dk_at dksJ4_resize_2 14 rfl rfl)
theorem dJ4_resize_64 : decode cJ4_resize 64 = .ok (.goto 21, 3) := dk_167 0 21 (dk_at dksJ4_resize_2 16 rfl rfl)
theorem dJ4_resize_67 : decode cJ4_resize 67 = .ok (.iload_n 3, 1) := dk_29 (dk_at dksJ4_resize_2 19 rfl rfl)
theorem dJ4_resize_68 : decode cJ4_resize 68 = .ok (.ifCond .le 9, 3) := dk_158 0 9 (dk_at dksJ4_resize_2 20 rfl rfl)
theorem dJ4_resize_71 : decode cJ4_resize 71 = .ok (.iload_n 3, 1) := dk_29 (dk_at dksJ4_resize_2 23 rfl rfl)
theorem dJ4_resize_72 : decode cJ4_resize 72 = .ok (.istore 4, 2) := dk_54 4 (dk_at dksJ4_resize_3 0 rfl rfl)
theorem dJ4_resize_74 : decode cJ4_resize 74 = .ok (.goto 11, 3) := dk_167 0 11 (dk_at dksJ4_resize_3 2 rfl rfl)
theorem dJ4_resize_77 : decode cJ4_resize 77 = .ok (.bipush 16, 2) := dk_16 16 (dk_at dksJ4_resize_3 5 rfl rfl)
theorem dJ4_resize_79 : decode cJ4_resize 79 = .ok (.istore 4, 2) := dk_54 4 (dk_at dksJ4_resize_3 7 rfl rfl)
theorem dJ4_resize_81 : decode cJ4_resize 81 = .ok (.bipush 12, 2) := dk_16 12 (dk_at dksJ4_resize_3 9 rfl rfl)
theorem dJ4_resize_83 : decode cJ4_resize 83 = .ok (.istore 5, 2) := dk_54 5 (dk_at dksJ4_resize_3 11 rfl rfl)
theorem dJ4_resize_85 : decode cJ4_resize 85 = .ok (.iload 5, 2) := dk_21 5 (dk_at dksJ4_resize_3 13 rfl rfl)
theorem dJ4_resize_87 : decode cJ4_resize 87 = .ok (.ifCond .ne 38, 3) := dk_154 0 38 (dk_at dksJ4_resize_3 15 rfl rfl)
theorem dJ4_resize_90 : decode cJ4_resize 90 = .ok (.iload 4, 2) := dk_21 4 (dk_at dksJ4_resize_3 18 rfl rfl)
theorem dJ4_resize_92 : decode cJ4_resize 92 = .ok (.i2f, 1) := dk_134 (dk_at dksJ4_resize_3 20 rfl rfl)
theorem dJ4_resize_93 : decode cJ4_resize 93 = .ok (.aload_n 0, 1) := dk_42 (dk_at dksJ4_resize_3 21 rfl rfl)
theorem dJ4_resize_94 : decode cJ4_resize 94 = .ok (.getfield 81, 3) := dk_180 0 81 (dk_at dksJ4_resize_4 0 rfl rfl)
theorem dJ4_resize_97 : decode cJ4_resize 97 = .ok (.fmul, 1) := dk_106 (dk_at dksJ4_resize_4 3 rfl rfl)
theorem dJ4_resize_98 : decode cJ4_resize 98 = .ok (.fstore 6, 2) := dk_56 6 (dk_at dksJ4_resize_4 4 rfl rfl)
theorem dJ4_resize_100 : decode cJ4_resize 100 = .ok (.iload 4, 2) := dk_21 4 (dk_at dksJ4_resize_4 6 rfl rfl)
theorem dJ4_resize_102 : decode cJ4_resize 102 = .ok (.ldc 42, 2) := dk_18 42 (dk_at dksJ4_resize_4 8 rfl rfl)
theorem dJ4_resize_104 : decode cJ4_resize 104 = .ok (.if_icmp .ge 17, 3) := dk_162 0 17 (dk_at dksJ4_resize_4 10 rfl rfl)
theorem dJ4_resize_107 : decode cJ4_resize 107 = .ok (.fload 6, 2) := dk_23 6 (dk_at dksJ4_resize_4 13 rfl rfl)
theorem dJ4_resize_109 : decode cJ4_resize 109 = .ok (.ldc 210, 2) := dk_18 210 (dk_at dksJ4_resize_4 15 rfl rfl)
theorem dJ4_resize_111 : decode cJ4_resize 111 = .ok (.fcmp .g, 1) := dk_150 (dk_at dksJ4_resize_4 17 rfl rfl)
theorem dJ4_resize_112 : decode cJ4_resize 112 = .ok (.ifCond .ge 9, 3) := dk_156 0 9 (dk_at dksJ4_resize_4 18 rfl rfl)
theorem dJ4_resize_115 : decode cJ4_resize 115 = .ok (.fload 6, 2) := dk_23 6 (dk_at dksJ4_resize_4 21 rfl rfl)
theorem dJ4_resize_117 : decode cJ4_resize 117 = .ok (.f2i, 1) := dk_139 (dk_at dksJ4_resize_4 23 rfl rfl)
theorem dJ4_resize_118 : decode cJ4_resize 118 = .ok (.goto 5, 3) := dk_167 0 5 (dk_at dksJ4_resize_5 0 rfl rfl)
theorem dJ4_resize_121 : decode cJ4_resize 121 = .ok (.ldc 209, 2) := dk_18 209 (dk_at dksJ4_resize_5 3 rfl rfl)
theorem dJ4_resize_123 : decode cJ4_resize 123 = .ok (.istore 5, 2) := dk_54 5 (dk_at dksJ4_resize_5 5 rfl rfl)
theorem dJ4_resize_125 : decode cJ4_resize 125 = .ok (.aload_n 0, 1) := dk_42 (dk_at dksJ4_resize_5 7 rfl rfl)
theorem dJ4_resize_126 : decode cJ4_resize 126 = .ok (.iload 5, 2) := dk_21 5 (dk_at dksJ4_resize_5 8 rfl rfl)
theorem dJ4_resize_128 : decode cJ4_resize 128 = .ok (.putfield 88, 3) := dk_181 0 88 (dk_at dksJ4_resize_5 10 rfl rfl)
theorem dJ4_resize_131 : decode cJ4_resize 131 = .ok (.iload 4, 2) := dk_21 4 (dk_at dksJ4_resize_5 13 rfl rfl)
theorem dJ4_resize_133 : decode cJ4_resize 133 = .ok (.anewarray 163, 3) := dk_189 0 163 (dk_at dksJ4_resize_5 15 rfl rfl)
theorem dJ4_resize_136 : decode cJ4_resize 136 = .ok (.astore 6, 2) := dk_58 6 (dk_at dksJ4_resize_5 18 rfl rfl)
theorem dJ4_resize_138 : decode cJ4_resize 138 = .ok (.aload_n 0, 1) := dk_42 (dk_at dksJ4_resize_5 20 rfl rfl)
theorem dJ4_resize_139 : decode cJ4_resize 139 = .ok (.aload 6, 2) := dk_25 6 (dk_at dksJ4_resize_5 21 rfl rfl)
theorem dJ4_resize_141 : decode cJ4_resize 141 = .ok (.putfield 105, 3) := dk_181 0 105 (dk_at dksJ4_resize_6 0 rfl rfl)
theorem dJ4_resize_144 : decode cJ4_resize 144 = .ok (.aload_n 1, 1) := dk_43 (dk_at dksJ4_resize_6 3 rfl rfl)
theorem dJ4_resize_145 : decode cJ4_resize 145 = .ok (.ifnull 208, 3) := dk_198 0 208 (dk_at dksJ4_resize_6 4 rfl rfl)
theorem dJ4_resize_148 : decode cJ4_resize 148 = .ok (.iconst 0, 1) := dk_3 (dk_at dksJ4_resize_6 7 rfl rfl)
theorem dJ4_resize_149 : decode cJ4_resize 149 = .ok (.istore 7, 2) := dk_54 7 (dk_at dksJ4_resize_6 8 rfl rfl)
theorem dJ4_resize_151 : decode cJ4_resize 151 = .ok (.iload 7, 2) := dk_21 7 (dk_at dksJ4_resize_6 10 rfl rfl)
theorem dJ4_resize_153 : decode cJ4_resize 153 = .ok (.iload_n 2, 1) := dk_28 (dk_at dksJ4_resize_6 12 rfl rfl)
theorem dJ4_resize_154 : decode cJ4_resize 154 = .ok (.if_icmp .ge 199, 3) := dk_162 0 199 (dk_at dksJ4_resize_6 13 rfl rfl)
theorem dJ4_resize_157 : decode cJ4_resize 157 = .ok (.aload_n 1, 1) := dk_43 (dk_at dksJ4_resize_6 16 rfl rfl)
theorem dJ4_resize_158 : decode cJ4_resize 158 = .ok (.iload 7, 2) := dk_21 7 (dk_at dksJ4_resize_6 17 rfl rfl)
theorem dJ4_resize_160 : decode cJ4_resize 160 = .ok (.aaload, 1) := dk_50 (dk_at dksJ4_resize_6 19 rfl rfl)
theorem dJ4_resize_161 : decode cJ4_resize 161 = .ok (.dup, 1) := dk_89 (dk_at dksJ4_resize_6 20 rfl rfl)
theorem dJ4_resize_162 : decode cJ4_resize 162 = .ok (.astore 8, 2) := dk_58 8 (dk_at dksJ4_resize_6 21 rfl rfl)
theorem dJ4_resize_164 : decode cJ4_resize 164 = .ok (.ifnull 183, 3) := dk_198 0 183 (dk_at dksJ4_resize_7 0 rfl rfl)
theorem dJ4_resize_167 : decode cJ4_resize 167 = .ok (.aload_n 1, 1) := dk_43 (dk_at dksJ4_resize_7 3 rfl rfl)
theorem dJ4_resize_168 : decode cJ4_resize 168 = .ok (.iload 7, 2) := dk_21 7 (dk_at dksJ4_resize_7 4 rfl rfl)
theorem dJ4_resize_170 : decode cJ4_resize 170 = .ok (.aconst_null, 1) := dk_1 (dk_at dksJ4_resize_7 6 rfl rfl)
theorem dJ4_resize_171 : decode cJ4_resize 171 = .ok (.aastore, 1) := dk_83 (dk_at dksJ4_resize_7 7 rfl rfl)
theorem dJ4_resize_172 : decode cJ4_resize 172 = .ok (.aload 8, 2) := dk_25 8 (dk_at dksJ4_resize_7 8 rfl rfl)
theorem dJ4_resize_174 : decode cJ4_resize 174 = .ok (.getfield 177, 3) := dk_180 0 177 (dk_at dksJ4_resize_7 10 rfl rfl)
theorem dJ4_resize_177 : decode cJ4_resize 177 = .ok (.ifnonnull 21, 3) := dk_199 0 21 (dk_at dksJ4_resize_7 13 rfl rfl)
theorem dJ4_resize_180 : decode cJ4_resize 180 = .ok (.aload 6, 2) := dk_25 6 (dk_at dksJ4_resize_7 16 rfl rfl)
theorem dJ4_resize_182 : decode cJ4_resize 182 = .ok (.aload 8, 2) := dk_25 8 (dk_at dksJ4_resize_7 18 rfl rfl)
theorem dJ4_resize_184 : decode cJ4_resize 184 = .ok (.getfield 168, 3) := dk_180 0 168 (dk_at dksJ4_resize_7 20 rfl rfl)
theorem dJ4_resize_187 : decode cJ4_resize 187 = .ok (.iload 4, 2) := dk_21 4 (dk_at dksJ4_resize_8 0 rfl rfl)
theorem dJ4_resize_189 : decode cJ4_resize 189 = .ok (.iconst 1, 1) := dk_4 (dk_at dksJ4_resize_8 2 rfl rfl)
theorem dJ4_resize_190 : decode cJ4_resize 190 = .ok (.isub, 1) := dk_100 (dk_at dksJ4_resize_8 3 rfl rfl)
theorem dJ4_resize_191 : decode cJ4_resize 191 = .ok (.iand, 1) := dk_126 (dk_at dksJ4_resize_8 4 rfl rfl)
theorem dJ4_resize_192 : decode cJ4_resize 192 = .ok (.aload 8, 2) := dk_25 8 (dk_at dksJ4_resize_8 5 rfl rfl)
theorem dJ4_resize_194 : decode cJ4_resize 194 = .ok (.aastore, 1) := dk_83 (dk_at dksJ4_resize_8 7 rfl rfl)
theorem dJ4_resize_195 : decode cJ4_resize 195 = .ok (.goto 152, 3) := dk_167 0 152 (dk_at dksJ4_resize_8 8 rfl rfl)
theorem dJ4_resize_198 : decode cJ4_resize 198 = .ok (.aload 8, 2) := dk_25 8 (dk_at dksJ4_resize_8 11 rfl rfl)
theorem dJ4_resize_200 : decode cJ4_resize 200 = .ok (.instanceof 180, 3) := dk_193 0 180 (dk_at dksJ4_resize_8 13 rfl rfl)
theorem dJ4_resize_203 : decode cJ4_resize 203 = .ok (.ifCond .eq 20, 3) := dk_153 0 20 (dk_at dksJ4_resize_8 16 rfl rfl)
theorem dJ4_resize_206 : decode cJ4_resize 206 = .ok (.aload 8, 2) := dk_25 8 (dk_at dksJ4_resize_8 19 rfl rfl)
theorem dJ4_resize_208 : decode cJ4_resize 208 = .ok (.checkcast 180, 3) := dk_192 0 180 (dk_at dksJ4_resize_8 21 rfl rfl)
theorem dJ4_resize_211 : decode cJ4_resize 211 = .ok (.aload_n 0, 1) := dk_42 (dk_at dksJ4_resize_9 0 rfl rfl)
theorem dJ4_resize_212 : decode cJ4_resize 212 = .ok (.aload 6, 2) := dk_25 6 (dk_at dksJ4_resize_9 1 rfl rfl)
theorem dJ4_resize_214 : decode cJ4_resize 214 = .ok (.iload 7, 2) := dk_21 7 (dk_at dksJ4_resize_9 3 rfl rfl)
theorem dJ4_resize_216 : decode cJ4_resize 216 = .ok (.iload_n 2, 1) := dk_28 (dk_at dksJ4_resize_9 5 rfl rfl)
theorem dJ4_resize_217 : decode cJ4_resize 217 = .ok (.invokevirtual 211, 3) := dk_182 0 211 (dk_at dksJ4_resize_9 6 rfl rfl)
theorem dJ4_resize_220 : decode cJ4_resize 220 = .ok (.goto 127, 3) := dk_167 0 127 (dk_at dksJ4_resize_9 9 rfl rfl)
theorem dJ4_resize_223 : decode cJ4_resize 223 = .ok (.aconst_null, 1) := dk_1 (dk_at dksJ4_resize_9 12 rfl rfl)
theorem dJ4_resize_224 : decode cJ4_resize 224 = .ok (.astore 9, 2) := dk_58 9 (dk_at dksJ4_resize_9 13 rfl rfl)
theorem dJ4_resize_226 : decode cJ4_resize 226 = .ok (.aconst_null, 1) := dk_1 (dk_at dksJ4_resize_9 15 rfl rfl)
theorem dJ4_resize_227 : decode cJ4_resize 227 = .ok (.astore 10, 2) := dk_58 10 (dk_at dksJ4_resize_9 16 rfl rfl)
theorem dJ4_resize_229 : decode cJ4_resize 229 = .ok (.aconst_null, 1) := dk_1 (dk_at dksJ4_resize_9 18 rfl rfl)
theorem dJ4_resize_230 : decode cJ4_resize 230 = .ok (.astore 11, 2) := dk_58 11 (dk_at dksJ4_resize_9 19 rfl rfl)
theorem dJ4_resize_232 : decode cJ4_resize 232 = .ok (.aconst_null, 1) := dk_1 (dk_at dksJ4_resize_9 21 rfl rfl)
theorem dJ4_resize_233 : decode cJ4_resize 233 = .ok (.astore 12, 2) := dk_58 12 (dk_at dksJ4_resize_9 22 rfl rfl)
theorem dJ4_resize_235 : decode cJ4_resize 235 = .ok (.aload 8, 2) := dk_25 8 (dk_at dksJ4_resize_10 0 rfl rfl)
theorem dJ4_resize_237 : decode cJ4_resize 237 = .ok (.getfield 177, 3) := dk_180 0 177 (dk_at dksJ4_resize_10 2 rfl rfl)
theorem dJ4_resize_240 : decode cJ4_resize 240 = .ok (.astore 13, 2) := dk_58 13 (dk_at dksJ4_resize_10 5 rfl rfl)
theorem dJ4_resize_242 : decode cJ4_resize 242 = .ok (.aload 8, 2) := dk_25 8 (dk_at dksJ4_resize_10 7 rfl rfl)
theorem dJ4_resize_244 : decode cJ4_resize 244 = .ok (.getfield 168, 3) := dk_180 0 168 (dk_at dksJ4_resize_10 9 rfl rfl)
theorem dJ4_resize_247 : decode cJ4_resize 247 = .ok (.iload_n 2, 1) := dk_28 (dk_at dksJ4_resize_10 12 rfl rfl)
theorem dJ4_resize_248 : decode cJ4_resize 248 = .ok (.iand, 1) := dk_126 (dk_at dksJ4_resize_10 13 rfl rfl)
theorem dJ4_resize_249 : decode cJ4_resize 249 = .ok (.ifCond .ne 29, 3) := dk_154 0 29 (dk_at dksJ4_resize_10 14 rfl rfl)
theorem dJ4_resize_252 : decode cJ4_resize 252 = .ok (.aload 10, 2) := dk_25 10 (dk_at dksJ4_resize_10 17 rfl rfl)
theorem dJ4_resize_254 : decode cJ4_resize 254 = .ok (.ifnonnull 10, 3) := dk_199 0 10 (dk_at dksJ4_resize_10 19 rfl rfl)
theorem dJ4_resize_257 : decode cJ4_resize 257 = .ok (.aload 8, 2) := dk_25 8 (dk_at dksJ4_resize_10 22 rfl rfl)
theorem dJ4_resize_259 : decode cJ4_resize 259 = .ok (.astore 9, 2) := dk_58 9 (dk_at dksJ4_resize_11 0 rfl rfl)
theorem dJ4_resize_261 : decode cJ4_resize 261 = .ok (.goto 10, 3) := dk_167 0 10 (dk_at dksJ4_resize_11 2 rfl rfl)
theorem dJ4_resize_264 : decode cJ4_resize 264 = .ok (.aload 10, 2) := dk_25 10 (dk_at dksJ4_resize_11 5 rfl rfl)
theorem dJ4_resize_266 : decode cJ4_resize 266 = .ok (.aload 8, 2) := dk_25 8 (dk_at dksJ4_resize_11 7 rfl rfl)
theorem dJ4_resize_268 : decode cJ4_resize 268 = .ok (.putfield 177, 3) := dk_181 0 177 (dk_at dksJ4_resize_11 9 rfl rfl)
theorem dJ4_resize_271 : decode cJ4_resize 271 = .ok (.aload 8, 2) := dk_25 8 (dk_at dksJ4_resize_11 12 rfl rfl)
theorem dJ4_resize_273 : decode cJ4_resize 273 = .ok (.astore 10, 2) := dk_58 10 (dk_at dksJ4_resize_11 14 rfl rfl)
theorem dJ4_resize_275 : decode cJ4_resize 275 = .ok (.goto 26, 3) := dk_167 0 26 (dk_at dksJ4_resize_11 16 rfl rfl)
theorem dJ4_resize_278 : decode cJ4_resize 278 = .ok (.aload 12, 2) := dk_25 12 (dk_at dksJ4_resize_11 19 rfl rfl)
theorem dJ4_resize_280 : decode cJ4_resize 280 = .ok (.ifnonnull 10, 3) := dk_199 0 10 (dk_at dksJ4_resize_11 21 rfl rfl)
theorem dJ4_resize_283 : decode cJ4_resize 283 = .ok (.aload 8, 2) := dk_25 8 (dk_at dksJ4_resize_12 0 rfl rfl)
theorem dJ4_resize_285 : decode cJ4_resize 285 = .ok (.astore 11, 2) := dk_58 11 (dk_at dksJ4_resize_12 2 rfl rfl)
theorem dJ4_resize_287 : decode cJ4_resize 287 = .ok (.goto 10, 3) := dk_167 0 10 (dk_at dksJ4_resize_12 4 rfl rfl)
theorem dJ4_resize_290 : decode cJ4_resize 290 = .ok (.aload 12, 2) := dk_25 12 (dk_at dksJ4_resize_12 7 rfl rfl)
theorem dJ4_resize_292 : decode cJ4_resize 292 = .ok (.aload 8, 2) := dk_25 8 (dk_at dksJ4_resize_12 9 rfl rfl)
theorem dJ4_resize_294 : decode cJ4_resize 294 = .ok (.putfield 177, 3) := dk_181 0 177 (dk_at dksJ4_resize_12 11 rfl rfl)
theorem dJ4_resize_297 : decode cJ4_resize 297 = .ok (.aload 8, 2) := dk_25 8 (dk_at dksJ4_resize_12 14 rfl rfl)
theorem dJ4_resize_299 : decode cJ4_resize 299 = .ok (.astore 12, 2) := dk_58 12 (dk_at dksJ4_resize_12 16 rfl rfl)
theorem dJ4_resize_301 : decode cJ4_resize 301 = .ok (.aload 13, 2) := dk_25 13 (dk_at dksJ4_resize_12 18 rfl rfl)
theorem dJ4_resize_303 : decode cJ4_resize 303 = .ok (.dup, 1) := dk_89 (dk_at dksJ4_resize_12 20 rfl rfl)
theorem dJ4_resize_304 : decode cJ4_resize 304 = .ok (.astore 8, 2) := dk_58 8 (dk_at dksJ4_resize_12 21 rfl rfl)
theorem dJ4_resize_306 : decode cJ4_resize 306 = .ok (.ifnonnull (-71), 3) := dk_199 255 185 (dk_at dksJ4_resize_13 0 rfl rfl)
theorem dJ4_resize_309 : decode cJ4_resize 309 = .ok (.aload 10, 2) := dk_25 10 (dk_at dksJ4_resize_13 3 rfl rfl)
theorem dJ4_resize_311 : decode cJ4_resize 311 = .ok (.ifnull 16, 3) := dk_198 0 16 (dk_at dksJ4_resize_13 5 rfl rfl)
theorem dJ4_resize_314 : decode cJ4_resize 314 = .ok (.aload 10, 2) := dk_25 10 (dk_at dksJ4_resize_13 8 rfl rfl)
theorem dJ4_resize_316 : decode cJ4_resize 316 = .ok (.aconst_null, 1) := dk_1 (dk_at dksJ4_resize_13 10 rfl rfl)
theorem dJ4_resize_317 : decode cJ4_resize 317 = .ok (.putfield 177, 3) := dk_181 0 177 (dk_at dksJ4_resize_13 11 rfl rfl)
theorem dJ4_resize_320 : decode cJ4_resize 320 = .ok (.aload 6, 2) := dk_25 6 (dk_at dksJ4_resize_13 14 rfl rfl)
theorem dJ4_resize_322 : decode cJ4_resize 322 = .ok (.iload 7, 2) := dk_21 7 (dk_at dksJ4_resize_13 16 rfl rfl)
theorem dJ4_resize_324 : decode cJ4_resize 324 = .ok (.aload 9, 2) := dk_25 9 (dk_at dksJ4_resize_13 18 rfl rfl)
theorem dJ4_resize_326 : decode cJ4_resize 326 = .ok (.aastore, 1) := dk_83 (dk_at dksJ4_resize_13 20 rfl rfl)
theorem dJ4_resize_327 : decode cJ4_resize 327 = .ok (.aload 12, 2) := dk_25 12 (dk_at dksJ4_resize_13 21 rfl rfl)
theorem dJ4_resize_329 : decode cJ4_resize 329 = .ok (.ifnull 18, 3) := dk_198 0 18 (dk_at dksJ4_resize_14 0 rfl rfl)
theorem dJ4_resize_332 : decode cJ4_resize 332 = .ok (.aload 12, 2) := dk_25 12 (dk_at dksJ4_resize_14 3 rfl rfl)
theorem dJ4_resize_334 : decode cJ4_resize 334 = .ok (.aconst_null, 1) := dk_1 (dk_at dksJ4_resize_14 5 rfl rfl)
theorem dJ4_resize_335 : decode cJ4_resize 335 = .ok (.putfield 177, 3) := dk_181 0 177 (dk_at dksJ4_resize_14 6 rfl rfl)
theorem dJ4_resize_338 : decode cJ4_resize 338 = .ok (.aload 6, 2) := dk_25 6 (dk_at dksJ4_resize_14 9 rfl rfl)
theorem dJ4_resize_340 : decode cJ4_resize 340 = .ok (.iload 7, 2) := dk_21 7 (dk_at dksJ4_resize_14 11 rfl rfl)
theorem dJ4_resize_342 : decode cJ4_resize 342 = .ok (.iload_n 2, 1) := dk_28 (dk_at dksJ4_resize_14 13 rfl rfl)
theorem dJ4_resize_343 : decode cJ4_resize 343 = .ok (.iadd, 1) := dk_96 (dk_at dksJ4_resize_14 14 rfl rfl)
theorem dJ4_resize_344 : decode cJ4_resize 344 = .ok (.aload 11, 2) := dk_25 11 (dk_at dksJ4_resize_14 15 rfl rfl)
theorem dJ4_resize_346 : decode cJ4_resize 346 = .ok (.aastore, 1) := dk_83 (dk_at dksJ4_resize_14 17 rfl rfl)
theorem dJ4_resize_347 : decode cJ4_resize 347 = .ok (.iinc 7 1, 3) := dk_132 7 1 (dk_at dksJ4_resize_14 18 rfl rfl)
theorem dJ4_resize_350 : decode cJ4_resize 350 = .ok (.goto (-199), 3) := dk_167 255 57 (dk_at dksJ4_resize_14 21 rfl rfl)
theorem dJ4_resize_353 : decode cJ4_resize 353 = .ok (.aload 6, 2) := dk_25 6 (dk_at dksJ4_resize_15 0 rfl rfl)
theorem dJ4_resize_355 : decode cJ4_resize 355 = .ok (.areturn, 1) := dk_176 (dk_at dksJ4_resize_15 2 rfl rfl)
abbrev cJ4_replacementNode : ByteArray := prog_64_method_47_code
def yJ4_replacementNode : MethodName := ⟨RJ4, "replacementNode", "(Ljava/util/HashMap$Node;Ljava/util/HashMap$Node;)Ljava/util/HashMap$Node;"⟩
def dkwJ4_replacementNode_0 : List UInt8 := [187, 0, 163, 89, 43, 180, 0, 168, 43, 180, 0, 170, 43, 180, 0, 162, 44, 183, 1, 119, 176]
abbrev dktJ4_replacementNode_0 : List UInt8 := dkwJ4_replacementNode_0 ++ []
theorem dksJ4_replacementNode_0 : cJ4_replacementNode.data.toList.drop 0 = dktJ4_replacementNode_0 := by decide +kernel
theorem dJ4_replacementNode_0 : decode cJ4_replacementNode 0 = .ok (.new 163, 3) := dk_187 0 163 (dk_at dksJ4_replacementNode_0 0 rfl rfl)
theorem dJ4_replacementNode_3 : decode cJ4_replacementNode 3 = .ok (.dup, 1) := dk_89 (dk_at dksJ4_replacementNode_0 3 rfl rfl)
theorem dJ4_replacementNode_4 : decode cJ4_replacementNode 4 = .ok (.aload_n 1, 1) := dk_43 (dk_at dksJ4_replacementNode_0 4 rfl rfl)
theorem dJ4_replacementNode_5 : decode cJ4_replacementNode 5 = .ok (.getfield 168, 3) := dk_180 0 168 (dk_at dksJ4_replacementNode_0 5 rfl rfl)
theorem dJ4_replacementNode_8 : decode cJ4_replacementNode 8 = .ok (.aload_n 1, 1) := dk_43 (dk_at dksJ4_replacementNode_0 8 rfl rfl)
theorem dJ4_replacementNode_9 : decode cJ4_replacementNode 9 = .ok (.getfield 170, 3) := dk_180 0 170 (dk_at dksJ4_replacementNode_0 9 rfl rfl)
theorem dJ4_replacementNode_12 : decode cJ4_replacementNode 12 = .ok (.aload_n 1, 1) := dk_43 (dk_at dksJ4_replacementNode_0 12 rfl rfl)
theorem dJ4_replacementNode_13 : decode cJ4_replacementNode 13 = .ok (.getfield 162, 3) := dk_180 0 162 (dk_at dksJ4_replacementNode_0 13 rfl rfl)
theorem dJ4_replacementNode_16 : decode cJ4_replacementNode 16 = .ok (.aload_n 2, 1) := dk_44 (dk_at dksJ4_replacementNode_0 16 rfl rfl)
theorem dJ4_replacementNode_17 : decode cJ4_replacementNode 17 = .ok (.invokespecial 375, 3) := dk_183 1 119 (dk_at dksJ4_replacementNode_0 17 rfl rfl)
theorem dJ4_replacementNode_20 : decode cJ4_replacementNode 20 = .ok (.areturn, 1) := dk_176 (dk_at dksJ4_replacementNode_0 20 rfl rfl)
abbrev cJ4_comparableClassFor : ByteArray := prog_64_method_2_code
def yJ4_comparableClassFor : MethodName := ⟨RJ4, "comparableClassFor", "(Ljava/lang/Object;)Ljava/lang/Class;"⟩
def dkwJ4_comparableClassFor_4 : List UInt8 := [4, 160, 0, 12, 45, 3, 50, 43, 166, 0, 5, 43, 176, 132, 7, 1, 167, 255, 186, 1, 176]
abbrev dktJ4_comparableClassFor_4 : List UInt8 := dkwJ4_comparableClassFor_4 ++ []
def dkwJ4_comparableClassFor_3 : List UInt8 := [185, 0, 23, 1, 0, 18, 7, 166, 0, 30, 25, 4, 185, 0, 27, 1, 0, 89, 78, 198, 0, 18, 45, 190]
abbrev dktJ4_comparableClassFor_3 : List UInt8 := dkwJ4_comparableClassFor_3 ++ dktJ4_comparableClassFor_4
def dkwJ4_comparableClassFor_2 : List UInt8 := [25, 5, 21, 7, 50, 58, 8, 25, 8, 193, 0, 21, 153, 0, 48, 25, 8, 192, 0, 21, 89, 58, 4]
abbrev dktJ4_comparableClassFor_2 : List UInt8 := dkwJ4_comparableClassFor_2 ++ dktJ4_comparableClassFor_3
def dkwJ4_comparableClassFor_1 : List UInt8 := [89, 77, 198, 0, 87, 44, 58, 5, 25, 5, 190, 54, 6, 3, 54, 7, 21, 7, 21, 6, 162, 0, 69]
abbrev dktJ4_comparableClassFor_1 : List UInt8 := dkwJ4_comparableClassFor_1 ++ dktJ4_comparableClassFor_2
def dkwJ4_comparableClassFor_0 : List UInt8 := [42, 193, 0, 7, 153, 0, 109, 42, 182, 0, 9, 89, 76, 18, 13, 166, 0, 5, 43, 176, 43, 182, 0, 15]
abbrev dktJ4_comparableClassFor_0 : List UInt8 := dkwJ4_comparableClassFor_0 ++ dktJ4_comparableClassFor_1
theorem dksJ4_comparableClassFor_0 : cJ4_comparableClassFor.data.toList.drop 0 = dktJ4_comparableClassFor_0 := by decide +kernel
theorem dksJ4_comparableClassFor_1 : cJ4_comparableClassFor.data.toList.drop 24 = dktJ4_comparableClassFor_1 := dk_seg dksJ4_comparableClassFor_0 24 rfl rfl
theorem dksJ4_comparableClassFor_2 : cJ4_comparableClassFor.data.toList.drop 47 = dktJ4_comparableClassFor_2 := dk_seg dksJ4_comparableClassFor_1 23 rfl rfl
theorem dksJ4_comparableClassFor_3 : cJ4_comparableClassFor.data.toList.drop 70 = dktJ4_comparableClassFor_3 := dk_seg dksJ4_comparableClassFor_2 23 rfl rfl
theorem dksJ4_comparableClassFor_4 : cJ4_comparableClassFor.data.toList.drop 94 = dktJ4_comparableClassFor_4 := dk_seg dksJ4_comparableClassFor_3 24 rfl rfl
theorem dJ4_comparableClassFor_0 : decode cJ4_comparableClassFor 0 = .ok (.aload_n 0, 1) := dk_42 (dk_at dksJ4_comparableClassFor_0 0 rfl rfl)
theorem dJ4_comparableClassFor_1 : decode cJ4_comparableClassFor 1 = .ok (.instanceof 7, 3) := dk_193 0 7 (dk_at dksJ4_comparableClassFor_0 1 rfl rfl)
theorem dJ4_comparableClassFor_4 : decode cJ4_comparableClassFor 4 = .ok (.ifCond .eq 109, 3) := dk_153 0 109 (dk_at dksJ4_comparableClassFor_0 4 rfl rfl)
theorem dJ4_comparableClassFor_7 : decode cJ4_comparableClassFor 7 = .ok (.aload_n 0, 1) := dk_42 (dk_at dksJ4_comparableClassFor_0 7 rfl rfl)
theorem dJ4_comparableClassFor_8 : decode cJ4_comparableClassFor 8 = .ok (.invokevirtual 9, 3) := dk_182 0 9 (dk_at dksJ4_comparableClassFor_0 8 rfl rfl)
theorem dJ4_comparableClassFor_11 : decode cJ4_comparableClassFor 11 = .ok (.dup, 1) := dk_89 (dk_at dksJ4_comparableClassFor_0 11 rfl rfl)
theorem dJ4_comparableClassFor_12 : decode cJ4_comparableClassFor 12 = .ok (.astore_n 1, 1) := dk_76 (dk_at dksJ4_comparableClassFor_0 12 rfl rfl)
theorem dJ4_comparableClassFor_13 : decode cJ4_comparableClassFor 13 = .ok (.ldc 13, 2) := dk_18 13 (dk_at dksJ4_comparableClassFor_0 13 rfl rfl)
theorem dJ4_comparableClassFor_15 : decode cJ4_comparableClassFor 15 = .ok (.if_acmp .ne 5, 3) := dk_166 0 5 (dk_at dksJ4_comparableClassFor_0 15 rfl rfl)
theorem dJ4_comparableClassFor_18 : decode cJ4_comparableClassFor 18 = .ok (.aload_n 1, 1) := dk_43 (dk_at dksJ4_comparableClassFor_0 18 rfl rfl)
theorem dJ4_comparableClassFor_19 : decode cJ4_comparableClassFor 19 = .ok (.areturn, 1) := dk_176 (dk_at dksJ4_comparableClassFor_0 19 rfl rfl)
theorem dJ4_comparableClassFor_20 : decode cJ4_comparableClassFor 20 = .ok (.aload_n 1, 1) := dk_43 (dk_at dksJ4_comparableClassFor_0 20 rfl rfl)
theorem dJ4_comparableClassFor_21 : decode cJ4_comparableClassFor 21 = .ok (.invokevirtual 15, 3) := dk_182 0 15 (dk_at dksJ4_comparableClassFor_0 21 rfl rfl)
theorem dJ4_comparableClassFor_24 : decode cJ4_comparableClassFor 24 = .ok (.dup, 1) := dk_89 (dk_at dksJ4_comparableClassFor_1 0 rfl rfl)
theorem dJ4_comparableClassFor_25 : decode cJ4_comparableClassFor 25 = .ok (.astore_n 2, 1) := dk_77 (dk_at dksJ4_comparableClassFor_1 1 rfl rfl)
theorem dJ4_comparableClassFor_26 : decode cJ4_comparableClassFor 26 = .ok (.ifnull 87, 3) := dk_198 0 87 (dk_at dksJ4_comparableClassFor_1 2 rfl rfl)
theorem dJ4_comparableClassFor_29 : decode cJ4_comparableClassFor 29 = .ok (.aload_n 2, 1) := dk_44 (dk_at dksJ4_comparableClassFor_1 5 rfl rfl)
theorem dJ4_comparableClassFor_30 : decode cJ4_comparableClassFor 30 = .ok (.astore 5, 2) := dk_58 5 (dk_at dksJ4_comparableClassFor_1 6 rfl rfl)
theorem dJ4_comparableClassFor_32 : decode cJ4_comparableClassFor 32 = .ok (.aload 5, 2) := dk_25 5 (dk_at dksJ4_comparableClassFor_1 8 rfl rfl)
theorem dJ4_comparableClassFor_34 : decode cJ4_comparableClassFor 34 = .ok (.arraylength, 1) := dk_190 (dk_at dksJ4_comparableClassFor_1 10 rfl rfl)
theorem dJ4_comparableClassFor_35 : decode cJ4_comparableClassFor 35 = .ok (.istore 6, 2) := dk_54 6 (dk_at dksJ4_comparableClassFor_1 11 rfl rfl)
theorem dJ4_comparableClassFor_37 : decode cJ4_comparableClassFor 37 = .ok (.iconst 0, 1) := dk_3 (dk_at dksJ4_comparableClassFor_1 13 rfl rfl)
theorem dJ4_comparableClassFor_38 : decode cJ4_comparableClassFor 38 = .ok (.istore 7, 2) := dk_54 7 (dk_at dksJ4_comparableClassFor_1 14 rfl rfl)
theorem dJ4_comparableClassFor_40 : decode cJ4_comparableClassFor 40 = .ok (.iload 7, 2) := dk_21 7 (dk_at dksJ4_comparableClassFor_1 16 rfl rfl)
theorem dJ4_comparableClassFor_42 : decode cJ4_comparableClassFor 42 = .ok (.iload 6, 2) := dk_21 6 (dk_at dksJ4_comparableClassFor_1 18 rfl rfl)
theorem dJ4_comparableClassFor_44 : decode cJ4_comparableClassFor 44 = .ok (.if_icmp .ge 69, 3) := dk_162 0 69 (dk_at dksJ4_comparableClassFor_1 20 rfl rfl)
theorem dJ4_comparableClassFor_47 : decode cJ4_comparableClassFor 47 = .ok (.aload 5, 2) := dk_25 5 (dk_at dksJ4_comparableClassFor_2 0 rfl rfl)
theorem dJ4_comparableClassFor_49 : decode cJ4_comparableClassFor 49 = .ok (.iload 7, 2) := dk_21 7 (dk_at dksJ4_comparableClassFor_2 2 rfl rfl)
theorem dJ4_comparableClassFor_51 : decode cJ4_comparableClassFor 51 = .ok (.aaload, 1) := dk_50 (dk_at dksJ4_comparableClassFor_2 4 rfl rfl)
theorem dJ4_comparableClassFor_52 : decode cJ4_comparableClassFor 52 = .ok (.astore 8, 2) := dk_58 8 (dk_at dksJ4_comparableClassFor_2 5 rfl rfl)
theorem dJ4_comparableClassFor_54 : decode cJ4_comparableClassFor 54 = .ok (.aload 8, 2) := dk_25 8 (dk_at dksJ4_comparableClassFor_2 7 rfl rfl)
theorem dJ4_comparableClassFor_56 : decode cJ4_comparableClassFor 56 = .ok (.instanceof 21, 3) := dk_193 0 21 (dk_at dksJ4_comparableClassFor_2 9 rfl rfl)
theorem dJ4_comparableClassFor_59 : decode cJ4_comparableClassFor 59 = .ok (.ifCond .eq 48, 3) := dk_153 0 48 (dk_at dksJ4_comparableClassFor_2 12 rfl rfl)
theorem dJ4_comparableClassFor_62 : decode cJ4_comparableClassFor 62 = .ok (.aload 8, 2) := dk_25 8 (dk_at dksJ4_comparableClassFor_2 15 rfl rfl)
theorem dJ4_comparableClassFor_64 : decode cJ4_comparableClassFor 64 = .ok (.checkcast 21, 3) := dk_192 0 21 (dk_at dksJ4_comparableClassFor_2 17 rfl rfl)
theorem dJ4_comparableClassFor_67 : decode cJ4_comparableClassFor 67 = .ok (.dup, 1) := dk_89 (dk_at dksJ4_comparableClassFor_2 20 rfl rfl)
theorem dJ4_comparableClassFor_68 : decode cJ4_comparableClassFor 68 = .ok (.astore 4, 2) := dk_58 4 (dk_at dksJ4_comparableClassFor_2 21 rfl rfl)
theorem dJ4_comparableClassFor_70 : decode cJ4_comparableClassFor 70 = .ok (.invokeinterface 23 1, 5) := by decide +kernel
theorem dJ4_comparableClassFor_75 : decode cJ4_comparableClassFor 75 = .ok (.ldc 7, 2) := dk_18 7 (dk_at dksJ4_comparableClassFor_3 5 rfl rfl)
theorem dJ4_comparableClassFor_77 : decode cJ4_comparableClassFor 77 = .ok (.if_acmp .ne 30, 3) := dk_166 0 30 (dk_at dksJ4_comparableClassFor_3 7 rfl rfl)
theorem dJ4_comparableClassFor_80 : decode cJ4_comparableClassFor 80 = .ok (.aload 4, 2) := dk_25 4 (dk_at dksJ4_comparableClassFor_3 10 rfl rfl)
theorem dJ4_comparableClassFor_82 : decode cJ4_comparableClassFor 82 = .ok (.invokeinterface 27 1, 5) := by decide +kernel
theorem dJ4_comparableClassFor_87 : decode cJ4_comparableClassFor 87 = .ok (.dup, 1) := dk_89 (dk_at dksJ4_comparableClassFor_3 17 rfl rfl)
theorem dJ4_comparableClassFor_88 : decode cJ4_comparableClassFor 88 = .ok (.astore_n 3, 1) := dk_78 (dk_at dksJ4_comparableClassFor_3 18 rfl rfl)
theorem dJ4_comparableClassFor_89 : decode cJ4_comparableClassFor 89 = .ok (.ifnull 18, 3) := dk_198 0 18 (dk_at dksJ4_comparableClassFor_3 19 rfl rfl)
theorem dJ4_comparableClassFor_92 : decode cJ4_comparableClassFor 92 = .ok (.aload_n 3, 1) := dk_45 (dk_at dksJ4_comparableClassFor_3 22 rfl rfl)
theorem dJ4_comparableClassFor_93 : decode cJ4_comparableClassFor 93 = .ok (.arraylength, 1) := dk_190 (dk_at dksJ4_comparableClassFor_3 23 rfl rfl)
theorem dJ4_comparableClassFor_94 : decode cJ4_comparableClassFor 94 = .ok (.iconst 1, 1) := dk_4 (dk_at dksJ4_comparableClassFor_4 0 rfl rfl)
theorem dJ4_comparableClassFor_95 : decode cJ4_comparableClassFor 95 = .ok (.if_icmp .ne 12, 3) := dk_160 0 12 (dk_at dksJ4_comparableClassFor_4 1 rfl rfl)
theorem dJ4_comparableClassFor_98 : decode cJ4_comparableClassFor 98 = .ok (.aload_n 3, 1) := dk_45 (dk_at dksJ4_comparableClassFor_4 4 rfl rfl)
theorem dJ4_comparableClassFor_99 : decode cJ4_comparableClassFor 99 = .ok (.iconst 0, 1) := dk_3 (dk_at dksJ4_comparableClassFor_4 5 rfl rfl)
theorem dJ4_comparableClassFor_100 : decode cJ4_comparableClassFor 100 = .ok (.aaload, 1) := dk_50 (dk_at dksJ4_comparableClassFor_4 6 rfl rfl)
theorem dJ4_comparableClassFor_101 : decode cJ4_comparableClassFor 101 = .ok (.aload_n 1, 1) := dk_43 (dk_at dksJ4_comparableClassFor_4 7 rfl rfl)
theorem dJ4_comparableClassFor_102 : decode cJ4_comparableClassFor 102 = .ok (.if_acmp .ne 5, 3) := dk_166 0 5 (dk_at dksJ4_comparableClassFor_4 8 rfl rfl)
theorem dJ4_comparableClassFor_105 : decode cJ4_comparableClassFor 105 = .ok (.aload_n 1, 1) := dk_43 (dk_at dksJ4_comparableClassFor_4 11 rfl rfl)
theorem dJ4_comparableClassFor_106 : decode cJ4_comparableClassFor 106 = .ok (.areturn, 1) := dk_176 (dk_at dksJ4_comparableClassFor_4 12 rfl rfl)
theorem dJ4_comparableClassFor_107 : decode cJ4_comparableClassFor 107 = .ok (.iinc 7 1, 3) := dk_132 7 1 (dk_at dksJ4_comparableClassFor_4 13 rfl rfl)
theorem dJ4_comparableClassFor_110 : decode cJ4_comparableClassFor 110 = .ok (.goto (-70), 3) := dk_167 255 186 (dk_at dksJ4_comparableClassFor_4 16 rfl rfl)
theorem dJ4_comparableClassFor_113 : decode cJ4_comparableClassFor 113 = .ok (.aconst_null, 1) := dk_1 (dk_at dksJ4_comparableClassFor_4 19 rfl rfl)
theorem dJ4_comparableClassFor_114 : decode cJ4_comparableClassFor 114 = .ok (.areturn, 1) := dk_176 (dk_at dksJ4_comparableClassFor_4 20 rfl rfl)
abbrev cJ4_compareComparables : ByteArray := prog_64_method_3_code
def yJ4_compareComparables : MethodName := ⟨RJ4, "compareComparables", "(Ljava/lang/Class;Ljava/lang/Object;Ljava/lang/Object;)I"⟩
def dkwJ4_compareComparables_1 : List UInt8 := [185, 0, 30, 2, 0, 172]
abbrev dktJ4_compareComparables_1 : List UInt8 := dkwJ4_compareComparables_1 ++ []
def dkwJ4_compareComparables_0 : List UInt8 := [44, 198, 0, 11, 44, 182, 0, 9, 42, 165, 0, 7, 3, 167, 0, 13, 43, 192, 0, 7, 44]
abbrev dktJ4_compareComparables_0 : List UInt8 := dkwJ4_compareComparables_0 ++ dktJ4_compareComparables_1
theorem dksJ4_compareComparables_0 : cJ4_compareComparables.data.toList.drop 0 = dktJ4_compareComparables_0 := by decide +kernel
theorem dksJ4_compareComparables_1 : cJ4_compareComparables.data.toList.drop 21 = dktJ4_compareComparables_1 := dk_seg dksJ4_compareComparables_0 21 rfl rfl
theorem dJ4_compareComparables_0 : decode cJ4_compareComparables 0 = .ok (.aload_n 2, 1) := dk_44 (dk_at dksJ4_compareComparables_0 0 rfl rfl)
theorem dJ4_compareComparables_1 : decode cJ4_compareComparables 1 = .ok (.ifnull 11, 3) := dk_198 0 11 (dk_at dksJ4_compareComparables_0 1 rfl rfl)
theorem dJ4_compareComparables_4 : decode cJ4_compareComparables 4 = .ok (.aload_n 2, 1) := dk_44 (dk_at dksJ4_compareComparables_0 4 rfl rfl)
theorem dJ4_compareComparables_5 : decode cJ4_compareComparables 5 = .ok (.invokevirtual 9, 3) := dk_182 0 9 (dk_at dksJ4_compareComparables_0 5 rfl rfl)
theorem dJ4_compareComparables_8 : decode cJ4_compareComparables 8 = .ok (.aload_n 0, 1) := dk_42 (dk_at dksJ4_compareComparables_0 8 rfl rfl)
theorem dJ4_compareComparables_9 : decode cJ4_compareComparables 9 = .ok (.if_acmp .eq 7, 3) := dk_165 0 7 (dk_at dksJ4_compareComparables_0 9 rfl rfl)
theorem dJ4_compareComparables_12 : decode cJ4_compareComparables 12 = .ok (.iconst 0, 1) := dk_3 (dk_at dksJ4_compareComparables_0 12 rfl rfl)
theorem dJ4_compareComparables_13 : decode cJ4_compareComparables 13 = .ok (.goto 13, 3) := dk_167 0 13 (dk_at dksJ4_compareComparables_0 13 rfl rfl)
theorem dJ4_compareComparables_16 : decode cJ4_compareComparables 16 = .ok (.aload_n 1, 1) := dk_43 (dk_at dksJ4_compareComparables_0 16 rfl rfl)
theorem dJ4_compareComparables_17 : decode cJ4_compareComparables 17 = .ok (.checkcast 7, 3) := dk_192 0 7 (dk_at dksJ4_compareComparables_0 17 rfl rfl)
theorem dJ4_compareComparables_20 : decode cJ4_compareComparables 20 = .ok (.aload_n 2, 1) := dk_44 (dk_at dksJ4_compareComparables_0 20 rfl rfl)
theorem dJ4_compareComparables_21 : decode cJ4_compareComparables 21 = .ok (.invokeinterface 30 2, 5) := by decide +kernel
theorem dJ4_compareComparables_26 : decode cJ4_compareComparables 26 = .ok (.ireturn, 1) := dk_172 (dk_at dksJ4_compareComparables_1 5 rfl rfl)
abbrev cJ4_newNode : ByteArray := prog_64_method_46_code
def yJ4_newNode : MethodName := ⟨RJ4, "newNode", "(ILjava/lang/Object;Ljava/lang/Object;Ljava/util/HashMap$Node;)Ljava/util/HashMap$Node;"⟩
def dkwJ4_newNode_0 : List UInt8 := [187, 0, 163, 89, 27, 44, 45, 25, 4, 183, 1, 119, 176]
abbrev dktJ4_newNode_0 : List UInt8 := dkwJ4_newNode_0 ++ []
theorem dksJ4_newNode_0 : cJ4_newNode.data.toList.drop 0 = dktJ4_newNode_0 := by decide +kernel
theorem dJ4_newNode_0 : decode cJ4_newNode 0 = .ok (.new 163, 3) := dk_187 0 163 (dk_at dksJ4_newNode_0 0 rfl rfl)
theorem dJ4_newNode_3 : decode cJ4_newNode 3 = .ok (.dup, 1) := dk_89 (dk_at dksJ4_newNode_0 3 rfl rfl)
theorem dJ4_newNode_4 : decode cJ4_newNode 4 = .ok (.iload_n 1, 1) := dk_27 (dk_at dksJ4_newNode_0 4 rfl rfl)
theorem dJ4_newNode_5 : decode cJ4_newNode 5 = .ok (.aload_n 2, 1) := dk_44 (dk_at dksJ4_newNode_0 5 rfl rfl)
theorem dJ4_newNode_6 : decode cJ4_newNode 6 = .ok (.aload_n 3, 1) := dk_45 (dk_at dksJ4_newNode_0 6 rfl rfl)
theorem dJ4_newNode_7 : decode cJ4_newNode 7 = .ok (.aload 4, 2) := dk_25 4 (dk_at dksJ4_newNode_0 7 rfl rfl)
theorem dJ4_newNode_9 : decode cJ4_newNode 9 = .ok (.invokespecial 375, 3) := dk_183 1 119 (dk_at dksJ4_newNode_0 9 rfl rfl)
theorem dJ4_newNode_12 : decode cJ4_newNode 12 = .ok (.areturn, 1) := dk_176 (dk_at dksJ4_newNode_0 12 rfl rfl)
abbrev cJ4_newTreeNode : ByteArray := prog_64_method_48_code
def yJ4_newTreeNode : MethodName := ⟨RJ4, "newTreeNode", "(ILjava/lang/Object;Ljava/lang/Object;Ljava/util/HashMap$Node;)Ljava/util/HashMap$TreeNode;"⟩
def dkwJ4_newTreeNode_0 : List UInt8 := [187, 0, 180, 89, 27, 44, 45, 25, 4, 183, 1, 122, 176]
abbrev dktJ4_newTreeNode_0 : List UInt8 := dkwJ4_newTreeNode_0 ++ []
theorem dksJ4_newTreeNode_0 : cJ4_newTreeNode.data.toList.drop 0 = dktJ4_newTreeNode_0 := by decide +kernel
theorem dJ4_newTreeNode_0 : decode cJ4_newTreeNode 0 = .ok (.new 180, 3) := dk_187 0 180 (dk_at dksJ4_newTreeNode_0 0 rfl rfl)
theorem dJ4_newTreeNode_3 : decode cJ4_newTreeNode 3 = .ok (.dup, 1) := dk_89 (dk_at dksJ4_newTreeNode_0 3 rfl rfl)
theorem dJ4_newTreeNode_4 : decode cJ4_newTreeNode 4 = .ok (.iload_n 1, 1) := dk_27 (dk_at dksJ4_newTreeNode_0 4 rfl rfl)
theorem dJ4_newTreeNode_5 : decode cJ4_newTreeNode 5 = .ok (.aload_n 2, 1) := dk_44 (dk_at dksJ4_newTreeNode_0 5 rfl rfl)
theorem dJ4_newTreeNode_6 : decode cJ4_newTreeNode 6 = .ok (.aload_n 3, 1) := dk_45 (dk_at dksJ4_newTreeNode_0 6 rfl rfl)
theorem dJ4_newTreeNode_7 : decode cJ4_newTreeNode 7 = .ok (.aload 4, 2) := dk_25 4 (dk_at dksJ4_newTreeNode_0 7 rfl rfl)
theorem dJ4_newTreeNode_9 : decode cJ4_newTreeNode 9 = .ok (.invokespecial 378, 3) := dk_183 1 122 (dk_at dksJ4_newTreeNode_0 9 rfl rfl)
theorem dJ4_newTreeNode_12 : decode cJ4_newTreeNode 12 = .ok (.areturn, 1) := dk_176 (dk_at dksJ4_newTreeNode_0 12 rfl rfl)
abbrev cJ4_treeifyBin : ByteArray := prog_64_method_18_code
def yJ4_treeifyBin : MethodName := ⟨RJ4, "treeifyBin", "([Ljava/util/HashMap$Node;I)V"⟩
def dkwJ4_treeifyBin_4 : List UInt8 := [21, 4, 25, 6, 91, 83, 198, 0, 9, 25, 6, 43, 182, 0, 224, 177]
abbrev dktJ4_treeifyBin_4 : List UInt8 := dkwJ4_treeifyBin_4 ++ []
def dkwJ4_treeifyBin_3 : List UInt8 := [25, 7, 25, 8, 181, 0, 223, 25, 8, 58, 7, 25, 5, 180, 0, 177, 89, 58, 5, 199, 255, 209, 43]
abbrev dktJ4_treeifyBin_3 : List UInt8 := dkwJ4_treeifyBin_3 ++ dktJ4_treeifyBin_4
def dkwJ4_treeifyBin_2 : List UInt8 := [182, 0, 215, 58, 8, 25, 7, 199, 0, 10, 25, 8, 58, 6, 167, 0, 17, 25, 8, 25, 7, 181, 0, 219]
abbrev dktJ4_treeifyBin_2 : List UInt8 := dkwJ4_treeifyBin_2 ++ dktJ4_treeifyBin_3
def dkwJ4_treeifyBin_1 : List UInt8 := [100, 28, 126, 89, 54, 4, 50, 89, 58, 5, 198, 0, 75, 1, 58, 6, 1, 58, 7, 42, 25, 5, 1]
abbrev dktJ4_treeifyBin_1 : List UInt8 := dkwJ4_treeifyBin_1 ++ dktJ4_treeifyBin_2
def dkwJ4_treeifyBin_0 : List UInt8 := [43, 198, 0, 12, 43, 190, 89, 62, 16, 64, 162, 0, 11, 42, 182, 0, 117, 87, 167, 0, 91, 43, 29, 4]
abbrev dktJ4_treeifyBin_0 : List UInt8 := dkwJ4_treeifyBin_0 ++ dktJ4_treeifyBin_1
theorem dksJ4_treeifyBin_0 : cJ4_treeifyBin.data.toList.drop 0 = dktJ4_treeifyBin_0 := by decide +kernel
theorem dksJ4_treeifyBin_1 : cJ4_treeifyBin.data.toList.drop 24 = dktJ4_treeifyBin_1 := dk_seg dksJ4_treeifyBin_0 24 rfl rfl
theorem dksJ4_treeifyBin_2 : cJ4_treeifyBin.data.toList.drop 47 = dktJ4_treeifyBin_2 := dk_seg dksJ4_treeifyBin_1 23 rfl rfl
theorem dksJ4_treeifyBin_3 : cJ4_treeifyBin.data.toList.drop 71 = dktJ4_treeifyBin_3 := dk_seg dksJ4_treeifyBin_2 24 rfl rfl
theorem dksJ4_treeifyBin_4 : cJ4_treeifyBin.data.toList.drop 94 = dktJ4_treeifyBin_4 := dk_seg dksJ4_treeifyBin_3 23 rfl rfl
theorem dJ4_treeifyBin_0 : decode cJ4_treeifyBin 0 = .ok (.aload_n 1, 1) := dk_43 (dk_at dksJ4_treeifyBin_0 0 rfl rfl)
theorem dJ4_treeifyBin_1 : decode cJ4_treeifyBin 1 = .ok (.ifnull 12, 3) := dk_198 0 12 (dk_at dksJ4_treeifyBin_0 1 rfl rfl)
theorem dJ4_treeifyBin_4 : decode cJ4_treeifyBin 4 = .ok (.aload_n 1, 1) := dk_43 (dk_at dksJ4_treeifyBin_0 4 rfl rfl)
theorem dJ4_treeifyBin_5 : decode cJ4_treeifyBin 5 = .ok (.arraylength, 1) := dk_190 (dk_at dksJ4_treeifyBin_0 5 rfl rfl)
theorem dJ4_treeifyBin_6 : decode cJ4_treeifyBin 6 = .ok (.dup, 1) := dk_89 (dk_at dksJ4_treeifyBin_0 6 rfl rfl)
theorem dJ4_treeifyBin_7 : decode cJ4_treeifyBin 7 = .ok (.istore_n 3, 1) := dk_62 (dk_at dksJ4_treeifyBin_0 7 rfl rfl)
theorem dJ4_treeifyBin_8 : decode cJ4_treeifyBin 8 = .ok (.bipush 64, 2) := dk_16 64 (dk_at dksJ4_treeifyBin_0 8 rfl rfl)
theorem dJ4_treeifyBin_10 : decode cJ4_treeifyBin 10 = .ok (.if_icmp .ge 11, 3) := dk_162 0 11 (dk_at dksJ4_treeifyBin_0 10 rfl rfl)
theorem dJ4_treeifyBin_13 : decode cJ4_treeifyBin 13 = .ok (.aload_n 0, 1) := dk_42 (dk_at dksJ4_treeifyBin_0 13 rfl rfl)
theorem dJ4_treeifyBin_14 : decode cJ4_treeifyBin 14 = .ok (.invokevirtual 117, 3) := dk_182 0 117 (dk_at dksJ4_treeifyBin_0 14 rfl rfl)
theorem dJ4_treeifyBin_17 : decode cJ4_treeifyBin 17 = .ok (.pop, 1) := dk_87 (dk_at dksJ4_treeifyBin_0 17 rfl rfl)
theorem dJ4_treeifyBin_18 : decode cJ4_treeifyBin 18 = .ok (.goto 91, 3) := dk_167 0 91 (dk_at dksJ4_treeifyBin_0 18 rfl rfl)
theorem dJ4_treeifyBin_21 : decode cJ4_treeifyBin 21 = .ok (.aload_n 1, 1) := dk_43 (dk_at dksJ4_treeifyBin_0 21 rfl rfl)
theorem dJ4_treeifyBin_22 : decode cJ4_treeifyBin 22 = .ok (.iload_n 3, 1) := dk_29 (dk_at dksJ4_treeifyBin_0 22 rfl rfl)
theorem dJ4_treeifyBin_23 : decode cJ4_treeifyBin 23 = .ok (.iconst 1, 1) := dk_4 (dk_at dksJ4_treeifyBin_0 23 rfl rfl)
theorem dJ4_treeifyBin_24 : decode cJ4_treeifyBin 24 = .ok (.isub, 1) := dk_100 (dk_at dksJ4_treeifyBin_1 0 rfl rfl)
theorem dJ4_treeifyBin_25 : decode cJ4_treeifyBin 25 = .ok (.iload_n 2, 1) := dk_28 (dk_at dksJ4_treeifyBin_1 1 rfl rfl)
theorem dJ4_treeifyBin_26 : decode cJ4_treeifyBin 26 = .ok (.iand, 1) := dk_126 (dk_at dksJ4_treeifyBin_1 2 rfl rfl)
theorem dJ4_treeifyBin_27 : decode cJ4_treeifyBin 27 = .ok (.dup, 1) := dk_89 (dk_at dksJ4_treeifyBin_1 3 rfl rfl)
theorem dJ4_treeifyBin_28 : decode cJ4_treeifyBin 28 = .ok (.istore 4, 2) := dk_54 4 (dk_at dksJ4_treeifyBin_1 4 rfl rfl)
theorem dJ4_treeifyBin_30 : decode cJ4_treeifyBin 30 = .ok (.aaload, 1) := dk_50 (dk_at dksJ4_treeifyBin_1 6 rfl rfl)
theorem dJ4_treeifyBin_31 : decode cJ4_treeifyBin 31 = .ok (.dup, 1) := dk_89 (dk_at dksJ4_treeifyBin_1 7 rfl rfl)
theorem dJ4_treeifyBin_32 : decode cJ4_treeifyBin 32 = .ok (.astore 5, 2) := dk_58 5 (dk_at dksJ4_treeifyBin_1 8 rfl rfl)
theorem dJ4_treeifyBin_34 : decode cJ4_treeifyBin 34 = .ok (.ifnull 75, 3) := dk_198 0 75 (dk_at dksJ4_treeifyBin_1 10 rfl rfl)
theorem dJ4_treeifyBin_37 : decode cJ4_treeifyBin 37 = .ok (.aconst_null, 1) := dk_1 (dk_at dksJ4_treeifyBin_1 13 rfl rfl)
theorem dJ4_treeifyBin_38 : decode cJ4_treeifyBin 38 = .ok (.astore 6, 2) := dk_58 6 (dk_at dksJ4_treeifyBin_1 14 rfl rfl)
theorem dJ4_treeifyBin_40 : decode cJ4_treeifyBin 40 = .ok (.aconst_null, 1) := dk_1 (dk_at dksJ4_treeifyBin_1 16 rfl rfl)
theorem dJ4_treeifyBin_41 : decode cJ4_treeifyBin 41 = .ok (.astore 7, 2) := dk_58 7 (dk_at dksJ4_treeifyBin_1 17 rfl rfl)
theorem dJ4_treeifyBin_43 : decode cJ4_treeifyBin 43 = .ok (.aload_n 0, 1) := dk_42 (dk_at dksJ4_treeifyBin_1 19 rfl rfl)
theorem dJ4_treeifyBin_44 : decode cJ4_treeifyBin 44 = .ok (.aload 5, 2) := dk_25 5 (dk_at dksJ4_treeifyBin_1 20 rfl rfl)
theorem dJ4_treeifyBin_46 : decode cJ4_treeifyBin 46 = .ok (.aconst_null, 1) := dk_1 (dk_at dksJ4_treeifyBin_1 22 rfl rfl)
theorem dJ4_treeifyBin_47 : decode cJ4_treeifyBin 47 = .ok (.invokevirtual 215, 3) := dk_182 0 215 (dk_at dksJ4_treeifyBin_2 0 rfl rfl)
theorem dJ4_treeifyBin_50 : decode cJ4_treeifyBin 50 = .ok (.astore 8, 2) := dk_58 8 (dk_at dksJ4_treeifyBin_2 3 rfl rfl)
theorem dJ4_treeifyBin_52 : decode cJ4_treeifyBin 52 = .ok (.aload 7, 2) := dk_25 7 (dk_at dksJ4_treeifyBin_2 5 rfl rfl)
theorem dJ4_treeifyBin_54 : decode cJ4_treeifyBin 54 = .ok (.ifnonnull 10, 3) := dk_199 0 10 (dk_at dksJ4_treeifyBin_2 7 rfl rfl)
theorem dJ4_treeifyBin_57 : decode cJ4_treeifyBin 57 = .ok (.aload 8, 2) := dk_25 8 (dk_at dksJ4_treeifyBin_2 10 rfl rfl)
theorem dJ4_treeifyBin_59 : decode cJ4_treeifyBin 59 = .ok (.astore 6, 2) := dk_58 6 (dk_at dksJ4_treeifyBin_2 12 rfl rfl)
theorem dJ4_treeifyBin_61 : decode cJ4_treeifyBin 61 = .ok (.goto 17, 3) := dk_167 0 17 (dk_at dksJ4_treeifyBin_2 14 rfl rfl)
theorem dJ4_treeifyBin_64 : decode cJ4_treeifyBin 64 = .ok (.aload 8, 2) := dk_25 8 (dk_at dksJ4_treeifyBin_2 17 rfl rfl)
theorem dJ4_treeifyBin_66 : decode cJ4_treeifyBin 66 = .ok (.aload 7, 2) := dk_25 7 (dk_at dksJ4_treeifyBin_2 19 rfl rfl)
theorem dJ4_treeifyBin_68 : decode cJ4_treeifyBin 68 = .ok (.putfield 219, 3) := dk_181 0 219 (dk_at dksJ4_treeifyBin_2 21 rfl rfl)
theorem dJ4_treeifyBin_71 : decode cJ4_treeifyBin 71 = .ok (.aload 7, 2) := dk_25 7 (dk_at dksJ4_treeifyBin_3 0 rfl rfl)
theorem dJ4_treeifyBin_73 : decode cJ4_treeifyBin 73 = .ok (.aload 8, 2) := dk_25 8 (dk_at dksJ4_treeifyBin_3 2 rfl rfl)
theorem dJ4_treeifyBin_75 : decode cJ4_treeifyBin 75 = .ok (.putfield 223, 3) := dk_181 0 223 (dk_at dksJ4_treeifyBin_3 4 rfl rfl)
theorem dJ4_treeifyBin_78 : decode cJ4_treeifyBin 78 = .ok (.aload 8, 2) := dk_25 8 (dk_at dksJ4_treeifyBin_3 7 rfl rfl)
theorem dJ4_treeifyBin_80 : decode cJ4_treeifyBin 80 = .ok (.astore 7, 2) := dk_58 7 (dk_at dksJ4_treeifyBin_3 9 rfl rfl)
theorem dJ4_treeifyBin_82 : decode cJ4_treeifyBin 82 = .ok (.aload 5, 2) := dk_25 5 (dk_at dksJ4_treeifyBin_3 11 rfl rfl)
theorem dJ4_treeifyBin_84 : decode cJ4_treeifyBin 84 = .ok (.getfield 177, 3) := dk_180 0 177 (dk_at dksJ4_treeifyBin_3 13 rfl rfl)
theorem dJ4_treeifyBin_87 : decode cJ4_treeifyBin 87 = .ok (.dup, 1) := dk_89 (dk_at dksJ4_treeifyBin_3 16 rfl rfl)
theorem dJ4_treeifyBin_88 : decode cJ4_treeifyBin 88 = .ok (.astore 5, 2) := dk_58 5 (dk_at dksJ4_treeifyBin_3 17 rfl rfl)
theorem dJ4_treeifyBin_90 : decode cJ4_treeifyBin 90 = .ok (.ifnonnull (-47), 3) := dk_199 255 209 (dk_at dksJ4_treeifyBin_3 19 rfl rfl)
theorem dJ4_treeifyBin_93 : decode cJ4_treeifyBin 93 = .ok (.aload_n 1, 1) := dk_43 (dk_at dksJ4_treeifyBin_3 22 rfl rfl)
theorem dJ4_treeifyBin_94 : decode cJ4_treeifyBin 94 = .ok (.iload 4, 2) := dk_21 4 (dk_at dksJ4_treeifyBin_4 0 rfl rfl)
theorem dJ4_treeifyBin_96 : decode cJ4_treeifyBin 96 = .ok (.aload 6, 2) := dk_25 6 (dk_at dksJ4_treeifyBin_4 2 rfl rfl)
theorem dJ4_treeifyBin_98 : decode cJ4_treeifyBin 98 = .ok (.dup_x2, 1) := dk_91 (dk_at dksJ4_treeifyBin_4 4 rfl rfl)
theorem dJ4_treeifyBin_99 : decode cJ4_treeifyBin 99 = .ok (.aastore, 1) := dk_83 (dk_at dksJ4_treeifyBin_4 5 rfl rfl)
theorem dJ4_treeifyBin_100 : decode cJ4_treeifyBin 100 = .ok (.ifnull 9, 3) := dk_198 0 9 (dk_at dksJ4_treeifyBin_4 6 rfl rfl)
theorem dJ4_treeifyBin_103 : decode cJ4_treeifyBin 103 = .ok (.aload 6, 2) := dk_25 6 (dk_at dksJ4_treeifyBin_4 9 rfl rfl)
theorem dJ4_treeifyBin_105 : decode cJ4_treeifyBin 105 = .ok (.aload_n 1, 1) := dk_43 (dk_at dksJ4_treeifyBin_4 11 rfl rfl)
theorem dJ4_treeifyBin_106 : decode cJ4_treeifyBin 106 = .ok (.invokevirtual 224, 3) := dk_182 0 224 (dk_at dksJ4_treeifyBin_4 12 rfl rfl)
theorem dJ4_treeifyBin_109 : decode cJ4_treeifyBin 109 = .ok (.return_, 1) := dk_177 (dk_at dksJ4_treeifyBin_4 15 rfl rfl)
abbrev cJ4_replacementTreeNode : ByteArray := prog_64_method_49_code
def yJ4_replacementTreeNode : MethodName := ⟨RJ4, "replacementTreeNode", "(Ljava/util/HashMap$Node;Ljava/util/HashMap$Node;)Ljava/util/HashMap$TreeNode;"⟩
def dkwJ4_replacementTreeNode_0 : List UInt8 := [187, 0, 180, 89, 43, 180, 0, 168, 43, 180, 0, 170, 43, 180, 0, 162, 44, 183, 1, 122, 176]
abbrev dktJ4_replacementTreeNode_0 : List UInt8 := dkwJ4_replacementTreeNode_0 ++ []
theorem dksJ4_replacementTreeNode_0 : cJ4_replacementTreeNode.data.toList.drop 0 = dktJ4_replacementTreeNode_0 := by decide +kernel
theorem dJ4_replacementTreeNode_0 : decode cJ4_replacementTreeNode 0 = .ok (.new 180, 3) := dk_187 0 180 (dk_at dksJ4_replacementTreeNode_0 0 rfl rfl)
theorem dJ4_replacementTreeNode_3 : decode cJ4_replacementTreeNode 3 = .ok (.dup, 1) := dk_89 (dk_at dksJ4_replacementTreeNode_0 3 rfl rfl)
theorem dJ4_replacementTreeNode_4 : decode cJ4_replacementTreeNode 4 = .ok (.aload_n 1, 1) := dk_43 (dk_at dksJ4_replacementTreeNode_0 4 rfl rfl)
theorem dJ4_replacementTreeNode_5 : decode cJ4_replacementTreeNode 5 = .ok (.getfield 168, 3) := dk_180 0 168 (dk_at dksJ4_replacementTreeNode_0 5 rfl rfl)
theorem dJ4_replacementTreeNode_8 : decode cJ4_replacementTreeNode 8 = .ok (.aload_n 1, 1) := dk_43 (dk_at dksJ4_replacementTreeNode_0 8 rfl rfl)
theorem dJ4_replacementTreeNode_9 : decode cJ4_replacementTreeNode 9 = .ok (.getfield 170, 3) := dk_180 0 170 (dk_at dksJ4_replacementTreeNode_0 9 rfl rfl)
theorem dJ4_replacementTreeNode_12 : decode cJ4_replacementTreeNode 12 = .ok (.aload_n 1, 1) := dk_43 (dk_at dksJ4_replacementTreeNode_0 12 rfl rfl)
theorem dJ4_replacementTreeNode_13 : decode cJ4_replacementTreeNode 13 = .ok (.getfield 162, 3) := dk_180 0 162 (dk_at dksJ4_replacementTreeNode_0 13 rfl rfl)
theorem dJ4_replacementTreeNode_16 : decode cJ4_replacementTreeNode 16 = .ok (.aload_n 2, 1) := dk_44 (dk_at dksJ4_replacementTreeNode_0 16 rfl rfl)
theorem dJ4_replacementTreeNode_17 : decode cJ4_replacementTreeNode 17 = .ok (.invokespecial 378, 3) := dk_183 1 122 (dk_at dksJ4_replacementTreeNode_0 17 rfl rfl)
theorem dJ4_replacementTreeNode_20 : decode cJ4_replacementTreeNode 20 = .ok (.areturn, 1) := dk_176 (dk_at dksJ4_replacementTreeNode_0 20 rfl rfl)
abbrev cJ4_afterNodeAccess : ByteArray := prog_64_method_51_code
def yJ4_afterNodeAccess : MethodName := ⟨RJ4, "afterNodeAccess", "(Ljava/util/HashMap$Node;)V"⟩
theorem dJ4_afterNodeAccess_0 : decode cJ4_afterNodeAccess 0 = .ok (.return_, 1) := by decide +kernel
abbrev cJ4_afterNodeInsertion : ByteArray := prog_64_method_52_code
def yJ4_afterNodeInsertion : MethodName := ⟨RJ4, "afterNodeInsertion", "(Z)V"⟩
theorem dJ4_afterNodeInsertion_0 : decode cJ4_afterNodeInsertion 0 = .ok (.return_, 1) := by decide +kernel
abbrev cJ4_clear : ByteArray := prog_64_method_22_code
def yJ4_clear : MethodName := ⟨RJ4, "clear", "()V"⟩
def dkwJ4_clear_2 : List UInt8 := [167, 255, 243, 177]
abbrev dktJ4_clear_2 : List UInt8 := dkwJ4_clear_2 ++ []
def dkwJ4_clear_1 : List UInt8 := [158, 0, 26, 42, 3, 181, 0, 156, 3, 61, 28, 43, 190, 162, 0, 13, 43, 28, 1, 83, 132, 2, 1]
abbrev dktJ4_clear_1 : List UInt8 := dkwJ4_clear_1 ++ dktJ4_clear_2
def dkwJ4_clear_0 : List UInt8 := [42, 89, 180, 0, 202, 4, 96, 181, 0, 202, 42, 180, 0, 105, 89, 76, 198, 0, 33, 42, 180, 0, 156]
abbrev dktJ4_clear_0 : List UInt8 := dkwJ4_clear_0 ++ dktJ4_clear_1
theorem dksJ4_clear_0 : cJ4_clear.data.toList.drop 0 = dktJ4_clear_0 := by decide +kernel
theorem dksJ4_clear_1 : cJ4_clear.data.toList.drop 23 = dktJ4_clear_1 := dk_seg dksJ4_clear_0 23 rfl rfl
theorem dksJ4_clear_2 : cJ4_clear.data.toList.drop 46 = dktJ4_clear_2 := dk_seg dksJ4_clear_1 23 rfl rfl
theorem dJ4_clear_0 : decode cJ4_clear 0 = .ok (.aload_n 0, 1) := dk_42 (dk_at dksJ4_clear_0 0 rfl rfl)
theorem dJ4_clear_1 : decode cJ4_clear 1 = .ok (.dup, 1) := dk_89 (dk_at dksJ4_clear_0 1 rfl rfl)
theorem dJ4_clear_2 : decode cJ4_clear 2 = .ok (.getfield 202, 3) := dk_180 0 202 (dk_at dksJ4_clear_0 2 rfl rfl)
theorem dJ4_clear_5 : decode cJ4_clear 5 = .ok (.iconst 1, 1) := dk_4 (dk_at dksJ4_clear_0 5 rfl rfl)
theorem dJ4_clear_6 : decode cJ4_clear 6 = .ok (.iadd, 1) := dk_96 (dk_at dksJ4_clear_0 6 rfl rfl)
theorem dJ4_clear_7 : decode cJ4_clear 7 = .ok (.putfield 202, 3) := dk_181 0 202 (dk_at dksJ4_clear_0 7 rfl rfl)
theorem dJ4_clear_10 : decode cJ4_clear 10 = .ok (.aload_n 0, 1) := dk_42 (dk_at dksJ4_clear_0 10 rfl rfl)
theorem dJ4_clear_11 : decode cJ4_clear 11 = .ok (.getfield 105, 3) := dk_180 0 105 (dk_at dksJ4_clear_0 11 rfl rfl)
theorem dJ4_clear_14 : decode cJ4_clear 14 = .ok (.dup, 1) := dk_89 (dk_at dksJ4_clear_0 14 rfl rfl)
theorem dJ4_clear_15 : decode cJ4_clear 15 = .ok (.astore_n 1, 1) := dk_76 (dk_at dksJ4_clear_0 15 rfl rfl)
theorem dJ4_clear_16 : decode cJ4_clear 16 = .ok (.ifnull 33, 3) := dk_198 0 33 (dk_at dksJ4_clear_0 16 rfl rfl)
theorem dJ4_clear_19 : decode cJ4_clear 19 = .ok (.aload_n 0, 1) := dk_42 (dk_at dksJ4_clear_0 19 rfl rfl)
theorem dJ4_clear_20 : decode cJ4_clear 20 = .ok (.getfield 156, 3) := dk_180 0 156 (dk_at dksJ4_clear_0 20 rfl rfl)
theorem dJ4_clear_23 : decode cJ4_clear 23 = .ok (.ifCond .le 26, 3) := dk_158 0 26 (dk_at dksJ4_clear_1 0 rfl rfl)
theorem dJ4_clear_26 : decode cJ4_clear 26 = .ok (.aload_n 0, 1) := dk_42 (dk_at dksJ4_clear_1 3 rfl rfl)
theorem dJ4_clear_27 : decode cJ4_clear 27 = .ok (.iconst 0, 1) := dk_3 (dk_at dksJ4_clear_1 4 rfl rfl)
theorem dJ4_clear_28 : decode cJ4_clear 28 = .ok (.putfield 156, 3) := dk_181 0 156 (dk_at dksJ4_clear_1 5 rfl rfl)
theorem dJ4_clear_31 : decode cJ4_clear 31 = .ok (.iconst 0, 1) := dk_3 (dk_at dksJ4_clear_1 8 rfl rfl)
theorem dJ4_clear_32 : decode cJ4_clear 32 = .ok (.istore_n 2, 1) := dk_61 (dk_at dksJ4_clear_1 9 rfl rfl)
theorem dJ4_clear_33 : decode cJ4_clear 33 = .ok (.iload_n 2, 1) := dk_28 (dk_at dksJ4_clear_1 10 rfl rfl)
theorem dJ4_clear_34 : decode cJ4_clear 34 = .ok (.aload_n 1, 1) := dk_43 (dk_at dksJ4_clear_1 11 rfl rfl)
theorem dJ4_clear_35 : decode cJ4_clear 35 = .ok (.arraylength, 1) := dk_190 (dk_at dksJ4_clear_1 12 rfl rfl)
theorem dJ4_clear_36 : decode cJ4_clear 36 = .ok (.if_icmp .ge 13, 3) := dk_162 0 13 (dk_at dksJ4_clear_1 13 rfl rfl)
theorem dJ4_clear_39 : decode cJ4_clear 39 = .ok (.aload_n 1, 1) := dk_43 (dk_at dksJ4_clear_1 16 rfl rfl)
theorem dJ4_clear_40 : decode cJ4_clear 40 = .ok (.iload_n 2, 1) := dk_28 (dk_at dksJ4_clear_1 17 rfl rfl)
theorem dJ4_clear_41 : decode cJ4_clear 41 = .ok (.aconst_null, 1) := dk_1 (dk_at dksJ4_clear_1 18 rfl rfl)
theorem dJ4_clear_42 : decode cJ4_clear 42 = .ok (.aastore, 1) := dk_83 (dk_at dksJ4_clear_1 19 rfl rfl)
theorem dJ4_clear_43 : decode cJ4_clear 43 = .ok (.iinc 2 1, 3) := dk_132 2 1 (dk_at dksJ4_clear_1 20 rfl rfl)
theorem dJ4_clear_46 : decode cJ4_clear 46 = .ok (.goto (-13), 3) := dk_167 255 243 (dk_at dksJ4_clear_2 0 rfl rfl)
theorem dJ4_clear_49 : decode cJ4_clear 49 = .ok (.return_, 1) := dk_177 (dk_at dksJ4_clear_2 3 rfl rfl)
abbrev cJ4_keySet : ByteArray := prog_64_method_24_code
def yJ4_keySet : MethodName := ⟨RJ4, "keySet", "()Ljava/util/Set;"⟩
def dkwJ4_keySet_1 : List UInt8 := [176]
abbrev dktJ4_keySet_1 : List UInt8 := dkwJ4_keySet_1 ++ []
def dkwJ4_keySet_0 : List UInt8 := [42, 180, 0, 239, 76, 43, 199, 0, 17, 187, 0, 243, 89, 42, 183, 0, 245, 76, 42, 43, 181, 0, 239, 43]
abbrev dktJ4_keySet_0 : List UInt8 := dkwJ4_keySet_0 ++ dktJ4_keySet_1
theorem dksJ4_keySet_0 : cJ4_keySet.data.toList.drop 0 = dktJ4_keySet_0 := by decide +kernel
theorem dksJ4_keySet_1 : cJ4_keySet.data.toList.drop 24 = dktJ4_keySet_1 := dk_seg dksJ4_keySet_0 24 rfl rfl
theorem dJ4_keySet_0 : decode cJ4_keySet 0 = .ok (.aload_n 0, 1) := dk_42 (dk_at dksJ4_keySet_0 0 rfl rfl)
theorem dJ4_keySet_1 : decode cJ4_keySet 1 = .ok (.getfield 239, 3) := dk_180 0 239 (dk_at dksJ4_keySet_0 1 rfl rfl)
theorem dJ4_keySet_4 : decode cJ4_keySet 4 = .ok (.astore_n 1, 1) := dk_76 (dk_at dksJ4_keySet_0 4 rfl rfl)
theorem dJ4_keySet_5 : decode cJ4_keySet 5 = .ok (.aload_n 1, 1) := dk_43 (dk_at dksJ4_keySet_0 5 rfl rfl)
theorem dJ4_keySet_6 : decode cJ4_keySet 6 = .ok (.ifnonnull 17, 3) := dk_199 0 17 (dk_at dksJ4_keySet_0 6 rfl rfl)
theorem dJ4_keySet_9 : decode cJ4_keySet 9 = .ok (.new 243, 3) := dk_187 0 243 (dk_at dksJ4_keySet_0 9 rfl rfl)
theorem dJ4_keySet_12 : decode cJ4_keySet 12 = .ok (.dup, 1) := dk_89 (dk_at dksJ4_keySet_0 12 rfl rfl)
theorem dJ4_keySet_13 : decode cJ4_keySet 13 = .ok (.aload_n 0, 1) := dk_42 (dk_at dksJ4_keySet_0 13 rfl rfl)
theorem dJ4_keySet_14 : decode cJ4_keySet 14 = .ok (.invokespecial 245, 3) := dk_183 0 245 (dk_at dksJ4_keySet_0 14 rfl rfl)
theorem dJ4_keySet_17 : decode cJ4_keySet 17 = .ok (.astore_n 1, 1) := dk_76 (dk_at dksJ4_keySet_0 17 rfl rfl)
theorem dJ4_keySet_18 : decode cJ4_keySet 18 = .ok (.aload_n 0, 1) := dk_42 (dk_at dksJ4_keySet_0 18 rfl rfl)
theorem dJ4_keySet_19 : decode cJ4_keySet 19 = .ok (.aload_n 1, 1) := dk_43 (dk_at dksJ4_keySet_0 19 rfl rfl)
theorem dJ4_keySet_20 : decode cJ4_keySet 20 = .ok (.putfield 239, 3) := dk_181 0 239 (dk_at dksJ4_keySet_0 20 rfl rfl)
theorem dJ4_keySet_23 : decode cJ4_keySet 23 = .ok (.aload_n 1, 1) := dk_43 (dk_at dksJ4_keySet_0 23 rfl rfl)
theorem dJ4_keySet_24 : decode cJ4_keySet 24 = .ok (.areturn, 1) := dk_176 (dk_at dksJ4_keySet_1 0 rfl rfl)
abbrev cJ4_getNode : ByteArray := prog_64_method_13_code
def yJ4_getNode : MethodName := ⟨RJ4, "getNode", "(Ljava/lang/Object;)Ljava/util/HashMap$Node;"⟩
def dkwJ4_getNode_6 : List UInt8 := [89, 58, 4, 199, 255, 210, 1, 176]
abbrev dktJ4_getNode_6 : List UInt8 := dkwJ4_getNode_6 ++ []
def dkwJ4_getNode_5 : List UInt8 := [165, 0, 16, 43, 198, 0, 15, 43, 25, 7, 182, 0, 173, 153, 0, 6, 25, 4, 176, 25, 4, 180, 0, 177]
abbrev dktJ4_getNode_5 : List UInt8 := dkwJ4_getNode_5 ++ dktJ4_getNode_6
def dkwJ4_getNode_4 : List UInt8 := [43, 182, 0, 182, 176, 25, 4, 180, 0, 168, 21, 6, 160, 0, 31, 25, 4, 180, 0, 170, 89, 58, 7, 43]
abbrev dktJ4_getNode_4 : List UInt8 := dkwJ4_getNode_4 ++ dktJ4_getNode_5
def dkwJ4_getNode_3 : List UInt8 := [176, 45, 180, 0, 177, 89, 58, 4, 198, 0, 70, 45, 193, 0, 180, 153, 0, 14, 45, 192, 0, 180, 21, 6]
abbrev dktJ4_getNode_3 : List UInt8 := dkwJ4_getNode_3 ++ dktJ4_getNode_4
def dkwJ4_getNode_2 : List UInt8 := [180, 0, 170, 89, 58, 7, 43, 165, 0, 16, 43, 198, 0, 14, 43, 25, 7, 182, 0, 173, 153, 0, 5, 45]
abbrev dktJ4_getNode_2 : List UInt8 := dkwJ4_getNode_2 ++ dktJ4_getNode_3
def dkwJ4_getNode_1 : List UInt8 := [184, 0, 149, 89, 54, 6, 126, 50, 89, 78, 198, 0, 115, 45, 180, 0, 168, 21, 6, 160, 0, 29, 45]
abbrev dktJ4_getNode_1 : List UInt8 := dkwJ4_getNode_1 ++ dktJ4_getNode_2
def dkwJ4_getNode_0 : List UInt8 := [42, 180, 0, 105, 89, 77, 198, 0, 142, 44, 190, 89, 54, 5, 158, 0, 134, 44, 21, 5, 4, 100, 43]
abbrev dktJ4_getNode_0 : List UInt8 := dkwJ4_getNode_0 ++ dktJ4_getNode_1
theorem dksJ4_getNode_0 : cJ4_getNode.data.toList.drop 0 = dktJ4_getNode_0 := by decide +kernel
theorem dksJ4_getNode_1 : cJ4_getNode.data.toList.drop 23 = dktJ4_getNode_1 := dk_seg dksJ4_getNode_0 23 rfl rfl
theorem dksJ4_getNode_2 : cJ4_getNode.data.toList.drop 46 = dktJ4_getNode_2 := dk_seg dksJ4_getNode_1 23 rfl rfl
theorem dksJ4_getNode_3 : cJ4_getNode.data.toList.drop 70 = dktJ4_getNode_3 := dk_seg dksJ4_getNode_2 24 rfl rfl
theorem dksJ4_getNode_4 : cJ4_getNode.data.toList.drop 94 = dktJ4_getNode_4 := dk_seg dksJ4_getNode_3 24 rfl rfl
theorem dksJ4_getNode_5 : cJ4_getNode.data.toList.drop 118 = dktJ4_getNode_5 := dk_seg dksJ4_getNode_4 24 rfl rfl
theorem dksJ4_getNode_6 : cJ4_getNode.data.toList.drop 142 = dktJ4_getNode_6 := dk_seg dksJ4_getNode_5 24 rfl rfl
theorem dJ4_getNode_0 : decode cJ4_getNode 0 = .ok (.aload_n 0, 1) := dk_42 (dk_at dksJ4_getNode_0 0 rfl rfl)
theorem dJ4_getNode_1 : decode cJ4_getNode 1 = .ok (.getfield 105, 3) := dk_180 0 105 (dk_at dksJ4_getNode_0 1 rfl rfl)
theorem dJ4_getNode_4 : decode cJ4_getNode 4 = .ok (.dup, 1) := dk_89 (dk_at dksJ4_getNode_0 4 rfl rfl)
theorem dJ4_getNode_5 : decode cJ4_getNode 5 = .ok (.astore_n 2, 1) := dk_77 (dk_at dksJ4_getNode_0 5 rfl rfl)
theorem dJ4_getNode_6 : decode cJ4_getNode 6 = .ok (.ifnull 142, 3) := dk_198 0 142 (dk_at dksJ4_getNode_0 6 rfl rfl)
theorem dJ4_getNode_9 : decode cJ4_getNode 9 = .ok (.aload_n 2, 1) := dk_44 (dk_at dksJ4_getNode_0 9 rfl rfl)
theorem dJ4_getNode_10 : decode cJ4_getNode 10 = .ok (.arraylength, 1) := dk_190 (dk_at dksJ4_getNode_0 10 rfl rfl)
theorem dJ4_getNode_11 : decode cJ4_getNode 11 = .ok (.dup, 1) := dk_89 (dk_at dksJ4_getNode_0 11 rfl rfl)
theorem dJ4_getNode_12 : decode cJ4_getNode 12 = .ok (.istore 5, 2) := dk_54 5 (dk_at dksJ4_getNode_0 12 rfl rfl)
theorem dJ4_getNode_14 : decode cJ4_getNode 14 = .ok (.ifCond .le 134, 3) := dk_158 0 134 (dk_at dksJ4_getNode_0 14 rfl rfl)
theorem dJ4_getNode_17 : decode cJ4_getNode 17 = .ok (.aload_n 2, 1) := dk_44 (dk_at dksJ4_getNode_0 17 rfl rfl)
theorem dJ4_getNode_18 : decode cJ4_getNode 18 = .ok (.iload 5, 2) := dk_21 5 (dk_at dksJ4_getNode_0 18 rfl rfl)
theorem dJ4_getNode_20 : decode cJ4_getNode 20 = .ok (.iconst 1, 1) := dk_4 (dk_at dksJ4_getNode_0 20 rfl rfl)
theorem dJ4_getNode_21 : decode cJ4_getNode 21 = .ok (.isub, 1) := dk_100 (dk_at dksJ4_getNode_0 21 rfl rfl)
theorem dJ4_getNode_22 : decode cJ4_getNode 22 = .ok (.aload_n 1, 1) := dk_43 (dk_at dksJ4_getNode_0 22 rfl rfl)
theorem dJ4_getNode_23 : decode cJ4_getNode 23 = .ok (.invokestatic 149, 3) := dk_184 0 149 (dk_at dksJ4_getNode_1 0 rfl rfl)
theorem dJ4_getNode_26 : decode cJ4_getNode 26 = .ok (.dup, 1) := dk_89 (dk_at dksJ4_getNode_1 3 rfl rfl)
theorem dJ4_getNode_27 : decode cJ4_getNode 27 = .ok (.istore 6, 2) := dk_54 6 (dk_at dksJ4_getNode_1 4 rfl rfl)
theorem dJ4_getNode_29 : decode cJ4_getNode 29 = .ok (.iand, 1) := dk_126 (dk_at dksJ4_getNode_1 6 rfl rfl)
theorem dJ4_getNode_30 : decode cJ4_getNode 30 = .ok (.aaload, 1) := dk_50 (dk_at dksJ4_getNode_1 7 rfl rfl)
theorem dJ4_getNode_31 : decode cJ4_getNode 31 = .ok (.dup, 1) := dk_89 (dk_at dksJ4_getNode_1 8 rfl rfl)
theorem dJ4_getNode_32 : decode cJ4_getNode 32 = .ok (.astore_n 3, 1) := dk_78 (dk_at dksJ4_getNode_1 9 rfl rfl)
theorem dJ4_getNode_33 : decode cJ4_getNode 33 = .ok (.ifnull 115, 3) := dk_198 0 115 (dk_at dksJ4_getNode_1 10 rfl rfl)
theorem dJ4_getNode_36 : decode cJ4_getNode 36 = .ok (.aload_n 3, 1) := dk_45 (dk_at dksJ4_getNode_1 13 rfl rfl)
theorem dJ4_getNode_37 : decode cJ4_getNode 37 = .ok (.getfield 168, 3) := dk_180 0 168 (dk_at dksJ4_getNode_1 14 rfl rfl)
theorem dJ4_getNode_40 : decode cJ4_getNode 40 = .ok (.iload 6, 2) := dk_21 6 (dk_at dksJ4_getNode_1 17 rfl rfl)
theorem dJ4_getNode_42 : decode cJ4_getNode 42 = .ok (.if_icmp .ne 29, 3) := dk_160 0 29 (dk_at dksJ4_getNode_1 19 rfl rfl)
theorem dJ4_getNode_45 : decode cJ4_getNode 45 = .ok (.aload_n 3, 1) := dk_45 (dk_at dksJ4_getNode_1 22 rfl rfl)
theorem dJ4_getNode_46 : decode cJ4_getNode 46 = .ok (.getfield 170, 3) := dk_180 0 170 (dk_at dksJ4_getNode_2 0 rfl rfl)
theorem dJ4_getNode_49 : decode cJ4_getNode 49 = .ok (.dup, 1) := dk_89 (dk_at dksJ4_getNode_2 3 rfl rfl)
theorem dJ4_getNode_50 : decode cJ4_getNode 50 = .ok (.astore 7, 2) := dk_58 7 (dk_at dksJ4_getNode_2 4 rfl rfl)
theorem dJ4_getNode_52 : decode cJ4_getNode 52 = .ok (.aload_n 1, 1) := dk_43 (dk_at dksJ4_getNode_2 6 rfl rfl)
theorem dJ4_getNode_53 : decode cJ4_getNode 53 = .ok (.if_acmp .eq 16, 3) := dk_165 0 16 (dk_at dksJ4_getNode_2 7 rfl rfl)
theorem dJ4_getNode_56 : decode cJ4_getNode 56 = .ok (.aload_n 1, 1) := dk_43 (dk_at dksJ4_getNode_2 10 rfl rfl)
theorem dJ4_getNode_57 : decode cJ4_getNode 57 = .ok (.ifnull 14, 3) := dk_198 0 14 (dk_at dksJ4_getNode_2 11 rfl rfl)
theorem dJ4_getNode_60 : decode cJ4_getNode 60 = .ok (.aload_n 1, 1) := dk_43 (dk_at dksJ4_getNode_2 14 rfl rfl)
theorem dJ4_getNode_61 : decode cJ4_getNode 61 = .ok (.aload 7, 2) := dk_25 7 (dk_at dksJ4_getNode_2 15 rfl rfl)
theorem dJ4_getNode_63 : decode cJ4_getNode 63 = .ok (.invokevirtual 173, 3) := dk_182 0 173 (dk_at dksJ4_getNode_2 17 rfl rfl)
theorem dJ4_getNode_66 : decode cJ4_getNode 66 = .ok (.ifCond .eq 5, 3) := dk_153 0 5 (dk_at dksJ4_getNode_2 20 rfl rfl)
theorem dJ4_getNode_69 : decode cJ4_getNode 69 = .ok (.aload_n 3, 1) := dk_45 (dk_at dksJ4_getNode_2 23 rfl rfl)
theorem dJ4_getNode_70 : decode cJ4_getNode 70 = .ok (.areturn, 1) := dk_176 (dk_at dksJ4_getNode_3 0 rfl rfl)
theorem dJ4_getNode_71 : decode cJ4_getNode 71 = .ok (.aload_n 3, 1) := dk_45 (dk_at dksJ4_getNode_3 1 rfl rfl)
theorem dJ4_getNode_72 : decode cJ4_getNode 72 = .ok (.getfield 177, 3) := dk_180 0 177 (dk_at dksJ4_getNode_3 2 rfl rfl)
theorem dJ4_getNode_75 : decode cJ4_getNode 75 = .ok (.dup, 1) := dk_89 (dk_at dksJ4_getNode_3 5 rfl rfl)
theorem dJ4_getNode_76 : decode cJ4_getNode 76 = .ok (.astore 4, 2) := dk_58 4 (dk_at dksJ4_getNode_3 6 rfl rfl)
theorem dJ4_getNode_78 : decode cJ4_getNode 78 = .ok (.ifnull 70, 3) := dk_198 0 70 (dk_at dksJ4_getNode_3 8 rfl rfl)
theorem dJ4_getNode_81 : decode cJ4_getNode 81 = .ok (.aload_n 3, 1) := dk_45 (dk_at dksJ4_getNode_3 11 rfl rfl)
theorem dJ4_getNode_82 : decode cJ4_getNode 82 = .ok (.instanceof 180, 3) := dk_193 0 180 (dk_at dksJ4_getNode_3 12 rfl rfl)
theorem dJ4_getNode_85 : decode cJ4_getNode 85 = .ok (.ifCond .eq 14, 3) := dk_153 0 14 (dk_at dksJ4_getNode_3 15 rfl rfl)
theorem dJ4_getNode_88 : decode cJ4_getNode 88 = .ok (.aload_n 3, 1) := dk_45 (dk_at dksJ4_getNode_3 18 rfl rfl)
theorem dJ4_getNode_89 : decode cJ4_getNode 89 = .ok (.checkcast 180, 3) := dk_192 0 180 (dk_at dksJ4_getNode_3 19 rfl rfl)
theorem dJ4_getNode_92 : decode cJ4_getNode 92 = .ok (.iload 6, 2) := dk_21 6 (dk_at dksJ4_getNode_3 22 rfl rfl)
theorem dJ4_getNode_94 : decode cJ4_getNode 94 = .ok (.aload_n 1, 1) := dk_43 (dk_at dksJ4_getNode_4 0 rfl rfl)
theorem dJ4_getNode_95 : decode cJ4_getNode 95 = .ok (.invokevirtual 182, 3) := dk_182 0 182 (dk_at dksJ4_getNode_4 1 rfl rfl)
theorem dJ4_getNode_98 : decode cJ4_getNode 98 = .ok (.areturn, 1) := dk_176 (dk_at dksJ4_getNode_4 4 rfl rfl)
theorem dJ4_getNode_99 : decode cJ4_getNode 99 = .ok (.aload 4, 2) := dk_25 4 (dk_at dksJ4_getNode_4 5 rfl rfl)
theorem dJ4_getNode_101 : decode cJ4_getNode 101 = .ok (.getfield 168, 3) := dk_180 0 168 (dk_at dksJ4_getNode_4 7 rfl rfl)
theorem dJ4_getNode_104 : decode cJ4_getNode 104 = .ok (.iload 6, 2) := dk_21 6 (dk_at dksJ4_getNode_4 10 rfl rfl)
theorem dJ4_getNode_106 : decode cJ4_getNode 106 = .ok (.if_icmp .ne 31, 3) := dk_160 0 31 (dk_at dksJ4_getNode_4 12 rfl rfl)
theorem dJ4_getNode_109 : decode cJ4_getNode 109 = .ok (.aload 4, 2) := dk_25 4 (dk_at dksJ4_getNode_4 15 rfl rfl)
theorem dJ4_getNode_111 : decode cJ4_getNode 111 = .ok (.getfield 170, 3) := dk_180 0 170 (dk_at dksJ4_getNode_4 17 rfl rfl)
theorem dJ4_getNode_114 : decode cJ4_getNode 114 = .ok (.dup, 1) := dk_89 (dk_at dksJ4_getNode_4 20 rfl rfl)
theorem dJ4_getNode_115 : decode cJ4_getNode 115 = .ok (.astore 7, 2) := dk_58 7 (dk_at dksJ4_getNode_4 21 rfl rfl)
theorem dJ4_getNode_117 : decode cJ4_getNode 117 = .ok (.aload_n 1, 1) := dk_43 (dk_at dksJ4_getNode_4 23 rfl rfl)
theorem dJ4_getNode_118 : decode cJ4_getNode 118 = .ok (.if_acmp .eq 16, 3) := dk_165 0 16 (dk_at dksJ4_getNode_5 0 rfl rfl)
theorem dJ4_getNode_121 : decode cJ4_getNode 121 = .ok (.aload_n 1, 1) := dk_43 (dk_at dksJ4_getNode_5 3 rfl rfl)
theorem dJ4_getNode_122 : decode cJ4_getNode 122 = .ok (.ifnull 15, 3) := dk_198 0 15 (dk_at dksJ4_getNode_5 4 rfl rfl)
theorem dJ4_getNode_125 : decode cJ4_getNode 125 = .ok (.aload_n 1, 1) := dk_43 (dk_at dksJ4_getNode_5 7 rfl rfl)
theorem dJ4_getNode_126 : decode cJ4_getNode 126 = .ok (.aload 7, 2) := dk_25 7 (dk_at dksJ4_getNode_5 8 rfl rfl)
theorem dJ4_getNode_128 : decode cJ4_getNode 128 = .ok (.invokevirtual 173, 3) := dk_182 0 173 (dk_at dksJ4_getNode_5 10 rfl rfl)
theorem dJ4_getNode_131 : decode cJ4_getNode 131 = .ok (.ifCond .eq 6, 3) := dk_153 0 6 (dk_at dksJ4_getNode_5 13 rfl rfl)
theorem dJ4_getNode_134 : decode cJ4_getNode 134 = .ok (.aload 4, 2) := dk_25 4 (dk_at dksJ4_getNode_5 16 rfl rfl)
theorem dJ4_getNode_136 : decode cJ4_getNode 136 = .ok (.areturn, 1) := dk_176 (dk_at dksJ4_getNode_5 18 rfl rfl)
theorem dJ4_getNode_137 : decode cJ4_getNode 137 = .ok (.aload 4, 2) := dk_25 4 (dk_at dksJ4_getNode_5 19 rfl rfl)
theorem dJ4_getNode_139 : decode cJ4_getNode 139 = .ok (.getfield 177, 3) := dk_180 0 177 (dk_at dksJ4_getNode_5 21 rfl rfl)
theorem dJ4_getNode_142 : decode cJ4_getNode 142 = .ok (.dup, 1) := dk_89 (dk_at dksJ4_getNode_6 0 rfl rfl)
theorem dJ4_getNode_143 : decode cJ4_getNode 143 = .ok (.astore 4, 2) := dk_58 4 (dk_at dksJ4_getNode_6 1 rfl rfl)
theorem dJ4_getNode_145 : decode cJ4_getNode 145 = .ok (.ifnonnull (-46), 3) := dk_199 255 210 (dk_at dksJ4_getNode_6 3 rfl rfl)
theorem dJ4_getNode_148 : decode cJ4_getNode 148 = .ok (.aconst_null, 1) := dk_1 (dk_at dksJ4_getNode_6 6 rfl rfl)
theorem dJ4_getNode_149 : decode cJ4_getNode 149 = .ok (.areturn, 1) := dk_176 (dk_at dksJ4_getNode_6 7 rfl rfl)
theorem q113 : (Jvm.Cond.initialized "java/util/HashMap") ∈ lw_all := lw_g (lw_at lw_m1 8 rfl) rfl
theorem q311 : (Jvm.Cond.instanceMethod ({ cls := "java/util/HashMap", name := "<init>", desc := "()V" } : Jvm.MethodName)) ∈ lw_all := lw_g (lw_at lw_m1 206 rfl) rfl
theorem q312 : (Jvm.Cond.code ({ cls := "java/util/HashMap", name := "<init>", desc := "()V" } : Jvm.MethodName) prog_64_method_7_code (1 : Nat) (Option.none : Option Jvm.ClassFile.FieldType)) ∈ lw_all := lw_g (lw_at lw_m1 207 rfl) rfl
theorem q313 : (Jvm.Cond.methodLink "java/util/HashMap" (43 : Nat) ({ cls := "java/util/AbstractMap", name := "<init>", desc := "()V" } : Jvm.MethodName)) ∈ lw_all := lw_g (lw_at lw_m1 208 rfl) rfl
theorem q317 : (Jvm.Cond.constantFloat "java/util/HashMap" (92 : Nat) (1061158912 : UInt32)) ∈ lw_all := lw_g (lw_at lw_m1 212 rfl) rfl
theorem q325 : (Jvm.Cond.fieldLink "java/util/HashMap" (105 : Nat) "java/util/HashMap" "table" "[Ljava/util/HashMap$Node;") ∈ lw_all := lw_g (lw_at lw_m1 220 rfl) rfl
theorem q327 : (Jvm.Cond.fieldLink "java/util/HashMap" (156 : Nat) "java/util/HashMap" "size" "I") ∈ lw_all := lw_g (lw_at lw_m1 222 rfl) rfl
theorem q332 : (Jvm.Cond.fieldLink "java/util/HashMap" (202 : Nat) "java/util/HashMap" "modCount" "I") ∈ lw_all := lw_g (lw_at lw_m1 227 rfl) rfl
theorem q333 : (Jvm.Cond.fieldLink "java/util/HashMap" (88 : Nat) "java/util/HashMap" "threshold" "I") ∈ lw_all := lw_g (lw_at lw_m1 228 rfl) rfl
theorem q334 : (Jvm.Cond.fieldLink "java/util/HashMap" (81 : Nat) "java/util/HashMap" "loadFactor" "F") ∈ lw_all := lw_g (lw_at lw_m1 229 rfl) rfl
theorem q335 : (Jvm.Cond.fieldLink "java/util/HashMap" (239 : Nat) "java/util/HashMap" "keySet" "Ljava/util/Set;") ∈ lw_all := lw_g (lw_at lw_m1 230 rfl) rfl
theorem q336 : (Jvm.Cond.sameField "java/util/HashMap" "java/util/AbstractMap" "keySet" "Ljava/util/Set;") ∈ lw_all := lw_g (lw_at lw_m1 231 rfl) rfl
theorem q350 : (Jvm.Cond.soleField "java/util/HashMap" "table") ∈ lw_all := lw_g (lw_at lw_m2 5 rfl) rfl
theorem q352 : (Jvm.Cond.soleField "java/util/HashMap" "entrySet") ∈ lw_all := lw_g (lw_at lw_m2 7 rfl) rfl
theorem q354 : (Jvm.Cond.soleField "java/util/HashMap" "size") ∈ lw_all := lw_g (lw_at lw_m2 9 rfl) rfl
theorem q356 : (Jvm.Cond.soleField "java/util/HashMap" "modCount") ∈ lw_all := lw_g (lw_at lw_m2 11 rfl) rfl
theorem q358 : (Jvm.Cond.soleField "java/util/HashMap" "threshold") ∈ lw_all := lw_g (lw_at lw_m2 13 rfl) rfl
theorem q360 : (Jvm.Cond.soleField "java/util/HashMap" "loadFactor") ∈ lw_all := lw_g (lw_at lw_m2 15 rfl) rfl
theorem q835 : (Jvm.Cond.instantiable "java/util/HashMap" (8 : Nat)) ∈ lw_all := lw_g (lw_at lw_m4 10 rfl) rfl
theorem q837 : (Jvm.Cond.lays "java/util/HashMap" "java/util/HashMap" "table" "[Ljava/util/HashMap$Node;") ∈ lw_all := lw_g (lw_at lw_m4 12 rfl) rfl
theorem q838 : (Jvm.Cond.lays "java/util/HashMap" "java/util/HashMap" "entrySet" "Ljava/util/Set;") ∈ lw_all := lw_g (lw_at lw_m4 13 rfl) rfl
theorem q839 : (Jvm.Cond.lays "java/util/HashMap" "java/util/HashMap" "size" "I") ∈ lw_all := lw_g (lw_at lw_m4 14 rfl) rfl
theorem q840 : (Jvm.Cond.lays "java/util/HashMap" "java/util/HashMap" "modCount" "I") ∈ lw_all := lw_g (lw_at lw_m4 15 rfl) rfl
theorem q841 : (Jvm.Cond.lays "java/util/HashMap" "java/util/HashMap" "threshold" "I") ∈ lw_all := lw_g (lw_at lw_m4 16 rfl) rfl
theorem q842 : (Jvm.Cond.laysFinal "java/util/HashMap" "java/util/HashMap" "loadFactor" "F") ∈ lw_all := lw_g (lw_at lw_m4 17 rfl) rfl
theorem q843 : (Jvm.Cond.lays "java/util/HashMap" "java/util/AbstractMap" "keySet" "Ljava/util/Set;") ∈ lw_all := lw_g (lw_at lw_m4 18 rfl) rfl
theorem q844 : (Jvm.Cond.lays "java/util/HashMap" "java/util/AbstractMap" "values" "Ljava/util/Collection;") ∈ lw_all := lw_g (lw_at lw_m4 19 rfl) rfl
theorem q845 : (Jvm.Cond.superclass "java/util/HashMap" "java/util/AbstractMap") ∈ lw_all := lw_g (lw_at lw_m4 20 rfl) rfl
theorem q871 : (Jvm.Cond.instanceMethod ({ cls := "java/util/HashMap", name := "put", desc := "(Ljava/lang/Object;Ljava/lang/Object;)Ljava/lang/Object;" } : Jvm.MethodName)) ∈ lw_all := lw_g (lw_at lw_m4 46 rfl) rfl
theorem q872 : (Jvm.Cond.selects "java/util/HashMap" ({ cls := "java/util/HashMap", name := "put", desc := "(Ljava/lang/Object;Ljava/lang/Object;)Ljava/lang/Object;" } : Jvm.MethodName) ({ cls := "java/util/HashMap", name := "put", desc := "(Ljava/lang/Object;Ljava/lang/Object;)Ljava/lang/Object;" } : Jvm.MethodName)) ∈ lw_all := lw_g (lw_at lw_m4 47 rfl) rfl
theorem q873 : (Jvm.Cond.sameMethod "java/util/HashMap" "java/util/HashMap" "put" "(Ljava/lang/Object;Ljava/lang/Object;)Ljava/lang/Object;") ∈ lw_all := lw_g (lw_at lw_m4 48 rfl) rfl
theorem q875 : (Jvm.Cond.code ({ cls := "java/util/HashMap", name := "put", desc := "(Ljava/lang/Object;Ljava/lang/Object;)Ljava/lang/Object;" } : Jvm.MethodName) prog_64_method_15_code (3 : Nat) (Option.some (Jvm.ClassFile.FieldType.object "java/lang/Object"))) ∈ lw_all := lw_g (lw_at lw_m4 50 rfl) rfl
theorem q876 : (Jvm.Cond.methodLink "java/util/HashMap" (149 : Nat) ({ cls := "java/util/HashMap", name := "hash", desc := "(Ljava/lang/Object;)I" } : Jvm.MethodName)) ∈ lw_all := lw_g (lw_at lw_m4 51 rfl) rfl
theorem q877 : (Jvm.Cond.static ({ cls := "java/util/HashMap", name := "hash", desc := "(Ljava/lang/Object;)I" } : Jvm.MethodName)) ∈ lw_all := lw_g (lw_at lw_m4 52 rfl) rfl
theorem q878 : (Jvm.Cond.code ({ cls := "java/util/HashMap", name := "hash", desc := "(Ljava/lang/Object;)I" } : Jvm.MethodName) prog_64_method_1_code (2 : Nat) (Option.some Jvm.ClassFile.FieldType.int)) ∈ lw_all := lw_g (lw_at lw_m4 53 rfl) rfl
theorem q880 : (Jvm.Cond.methodLink "java/util/HashMap" (1 : Nat) ({ cls := "java/lang/Object", name := "hashCode", desc := "()I" } : Jvm.MethodName)) ∈ lw_all := lw_g (lw_at lw_m4 55 rfl) rfl
theorem q993 : (Jvm.Cond.methodLink "java/util/HashMap" (152 : Nat) ({ cls := "java/util/HashMap", name := "putVal", desc := "(ILjava/lang/Object;Ljava/lang/Object;ZZ)Ljava/lang/Object;" } : Jvm.MethodName)) ∈ lw_all := lw_g (lw_at lw_m4 168 rfl) rfl
theorem q994 : (Jvm.Cond.instanceMethod ({ cls := "java/util/HashMap", name := "putVal", desc := "(ILjava/lang/Object;Ljava/lang/Object;ZZ)Ljava/lang/Object;" } : Jvm.MethodName)) ∈ lw_all := lw_g (lw_at lw_m4 169 rfl) rfl
theorem q995 : (Jvm.Cond.selects "java/util/HashMap" ({ cls := "java/util/HashMap", name := "putVal", desc := "(ILjava/lang/Object;Ljava/lang/Object;ZZ)Ljava/lang/Object;" } : Jvm.MethodName) ({ cls := "java/util/HashMap", name := "putVal", desc := "(ILjava/lang/Object;Ljava/lang/Object;ZZ)Ljava/lang/Object;" } : Jvm.MethodName)) ∈ lw_all := lw_g (lw_at lw_m4 170 rfl) rfl
theorem q996 : (Jvm.Cond.sameMethod "java/util/HashMap" "java/util/HashMap" "putVal" "(ILjava/lang/Object;Ljava/lang/Object;ZZ)Ljava/lang/Object;") ∈ lw_all := lw_g (lw_at lw_m4 171 rfl) rfl
theorem q998 : (Jvm.Cond.code ({ cls := "java/util/HashMap", name := "putVal", desc := "(ILjava/lang/Object;Ljava/lang/Object;ZZ)Ljava/lang/Object;" } : Jvm.MethodName) prog_64_method_16_code (13 : Nat) (Option.some (Jvm.ClassFile.FieldType.object "java/lang/Object"))) ∈ lw_all := lw_g (lw_at lw_m4 173 rfl) rfl
theorem q999 : (Jvm.Cond.methodLink "java/util/HashMap" (117 : Nat) ({ cls := "java/util/HashMap", name := "resize", desc := "()[Ljava/util/HashMap$Node;" } : Jvm.MethodName)) ∈ lw_all := lw_g (lw_at lw_m4 174 rfl) rfl
theorem q1000 : (Jvm.Cond.instanceMethod ({ cls := "java/util/HashMap", name := "resize", desc := "()[Ljava/util/HashMap$Node;" } : Jvm.MethodName)) ∈ lw_all := lw_g (lw_at lw_m4 175 rfl) rfl
theorem q1001 : (Jvm.Cond.selects "java/util/HashMap" ({ cls := "java/util/HashMap", name := "resize", desc := "()[Ljava/util/HashMap$Node;" } : Jvm.MethodName) ({ cls := "java/util/HashMap", name := "resize", desc := "()[Ljava/util/HashMap$Node;" } : Jvm.MethodName)) ∈ lw_all := lw_g (lw_at lw_m4 176 rfl) rfl
theorem q1002 : (Jvm.Cond.sameMethod "java/util/HashMap" "java/util/HashMap" "resize" "()[Ljava/util/HashMap$Node;") ∈ lw_all := lw_g (lw_at lw_m4 177 rfl) rfl
theorem q1004 : (Jvm.Cond.code ({ cls := "java/util/HashMap", name := "resize", desc := "()[Ljava/util/HashMap$Node;" } : Jvm.MethodName) prog_64_method_17_code (14 : Nat) (Option.some (Jvm.ClassFile.FieldType.array (Jvm.ClassFile.FieldType.object "java/util/HashMap$Node")))) ∈ lw_all := lw_g (lw_at lw_m4 179 rfl) rfl
theorem q1005 : (Jvm.Cond.constant "java/util/HashMap" (42 : Nat) (1073741824 : Int32)) ∈ lw_all := lw_g (lw_at lw_m4 180 rfl) rfl
theorem q1006 : (Jvm.Cond.constant "java/util/HashMap" (209 : Nat) (2147483647 : Int32)) ∈ lw_all := lw_g (lw_at lw_m4 181 rfl) rfl
theorem q1007 : (Jvm.Cond.constantFloat "java/util/HashMap" (210 : Nat) (1317011456 : UInt32)) ∈ lw_all := lw_g (lw_at lw_m4 182 rfl) rfl
theorem q1008 : (Jvm.Cond.classLink "java/util/HashMap" (163 : Nat) "java/util/HashMap$Node") ∈ lw_all := lw_g (lw_at lw_m4 183 rfl) rfl
theorem q1010 : (Jvm.Cond.classLink "java/util/HashMap" (180 : Nat) "java/util/HashMap$TreeNode") ∈ lw_all := lw_g (lw_at lw_m4 185 rfl) rfl
theorem q1011 : (Jvm.Cond.methodLink "java/util/HashMap" (211 : Nat) ({ cls := "java/util/HashMap$TreeNode", name := "split", desc := "(Ljava/util/HashMap;[Ljava/util/HashMap$Node;II)V" } : Jvm.MethodName)) ∈ lw_all := lw_g (lw_at lw_m4 186 rfl) rfl
theorem q1021 : (Jvm.Cond.instanceMethod ({ cls := "java/util/HashMap", name := "replacementNode", desc := "(Ljava/util/HashMap$Node;Ljava/util/HashMap$Node;)Ljava/util/HashMap$Node;" } : Jvm.MethodName)) ∈ lw_all := lw_g (lw_at lw_m4 196 rfl) rfl
theorem q1022 : (Jvm.Cond.selects "java/util/HashMap" ({ cls := "java/util/HashMap", name := "replacementNode", desc := "(Ljava/util/HashMap$Node;Ljava/util/HashMap$Node;)Ljava/util/HashMap$Node;" } : Jvm.MethodName) ({ cls := "java/util/HashMap", name := "replacementNode", desc := "(Ljava/util/HashMap$Node;Ljava/util/HashMap$Node;)Ljava/util/HashMap$Node;" } : Jvm.MethodName)) ∈ lw_all := lw_g (lw_at lw_m4 197 rfl) rfl
theorem q1023 : (Jvm.Cond.sameMethod "java/util/HashMap" "java/util/HashMap" "replacementNode" "(Ljava/util/HashMap$Node;Ljava/util/HashMap$Node;)Ljava/util/HashMap$Node;") ∈ lw_all := lw_g (lw_at lw_m4 198 rfl) rfl
theorem q1045 : (Jvm.Cond.fieldLink "java/util/HashMap" (168 : Nat) "java/util/HashMap$Node" "hash" "I") ∈ lw_all := lw_g (lw_at lw_m4 220 rfl) rfl
theorem q1052 : (Jvm.Cond.fieldLink "java/util/HashMap" (170 : Nat) "java/util/HashMap$Node" "key" "Ljava/lang/Object;") ∈ lw_all := lw_g (lw_at lw_m4 227 rfl) rfl
theorem q1057 : (Jvm.Cond.fieldLink "java/util/HashMap" (162 : Nat) "java/util/HashMap$Node" "value" "Ljava/lang/Object;") ∈ lw_all := lw_g (lw_at lw_m4 232 rfl) rfl
theorem q1064 : (Jvm.Cond.fieldLink "java/util/HashMap" (177 : Nat) "java/util/HashMap$Node" "next" "Ljava/util/HashMap$Node;") ∈ lw_all := lw_g (lw_at lw_m4 239 rfl) rfl
theorem q1065 : (Jvm.Cond.fieldLink "java/util/HashMap" (223 : Nat) "java/util/HashMap$TreeNode" "next" "Ljava/util/HashMap$Node;") ∈ lw_all := lw_g (lw_at lw_m5 0 rfl) rfl
theorem q1083 : (Jvm.Cond.code ({ cls := "java/util/HashMap", name := "replacementNode", desc := "(Ljava/util/HashMap$Node;Ljava/util/HashMap$Node;)Ljava/util/HashMap$Node;" } : Jvm.MethodName) prog_64_method_47_code (3 : Nat) (Option.some (Jvm.ClassFile.FieldType.object "java/util/HashMap$Node"))) ∈ lw_all := lw_g (lw_at lw_m5 18 rfl) rfl
theorem q1085 : (Jvm.Cond.methodLink "java/util/HashMap" (375 : Nat) ({ cls := "java/util/HashMap$Node", name := "<init>", desc := "(ILjava/lang/Object;Ljava/lang/Object;Ljava/util/HashMap$Node;)V" } : Jvm.MethodName)) ∈ lw_all := lw_g (lw_at lw_m5 20 rfl) rfl
theorem q1096 : (Jvm.Cond.static ({ cls := "java/util/HashMap", name := "comparableClassFor", desc := "(Ljava/lang/Object;)Ljava/lang/Class;" } : Jvm.MethodName)) ∈ lw_all := lw_g (lw_at lw_m5 31 rfl) rfl
theorem q1097 : (Jvm.Cond.code ({ cls := "java/util/HashMap", name := "comparableClassFor", desc := "(Ljava/lang/Object;)Ljava/lang/Class;" } : Jvm.MethodName) prog_64_method_2_code (9 : Nat) (Option.some (Jvm.ClassFile.FieldType.object "java/lang/Class"))) ∈ lw_all := lw_g (lw_at lw_m5 32 rfl) rfl
theorem q1098 : (Jvm.Cond.classLink "java/util/HashMap" (7 : Nat) "java/lang/Comparable") ∈ lw_all := lw_g (lw_at lw_m5 33 rfl) rfl
theorem q1099 : (Jvm.Cond.methodLink "java/util/HashMap" (9 : Nat) ({ cls := "java/lang/Object", name := "getClass", desc := "()Ljava/lang/Class;" } : Jvm.MethodName)) ∈ lw_all := lw_g (lw_at lw_m5 34 rfl) rfl
theorem q1131 : (Jvm.Cond.selects "java/util/HashMap" ({ cls := "java/lang/Object", name := "getClass", desc := "()Ljava/lang/Class;" } : Jvm.MethodName) ({ cls := "java/lang/Object", name := "getClass", desc := "()Ljava/lang/Class;" } : Jvm.MethodName)) ∈ lw_all := lw_g (lw_at lw_m5 66 rfl) rfl
theorem q1145 : (Jvm.Cond.classLink "java/util/HashMap" (13 : Nat) "java/lang/String") ∈ lw_all := lw_g (lw_at lw_m5 80 rfl) rfl
theorem q1147 : (Jvm.Cond.static ({ cls := "java/util/HashMap", name := "compareComparables", desc := "(Ljava/lang/Class;Ljava/lang/Object;Ljava/lang/Object;)I" } : Jvm.MethodName)) ∈ lw_all := lw_g (lw_at lw_m5 82 rfl) rfl
theorem q1148 : (Jvm.Cond.code ({ cls := "java/util/HashMap", name := "compareComparables", desc := "(Ljava/lang/Class;Ljava/lang/Object;Ljava/lang/Object;)I" } : Jvm.MethodName) prog_64_method_3_code (3 : Nat) (Option.some Jvm.ClassFile.FieldType.int)) ∈ lw_all := lw_g (lw_at lw_m5 83 rfl) rfl
theorem q1149 : (Jvm.Cond.interfaceEntry "java/util/HashMap" (30 : Nat)) ∈ lw_tbl := lw_at lw_m5 84 rfl
theorem q1150 : (Jvm.Cond.methodLink "java/util/HashMap" (30 : Nat) ({ cls := "java/lang/Comparable", name := "compareTo", desc := "(Ljava/lang/Object;)I" } : Jvm.MethodName)) ∈ lw_all := lw_g (lw_at lw_m5 85 rfl) rfl
theorem q1329 : (Jvm.Cond.methodLink "java/util/HashMap" (186 : Nat) ({ cls := "java/util/HashMap", name := "newNode", desc := "(ILjava/lang/Object;Ljava/lang/Object;Ljava/util/HashMap$Node;)Ljava/util/HashMap$Node;" } : Jvm.MethodName)) ∈ lw_all := lw_g (lw_at lw_m6 24 rfl) rfl
theorem q1330 : (Jvm.Cond.instanceMethod ({ cls := "java/util/HashMap", name := "newNode", desc := "(ILjava/lang/Object;Ljava/lang/Object;Ljava/util/HashMap$Node;)Ljava/util/HashMap$Node;" } : Jvm.MethodName)) ∈ lw_all := lw_g (lw_at lw_m6 25 rfl) rfl
theorem q1331 : (Jvm.Cond.selects "java/util/HashMap" ({ cls := "java/util/HashMap", name := "newNode", desc := "(ILjava/lang/Object;Ljava/lang/Object;Ljava/util/HashMap$Node;)Ljava/util/HashMap$Node;" } : Jvm.MethodName) ({ cls := "java/util/HashMap", name := "newNode", desc := "(ILjava/lang/Object;Ljava/lang/Object;Ljava/util/HashMap$Node;)Ljava/util/HashMap$Node;" } : Jvm.MethodName)) ∈ lw_all := lw_g (lw_at lw_m6 26 rfl) rfl
theorem q1332 : (Jvm.Cond.sameMethod "java/util/HashMap" "java/util/HashMap" "newNode" "(ILjava/lang/Object;Ljava/lang/Object;Ljava/util/HashMap$Node;)Ljava/util/HashMap$Node;") ∈ lw_all := lw_g (lw_at lw_m6 27 rfl) rfl
theorem q1340 : (Jvm.Cond.code ({ cls := "java/util/HashMap", name := "newNode", desc := "(ILjava/lang/Object;Ljava/lang/Object;Ljava/util/HashMap$Node;)Ljava/util/HashMap$Node;" } : Jvm.MethodName) prog_64_method_46_code (5 : Nat) (Option.some (Jvm.ClassFile.FieldType.object "java/util/HashMap$Node"))) ∈ lw_all := lw_g (lw_at lw_m6 35 rfl) rfl
theorem q1342 : (Jvm.Cond.methodLink "java/util/HashMap" (173 : Nat) ({ cls := "java/lang/Object", name := "equals", desc := "(Ljava/lang/Object;)Z" } : Jvm.MethodName)) ∈ lw_all := lw_g (lw_at lw_m6 37 rfl) rfl
theorem q1394 : (Jvm.Cond.methodLink "java/util/HashMap" (190 : Nat) ({ cls := "java/util/HashMap$TreeNode", name := "putTreeVal", desc := "(Ljava/util/HashMap;[Ljava/util/HashMap$Node;ILjava/lang/Object;Ljava/lang/Object;)Ljava/util/HashMap$TreeNode;" } : Jvm.MethodName)) ∈ lw_all := lw_g (lw_at lw_m6 89 rfl) rfl
theorem q1408 : (Jvm.Cond.instanceMethod ({ cls := "java/util/HashMap", name := "newTreeNode", desc := "(ILjava/lang/Object;Ljava/lang/Object;Ljava/util/HashMap$Node;)Ljava/util/HashMap$TreeNode;" } : Jvm.MethodName)) ∈ lw_all := lw_g (lw_at lw_m6 103 rfl) rfl
theorem q1409 : (Jvm.Cond.selects "java/util/HashMap" ({ cls := "java/util/HashMap", name := "newTreeNode", desc := "(ILjava/lang/Object;Ljava/lang/Object;Ljava/util/HashMap$Node;)Ljava/util/HashMap$TreeNode;" } : Jvm.MethodName) ({ cls := "java/util/HashMap", name := "newTreeNode", desc := "(ILjava/lang/Object;Ljava/lang/Object;Ljava/util/HashMap$Node;)Ljava/util/HashMap$TreeNode;" } : Jvm.MethodName)) ∈ lw_all := lw_g (lw_at lw_m6 104 rfl) rfl
theorem q1410 : (Jvm.Cond.sameMethod "java/util/HashMap" "java/util/HashMap" "newTreeNode" "(ILjava/lang/Object;Ljava/lang/Object;Ljava/util/HashMap$Node;)Ljava/util/HashMap$TreeNode;") ∈ lw_all := lw_g (lw_at lw_m6 105 rfl) rfl
theorem q1424 : (Jvm.Cond.fieldLink "java/util/HashMap" (219 : Nat) "java/util/HashMap$TreeNode" "prev" "Ljava/util/HashMap$TreeNode;") ∈ lw_all := lw_g (lw_at lw_m6 119 rfl) rfl
theorem q1443 : (Jvm.Cond.code ({ cls := "java/util/HashMap", name := "newTreeNode", desc := "(ILjava/lang/Object;Ljava/lang/Object;Ljava/util/HashMap$Node;)Ljava/util/HashMap$TreeNode;" } : Jvm.MethodName) prog_64_method_48_code (5 : Nat) (Option.some (Jvm.ClassFile.FieldType.object "java/util/HashMap$TreeNode"))) ∈ lw_all := lw_g (lw_at lw_m6 138 rfl) rfl
theorem q1444 : (Jvm.Cond.methodLink "java/util/HashMap" (378 : Nat) ({ cls := "java/util/HashMap$TreeNode", name := "<init>", desc := "(ILjava/lang/Object;Ljava/lang/Object;Ljava/util/HashMap$Node;)V" } : Jvm.MethodName)) ∈ lw_all := lw_g (lw_at lw_m6 139 rfl) rfl
theorem q1445 : (Jvm.Cond.methodLink "java/util/HashMap" (194 : Nat) ({ cls := "java/util/HashMap", name := "treeifyBin", desc := "([Ljava/util/HashMap$Node;I)V" } : Jvm.MethodName)) ∈ lw_all := lw_g (lw_at lw_m6 140 rfl) rfl
theorem q1446 : (Jvm.Cond.instanceMethod ({ cls := "java/util/HashMap", name := "treeifyBin", desc := "([Ljava/util/HashMap$Node;I)V" } : Jvm.MethodName)) ∈ lw_all := lw_g (lw_at lw_m6 141 rfl) rfl
theorem q1447 : (Jvm.Cond.selects "java/util/HashMap" ({ cls := "java/util/HashMap", name := "treeifyBin", desc := "([Ljava/util/HashMap$Node;I)V" } : Jvm.MethodName) ({ cls := "java/util/HashMap", name := "treeifyBin", desc := "([Ljava/util/HashMap$Node;I)V" } : Jvm.MethodName)) ∈ lw_all := lw_g (lw_at lw_m6 142 rfl) rfl
theorem q1448 : (Jvm.Cond.sameMethod "java/util/HashMap" "java/util/HashMap" "treeifyBin" "([Ljava/util/HashMap$Node;I)V") ∈ lw_all := lw_g (lw_at lw_m6 143 rfl) rfl
theorem q1450 : (Jvm.Cond.code ({ cls := "java/util/HashMap", name := "treeifyBin", desc := "([Ljava/util/HashMap$Node;I)V" } : Jvm.MethodName) prog_64_method_18_code (9 : Nat) (Option.none : Option Jvm.ClassFile.FieldType)) ∈ lw_all := lw_g (lw_at lw_m6 145 rfl) rfl
theorem q1451 : (Jvm.Cond.methodLink "java/util/HashMap" (215 : Nat) ({ cls := "java/util/HashMap", name := "replacementTreeNode", desc := "(Ljava/util/HashMap$Node;Ljava/util/HashMap$Node;)Ljava/util/HashMap$TreeNode;" } : Jvm.MethodName)) ∈ lw_all := lw_g (lw_at lw_m6 146 rfl) rfl
theorem q1452 : (Jvm.Cond.instanceMethod ({ cls := "java/util/HashMap", name := "replacementTreeNode", desc := "(Ljava/util/HashMap$Node;Ljava/util/HashMap$Node;)Ljava/util/HashMap$TreeNode;" } : Jvm.MethodName)) ∈ lw_all := lw_g (lw_at lw_m6 147 rfl) rfl
theorem q1453 : (Jvm.Cond.selects "java/util/HashMap" ({ cls := "java/util/HashMap", name := "replacementTreeNode", desc := "(Ljava/util/HashMap$Node;Ljava/util/HashMap$Node;)Ljava/util/HashMap$TreeNode;" } : Jvm.MethodName) ({ cls := "java/util/HashMap", name := "replacementTreeNode", desc := "(Ljava/util/HashMap$Node;Ljava/util/HashMap$Node;)Ljava/util/HashMap$TreeNode;" } : Jvm.MethodName)) ∈ lw_all := lw_g (lw_at lw_m6 148 rfl) rfl
theorem q1454 : (Jvm.Cond.sameMethod "java/util/HashMap" "java/util/HashMap" "replacementTreeNode" "(Ljava/util/HashMap$Node;Ljava/util/HashMap$Node;)Ljava/util/HashMap$TreeNode;") ∈ lw_all := lw_g (lw_at lw_m6 149 rfl) rfl
theorem q1458 : (Jvm.Cond.code ({ cls := "java/util/HashMap", name := "replacementTreeNode", desc := "(Ljava/util/HashMap$Node;Ljava/util/HashMap$Node;)Ljava/util/HashMap$TreeNode;" } : Jvm.MethodName) prog_64_method_49_code (3 : Nat) (Option.some (Jvm.ClassFile.FieldType.object "java/util/HashMap$TreeNode"))) ∈ lw_all := lw_g (lw_at lw_m6 153 rfl) rfl
theorem q1459 : (Jvm.Cond.methodLink "java/util/HashMap" (224 : Nat) ({ cls := "java/util/HashMap$TreeNode", name := "treeify", desc := "([Ljava/util/HashMap$Node;)V" } : Jvm.MethodName)) ∈ lw_all := lw_g (lw_at lw_m6 154 rfl) rfl
theorem q1460 : (Jvm.Cond.methodLink "java/util/HashMap" (198 : Nat) ({ cls := "java/util/HashMap", name := "afterNodeAccess", desc := "(Ljava/util/HashMap$Node;)V" } : Jvm.MethodName)) ∈ lw_all := lw_g (lw_at lw_m6 155 rfl) rfl
theorem q1461 : (Jvm.Cond.instanceMethod ({ cls := "java/util/HashMap", name := "afterNodeAccess", desc := "(Ljava/util/HashMap$Node;)V" } : Jvm.MethodName)) ∈ lw_all := lw_g (lw_at lw_m6 156 rfl) rfl
theorem q1462 : (Jvm.Cond.selects "java/util/HashMap" ({ cls := "java/util/HashMap", name := "afterNodeAccess", desc := "(Ljava/util/HashMap$Node;)V" } : Jvm.MethodName) ({ cls := "java/util/HashMap", name := "afterNodeAccess", desc := "(Ljava/util/HashMap$Node;)V" } : Jvm.MethodName)) ∈ lw_all := lw_g (lw_at lw_m6 157 rfl) rfl
theorem q1463 : (Jvm.Cond.sameMethod "java/util/HashMap" "java/util/HashMap" "afterNodeAccess" "(Ljava/util/HashMap$Node;)V") ∈ lw_all := lw_g (lw_at lw_m6 158 rfl) rfl
theorem q1467 : (Jvm.Cond.code ({ cls := "java/util/HashMap", name := "afterNodeAccess", desc := "(Ljava/util/HashMap$Node;)V" } : Jvm.MethodName) prog_64_method_51_code (2 : Nat) (Option.none : Option Jvm.ClassFile.FieldType)) ∈ lw_all := lw_g (lw_at lw_m6 162 rfl) rfl
theorem q1468 : (Jvm.Cond.methodLink "java/util/HashMap" (205 : Nat) ({ cls := "java/util/HashMap", name := "afterNodeInsertion", desc := "(Z)V" } : Jvm.MethodName)) ∈ lw_all := lw_g (lw_at lw_m6 163 rfl) rfl
theorem q1469 : (Jvm.Cond.instanceMethod ({ cls := "java/util/HashMap", name := "afterNodeInsertion", desc := "(Z)V" } : Jvm.MethodName)) ∈ lw_all := lw_g (lw_at lw_m6 164 rfl) rfl
theorem q1470 : (Jvm.Cond.selects "java/util/HashMap" ({ cls := "java/util/HashMap", name := "afterNodeInsertion", desc := "(Z)V" } : Jvm.MethodName) ({ cls := "java/util/HashMap", name := "afterNodeInsertion", desc := "(Z)V" } : Jvm.MethodName)) ∈ lw_all := lw_g (lw_at lw_m6 165 rfl) rfl
theorem q1471 : (Jvm.Cond.sameMethod "java/util/HashMap" "java/util/HashMap" "afterNodeInsertion" "(Z)V") ∈ lw_all := lw_g (lw_at lw_m6 166 rfl) rfl
theorem q1479 : (Jvm.Cond.code ({ cls := "java/util/HashMap", name := "afterNodeInsertion", desc := "(Z)V" } : Jvm.MethodName) prog_64_method_52_code (2 : Nat) (Option.none : Option Jvm.ClassFile.FieldType)) ∈ lw_all := lw_g (lw_at lw_m6 174 rfl) rfl
theorem q1841 : (Jvm.Cond.instanceMethod ({ cls := "java/util/HashMap", name := "clear", desc := "()V" } : Jvm.MethodName)) ∈ lw_all := lw_g (lw_at lw_m8 56 rfl) rfl
theorem q1842 : (Jvm.Cond.code ({ cls := "java/util/HashMap", name := "clear", desc := "()V" } : Jvm.MethodName) prog_64_method_22_code (3 : Nat) (Option.none : Option Jvm.ClassFile.FieldType)) ∈ lw_all := lw_g (lw_at lw_m8 57 rfl) rfl
theorem q1864 : (Jvm.Cond.declares ({ cls := "java/util/HashMap", name := "put", desc := "(Ljava/lang/Object;Ljava/lang/Object;)Ljava/lang/Object;" } : Jvm.MethodName)) ∈ lw_tbl := lw_at lw_m8 79 rfl
theorem q1930 : (Jvm.Cond.instanceMethod ({ cls := "java/util/HashMap", name := "keySet", desc := "()Ljava/util/Set;" } : Jvm.MethodName)) ∈ lw_all := lw_g (lw_at lw_m8 145 rfl) rfl
theorem q1931 : (Jvm.Cond.selects "java/util/HashMap" ({ cls := "java/util/HashMap", name := "keySet", desc := "()Ljava/util/Set;" } : Jvm.MethodName) ({ cls := "java/util/HashMap", name := "keySet", desc := "()Ljava/util/Set;" } : Jvm.MethodName)) ∈ lw_all := lw_g (lw_at lw_m8 146 rfl) rfl
theorem q1932 : (Jvm.Cond.sameMethod "java/util/HashMap" "java/util/HashMap" "keySet" "()Ljava/util/Set;") ∈ lw_all := lw_g (lw_at lw_m8 147 rfl) rfl
theorem q1954 : (Jvm.Cond.code ({ cls := "java/util/HashMap", name := "keySet", desc := "()Ljava/util/Set;" } : Jvm.MethodName) prog_64_method_24_code (2 : Nat) (Option.some (Jvm.ClassFile.FieldType.object "java/util/Set"))) ∈ lw_all := lw_g (lw_at lw_m8 169 rfl) rfl
theorem q1955 : (Jvm.Cond.classLink "java/util/HashMap" (243 : Nat) "java/util/HashMap$KeySet") ∈ lw_all := lw_g (lw_at lw_m8 170 rfl) rfl
theorem q1957 : (Jvm.Cond.methodLink "java/util/HashMap" (245 : Nat) ({ cls := "java/util/HashMap$KeySet", name := "<init>", desc := "(Ljava/util/HashMap;)V" } : Jvm.MethodName)) ∈ lw_all := lw_g (lw_at lw_m8 172 rfl) rfl
theorem q2100 : (Jvm.Cond.declares ({ cls := "java/util/HashMap", name := "getNode", desc := "(Ljava/lang/Object;)Ljava/util/HashMap$Node;" } : Jvm.MethodName)) ∈ lw_tbl := lw_at lw_m9 75 rfl
theorem q2102 : (Jvm.Cond.instanceMethod ({ cls := "java/util/HashMap", name := "getNode", desc := "(Ljava/lang/Object;)Ljava/util/HashMap$Node;" } : Jvm.MethodName)) ∈ lw_all := lw_g (lw_at lw_m9 77 rfl) rfl
theorem q2103 : (Jvm.Cond.code ({ cls := "java/util/HashMap", name := "getNode", desc := "(Ljava/lang/Object;)Ljava/util/HashMap$Node;" } : Jvm.MethodName) prog_64_method_13_code (8 : Nat) (Option.some (Jvm.ClassFile.FieldType.object "java/util/HashMap$Node"))) ∈ lw_all := lw_g (lw_at lw_m9 78 rfl) rfl
theorem q2104 : (Jvm.Cond.methodLink "java/util/HashMap" (182 : Nat) ({ cls := "java/util/HashMap$TreeNode", name := "getTreeNode", desc := "(ILjava/lang/Object;)Ljava/util/HashMap$TreeNode;" } : Jvm.MethodName)) ∈ lw_all := lw_g (lw_at lw_m9 79 rfl) rfl
theorem q3112 : (Jvm.Cond.sameMethod "java/util/HashMap" "java/util/HashMap" "clear" "()V") ∈ lw_all := lw_g (lw_at lw_m13 127 rfl) rfl
theorem q3145 : (Jvm.Cond.castable "java/util/HashMap" "java/lang/Object") ∈ lw_tbl := lw_at lw_m13 160 rfl
theorem in_J4 : ∀ w ∈ wsJ40, w ∈ lw_all := lw_in wsJ40 [843, 844, 837, 838, 839, 840, 841, 842] (by decide +kernel) (by decide +kernel)
/-! java/util/LinkedHashMap -/
set_option maxRecDepth 100000
def RJ5 : String := "java/util/LinkedHashMap"
def TJ5 : u_T := fun k => match k with
  | 0 => ("java/util/AbstractMap", "keySet", "Ljava/util/Set;", false)
  | 1 => ("java/util/AbstractMap", "values", "Ljava/util/Collection;", false)
  | 2 => ("java/util/HashMap", "table", "[Ljava/util/HashMap$Node;", false)
  | 3 => ("java/util/HashMap", "entrySet", "Ljava/util/Set;", false)
  | 4 => ("java/util/HashMap", "size", "I", false)
  | 5 => ("java/util/HashMap", "modCount", "I", false)
  | 6 => ("java/util/HashMap", "threshold", "I", false)
  | 7 => ("java/util/HashMap", "loadFactor", "F", true)
  | 8 => ("java/util/LinkedHashMap", "head", "Ljava/util/LinkedHashMap$Entry;", false)
  | 9 => ("java/util/LinkedHashMap", "tail", "Ljava/util/LinkedHashMap$Entry;", false)
  | 10 => ("java/util/LinkedHashMap", "accessOrder", "Z", true)
  | _ => ("java/util/LinkedHashMap", "putMode", "I", false)
def tyJ5 : Nat → FieldType := fun k => match k with
  | 0 => .object "java/util/Set"
  | 1 => .object "java/util/Collection"
  | 2 => .array (.object "java/util/HashMap$Node")
  | 3 => .object "java/util/Set"
  | 4 => .int
  | 5 => .int
  | 6 => .int
  | 7 => .float
  | 8 => .object "java/util/LinkedHashMap$Entry"
  | 9 => .object "java/util/LinkedHashMap$Entry"
  | 10 => .boolean
  | _ => .int
abbrev wsJ50 : List Cond := u_ws RJ5 TJ5 12
theorem nmJ5 : ∀ a, a < 12 → ∀ b, b < 12 → a ≠ b → (TJ5 a).2.1 ≠ (TJ5 b).2.1 := by decide +kernel
theorem tyJ5_ok : ∀ k, k < 12 → parseFieldDescriptor (TJ5 k).2.2.1 = some (tyJ5 k) := by decide +kernel
abbrev cJ5_init : ByteArray := prog_72_method_16_code
def yJ5_init : MethodName := ⟨RJ5, "<init>", "()V"⟩
def dkwJ5_init_0 : List UInt8 := [42, 183, 0, 87, 42, 3, 181, 0, 1, 42, 3, 181, 0, 64, 177]
abbrev dktJ5_init_0 : List UInt8 := dkwJ5_init_0 ++ []
theorem dksJ5_init_0 : cJ5_init.data.toList.drop 0 = dktJ5_init_0 := by decide +kernel
theorem dJ5_init_0 : decode cJ5_init 0 = .ok (.aload_n 0, 1) := dk_42 (dk_at dksJ5_init_0 0 rfl rfl)
theorem dJ5_init_1 : decode cJ5_init 1 = .ok (.invokespecial 87, 3) := dk_183 0 87 (dk_at dksJ5_init_0 1 rfl rfl)
theorem dJ5_init_4 : decode cJ5_init 4 = .ok (.aload_n 0, 1) := dk_42 (dk_at dksJ5_init_0 4 rfl rfl)
theorem dJ5_init_5 : decode cJ5_init 5 = .ok (.iconst 0, 1) := dk_3 (dk_at dksJ5_init_0 5 rfl rfl)
theorem dJ5_init_6 : decode cJ5_init 6 = .ok (.putfield 1, 3) := dk_181 0 1 (dk_at dksJ5_init_0 6 rfl rfl)
theorem dJ5_init_9 : decode cJ5_init 9 = .ok (.aload_n 0, 1) := dk_42 (dk_at dksJ5_init_0 9 rfl rfl)
theorem dJ5_init_10 : decode cJ5_init 10 = .ok (.iconst 0, 1) := dk_3 (dk_at dksJ5_init_0 10 rfl rfl)
theorem dJ5_init_11 : decode cJ5_init 11 = .ok (.putfield 64, 3) := dk_181 0 64 (dk_at dksJ5_init_0 11 rfl rfl)
theorem dJ5_init_14 : decode cJ5_init 14 = .ok (.return_, 1) := dk_177 (dk_at dksJ5_init_0 14 rfl rfl)
abbrev cJ5_replacementNode : ByteArray := prog_72_method_5_code
def yJ5_replacementNode : MethodName := ⟨RJ5, "replacementNode", "(Ljava/util/HashMap$Node;Ljava/util/HashMap$Node;)Ljava/util/HashMap$Node;"⟩
def dkwJ5_replacementNode_1 : List UInt8 := [183, 0, 28, 58, 4, 42, 45, 25, 4, 182, 0, 46, 25, 4, 176]
abbrev dktJ5_replacementNode_1 : List UInt8 := dkwJ5_replacementNode_1 ++ []
def dkwJ5_replacementNode_0 : List UInt8 := [43, 192, 0, 15, 78, 187, 0, 15, 89, 45, 180, 0, 36, 45, 180, 0, 39, 45, 180, 0, 43, 44]
abbrev dktJ5_replacementNode_0 : List UInt8 := dkwJ5_replacementNode_0 ++ dktJ5_replacementNode_1
theorem dksJ5_replacementNode_0 : cJ5_replacementNode.data.toList.drop 0 = dktJ5_replacementNode_0 := by decide +kernel
theorem dksJ5_replacementNode_1 : cJ5_replacementNode.data.toList.drop 22 = dktJ5_replacementNode_1 := dk_seg dksJ5_replacementNode_0 22 rfl rfl
theorem dJ5_replacementNode_0 : decode cJ5_replacementNode 0 = .ok (.aload_n 1, 1) := dk_43 (dk_at dksJ5_replacementNode_0 0 rfl rfl)
theorem dJ5_replacementNode_1 : decode cJ5_replacementNode 1 = .ok (.checkcast 15, 3) := dk_192 0 15 (dk_at dksJ5_replacementNode_0 1 rfl rfl)
theorem dJ5_replacementNode_4 : decode cJ5_replacementNode 4 = .ok (.astore_n 3, 1) := dk_78 (dk_at dksJ5_replacementNode_0 4 rfl rfl)
theorem dJ5_replacementNode_5 : decode cJ5_replacementNode 5 = .ok (.new 15, 3) := dk_187 0 15 (dk_at dksJ5_replacementNode_0 5 rfl rfl)
theorem dJ5_replacementNode_8 : decode cJ5_replacementNode 8 = .ok (.dup, 1) := dk_89 (dk_at dksJ5_replacementNode_0 8 rfl rfl)
theorem dJ5_replacementNode_9 : decode cJ5_replacementNode 9 = .ok (.aload_n 3, 1) := dk_45 (dk_at dksJ5_replacementNode_0 9 rfl rfl)
theorem dJ5_replacementNode_10 : decode cJ5_replacementNode 10 = .ok (.getfield 36, 3) := dk_180 0 36 (dk_at dksJ5_replacementNode_0 10 rfl rfl)
theorem dJ5_replacementNode_13 : decode cJ5_replacementNode 13 = .ok (.aload_n 3, 1) := dk_45 (dk_at dksJ5_replacementNode_0 13 rfl rfl)
theorem dJ5_replacementNode_14 : decode cJ5_replacementNode 14 = .ok (.getfield 39, 3) := dk_180 0 39 (dk_at dksJ5_replacementNode_0 14 rfl rfl)
theorem dJ5_replacementNode_17 : decode cJ5_replacementNode 17 = .ok (.aload_n 3, 1) := dk_45 (dk_at dksJ5_replacementNode_0 17 rfl rfl)
theorem dJ5_replacementNode_18 : decode cJ5_replacementNode 18 = .ok (.getfield 43, 3) := dk_180 0 43 (dk_at dksJ5_replacementNode_0 18 rfl rfl)
theorem dJ5_replacementNode_21 : decode cJ5_replacementNode 21 = .ok (.aload_n 2, 1) := dk_44 (dk_at dksJ5_replacementNode_0 21 rfl rfl)
theorem dJ5_replacementNode_22 : decode cJ5_replacementNode 22 = .ok (.invokespecial 28, 3) := dk_183 0 28 (dk_at dksJ5_replacementNode_1 0 rfl rfl)
theorem dJ5_replacementNode_25 : decode cJ5_replacementNode 25 = .ok (.astore 4, 2) := dk_58 4 (dk_at dksJ5_replacementNode_1 3 rfl rfl)
theorem dJ5_replacementNode_27 : decode cJ5_replacementNode 27 = .ok (.aload_n 0, 1) := dk_42 (dk_at dksJ5_replacementNode_1 5 rfl rfl)
theorem dJ5_replacementNode_28 : decode cJ5_replacementNode 28 = .ok (.aload_n 3, 1) := dk_45 (dk_at dksJ5_replacementNode_1 6 rfl rfl)
theorem dJ5_replacementNode_29 : decode cJ5_replacementNode 29 = .ok (.aload 4, 2) := dk_25 4 (dk_at dksJ5_replacementNode_1 7 rfl rfl)
theorem dJ5_replacementNode_31 : decode cJ5_replacementNode 31 = .ok (.invokevirtual 46, 3) := dk_182 0 46 (dk_at dksJ5_replacementNode_1 9 rfl rfl)
theorem dJ5_replacementNode_34 : decode cJ5_replacementNode 34 = .ok (.aload 4, 2) := dk_25 4 (dk_at dksJ5_replacementNode_1 12 rfl rfl)
theorem dJ5_replacementNode_36 : decode cJ5_replacementNode 36 = .ok (.areturn, 1) := dk_176 (dk_at dksJ5_replacementNode_1 14 rfl rfl)
abbrev cJ5_transferLinks : ByteArray := prog_72_method_2_code
def yJ5_transferLinks : MethodName := ⟨RJ5, "transferLinks", "(Ljava/util/LinkedHashMap$Entry;Ljava/util/LinkedHashMap$Entry;)V"⟩
def dkwJ5_transferLinks_2 : List UInt8 := [181, 0, 11, 167, 0, 9, 25, 4, 44, 181, 0, 19, 177]
abbrev dktJ5_transferLinks_2 : List UInt8 := dkwJ5_transferLinks_2 ++ []
def dkwJ5_transferLinks_1 : List UInt8 := [199, 0, 11, 42, 44, 181, 0, 7, 167, 0, 8, 45, 44, 181, 0, 14, 25, 4, 199, 0, 11, 42, 44]
abbrev dktJ5_transferLinks_1 : List UInt8 := dkwJ5_transferLinks_1 ++ dktJ5_transferLinks_2
def dkwJ5_transferLinks_0 : List UInt8 := [44, 43, 180, 0, 19, 90, 181, 0, 19, 78, 44, 43, 180, 0, 14, 90, 181, 0, 14, 58, 4, 45]
abbrev dktJ5_transferLinks_0 : List UInt8 := dkwJ5_transferLinks_0 ++ dktJ5_transferLinks_1
theorem dksJ5_transferLinks_0 : cJ5_transferLinks.data.toList.drop 0 = dktJ5_transferLinks_0 := by decide +kernel
theorem dksJ5_transferLinks_1 : cJ5_transferLinks.data.toList.drop 22 = dktJ5_transferLinks_1 := dk_seg dksJ5_transferLinks_0 22 rfl rfl
theorem dksJ5_transferLinks_2 : cJ5_transferLinks.data.toList.drop 45 = dktJ5_transferLinks_2 := dk_seg dksJ5_transferLinks_1 23 rfl rfl
theorem dJ5_transferLinks_0 : decode cJ5_transferLinks 0 = .ok (.aload_n 2, 1) := dk_44 (dk_at dksJ5_transferLinks_0 0 rfl rfl)
theorem dJ5_transferLinks_1 : decode cJ5_transferLinks 1 = .ok (.aload_n 1, 1) := dk_43 (dk_at dksJ5_transferLinks_0 1 rfl rfl)
theorem dJ5_transferLinks_2 : decode cJ5_transferLinks 2 = .ok (.getfield 19, 3) := dk_180 0 19 (dk_at dksJ5_transferLinks_0 2 rfl rfl)
theorem dJ5_transferLinks_5 : decode cJ5_transferLinks 5 = .ok (.dup_x1, 1) := dk_90 (dk_at dksJ5_transferLinks_0 5 rfl rfl)
theorem dJ5_transferLinks_6 : decode cJ5_transferLinks 6 = .ok (.putfield 19, 3) := dk_181 0 19 (dk_at dksJ5_transferLinks_0 6 rfl rfl)
theorem dJ5_transferLinks_9 : decode cJ5_transferLinks 9 = .ok (.astore_n 3, 1) := dk_78 (dk_at dksJ5_transferLinks_0 9 rfl rfl)
theorem dJ5_transferLinks_10 : decode cJ5_transferLinks 10 = .ok (.aload_n 2, 1) := dk_44 (dk_at dksJ5_transferLinks_0 10 rfl rfl)
theorem dJ5_transferLinks_11 : decode cJ5_transferLinks 11 = .ok (.aload_n 1, 1) := dk_43 (dk_at dksJ5_transferLinks_0 11 rfl rfl)
theorem dJ5_transferLinks_12 : decode cJ5_transferLinks 12 = .ok (.getfield 14, 3) := dk_180 0 14 (dk_at dksJ5_transferLinks_0 12 rfl rfl)
theorem dJ5_transferLinks_15 : decode cJ5_transferLinks 15 = .ok (.dup_x1, 1) := dk_90 (dk_at dksJ5_transferLinks_0 15 rfl rfl)
theorem dJ5_transferLinks_16 : decode cJ5_transferLinks 16 = .ok (.putfield 14, 3) := dk_181 0 14 (dk_at dksJ5_transferLinks_0 16 rfl rfl)
theorem dJ5_transferLinks_19 : decode cJ5_transferLinks 19 = .ok (.astore 4, 2) := dk_58 4 (dk_at dksJ5_transferLinks_0 19 rfl rfl)
theorem dJ5_transferLinks_21 : decode cJ5_transferLinks 21 = .ok (.aload_n 3, 1) := dk_45 (dk_at dksJ5_transferLinks_0 21 rfl rfl)
theorem dJ5_transferLinks_22 : decode cJ5_transferLinks 22 = .ok (.ifnonnull 11, 3) := dk_199 0 11 (dk_at dksJ5_transferLinks_1 0 rfl rfl)
theorem dJ5_transferLinks_25 : decode cJ5_transferLinks 25 = .ok (.aload_n 0, 1) := dk_42 (dk_at dksJ5_transferLinks_1 3 rfl rfl)
theorem dJ5_transferLinks_26 : decode cJ5_transferLinks 26 = .ok (.aload_n 2, 1) := dk_44 (dk_at dksJ5_transferLinks_1 4 rfl rfl)
theorem dJ5_transferLinks_27 : decode cJ5_transferLinks 27 = .ok (.putfield 7, 3) := dk_181 0 7 (dk_at dksJ5_transferLinks_1 5 rfl rfl)
theorem dJ5_transferLinks_30 : decode cJ5_transferLinks 30 = .ok (.goto 8, 3) := dk_167 0 8 (dk_at dksJ5_transferLinks_1 8 rfl rfl)
theorem dJ5_transferLinks_33 : decode cJ5_transferLinks 33 = .ok (.aload_n 3, 1) := dk_45 (dk_at dksJ5_transferLinks_1 11 rfl rfl)
theorem dJ5_transferLinks_34 : decode cJ5_transferLinks 34 = .ok (.aload_n 2, 1) := dk_44 (dk_at dksJ5_transferLinks_1 12 rfl rfl)
theorem dJ5_transferLinks_35 : decode cJ5_transferLinks 35 = .ok (.putfield 14, 3) := dk_181 0 14 (dk_at dksJ5_transferLinks_1 13 rfl rfl)
theorem dJ5_transferLinks_38 : decode cJ5_transferLinks 38 = .ok (.aload 4, 2) := dk_25 4 (dk_at dksJ5_transferLinks_1 16 rfl rfl)
theorem dJ5_transferLinks_40 : decode cJ5_transferLinks 40 = .ok (.ifnonnull 11, 3) := dk_199 0 11 (dk_at dksJ5_transferLinks_1 18 rfl rfl)
theorem dJ5_transferLinks_43 : decode cJ5_transferLinks 43 = .ok (.aload_n 0, 1) := dk_42 (dk_at dksJ5_transferLinks_1 21 rfl rfl)
theorem dJ5_transferLinks_44 : decode cJ5_transferLinks 44 = .ok (.aload_n 2, 1) := dk_44 (dk_at dksJ5_transferLinks_1 22 rfl rfl)
theorem dJ5_transferLinks_45 : decode cJ5_transferLinks 45 = .ok (.putfield 11, 3) := dk_181 0 11 (dk_at dksJ5_transferLinks_2 0 rfl rfl)
theorem dJ5_transferLinks_48 : decode cJ5_transferLinks 48 = .ok (.goto 9, 3) := dk_167 0 9 (dk_at dksJ5_transferLinks_2 3 rfl rfl)
theorem dJ5_transferLinks_51 : decode cJ5_transferLinks 51 = .ok (.aload 4, 2) := dk_25 4 (dk_at dksJ5_transferLinks_2 6 rfl rfl)
theorem dJ5_transferLinks_53 : decode cJ5_transferLinks 53 = .ok (.aload_n 2, 1) := dk_44 (dk_at dksJ5_transferLinks_2 8 rfl rfl)
theorem dJ5_transferLinks_54 : decode cJ5_transferLinks 54 = .ok (.putfield 19, 3) := dk_181 0 19 (dk_at dksJ5_transferLinks_2 9 rfl rfl)
theorem dJ5_transferLinks_57 : decode cJ5_transferLinks 57 = .ok (.return_, 1) := dk_177 (dk_at dksJ5_transferLinks_2 12 rfl rfl)
abbrev cJ5_newNode : ByteArray := prog_72_method_4_code
def yJ5_newNode : MethodName := ⟨RJ5, "newNode", "(ILjava/lang/Object;Ljava/lang/Object;Ljava/util/HashMap$Node;)Ljava/util/HashMap$Node;"⟩
def dkwJ5_newNode_0 : List UInt8 := [187, 0, 15, 89, 27, 44, 45, 25, 4, 183, 0, 28, 58, 5, 42, 25, 5, 182, 0, 32, 25, 5, 176]
abbrev dktJ5_newNode_0 : List UInt8 := dkwJ5_newNode_0 ++ []
theorem dksJ5_newNode_0 : cJ5_newNode.data.toList.drop 0 = dktJ5_newNode_0 := by decide +kernel
theorem dJ5_newNode_0 : decode cJ5_newNode 0 = .ok (.new 15, 3) := dk_187 0 15 (dk_at dksJ5_newNode_0 0 rfl rfl)
theorem dJ5_newNode_3 : decode cJ5_newNode 3 = .ok (.dup, 1) := dk_89 (dk_at dksJ5_newNode_0 3 rfl rfl)
theorem dJ5_newNode_4 : decode cJ5_newNode 4 = .ok (.iload_n 1, 1) := dk_27 (dk_at dksJ5_newNode_0 4 rfl rfl)
theorem dJ5_newNode_5 : decode cJ5_newNode 5 = .ok (.aload_n 2, 1) := dk_44 (dk_at dksJ5_newNode_0 5 rfl rfl)
theorem dJ5_newNode_6 : decode cJ5_newNode 6 = .ok (.aload_n 3, 1) := dk_45 (dk_at dksJ5_newNode_0 6 rfl rfl)
theorem dJ5_newNode_7 : decode cJ5_newNode 7 = .ok (.aload 4, 2) := dk_25 4 (dk_at dksJ5_newNode_0 7 rfl rfl)
theorem dJ5_newNode_9 : decode cJ5_newNode 9 = .ok (.invokespecial 28, 3) := dk_183 0 28 (dk_at dksJ5_newNode_0 9 rfl rfl)
theorem dJ5_newNode_12 : decode cJ5_newNode 12 = .ok (.astore 5, 2) := dk_58 5 (dk_at dksJ5_newNode_0 12 rfl rfl)
theorem dJ5_newNode_14 : decode cJ5_newNode 14 = .ok (.aload_n 0, 1) := dk_42 (dk_at dksJ5_newNode_0 14 rfl rfl)
theorem dJ5_newNode_15 : decode cJ5_newNode 15 = .ok (.aload 5, 2) := dk_25 5 (dk_at dksJ5_newNode_0 15 rfl rfl)
theorem dJ5_newNode_17 : decode cJ5_newNode 17 = .ok (.invokevirtual 32, 3) := dk_182 0 32 (dk_at dksJ5_newNode_0 17 rfl rfl)
theorem dJ5_newNode_20 : decode cJ5_newNode 20 = .ok (.aload 5, 2) := dk_25 5 (dk_at dksJ5_newNode_0 20 rfl rfl)
theorem dJ5_newNode_22 : decode cJ5_newNode 22 = .ok (.areturn, 1) := dk_176 (dk_at dksJ5_newNode_0 22 rfl rfl)
abbrev cJ5_linkNodeAtEnd : ByteArray := prog_72_method_1_code
def yJ5_linkNodeAtEnd : MethodName := ⟨RJ5, "linkNodeAtEnd", "(Ljava/util/LinkedHashMap$Entry;)V"⟩
def dkwJ5_linkNodeAtEnd_3 : List UInt8 := [181, 0, 14, 177]
abbrev dktJ5_linkNodeAtEnd_3 : List UInt8 := dkwJ5_linkNodeAtEnd_3 ++ []
def dkwJ5_linkNodeAtEnd_2 : List UInt8 := [42, 43, 181, 0, 11, 44, 199, 0, 11, 42, 43, 181, 0, 7, 167, 0, 13, 43, 44, 181, 0, 19, 44, 43]
abbrev dktJ5_linkNodeAtEnd_2 : List UInt8 := dkwJ5_linkNodeAtEnd_2 ++ dktJ5_linkNodeAtEnd_3
def dkwJ5_linkNodeAtEnd_1 : List UInt8 := [181, 0, 11, 167, 0, 13, 43, 44, 181, 0, 14, 44, 43, 181, 0, 19, 167, 0, 35, 42, 180, 0, 11, 77]
abbrev dktJ5_linkNodeAtEnd_1 : List UInt8 := dkwJ5_linkNodeAtEnd_1 ++ dktJ5_linkNodeAtEnd_2
def dkwJ5_linkNodeAtEnd_0 : List UInt8 := [42, 180, 0, 1, 4, 160, 0, 38, 42, 180, 0, 7, 77, 42, 43, 181, 0, 7, 44, 199, 0, 11, 42, 43]
abbrev dktJ5_linkNodeAtEnd_0 : List UInt8 := dkwJ5_linkNodeAtEnd_0 ++ dktJ5_linkNodeAtEnd_1
theorem dksJ5_linkNodeAtEnd_0 : cJ5_linkNodeAtEnd.data.toList.drop 0 = dktJ5_linkNodeAtEnd_0 := by decide +kernel
theorem dksJ5_linkNodeAtEnd_1 : cJ5_linkNodeAtEnd.data.toList.drop 24 = dktJ5_linkNodeAtEnd_1 := dk_seg dksJ5_linkNodeAtEnd_0 24 rfl rfl
theorem dksJ5_linkNodeAtEnd_2 : cJ5_linkNodeAtEnd.data.toList.drop 48 = dktJ5_linkNodeAtEnd_2 := dk_seg dksJ5_linkNodeAtEnd_1 24 rfl rfl
theorem dksJ5_linkNodeAtEnd_3 : cJ5_linkNodeAtEnd.data.toList.drop 72 = dktJ5_linkNodeAtEnd_3 := dk_seg dksJ5_linkNodeAtEnd_2 24 rfl rfl
theorem dJ5_linkNodeAtEnd_0 : decode cJ5_linkNodeAtEnd 0 = .ok (.aload_n 0, 1) := dk_42 (dk_at dksJ5_linkNodeAtEnd_0 0 rfl rfl)
theorem dJ5_linkNodeAtEnd_1 : decode cJ5_linkNodeAtEnd 1 = .ok (.getfield 1, 3) := dk_180 0 1 (dk_at dksJ5_linkNodeAtEnd_0 1 rfl rfl)
theorem dJ5_linkNodeAtEnd_4 : decode cJ5_linkNodeAtEnd 4 = .ok (.iconst 1, 1) := dk_4 (dk_at dksJ5_linkNodeAtEnd_0 4 rfl rfl)
theorem dJ5_linkNodeAtEnd_5 : decode cJ5_linkNodeAtEnd 5 = .ok (.if_icmp .ne 38, 3) := dk_160 0 38 (dk_at dksJ5_linkNodeAtEnd_0 5 rfl rfl)
theorem dJ5_linkNodeAtEnd_8 : decode cJ5_linkNodeAtEnd 8 = .ok (.aload_n 0, 1) := dk_42 (dk_at dksJ5_linkNodeAtEnd_0 8 rfl rfl)
theorem dJ5_linkNodeAtEnd_9 : decode cJ5_linkNodeAtEnd 9 = .ok (.getfield 7, 3) := dk_180 0 7 (dk_at dksJ5_linkNodeAtEnd_0 9 rfl rfl)
theorem dJ5_linkNodeAtEnd_12 : decode cJ5_linkNodeAtEnd 12 = .ok (.astore_n 2, 1) := dk_77 (dk_at dksJ5_linkNodeAtEnd_0 12 rfl rfl)
theorem dJ5_linkNodeAtEnd_13 : decode cJ5_linkNodeAtEnd 13 = .ok (.aload_n 0, 1) := dk_42 (dk_at dksJ5_linkNodeAtEnd_0 13 rfl rfl)
theorem dJ5_linkNodeAtEnd_14 : decode cJ5_linkNodeAtEnd 14 = .ok (.aload_n 1, 1) := dk_43 (dk_at dksJ5_linkNodeAtEnd_0 14 rfl rfl)
theorem dJ5_linkNodeAtEnd_15 : decode cJ5_linkNodeAtEnd 15 = .ok (.putfield 7, 3) := dk_181 0 7 (dk_at dksJ5_linkNodeAtEnd_0 15 rfl rfl)
theorem dJ5_linkNodeAtEnd_18 : decode cJ5_linkNodeAtEnd 18 = .ok (.aload_n 2, 1) := dk_44 (dk_at dksJ5_linkNodeAtEnd_0 18 rfl rfl)
theorem dJ5_linkNodeAtEnd_19 : decode cJ5_linkNodeAtEnd 19 = .ok (.ifnonnull 11, 3) := dk_199 0 11 (dk_at dksJ5_linkNodeAtEnd_0 19 rfl rfl)
theorem dJ5_linkNodeAtEnd_22 : decode cJ5_linkNodeAtEnd 22 = .ok (.aload_n 0, 1) := dk_42 (dk_at dksJ5_linkNodeAtEnd_0 22 rfl rfl)
theorem dJ5_linkNodeAtEnd_23 : decode cJ5_linkNodeAtEnd 23 = .ok (.aload_n 1, 1) := dk_43 (dk_at dksJ5_linkNodeAtEnd_0 23 rfl rfl)
theorem dJ5_linkNodeAtEnd_24 : decode cJ5_linkNodeAtEnd 24 = .ok (.putfield 11, 3) := dk_181 0 11 (dk_at dksJ5_linkNodeAtEnd_1 0 rfl rfl)
theorem dJ5_linkNodeAtEnd_27 : decode cJ5_linkNodeAtEnd 27 = .ok (.goto 13, 3) := dk_167 0 13 (dk_at dksJ5_linkNodeAtEnd_1 3 rfl rfl)
theorem dJ5_linkNodeAtEnd_30 : decode cJ5_linkNodeAtEnd 30 = .ok (.aload_n 1, 1) := dk_43 (dk_at dksJ5_linkNodeAtEnd_1 6 rfl rfl)
theorem dJ5_linkNodeAtEnd_31 : decode cJ5_linkNodeAtEnd 31 = .ok (.aload_n 2, 1) := dk_44 (dk_at dksJ5_linkNodeAtEnd_1 7 rfl rfl)
theorem dJ5_linkNodeAtEnd_32 : decode cJ5_linkNodeAtEnd 32 = .ok (.putfield 14, 3) := dk_181 0 14 (dk_at dksJ5_linkNodeAtEnd_1 8 rfl rfl)
theorem dJ5_linkNodeAtEnd_35 : decode cJ5_linkNodeAtEnd 35 = .ok (.aload_n 2, 1) := dk_44 (dk_at dksJ5_linkNodeAtEnd_1 11 rfl rfl)
theorem dJ5_linkNodeAtEnd_36 : decode cJ5_linkNodeAtEnd 36 = .ok (.aload_n 1, 1) := dk_43 (dk_at dksJ5_linkNodeAtEnd_1 12 rfl rfl)
theorem dJ5_linkNodeAtEnd_37 : decode cJ5_linkNodeAtEnd 37 = .ok (.putfield 19, 3) := dk_181 0 19 (dk_at dksJ5_linkNodeAtEnd_1 13 rfl rfl)
theorem dJ5_linkNodeAtEnd_40 : decode cJ5_linkNodeAtEnd 40 = .ok (.goto 35, 3) := dk_167 0 35 (dk_at dksJ5_linkNodeAtEnd_1 16 rfl rfl)
theorem dJ5_linkNodeAtEnd_43 : decode cJ5_linkNodeAtEnd 43 = .ok (.aload_n 0, 1) := dk_42 (dk_at dksJ5_linkNodeAtEnd_1 19 rfl rfl)
theorem dJ5_linkNodeAtEnd_44 : decode cJ5_linkNodeAtEnd 44 = .ok (.getfield 11, 3) := dk_180 0 11 (dk_at dksJ5_linkNodeAtEnd_1 20 rfl rfl)
theorem dJ5_linkNodeAtEnd_47 : decode cJ5_linkNodeAtEnd 47 = .ok (.astore_n 2, 1) := dk_77 (dk_at dksJ5_linkNodeAtEnd_1 23 rfl rfl)
theorem dJ5_linkNodeAtEnd_48 : decode cJ5_linkNodeAtEnd 48 = .ok (.aload_n 0, 1) := dk_42 (dk_at dksJ5_linkNodeAtEnd_2 0 rfl rfl)
theorem dJ5_linkNodeAtEnd_49 : decode cJ5_linkNodeAtEnd 49 = .ok (.aload_n 1, 1) := dk_43 (dk_at dksJ5_linkNodeAtEnd_2 1 rfl rfl)
theorem dJ5_linkNodeAtEnd_50 : decode cJ5_linkNodeAtEnd 50 = .ok (.putfield 11, 3) := dk_181 0 11 (dk_at dksJ5_linkNodeAtEnd_2 2 rfl rfl)
theorem dJ5_linkNodeAtEnd_53 : decode cJ5_linkNodeAtEnd 53 = .ok (.aload_n 2, 1) := dk_44 (dk_at dksJ5_linkNodeAtEnd_2 5 rfl rfl)
theorem dJ5_linkNodeAtEnd_54 : decode cJ5_linkNodeAtEnd 54 = .ok (.ifnonnull 11, 3) := dk_199 0 11 (dk_at dksJ5_linkNodeAtEnd_2 6 rfl rfl)
theorem dJ5_linkNodeAtEnd_57 : decode cJ5_linkNodeAtEnd 57 = .ok (.aload_n 0, 1) := dk_42 (dk_at dksJ5_linkNodeAtEnd_2 9 rfl rfl)
theorem dJ5_linkNodeAtEnd_58 : decode cJ5_linkNodeAtEnd 58 = .ok (.aload_n 1, 1) := dk_43 (dk_at dksJ5_linkNodeAtEnd_2 10 rfl rfl)
theorem dJ5_linkNodeAtEnd_59 : decode cJ5_linkNodeAtEnd 59 = .ok (.putfield 7, 3) := dk_181 0 7 (dk_at dksJ5_linkNodeAtEnd_2 11 rfl rfl)
theorem dJ5_linkNodeAtEnd_62 : decode cJ5_linkNodeAtEnd 62 = .ok (.goto 13, 3) := dk_167 0 13 (dk_at dksJ5_linkNodeAtEnd_2 14 rfl rfl)
theorem dJ5_linkNodeAtEnd_65 : decode cJ5_linkNodeAtEnd 65 = .ok (.aload_n 1, 1) := dk_43 (dk_at dksJ5_linkNodeAtEnd_2 17 rfl rfl)
theorem dJ5_linkNodeAtEnd_66 : decode cJ5_linkNodeAtEnd 66 = .ok (.aload_n 2, 1) := dk_44 (dk_at dksJ5_linkNodeAtEnd_2 18 rfl rfl)
theorem dJ5_linkNodeAtEnd_67 : decode cJ5_linkNodeAtEnd 67 = .ok (.putfield 19, 3) := dk_181 0 19 (dk_at dksJ5_linkNodeAtEnd_2 19 rfl rfl)
theorem dJ5_linkNodeAtEnd_70 : decode cJ5_linkNodeAtEnd 70 = .ok (.aload_n 2, 1) := dk_44 (dk_at dksJ5_linkNodeAtEnd_2 22 rfl rfl)
theorem dJ5_linkNodeAtEnd_71 : decode cJ5_linkNodeAtEnd 71 = .ok (.aload_n 1, 1) := dk_43 (dk_at dksJ5_linkNodeAtEnd_2 23 rfl rfl)
theorem dJ5_linkNodeAtEnd_72 : decode cJ5_linkNodeAtEnd 72 = .ok (.putfield 14, 3) := dk_181 0 14 (dk_at dksJ5_linkNodeAtEnd_3 0 rfl rfl)
theorem dJ5_linkNodeAtEnd_75 : decode cJ5_linkNodeAtEnd 75 = .ok (.return_, 1) := dk_177 (dk_at dksJ5_linkNodeAtEnd_3 3 rfl rfl)
abbrev cJ5_newTreeNode : ByteArray := prog_72_method_6_code
def yJ5_newTreeNode : MethodName := ⟨RJ5, "newTreeNode", "(ILjava/lang/Object;Ljava/lang/Object;Ljava/util/HashMap$Node;)Ljava/util/HashMap$TreeNode;"⟩
def dkwJ5_newTreeNode_0 : List UInt8 := [187, 0, 50, 89, 27, 44, 45, 25, 4, 183, 0, 52, 58, 5, 42, 25, 5, 182, 0, 32, 25, 5, 176]
abbrev dktJ5_newTreeNode_0 : List UInt8 := dkwJ5_newTreeNode_0 ++ []
theorem dksJ5_newTreeNode_0 : cJ5_newTreeNode.data.toList.drop 0 = dktJ5_newTreeNode_0 := by decide +kernel
theorem dJ5_newTreeNode_0 : decode cJ5_newTreeNode 0 = .ok (.new 50, 3) := dk_187 0 50 (dk_at dksJ5_newTreeNode_0 0 rfl rfl)
theorem dJ5_newTreeNode_3 : decode cJ5_newTreeNode 3 = .ok (.dup, 1) := dk_89 (dk_at dksJ5_newTreeNode_0 3 rfl rfl)
theorem dJ5_newTreeNode_4 : decode cJ5_newTreeNode 4 = .ok (.iload_n 1, 1) := dk_27 (dk_at dksJ5_newTreeNode_0 4 rfl rfl)
theorem dJ5_newTreeNode_5 : decode cJ5_newTreeNode 5 = .ok (.aload_n 2, 1) := dk_44 (dk_at dksJ5_newTreeNode_0 5 rfl rfl)
theorem dJ5_newTreeNode_6 : decode cJ5_newTreeNode 6 = .ok (.aload_n 3, 1) := dk_45 (dk_at dksJ5_newTreeNode_0 6 rfl rfl)
theorem dJ5_newTreeNode_7 : decode cJ5_newTreeNode 7 = .ok (.aload 4, 2) := dk_25 4 (dk_at dksJ5_newTreeNode_0 7 rfl rfl)
theorem dJ5_newTreeNode_9 : decode cJ5_newTreeNode 9 = .ok (.invokespecial 52, 3) := dk_183 0 52 (dk_at dksJ5_newTreeNode_0 9 rfl rfl)
theorem dJ5_newTreeNode_12 : decode cJ5_newTreeNode 12 = .ok (.astore 5, 2) := dk_58 5 (dk_at dksJ5_newTreeNode_0 12 rfl rfl)
theorem dJ5_newTreeNode_14 : decode cJ5_newTreeNode 14 = .ok (.aload_n 0, 1) := dk_42 (dk_at dksJ5_newTreeNode_0 14 rfl rfl)
theorem dJ5_newTreeNode_15 : decode cJ5_newTreeNode 15 = .ok (.aload 5, 2) := dk_25 5 (dk_at dksJ5_newTreeNode_0 15 rfl rfl)
theorem dJ5_newTreeNode_17 : decode cJ5_newTreeNode 17 = .ok (.invokevirtual 32, 3) := dk_182 0 32 (dk_at dksJ5_newTreeNode_0 17 rfl rfl)
theorem dJ5_newTreeNode_20 : decode cJ5_newTreeNode 20 = .ok (.aload 5, 2) := dk_25 5 (dk_at dksJ5_newTreeNode_0 20 rfl rfl)
theorem dJ5_newTreeNode_22 : decode cJ5_newTreeNode 22 = .ok (.areturn, 1) := dk_176 (dk_at dksJ5_newTreeNode_0 22 rfl rfl)
abbrev cJ5_replacementTreeNode : ByteArray := prog_72_method_7_code
def yJ5_replacementTreeNode : MethodName := ⟨RJ5, "replacementTreeNode", "(Ljava/util/HashMap$Node;Ljava/util/HashMap$Node;)Ljava/util/HashMap$TreeNode;"⟩
def dkwJ5_replacementTreeNode_1 : List UInt8 := [183, 0, 52, 58, 4, 42, 45, 25, 4, 182, 0, 46, 25, 4, 176]
abbrev dktJ5_replacementTreeNode_1 : List UInt8 := dkwJ5_replacementTreeNode_1 ++ []
def dkwJ5_replacementTreeNode_0 : List UInt8 := [43, 192, 0, 15, 78, 187, 0, 50, 89, 45, 180, 0, 36, 45, 180, 0, 39, 45, 180, 0, 43, 44]
abbrev dktJ5_replacementTreeNode_0 : List UInt8 := dkwJ5_replacementTreeNode_0 ++ dktJ5_replacementTreeNode_1
theorem dksJ5_replacementTreeNode_0 : cJ5_replacementTreeNode.data.toList.drop 0 = dktJ5_replacementTreeNode_0 := by decide +kernel
theorem dksJ5_replacementTreeNode_1 : cJ5_replacementTreeNode.data.toList.drop 22 = dktJ5_replacementTreeNode_1 := dk_seg dksJ5_replacementTreeNode_0 22 rfl rfl
theorem dJ5_replacementTreeNode_0 : decode cJ5_replacementTreeNode 0 = .ok (.aload_n 1, 1) := dk_43 (dk_at dksJ5_replacementTreeNode_0 0 rfl rfl)
theorem dJ5_replacementTreeNode_1 : decode cJ5_replacementTreeNode 1 = .ok (.checkcast 15, 3) := dk_192 0 15 (dk_at dksJ5_replacementTreeNode_0 1 rfl rfl)
theorem dJ5_replacementTreeNode_4 : decode cJ5_replacementTreeNode 4 = .ok (.astore_n 3, 1) := dk_78 (dk_at dksJ5_replacementTreeNode_0 4 rfl rfl)
theorem dJ5_replacementTreeNode_5 : decode cJ5_replacementTreeNode 5 = .ok (.new 50, 3) := dk_187 0 50 (dk_at dksJ5_replacementTreeNode_0 5 rfl rfl)
theorem dJ5_replacementTreeNode_8 : decode cJ5_replacementTreeNode 8 = .ok (.dup, 1) := dk_89 (dk_at dksJ5_replacementTreeNode_0 8 rfl rfl)
theorem dJ5_replacementTreeNode_9 : decode cJ5_replacementTreeNode 9 = .ok (.aload_n 3, 1) := dk_45 (dk_at dksJ5_replacementTreeNode_0 9 rfl rfl)
theorem dJ5_replacementTreeNode_10 : decode cJ5_replacementTreeNode 10 = .ok (.getfield 36, 3) := dk_180 0 36 (dk_at dksJ5_replacementTreeNode_0 10 rfl rfl)
theorem dJ5_replacementTreeNode_13 : decode cJ5_replacementTreeNode 13 = .ok (.aload_n 3, 1) := dk_45 (dk_at dksJ5_replacementTreeNode_0 13 rfl rfl)
theorem dJ5_replacementTreeNode_14 : decode cJ5_replacementTreeNode 14 = .ok (.getfield 39, 3) := dk_180 0 39 (dk_at dksJ5_replacementTreeNode_0 14 rfl rfl)
theorem dJ5_replacementTreeNode_17 : decode cJ5_replacementTreeNode 17 = .ok (.aload_n 3, 1) := dk_45 (dk_at dksJ5_replacementTreeNode_0 17 rfl rfl)
theorem dJ5_replacementTreeNode_18 : decode cJ5_replacementTreeNode 18 = .ok (.getfield 43, 3) := dk_180 0 43 (dk_at dksJ5_replacementTreeNode_0 18 rfl rfl)
theorem dJ5_replacementTreeNode_21 : decode cJ5_replacementTreeNode 21 = .ok (.aload_n 2, 1) := dk_44 (dk_at dksJ5_replacementTreeNode_0 21 rfl rfl)
theorem dJ5_replacementTreeNode_22 : decode cJ5_replacementTreeNode 22 = .ok (.invokespecial 52, 3) := dk_183 0 52 (dk_at dksJ5_replacementTreeNode_1 0 rfl rfl)
theorem dJ5_replacementTreeNode_25 : decode cJ5_replacementTreeNode 25 = .ok (.astore 4, 2) := dk_58 4 (dk_at dksJ5_replacementTreeNode_1 3 rfl rfl)
theorem dJ5_replacementTreeNode_27 : decode cJ5_replacementTreeNode 27 = .ok (.aload_n 0, 1) := dk_42 (dk_at dksJ5_replacementTreeNode_1 5 rfl rfl)
theorem dJ5_replacementTreeNode_28 : decode cJ5_replacementTreeNode 28 = .ok (.aload_n 3, 1) := dk_45 (dk_at dksJ5_replacementTreeNode_1 6 rfl rfl)
theorem dJ5_replacementTreeNode_29 : decode cJ5_replacementTreeNode 29 = .ok (.aload 4, 2) := dk_25 4 (dk_at dksJ5_replacementTreeNode_1 7 rfl rfl)
theorem dJ5_replacementTreeNode_31 : decode cJ5_replacementTreeNode 31 = .ok (.invokevirtual 46, 3) := dk_182 0 46 (dk_at dksJ5_replacementTreeNode_1 9 rfl rfl)
theorem dJ5_replacementTreeNode_34 : decode cJ5_replacementTreeNode 34 = .ok (.aload 4, 2) := dk_25 4 (dk_at dksJ5_replacementTreeNode_1 12 rfl rfl)
theorem dJ5_replacementTreeNode_36 : decode cJ5_replacementTreeNode 36 = .ok (.areturn, 1) := dk_176 (dk_at dksJ5_replacementTreeNode_1 14 rfl rfl)
abbrev cJ5_afterNodeAccess : ByteArray := prog_72_method_10_code
def yJ5_afterNodeAccess : MethodName := ⟨RJ5, "afterNodeAccess", "(Ljava/util/HashMap$Node;)V"⟩
def dkwJ5_afterNodeAccess_11 : List UInt8 := [181, 0, 7, 42, 89, 180, 0, 68, 4, 96, 181, 0, 68, 177]
abbrev dktJ5_afterNodeAccess_11 : List UInt8 := dkwJ5_afterNodeAccess_11 ++ []
def dkwJ5_afterNodeAccess_10 : List UInt8 := [25, 4, 181, 0, 11, 167, 0, 15, 25, 4, 45, 181, 0, 14, 45, 25, 4, 181, 0, 19, 42, 25, 4]
abbrev dktJ5_afterNodeAccess_10 : List UInt8 := dkwJ5_afterNodeAccess_10 ++ dktJ5_afterNodeAccess_11
def dkwJ5_afterNodeAccess_9 : List UInt8 := [25, 5, 198, 0, 13, 25, 5, 25, 6, 181, 0, 14, 167, 0, 6, 25, 6, 78, 45, 199, 0, 12, 42]
abbrev dktJ5_afterNodeAccess_9 : List UInt8 := dkwJ5_afterNodeAccess_9 ++ dktJ5_afterNodeAccess_10
def dkwJ5_afterNodeAccess_8 : List UInt8 := [181, 0, 19, 25, 6, 199, 0, 12, 42, 25, 5, 181, 0, 11, 167, 0, 10, 25, 6, 25, 5, 181, 0, 19]
abbrev dktJ5_afterNodeAccess_8 : List UInt8 := dkwJ5_afterNodeAccess_8 ++ dktJ5_afterNodeAccess_9
def dkwJ5_afterNodeAccess_7 : List UInt8 := [43, 192, 0, 15, 58, 4, 25, 4, 180, 0, 19, 58, 5, 25, 4, 180, 0, 14, 58, 6, 25, 4, 1]
abbrev dktJ5_afterNodeAccess_7 : List UInt8 := dkwJ5_afterNodeAccess_7 ++ dktJ5_afterNodeAccess_8
def dkwJ5_afterNodeAccess_6 : List UInt8 := [181, 0, 68, 167, 0, 127, 42, 180, 0, 1, 4, 160, 0, 119, 42, 180, 0, 7, 89, 78, 43, 165, 0, 109]
abbrev dktJ5_afterNodeAccess_6 : List UInt8 := dkwJ5_afterNodeAccess_6 ++ dktJ5_afterNodeAccess_7
def dkwJ5_afterNodeAccess_5 : List UInt8 := [181, 0, 19, 44, 25, 4, 181, 0, 14, 42, 25, 4, 181, 0, 11, 42, 89, 180, 0, 68, 4, 96]
abbrev dktJ5_afterNodeAccess_5 : List UInt8 := dkwJ5_afterNodeAccess_5 ++ dktJ5_afterNodeAccess_6
def dkwJ5_afterNodeAccess_4 : List UInt8 := [167, 0, 6, 25, 5, 77, 44, 199, 0, 12, 42, 25, 4, 181, 0, 7, 167, 0, 15, 25, 4, 44]
abbrev dktJ5_afterNodeAccess_4 : List UInt8 := dkwJ5_afterNodeAccess_4 ++ dktJ5_afterNodeAccess_5
def dkwJ5_afterNodeAccess_3 : List UInt8 := [167, 0, 10, 25, 5, 25, 6, 181, 0, 14, 25, 6, 198, 0, 13, 25, 6, 25, 5, 181, 0, 19]
abbrev dktJ5_afterNodeAccess_3 : List UInt8 := dkwJ5_afterNodeAccess_3 ++ dktJ5_afterNodeAccess_4
def dkwJ5_afterNodeAccess_2 : List UInt8 := [180, 0, 14, 58, 6, 25, 4, 1, 181, 0, 14, 25, 5, 199, 0, 12, 42, 25, 6, 181, 0, 7]
abbrev dktJ5_afterNodeAccess_2 : List UInt8 := dkwJ5_afterNodeAccess_2 ++ dktJ5_afterNodeAccess_3
def dkwJ5_afterNodeAccess_1 : List UInt8 := [180, 0, 11, 89, 77, 43, 165, 0, 112, 43, 192, 0, 15, 58, 4, 25, 4, 180, 0, 19, 58, 5, 25, 4]
abbrev dktJ5_afterNodeAccess_1 : List UInt8 := dkwJ5_afterNodeAccess_1 ++ dktJ5_afterNodeAccess_2
def dkwJ5_afterNodeAccess_0 : List UInt8 := [42, 180, 0, 1, 5, 159, 0, 17, 42, 180, 0, 1, 154, 0, 129, 42, 180, 0, 64, 153, 0, 122, 42]
abbrev dktJ5_afterNodeAccess_0 : List UInt8 := dkwJ5_afterNodeAccess_0 ++ dktJ5_afterNodeAccess_1
theorem dksJ5_afterNodeAccess_0 : cJ5_afterNodeAccess.data.toList.drop 0 = dktJ5_afterNodeAccess_0 := by decide +kernel
theorem dksJ5_afterNodeAccess_1 : cJ5_afterNodeAccess.data.toList.drop 23 = dktJ5_afterNodeAccess_1 := dk_seg dksJ5_afterNodeAccess_0 23 rfl rfl
theorem dksJ5_afterNodeAccess_2 : cJ5_afterNodeAccess.data.toList.drop 47 = dktJ5_afterNodeAccess_2 := dk_seg dksJ5_afterNodeAccess_1 24 rfl rfl
theorem dksJ5_afterNodeAccess_3 : cJ5_afterNodeAccess.data.toList.drop 69 = dktJ5_afterNodeAccess_3 := dk_seg dksJ5_afterNodeAccess_2 22 rfl rfl
theorem dksJ5_afterNodeAccess_4 : cJ5_afterNodeAccess.data.toList.drop 91 = dktJ5_afterNodeAccess_4 := dk_seg dksJ5_afterNodeAccess_3 22 rfl rfl
theorem dksJ5_afterNodeAccess_5 : cJ5_afterNodeAccess.data.toList.drop 113 = dktJ5_afterNodeAccess_5 := dk_seg dksJ5_afterNodeAccess_4 22 rfl rfl
theorem dksJ5_afterNodeAccess_6 : cJ5_afterNodeAccess.data.toList.drop 135 = dktJ5_afterNodeAccess_6 := dk_seg dksJ5_afterNodeAccess_5 22 rfl rfl
theorem dksJ5_afterNodeAccess_7 : cJ5_afterNodeAccess.data.toList.drop 159 = dktJ5_afterNodeAccess_7 := dk_seg dksJ5_afterNodeAccess_6 24 rfl rfl
theorem dksJ5_afterNodeAccess_8 : cJ5_afterNodeAccess.data.toList.drop 182 = dktJ5_afterNodeAccess_8 := dk_seg dksJ5_afterNodeAccess_7 23 rfl rfl
theorem dksJ5_afterNodeAccess_9 : cJ5_afterNodeAccess.data.toList.drop 206 = dktJ5_afterNodeAccess_9 := dk_seg dksJ5_afterNodeAccess_8 24 rfl rfl
theorem dksJ5_afterNodeAccess_10 : cJ5_afterNodeAccess.data.toList.drop 229 = dktJ5_afterNodeAccess_10 := dk_seg dksJ5_afterNodeAccess_9 23 rfl rfl
theorem dksJ5_afterNodeAccess_11 : cJ5_afterNodeAccess.data.toList.drop 252 = dktJ5_afterNodeAccess_11 := dk_seg dksJ5_afterNodeAccess_10 23 rfl rfl
theorem dJ5_afterNodeAccess_0 : decode cJ5_afterNodeAccess 0 = .ok (.aload_n 0, 1) := dk_42 (dk_at dksJ5_afterNodeAccess_0 0 rfl rfl)
theorem dJ5_afterNodeAccess_1 : decode cJ5_afterNodeAccess 1 = .ok (.getfield 1, 3) := dk_180 0 1 (dk_at dksJ5_afterNodeAccess_0 1 rfl rfl)
theorem dJ5_afterNodeAccess_4 : decode cJ5_afterNodeAccess 4 = .ok (.iconst 2, 1) := dk_5 (dk_at dksJ5_afterNodeAccess_0 4 rfl rfl)
theorem dJ5_afterNodeAccess_5 : decode cJ5_afterNodeAccess 5 = .ok (.if_icmp .eq 17, 3) := dk_159 0 17 (dk_at dksJ5_afterNodeAccess_0 5 rfl rfl)
theorem dJ5_afterNodeAccess_8 : decode cJ5_afterNodeAccess 8 = .ok (.aload_n 0, 1) := dk_42 (dk_at dksJ5_afterNodeAccess_0 8 rfl rfl)
theorem dJ5_afterNodeAccess_9 : decode cJ5_afterNodeAccess 9 = .ok (.getfield 1, 3) := dk_180 0 1 (dk_at dksJ5_afterNodeAccess_0 9 rfl rfl)
theorem dJ5_afterNodeAccess_12 : decode cJ5_afterNodeAccess 12 = .ok (.ifCond .ne 129, 3) := dk_154 0 129 (dk_at dksJ5_afterNodeAccess_0 12 rfl rfl)
theorem dJ5_afterNodeAccess_15 : decode cJ5_afterNodeAccess 15 = .ok (.aload_n 0, 1) := dk_42 (dk_at dksJ5_afterNodeAccess_0 15 rfl rfl)
theorem dJ5_afterNodeAccess_16 : decode cJ5_afterNodeAccess 16 = .ok (.getfield 64, 3) := dk_180 0 64 (dk_at dksJ5_afterNodeAccess_0 16 rfl rfl)
theorem dJ5_afterNodeAccess_19 : decode cJ5_afterNodeAccess 19 = .ok (.ifCond .eq 122, 3) := dk_153 0 122 (dk_at dksJ5_afterNodeAccess_0 19 rfl rfl)
theorem dJ5_afterNodeAccess_22 : decode cJ5_afterNodeAccess 22 = .ok (.aload_n 0, 1) := dk_42 (dk_at dksJ5_afterNodeAccess_0 22 rfl rfl)
theorem dJ5_afterNodeAccess_23 : decode cJ5_afterNodeAccess 23 = .ok (.getfield 11, 3) := dk_180 0 11 (dk_at dksJ5_afterNodeAccess_1 0 rfl rfl)
theorem dJ5_afterNodeAccess_26 : decode cJ5_afterNodeAccess 26 = .ok (.dup, 1) := dk_89 (dk_at dksJ5_afterNodeAccess_1 3 rfl rfl)
theorem dJ5_afterNodeAccess_27 : decode cJ5_afterNodeAccess 27 = .ok (.astore_n 2, 1) := dk_77 (dk_at dksJ5_afterNodeAccess_1 4 rfl rfl)
theorem dJ5_afterNodeAccess_28 : decode cJ5_afterNodeAccess 28 = .ok (.aload_n 1, 1) := dk_43 (dk_at dksJ5_afterNodeAccess_1 5 rfl rfl)
theorem dJ5_afterNodeAccess_29 : decode cJ5_afterNodeAccess 29 = .ok (.if_acmp .eq 112, 3) := dk_165 0 112 (dk_at dksJ5_afterNodeAccess_1 6 rfl rfl)
theorem dJ5_afterNodeAccess_32 : decode cJ5_afterNodeAccess 32 = .ok (.aload_n 1, 1) := dk_43 (dk_at dksJ5_afterNodeAccess_1 9 rfl rfl)
theorem dJ5_afterNodeAccess_33 : decode cJ5_afterNodeAccess 33 = .ok (.checkcast 15, 3) := dk_192 0 15 (dk_at dksJ5_afterNodeAccess_1 10 rfl rfl)
theorem dJ5_afterNodeAccess_36 : decode cJ5_afterNodeAccess 36 = .ok (.astore 4, 2) := dk_58 4 (dk_at dksJ5_afterNodeAccess_1 13 rfl rfl)
theorem dJ5_afterNodeAccess_38 : decode cJ5_afterNodeAccess 38 = .ok (.aload 4, 2) := dk_25 4 (dk_at dksJ5_afterNodeAccess_1 15 rfl rfl)
theorem dJ5_afterNodeAccess_40 : decode cJ5_afterNodeAccess 40 = .ok (.getfield 19, 3) := dk_180 0 19 (dk_at dksJ5_afterNodeAccess_1 17 rfl rfl)
theorem dJ5_afterNodeAccess_43 : decode cJ5_afterNodeAccess 43 = .ok (.astore 5, 2) := dk_58 5 (dk_at dksJ5_afterNodeAccess_1 20 rfl rfl)
theorem dJ5_afterNodeAccess_45 : decode cJ5_afterNodeAccess 45 = .ok (.aload 4, 2) := dk_25 4 (dk_at dksJ5_afterNodeAccess_1 22 rfl rfl)
theorem dJ5_afterNodeAccess_47 : decode cJ5_afterNodeAccess 47 = .ok (.getfield 14, 3) := dk_180 0 14 (dk_at dksJ5_afterNodeAccess_2 0 rfl rfl)
theorem dJ5_afterNodeAccess_50 : decode cJ5_afterNodeAccess 50 = .ok (.astore 6, 2) := dk_58 6 (dk_at dksJ5_afterNodeAccess_2 3 rfl rfl)
theorem dJ5_afterNodeAccess_52 : decode cJ5_afterNodeAccess 52 = .ok (.aload 4, 2) := dk_25 4 (dk_at dksJ5_afterNodeAccess_2 5 rfl rfl)
theorem dJ5_afterNodeAccess_54 : decode cJ5_afterNodeAccess 54 = .ok (.aconst_null, 1) := dk_1 (dk_at dksJ5_afterNodeAccess_2 7 rfl rfl)
theorem dJ5_afterNodeAccess_55 : decode cJ5_afterNodeAccess 55 = .ok (.putfield 14, 3) := dk_181 0 14 (dk_at dksJ5_afterNodeAccess_2 8 rfl rfl)
theorem dJ5_afterNodeAccess_58 : decode cJ5_afterNodeAccess 58 = .ok (.aload 5, 2) := dk_25 5 (dk_at dksJ5_afterNodeAccess_2 11 rfl rfl)
theorem dJ5_afterNodeAccess_60 : decode cJ5_afterNodeAccess 60 = .ok (.ifnonnull 12, 3) := dk_199 0 12 (dk_at dksJ5_afterNodeAccess_2 13 rfl rfl)
theorem dJ5_afterNodeAccess_63 : decode cJ5_afterNodeAccess 63 = .ok (.aload_n 0, 1) := dk_42 (dk_at dksJ5_afterNodeAccess_2 16 rfl rfl)
theorem dJ5_afterNodeAccess_64 : decode cJ5_afterNodeAccess 64 = .ok (.aload 6, 2) := dk_25 6 (dk_at dksJ5_afterNodeAccess_2 17 rfl rfl)
theorem dJ5_afterNodeAccess_66 : decode cJ5_afterNodeAccess 66 = .ok (.putfield 7, 3) := dk_181 0 7 (dk_at dksJ5_afterNodeAccess_2 19 rfl rfl)
theorem dJ5_afterNodeAccess_69 : decode cJ5_afterNodeAccess 69 = .ok (.goto 10, 3) := dk_167 0 10 (dk_at dksJ5_afterNodeAccess_3 0 rfl rfl)
theorem dJ5_afterNodeAccess_72 : decode cJ5_afterNodeAccess 72 = .ok (.aload 5, 2) := dk_25 5 (dk_at dksJ5_afterNodeAccess_3 3 rfl rfl)
theorem dJ5_afterNodeAccess_74 : decode cJ5_afterNodeAccess 74 = .ok (.aload 6, 2) := dk_25 6 (dk_at dksJ5_afterNodeAccess_3 5 rfl rfl)
theorem dJ5_afterNodeAccess_76 : decode cJ5_afterNodeAccess 76 = .ok (.putfield 14, 3) := dk_181 0 14 (dk_at dksJ5_afterNodeAccess_3 7 rfl rfl)
theorem dJ5_afterNodeAccess_79 : decode cJ5_afterNodeAccess 79 = .ok (.aload 6, 2) := dk_25 6 (dk_at dksJ5_afterNodeAccess_3 10 rfl rfl)
theorem dJ5_afterNodeAccess_81 : decode cJ5_afterNodeAccess 81 = .ok (.ifnull 13, 3) := dk_198 0 13 (dk_at dksJ5_afterNodeAccess_3 12 rfl rfl)
theorem dJ5_afterNodeAccess_84 : decode cJ5_afterNodeAccess 84 = .ok (.aload 6, 2) := dk_25 6 (dk_at dksJ5_afterNodeAccess_3 15 rfl rfl)
theorem dJ5_afterNodeAccess_86 : decode cJ5_afterNodeAccess 86 = .ok (.aload 5, 2) := dk_25 5 (dk_at dksJ5_afterNodeAccess_3 17 rfl rfl)
theorem dJ5_afterNodeAccess_88 : decode cJ5_afterNodeAccess 88 = .ok (.putfield 19, 3) := dk_181 0 19 (dk_at dksJ5_afterNodeAccess_3 19 rfl rfl)
theorem dJ5_afterNodeAccess_91 : decode cJ5_afterNodeAccess 91 = .ok (.goto 6, 3) := dk_167 0 6 (dk_at dksJ5_afterNodeAccess_4 0 rfl rfl)
theorem dJ5_afterNodeAccess_94 : decode cJ5_afterNodeAccess 94 = .ok (.aload 5, 2) := dk_25 5 (dk_at dksJ5_afterNodeAccess_4 3 rfl rfl)
theorem dJ5_afterNodeAccess_96 : decode cJ5_afterNodeAccess 96 = .ok (.astore_n 2, 1) := dk_77 (dk_at dksJ5_afterNodeAccess_4 5 rfl rfl)
theorem dJ5_afterNodeAccess_97 : decode cJ5_afterNodeAccess 97 = .ok (.aload_n 2, 1) := dk_44 (dk_at dksJ5_afterNodeAccess_4 6 rfl rfl)
theorem dJ5_afterNodeAccess_98 : decode cJ5_afterNodeAccess 98 = .ok (.ifnonnull 12, 3) := dk_199 0 12 (dk_at dksJ5_afterNodeAccess_4 7 rfl rfl)
theorem dJ5_afterNodeAccess_101 : decode cJ5_afterNodeAccess 101 = .ok (.aload_n 0, 1) := dk_42 (dk_at dksJ5_afterNodeAccess_4 10 rfl rfl)
theorem dJ5_afterNodeAccess_102 : decode cJ5_afterNodeAccess 102 = .ok (.aload 4, 2) := dk_25 4 (dk_at dksJ5_afterNodeAccess_4 11 rfl rfl)
theorem dJ5_afterNodeAccess_104 : decode cJ5_afterNodeAccess 104 = .ok (.putfield 7, 3) := dk_181 0 7 (dk_at dksJ5_afterNodeAccess_4 13 rfl rfl)
theorem dJ5_afterNodeAccess_107 : decode cJ5_afterNodeAccess 107 = .ok (.goto 15, 3) := dk_167 0 15 (dk_at dksJ5_afterNodeAccess_4 16 rfl rfl)
theorem dJ5_afterNodeAccess_110 : decode cJ5_afterNodeAccess 110 = .ok (.aload 4, 2) := dk_25 4 (dk_at dksJ5_afterNodeAccess_4 19 rfl rfl)
theorem dJ5_afterNodeAccess_112 : decode cJ5_afterNodeAccess 112 = .ok (.aload_n 2, 1) := dk_44 (dk_at dksJ5_afterNodeAccess_4 21 rfl rfl)
theorem dJ5_afterNodeAccess_113 : decode cJ5_afterNodeAccess 113 = .ok (.putfield 19, 3) := dk_181 0 19 (dk_at dksJ5_afterNodeAccess_5 0 rfl rfl)
theorem dJ5_afterNodeAccess_116 : decode cJ5_afterNodeAccess 116 = .ok (.aload_n 2, 1) := dk_44 (dk_at dksJ5_afterNodeAccess_5 3 rfl rfl)
theorem dJ5_afterNodeAccess_117 : decode cJ5_afterNodeAccess 117 = .ok (.aload 4, 2) := dk_25 4 (dk_at dksJ5_afterNodeAccess_5 4 rfl rfl)
theorem dJ5_afterNodeAccess_119 : decode cJ5_afterNodeAccess 119 = .ok (.putfield 14, 3) := dk_181 0 14 (dk_at dksJ5_afterNodeAccess_5 6 rfl rfl)
theorem dJ5_afterNodeAccess_122 : decode cJ5_afterNodeAccess 122 = .ok (.aload_n 0, 1) := dk_42 (dk_at dksJ5_afterNodeAccess_5 9 rfl rfl)
theorem dJ5_afterNodeAccess_123 : decode cJ5_afterNodeAccess 123 = .ok (.aload 4, 2) := dk_25 4 (dk_at dksJ5_afterNodeAccess_5 10 rfl rfl)
theorem dJ5_afterNodeAccess_125 : decode cJ5_afterNodeAccess 125 = .ok (.putfield 11, 3) := dk_181 0 11 (dk_at dksJ5_afterNodeAccess_5 12 rfl rfl)
theorem dJ5_afterNodeAccess_128 : decode cJ5_afterNodeAccess 128 = .ok (.aload_n 0, 1) := dk_42 (dk_at dksJ5_afterNodeAccess_5 15 rfl rfl)
theorem dJ5_afterNodeAccess_129 : decode cJ5_afterNodeAccess 129 = .ok (.dup, 1) := dk_89 (dk_at dksJ5_afterNodeAccess_5 16 rfl rfl)
theorem dJ5_afterNodeAccess_130 : decode cJ5_afterNodeAccess 130 = .ok (.getfield 68, 3) := dk_180 0 68 (dk_at dksJ5_afterNodeAccess_5 17 rfl rfl)
theorem dJ5_afterNodeAccess_133 : decode cJ5_afterNodeAccess 133 = .ok (.iconst 1, 1) := dk_4 (dk_at dksJ5_afterNodeAccess_5 20 rfl rfl)
theorem dJ5_afterNodeAccess_134 : decode cJ5_afterNodeAccess 134 = .ok (.iadd, 1) := dk_96 (dk_at dksJ5_afterNodeAccess_5 21 rfl rfl)
theorem dJ5_afterNodeAccess_135 : decode cJ5_afterNodeAccess 135 = .ok (.putfield 68, 3) := dk_181 0 68 (dk_at dksJ5_afterNodeAccess_6 0 rfl rfl)
theorem dJ5_afterNodeAccess_138 : decode cJ5_afterNodeAccess 138 = .ok (.goto 127, 3) := dk_167 0 127 (dk_at dksJ5_afterNodeAccess_6 3 rfl rfl)
theorem dJ5_afterNodeAccess_141 : decode cJ5_afterNodeAccess 141 = .ok (.aload_n 0, 1) := dk_42 (dk_at dksJ5_afterNodeAccess_6 6 rfl rfl)
theorem dJ5_afterNodeAccess_142 : decode cJ5_afterNodeAccess 142 = .ok (.getfield 1, 3) := dk_180 0 1 (dk_at dksJ5_afterNodeAccess_6 7 rfl rfl)
theorem dJ5_afterNodeAccess_145 : decode cJ5_afterNodeAccess 145 = .ok (.iconst 1, 1) := dk_4 (dk_at dksJ5_afterNodeAccess_6 10 rfl rfl)
theorem dJ5_afterNodeAccess_146 : decode cJ5_afterNodeAccess 146 = .ok (.if_icmp .ne 119, 3) := dk_160 0 119 (dk_at dksJ5_afterNodeAccess_6 11 rfl rfl)
theorem dJ5_afterNodeAccess_149 : decode cJ5_afterNodeAccess 149 = .ok (.aload_n 0, 1) := dk_42 (dk_at dksJ5_afterNodeAccess_6 14 rfl rfl)
theorem dJ5_afterNodeAccess_150 : decode cJ5_afterNodeAccess 150 = .ok (.getfield 7, 3) := dk_180 0 7 (dk_at dksJ5_afterNodeAccess_6 15 rfl rfl)
theorem dJ5_afterNodeAccess_153 : decode cJ5_afterNodeAccess 153 = .ok (.dup, 1) := dk_89 (dk_at dksJ5_afterNodeAccess_6 18 rfl rfl)
theorem dJ5_afterNodeAccess_154 : decode cJ5_afterNodeAccess 154 = .ok (.astore_n 3, 1) := dk_78 (dk_at dksJ5_afterNodeAccess_6 19 rfl rfl)
theorem dJ5_afterNodeAccess_155 : decode cJ5_afterNodeAccess 155 = .ok (.aload_n 1, 1) := dk_43 (dk_at dksJ5_afterNodeAccess_6 20 rfl rfl)
theorem dJ5_afterNodeAccess_156 : decode cJ5_afterNodeAccess 156 = .ok (.if_acmp .eq 109, 3) := dk_165 0 109 (dk_at dksJ5_afterNodeAccess_6 21 rfl rfl)
theorem dJ5_afterNodeAccess_159 : decode cJ5_afterNodeAccess 159 = .ok (.aload_n 1, 1) := dk_43 (dk_at dksJ5_afterNodeAccess_7 0 rfl rfl)
theorem dJ5_afterNodeAccess_160 : decode cJ5_afterNodeAccess 160 = .ok (.checkcast 15, 3) := dk_192 0 15 (dk_at dksJ5_afterNodeAccess_7 1 rfl rfl)
theorem dJ5_afterNodeAccess_163 : decode cJ5_afterNodeAccess 163 = .ok (.astore 4, 2) := dk_58 4 (dk_at dksJ5_afterNodeAccess_7 4 rfl rfl)
theorem dJ5_afterNodeAccess_165 : decode cJ5_afterNodeAccess 165 = .ok (.aload 4, 2) := dk_25 4 (dk_at dksJ5_afterNodeAccess_7 6 rfl rfl)
theorem dJ5_afterNodeAccess_167 : decode cJ5_afterNodeAccess 167 = .ok (.getfield 19, 3) := dk_180 0 19 (dk_at dksJ5_afterNodeAccess_7 8 rfl rfl)
theorem dJ5_afterNodeAccess_170 : decode cJ5_afterNodeAccess 170 = .ok (.astore 5, 2) := dk_58 5 (dk_at dksJ5_afterNodeAccess_7 11 rfl rfl)
theorem dJ5_afterNodeAccess_172 : decode cJ5_afterNodeAccess 172 = .ok (.aload 4, 2) := dk_25 4 (dk_at dksJ5_afterNodeAccess_7 13 rfl rfl)
theorem dJ5_afterNodeAccess_174 : decode cJ5_afterNodeAccess 174 = .ok (.getfield 14, 3) := dk_180 0 14 (dk_at dksJ5_afterNodeAccess_7 15 rfl rfl)
theorem dJ5_afterNodeAccess_177 : decode cJ5_afterNodeAccess 177 = .ok (.astore 6, 2) := dk_58 6 (dk_at dksJ5_afterNodeAccess_7 18 rfl rfl)
theorem dJ5_afterNodeAccess_179 : decode cJ5_afterNodeAccess 179 = .ok (.aload 4, 2) := dk_25 4 (dk_at dksJ5_afterNodeAccess_7 20 rfl rfl)
theorem dJ5_afterNodeAccess_181 : decode cJ5_afterNodeAccess 181 = .ok (.aconst_null, 1) := dk_1 (dk_at dksJ5_afterNodeAccess_7 22 rfl rfl)
theorem dJ5_afterNodeAccess_182 : decode cJ5_afterNodeAccess 182 = .ok (.putfield 19, 3) := dk_181 0 19 (dk_at dksJ5_afterNodeAccess_8 0 rfl rfl)
theorem dJ5_afterNodeAccess_185 : decode cJ5_afterNodeAccess 185 = .ok (.aload 6, 2) := dk_25 6 (dk_at dksJ5_afterNodeAccess_8 3 rfl rfl)
theorem dJ5_afterNodeAccess_187 : decode cJ5_afterNodeAccess 187 = .ok (.ifnonnull 12, 3) := dk_199 0 12 (dk_at dksJ5_afterNodeAccess_8 5 rfl rfl)
theorem dJ5_afterNodeAccess_190 : decode cJ5_afterNodeAccess 190 = .ok (.aload_n 0, 1) := dk_42 (dk_at dksJ5_afterNodeAccess_8 8 rfl rfl)
theorem dJ5_afterNodeAccess_191 : decode cJ5_afterNodeAccess 191 = .ok (.aload 5, 2) := dk_25 5 (dk_at dksJ5_afterNodeAccess_8 9 rfl rfl)
theorem dJ5_afterNodeAccess_193 : decode cJ5_afterNodeAccess 193 = .ok (.putfield 11, 3) := dk_181 0 11 (dk_at dksJ5_afterNodeAccess_8 11 rfl rfl)
theorem dJ5_afterNodeAccess_196 : decode cJ5_afterNodeAccess 196 = .ok (.goto 10, 3) := dk_167 0 10 (dk_at dksJ5_afterNodeAccess_8 14 rfl rfl)
theorem dJ5_afterNodeAccess_199 : decode cJ5_afterNodeAccess 199 = .ok (.aload 6, 2) := dk_25 6 (dk_at dksJ5_afterNodeAccess_8 17 rfl rfl)
theorem dJ5_afterNodeAccess_201 : decode cJ5_afterNodeAccess 201 = .ok (.aload 5, 2) := dk_25 5 (dk_at dksJ5_afterNodeAccess_8 19 rfl rfl)
theorem dJ5_afterNodeAccess_203 : decode cJ5_afterNodeAccess 203 = .ok (.putfield 19, 3) := dk_181 0 19 (dk_at dksJ5_afterNodeAccess_8 21 rfl rfl)
theorem dJ5_afterNodeAccess_206 : decode cJ5_afterNodeAccess 206 = .ok (.aload 5, 2) := dk_25 5 (dk_at dksJ5_afterNodeAccess_9 0 rfl rfl)
theorem dJ5_afterNodeAccess_208 : decode cJ5_afterNodeAccess 208 = .ok (.ifnull 13, 3) := dk_198 0 13 (dk_at dksJ5_afterNodeAccess_9 2 rfl rfl)
theorem dJ5_afterNodeAccess_211 : decode cJ5_afterNodeAccess 211 = .ok (.aload 5, 2) := dk_25 5 (dk_at dksJ5_afterNodeAccess_9 5 rfl rfl)
theorem dJ5_afterNodeAccess_213 : decode cJ5_afterNodeAccess 213 = .ok (.aload 6, 2) := dk_25 6 (dk_at dksJ5_afterNodeAccess_9 7 rfl rfl)
theorem dJ5_afterNodeAccess_215 : decode cJ5_afterNodeAccess 215 = .ok (.putfield 14, 3) := dk_181 0 14 (dk_at dksJ5_afterNodeAccess_9 9 rfl rfl)
theorem dJ5_afterNodeAccess_218 : decode cJ5_afterNodeAccess 218 = .ok (.goto 6, 3) := dk_167 0 6 (dk_at dksJ5_afterNodeAccess_9 12 rfl rfl)
theorem dJ5_afterNodeAccess_221 : decode cJ5_afterNodeAccess 221 = .ok (.aload 6, 2) := dk_25 6 (dk_at dksJ5_afterNodeAccess_9 15 rfl rfl)
theorem dJ5_afterNodeAccess_223 : decode cJ5_afterNodeAccess 223 = .ok (.astore_n 3, 1) := dk_78 (dk_at dksJ5_afterNodeAccess_9 17 rfl rfl)
theorem dJ5_afterNodeAccess_224 : decode cJ5_afterNodeAccess 224 = .ok (.aload_n 3, 1) := dk_45 (dk_at dksJ5_afterNodeAccess_9 18 rfl rfl)
theorem dJ5_afterNodeAccess_225 : decode cJ5_afterNodeAccess 225 = .ok (.ifnonnull 12, 3) := dk_199 0 12 (dk_at dksJ5_afterNodeAccess_9 19 rfl rfl)
theorem dJ5_afterNodeAccess_228 : decode cJ5_afterNodeAccess 228 = .ok (.aload_n 0, 1) := dk_42 (dk_at dksJ5_afterNodeAccess_9 22 rfl rfl)
theorem dJ5_afterNodeAccess_229 : decode cJ5_afterNodeAccess 229 = .ok (.aload 4, 2) := dk_25 4 (dk_at dksJ5_afterNodeAccess_10 0 rfl rfl)
theorem dJ5_afterNodeAccess_231 : decode cJ5_afterNodeAccess 231 = .ok (.putfield 11, 3) := dk_181 0 11 (dk_at dksJ5_afterNodeAccess_10 2 rfl rfl)
theorem dJ5_afterNodeAccess_234 : decode cJ5_afterNodeAccess 234 = .ok (.goto 15, 3) := dk_167 0 15 (dk_at dksJ5_afterNodeAccess_10 5 rfl rfl)
theorem dJ5_afterNodeAccess_237 : decode cJ5_afterNodeAccess 237 = .ok (.aload 4, 2) := dk_25 4 (dk_at dksJ5_afterNodeAccess_10 8 rfl rfl)
theorem dJ5_afterNodeAccess_239 : decode cJ5_afterNodeAccess 239 = .ok (.aload_n 3, 1) := dk_45 (dk_at dksJ5_afterNodeAccess_10 10 rfl rfl)
theorem dJ5_afterNodeAccess_240 : decode cJ5_afterNodeAccess 240 = .ok (.putfield 14, 3) := dk_181 0 14 (dk_at dksJ5_afterNodeAccess_10 11 rfl rfl)
theorem dJ5_afterNodeAccess_243 : decode cJ5_afterNodeAccess 243 = .ok (.aload_n 3, 1) := dk_45 (dk_at dksJ5_afterNodeAccess_10 14 rfl rfl)
theorem dJ5_afterNodeAccess_244 : decode cJ5_afterNodeAccess 244 = .ok (.aload 4, 2) := dk_25 4 (dk_at dksJ5_afterNodeAccess_10 15 rfl rfl)
theorem dJ5_afterNodeAccess_246 : decode cJ5_afterNodeAccess 246 = .ok (.putfield 19, 3) := dk_181 0 19 (dk_at dksJ5_afterNodeAccess_10 17 rfl rfl)
theorem dJ5_afterNodeAccess_249 : decode cJ5_afterNodeAccess 249 = .ok (.aload_n 0, 1) := dk_42 (dk_at dksJ5_afterNodeAccess_10 20 rfl rfl)
theorem dJ5_afterNodeAccess_250 : decode cJ5_afterNodeAccess 250 = .ok (.aload 4, 2) := dk_25 4 (dk_at dksJ5_afterNodeAccess_10 21 rfl rfl)
theorem dJ5_afterNodeAccess_252 : decode cJ5_afterNodeAccess 252 = .ok (.putfield 7, 3) := dk_181 0 7 (dk_at dksJ5_afterNodeAccess_11 0 rfl rfl)
theorem dJ5_afterNodeAccess_255 : decode cJ5_afterNodeAccess 255 = .ok (.aload_n 0, 1) := dk_42 (dk_at dksJ5_afterNodeAccess_11 3 rfl rfl)
theorem dJ5_afterNodeAccess_256 : decode cJ5_afterNodeAccess 256 = .ok (.dup, 1) := dk_89 (dk_at dksJ5_afterNodeAccess_11 4 rfl rfl)
theorem dJ5_afterNodeAccess_257 : decode cJ5_afterNodeAccess 257 = .ok (.getfield 68, 3) := dk_180 0 68 (dk_at dksJ5_afterNodeAccess_11 5 rfl rfl)
theorem dJ5_afterNodeAccess_260 : decode cJ5_afterNodeAccess 260 = .ok (.iconst 1, 1) := dk_4 (dk_at dksJ5_afterNodeAccess_11 8 rfl rfl)
theorem dJ5_afterNodeAccess_261 : decode cJ5_afterNodeAccess 261 = .ok (.iadd, 1) := dk_96 (dk_at dksJ5_afterNodeAccess_11 9 rfl rfl)
theorem dJ5_afterNodeAccess_262 : decode cJ5_afterNodeAccess 262 = .ok (.putfield 68, 3) := dk_181 0 68 (dk_at dksJ5_afterNodeAccess_11 10 rfl rfl)
theorem dJ5_afterNodeAccess_265 : decode cJ5_afterNodeAccess 265 = .ok (.return_, 1) := dk_177 (dk_at dksJ5_afterNodeAccess_11 13 rfl rfl)
abbrev cJ5_afterNodeInsertion : ByteArray := prog_72_method_9_code
def yJ5_afterNodeInsertion : MethodName := ⟨RJ5, "afterNodeInsertion", "(Z)V"⟩
def dkwJ5_afterNodeInsertion_1 : List UInt8 := [180, 0, 39, 78, 42, 45, 184, 0, 57, 45, 1, 3, 4, 182, 0, 60, 87, 177]
abbrev dktJ5_afterNodeInsertion_1 : List UInt8 := dkwJ5_afterNodeInsertion_1 ++ []
def dkwJ5_afterNodeInsertion_0 : List UInt8 := [27, 153, 0, 38, 42, 180, 0, 7, 89, 77, 198, 0, 29, 42, 44, 182, 0, 53, 153, 0, 21, 44]
abbrev dktJ5_afterNodeInsertion_0 : List UInt8 := dkwJ5_afterNodeInsertion_0 ++ dktJ5_afterNodeInsertion_1
theorem dksJ5_afterNodeInsertion_0 : cJ5_afterNodeInsertion.data.toList.drop 0 = dktJ5_afterNodeInsertion_0 := by decide +kernel
theorem dksJ5_afterNodeInsertion_1 : cJ5_afterNodeInsertion.data.toList.drop 22 = dktJ5_afterNodeInsertion_1 := dk_seg dksJ5_afterNodeInsertion_0 22 rfl rfl
theorem dJ5_afterNodeInsertion_0 : decode cJ5_afterNodeInsertion 0 = .ok (.iload_n 1, 1) := dk_27 (dk_at dksJ5_afterNodeInsertion_0 0 rfl rfl)
theorem dJ5_afterNodeInsertion_1 : decode cJ5_afterNodeInsertion 1 = .ok (.ifCond .eq 38, 3) := dk_153 0 38 (dk_at dksJ5_afterNodeInsertion_0 1 rfl rfl)
theorem dJ5_afterNodeInsertion_4 : decode cJ5_afterNodeInsertion 4 = .ok (.aload_n 0, 1) := dk_42 (dk_at dksJ5_afterNodeInsertion_0 4 rfl rfl)
theorem dJ5_afterNodeInsertion_5 : decode cJ5_afterNodeInsertion 5 = .ok (.getfield 7, 3) := dk_180 0 7 (dk_at dksJ5_afterNodeInsertion_0 5 rfl rfl)
theorem dJ5_afterNodeInsertion_8 : decode cJ5_afterNodeInsertion 8 = .ok (.dup, 1) := dk_89 (dk_at dksJ5_afterNodeInsertion_0 8 rfl rfl)
theorem dJ5_afterNodeInsertion_9 : decode cJ5_afterNodeInsertion 9 = .ok (.astore_n 2, 1) := dk_77 (dk_at dksJ5_afterNodeInsertion_0 9 rfl rfl)
theorem dJ5_afterNodeInsertion_10 : decode cJ5_afterNodeInsertion 10 = .ok (.ifnull 29, 3) := dk_198 0 29 (dk_at dksJ5_afterNodeInsertion_0 10 rfl rfl)
theorem dJ5_afterNodeInsertion_13 : decode cJ5_afterNodeInsertion 13 = .ok (.aload_n 0, 1) := dk_42 (dk_at dksJ5_afterNodeInsertion_0 13 rfl rfl)
theorem dJ5_afterNodeInsertion_14 : decode cJ5_afterNodeInsertion 14 = .ok (.aload_n 2, 1) := dk_44 (dk_at dksJ5_afterNodeInsertion_0 14 rfl rfl)
theorem dJ5_afterNodeInsertion_15 : decode cJ5_afterNodeInsertion 15 = .ok (.invokevirtual 53, 3) := dk_182 0 53 (dk_at dksJ5_afterNodeInsertion_0 15 rfl rfl)
theorem dJ5_afterNodeInsertion_18 : decode cJ5_afterNodeInsertion 18 = .ok (.ifCond .eq 21, 3) := dk_153 0 21 (dk_at dksJ5_afterNodeInsertion_0 18 rfl rfl)
theorem dJ5_afterNodeInsertion_21 : decode cJ5_afterNodeInsertion 21 = .ok (.aload_n 2, 1) := dk_44 (dk_at dksJ5_afterNodeInsertion_0 21 rfl rfl)
theorem dJ5_afterNodeInsertion_22 : decode cJ5_afterNodeInsertion 22 = .ok (.getfield 39, 3) := dk_180 0 39 (dk_at dksJ5_afterNodeInsertion_1 0 rfl rfl)
theorem dJ5_afterNodeInsertion_25 : decode cJ5_afterNodeInsertion 25 = .ok (.astore_n 3, 1) := dk_78 (dk_at dksJ5_afterNodeInsertion_1 3 rfl rfl)
theorem dJ5_afterNodeInsertion_26 : decode cJ5_afterNodeInsertion 26 = .ok (.aload_n 0, 1) := dk_42 (dk_at dksJ5_afterNodeInsertion_1 4 rfl rfl)
theorem dJ5_afterNodeInsertion_27 : decode cJ5_afterNodeInsertion 27 = .ok (.aload_n 3, 1) := dk_45 (dk_at dksJ5_afterNodeInsertion_1 5 rfl rfl)
theorem dJ5_afterNodeInsertion_28 : decode cJ5_afterNodeInsertion 28 = .ok (.invokestatic 57, 3) := dk_184 0 57 (dk_at dksJ5_afterNodeInsertion_1 6 rfl rfl)
theorem dJ5_afterNodeInsertion_31 : decode cJ5_afterNodeInsertion 31 = .ok (.aload_n 3, 1) := dk_45 (dk_at dksJ5_afterNodeInsertion_1 9 rfl rfl)
theorem dJ5_afterNodeInsertion_32 : decode cJ5_afterNodeInsertion 32 = .ok (.aconst_null, 1) := dk_1 (dk_at dksJ5_afterNodeInsertion_1 10 rfl rfl)
theorem dJ5_afterNodeInsertion_33 : decode cJ5_afterNodeInsertion 33 = .ok (.iconst 0, 1) := dk_3 (dk_at dksJ5_afterNodeInsertion_1 11 rfl rfl)
theorem dJ5_afterNodeInsertion_34 : decode cJ5_afterNodeInsertion 34 = .ok (.iconst 1, 1) := dk_4 (dk_at dksJ5_afterNodeInsertion_1 12 rfl rfl)
theorem dJ5_afterNodeInsertion_35 : decode cJ5_afterNodeInsertion 35 = .ok (.invokevirtual 60, 3) := dk_182 0 60 (dk_at dksJ5_afterNodeInsertion_1 13 rfl rfl)
theorem dJ5_afterNodeInsertion_38 : decode cJ5_afterNodeInsertion 38 = .ok (.pop, 1) := dk_87 (dk_at dksJ5_afterNodeInsertion_1 16 rfl rfl)
theorem dJ5_afterNodeInsertion_39 : decode cJ5_afterNodeInsertion 39 = .ok (.return_, 1) := dk_177 (dk_at dksJ5_afterNodeInsertion_1 17 rfl rfl)
abbrev cJ5_removeEldestEntry : ByteArray := prog_72_method_23_code
def yJ5_removeEldestEntry : MethodName := ⟨RJ5, "removeEldestEntry", "(Ljava/util/Map$Entry;)Z"⟩
theorem dJ5_removeEldestEntry_0 : decode cJ5_removeEldestEntry 0 = .ok (.iconst 0, 1) := by decide +kernel
theorem dJ5_removeEldestEntry_1 : decode cJ5_removeEldestEntry 1 = .ok (.ireturn, 1) := by decide +kernel
abbrev cJ5_clear : ByteArray := prog_72_method_22_code
def yJ5_clear : MethodName := ⟨RJ5, "clear", "()V"⟩
def dkwJ5_clear_0 : List UInt8 := [42, 183, 0, 110, 42, 42, 1, 90, 181, 0, 11, 181, 0, 7, 177]
abbrev dktJ5_clear_0 : List UInt8 := dkwJ5_clear_0 ++ []
theorem dksJ5_clear_0 : cJ5_clear.data.toList.drop 0 = dktJ5_clear_0 := by decide +kernel
theorem dJ5_clear_0 : decode cJ5_clear 0 = .ok (.aload_n 0, 1) := dk_42 (dk_at dksJ5_clear_0 0 rfl rfl)
theorem dJ5_clear_1 : decode cJ5_clear 1 = .ok (.invokespecial 110, 3) := dk_183 0 110 (dk_at dksJ5_clear_0 1 rfl rfl)
theorem dJ5_clear_4 : decode cJ5_clear 4 = .ok (.aload_n 0, 1) := dk_42 (dk_at dksJ5_clear_0 4 rfl rfl)
theorem dJ5_clear_5 : decode cJ5_clear 5 = .ok (.aload_n 0, 1) := dk_42 (dk_at dksJ5_clear_0 5 rfl rfl)
theorem dJ5_clear_6 : decode cJ5_clear 6 = .ok (.aconst_null, 1) := dk_1 (dk_at dksJ5_clear_0 6 rfl rfl)
theorem dJ5_clear_7 : decode cJ5_clear 7 = .ok (.dup_x1, 1) := dk_90 (dk_at dksJ5_clear_0 7 rfl rfl)
theorem dJ5_clear_8 : decode cJ5_clear 8 = .ok (.putfield 11, 3) := dk_181 0 11 (dk_at dksJ5_clear_0 8 rfl rfl)
theorem dJ5_clear_11 : decode cJ5_clear 11 = .ok (.putfield 7, 3) := dk_181 0 7 (dk_at dksJ5_clear_0 11 rfl rfl)
theorem dJ5_clear_14 : decode cJ5_clear 14 = .ok (.return_, 1) := dk_177 (dk_at dksJ5_clear_0 14 rfl rfl)
abbrev cJ5_values : ByteArray := prog_72_method_30_code
def yJ5_values : MethodName := ⟨RJ5, "values", "()Ljava/util/Collection;"⟩
theorem dJ5_values_0 : decode cJ5_values 0 = .ok (.aload_n 0, 1) := by decide +kernel
theorem dJ5_values_1 : decode cJ5_values 1 = .ok (.invokevirtual 135, 3) := by decide +kernel
theorem dJ5_values_4 : decode cJ5_values 4 = .ok (.areturn, 1) := by decide +kernel
abbrev cJ5_sequencedValues : ByteArray := prog_72_method_31_code
def yJ5_sequencedValues : MethodName := ⟨RJ5, "sequencedValues", "()Ljava/util/SequencedCollection;"⟩
def dkwJ5_sequencedValues_1 : List UInt8 := [44, 176, 43, 192, 0, 146, 176]
abbrev dktJ5_sequencedValues_1 : List UInt8 := dkwJ5_sequencedValues_1 ++ []
def dkwJ5_sequencedValues_0 : List UInt8 := [42, 180, 0, 139, 76, 43, 199, 0, 20, 187, 0, 143, 89, 42, 3, 183, 0, 145, 77, 42, 44, 181, 0, 139]
abbrev dktJ5_sequencedValues_0 : List UInt8 := dkwJ5_sequencedValues_0 ++ dktJ5_sequencedValues_1
theorem dksJ5_sequencedValues_0 : cJ5_sequencedValues.data.toList.drop 0 = dktJ5_sequencedValues_0 := by decide +kernel
theorem dksJ5_sequencedValues_1 : cJ5_sequencedValues.data.toList.drop 24 = dktJ5_sequencedValues_1 := dk_seg dksJ5_sequencedValues_0 24 rfl rfl
theorem dJ5_sequencedValues_0 : decode cJ5_sequencedValues 0 = .ok (.aload_n 0, 1) := dk_42 (dk_at dksJ5_sequencedValues_0 0 rfl rfl)
theorem dJ5_sequencedValues_1 : decode cJ5_sequencedValues 1 = .ok (.getfield 139, 3) := dk_180 0 139 (dk_at dksJ5_sequencedValues_0 1 rfl rfl)
theorem dJ5_sequencedValues_4 : decode cJ5_sequencedValues 4 = .ok (.astore_n 1, 1) := dk_76 (dk_at dksJ5_sequencedValues_0 4 rfl rfl)
theorem dJ5_sequencedValues_5 : decode cJ5_sequencedValues 5 = .ok (.aload_n 1, 1) := dk_43 (dk_at dksJ5_sequencedValues_0 5 rfl rfl)
theorem dJ5_sequencedValues_6 : decode cJ5_sequencedValues 6 = .ok (.ifnonnull 20, 3) := dk_199 0 20 (dk_at dksJ5_sequencedValues_0 6 rfl rfl)
theorem dJ5_sequencedValues_9 : decode cJ5_sequencedValues 9 = .ok (.new 143, 3) := dk_187 0 143 (dk_at dksJ5_sequencedValues_0 9 rfl rfl)
theorem dJ5_sequencedValues_12 : decode cJ5_sequencedValues 12 = .ok (.dup, 1) := dk_89 (dk_at dksJ5_sequencedValues_0 12 rfl rfl)
theorem dJ5_sequencedValues_13 : decode cJ5_sequencedValues 13 = .ok (.aload_n 0, 1) := dk_42 (dk_at dksJ5_sequencedValues_0 13 rfl rfl)
theorem dJ5_sequencedValues_14 : decode cJ5_sequencedValues 14 = .ok (.iconst 0, 1) := dk_3 (dk_at dksJ5_sequencedValues_0 14 rfl rfl)
theorem dJ5_sequencedValues_15 : decode cJ5_sequencedValues 15 = .ok (.invokespecial 145, 3) := dk_183 0 145 (dk_at dksJ5_sequencedValues_0 15 rfl rfl)
theorem dJ5_sequencedValues_18 : decode cJ5_sequencedValues 18 = .ok (.astore_n 2, 1) := dk_77 (dk_at dksJ5_sequencedValues_0 18 rfl rfl)
theorem dJ5_sequencedValues_19 : decode cJ5_sequencedValues 19 = .ok (.aload_n 0, 1) := dk_42 (dk_at dksJ5_sequencedValues_0 19 rfl rfl)
theorem dJ5_sequencedValues_20 : decode cJ5_sequencedValues 20 = .ok (.aload_n 2, 1) := dk_44 (dk_at dksJ5_sequencedValues_0 20 rfl rfl)
theorem dJ5_sequencedValues_21 : decode cJ5_sequencedValues 21 = .ok (.putfield 139, 3) := dk_181 0 139 (dk_at dksJ5_sequencedValues_0 21 rfl rfl)
theorem dJ5_sequencedValues_24 : decode cJ5_sequencedValues 24 = .ok (.aload_n 2, 1) := dk_44 (dk_at dksJ5_sequencedValues_1 0 rfl rfl)
theorem dJ5_sequencedValues_25 : decode cJ5_sequencedValues 25 = .ok (.areturn, 1) := dk_176 (dk_at dksJ5_sequencedValues_1 1 rfl rfl)
theorem dJ5_sequencedValues_26 : decode cJ5_sequencedValues 26 = .ok (.aload_n 1, 1) := dk_43 (dk_at dksJ5_sequencedValues_1 2 rfl rfl)
theorem dJ5_sequencedValues_27 : decode cJ5_sequencedValues 27 = .ok (.checkcast 146, 3) := dk_192 0 146 (dk_at dksJ5_sequencedValues_1 3 rfl rfl)
theorem dJ5_sequencedValues_30 : decode cJ5_sequencedValues 30 = .ok (.areturn, 1) := dk_176 (dk_at dksJ5_sequencedValues_1 6 rfl rfl)
abbrev cJ5_keySet : ByteArray := prog_72_method_24_code
def yJ5_keySet : MethodName := ⟨RJ5, "keySet", "()Ljava/util/Set;"⟩
theorem dJ5_keySet_0 : decode cJ5_keySet 0 = .ok (.aload_n 0, 1) := by decide +kernel
theorem dJ5_keySet_1 : decode cJ5_keySet 1 = .ok (.invokevirtual 113, 3) := by decide +kernel
theorem dJ5_keySet_4 : decode cJ5_keySet 4 = .ok (.areturn, 1) := by decide +kernel
abbrev cJ5_sequencedKeySet : ByteArray := prog_72_method_25_code
def yJ5_sequencedKeySet : MethodName := ⟨RJ5, "sequencedKeySet", "()Ljava/util/SequencedSet;"⟩
def dkwJ5_sequencedKeySet_1 : List UInt8 := [44, 176, 43, 192, 0, 126, 176]
abbrev dktJ5_sequencedKeySet_1 : List UInt8 := dkwJ5_sequencedKeySet_1 ++ []
def dkwJ5_sequencedKeySet_0 : List UInt8 := [42, 180, 0, 117, 76, 43, 199, 0, 20, 187, 0, 121, 89, 42, 3, 183, 0, 123, 77, 42, 44, 181, 0, 117]
abbrev dktJ5_sequencedKeySet_0 : List UInt8 := dkwJ5_sequencedKeySet_0 ++ dktJ5_sequencedKeySet_1
theorem dksJ5_sequencedKeySet_0 : cJ5_sequencedKeySet.data.toList.drop 0 = dktJ5_sequencedKeySet_0 := by decide +kernel
theorem dksJ5_sequencedKeySet_1 : cJ5_sequencedKeySet.data.toList.drop 24 = dktJ5_sequencedKeySet_1 := dk_seg dksJ5_sequencedKeySet_0 24 rfl rfl
theorem dJ5_sequencedKeySet_0 : decode cJ5_sequencedKeySet 0 = .ok (.aload_n 0, 1) := dk_42 (dk_at dksJ5_sequencedKeySet_0 0 rfl rfl)
theorem dJ5_sequencedKeySet_1 : decode cJ5_sequencedKeySet 1 = .ok (.getfield 117, 3) := dk_180 0 117 (dk_at dksJ5_sequencedKeySet_0 1 rfl rfl)
theorem dJ5_sequencedKeySet_4 : decode cJ5_sequencedKeySet 4 = .ok (.astore_n 1, 1) := dk_76 (dk_at dksJ5_sequencedKeySet_0 4 rfl rfl)
theorem dJ5_sequencedKeySet_5 : decode cJ5_sequencedKeySet 5 = .ok (.aload_n 1, 1) := dk_43 (dk_at dksJ5_sequencedKeySet_0 5 rfl rfl)
theorem dJ5_sequencedKeySet_6 : decode cJ5_sequencedKeySet 6 = .ok (.ifnonnull 20, 3) := dk_199 0 20 (dk_at dksJ5_sequencedKeySet_0 6 rfl rfl)
theorem dJ5_sequencedKeySet_9 : decode cJ5_sequencedKeySet 9 = .ok (.new 121, 3) := dk_187 0 121 (dk_at dksJ5_sequencedKeySet_0 9 rfl rfl)
theorem dJ5_sequencedKeySet_12 : decode cJ5_sequencedKeySet 12 = .ok (.dup, 1) := dk_89 (dk_at dksJ5_sequencedKeySet_0 12 rfl rfl)
theorem dJ5_sequencedKeySet_13 : decode cJ5_sequencedKeySet 13 = .ok (.aload_n 0, 1) := dk_42 (dk_at dksJ5_sequencedKeySet_0 13 rfl rfl)
theorem dJ5_sequencedKeySet_14 : decode cJ5_sequencedKeySet 14 = .ok (.iconst 0, 1) := dk_3 (dk_at dksJ5_sequencedKeySet_0 14 rfl rfl)
theorem dJ5_sequencedKeySet_15 : decode cJ5_sequencedKeySet 15 = .ok (.invokespecial 123, 3) := dk_183 0 123 (dk_at dksJ5_sequencedKeySet_0 15 rfl rfl)
theorem dJ5_sequencedKeySet_18 : decode cJ5_sequencedKeySet 18 = .ok (.astore_n 2, 1) := dk_77 (dk_at dksJ5_sequencedKeySet_0 18 rfl rfl)
theorem dJ5_sequencedKeySet_19 : decode cJ5_sequencedKeySet 19 = .ok (.aload_n 0, 1) := dk_42 (dk_at dksJ5_sequencedKeySet_0 19 rfl rfl)
theorem dJ5_sequencedKeySet_20 : decode cJ5_sequencedKeySet 20 = .ok (.aload_n 2, 1) := dk_44 (dk_at dksJ5_sequencedKeySet_0 20 rfl rfl)
theorem dJ5_sequencedKeySet_21 : decode cJ5_sequencedKeySet 21 = .ok (.putfield 117, 3) := dk_181 0 117 (dk_at dksJ5_sequencedKeySet_0 21 rfl rfl)
theorem dJ5_sequencedKeySet_24 : decode cJ5_sequencedKeySet 24 = .ok (.aload_n 2, 1) := dk_44 (dk_at dksJ5_sequencedKeySet_1 0 rfl rfl)
theorem dJ5_sequencedKeySet_25 : decode cJ5_sequencedKeySet 25 = .ok (.areturn, 1) := dk_176 (dk_at dksJ5_sequencedKeySet_1 1 rfl rfl)
theorem dJ5_sequencedKeySet_26 : decode cJ5_sequencedKeySet 26 = .ok (.aload_n 1, 1) := dk_43 (dk_at dksJ5_sequencedKeySet_1 2 rfl rfl)
theorem dJ5_sequencedKeySet_27 : decode cJ5_sequencedKeySet 27 = .ok (.checkcast 126, 3) := dk_192 0 126 (dk_at dksJ5_sequencedKeySet_1 3 rfl rfl)
theorem dJ5_sequencedKeySet_30 : decode cJ5_sequencedKeySet 30 = .ok (.areturn, 1) := dk_176 (dk_at dksJ5_sequencedKeySet_1 6 rfl rfl)
abbrev cJ5_get : ByteArray := prog_72_method_20_code
def yJ5_get : MethodName := ⟨RJ5, "get", "(Ljava/lang/Object;)Ljava/lang/Object;"⟩
def dkwJ5_get_1 : List UInt8 := [44, 180, 0, 107, 176]
abbrev dktJ5_get_1 : List UInt8 := dkwJ5_get_1 ++ []
def dkwJ5_get_0 : List UInt8 := [42, 43, 182, 0, 99, 89, 77, 199, 0, 5, 1, 176, 42, 180, 0, 64, 153, 0, 8, 42, 44, 182, 0, 103]
abbrev dktJ5_get_0 : List UInt8 := dkwJ5_get_0 ++ dktJ5_get_1
theorem dksJ5_get_0 : cJ5_get.data.toList.drop 0 = dktJ5_get_0 := by decide +kernel
theorem dksJ5_get_1 : cJ5_get.data.toList.drop 24 = dktJ5_get_1 := dk_seg dksJ5_get_0 24 rfl rfl
theorem dJ5_get_0 : decode cJ5_get 0 = .ok (.aload_n 0, 1) := dk_42 (dk_at dksJ5_get_0 0 rfl rfl)
theorem dJ5_get_1 : decode cJ5_get 1 = .ok (.aload_n 1, 1) := dk_43 (dk_at dksJ5_get_0 1 rfl rfl)
theorem dJ5_get_2 : decode cJ5_get 2 = .ok (.invokevirtual 99, 3) := dk_182 0 99 (dk_at dksJ5_get_0 2 rfl rfl)
theorem dJ5_get_5 : decode cJ5_get 5 = .ok (.dup, 1) := dk_89 (dk_at dksJ5_get_0 5 rfl rfl)
theorem dJ5_get_6 : decode cJ5_get 6 = .ok (.astore_n 2, 1) := dk_77 (dk_at dksJ5_get_0 6 rfl rfl)
theorem dJ5_get_7 : decode cJ5_get 7 = .ok (.ifnonnull 5, 3) := dk_199 0 5 (dk_at dksJ5_get_0 7 rfl rfl)
theorem dJ5_get_10 : decode cJ5_get 10 = .ok (.aconst_null, 1) := dk_1 (dk_at dksJ5_get_0 10 rfl rfl)
theorem dJ5_get_11 : decode cJ5_get 11 = .ok (.areturn, 1) := dk_176 (dk_at dksJ5_get_0 11 rfl rfl)
theorem dJ5_get_12 : decode cJ5_get 12 = .ok (.aload_n 0, 1) := dk_42 (dk_at dksJ5_get_0 12 rfl rfl)
theorem dJ5_get_13 : decode cJ5_get 13 = .ok (.getfield 64, 3) := dk_180 0 64 (dk_at dksJ5_get_0 13 rfl rfl)
theorem dJ5_get_16 : decode cJ5_get 16 = .ok (.ifCond .eq 8, 3) := dk_153 0 8 (dk_at dksJ5_get_0 16 rfl rfl)
theorem dJ5_get_19 : decode cJ5_get 19 = .ok (.aload_n 0, 1) := dk_42 (dk_at dksJ5_get_0 19 rfl rfl)
theorem dJ5_get_20 : decode cJ5_get 20 = .ok (.aload_n 2, 1) := dk_44 (dk_at dksJ5_get_0 20 rfl rfl)
theorem dJ5_get_21 : decode cJ5_get 21 = .ok (.invokevirtual 103, 3) := dk_182 0 103 (dk_at dksJ5_get_0 21 rfl rfl)
theorem dJ5_get_24 : decode cJ5_get 24 = .ok (.aload_n 2, 1) := dk_44 (dk_at dksJ5_get_1 0 rfl rfl)
theorem dJ5_get_25 : decode cJ5_get 25 = .ok (.getfield 107, 3) := dk_180 0 107 (dk_at dksJ5_get_1 1 rfl rfl)
theorem dJ5_get_28 : decode cJ5_get 28 = .ok (.areturn, 1) := dk_176 (dk_at dksJ5_get_1 4 rfl rfl)
theorem q114 : (Jvm.Cond.initialized "java/util/LinkedHashMap") ∈ lw_all := lw_g (lw_at lw_m1 9 rfl) rfl
theorem q306 : (Jvm.Cond.instantiable "java/util/LinkedHashMap" (12 : Nat)) ∈ lw_all := lw_g (lw_at lw_m1 201 rfl) rfl
theorem q308 : (Jvm.Cond.instanceMethod ({ cls := "java/util/LinkedHashMap", name := "<init>", desc := "()V" } : Jvm.MethodName)) ∈ lw_all := lw_g (lw_at lw_m1 203 rfl) rfl
theorem q309 : (Jvm.Cond.code ({ cls := "java/util/LinkedHashMap", name := "<init>", desc := "()V" } : Jvm.MethodName) prog_72_method_16_code (1 : Nat) (Option.none : Option Jvm.ClassFile.FieldType)) ∈ lw_all := lw_g (lw_at lw_m1 204 rfl) rfl
theorem q310 : (Jvm.Cond.methodLink "java/util/LinkedHashMap" (87 : Nat) ({ cls := "java/util/HashMap", name := "<init>", desc := "()V" } : Jvm.MethodName)) ∈ lw_all := lw_g (lw_at lw_m1 205 rfl) rfl
theorem q318 : (Jvm.Cond.fieldLink "java/util/LinkedHashMap" (7 : Nat) "java/util/LinkedHashMap" "head" "Ljava/util/LinkedHashMap$Entry;") ∈ lw_all := lw_g (lw_at lw_m1 213 rfl) rfl
theorem q321 : (Jvm.Cond.fieldLink "java/util/LinkedHashMap" (11 : Nat) "java/util/LinkedHashMap" "tail" "Ljava/util/LinkedHashMap$Entry;") ∈ lw_all := lw_g (lw_at lw_m1 216 rfl) rfl
theorem q322 : (Jvm.Cond.fieldLink "java/util/LinkedHashMap" (64 : Nat) "java/util/LinkedHashMap" "accessOrder" "Z") ∈ lw_all := lw_g (lw_at lw_m1 217 rfl) rfl
theorem q323 : (Jvm.Cond.fieldLink "java/util/LinkedHashMap" (1 : Nat) "java/util/LinkedHashMap" "putMode" "I") ∈ lw_all := lw_g (lw_at lw_m1 218 rfl) rfl
theorem q330 : (Jvm.Cond.sameField "java/util/LinkedHashMap" "java/util/HashMap" "modCount" "I") ∈ lw_all := lw_g (lw_at lw_m1 225 rfl) rfl
theorem q331 : (Jvm.Cond.fieldLink "java/util/LinkedHashMap" (68 : Nat) "java/util/LinkedHashMap" "modCount" "I") ∈ lw_all := lw_g (lw_at lw_m1 226 rfl) rfl
theorem q337 : (Jvm.Cond.fieldLink "java/util/LinkedHashMap" (117 : Nat) "java/util/LinkedHashMap" "keySet" "Ljava/util/Set;") ∈ lw_all := lw_g (lw_at lw_m1 232 rfl) rfl
theorem q338 : (Jvm.Cond.sameField "java/util/LinkedHashMap" "java/util/AbstractMap" "keySet" "Ljava/util/Set;") ∈ lw_all := lw_g (lw_at lw_m1 233 rfl) rfl
theorem q339 : (Jvm.Cond.fieldLink "java/util/LinkedHashMap" (139 : Nat) "java/util/LinkedHashMap" "values" "Ljava/util/Collection;") ∈ lw_all := lw_g (lw_at lw_m1 234 rfl) rfl
theorem q340 : (Jvm.Cond.sameField "java/util/LinkedHashMap" "java/util/AbstractMap" "values" "Ljava/util/Collection;") ∈ lw_all := lw_g (lw_at lw_m1 235 rfl) rfl
theorem q341 : (Jvm.Cond.lays "java/util/LinkedHashMap" "java/util/LinkedHashMap" "head" "Ljava/util/LinkedHashMap$Entry;") ∈ lw_all := lw_g (lw_at lw_m1 236 rfl) rfl
theorem q342 : (Jvm.Cond.soleField "java/util/LinkedHashMap" "head") ∈ lw_all := lw_g (lw_at lw_m1 237 rfl) rfl
theorem q343 : (Jvm.Cond.lays "java/util/LinkedHashMap" "java/util/LinkedHashMap" "tail" "Ljava/util/LinkedHashMap$Entry;") ∈ lw_all := lw_g (lw_at lw_m1 238 rfl) rfl
theorem q344 : (Jvm.Cond.soleField "java/util/LinkedHashMap" "tail") ∈ lw_all := lw_g (lw_at lw_m1 239 rfl) rfl
theorem q345 : (Jvm.Cond.laysFinal "java/util/LinkedHashMap" "java/util/LinkedHashMap" "accessOrder" "Z") ∈ lw_all := lw_g (lw_at lw_m2 0 rfl) rfl
theorem q346 : (Jvm.Cond.soleField "java/util/LinkedHashMap" "accessOrder") ∈ lw_all := lw_g (lw_at lw_m2 1 rfl) rfl
theorem q347 : (Jvm.Cond.lays "java/util/LinkedHashMap" "java/util/LinkedHashMap" "putMode" "I") ∈ lw_all := lw_g (lw_at lw_m2 2 rfl) rfl
theorem q348 : (Jvm.Cond.soleField "java/util/LinkedHashMap" "putMode") ∈ lw_all := lw_g (lw_at lw_m2 3 rfl) rfl
theorem q349 : (Jvm.Cond.lays "java/util/LinkedHashMap" "java/util/HashMap" "table" "[Ljava/util/HashMap$Node;") ∈ lw_all := lw_g (lw_at lw_m2 4 rfl) rfl
theorem q351 : (Jvm.Cond.lays "java/util/LinkedHashMap" "java/util/HashMap" "entrySet" "Ljava/util/Set;") ∈ lw_all := lw_g (lw_at lw_m2 6 rfl) rfl
theorem q353 : (Jvm.Cond.lays "java/util/LinkedHashMap" "java/util/HashMap" "size" "I") ∈ lw_all := lw_g (lw_at lw_m2 8 rfl) rfl
theorem q355 : (Jvm.Cond.lays "java/util/LinkedHashMap" "java/util/HashMap" "modCount" "I") ∈ lw_all := lw_g (lw_at lw_m2 10 rfl) rfl
theorem q357 : (Jvm.Cond.lays "java/util/LinkedHashMap" "java/util/HashMap" "threshold" "I") ∈ lw_all := lw_g (lw_at lw_m2 12 rfl) rfl
theorem q359 : (Jvm.Cond.laysFinal "java/util/LinkedHashMap" "java/util/HashMap" "loadFactor" "F") ∈ lw_all := lw_g (lw_at lw_m2 14 rfl) rfl
theorem q361 : (Jvm.Cond.lays "java/util/LinkedHashMap" "java/util/AbstractMap" "keySet" "Ljava/util/Set;") ∈ lw_all := lw_g (lw_at lw_m2 16 rfl) rfl
theorem q363 : (Jvm.Cond.lays "java/util/LinkedHashMap" "java/util/AbstractMap" "values" "Ljava/util/Collection;") ∈ lw_all := lw_g (lw_at lw_m2 18 rfl) rfl
theorem q365 : (Jvm.Cond.superclass "java/util/LinkedHashMap" "java/util/HashMap") ∈ lw_all := lw_g (lw_at lw_m2 20 rfl) rfl
theorem q874 : (Jvm.Cond.selects "java/util/LinkedHashMap" ({ cls := "java/util/HashMap", name := "put", desc := "(Ljava/lang/Object;Ljava/lang/Object;)Ljava/lang/Object;" } : Jvm.MethodName) ({ cls := "java/util/HashMap", name := "put", desc := "(Ljava/lang/Object;Ljava/lang/Object;)Ljava/lang/Object;" } : Jvm.MethodName)) ∈ lw_all := lw_g (lw_at lw_m4 49 rfl) rfl
theorem q997 : (Jvm.Cond.selects "java/util/LinkedHashMap" ({ cls := "java/util/HashMap", name := "putVal", desc := "(ILjava/lang/Object;Ljava/lang/Object;ZZ)Ljava/lang/Object;" } : Jvm.MethodName) ({ cls := "java/util/HashMap", name := "putVal", desc := "(ILjava/lang/Object;Ljava/lang/Object;ZZ)Ljava/lang/Object;" } : Jvm.MethodName)) ∈ lw_all := lw_g (lw_at lw_m4 172 rfl) rfl
theorem q1003 : (Jvm.Cond.selects "java/util/LinkedHashMap" ({ cls := "java/util/HashMap", name := "resize", desc := "()[Ljava/util/HashMap$Node;" } : Jvm.MethodName) ({ cls := "java/util/HashMap", name := "resize", desc := "()[Ljava/util/HashMap$Node;" } : Jvm.MethodName)) ∈ lw_all := lw_g (lw_at lw_m4 178 rfl) rfl
theorem q1024 : (Jvm.Cond.selects "java/util/LinkedHashMap" ({ cls := "java/util/HashMap", name := "replacementNode", desc := "(Ljava/util/HashMap$Node;Ljava/util/HashMap$Node;)Ljava/util/HashMap$Node;" } : Jvm.MethodName) ({ cls := "java/util/LinkedHashMap", name := "replacementNode", desc := "(Ljava/util/HashMap$Node;Ljava/util/HashMap$Node;)Ljava/util/HashMap$Node;" } : Jvm.MethodName)) ∈ lw_all := lw_g (lw_at lw_m4 199 rfl) rfl
theorem q1025 : (Jvm.Cond.instanceMethod ({ cls := "java/util/LinkedHashMap", name := "replacementNode", desc := "(Ljava/util/HashMap$Node;Ljava/util/HashMap$Node;)Ljava/util/HashMap$Node;" } : Jvm.MethodName)) ∈ lw_all := lw_g (lw_at lw_m4 200 rfl) rfl
theorem q1026 : (Jvm.Cond.code ({ cls := "java/util/LinkedHashMap", name := "replacementNode", desc := "(Ljava/util/HashMap$Node;Ljava/util/HashMap$Node;)Ljava/util/HashMap$Node;" } : Jvm.MethodName) prog_72_method_5_code (5 : Nat) (Option.some (Jvm.ClassFile.FieldType.object "java/util/HashMap$Node"))) ∈ lw_all := lw_g (lw_at lw_m4 201 rfl) rfl
theorem q1027 : (Jvm.Cond.classLink "java/util/LinkedHashMap" (15 : Nat) "java/util/LinkedHashMap$Entry") ∈ lw_all := lw_g (lw_at lw_m4 202 rfl) rfl
theorem q1029 : (Jvm.Cond.methodLink "java/util/LinkedHashMap" (28 : Nat) ({ cls := "java/util/LinkedHashMap$Entry", name := "<init>", desc := "(ILjava/lang/Object;Ljava/lang/Object;Ljava/util/HashMap$Node;)V" } : Jvm.MethodName)) ∈ lw_all := lw_g (lw_at lw_m4 204 rfl) rfl
theorem q1036 : (Jvm.Cond.fieldLink "java/util/LinkedHashMap" (19 : Nat) "java/util/LinkedHashMap$Entry" "before" "Ljava/util/LinkedHashMap$Entry;") ∈ lw_all := lw_g (lw_at lw_m4 211 rfl) rfl
theorem q1038 : (Jvm.Cond.fieldLink "java/util/LinkedHashMap" (14 : Nat) "java/util/LinkedHashMap$Entry" "after" "Ljava/util/LinkedHashMap$Entry;") ∈ lw_all := lw_g (lw_at lw_m4 213 rfl) rfl
theorem q1043 : (Jvm.Cond.fieldLink "java/util/LinkedHashMap" (36 : Nat) "java/util/LinkedHashMap$Entry" "hash" "I") ∈ lw_all := lw_g (lw_at lw_m4 218 rfl) rfl
theorem q1050 : (Jvm.Cond.fieldLink "java/util/LinkedHashMap" (39 : Nat) "java/util/LinkedHashMap$Entry" "key" "Ljava/lang/Object;") ∈ lw_all := lw_g (lw_at lw_m4 225 rfl) rfl
theorem q1056 : (Jvm.Cond.fieldLink "java/util/LinkedHashMap" (43 : Nat) "java/util/LinkedHashMap$Entry" "value" "Ljava/lang/Object;") ∈ lw_all := lw_g (lw_at lw_m4 231 rfl) rfl
theorem q1058 : (Jvm.Cond.fieldLink "java/util/LinkedHashMap" (107 : Nat) "java/util/HashMap$Node" "value" "Ljava/lang/Object;") ∈ lw_all := lw_g (lw_at lw_m4 233 rfl) rfl
theorem q1079 : (Jvm.Cond.methodLink "java/util/LinkedHashMap" (46 : Nat) ({ cls := "java/util/LinkedHashMap", name := "transferLinks", desc := "(Ljava/util/LinkedHashMap$Entry;Ljava/util/LinkedHashMap$Entry;)V" } : Jvm.MethodName)) ∈ lw_all := lw_g (lw_at lw_m5 14 rfl) rfl
theorem q1080 : (Jvm.Cond.privateMethod ({ cls := "java/util/LinkedHashMap", name := "transferLinks", desc := "(Ljava/util/LinkedHashMap$Entry;Ljava/util/LinkedHashMap$Entry;)V" } : Jvm.MethodName)) ∈ lw_tbl := lw_at lw_m5 15 rfl
theorem q1081 : (Jvm.Cond.instanceMethod ({ cls := "java/util/LinkedHashMap", name := "transferLinks", desc := "(Ljava/util/LinkedHashMap$Entry;Ljava/util/LinkedHashMap$Entry;)V" } : Jvm.MethodName)) ∈ lw_all := lw_g (lw_at lw_m5 16 rfl) rfl
theorem q1082 : (Jvm.Cond.code ({ cls := "java/util/LinkedHashMap", name := "transferLinks", desc := "(Ljava/util/LinkedHashMap$Entry;Ljava/util/LinkedHashMap$Entry;)V" } : Jvm.MethodName) prog_72_method_2_code (5 : Nat) (Option.none : Option Jvm.ClassFile.FieldType)) ∈ lw_all := lw_g (lw_at lw_m5 17 rfl) rfl
theorem q1137 : (Jvm.Cond.selects "java/util/LinkedHashMap" ({ cls := "java/lang/Object", name := "getClass", desc := "()Ljava/lang/Class;" } : Jvm.MethodName) ({ cls := "java/lang/Object", name := "getClass", desc := "()Ljava/lang/Class;" } : Jvm.MethodName)) ∈ lw_all := lw_g (lw_at lw_m5 72 rfl) rfl
theorem q1333 : (Jvm.Cond.selects "java/util/LinkedHashMap" ({ cls := "java/util/HashMap", name := "newNode", desc := "(ILjava/lang/Object;Ljava/lang/Object;Ljava/util/HashMap$Node;)Ljava/util/HashMap$Node;" } : Jvm.MethodName) ({ cls := "java/util/LinkedHashMap", name := "newNode", desc := "(ILjava/lang/Object;Ljava/lang/Object;Ljava/util/HashMap$Node;)Ljava/util/HashMap$Node;" } : Jvm.MethodName)) ∈ lw_all := lw_g (lw_at lw_m6 28 rfl) rfl
theorem q1334 : (Jvm.Cond.instanceMethod ({ cls := "java/util/LinkedHashMap", name := "newNode", desc := "(ILjava/lang/Object;Ljava/lang/Object;Ljava/util/HashMap$Node;)Ljava/util/HashMap$Node;" } : Jvm.MethodName)) ∈ lw_all := lw_g (lw_at lw_m6 29 rfl) rfl
theorem q1335 : (Jvm.Cond.code ({ cls := "java/util/LinkedHashMap", name := "newNode", desc := "(ILjava/lang/Object;Ljava/lang/Object;Ljava/util/HashMap$Node;)Ljava/util/HashMap$Node;" } : Jvm.MethodName) prog_72_method_4_code (6 : Nat) (Option.some (Jvm.ClassFile.FieldType.object "java/util/HashMap$Node"))) ∈ lw_all := lw_g (lw_at lw_m6 30 rfl) rfl
theorem q1336 : (Jvm.Cond.methodLink "java/util/LinkedHashMap" (32 : Nat) ({ cls := "java/util/LinkedHashMap", name := "linkNodeAtEnd", desc := "(Ljava/util/LinkedHashMap$Entry;)V" } : Jvm.MethodName)) ∈ lw_all := lw_g (lw_at lw_m6 31 rfl) rfl
theorem q1337 : (Jvm.Cond.privateMethod ({ cls := "java/util/LinkedHashMap", name := "linkNodeAtEnd", desc := "(Ljava/util/LinkedHashMap$Entry;)V" } : Jvm.MethodName)) ∈ lw_tbl := lw_at lw_m6 32 rfl
theorem q1338 : (Jvm.Cond.instanceMethod ({ cls := "java/util/LinkedHashMap", name := "linkNodeAtEnd", desc := "(Ljava/util/LinkedHashMap$Entry;)V" } : Jvm.MethodName)) ∈ lw_all := lw_g (lw_at lw_m6 33 rfl) rfl
theorem q1339 : (Jvm.Cond.code ({ cls := "java/util/LinkedHashMap", name := "linkNodeAtEnd", desc := "(Ljava/util/LinkedHashMap$Entry;)V" } : Jvm.MethodName) prog_72_method_1_code (3 : Nat) (Option.none : Option Jvm.ClassFile.FieldType)) ∈ lw_all := lw_g (lw_at lw_m6 34 rfl) rfl
theorem q1411 : (Jvm.Cond.selects "java/util/LinkedHashMap" ({ cls := "java/util/HashMap", name := "newTreeNode", desc := "(ILjava/lang/Object;Ljava/lang/Object;Ljava/util/HashMap$Node;)Ljava/util/HashMap$TreeNode;" } : Jvm.MethodName) ({ cls := "java/util/LinkedHashMap", name := "newTreeNode", desc := "(ILjava/lang/Object;Ljava/lang/Object;Ljava/util/HashMap$Node;)Ljava/util/HashMap$TreeNode;" } : Jvm.MethodName)) ∈ lw_all := lw_g (lw_at lw_m6 106 rfl) rfl
theorem q1412 : (Jvm.Cond.instanceMethod ({ cls := "java/util/LinkedHashMap", name := "newTreeNode", desc := "(ILjava/lang/Object;Ljava/lang/Object;Ljava/util/HashMap$Node;)Ljava/util/HashMap$TreeNode;" } : Jvm.MethodName)) ∈ lw_all := lw_g (lw_at lw_m6 107 rfl) rfl
theorem q1413 : (Jvm.Cond.code ({ cls := "java/util/LinkedHashMap", name := "newTreeNode", desc := "(ILjava/lang/Object;Ljava/lang/Object;Ljava/util/HashMap$Node;)Ljava/util/HashMap$TreeNode;" } : Jvm.MethodName) prog_72_method_6_code (6 : Nat) (Option.some (Jvm.ClassFile.FieldType.object "java/util/HashMap$TreeNode"))) ∈ lw_all := lw_g (lw_at lw_m6 108 rfl) rfl
theorem q1414 : (Jvm.Cond.classLink "java/util/LinkedHashMap" (50 : Nat) "java/util/HashMap$TreeNode") ∈ lw_all := lw_g (lw_at lw_m6 109 rfl) rfl
theorem q1416 : (Jvm.Cond.methodLink "java/util/LinkedHashMap" (52 : Nat) ({ cls := "java/util/HashMap$TreeNode", name := "<init>", desc := "(ILjava/lang/Object;Ljava/lang/Object;Ljava/util/HashMap$Node;)V" } : Jvm.MethodName)) ∈ lw_all := lw_g (lw_at lw_m6 111 rfl) rfl
theorem q1449 : (Jvm.Cond.selects "java/util/LinkedHashMap" ({ cls := "java/util/HashMap", name := "treeifyBin", desc := "([Ljava/util/HashMap$Node;I)V" } : Jvm.MethodName) ({ cls := "java/util/HashMap", name := "treeifyBin", desc := "([Ljava/util/HashMap$Node;I)V" } : Jvm.MethodName)) ∈ lw_all := lw_g (lw_at lw_m6 144 rfl) rfl
theorem q1455 : (Jvm.Cond.selects "java/util/LinkedHashMap" ({ cls := "java/util/HashMap", name := "replacementTreeNode", desc := "(Ljava/util/HashMap$Node;Ljava/util/HashMap$Node;)Ljava/util/HashMap$TreeNode;" } : Jvm.MethodName) ({ cls := "java/util/LinkedHashMap", name := "replacementTreeNode", desc := "(Ljava/util/HashMap$Node;Ljava/util/HashMap$Node;)Ljava/util/HashMap$TreeNode;" } : Jvm.MethodName)) ∈ lw_all := lw_g (lw_at lw_m6 150 rfl) rfl
theorem q1456 : (Jvm.Cond.instanceMethod ({ cls := "java/util/LinkedHashMap", name := "replacementTreeNode", desc := "(Ljava/util/HashMap$Node;Ljava/util/HashMap$Node;)Ljava/util/HashMap$TreeNode;" } : Jvm.MethodName)) ∈ lw_all := lw_g (lw_at lw_m6 151 rfl) rfl
theorem q1457 : (Jvm.Cond.code ({ cls := "java/util/LinkedHashMap", name := "replacementTreeNode", desc := "(Ljava/util/HashMap$Node;Ljava/util/HashMap$Node;)Ljava/util/HashMap$TreeNode;" } : Jvm.MethodName) prog_72_method_7_code (5 : Nat) (Option.some (Jvm.ClassFile.FieldType.object "java/util/HashMap$TreeNode"))) ∈ lw_all := lw_g (lw_at lw_m6 152 rfl) rfl
theorem q1464 : (Jvm.Cond.selects "java/util/LinkedHashMap" ({ cls := "java/util/HashMap", name := "afterNodeAccess", desc := "(Ljava/util/HashMap$Node;)V" } : Jvm.MethodName) ({ cls := "java/util/LinkedHashMap", name := "afterNodeAccess", desc := "(Ljava/util/HashMap$Node;)V" } : Jvm.MethodName)) ∈ lw_all := lw_g (lw_at lw_m6 159 rfl) rfl
theorem q1465 : (Jvm.Cond.instanceMethod ({ cls := "java/util/LinkedHashMap", name := "afterNodeAccess", desc := "(Ljava/util/HashMap$Node;)V" } : Jvm.MethodName)) ∈ lw_all := lw_g (lw_at lw_m6 160 rfl) rfl
theorem q1466 : (Jvm.Cond.code ({ cls := "java/util/LinkedHashMap", name := "afterNodeAccess", desc := "(Ljava/util/HashMap$Node;)V" } : Jvm.MethodName) prog_72_method_10_code (7 : Nat) (Option.none : Option Jvm.ClassFile.FieldType)) ∈ lw_all := lw_g (lw_at lw_m6 161 rfl) rfl
theorem q1472 : (Jvm.Cond.selects "java/util/LinkedHashMap" ({ cls := "java/util/HashMap", name := "afterNodeInsertion", desc := "(Z)V" } : Jvm.MethodName) ({ cls := "java/util/LinkedHashMap", name := "afterNodeInsertion", desc := "(Z)V" } : Jvm.MethodName)) ∈ lw_all := lw_g (lw_at lw_m6 167 rfl) rfl
theorem q1473 : (Jvm.Cond.instanceMethod ({ cls := "java/util/LinkedHashMap", name := "afterNodeInsertion", desc := "(Z)V" } : Jvm.MethodName)) ∈ lw_all := lw_g (lw_at lw_m6 168 rfl) rfl
theorem q1474 : (Jvm.Cond.code ({ cls := "java/util/LinkedHashMap", name := "afterNodeInsertion", desc := "(Z)V" } : Jvm.MethodName) prog_72_method_9_code (4 : Nat) (Option.none : Option Jvm.ClassFile.FieldType)) ∈ lw_all := lw_g (lw_at lw_m6 169 rfl) rfl
theorem q1475 : (Jvm.Cond.methodLink "java/util/LinkedHashMap" (53 : Nat) ({ cls := "java/util/LinkedHashMap", name := "removeEldestEntry", desc := "(Ljava/util/Map$Entry;)Z" } : Jvm.MethodName)) ∈ lw_all := lw_g (lw_at lw_m6 170 rfl) rfl
theorem q1476 : (Jvm.Cond.instanceMethod ({ cls := "java/util/LinkedHashMap", name := "removeEldestEntry", desc := "(Ljava/util/Map$Entry;)Z" } : Jvm.MethodName)) ∈ lw_all := lw_g (lw_at lw_m6 171 rfl) rfl
theorem q1477 : (Jvm.Cond.selects "java/util/LinkedHashMap" ({ cls := "java/util/LinkedHashMap", name := "removeEldestEntry", desc := "(Ljava/util/Map$Entry;)Z" } : Jvm.MethodName) ({ cls := "java/util/LinkedHashMap", name := "removeEldestEntry", desc := "(Ljava/util/Map$Entry;)Z" } : Jvm.MethodName)) ∈ lw_all := lw_g (lw_at lw_m6 172 rfl) rfl
theorem q1478 : (Jvm.Cond.code ({ cls := "java/util/LinkedHashMap", name := "removeEldestEntry", desc := "(Ljava/util/Map$Entry;)Z" } : Jvm.MethodName) prog_72_method_23_code (2 : Nat) (Option.some Jvm.ClassFile.FieldType.boolean)) ∈ lw_all := lw_g (lw_at lw_m6 173 rfl) rfl
theorem q1837 : (Jvm.Cond.instanceMethod ({ cls := "java/util/LinkedHashMap", name := "clear", desc := "()V" } : Jvm.MethodName)) ∈ lw_all := lw_g (lw_at lw_m8 52 rfl) rfl
theorem q1838 : (Jvm.Cond.selects "java/util/LinkedHashMap" ({ cls := "java/util/LinkedHashMap", name := "clear", desc := "()V" } : Jvm.MethodName) ({ cls := "java/util/LinkedHashMap", name := "clear", desc := "()V" } : Jvm.MethodName)) ∈ lw_all := lw_g (lw_at lw_m8 53 rfl) rfl
theorem q1839 : (Jvm.Cond.code ({ cls := "java/util/LinkedHashMap", name := "clear", desc := "()V" } : Jvm.MethodName) prog_72_method_22_code (1 : Nat) (Option.none : Option Jvm.ClassFile.FieldType)) ∈ lw_all := lw_g (lw_at lw_m8 54 rfl) rfl
theorem q1840 : (Jvm.Cond.methodLink "java/util/LinkedHashMap" (110 : Nat) ({ cls := "java/util/HashMap", name := "clear", desc := "()V" } : Jvm.MethodName)) ∈ lw_all := lw_g (lw_at lw_m8 55 rfl) rfl
theorem q1863 : (Jvm.Cond.sameMethod "java/util/LinkedHashMap" "java/util/HashMap" "put" "(Ljava/lang/Object;Ljava/lang/Object;)Ljava/lang/Object;") ∈ lw_all := lw_g (lw_at lw_m8 78 rfl) rfl
theorem q1865 : (Jvm.Cond.selects "java/util/LinkedHashMap" ({ cls := "java/util/LinkedHashMap", name := "put", desc := "(Ljava/lang/Object;Ljava/lang/Object;)Ljava/lang/Object;" } : Jvm.MethodName) ({ cls := "java/util/HashMap", name := "put", desc := "(Ljava/lang/Object;Ljava/lang/Object;)Ljava/lang/Object;" } : Jvm.MethodName)) ∈ lw_all := lw_g (lw_at lw_m8 80 rfl) rfl
theorem q1867 : (Jvm.Cond.instanceMethod ({ cls := "java/util/LinkedHashMap", name := "values", desc := "()Ljava/util/Collection;" } : Jvm.MethodName)) ∈ lw_all := lw_g (lw_at lw_m8 82 rfl) rfl
theorem q1868 : (Jvm.Cond.selects "java/util/LinkedHashMap" ({ cls := "java/util/LinkedHashMap", name := "values", desc := "()Ljava/util/Collection;" } : Jvm.MethodName) ({ cls := "java/util/LinkedHashMap", name := "values", desc := "()Ljava/util/Collection;" } : Jvm.MethodName)) ∈ lw_all := lw_g (lw_at lw_m8 83 rfl) rfl
theorem q1869 : (Jvm.Cond.code ({ cls := "java/util/LinkedHashMap", name := "values", desc := "()Ljava/util/Collection;" } : Jvm.MethodName) prog_72_method_30_code (1 : Nat) (Option.some (Jvm.ClassFile.FieldType.object "java/util/Collection"))) ∈ lw_all := lw_g (lw_at lw_m8 84 rfl) rfl
theorem q1870 : (Jvm.Cond.methodLink "java/util/LinkedHashMap" (135 : Nat) ({ cls := "java/util/LinkedHashMap", name := "sequencedValues", desc := "()Ljava/util/SequencedCollection;" } : Jvm.MethodName)) ∈ lw_all := lw_g (lw_at lw_m8 85 rfl) rfl
theorem q1871 : (Jvm.Cond.instanceMethod ({ cls := "java/util/LinkedHashMap", name := "sequencedValues", desc := "()Ljava/util/SequencedCollection;" } : Jvm.MethodName)) ∈ lw_all := lw_g (lw_at lw_m8 86 rfl) rfl
theorem q1872 : (Jvm.Cond.selects "java/util/LinkedHashMap" ({ cls := "java/util/LinkedHashMap", name := "sequencedValues", desc := "()Ljava/util/SequencedCollection;" } : Jvm.MethodName) ({ cls := "java/util/LinkedHashMap", name := "sequencedValues", desc := "()Ljava/util/SequencedCollection;" } : Jvm.MethodName)) ∈ lw_all := lw_g (lw_at lw_m8 87 rfl) rfl
theorem q1873 : (Jvm.Cond.code ({ cls := "java/util/LinkedHashMap", name := "sequencedValues", desc := "()Ljava/util/SequencedCollection;" } : Jvm.MethodName) prog_72_method_31_code (3 : Nat) (Option.some (Jvm.ClassFile.FieldType.object "java/util/SequencedCollection"))) ∈ lw_all := lw_g (lw_at lw_m8 88 rfl) rfl
theorem q1874 : (Jvm.Cond.classLink "java/util/LinkedHashMap" (143 : Nat) "java/util/LinkedHashMap$LinkedValues") ∈ lw_all := lw_g (lw_at lw_m8 89 rfl) rfl
theorem q1876 : (Jvm.Cond.methodLink "java/util/LinkedHashMap" (145 : Nat) ({ cls := "java/util/LinkedHashMap$LinkedValues", name := "<init>", desc := "(Ljava/util/LinkedHashMap;Z)V" } : Jvm.MethodName)) ∈ lw_all := lw_g (lw_at lw_m8 91 rfl) rfl
theorem q1887 : (Jvm.Cond.classLink "java/util/LinkedHashMap" (146 : Nat) "java/util/SequencedCollection") ∈ lw_all := lw_g (lw_at lw_m8 102 rfl) rfl
theorem q1933 : (Jvm.Cond.selects "java/util/LinkedHashMap" ({ cls := "java/util/HashMap", name := "keySet", desc := "()Ljava/util/Set;" } : Jvm.MethodName) ({ cls := "java/util/LinkedHashMap", name := "keySet", desc := "()Ljava/util/Set;" } : Jvm.MethodName)) ∈ lw_all := lw_g (lw_at lw_m8 148 rfl) rfl
theorem q1934 : (Jvm.Cond.instanceMethod ({ cls := "java/util/LinkedHashMap", name := "keySet", desc := "()Ljava/util/Set;" } : Jvm.MethodName)) ∈ lw_all := lw_g (lw_at lw_m8 149 rfl) rfl
theorem q1935 : (Jvm.Cond.code ({ cls := "java/util/LinkedHashMap", name := "keySet", desc := "()Ljava/util/Set;" } : Jvm.MethodName) prog_72_method_24_code (1 : Nat) (Option.some (Jvm.ClassFile.FieldType.object "java/util/Set"))) ∈ lw_all := lw_g (lw_at lw_m8 150 rfl) rfl
theorem q1936 : (Jvm.Cond.methodLink "java/util/LinkedHashMap" (113 : Nat) ({ cls := "java/util/LinkedHashMap", name := "sequencedKeySet", desc := "()Ljava/util/SequencedSet;" } : Jvm.MethodName)) ∈ lw_all := lw_g (lw_at lw_m8 151 rfl) rfl
theorem q1937 : (Jvm.Cond.instanceMethod ({ cls := "java/util/LinkedHashMap", name := "sequencedKeySet", desc := "()Ljava/util/SequencedSet;" } : Jvm.MethodName)) ∈ lw_all := lw_g (lw_at lw_m8 152 rfl) rfl
theorem q1938 : (Jvm.Cond.selects "java/util/LinkedHashMap" ({ cls := "java/util/LinkedHashMap", name := "sequencedKeySet", desc := "()Ljava/util/SequencedSet;" } : Jvm.MethodName) ({ cls := "java/util/LinkedHashMap", name := "sequencedKeySet", desc := "()Ljava/util/SequencedSet;" } : Jvm.MethodName)) ∈ lw_all := lw_g (lw_at lw_m8 153 rfl) rfl
theorem q1939 : (Jvm.Cond.code ({ cls := "java/util/LinkedHashMap", name := "sequencedKeySet", desc := "()Ljava/util/SequencedSet;" } : Jvm.MethodName) prog_72_method_25_code (3 : Nat) (Option.some (Jvm.ClassFile.FieldType.object "java/util/SequencedSet"))) ∈ lw_all := lw_g (lw_at lw_m8 154 rfl) rfl
theorem q1940 : (Jvm.Cond.classLink "java/util/LinkedHashMap" (121 : Nat) "java/util/LinkedHashMap$LinkedKeySet") ∈ lw_all := lw_g (lw_at lw_m8 155 rfl) rfl
theorem q1942 : (Jvm.Cond.methodLink "java/util/LinkedHashMap" (123 : Nat) ({ cls := "java/util/LinkedHashMap$LinkedKeySet", name := "<init>", desc := "(Ljava/util/LinkedHashMap;Z)V" } : Jvm.MethodName)) ∈ lw_all := lw_g (lw_at lw_m8 157 rfl) rfl
theorem q1953 : (Jvm.Cond.classLink "java/util/LinkedHashMap" (126 : Nat) "java/util/SequencedSet") ∈ lw_all := lw_g (lw_at lw_m8 168 rfl) rfl
theorem q2095 : (Jvm.Cond.instanceMethod ({ cls := "java/util/LinkedHashMap", name := "get", desc := "(Ljava/lang/Object;)Ljava/lang/Object;" } : Jvm.MethodName)) ∈ lw_all := lw_g (lw_at lw_m9 70 rfl) rfl
theorem q2096 : (Jvm.Cond.selects "java/util/LinkedHashMap" ({ cls := "java/util/LinkedHashMap", name := "get", desc := "(Ljava/lang/Object;)Ljava/lang/Object;" } : Jvm.MethodName) ({ cls := "java/util/LinkedHashMap", name := "get", desc := "(Ljava/lang/Object;)Ljava/lang/Object;" } : Jvm.MethodName)) ∈ lw_all := lw_g (lw_at lw_m9 71 rfl) rfl
theorem q2097 : (Jvm.Cond.code ({ cls := "java/util/LinkedHashMap", name := "get", desc := "(Ljava/lang/Object;)Ljava/lang/Object;" } : Jvm.MethodName) prog_72_method_20_code (3 : Nat) (Option.some (Jvm.ClassFile.FieldType.object "java/lang/Object"))) ∈ lw_all := lw_g (lw_at lw_m9 72 rfl) rfl
theorem q2098 : (Jvm.Cond.methodLink "java/util/LinkedHashMap" (99 : Nat) ({ cls := "java/util/LinkedHashMap", name := "getNode", desc := "(Ljava/lang/Object;)Ljava/util/HashMap$Node;" } : Jvm.MethodName)) ∈ lw_all := lw_g (lw_at lw_m9 73 rfl) rfl
theorem q2099 : (Jvm.Cond.sameMethod "java/util/LinkedHashMap" "java/util/HashMap" "getNode" "(Ljava/lang/Object;)Ljava/util/HashMap$Node;") ∈ lw_all := lw_g (lw_at lw_m9 74 rfl) rfl
theorem q2101 : (Jvm.Cond.selects "java/util/LinkedHashMap" ({ cls := "java/util/LinkedHashMap", name := "getNode", desc := "(Ljava/lang/Object;)Ljava/util/HashMap$Node;" } : Jvm.MethodName) ({ cls := "java/util/HashMap", name := "getNode", desc := "(Ljava/lang/Object;)Ljava/util/HashMap$Node;" } : Jvm.MethodName)) ∈ lw_all := lw_g (lw_at lw_m9 76 rfl) rfl
theorem q2108 : (Jvm.Cond.methodLink "java/util/LinkedHashMap" (103 : Nat) ({ cls := "java/util/LinkedHashMap", name := "afterNodeAccess", desc := "(Ljava/util/HashMap$Node;)V" } : Jvm.MethodName)) ∈ lw_all := lw_g (lw_at lw_m9 83 rfl) rfl
theorem q3113 : (Jvm.Cond.selects "java/util/LinkedHashMap" ({ cls := "java/util/LinkedHashMap", name := "afterNodeAccess", desc := "(Ljava/util/HashMap$Node;)V" } : Jvm.MethodName) ({ cls := "java/util/LinkedHashMap", name := "afterNodeAccess", desc := "(Ljava/util/HashMap$Node;)V" } : Jvm.MethodName)) ∈ lw_all := lw_g (lw_at lw_m13 128 rfl) rfl
theorem q3133 : (Jvm.Cond.castable "java/util/LinkedHashMap" "java/lang/Object") ∈ lw_tbl := lw_at lw_m13 148 rfl
theorem in_J5 : ∀ w ∈ wsJ50, w ∈ lw_all := lw_in wsJ50 [361, 363, 349, 351, 353, 355, 357, 359, 341, 343, 345, 347] (by decide +kernel) (by decide +kernel)
/-! java/lang/Math -/
set_option maxRecDepth 100000
def RJ6 : String := "java/lang/Math"
abbrev cJ6_max : ByteArray := prog_45_method_65_code
def yJ6_max : MethodName := ⟨RJ6, "max", "(II)I"⟩
def dkwJ6_max_0 : List UInt8 := [26, 27, 161, 0, 7, 26, 167, 0, 4, 27, 172]
abbrev dktJ6_max_0 : List UInt8 := dkwJ6_max_0 ++ []
theorem dksJ6_max_0 : cJ6_max.data.toList.drop 0 = dktJ6_max_0 := by decide +kernel
theorem dJ6_max_0 : decode cJ6_max 0 = .ok (.iload_n 0, 1) := dk_26 (dk_at dksJ6_max_0 0 rfl rfl)
theorem dJ6_max_1 : decode cJ6_max 1 = .ok (.iload_n 1, 1) := dk_27 (dk_at dksJ6_max_0 1 rfl rfl)
theorem dJ6_max_2 : decode cJ6_max 2 = .ok (.if_icmp .lt 7, 3) := dk_161 0 7 (dk_at dksJ6_max_0 2 rfl rfl)
theorem dJ6_max_5 : decode cJ6_max 5 = .ok (.iload_n 0, 1) := dk_26 (dk_at dksJ6_max_0 5 rfl rfl)
theorem dJ6_max_6 : decode cJ6_max 6 = .ok (.goto 4, 3) := dk_167 0 4 (dk_at dksJ6_max_0 6 rfl rfl)
theorem dJ6_max_9 : decode cJ6_max 9 = .ok (.iload_n 1, 1) := dk_27 (dk_at dksJ6_max_0 9 rfl rfl)
theorem dJ6_max_10 : decode cJ6_max 10 = .ok (.ireturn, 1) := dk_172 (dk_at dksJ6_max_0 10 rfl rfl)
abbrev cJ6_min : ByteArray := prog_45_method_69_code
def yJ6_min : MethodName := ⟨RJ6, "min", "(II)I"⟩
def dkwJ6_min_0 : List UInt8 := [26, 27, 163, 0, 7, 26, 167, 0, 4, 27, 172]
abbrev dktJ6_min_0 : List UInt8 := dkwJ6_min_0 ++ []
theorem dksJ6_min_0 : cJ6_min.data.toList.drop 0 = dktJ6_min_0 := by decide +kernel
theorem dJ6_min_0 : decode cJ6_min 0 = .ok (.iload_n 0, 1) := dk_26 (dk_at dksJ6_min_0 0 rfl rfl)
theorem dJ6_min_1 : decode cJ6_min 1 = .ok (.iload_n 1, 1) := dk_27 (dk_at dksJ6_min_0 1 rfl rfl)
theorem dJ6_min_2 : decode cJ6_min 2 = .ok (.if_icmp .gt 7, 3) := dk_163 0 7 (dk_at dksJ6_min_0 2 rfl rfl)
theorem dJ6_min_5 : decode cJ6_min 5 = .ok (.iload_n 0, 1) := dk_26 (dk_at dksJ6_min_0 5 rfl rfl)
theorem dJ6_min_6 : decode cJ6_min 6 = .ok (.goto 4, 3) := dk_167 0 4 (dk_at dksJ6_min_0 6 rfl rfl)
theorem dJ6_min_9 : decode cJ6_min 9 = .ok (.iload_n 1, 1) := dk_27 (dk_at dksJ6_min_0 9 rfl rfl)
theorem dJ6_min_10 : decode cJ6_min 10 = .ok (.ireturn, 1) := dk_172 (dk_at dksJ6_min_0 10 rfl rfl)
theorem q123 : (Jvm.Cond.initialized "java/lang/Math") ∈ lw_all := lw_g (lw_at lw_m1 18 rfl) rfl
theorem q625 : (Jvm.Cond.static ({ cls := "java/lang/Math", name := "max", desc := "(II)I" } : Jvm.MethodName)) ∈ lw_all := lw_g (lw_at lw_m3 40 rfl) rfl
theorem q626 : (Jvm.Cond.code ({ cls := "java/lang/Math", name := "max", desc := "(II)I" } : Jvm.MethodName) prog_45_method_65_code (2 : Nat) (Option.some Jvm.ClassFile.FieldType.int)) ∈ lw_all := lw_g (lw_at lw_m3 41 rfl) rfl
theorem q773 : (Jvm.Cond.static ({ cls := "java/lang/Math", name := "min", desc := "(II)I" } : Jvm.MethodName)) ∈ lw_all := lw_g (lw_at lw_m3 188 rfl) rfl
theorem q774 : (Jvm.Cond.code ({ cls := "java/lang/Math", name := "min", desc := "(II)I" } : Jvm.MethodName) prog_45_method_69_code (2 : Nat) (Option.some Jvm.ClassFile.FieldType.int)) ∈ lw_all := lw_g (lw_at lw_m3 189 rfl) rfl
/-! java/util/AbstractCollection -/
set_option maxRecDepth 100000
def RJ7 : String := "java/util/AbstractCollection"
abbrev cJ7_init : ByteArray := prog_58_method_1_code
def yJ7_init : MethodName := ⟨RJ7, "<init>", "()V"⟩
theorem dJ7_init_0 : decode cJ7_init 0 = .ok (.aload_n 0, 1) := by decide +kernel
theorem dJ7_init_1 : decode cJ7_init 1 = .ok (.invokespecial 1, 3) := by decide +kernel
theorem dJ7_init_4 : decode cJ7_init 4 = .ok (.return_, 1) := by decide +kernel
theorem q128 : (Jvm.Cond.initialized "java/util/AbstractCollection") ∈ lw_all := lw_g (lw_at lw_m1 23 rfl) rfl
theorem q831 : (Jvm.Cond.instanceMethod ({ cls := "java/util/AbstractCollection", name := "<init>", desc := "()V" } : Jvm.MethodName)) ∈ lw_all := lw_g (lw_at lw_m4 6 rfl) rfl
theorem q832 : (Jvm.Cond.code ({ cls := "java/util/AbstractCollection", name := "<init>", desc := "()V" } : Jvm.MethodName) prog_58_method_1_code (1 : Nat) (Option.none : Option Jvm.ClassFile.FieldType)) ∈ lw_all := lw_g (lw_at lw_m4 7 rfl) rfl
theorem q833 : (Jvm.Cond.methodLink "java/util/AbstractCollection" (1 : Nat) ({ cls := "java/lang/Object", name := "<init>", desc := "()V" } : Jvm.MethodName)) ∈ lw_all := lw_g (lw_at lw_m4 8 rfl) rfl
/-! java/util/AbstractSet -/
set_option maxRecDepth 100000
def RJ8 : String := "java/util/AbstractSet"
abbrev cJ8_init : ByteArray := prog_61_method_1_code
def yJ8_init : MethodName := ⟨RJ8, "<init>", "()V"⟩
theorem dJ8_init_0 : decode cJ8_init 0 = .ok (.aload_n 0, 1) := by decide +kernel
theorem dJ8_init_1 : decode cJ8_init 1 = .ok (.invokespecial 1, 3) := by decide +kernel
theorem dJ8_init_4 : decode cJ8_init 4 = .ok (.return_, 1) := by decide +kernel
theorem q129 : (Jvm.Cond.initialized "java/util/AbstractSet") ∈ lw_all := lw_g (lw_at lw_m1 24 rfl) rfl
theorem q828 : (Jvm.Cond.instanceMethod ({ cls := "java/util/AbstractSet", name := "<init>", desc := "()V" } : Jvm.MethodName)) ∈ lw_all := lw_g (lw_at lw_m4 3 rfl) rfl
theorem q829 : (Jvm.Cond.code ({ cls := "java/util/AbstractSet", name := "<init>", desc := "()V" } : Jvm.MethodName) prog_61_method_1_code (1 : Nat) (Option.none : Option Jvm.ClassFile.FieldType)) ∈ lw_all := lw_g (lw_at lw_m4 4 rfl) rfl
theorem q830 : (Jvm.Cond.methodLink "java/util/AbstractSet" (1 : Nat) ({ cls := "java/util/AbstractCollection", name := "<init>", desc := "()V" } : Jvm.MethodName)) ∈ lw_all := lw_g (lw_at lw_m4 5 rfl) rfl
/-! java/util/HashSet -/
set_option maxRecDepth 100000
def RJ9 : String := "java/util/HashSet"
def TJ9 : u_T := fun k => match k with
  | _ => ("java/util/HashSet", "map", "Ljava/util/HashMap;", false)
def tyJ9 : Nat → FieldType := fun k => match k with
  | _ => .object "java/util/HashMap"
abbrev wsJ90 : List Cond := u_ws RJ9 TJ9 1
theorem nmJ9 : ∀ a, a < 1 → ∀ b, b < 1 → a ≠ b → (TJ9 a).2.1 ≠ (TJ9 b).2.1 := by decide +kernel
theorem tyJ9_ok : ∀ k, k < 1 → parseFieldDescriptor (TJ9 k).2.2.1 = some (tyJ9 k) := by decide +kernel
abbrev cJ9_init : ByteArray := prog_70_method_1_code
def yJ9_init : MethodName := ⟨RJ9, "<init>", "()V"⟩
def dkwJ9_init_0 : List UInt8 := [42, 183, 0, 1, 42, 187, 0, 7, 89, 183, 0, 9, 181, 0, 10, 177]
abbrev dktJ9_init_0 : List UInt8 := dkwJ9_init_0 ++ []
theorem dksJ9_init_0 : cJ9_init.data.toList.drop 0 = dktJ9_init_0 := by decide +kernel
theorem dJ9_init_0 : decode cJ9_init 0 = .ok (.aload_n 0, 1) := dk_42 (dk_at dksJ9_init_0 0 rfl rfl)
theorem dJ9_init_1 : decode cJ9_init 1 = .ok (.invokespecial 1, 3) := dk_183 0 1 (dk_at dksJ9_init_0 1 rfl rfl)
theorem dJ9_init_4 : decode cJ9_init 4 = .ok (.aload_n 0, 1) := dk_42 (dk_at dksJ9_init_0 4 rfl rfl)
theorem dJ9_init_5 : decode cJ9_init 5 = .ok (.new 7, 3) := dk_187 0 7 (dk_at dksJ9_init_0 5 rfl rfl)
theorem dJ9_init_8 : decode cJ9_init 8 = .ok (.dup, 1) := dk_89 (dk_at dksJ9_init_0 8 rfl rfl)
theorem dJ9_init_9 : decode cJ9_init 9 = .ok (.invokespecial 9, 3) := dk_183 0 9 (dk_at dksJ9_init_0 9 rfl rfl)
theorem dJ9_init_12 : decode cJ9_init 12 = .ok (.putfield 10, 3) := dk_181 0 10 (dk_at dksJ9_init_0 12 rfl rfl)
theorem dJ9_init_15 : decode cJ9_init 15 = .ok (.return_, 1) := dk_177 (dk_at dksJ9_init_0 15 rfl rfl)
abbrev cJ9_add : ByteArray := prog_70_method_10_code
def yJ9_add : MethodName := ⟨RJ9, "add", "(Ljava/lang/Object;)Z"⟩
def dkwJ9_add_0 : List UInt8 := [42, 180, 0, 10, 43, 178, 0, 64, 182, 0, 68, 199, 0, 7, 4, 167, 0, 4, 3, 172]
abbrev dktJ9_add_0 : List UInt8 := dkwJ9_add_0 ++ []
theorem dksJ9_add_0 : cJ9_add.data.toList.drop 0 = dktJ9_add_0 := by decide +kernel
theorem dJ9_add_0 : decode cJ9_add 0 = .ok (.aload_n 0, 1) := dk_42 (dk_at dksJ9_add_0 0 rfl rfl)
theorem dJ9_add_1 : decode cJ9_add 1 = .ok (.getfield 10, 3) := dk_180 0 10 (dk_at dksJ9_add_0 1 rfl rfl)
theorem dJ9_add_4 : decode cJ9_add 4 = .ok (.aload_n 1, 1) := dk_43 (dk_at dksJ9_add_0 4 rfl rfl)
theorem dJ9_add_5 : decode cJ9_add 5 = .ok (.getstatic 64, 3) := dk_178 0 64 (dk_at dksJ9_add_0 5 rfl rfl)
theorem dJ9_add_8 : decode cJ9_add 8 = .ok (.invokevirtual 68, 3) := dk_182 0 68 (dk_at dksJ9_add_0 8 rfl rfl)
theorem dJ9_add_11 : decode cJ9_add 11 = .ok (.ifnonnull 7, 3) := dk_199 0 7 (dk_at dksJ9_add_0 11 rfl rfl)
theorem dJ9_add_14 : decode cJ9_add 14 = .ok (.iconst 1, 1) := dk_4 (dk_at dksJ9_add_0 14 rfl rfl)
theorem dJ9_add_15 : decode cJ9_add 15 = .ok (.goto 4, 3) := dk_167 0 4 (dk_at dksJ9_add_0 15 rfl rfl)
theorem dJ9_add_18 : decode cJ9_add 18 = .ok (.iconst 0, 1) := dk_3 (dk_at dksJ9_add_0 18 rfl rfl)
theorem dJ9_add_19 : decode cJ9_add 19 = .ok (.ireturn, 1) := dk_172 (dk_at dksJ9_add_0 19 rfl rfl)
abbrev cJ9_iterator : ByteArray := prog_70_method_6_code
def yJ9_iterator : MethodName := ⟨RJ9, "iterator", "()Ljava/util/Iterator;"⟩
def dkwJ9_iterator_0 : List UInt8 := [42, 180, 0, 10, 182, 0, 45, 185, 0, 49, 1, 0, 176]
abbrev dktJ9_iterator_0 : List UInt8 := dkwJ9_iterator_0 ++ []
theorem dksJ9_iterator_0 : cJ9_iterator.data.toList.drop 0 = dktJ9_iterator_0 := by decide +kernel
theorem dJ9_iterator_0 : decode cJ9_iterator 0 = .ok (.aload_n 0, 1) := dk_42 (dk_at dksJ9_iterator_0 0 rfl rfl)
theorem dJ9_iterator_1 : decode cJ9_iterator 1 = .ok (.getfield 10, 3) := dk_180 0 10 (dk_at dksJ9_iterator_0 1 rfl rfl)
theorem dJ9_iterator_4 : decode cJ9_iterator 4 = .ok (.invokevirtual 45, 3) := dk_182 0 45 (dk_at dksJ9_iterator_0 4 rfl rfl)
theorem dJ9_iterator_7 : decode cJ9_iterator 7 = .ok (.invokeinterface 49 1, 5) := by decide +kernel
theorem dJ9_iterator_12 : decode cJ9_iterator 12 = .ok (.areturn, 1) := dk_176 (dk_at dksJ9_iterator_0 12 rfl rfl)
theorem q130 : (Jvm.Cond.initialized "java/util/HashSet") ∈ lw_all := lw_g (lw_at lw_m1 25 rfl) rfl
theorem q823 : (Jvm.Cond.instantiable "java/util/HashSet" (1 : Nat)) ∈ lw_all := lw_g (lw_at lw_m3 238 rfl) rfl
theorem q825 : (Jvm.Cond.instanceMethod ({ cls := "java/util/HashSet", name := "<init>", desc := "()V" } : Jvm.MethodName)) ∈ lw_all := lw_g (lw_at lw_m4 0 rfl) rfl
theorem q826 : (Jvm.Cond.code ({ cls := "java/util/HashSet", name := "<init>", desc := "()V" } : Jvm.MethodName) prog_70_method_1_code (1 : Nat) (Option.none : Option Jvm.ClassFile.FieldType)) ∈ lw_all := lw_g (lw_at lw_m4 1 rfl) rfl
theorem q827 : (Jvm.Cond.methodLink "java/util/HashSet" (1 : Nat) ({ cls := "java/util/AbstractSet", name := "<init>", desc := "()V" } : Jvm.MethodName)) ∈ lw_all := lw_g (lw_at lw_m4 2 rfl) rfl
theorem q834 : (Jvm.Cond.classLink "java/util/HashSet" (7 : Nat) "java/util/HashMap") ∈ lw_all := lw_g (lw_at lw_m4 9 rfl) rfl
theorem q836 : (Jvm.Cond.methodLink "java/util/HashSet" (9 : Nat) ({ cls := "java/util/HashMap", name := "<init>", desc := "()V" } : Jvm.MethodName)) ∈ lw_all := lw_g (lw_at lw_m4 11 rfl) rfl
theorem q846 : (Jvm.Cond.fieldLink "java/util/HashSet" (10 : Nat) "java/util/HashSet" "map" "Ljava/util/HashMap;") ∈ lw_all := lw_g (lw_at lw_m4 21 rfl) rfl
theorem q847 : (Jvm.Cond.lays "java/util/HashSet" "java/util/HashSet" "map" "Ljava/util/HashMap;") ∈ lw_all := lw_g (lw_at lw_m4 22 rfl) rfl
theorem q848 : (Jvm.Cond.soleField "java/util/HashSet" "map") ∈ lw_all := lw_g (lw_at lw_m4 23 rfl) rfl
theorem q849 : (Jvm.Cond.superclass "java/util/HashSet" "java/util/AbstractSet") ∈ lw_all := lw_g (lw_at lw_m4 24 rfl) rfl
theorem q865 : (Jvm.Cond.instanceMethod ({ cls := "java/util/HashSet", name := "add", desc := "(Ljava/lang/Object;)Z" } : Jvm.MethodName)) ∈ lw_all := lw_g (lw_at lw_m4 40 rfl) rfl
theorem q866 : (Jvm.Cond.selects "java/util/HashSet" ({ cls := "java/util/HashSet", name := "add", desc := "(Ljava/lang/Object;)Z" } : Jvm.MethodName) ({ cls := "java/util/HashSet", name := "add", desc := "(Ljava/lang/Object;)Z" } : Jvm.MethodName)) ∈ lw_all := lw_g (lw_at lw_m4 41 rfl) rfl
theorem q867 : (Jvm.Cond.code ({ cls := "java/util/HashSet", name := "add", desc := "(Ljava/lang/Object;)Z" } : Jvm.MethodName) prog_70_method_10_code (2 : Nat) (Option.some Jvm.ClassFile.FieldType.boolean)) ∈ lw_all := lw_g (lw_at lw_m4 42 rfl) rfl
theorem q868 : (Jvm.Cond.fieldLink "java/util/HashSet" (64 : Nat) "java/util/HashSet" "PRESENT" "Ljava/lang/Object;") ∈ lw_all := lw_g (lw_at lw_m4 43 rfl) rfl
theorem q869 : (Jvm.Cond.laysStatic "java/util/HashSet" "PRESENT" "Ljava/lang/Object;") ∈ lw_tbl := lw_at lw_m4 44 rfl
theorem q870 : (Jvm.Cond.methodLink "java/util/HashSet" (68 : Nat) ({ cls := "java/util/HashMap", name := "put", desc := "(Ljava/lang/Object;Ljava/lang/Object;)Ljava/lang/Object;" } : Jvm.MethodName)) ∈ lw_all := lw_g (lw_at lw_m4 45 rfl) rfl
theorem q1136 : (Jvm.Cond.selects "java/util/HashSet" ({ cls := "java/lang/Object", name := "getClass", desc := "()Ljava/lang/Class;" } : Jvm.MethodName) ({ cls := "java/lang/Object", name := "getClass", desc := "()Ljava/lang/Class;" } : Jvm.MethodName)) ∈ lw_all := lw_g (lw_at lw_m5 71 rfl) rfl
theorem q1923 : (Jvm.Cond.castable "java/util/HashSet" "java/util/Collection") ∈ lw_tbl := lw_at lw_m8 138 rfl
theorem q1924 : (Jvm.Cond.selects "java/util/HashSet" ({ cls := "java/util/Collection", name := "iterator", desc := "()Ljava/util/Iterator;" } : Jvm.MethodName) ({ cls := "java/util/HashSet", name := "iterator", desc := "()Ljava/util/Iterator;" } : Jvm.MethodName)) ∈ lw_all := lw_g (lw_at lw_m8 139 rfl) rfl
theorem q1925 : (Jvm.Cond.unhidden "java/util/HashSet" "iterator" "()Ljava/util/Iterator;") ∈ lw_tbl := lw_at lw_m8 140 rfl
theorem q1926 : (Jvm.Cond.instanceMethod ({ cls := "java/util/HashSet", name := "iterator", desc := "()Ljava/util/Iterator;" } : Jvm.MethodName)) ∈ lw_all := lw_g (lw_at lw_m8 141 rfl) rfl
theorem q1927 : (Jvm.Cond.publicMethod ({ cls := "java/util/HashSet", name := "iterator", desc := "()Ljava/util/Iterator;" } : Jvm.MethodName)) ∈ lw_tbl := lw_at lw_m8 142 rfl
theorem q1928 : (Jvm.Cond.code ({ cls := "java/util/HashSet", name := "iterator", desc := "()Ljava/util/Iterator;" } : Jvm.MethodName) prog_70_method_6_code (1 : Nat) (Option.some (Jvm.ClassFile.FieldType.object "java/util/Iterator"))) ∈ lw_all := lw_g (lw_at lw_m8 143 rfl) rfl
theorem q1929 : (Jvm.Cond.methodLink "java/util/HashSet" (45 : Nat) ({ cls := "java/util/HashMap", name := "keySet", desc := "()Ljava/util/Set;" } : Jvm.MethodName)) ∈ lw_all := lw_g (lw_at lw_m8 144 rfl) rfl
theorem q1965 : (Jvm.Cond.interfaceEntry "java/util/HashSet" (49 : Nat)) ∈ lw_tbl := lw_at lw_m8 180 rfl
theorem q1966 : (Jvm.Cond.methodLink "java/util/HashSet" (49 : Nat) ({ cls := "java/util/Set", name := "iterator", desc := "()Ljava/util/Iterator;" } : Jvm.MethodName)) ∈ lw_all := lw_g (lw_at lw_m8 181 rfl) rfl
theorem q1971 : (Jvm.Cond.castable "java/util/HashSet" "java/util/Set") ∈ lw_tbl := lw_at lw_m8 186 rfl
theorem q1972 : (Jvm.Cond.selects "java/util/HashSet" ({ cls := "java/util/Set", name := "iterator", desc := "()Ljava/util/Iterator;" } : Jvm.MethodName) ({ cls := "java/util/HashSet", name := "iterator", desc := "()Ljava/util/Iterator;" } : Jvm.MethodName)) ∈ lw_all := lw_g (lw_at lw_m8 187 rfl) rfl
theorem q3144 : (Jvm.Cond.castable "java/util/HashSet" "java/lang/Object") ∈ lw_tbl := lw_at lw_m13 159 rfl
theorem in_J9 : ∀ w ∈ wsJ90, w ∈ lw_all := lw_in wsJ90 [847] (by decide +kernel) (by decide +kernel)
/-! java/lang/String -/
set_option maxRecDepth 100000
def RJ10 : String := "java/lang/String"
def TJ10 : u_T := fun k => match k with
  | 0 => ("java/lang/String", "value", "[B", true)
  | _ => ("java/lang/String", "coder", "B", true)
def tyJ10 : Nat → FieldType := fun k => match k with
  | 0 => .array .byte
  | _ => .byte
abbrev wsJ100 : List Cond := u_ws RJ10 TJ10 2
theorem nmJ10 : ∀ a, a < 2 → ∀ b, b < 2 → a ≠ b → (TJ10 a).2.1 ≠ (TJ10 b).2.1 := by decide +kernel
theorem tyJ10_ok : ∀ k, k < 2 → parseFieldDescriptor (TJ10 k).2.2.1 = some (tyJ10 k) := by decide +kernel
abbrev cJ10_hashCode : ByteArray := prog_50_method_78_code
def yJ10_hashCode : MethodName := ⟨RJ10, "hashCode", "()I"⟩
def dkwJ10_hashCode_2 : List UInt8 := [181, 0, 23, 167, 0, 8, 42, 27, 181, 0, 19, 27, 172]
abbrev dktJ10_hashCode_2 : List UInt8 := dkwJ10_hashCode_2 ++ []
def dkwJ10_hashCode_1 : List UInt8 := [180, 0, 9, 184, 2, 116, 167, 0, 10, 42, 180, 0, 9, 184, 2, 120, 60, 27, 154, 0, 11, 42, 4]
abbrev dktJ10_hashCode_1 : List UInt8 := dkwJ10_hashCode_1 ++ dktJ10_hashCode_2
def dkwJ10_hashCode_0 : List UInt8 := [42, 180, 0, 19, 60, 27, 154, 0, 52, 42, 180, 0, 23, 154, 0, 45, 42, 182, 1, 236, 153, 0, 13, 42]
abbrev dktJ10_hashCode_0 : List UInt8 := dkwJ10_hashCode_0 ++ dktJ10_hashCode_1
theorem dksJ10_hashCode_0 : cJ10_hashCode.data.toList.drop 0 = dktJ10_hashCode_0 := by decide +kernel
theorem dksJ10_hashCode_1 : cJ10_hashCode.data.toList.drop 24 = dktJ10_hashCode_1 := dk_seg dksJ10_hashCode_0 24 rfl rfl
theorem dksJ10_hashCode_2 : cJ10_hashCode.data.toList.drop 47 = dktJ10_hashCode_2 := dk_seg dksJ10_hashCode_1 23 rfl rfl
theorem dJ10_hashCode_0 : decode cJ10_hashCode 0 = .ok (.aload_n 0, 1) := dk_42 (dk_at dksJ10_hashCode_0 0 rfl rfl)
theorem dJ10_hashCode_1 : decode cJ10_hashCode 1 = .ok (.getfield 19, 3) := dk_180 0 19 (dk_at dksJ10_hashCode_0 1 rfl rfl)
theorem dJ10_hashCode_4 : decode cJ10_hashCode 4 = .ok (.istore_n 1, 1) := dk_60 (dk_at dksJ10_hashCode_0 4 rfl rfl)
theorem dJ10_hashCode_5 : decode cJ10_hashCode 5 = .ok (.iload_n 1, 1) := dk_27 (dk_at dksJ10_hashCode_0 5 rfl rfl)
theorem dJ10_hashCode_6 : decode cJ10_hashCode 6 = .ok (.ifCond .ne 52, 3) := dk_154 0 52 (dk_at dksJ10_hashCode_0 6 rfl rfl)
theorem dJ10_hashCode_9 : decode cJ10_hashCode 9 = .ok (.aload_n 0, 1) := dk_42 (dk_at dksJ10_hashCode_0 9 rfl rfl)
theorem dJ10_hashCode_10 : decode cJ10_hashCode 10 = .ok (.getfield 23, 3) := dk_180 0 23 (dk_at dksJ10_hashCode_0 10 rfl rfl)
theorem dJ10_hashCode_13 : decode cJ10_hashCode 13 = .ok (.ifCond .ne 45, 3) := dk_154 0 45 (dk_at dksJ10_hashCode_0 13 rfl rfl)
theorem dJ10_hashCode_16 : decode cJ10_hashCode 16 = .ok (.aload_n 0, 1) := dk_42 (dk_at dksJ10_hashCode_0 16 rfl rfl)
theorem dJ10_hashCode_17 : decode cJ10_hashCode 17 = .ok (.invokevirtual 492, 3) := dk_182 1 236 (dk_at dksJ10_hashCode_0 17 rfl rfl)
theorem dJ10_hashCode_20 : decode cJ10_hashCode 20 = .ok (.ifCond .eq 13, 3) := dk_153 0 13 (dk_at dksJ10_hashCode_0 20 rfl rfl)
theorem dJ10_hashCode_23 : decode cJ10_hashCode 23 = .ok (.aload_n 0, 1) := dk_42 (dk_at dksJ10_hashCode_0 23 rfl rfl)
theorem dJ10_hashCode_24 : decode cJ10_hashCode 24 = .ok (.getfield 9, 3) := dk_180 0 9 (dk_at dksJ10_hashCode_1 0 rfl rfl)
theorem dJ10_hashCode_27 : decode cJ10_hashCode 27 = .ok (.invokestatic 628, 3) := dk_184 2 116 (dk_at dksJ10_hashCode_1 3 rfl rfl)
theorem dJ10_hashCode_30 : decode cJ10_hashCode 30 = .ok (.goto 10, 3) := dk_167 0 10 (dk_at dksJ10_hashCode_1 6 rfl rfl)
theorem dJ10_hashCode_33 : decode cJ10_hashCode 33 = .ok (.aload_n 0, 1) := dk_42 (dk_at dksJ10_hashCode_1 9 rfl rfl)
theorem dJ10_hashCode_34 : decode cJ10_hashCode 34 = .ok (.getfield 9, 3) := dk_180 0 9 (dk_at dksJ10_hashCode_1 10 rfl rfl)
theorem dJ10_hashCode_37 : decode cJ10_hashCode 37 = .ok (.invokestatic 632, 3) := dk_184 2 120 (dk_at dksJ10_hashCode_1 13 rfl rfl)
theorem dJ10_hashCode_40 : decode cJ10_hashCode 40 = .ok (.istore_n 1, 1) := dk_60 (dk_at dksJ10_hashCode_1 16 rfl rfl)
theorem dJ10_hashCode_41 : decode cJ10_hashCode 41 = .ok (.iload_n 1, 1) := dk_27 (dk_at dksJ10_hashCode_1 17 rfl rfl)
theorem dJ10_hashCode_42 : decode cJ10_hashCode 42 = .ok (.ifCond .ne 11, 3) := dk_154 0 11 (dk_at dksJ10_hashCode_1 18 rfl rfl)
theorem dJ10_hashCode_45 : decode cJ10_hashCode 45 = .ok (.aload_n 0, 1) := dk_42 (dk_at dksJ10_hashCode_1 21 rfl rfl)
theorem dJ10_hashCode_46 : decode cJ10_hashCode 46 = .ok (.iconst 1, 1) := dk_4 (dk_at dksJ10_hashCode_1 22 rfl rfl)
theorem dJ10_hashCode_47 : decode cJ10_hashCode 47 = .ok (.putfield 23, 3) := dk_181 0 23 (dk_at dksJ10_hashCode_2 0 rfl rfl)
theorem dJ10_hashCode_50 : decode cJ10_hashCode 50 = .ok (.goto 8, 3) := dk_167 0 8 (dk_at dksJ10_hashCode_2 3 rfl rfl)
theorem dJ10_hashCode_53 : decode cJ10_hashCode 53 = .ok (.aload_n 0, 1) := dk_42 (dk_at dksJ10_hashCode_2 6 rfl rfl)
theorem dJ10_hashCode_54 : decode cJ10_hashCode 54 = .ok (.iload_n 1, 1) := dk_27 (dk_at dksJ10_hashCode_2 7 rfl rfl)
theorem dJ10_hashCode_55 : decode cJ10_hashCode 55 = .ok (.putfield 19, 3) := dk_181 0 19 (dk_at dksJ10_hashCode_2 8 rfl rfl)
theorem dJ10_hashCode_58 : decode cJ10_hashCode 58 = .ok (.iload_n 1, 1) := dk_27 (dk_at dksJ10_hashCode_2 11 rfl rfl)
theorem dJ10_hashCode_59 : decode cJ10_hashCode 59 = .ok (.ireturn, 1) := dk_172 (dk_at dksJ10_hashCode_2 12 rfl rfl)
abbrev cJ10_isLatin1 : ByteArray := prog_50_method_154_code
def yJ10_isLatin1 : MethodName := ⟨RJ10, "isLatin1", "()Z"⟩
def dkwJ10_isLatin1_0 : List UInt8 := [178, 0, 38, 153, 0, 14, 42, 180, 0, 15, 154, 0, 7, 4, 167, 0, 4, 3, 172]
abbrev dktJ10_isLatin1_0 : List UInt8 := dkwJ10_isLatin1_0 ++ []
theorem dksJ10_isLatin1_0 : cJ10_isLatin1.data.toList.drop 0 = dktJ10_isLatin1_0 := by decide +kernel
theorem dJ10_isLatin1_0 : decode cJ10_isLatin1 0 = .ok (.getstatic 38, 3) := dk_178 0 38 (dk_at dksJ10_isLatin1_0 0 rfl rfl)
theorem dJ10_isLatin1_3 : decode cJ10_isLatin1 3 = .ok (.ifCond .eq 14, 3) := dk_153 0 14 (dk_at dksJ10_isLatin1_0 3 rfl rfl)
theorem dJ10_isLatin1_6 : decode cJ10_isLatin1 6 = .ok (.aload_n 0, 1) := dk_42 (dk_at dksJ10_isLatin1_0 6 rfl rfl)
theorem dJ10_isLatin1_7 : decode cJ10_isLatin1 7 = .ok (.getfield 15, 3) := dk_180 0 15 (dk_at dksJ10_isLatin1_0 7 rfl rfl)
theorem dJ10_isLatin1_10 : decode cJ10_isLatin1 10 = .ok (.ifCond .ne 7, 3) := dk_154 0 7 (dk_at dksJ10_isLatin1_0 10 rfl rfl)
theorem dJ10_isLatin1_13 : decode cJ10_isLatin1 13 = .ok (.iconst 1, 1) := dk_4 (dk_at dksJ10_isLatin1_0 13 rfl rfl)
theorem dJ10_isLatin1_14 : decode cJ10_isLatin1 14 = .ok (.goto 4, 3) := dk_167 0 4 (dk_at dksJ10_isLatin1_0 14 rfl rfl)
theorem dJ10_isLatin1_17 : decode cJ10_isLatin1 17 = .ok (.iconst 0, 1) := dk_3 (dk_at dksJ10_isLatin1_0 17 rfl rfl)
theorem dJ10_isLatin1_18 : decode cJ10_isLatin1 18 = .ok (.ireturn, 1) := dk_172 (dk_at dksJ10_isLatin1_0 18 rfl rfl)
abbrev cJ10_compareTo : ByteArray := prog_50_method_162_code
def yJ10_compareTo : MethodName := ⟨RJ10, "compareTo", "(Ljava/lang/Object;)I"⟩
def dkwJ10_compareTo_0 : List UInt8 := [42, 43, 192, 0, 10, 182, 4, 60, 172]
abbrev dktJ10_compareTo_0 : List UInt8 := dkwJ10_compareTo_0 ++ []
theorem dksJ10_compareTo_0 : cJ10_compareTo.data.toList.drop 0 = dktJ10_compareTo_0 := by decide +kernel
theorem dJ10_compareTo_0 : decode cJ10_compareTo 0 = .ok (.aload_n 0, 1) := dk_42 (dk_at dksJ10_compareTo_0 0 rfl rfl)
theorem dJ10_compareTo_1 : decode cJ10_compareTo 1 = .ok (.aload_n 1, 1) := dk_43 (dk_at dksJ10_compareTo_0 1 rfl rfl)
theorem dJ10_compareTo_2 : decode cJ10_compareTo 2 = .ok (.checkcast 10, 3) := dk_192 0 10 (dk_at dksJ10_compareTo_0 2 rfl rfl)
theorem dJ10_compareTo_5 : decode cJ10_compareTo 5 = .ok (.invokevirtual 1084, 3) := dk_182 4 60 (dk_at dksJ10_compareTo_0 5 rfl rfl)
theorem dJ10_compareTo_8 : decode cJ10_compareTo 8 = .ok (.ireturn, 1) := dk_172 (dk_at dksJ10_compareTo_0 8 rfl rfl)
abbrev cJ10_compareTo_2 : ByteArray := prog_50_method_71_code
def yJ10_compareTo_2 : MethodName := ⟨RJ10, "compareTo", "(Ljava/lang/String;)I"⟩
def dkwJ10_compareTo_2_2 : List UInt8 := [154, 0, 11, 44, 45, 184, 2, 79, 167, 0, 8, 44, 45, 184, 2, 82, 172]
abbrev dktJ10_compareTo_2_2 : List UInt8 := dkwJ10_compareTo_2_2 ++ []
def dkwJ10_compareTo_2_1 : List UInt8 := [160, 0, 22, 21, 4, 154, 0, 11, 44, 45, 184, 2, 74, 167, 0, 8, 44, 45, 184, 2, 78, 172, 21, 4]
abbrev dktJ10_compareTo_2_1 : List UInt8 := dkwJ10_compareTo_2_1 ++ dktJ10_compareTo_2_2
def dkwJ10_compareTo_2_0 : List UInt8 := [42, 180, 0, 9, 77, 43, 180, 0, 9, 78, 42, 182, 1, 79, 54, 4, 21, 4, 43, 182, 1, 79]
abbrev dktJ10_compareTo_2_0 : List UInt8 := dkwJ10_compareTo_2_0 ++ dktJ10_compareTo_2_1
theorem dksJ10_compareTo_2_0 : cJ10_compareTo_2.data.toList.drop 0 = dktJ10_compareTo_2_0 := by decide +kernel
theorem dksJ10_compareTo_2_1 : cJ10_compareTo_2.data.toList.drop 22 = dktJ10_compareTo_2_1 := dk_seg dksJ10_compareTo_2_0 22 rfl rfl
theorem dksJ10_compareTo_2_2 : cJ10_compareTo_2.data.toList.drop 46 = dktJ10_compareTo_2_2 := dk_seg dksJ10_compareTo_2_1 24 rfl rfl
theorem dJ10_compareTo_2_0 : decode cJ10_compareTo_2 0 = .ok (.aload_n 0, 1) := dk_42 (dk_at dksJ10_compareTo_2_0 0 rfl rfl)
theorem dJ10_compareTo_2_1 : decode cJ10_compareTo_2 1 = .ok (.getfield 9, 3) := dk_180 0 9 (dk_at dksJ10_compareTo_2_0 1 rfl rfl)
theorem dJ10_compareTo_2_4 : decode cJ10_compareTo_2 4 = .ok (.astore_n 2, 1) := dk_77 (dk_at dksJ10_compareTo_2_0 4 rfl rfl)
theorem dJ10_compareTo_2_5 : decode cJ10_compareTo_2 5 = .ok (.aload_n 1, 1) := dk_43 (dk_at dksJ10_compareTo_2_0 5 rfl rfl)
theorem dJ10_compareTo_2_6 : decode cJ10_compareTo_2 6 = .ok (.getfield 9, 3) := dk_180 0 9 (dk_at dksJ10_compareTo_2_0 6 rfl rfl)
theorem dJ10_compareTo_2_9 : decode cJ10_compareTo_2 9 = .ok (.astore_n 3, 1) := dk_78 (dk_at dksJ10_compareTo_2_0 9 rfl rfl)
theorem dJ10_compareTo_2_10 : decode cJ10_compareTo_2 10 = .ok (.aload_n 0, 1) := dk_42 (dk_at dksJ10_compareTo_2_0 10 rfl rfl)
theorem dJ10_compareTo_2_11 : decode cJ10_compareTo_2 11 = .ok (.invokevirtual 335, 3) := dk_182 1 79 (dk_at dksJ10_compareTo_2_0 11 rfl rfl)
theorem dJ10_compareTo_2_14 : decode cJ10_compareTo_2 14 = .ok (.istore 4, 2) := dk_54 4 (dk_at dksJ10_compareTo_2_0 14 rfl rfl)
theorem dJ10_compareTo_2_16 : decode cJ10_compareTo_2 16 = .ok (.iload 4, 2) := dk_21 4 (dk_at dksJ10_compareTo_2_0 16 rfl rfl)
theorem dJ10_compareTo_2_18 : decode cJ10_compareTo_2 18 = .ok (.aload_n 1, 1) := dk_43 (dk_at dksJ10_compareTo_2_0 18 rfl rfl)
theorem dJ10_compareTo_2_19 : decode cJ10_compareTo_2 19 = .ok (.invokevirtual 335, 3) := dk_182 1 79 (dk_at dksJ10_compareTo_2_0 19 rfl rfl)
theorem dJ10_compareTo_2_22 : decode cJ10_compareTo_2 22 = .ok (.if_icmp .ne 22, 3) := dk_160 0 22 (dk_at dksJ10_compareTo_2_1 0 rfl rfl)
theorem dJ10_compareTo_2_25 : decode cJ10_compareTo_2 25 = .ok (.iload 4, 2) := dk_21 4 (dk_at dksJ10_compareTo_2_1 3 rfl rfl)
theorem dJ10_compareTo_2_27 : decode cJ10_compareTo_2 27 = .ok (.ifCond .ne 11, 3) := dk_154 0 11 (dk_at dksJ10_compareTo_2_1 5 rfl rfl)
theorem dJ10_compareTo_2_30 : decode cJ10_compareTo_2 30 = .ok (.aload_n 2, 1) := dk_44 (dk_at dksJ10_compareTo_2_1 8 rfl rfl)
theorem dJ10_compareTo_2_31 : decode cJ10_compareTo_2 31 = .ok (.aload_n 3, 1) := dk_45 (dk_at dksJ10_compareTo_2_1 9 rfl rfl)
theorem dJ10_compareTo_2_32 : decode cJ10_compareTo_2 32 = .ok (.invokestatic 586, 3) := dk_184 2 74 (dk_at dksJ10_compareTo_2_1 10 rfl rfl)
theorem dJ10_compareTo_2_35 : decode cJ10_compareTo_2 35 = .ok (.goto 8, 3) := dk_167 0 8 (dk_at dksJ10_compareTo_2_1 13 rfl rfl)
theorem dJ10_compareTo_2_38 : decode cJ10_compareTo_2 38 = .ok (.aload_n 2, 1) := dk_44 (dk_at dksJ10_compareTo_2_1 16 rfl rfl)
theorem dJ10_compareTo_2_39 : decode cJ10_compareTo_2 39 = .ok (.aload_n 3, 1) := dk_45 (dk_at dksJ10_compareTo_2_1 17 rfl rfl)
theorem dJ10_compareTo_2_40 : decode cJ10_compareTo_2 40 = .ok (.invokestatic 590, 3) := dk_184 2 78 (dk_at dksJ10_compareTo_2_1 18 rfl rfl)
theorem dJ10_compareTo_2_43 : decode cJ10_compareTo_2 43 = .ok (.ireturn, 1) := dk_172 (dk_at dksJ10_compareTo_2_1 21 rfl rfl)
theorem dJ10_compareTo_2_44 : decode cJ10_compareTo_2 44 = .ok (.iload 4, 2) := dk_21 4 (dk_at dksJ10_compareTo_2_1 22 rfl rfl)
theorem dJ10_compareTo_2_46 : decode cJ10_compareTo_2 46 = .ok (.ifCond .ne 11, 3) := dk_154 0 11 (dk_at dksJ10_compareTo_2_2 0 rfl rfl)
theorem dJ10_compareTo_2_49 : decode cJ10_compareTo_2 49 = .ok (.aload_n 2, 1) := dk_44 (dk_at dksJ10_compareTo_2_2 3 rfl rfl)
theorem dJ10_compareTo_2_50 : decode cJ10_compareTo_2 50 = .ok (.aload_n 3, 1) := dk_45 (dk_at dksJ10_compareTo_2_2 4 rfl rfl)
theorem dJ10_compareTo_2_51 : decode cJ10_compareTo_2 51 = .ok (.invokestatic 591, 3) := dk_184 2 79 (dk_at dksJ10_compareTo_2_2 5 rfl rfl)
theorem dJ10_compareTo_2_54 : decode cJ10_compareTo_2 54 = .ok (.goto 8, 3) := dk_167 0 8 (dk_at dksJ10_compareTo_2_2 8 rfl rfl)
theorem dJ10_compareTo_2_57 : decode cJ10_compareTo_2 57 = .ok (.aload_n 2, 1) := dk_44 (dk_at dksJ10_compareTo_2_2 11 rfl rfl)
theorem dJ10_compareTo_2_58 : decode cJ10_compareTo_2 58 = .ok (.aload_n 3, 1) := dk_45 (dk_at dksJ10_compareTo_2_2 12 rfl rfl)
theorem dJ10_compareTo_2_59 : decode cJ10_compareTo_2 59 = .ok (.invokestatic 594, 3) := dk_184 2 82 (dk_at dksJ10_compareTo_2_2 13 rfl rfl)
theorem dJ10_compareTo_2_62 : decode cJ10_compareTo_2 62 = .ok (.ireturn, 1) := dk_172 (dk_at dksJ10_compareTo_2_2 16 rfl rfl)
abbrev cJ10_coder : ByteArray := prog_50_method_152_code
def yJ10_coder : MethodName := ⟨RJ10, "coder", "()B"⟩
def dkwJ10_coder_0 : List UInt8 := [178, 0, 38, 153, 0, 10, 42, 180, 0, 15, 167, 0, 4, 4, 172]
abbrev dktJ10_coder_0 : List UInt8 := dkwJ10_coder_0 ++ []
theorem dksJ10_coder_0 : cJ10_coder.data.toList.drop 0 = dktJ10_coder_0 := by decide +kernel
theorem dJ10_coder_0 : decode cJ10_coder 0 = .ok (.getstatic 38, 3) := dk_178 0 38 (dk_at dksJ10_coder_0 0 rfl rfl)
theorem dJ10_coder_3 : decode cJ10_coder 3 = .ok (.ifCond .eq 10, 3) := dk_153 0 10 (dk_at dksJ10_coder_0 3 rfl rfl)
theorem dJ10_coder_6 : decode cJ10_coder 6 = .ok (.aload_n 0, 1) := dk_42 (dk_at dksJ10_coder_0 6 rfl rfl)
theorem dJ10_coder_7 : decode cJ10_coder 7 = .ok (.getfield 15, 3) := dk_180 0 15 (dk_at dksJ10_coder_0 7 rfl rfl)
theorem dJ10_coder_10 : decode cJ10_coder 10 = .ok (.goto 4, 3) := dk_167 0 4 (dk_at dksJ10_coder_0 10 rfl rfl)
theorem dJ10_coder_13 : decode cJ10_coder 13 = .ok (.iconst 1, 1) := dk_4 (dk_at dksJ10_coder_0 13 rfl rfl)
theorem dJ10_coder_14 : decode cJ10_coder 14 = .ok (.ireturn, 1) := dk_172 (dk_at dksJ10_coder_0 14 rfl rfl)
abbrev cJ10_equals : ByteArray := prog_50_method_66_code
def yJ10_equals : MethodName := ⟨RJ10, "equals", "(Ljava/lang/Object;)Z"⟩
def dkwJ10_equals_2 : List UInt8 := [184, 2, 29, 153, 0, 7, 4, 167, 0, 4, 3, 172]
abbrev dktJ10_equals_2 : List UInt8 := dkwJ10_equals_2 ++ []
def dkwJ10_equals_1 : List UInt8 := [153, 0, 14, 42, 180, 0, 15, 44, 180, 0, 15, 160, 0, 21, 42, 180, 0, 9, 44, 180, 0, 9]
abbrev dktJ10_equals_1 : List UInt8 := dkwJ10_equals_1 ++ dktJ10_equals_2
def dkwJ10_equals_0 : List UInt8 := [42, 43, 166, 0, 5, 4, 172, 43, 193, 0, 10, 153, 0, 43, 43, 192, 0, 10, 77, 178, 0, 38]
abbrev dktJ10_equals_0 : List UInt8 := dkwJ10_equals_0 ++ dktJ10_equals_1
theorem dksJ10_equals_0 : cJ10_equals.data.toList.drop 0 = dktJ10_equals_0 := by decide +kernel
theorem dksJ10_equals_1 : cJ10_equals.data.toList.drop 22 = dktJ10_equals_1 := dk_seg dksJ10_equals_0 22 rfl rfl
theorem dksJ10_equals_2 : cJ10_equals.data.toList.drop 44 = dktJ10_equals_2 := dk_seg dksJ10_equals_1 22 rfl rfl
theorem dJ10_equals_0 : decode cJ10_equals 0 = .ok (.aload_n 0, 1) := dk_42 (dk_at dksJ10_equals_0 0 rfl rfl)
theorem dJ10_equals_1 : decode cJ10_equals 1 = .ok (.aload_n 1, 1) := dk_43 (dk_at dksJ10_equals_0 1 rfl rfl)
theorem dJ10_equals_2 : decode cJ10_equals 2 = .ok (.if_acmp .ne 5, 3) := dk_166 0 5 (dk_at dksJ10_equals_0 2 rfl rfl)
theorem dJ10_equals_5 : decode cJ10_equals 5 = .ok (.iconst 1, 1) := dk_4 (dk_at dksJ10_equals_0 5 rfl rfl)
theorem dJ10_equals_6 : decode cJ10_equals 6 = .ok (.ireturn, 1) := dk_172 (dk_at dksJ10_equals_0 6 rfl rfl)
theorem dJ10_equals_7 : decode cJ10_equals 7 = .ok (.aload_n 1, 1) := dk_43 (dk_at dksJ10_equals_0 7 rfl rfl)
theorem dJ10_equals_8 : decode cJ10_equals 8 = .ok (.instanceof 10, 3) := dk_193 0 10 (dk_at dksJ10_equals_0 8 rfl rfl)
theorem dJ10_equals_11 : decode cJ10_equals 11 = .ok (.ifCond .eq 43, 3) := dk_153 0 43 (dk_at dksJ10_equals_0 11 rfl rfl)
theorem dJ10_equals_14 : decode cJ10_equals 14 = .ok (.aload_n 1, 1) := dk_43 (dk_at dksJ10_equals_0 14 rfl rfl)
theorem dJ10_equals_15 : decode cJ10_equals 15 = .ok (.checkcast 10, 3) := dk_192 0 10 (dk_at dksJ10_equals_0 15 rfl rfl)
theorem dJ10_equals_18 : decode cJ10_equals 18 = .ok (.astore_n 2, 1) := dk_77 (dk_at dksJ10_equals_0 18 rfl rfl)
theorem dJ10_equals_19 : decode cJ10_equals 19 = .ok (.getstatic 38, 3) := dk_178 0 38 (dk_at dksJ10_equals_0 19 rfl rfl)
theorem dJ10_equals_22 : decode cJ10_equals 22 = .ok (.ifCond .eq 14, 3) := dk_153 0 14 (dk_at dksJ10_equals_1 0 rfl rfl)
theorem dJ10_equals_25 : decode cJ10_equals 25 = .ok (.aload_n 0, 1) := dk_42 (dk_at dksJ10_equals_1 3 rfl rfl)
theorem dJ10_equals_26 : decode cJ10_equals 26 = .ok (.getfield 15, 3) := dk_180 0 15 (dk_at dksJ10_equals_1 4 rfl rfl)
theorem dJ10_equals_29 : decode cJ10_equals 29 = .ok (.aload_n 2, 1) := dk_44 (dk_at dksJ10_equals_1 7 rfl rfl)
theorem dJ10_equals_30 : decode cJ10_equals 30 = .ok (.getfield 15, 3) := dk_180 0 15 (dk_at dksJ10_equals_1 8 rfl rfl)
theorem dJ10_equals_33 : decode cJ10_equals 33 = .ok (.if_icmp .ne 21, 3) := dk_160 0 21 (dk_at dksJ10_equals_1 11 rfl rfl)
theorem dJ10_equals_36 : decode cJ10_equals 36 = .ok (.aload_n 0, 1) := dk_42 (dk_at dksJ10_equals_1 14 rfl rfl)
theorem dJ10_equals_37 : decode cJ10_equals 37 = .ok (.getfield 9, 3) := dk_180 0 9 (dk_at dksJ10_equals_1 15 rfl rfl)
theorem dJ10_equals_40 : decode cJ10_equals 40 = .ok (.aload_n 2, 1) := dk_44 (dk_at dksJ10_equals_1 18 rfl rfl)
theorem dJ10_equals_41 : decode cJ10_equals 41 = .ok (.getfield 9, 3) := dk_180 0 9 (dk_at dksJ10_equals_1 19 rfl rfl)
theorem dJ10_equals_44 : decode cJ10_equals 44 = .ok (.invokestatic 541, 3) := dk_184 2 29 (dk_at dksJ10_equals_2 0 rfl rfl)
theorem dJ10_equals_47 : decode cJ10_equals 47 = .ok (.ifCond .eq 7, 3) := dk_153 0 7 (dk_at dksJ10_equals_2 3 rfl rfl)
theorem dJ10_equals_50 : decode cJ10_equals 50 = .ok (.iconst 1, 1) := dk_4 (dk_at dksJ10_equals_2 6 rfl rfl)
theorem dJ10_equals_51 : decode cJ10_equals 51 = .ok (.goto 4, 3) := dk_167 0 4 (dk_at dksJ10_equals_2 7 rfl rfl)
theorem dJ10_equals_54 : decode cJ10_equals 54 = .ok (.iconst 0, 1) := dk_3 (dk_at dksJ10_equals_2 10 rfl rfl)
theorem dJ10_equals_55 : decode cJ10_equals 55 = .ok (.ireturn, 1) := dk_172 (dk_at dksJ10_equals_2 11 rfl rfl)
abbrev cJ10_length : ByteArray := prog_50_method_54_code
def yJ10_length : MethodName := ⟨RJ10, "length", "()I"⟩
def dkwJ10_length_0 : List UInt8 := [42, 180, 0, 9, 190, 42, 182, 1, 79, 122, 172]
abbrev dktJ10_length_0 : List UInt8 := dkwJ10_length_0 ++ []
theorem dksJ10_length_0 : cJ10_length.data.toList.drop 0 = dktJ10_length_0 := by decide +kernel
theorem dJ10_length_0 : decode cJ10_length 0 = .ok (.aload_n 0, 1) := dk_42 (dk_at dksJ10_length_0 0 rfl rfl)
theorem dJ10_length_1 : decode cJ10_length 1 = .ok (.getfield 9, 3) := dk_180 0 9 (dk_at dksJ10_length_0 1 rfl rfl)
theorem dJ10_length_4 : decode cJ10_length 4 = .ok (.arraylength, 1) := dk_190 (dk_at dksJ10_length_0 4 rfl rfl)
theorem dJ10_length_5 : decode cJ10_length 5 = .ok (.aload_n 0, 1) := dk_42 (dk_at dksJ10_length_0 5 rfl rfl)
theorem dJ10_length_6 : decode cJ10_length 6 = .ok (.invokevirtual 335, 3) := dk_182 1 79 (dk_at dksJ10_length_0 6 rfl rfl)
theorem dJ10_length_9 : decode cJ10_length 9 = .ok (.ishr, 1) := dk_122 (dk_at dksJ10_length_0 9 rfl rfl)
theorem dJ10_length_10 : decode cJ10_length 10 = .ok (.ireturn, 1) := dk_172 (dk_at dksJ10_length_0 10 rfl rfl)
abbrev cJ10_charAt : ByteArray := prog_50_method_56_code
def yJ10_charAt : MethodName := ⟨RJ10, "charAt", "(I)C"⟩
def dkwJ10_charAt_1 : List UInt8 := [172]
abbrev dktJ10_charAt_1 : List UInt8 := dkwJ10_charAt_1 ++ []
def dkwJ10_charAt_0 : List UInt8 := [42, 182, 1, 236, 153, 0, 12, 42, 180, 0, 9, 27, 184, 1, 239, 172, 42, 180, 0, 9, 27, 184, 1, 242]
abbrev dktJ10_charAt_0 : List UInt8 := dkwJ10_charAt_0 ++ dktJ10_charAt_1
theorem dksJ10_charAt_0 : cJ10_charAt.data.toList.drop 0 = dktJ10_charAt_0 := by decide +kernel
theorem dksJ10_charAt_1 : cJ10_charAt.data.toList.drop 24 = dktJ10_charAt_1 := dk_seg dksJ10_charAt_0 24 rfl rfl
theorem dJ10_charAt_0 : decode cJ10_charAt 0 = .ok (.aload_n 0, 1) := dk_42 (dk_at dksJ10_charAt_0 0 rfl rfl)
theorem dJ10_charAt_1 : decode cJ10_charAt 1 = .ok (.invokevirtual 492, 3) := dk_182 1 236 (dk_at dksJ10_charAt_0 1 rfl rfl)
theorem dJ10_charAt_4 : decode cJ10_charAt 4 = .ok (.ifCond .eq 12, 3) := dk_153 0 12 (dk_at dksJ10_charAt_0 4 rfl rfl)
theorem dJ10_charAt_7 : decode cJ10_charAt 7 = .ok (.aload_n 0, 1) := dk_42 (dk_at dksJ10_charAt_0 7 rfl rfl)
theorem dJ10_charAt_8 : decode cJ10_charAt 8 = .ok (.getfield 9, 3) := dk_180 0 9 (dk_at dksJ10_charAt_0 8 rfl rfl)
theorem dJ10_charAt_11 : decode cJ10_charAt 11 = .ok (.iload_n 1, 1) := dk_27 (dk_at dksJ10_charAt_0 11 rfl rfl)
theorem dJ10_charAt_12 : decode cJ10_charAt 12 = .ok (.invokestatic 495, 3) := dk_184 1 239 (dk_at dksJ10_charAt_0 12 rfl rfl)
theorem dJ10_charAt_15 : decode cJ10_charAt 15 = .ok (.ireturn, 1) := dk_172 (dk_at dksJ10_charAt_0 15 rfl rfl)
theorem dJ10_charAt_16 : decode cJ10_charAt 16 = .ok (.aload_n 0, 1) := dk_42 (dk_at dksJ10_charAt_0 16 rfl rfl)
theorem dJ10_charAt_17 : decode cJ10_charAt 17 = .ok (.getfield 9, 3) := dk_180 0 9 (dk_at dksJ10_charAt_0 17 rfl rfl)
theorem dJ10_charAt_20 : decode cJ10_charAt 20 = .ok (.iload_n 1, 1) := dk_27 (dk_at dksJ10_charAt_0 20 rfl rfl)
theorem dJ10_charAt_21 : decode cJ10_charAt 21 = .ok (.invokestatic 498, 3) := dk_184 1 242 (dk_at dksJ10_charAt_0 21 rfl rfl)
theorem dJ10_charAt_24 : decode cJ10_charAt 24 = .ok (.ireturn, 1) := dk_172 (dk_at dksJ10_charAt_1 0 rfl rfl)
abbrev cJ10_checkIndex : ByteArray := prog_50_method_155_code
def yJ10_checkIndex : MethodName := ⟨RJ10, "checkIndex", "(II)V"⟩
def dkwJ10_checkIndex_0 : List UInt8 := [26, 27, 178, 4, 29, 184, 4, 35, 87, 177]
abbrev dktJ10_checkIndex_0 : List UInt8 := dkwJ10_checkIndex_0 ++ []
theorem dksJ10_checkIndex_0 : cJ10_checkIndex.data.toList.drop 0 = dktJ10_checkIndex_0 := by decide +kernel
theorem dJ10_checkIndex_0 : decode cJ10_checkIndex 0 = .ok (.iload_n 0, 1) := dk_26 (dk_at dksJ10_checkIndex_0 0 rfl rfl)
theorem dJ10_checkIndex_1 : decode cJ10_checkIndex 1 = .ok (.iload_n 1, 1) := dk_27 (dk_at dksJ10_checkIndex_0 1 rfl rfl)
theorem dJ10_checkIndex_2 : decode cJ10_checkIndex 2 = .ok (.getstatic 1053, 3) := dk_178 4 29 (dk_at dksJ10_checkIndex_0 2 rfl rfl)
theorem dJ10_checkIndex_5 : decode cJ10_checkIndex 5 = .ok (.invokestatic 1059, 3) := dk_184 4 35 (dk_at dksJ10_checkIndex_0 5 rfl rfl)
theorem dJ10_checkIndex_8 : decode cJ10_checkIndex 8 = .ok (.pop, 1) := dk_87 (dk_at dksJ10_checkIndex_0 8 rfl rfl)
theorem dJ10_checkIndex_9 : decode cJ10_checkIndex 9 = .ok (.return_, 1) := dk_177 (dk_at dksJ10_checkIndex_0 9 rfl rfl)
theorem q132 : (Jvm.Cond.initialized "java/lang/String") ∈ lw_all := lw_g (lw_at lw_m1 27 rfl) rfl
theorem q924 : (Jvm.Cond.selects "java/lang/String" ({ cls := "java/lang/Object", name := "hashCode", desc := "()I" } : Jvm.MethodName) ({ cls := "java/lang/String", name := "hashCode", desc := "()I" } : Jvm.MethodName)) ∈ lw_all := lw_g (lw_at lw_m4 99 rfl) rfl
theorem q925 : (Jvm.Cond.instanceMethod ({ cls := "java/lang/String", name := "hashCode", desc := "()I" } : Jvm.MethodName)) ∈ lw_all := lw_g (lw_at lw_m4 100 rfl) rfl
theorem q926 : (Jvm.Cond.code ({ cls := "java/lang/String", name := "hashCode", desc := "()I" } : Jvm.MethodName) prog_50_method_78_code (2 : Nat) (Option.some Jvm.ClassFile.FieldType.int)) ∈ lw_all := lw_g (lw_at lw_m4 101 rfl) rfl
theorem q927 : (Jvm.Cond.methodLink "java/lang/String" (492 : Nat) ({ cls := "java/lang/String", name := "isLatin1", desc := "()Z" } : Jvm.MethodName)) ∈ lw_all := lw_g (lw_at lw_m4 102 rfl) rfl
theorem q928 : (Jvm.Cond.instanceMethod ({ cls := "java/lang/String", name := "isLatin1", desc := "()Z" } : Jvm.MethodName)) ∈ lw_all := lw_g (lw_at lw_m4 103 rfl) rfl
theorem q929 : (Jvm.Cond.selects "java/lang/String" ({ cls := "java/lang/String", name := "isLatin1", desc := "()Z" } : Jvm.MethodName) ({ cls := "java/lang/String", name := "isLatin1", desc := "()Z" } : Jvm.MethodName)) ∈ lw_all := lw_g (lw_at lw_m4 104 rfl) rfl
theorem q930 : (Jvm.Cond.code ({ cls := "java/lang/String", name := "isLatin1", desc := "()Z" } : Jvm.MethodName) prog_50_method_154_code (1 : Nat) (Option.some Jvm.ClassFile.FieldType.boolean)) ∈ lw_all := lw_g (lw_at lw_m4 105 rfl) rfl
theorem q931 : (Jvm.Cond.fieldLink "java/lang/String" (38 : Nat) "java/lang/String" "COMPACT_STRINGS" "Z") ∈ lw_all := lw_g (lw_at lw_m4 106 rfl) rfl
theorem q932 : (Jvm.Cond.laysStatic "java/lang/String" "COMPACT_STRINGS" "Z") ∈ lw_tbl := lw_at lw_m4 107 rfl
theorem q933 : (Jvm.Cond.methodLink "java/lang/String" (628 : Nat) ({ cls := "java/lang/StringLatin1", name := "hashCode", desc := "([B)I" } : Jvm.MethodName)) ∈ lw_all := lw_g (lw_at lw_m4 108 rfl) rfl
theorem q985 : (Jvm.Cond.methodLink "java/lang/String" (632 : Nat) ({ cls := "java/lang/StringUTF16", name := "hashCode", desc := "([B)I" } : Jvm.MethodName)) ∈ lw_all := lw_g (lw_at lw_m4 160 rfl) rfl
theorem q1167 : (Jvm.Cond.castable "java/lang/String" "java/lang/Comparable") ∈ lw_tbl := lw_at lw_m5 102 rfl
theorem q1168 : (Jvm.Cond.selects "java/lang/String" ({ cls := "java/lang/Comparable", name := "compareTo", desc := "(Ljava/lang/Object;)I" } : Jvm.MethodName) ({ cls := "java/lang/String", name := "compareTo", desc := "(Ljava/lang/Object;)I" } : Jvm.MethodName)) ∈ lw_all := lw_g (lw_at lw_m5 103 rfl) rfl
theorem q1169 : (Jvm.Cond.unhidden "java/lang/String" "compareTo" "(Ljava/lang/Object;)I") ∈ lw_tbl := lw_at lw_m5 104 rfl
theorem q1170 : (Jvm.Cond.instanceMethod ({ cls := "java/lang/String", name := "compareTo", desc := "(Ljava/lang/Object;)I" } : Jvm.MethodName)) ∈ lw_all := lw_g (lw_at lw_m5 105 rfl) rfl
theorem q1171 : (Jvm.Cond.publicMethod ({ cls := "java/lang/String", name := "compareTo", desc := "(Ljava/lang/Object;)I" } : Jvm.MethodName)) ∈ lw_tbl := lw_at lw_m5 106 rfl
theorem q1172 : (Jvm.Cond.code ({ cls := "java/lang/String", name := "compareTo", desc := "(Ljava/lang/Object;)I" } : Jvm.MethodName) prog_50_method_162_code (2 : Nat) (Option.some Jvm.ClassFile.FieldType.int)) ∈ lw_all := lw_g (lw_at lw_m5 107 rfl) rfl
theorem q1173 : (Jvm.Cond.classLink "java/lang/String" (10 : Nat) "java/lang/String") ∈ lw_all := lw_g (lw_at lw_m5 108 rfl) rfl
theorem q1174 : (Jvm.Cond.methodLink "java/lang/String" (1084 : Nat) ({ cls := "java/lang/String", name := "compareTo", desc := "(Ljava/lang/String;)I" } : Jvm.MethodName)) ∈ lw_all := lw_g (lw_at lw_m5 109 rfl) rfl
theorem q1175 : (Jvm.Cond.instanceMethod ({ cls := "java/lang/String", name := "compareTo", desc := "(Ljava/lang/String;)I" } : Jvm.MethodName)) ∈ lw_all := lw_g (lw_at lw_m5 110 rfl) rfl
theorem q1176 : (Jvm.Cond.selects "java/lang/String" ({ cls := "java/lang/String", name := "compareTo", desc := "(Ljava/lang/String;)I" } : Jvm.MethodName) ({ cls := "java/lang/String", name := "compareTo", desc := "(Ljava/lang/String;)I" } : Jvm.MethodName)) ∈ lw_all := lw_g (lw_at lw_m5 111 rfl) rfl
theorem q1177 : (Jvm.Cond.code ({ cls := "java/lang/String", name := "compareTo", desc := "(Ljava/lang/String;)I" } : Jvm.MethodName) prog_50_method_71_code (5 : Nat) (Option.some Jvm.ClassFile.FieldType.int)) ∈ lw_all := lw_g (lw_at lw_m5 112 rfl) rfl
theorem q1178 : (Jvm.Cond.methodLink "java/lang/String" (335 : Nat) ({ cls := "java/lang/String", name := "coder", desc := "()B" } : Jvm.MethodName)) ∈ lw_all := lw_g (lw_at lw_m5 113 rfl) rfl
theorem q1179 : (Jvm.Cond.instanceMethod ({ cls := "java/lang/String", name := "coder", desc := "()B" } : Jvm.MethodName)) ∈ lw_all := lw_g (lw_at lw_m5 114 rfl) rfl
theorem q1180 : (Jvm.Cond.selects "java/lang/String" ({ cls := "java/lang/String", name := "coder", desc := "()B" } : Jvm.MethodName) ({ cls := "java/lang/String", name := "coder", desc := "()B" } : Jvm.MethodName)) ∈ lw_all := lw_g (lw_at lw_m5 115 rfl) rfl
theorem q1181 : (Jvm.Cond.code ({ cls := "java/lang/String", name := "coder", desc := "()B" } : Jvm.MethodName) prog_50_method_152_code (1 : Nat) (Option.some Jvm.ClassFile.FieldType.byte)) ∈ lw_all := lw_g (lw_at lw_m5 116 rfl) rfl
theorem q1182 : (Jvm.Cond.methodLink "java/lang/String" (586 : Nat) ({ cls := "java/lang/StringLatin1", name := "compareTo", desc := "([B[B)I" } : Jvm.MethodName)) ∈ lw_all := lw_g (lw_at lw_m5 117 rfl) rfl
theorem q1293 : (Jvm.Cond.methodLink "java/lang/String" (590 : Nat) ({ cls := "java/lang/StringUTF16", name := "compareTo", desc := "([B[B)I" } : Jvm.MethodName)) ∈ lw_all := lw_g (lw_at lw_m5 228 rfl) rfl
theorem q1300 : (Jvm.Cond.methodLink "java/lang/String" (591 : Nat) ({ cls := "java/lang/StringLatin1", name := "compareToUTF16", desc := "([B[B)I" } : Jvm.MethodName)) ∈ lw_all := lw_g (lw_at lw_m5 235 rfl) rfl
theorem q1311 : (Jvm.Cond.methodLink "java/lang/String" (594 : Nat) ({ cls := "java/lang/StringUTF16", name := "compareToLatin1", desc := "([B[B)I" } : Jvm.MethodName)) ∈ lw_all := lw_g (lw_at lw_m6 6 rfl) rfl
theorem q1385 : (Jvm.Cond.selects "java/lang/String" ({ cls := "java/lang/Object", name := "equals", desc := "(Ljava/lang/Object;)Z" } : Jvm.MethodName) ({ cls := "java/lang/String", name := "equals", desc := "(Ljava/lang/Object;)Z" } : Jvm.MethodName)) ∈ lw_all := lw_g (lw_at lw_m6 80 rfl) rfl
theorem q1386 : (Jvm.Cond.instanceMethod ({ cls := "java/lang/String", name := "equals", desc := "(Ljava/lang/Object;)Z" } : Jvm.MethodName)) ∈ lw_all := lw_g (lw_at lw_m6 81 rfl) rfl
theorem q1387 : (Jvm.Cond.code ({ cls := "java/lang/String", name := "equals", desc := "(Ljava/lang/Object;)Z" } : Jvm.MethodName) prog_50_method_66_code (3 : Nat) (Option.some Jvm.ClassFile.FieldType.boolean)) ∈ lw_all := lw_g (lw_at lw_m6 82 rfl) rfl
theorem q1388 : (Jvm.Cond.methodLink "java/lang/String" (541 : Nat) ({ cls := "java/lang/StringLatin1", name := "equals", desc := "([B[B)Z" } : Jvm.MethodName)) ∈ lw_all := lw_g (lw_at lw_m6 83 rfl) rfl
theorem q1773 : (Jvm.Cond.instantiable "java/lang/String" (4 : Nat)) ∈ lw_all := lw_g (lw_at lw_m7 228 rfl) rfl
theorem q1774 : (Jvm.Cond.laysFinal "java/lang/String" "java/lang/String" "value" "[B") ∈ lw_all := lw_g (lw_at lw_m7 229 rfl) rfl
theorem q1775 : (Jvm.Cond.soleField "java/lang/String" "value") ∈ lw_all := lw_g (lw_at lw_m7 230 rfl) rfl
theorem q1776 : (Jvm.Cond.laysFinal "java/lang/String" "java/lang/String" "coder" "B") ∈ lw_all := lw_g (lw_at lw_m7 231 rfl) rfl
theorem q1777 : (Jvm.Cond.soleField "java/lang/String" "coder") ∈ lw_all := lw_g (lw_at lw_m7 232 rfl) rfl
theorem q2221 : (Jvm.Cond.instanceMethod ({ cls := "java/lang/String", name := "length", desc := "()I" } : Jvm.MethodName)) ∈ lw_all := lw_g (lw_at lw_m9 196 rfl) rfl
theorem q2222 : (Jvm.Cond.selects "java/lang/String" ({ cls := "java/lang/String", name := "length", desc := "()I" } : Jvm.MethodName) ({ cls := "java/lang/String", name := "length", desc := "()I" } : Jvm.MethodName)) ∈ lw_all := lw_g (lw_at lw_m9 197 rfl) rfl
theorem q2223 : (Jvm.Cond.code ({ cls := "java/lang/String", name := "length", desc := "()I" } : Jvm.MethodName) prog_50_method_54_code (1 : Nat) (Option.some Jvm.ClassFile.FieldType.int)) ∈ lw_all := lw_g (lw_at lw_m9 198 rfl) rfl
theorem q2225 : (Jvm.Cond.instanceMethod ({ cls := "java/lang/String", name := "charAt", desc := "(I)C" } : Jvm.MethodName)) ∈ lw_all := lw_g (lw_at lw_m9 200 rfl) rfl
theorem q2226 : (Jvm.Cond.selects "java/lang/String" ({ cls := "java/lang/String", name := "charAt", desc := "(I)C" } : Jvm.MethodName) ({ cls := "java/lang/String", name := "charAt", desc := "(I)C" } : Jvm.MethodName)) ∈ lw_all := lw_g (lw_at lw_m9 201 rfl) rfl
theorem q2227 : (Jvm.Cond.code ({ cls := "java/lang/String", name := "charAt", desc := "(I)C" } : Jvm.MethodName) prog_50_method_56_code (2 : Nat) (Option.some Jvm.ClassFile.FieldType.char)) ∈ lw_all := lw_g (lw_at lw_m9 202 rfl) rfl
theorem q2228 : (Jvm.Cond.methodLink "java/lang/String" (495 : Nat) ({ cls := "java/lang/StringLatin1", name := "charAt", desc := "([BI)C" } : Jvm.MethodName)) ∈ lw_all := lw_g (lw_at lw_m9 203 rfl) rfl
theorem q2232 : (Jvm.Cond.static ({ cls := "java/lang/String", name := "checkIndex", desc := "(II)V" } : Jvm.MethodName)) ∈ lw_all := lw_g (lw_at lw_m9 207 rfl) rfl
theorem q2233 : (Jvm.Cond.code ({ cls := "java/lang/String", name := "checkIndex", desc := "(II)V" } : Jvm.MethodName) prog_50_method_155_code (2 : Nat) (Option.none : Option Jvm.ClassFile.FieldType)) ∈ lw_all := lw_g (lw_at lw_m9 208 rfl) rfl
theorem q2234 : (Jvm.Cond.fieldLink "java/lang/String" (1053 : Nat) "jdk/internal/util/Preconditions" "SIOOBE_FORMATTER" "Ljava/util/function/BiFunction;") ∈ lw_all := lw_g (lw_at lw_m9 209 rfl) rfl
theorem q2236 : (Jvm.Cond.methodLink "java/lang/String" (1059 : Nat) ({ cls := "jdk/internal/util/Preconditions", name := "checkIndex", desc := "(IILjava/util/function/BiFunction;)I" } : Jvm.MethodName)) ∈ lw_all := lw_g (lw_at lw_m9 211 rfl) rfl
theorem q2239 : (Jvm.Cond.methodLink "java/lang/String" (498 : Nat) ({ cls := "java/lang/StringUTF16", name := "charAt", desc := "([BI)C" } : Jvm.MethodName)) ∈ lw_all := lw_g (lw_at lw_m9 214 rfl) rfl
theorem q3173 : (Jvm.Cond.castable "java/lang/String" "java/lang/Object") ∈ lw_tbl := lw_at lw_m13 188 rfl
theorem q3196 : (Jvm.Cond.fieldLink "java/lang/String" (19 : Nat) "java/lang/String" "hash" "I") ∈ lw_all := lw_g (lw_at lw_m13 211 rfl) rfl
theorem q3197 : (Jvm.Cond.fieldLink "java/lang/String" (23 : Nat) "java/lang/String" "hashIsZero" "Z") ∈ lw_all := lw_g (lw_at lw_m13 212 rfl) rfl
theorem q3198 : (Jvm.Cond.fieldLink "java/lang/String" (15 : Nat) "java/lang/String" "coder" "B") ∈ lw_all := lw_g (lw_at lw_m13 213 rfl) rfl
theorem q3199 : (Jvm.Cond.fieldLink "java/lang/String" (9 : Nat) "java/lang/String" "value" "[B") ∈ lw_all := lw_g (lw_at lw_m13 214 rfl) rfl
theorem in_J10 : ∀ w ∈ wsJ100, w ∈ lw_all := lw_in wsJ100 [1774, 1776] (by decide +kernel) (by decide +kernel)
/-! java/lang/StringLatin1 -/
set_option maxRecDepth 100000
def RJ11 : String := "java/lang/StringLatin1"
abbrev cJ11_hashCode : ByteArray := prog_51_method_21_code
def yJ11_hashCode : MethodName := ⟨RJ11, "hashCode", "([B)I"⟩
def dkwJ11_hashCode_2 : List UInt8 := [3, 167, 0, 22, 42, 3, 51, 17, 0, 255, 126, 167, 0, 12, 42, 3, 42, 190, 3, 7, 184, 0, 84, 172]
abbrev dktJ11_hashCode_2 : List UInt8 := dkwJ11_hashCode_2 ++ []
def dkwJ11_hashCode_1 : List UInt8 := [171, 0, 0, 0, 0, 40, 0, 0, 0, 2, 0, 0, 0, 0, 0, 0, 0, 26, 0, 0, 0, 1, 0, 0, 0, 30]
abbrev dktJ11_hashCode_1 : List UInt8 := dkwJ11_hashCode_1 ++ dktJ11_hashCode_2
def dkwJ11_hashCode_0 : List UInt8 := [42, 190]
abbrev dktJ11_hashCode_0 : List UInt8 := dkwJ11_hashCode_0 ++ dktJ11_hashCode_1
theorem dksJ11_hashCode_0 : cJ11_hashCode.data.toList.drop 0 = dktJ11_hashCode_0 := by decide +kernel
theorem dksJ11_hashCode_1 : cJ11_hashCode.data.toList.drop 2 = dktJ11_hashCode_1 := dk_seg dksJ11_hashCode_0 2 rfl rfl
theorem dksJ11_hashCode_2 : cJ11_hashCode.data.toList.drop 28 = dktJ11_hashCode_2 := dk_seg dksJ11_hashCode_1 26 rfl rfl
theorem dJ11_hashCode_0 : decode cJ11_hashCode 0 = .ok (.aload_n 0, 1) := dk_42 (dk_at dksJ11_hashCode_0 0 rfl rfl)
theorem dJ11_hashCode_1 : decode cJ11_hashCode 1 = .ok (.arraylength, 1) := dk_190 (dk_at dksJ11_hashCode_0 1 rfl rfl)
theorem dJ11_hashCode_2 : decode cJ11_hashCode 2 = .ok (.lookupswitch 40 #[(0, 26), (1, 30)], 26) := by decide +kernel
theorem dJ11_hashCode_28 : decode cJ11_hashCode 28 = .ok (.iconst 0, 1) := dk_3 (dk_at dksJ11_hashCode_2 0 rfl rfl)
theorem dJ11_hashCode_29 : decode cJ11_hashCode 29 = .ok (.goto 22, 3) := dk_167 0 22 (dk_at dksJ11_hashCode_2 1 rfl rfl)
theorem dJ11_hashCode_32 : decode cJ11_hashCode 32 = .ok (.aload_n 0, 1) := dk_42 (dk_at dksJ11_hashCode_2 4 rfl rfl)
theorem dJ11_hashCode_33 : decode cJ11_hashCode 33 = .ok (.iconst 0, 1) := dk_3 (dk_at dksJ11_hashCode_2 5 rfl rfl)
theorem dJ11_hashCode_34 : decode cJ11_hashCode 34 = .ok (.baload, 1) := dk_51 (dk_at dksJ11_hashCode_2 6 rfl rfl)
theorem dJ11_hashCode_35 : decode cJ11_hashCode 35 = .ok (.sipush 255, 3) := dk_17 0 255 (dk_at dksJ11_hashCode_2 7 rfl rfl)
theorem dJ11_hashCode_38 : decode cJ11_hashCode 38 = .ok (.iand, 1) := dk_126 (dk_at dksJ11_hashCode_2 10 rfl rfl)
theorem dJ11_hashCode_39 : decode cJ11_hashCode 39 = .ok (.goto 12, 3) := dk_167 0 12 (dk_at dksJ11_hashCode_2 11 rfl rfl)
theorem dJ11_hashCode_42 : decode cJ11_hashCode 42 = .ok (.aload_n 0, 1) := dk_42 (dk_at dksJ11_hashCode_2 14 rfl rfl)
theorem dJ11_hashCode_43 : decode cJ11_hashCode 43 = .ok (.iconst 0, 1) := dk_3 (dk_at dksJ11_hashCode_2 15 rfl rfl)
theorem dJ11_hashCode_44 : decode cJ11_hashCode 44 = .ok (.aload_n 0, 1) := dk_42 (dk_at dksJ11_hashCode_2 16 rfl rfl)
theorem dJ11_hashCode_45 : decode cJ11_hashCode 45 = .ok (.arraylength, 1) := dk_190 (dk_at dksJ11_hashCode_2 17 rfl rfl)
theorem dJ11_hashCode_46 : decode cJ11_hashCode 46 = .ok (.iconst 0, 1) := dk_3 (dk_at dksJ11_hashCode_2 18 rfl rfl)
theorem dJ11_hashCode_47 : decode cJ11_hashCode 47 = .ok (.iconst 4, 1) := dk_7 (dk_at dksJ11_hashCode_2 19 rfl rfl)
theorem dJ11_hashCode_48 : decode cJ11_hashCode 48 = .ok (.invokestatic 84, 3) := dk_184 0 84 (dk_at dksJ11_hashCode_2 20 rfl rfl)
theorem dJ11_hashCode_51 : decode cJ11_hashCode 51 = .ok (.ireturn, 1) := dk_172 (dk_at dksJ11_hashCode_2 23 rfl rfl)
abbrev cJ11_compareTo : ByteArray := prog_51_method_14_code
def yJ11_compareTo : MethodName := ⟨RJ11, "compareTo", "([B[B)I"⟩
def dkwJ11_compareTo_0 : List UInt8 := [42, 190, 61, 43, 190, 62, 42, 43, 28, 29, 184, 0, 34, 172]
abbrev dktJ11_compareTo_0 : List UInt8 := dkwJ11_compareTo_0 ++ []
theorem dksJ11_compareTo_0 : cJ11_compareTo.data.toList.drop 0 = dktJ11_compareTo_0 := by decide +kernel
theorem dJ11_compareTo_0 : decode cJ11_compareTo 0 = .ok (.aload_n 0, 1) := dk_42 (dk_at dksJ11_compareTo_0 0 rfl rfl)
theorem dJ11_compareTo_1 : decode cJ11_compareTo 1 = .ok (.arraylength, 1) := dk_190 (dk_at dksJ11_compareTo_0 1 rfl rfl)
theorem dJ11_compareTo_2 : decode cJ11_compareTo 2 = .ok (.istore_n 2, 1) := dk_61 (dk_at dksJ11_compareTo_0 2 rfl rfl)
theorem dJ11_compareTo_3 : decode cJ11_compareTo 3 = .ok (.aload_n 1, 1) := dk_43 (dk_at dksJ11_compareTo_0 3 rfl rfl)
theorem dJ11_compareTo_4 : decode cJ11_compareTo 4 = .ok (.arraylength, 1) := dk_190 (dk_at dksJ11_compareTo_0 4 rfl rfl)
theorem dJ11_compareTo_5 : decode cJ11_compareTo 5 = .ok (.istore_n 3, 1) := dk_62 (dk_at dksJ11_compareTo_0 5 rfl rfl)
theorem dJ11_compareTo_6 : decode cJ11_compareTo 6 = .ok (.aload_n 0, 1) := dk_42 (dk_at dksJ11_compareTo_0 6 rfl rfl)
theorem dJ11_compareTo_7 : decode cJ11_compareTo 7 = .ok (.aload_n 1, 1) := dk_43 (dk_at dksJ11_compareTo_0 7 rfl rfl)
theorem dJ11_compareTo_8 : decode cJ11_compareTo 8 = .ok (.iload_n 2, 1) := dk_28 (dk_at dksJ11_compareTo_0 8 rfl rfl)
theorem dJ11_compareTo_9 : decode cJ11_compareTo 9 = .ok (.iload_n 3, 1) := dk_29 (dk_at dksJ11_compareTo_0 9 rfl rfl)
theorem dJ11_compareTo_10 : decode cJ11_compareTo 10 = .ok (.invokestatic 34, 3) := dk_184 0 34 (dk_at dksJ11_compareTo_0 10 rfl rfl)
theorem dJ11_compareTo_13 : decode cJ11_compareTo 13 = .ok (.ireturn, 1) := dk_172 (dk_at dksJ11_compareTo_0 13 rfl rfl)
abbrev cJ11_compareTo_2 : ByteArray := prog_51_method_15_code
def yJ11_compareTo_2 : MethodName := ⟨RJ11, "compareTo", "([B[BII)I"⟩
def dkwJ11_compareTo_2_1 : List UInt8 := [167, 0, 16, 42, 21, 5, 184, 0, 50, 43, 21, 5, 184, 0, 50, 100, 172]
abbrev dktJ11_compareTo_2_1 : List UInt8 := dkwJ11_compareTo_2_1 ++ []
def dkwJ11_compareTo_2_0 : List UInt8 := [28, 29, 184, 0, 38, 54, 4, 42, 43, 21, 4, 184, 0, 44, 54, 5, 21, 5, 156, 0, 9, 28, 29, 100]
abbrev dktJ11_compareTo_2_0 : List UInt8 := dkwJ11_compareTo_2_0 ++ dktJ11_compareTo_2_1
theorem dksJ11_compareTo_2_0 : cJ11_compareTo_2.data.toList.drop 0 = dktJ11_compareTo_2_0 := by decide +kernel
theorem dksJ11_compareTo_2_1 : cJ11_compareTo_2.data.toList.drop 24 = dktJ11_compareTo_2_1 := dk_seg dksJ11_compareTo_2_0 24 rfl rfl
theorem dJ11_compareTo_2_0 : decode cJ11_compareTo_2 0 = .ok (.iload_n 2, 1) := dk_28 (dk_at dksJ11_compareTo_2_0 0 rfl rfl)
theorem dJ11_compareTo_2_1 : decode cJ11_compareTo_2 1 = .ok (.iload_n 3, 1) := dk_29 (dk_at dksJ11_compareTo_2_0 1 rfl rfl)
theorem dJ11_compareTo_2_2 : decode cJ11_compareTo_2 2 = .ok (.invokestatic 38, 3) := dk_184 0 38 (dk_at dksJ11_compareTo_2_0 2 rfl rfl)
theorem dJ11_compareTo_2_5 : decode cJ11_compareTo_2 5 = .ok (.istore 4, 2) := dk_54 4 (dk_at dksJ11_compareTo_2_0 5 rfl rfl)
theorem dJ11_compareTo_2_7 : decode cJ11_compareTo_2 7 = .ok (.aload_n 0, 1) := dk_42 (dk_at dksJ11_compareTo_2_0 7 rfl rfl)
theorem dJ11_compareTo_2_8 : decode cJ11_compareTo_2 8 = .ok (.aload_n 1, 1) := dk_43 (dk_at dksJ11_compareTo_2_0 8 rfl rfl)
theorem dJ11_compareTo_2_9 : decode cJ11_compareTo_2 9 = .ok (.iload 4, 2) := dk_21 4 (dk_at dksJ11_compareTo_2_0 9 rfl rfl)
theorem dJ11_compareTo_2_11 : decode cJ11_compareTo_2 11 = .ok (.invokestatic 44, 3) := dk_184 0 44 (dk_at dksJ11_compareTo_2_0 11 rfl rfl)
theorem dJ11_compareTo_2_14 : decode cJ11_compareTo_2 14 = .ok (.istore 5, 2) := dk_54 5 (dk_at dksJ11_compareTo_2_0 14 rfl rfl)
theorem dJ11_compareTo_2_16 : decode cJ11_compareTo_2 16 = .ok (.iload 5, 2) := dk_21 5 (dk_at dksJ11_compareTo_2_0 16 rfl rfl)
theorem dJ11_compareTo_2_18 : decode cJ11_compareTo_2 18 = .ok (.ifCond .ge 9, 3) := dk_156 0 9 (dk_at dksJ11_compareTo_2_0 18 rfl rfl)
theorem dJ11_compareTo_2_21 : decode cJ11_compareTo_2 21 = .ok (.iload_n 2, 1) := dk_28 (dk_at dksJ11_compareTo_2_0 21 rfl rfl)
theorem dJ11_compareTo_2_22 : decode cJ11_compareTo_2 22 = .ok (.iload_n 3, 1) := dk_29 (dk_at dksJ11_compareTo_2_0 22 rfl rfl)
theorem dJ11_compareTo_2_23 : decode cJ11_compareTo_2 23 = .ok (.isub, 1) := dk_100 (dk_at dksJ11_compareTo_2_0 23 rfl rfl)
theorem dJ11_compareTo_2_24 : decode cJ11_compareTo_2 24 = .ok (.goto 16, 3) := dk_167 0 16 (dk_at dksJ11_compareTo_2_1 0 rfl rfl)
theorem dJ11_compareTo_2_27 : decode cJ11_compareTo_2 27 = .ok (.aload_n 0, 1) := dk_42 (dk_at dksJ11_compareTo_2_1 3 rfl rfl)
theorem dJ11_compareTo_2_28 : decode cJ11_compareTo_2 28 = .ok (.iload 5, 2) := dk_21 5 (dk_at dksJ11_compareTo_2_1 4 rfl rfl)
theorem dJ11_compareTo_2_30 : decode cJ11_compareTo_2 30 = .ok (.invokestatic 50, 3) := dk_184 0 50 (dk_at dksJ11_compareTo_2_1 6 rfl rfl)
theorem dJ11_compareTo_2_33 : decode cJ11_compareTo_2 33 = .ok (.aload_n 1, 1) := dk_43 (dk_at dksJ11_compareTo_2_1 9 rfl rfl)
theorem dJ11_compareTo_2_34 : decode cJ11_compareTo_2 34 = .ok (.iload 5, 2) := dk_21 5 (dk_at dksJ11_compareTo_2_1 10 rfl rfl)
theorem dJ11_compareTo_2_36 : decode cJ11_compareTo_2 36 = .ok (.invokestatic 50, 3) := dk_184 0 50 (dk_at dksJ11_compareTo_2_1 12 rfl rfl)
theorem dJ11_compareTo_2_39 : decode cJ11_compareTo_2 39 = .ok (.isub, 1) := dk_100 (dk_at dksJ11_compareTo_2_1 15 rfl rfl)
theorem dJ11_compareTo_2_40 : decode cJ11_compareTo_2 40 = .ok (.ireturn, 1) := dk_172 (dk_at dksJ11_compareTo_2_1 16 rfl rfl)
abbrev cJ11_getChar : ByteArray := prog_51_method_44_code
def yJ11_getChar : MethodName := ⟨RJ11, "getChar", "([BI)C"⟩
def dkwJ11_getChar_0 : List UInt8 := [42, 27, 51, 17, 0, 255, 126, 146, 172]
abbrev dktJ11_getChar_0 : List UInt8 := dkwJ11_getChar_0 ++ []
theorem dksJ11_getChar_0 : cJ11_getChar.data.toList.drop 0 = dktJ11_getChar_0 := by decide +kernel
theorem dJ11_getChar_0 : decode cJ11_getChar 0 = .ok (.aload_n 0, 1) := dk_42 (dk_at dksJ11_getChar_0 0 rfl rfl)
theorem dJ11_getChar_1 : decode cJ11_getChar 1 = .ok (.iload_n 1, 1) := dk_27 (dk_at dksJ11_getChar_0 1 rfl rfl)
theorem dJ11_getChar_2 : decode cJ11_getChar 2 = .ok (.baload, 1) := dk_51 (dk_at dksJ11_getChar_0 2 rfl rfl)
theorem dJ11_getChar_3 : decode cJ11_getChar 3 = .ok (.sipush 255, 3) := dk_17 0 255 (dk_at dksJ11_getChar_0 3 rfl rfl)
theorem dJ11_getChar_6 : decode cJ11_getChar 6 = .ok (.iand, 1) := dk_126 (dk_at dksJ11_getChar_0 6 rfl rfl)
theorem dJ11_getChar_7 : decode cJ11_getChar 7 = .ok (.i2c, 1) := dk_146 (dk_at dksJ11_getChar_0 7 rfl rfl)
theorem dJ11_getChar_8 : decode cJ11_getChar 8 = .ok (.ireturn, 1) := dk_172 (dk_at dksJ11_getChar_0 8 rfl rfl)
abbrev cJ11_compareToUTF16 : ByteArray := prog_51_method_16_code
def yJ11_compareToUTF16 : MethodName := ⟨RJ11, "compareToUTF16", "([B[B)I"⟩
def dkwJ11_compareToUTF16_0 : List UInt8 := [42, 184, 0, 54, 61, 43, 184, 0, 58, 62, 42, 43, 28, 29, 184, 0, 59, 172]
abbrev dktJ11_compareToUTF16_0 : List UInt8 := dkwJ11_compareToUTF16_0 ++ []
theorem dksJ11_compareToUTF16_0 : cJ11_compareToUTF16.data.toList.drop 0 = dktJ11_compareToUTF16_0 := by decide +kernel
theorem dJ11_compareToUTF16_0 : decode cJ11_compareToUTF16 0 = .ok (.aload_n 0, 1) := dk_42 (dk_at dksJ11_compareToUTF16_0 0 rfl rfl)
theorem dJ11_compareToUTF16_1 : decode cJ11_compareToUTF16 1 = .ok (.invokestatic 54, 3) := dk_184 0 54 (dk_at dksJ11_compareToUTF16_0 1 rfl rfl)
theorem dJ11_compareToUTF16_4 : decode cJ11_compareToUTF16 4 = .ok (.istore_n 2, 1) := dk_61 (dk_at dksJ11_compareToUTF16_0 4 rfl rfl)
theorem dJ11_compareToUTF16_5 : decode cJ11_compareToUTF16 5 = .ok (.aload_n 1, 1) := dk_43 (dk_at dksJ11_compareToUTF16_0 5 rfl rfl)
theorem dJ11_compareToUTF16_6 : decode cJ11_compareToUTF16 6 = .ok (.invokestatic 58, 3) := dk_184 0 58 (dk_at dksJ11_compareToUTF16_0 6 rfl rfl)
theorem dJ11_compareToUTF16_9 : decode cJ11_compareToUTF16 9 = .ok (.istore_n 3, 1) := dk_62 (dk_at dksJ11_compareToUTF16_0 9 rfl rfl)
theorem dJ11_compareToUTF16_10 : decode cJ11_compareToUTF16 10 = .ok (.aload_n 0, 1) := dk_42 (dk_at dksJ11_compareToUTF16_0 10 rfl rfl)
theorem dJ11_compareToUTF16_11 : decode cJ11_compareToUTF16 11 = .ok (.aload_n 1, 1) := dk_43 (dk_at dksJ11_compareToUTF16_0 11 rfl rfl)
theorem dJ11_compareToUTF16_12 : decode cJ11_compareToUTF16 12 = .ok (.iload_n 2, 1) := dk_28 (dk_at dksJ11_compareToUTF16_0 12 rfl rfl)
theorem dJ11_compareToUTF16_13 : decode cJ11_compareToUTF16 13 = .ok (.iload_n 3, 1) := dk_29 (dk_at dksJ11_compareToUTF16_0 13 rfl rfl)
theorem dJ11_compareToUTF16_14 : decode cJ11_compareToUTF16 14 = .ok (.invokestatic 59, 3) := dk_184 0 59 (dk_at dksJ11_compareToUTF16_0 14 rfl rfl)
theorem dJ11_compareToUTF16_17 : decode cJ11_compareToUTF16 17 = .ok (.ireturn, 1) := dk_172 (dk_at dksJ11_compareToUTF16_0 17 rfl rfl)
abbrev cJ11_length : ByteArray := prog_51_method_5_code
def yJ11_length : MethodName := ⟨RJ11, "length", "([B)I"⟩
theorem dJ11_length_0 : decode cJ11_length 0 = .ok (.aload_n 0, 1) := by decide +kernel
theorem dJ11_length_1 : decode cJ11_length 1 = .ok (.arraylength, 1) := by decide +kernel
theorem dJ11_length_2 : decode cJ11_length 2 = .ok (.ireturn, 1) := by decide +kernel
abbrev cJ11_compareToUTF16Values : ByteArray := prog_51_method_18_code
def yJ11_compareToUTF16Values : MethodName := ⟨RJ11, "compareToUTF16Values", "([B[BII)I"⟩
def dkwJ11_compareToUTF16Values_2 : List UInt8 := [132, 5, 1, 167, 255, 217, 28, 29, 100, 172]
abbrev dktJ11_compareToUTF16Values_2 : List UInt8 := dkwJ11_compareToUTF16Values_2 ++ []
def dkwJ11_compareToUTF16Values_1 : List UInt8 := [54, 6, 43, 21, 5, 184, 0, 65, 54, 7, 21, 6, 21, 7, 159, 0, 9, 21, 6, 21, 7, 100, 172]
abbrev dktJ11_compareToUTF16Values_1 : List UInt8 := dkwJ11_compareToUTF16Values_1 ++ dktJ11_compareToUTF16Values_2
def dkwJ11_compareToUTF16Values_0 : List UInt8 := [28, 29, 184, 0, 38, 54, 4, 3, 54, 5, 21, 5, 21, 4, 162, 0, 38, 42, 21, 5, 184, 0, 50]
abbrev dktJ11_compareToUTF16Values_0 : List UInt8 := dkwJ11_compareToUTF16Values_0 ++ dktJ11_compareToUTF16Values_1
theorem dksJ11_compareToUTF16Values_0 : cJ11_compareToUTF16Values.data.toList.drop 0 = dktJ11_compareToUTF16Values_0 := by decide +kernel
theorem dksJ11_compareToUTF16Values_1 : cJ11_compareToUTF16Values.data.toList.drop 23 = dktJ11_compareToUTF16Values_1 := dk_seg dksJ11_compareToUTF16Values_0 23 rfl rfl
theorem dksJ11_compareToUTF16Values_2 : cJ11_compareToUTF16Values.data.toList.drop 46 = dktJ11_compareToUTF16Values_2 := dk_seg dksJ11_compareToUTF16Values_1 23 rfl rfl
theorem dJ11_compareToUTF16Values_0 : decode cJ11_compareToUTF16Values 0 = .ok (.iload_n 2, 1) := dk_28 (dk_at dksJ11_compareToUTF16Values_0 0 rfl rfl)
theorem dJ11_compareToUTF16Values_1 : decode cJ11_compareToUTF16Values 1 = .ok (.iload_n 3, 1) := dk_29 (dk_at dksJ11_compareToUTF16Values_0 1 rfl rfl)
theorem dJ11_compareToUTF16Values_2 : decode cJ11_compareToUTF16Values 2 = .ok (.invokestatic 38, 3) := dk_184 0 38 (dk_at dksJ11_compareToUTF16Values_0 2 rfl rfl)
theorem dJ11_compareToUTF16Values_5 : decode cJ11_compareToUTF16Values 5 = .ok (.istore 4, 2) := dk_54 4 (dk_at dksJ11_compareToUTF16Values_0 5 rfl rfl)
theorem dJ11_compareToUTF16Values_7 : decode cJ11_compareToUTF16Values 7 = .ok (.iconst 0, 1) := dk_3 (dk_at dksJ11_compareToUTF16Values_0 7 rfl rfl)
theorem dJ11_compareToUTF16Values_8 : decode cJ11_compareToUTF16Values 8 = .ok (.istore 5, 2) := dk_54 5 (dk_at dksJ11_compareToUTF16Values_0 8 rfl rfl)
theorem dJ11_compareToUTF16Values_10 : decode cJ11_compareToUTF16Values 10 = .ok (.iload 5, 2) := dk_21 5 (dk_at dksJ11_compareToUTF16Values_0 10 rfl rfl)
theorem dJ11_compareToUTF16Values_12 : decode cJ11_compareToUTF16Values 12 = .ok (.iload 4, 2) := dk_21 4 (dk_at dksJ11_compareToUTF16Values_0 12 rfl rfl)
theorem dJ11_compareToUTF16Values_14 : decode cJ11_compareToUTF16Values 14 = .ok (.if_icmp .ge 38, 3) := dk_162 0 38 (dk_at dksJ11_compareToUTF16Values_0 14 rfl rfl)
theorem dJ11_compareToUTF16Values_17 : decode cJ11_compareToUTF16Values 17 = .ok (.aload_n 0, 1) := dk_42 (dk_at dksJ11_compareToUTF16Values_0 17 rfl rfl)
theorem dJ11_compareToUTF16Values_18 : decode cJ11_compareToUTF16Values 18 = .ok (.iload 5, 2) := dk_21 5 (dk_at dksJ11_compareToUTF16Values_0 18 rfl rfl)
theorem dJ11_compareToUTF16Values_20 : decode cJ11_compareToUTF16Values 20 = .ok (.invokestatic 50, 3) := dk_184 0 50 (dk_at dksJ11_compareToUTF16Values_0 20 rfl rfl)
theorem dJ11_compareToUTF16Values_23 : decode cJ11_compareToUTF16Values 23 = .ok (.istore 6, 2) := dk_54 6 (dk_at dksJ11_compareToUTF16Values_1 0 rfl rfl)
theorem dJ11_compareToUTF16Values_25 : decode cJ11_compareToUTF16Values 25 = .ok (.aload_n 1, 1) := dk_43 (dk_at dksJ11_compareToUTF16Values_1 2 rfl rfl)
theorem dJ11_compareToUTF16Values_26 : decode cJ11_compareToUTF16Values 26 = .ok (.iload 5, 2) := dk_21 5 (dk_at dksJ11_compareToUTF16Values_1 3 rfl rfl)
theorem dJ11_compareToUTF16Values_28 : decode cJ11_compareToUTF16Values 28 = .ok (.invokestatic 65, 3) := dk_184 0 65 (dk_at dksJ11_compareToUTF16Values_1 5 rfl rfl)
theorem dJ11_compareToUTF16Values_31 : decode cJ11_compareToUTF16Values 31 = .ok (.istore 7, 2) := dk_54 7 (dk_at dksJ11_compareToUTF16Values_1 8 rfl rfl)
theorem dJ11_compareToUTF16Values_33 : decode cJ11_compareToUTF16Values 33 = .ok (.iload 6, 2) := dk_21 6 (dk_at dksJ11_compareToUTF16Values_1 10 rfl rfl)
theorem dJ11_compareToUTF16Values_35 : decode cJ11_compareToUTF16Values 35 = .ok (.iload 7, 2) := dk_21 7 (dk_at dksJ11_compareToUTF16Values_1 12 rfl rfl)
theorem dJ11_compareToUTF16Values_37 : decode cJ11_compareToUTF16Values 37 = .ok (.if_icmp .eq 9, 3) := dk_159 0 9 (dk_at dksJ11_compareToUTF16Values_1 14 rfl rfl)
theorem dJ11_compareToUTF16Values_40 : decode cJ11_compareToUTF16Values 40 = .ok (.iload 6, 2) := dk_21 6 (dk_at dksJ11_compareToUTF16Values_1 17 rfl rfl)
theorem dJ11_compareToUTF16Values_42 : decode cJ11_compareToUTF16Values 42 = .ok (.iload 7, 2) := dk_21 7 (dk_at dksJ11_compareToUTF16Values_1 19 rfl rfl)
theorem dJ11_compareToUTF16Values_44 : decode cJ11_compareToUTF16Values 44 = .ok (.isub, 1) := dk_100 (dk_at dksJ11_compareToUTF16Values_1 21 rfl rfl)
theorem dJ11_compareToUTF16Values_45 : decode cJ11_compareToUTF16Values 45 = .ok (.ireturn, 1) := dk_172 (dk_at dksJ11_compareToUTF16Values_1 22 rfl rfl)
theorem dJ11_compareToUTF16Values_46 : decode cJ11_compareToUTF16Values 46 = .ok (.iinc 5 1, 3) := dk_132 5 1 (dk_at dksJ11_compareToUTF16Values_2 0 rfl rfl)
theorem dJ11_compareToUTF16Values_49 : decode cJ11_compareToUTF16Values 49 = .ok (.goto (-39), 3) := dk_167 255 217 (dk_at dksJ11_compareToUTF16Values_2 3 rfl rfl)
theorem dJ11_compareToUTF16Values_52 : decode cJ11_compareToUTF16Values 52 = .ok (.iload_n 2, 1) := dk_28 (dk_at dksJ11_compareToUTF16Values_2 6 rfl rfl)
theorem dJ11_compareToUTF16Values_53 : decode cJ11_compareToUTF16Values 53 = .ok (.iload_n 3, 1) := dk_29 (dk_at dksJ11_compareToUTF16Values_2 7 rfl rfl)
theorem dJ11_compareToUTF16Values_54 : decode cJ11_compareToUTF16Values 54 = .ok (.isub, 1) := dk_100 (dk_at dksJ11_compareToUTF16Values_2 8 rfl rfl)
theorem dJ11_compareToUTF16Values_55 : decode cJ11_compareToUTF16Values 55 = .ok (.ireturn, 1) := dk_172 (dk_at dksJ11_compareToUTF16Values_2 9 rfl rfl)
abbrev cJ11_equals : ByteArray := prog_51_method_13_code
def yJ11_equals : MethodName := ⟨RJ11, "equals", "([B[B)Z"⟩
def dkwJ11_equals_1 : List UInt8 := [3, 172, 132, 2, 1, 167, 255, 236, 4, 172, 3, 172]
abbrev dktJ11_equals_1 : List UInt8 := dkwJ11_equals_1 ++ []
def dkwJ11_equals_0 : List UInt8 := [42, 190, 43, 190, 160, 0, 30, 3, 61, 28, 42, 190, 162, 0, 20, 42, 28, 51, 43, 28, 51, 159, 0, 5]
abbrev dktJ11_equals_0 : List UInt8 := dkwJ11_equals_0 ++ dktJ11_equals_1
theorem dksJ11_equals_0 : cJ11_equals.data.toList.drop 0 = dktJ11_equals_0 := by decide +kernel
theorem dksJ11_equals_1 : cJ11_equals.data.toList.drop 24 = dktJ11_equals_1 := dk_seg dksJ11_equals_0 24 rfl rfl
theorem dJ11_equals_0 : decode cJ11_equals 0 = .ok (.aload_n 0, 1) := dk_42 (dk_at dksJ11_equals_0 0 rfl rfl)
theorem dJ11_equals_1 : decode cJ11_equals 1 = .ok (.arraylength, 1) := dk_190 (dk_at dksJ11_equals_0 1 rfl rfl)
theorem dJ11_equals_2 : decode cJ11_equals 2 = .ok (.aload_n 1, 1) := dk_43 (dk_at dksJ11_equals_0 2 rfl rfl)
theorem dJ11_equals_3 : decode cJ11_equals 3 = .ok (.arraylength, 1) := dk_190 (dk_at dksJ11_equals_0 3 rfl rfl)
theorem dJ11_equals_4 : decode cJ11_equals 4 = .ok (.if_icmp .ne 30, 3) := dk_160 0 30 (dk_at dksJ11_equals_0 4 rfl rfl)
theorem dJ11_equals_7 : decode cJ11_equals 7 = .ok (.iconst 0, 1) := dk_3 (dk_at dksJ11_equals_0 7 rfl rfl)
theorem dJ11_equals_8 : decode cJ11_equals 8 = .ok (.istore_n 2, 1) := dk_61 (dk_at dksJ11_equals_0 8 rfl rfl)
theorem dJ11_equals_9 : decode cJ11_equals 9 = .ok (.iload_n 2, 1) := dk_28 (dk_at dksJ11_equals_0 9 rfl rfl)
theorem dJ11_equals_10 : decode cJ11_equals 10 = .ok (.aload_n 0, 1) := dk_42 (dk_at dksJ11_equals_0 10 rfl rfl)
theorem dJ11_equals_11 : decode cJ11_equals 11 = .ok (.arraylength, 1) := dk_190 (dk_at dksJ11_equals_0 11 rfl rfl)
theorem dJ11_equals_12 : decode cJ11_equals 12 = .ok (.if_icmp .ge 20, 3) := dk_162 0 20 (dk_at dksJ11_equals_0 12 rfl rfl)
theorem dJ11_equals_15 : decode cJ11_equals 15 = .ok (.aload_n 0, 1) := dk_42 (dk_at dksJ11_equals_0 15 rfl rfl)
theorem dJ11_equals_16 : decode cJ11_equals 16 = .ok (.iload_n 2, 1) := dk_28 (dk_at dksJ11_equals_0 16 rfl rfl)
theorem dJ11_equals_17 : decode cJ11_equals 17 = .ok (.baload, 1) := dk_51 (dk_at dksJ11_equals_0 17 rfl rfl)
theorem dJ11_equals_18 : decode cJ11_equals 18 = .ok (.aload_n 1, 1) := dk_43 (dk_at dksJ11_equals_0 18 rfl rfl)
theorem dJ11_equals_19 : decode cJ11_equals 19 = .ok (.iload_n 2, 1) := dk_28 (dk_at dksJ11_equals_0 19 rfl rfl)
theorem dJ11_equals_20 : decode cJ11_equals 20 = .ok (.baload, 1) := dk_51 (dk_at dksJ11_equals_0 20 rfl rfl)
theorem dJ11_equals_21 : decode cJ11_equals 21 = .ok (.if_icmp .eq 5, 3) := dk_159 0 5 (dk_at dksJ11_equals_0 21 rfl rfl)
theorem dJ11_equals_24 : decode cJ11_equals 24 = .ok (.iconst 0, 1) := dk_3 (dk_at dksJ11_equals_1 0 rfl rfl)
theorem dJ11_equals_25 : decode cJ11_equals 25 = .ok (.ireturn, 1) := dk_172 (dk_at dksJ11_equals_1 1 rfl rfl)
theorem dJ11_equals_26 : decode cJ11_equals 26 = .ok (.iinc 2 1, 3) := dk_132 2 1 (dk_at dksJ11_equals_1 2 rfl rfl)
theorem dJ11_equals_29 : decode cJ11_equals 29 = .ok (.goto (-20), 3) := dk_167 255 236 (dk_at dksJ11_equals_1 5 rfl rfl)
theorem dJ11_equals_32 : decode cJ11_equals 32 = .ok (.iconst 1, 1) := dk_4 (dk_at dksJ11_equals_1 8 rfl rfl)
theorem dJ11_equals_33 : decode cJ11_equals 33 = .ok (.ireturn, 1) := dk_172 (dk_at dksJ11_equals_1 9 rfl rfl)
theorem dJ11_equals_34 : decode cJ11_equals 34 = .ok (.iconst 0, 1) := dk_3 (dk_at dksJ11_equals_1 10 rfl rfl)
theorem dJ11_equals_35 : decode cJ11_equals 35 = .ok (.ireturn, 1) := dk_172 (dk_at dksJ11_equals_1 11 rfl rfl)
abbrev cJ11_charAt : ByteArray := prog_51_method_2_code
def yJ11_charAt : MethodName := ⟨RJ11, "charAt", "([BI)C"⟩
def dkwJ11_charAt_0 : List UInt8 := [27, 42, 190, 184, 0, 9, 42, 27, 51, 17, 0, 255, 126, 146, 172]
abbrev dktJ11_charAt_0 : List UInt8 := dkwJ11_charAt_0 ++ []
theorem dksJ11_charAt_0 : cJ11_charAt.data.toList.drop 0 = dktJ11_charAt_0 := by decide +kernel
theorem dJ11_charAt_0 : decode cJ11_charAt 0 = .ok (.iload_n 1, 1) := dk_27 (dk_at dksJ11_charAt_0 0 rfl rfl)
theorem dJ11_charAt_1 : decode cJ11_charAt 1 = .ok (.aload_n 0, 1) := dk_42 (dk_at dksJ11_charAt_0 1 rfl rfl)
theorem dJ11_charAt_2 : decode cJ11_charAt 2 = .ok (.arraylength, 1) := dk_190 (dk_at dksJ11_charAt_0 2 rfl rfl)
theorem dJ11_charAt_3 : decode cJ11_charAt 3 = .ok (.invokestatic 9, 3) := dk_184 0 9 (dk_at dksJ11_charAt_0 3 rfl rfl)
theorem dJ11_charAt_6 : decode cJ11_charAt 6 = .ok (.aload_n 0, 1) := dk_42 (dk_at dksJ11_charAt_0 6 rfl rfl)
theorem dJ11_charAt_7 : decode cJ11_charAt 7 = .ok (.iload_n 1, 1) := dk_27 (dk_at dksJ11_charAt_0 7 rfl rfl)
theorem dJ11_charAt_8 : decode cJ11_charAt 8 = .ok (.baload, 1) := dk_51 (dk_at dksJ11_charAt_0 8 rfl rfl)
theorem dJ11_charAt_9 : decode cJ11_charAt 9 = .ok (.sipush 255, 3) := dk_17 0 255 (dk_at dksJ11_charAt_0 9 rfl rfl)
theorem dJ11_charAt_12 : decode cJ11_charAt 12 = .ok (.iand, 1) := dk_126 (dk_at dksJ11_charAt_0 12 rfl rfl)
theorem dJ11_charAt_13 : decode cJ11_charAt 13 = .ok (.i2c, 1) := dk_146 (dk_at dksJ11_charAt_0 13 rfl rfl)
theorem dJ11_charAt_14 : decode cJ11_charAt 14 = .ok (.ireturn, 1) := dk_172 (dk_at dksJ11_charAt_0 14 rfl rfl)
theorem q133 : (Jvm.Cond.initialized "java/lang/StringLatin1") ∈ lw_all := lw_g (lw_at lw_m1 28 rfl) rfl
theorem q934 : (Jvm.Cond.static ({ cls := "java/lang/StringLatin1", name := "hashCode", desc := "([B)I" } : Jvm.MethodName)) ∈ lw_all := lw_g (lw_at lw_m4 109 rfl) rfl
theorem q935 : (Jvm.Cond.code ({ cls := "java/lang/StringLatin1", name := "hashCode", desc := "([B)I" } : Jvm.MethodName) prog_51_method_21_code (1 : Nat) (Option.some Jvm.ClassFile.FieldType.int)) ∈ lw_all := lw_g (lw_at lw_m4 110 rfl) rfl
theorem q936 : (Jvm.Cond.methodLink "java/lang/StringLatin1" (84 : Nat) ({ cls := "jdk/internal/util/ArraysSupport", name := "vectorizedHashCode", desc := "(Ljava/lang/Object;IIII)I" } : Jvm.MethodName)) ∈ lw_all := lw_g (lw_at lw_m4 111 rfl) rfl
theorem q1183 : (Jvm.Cond.static ({ cls := "java/lang/StringLatin1", name := "compareTo", desc := "([B[B)I" } : Jvm.MethodName)) ∈ lw_all := lw_g (lw_at lw_m5 118 rfl) rfl
theorem q1184 : (Jvm.Cond.code ({ cls := "java/lang/StringLatin1", name := "compareTo", desc := "([B[B)I" } : Jvm.MethodName) prog_51_method_14_code (4 : Nat) (Option.some Jvm.ClassFile.FieldType.int)) ∈ lw_all := lw_g (lw_at lw_m5 119 rfl) rfl
theorem q1185 : (Jvm.Cond.methodLink "java/lang/StringLatin1" (34 : Nat) ({ cls := "java/lang/StringLatin1", name := "compareTo", desc := "([B[BII)I" } : Jvm.MethodName)) ∈ lw_all := lw_g (lw_at lw_m5 120 rfl) rfl
theorem q1186 : (Jvm.Cond.static ({ cls := "java/lang/StringLatin1", name := "compareTo", desc := "([B[BII)I" } : Jvm.MethodName)) ∈ lw_all := lw_g (lw_at lw_m5 121 rfl) rfl
theorem q1187 : (Jvm.Cond.code ({ cls := "java/lang/StringLatin1", name := "compareTo", desc := "([B[BII)I" } : Jvm.MethodName) prog_51_method_15_code (6 : Nat) (Option.some Jvm.ClassFile.FieldType.int)) ∈ lw_all := lw_g (lw_at lw_m5 122 rfl) rfl
theorem q1188 : (Jvm.Cond.methodLink "java/lang/StringLatin1" (38 : Nat) ({ cls := "java/lang/Math", name := "min", desc := "(II)I" } : Jvm.MethodName)) ∈ lw_all := lw_g (lw_at lw_m5 123 rfl) rfl
theorem q1189 : (Jvm.Cond.methodLink "java/lang/StringLatin1" (44 : Nat) ({ cls := "jdk/internal/util/ArraysSupport", name := "mismatch", desc := "([B[BI)I" } : Jvm.MethodName)) ∈ lw_all := lw_g (lw_at lw_m5 124 rfl) rfl
theorem q1290 : (Jvm.Cond.methodLink "java/lang/StringLatin1" (50 : Nat) ({ cls := "java/lang/StringLatin1", name := "getChar", desc := "([BI)C" } : Jvm.MethodName)) ∈ lw_all := lw_g (lw_at lw_m5 225 rfl) rfl
theorem q1291 : (Jvm.Cond.static ({ cls := "java/lang/StringLatin1", name := "getChar", desc := "([BI)C" } : Jvm.MethodName)) ∈ lw_all := lw_g (lw_at lw_m5 226 rfl) rfl
theorem q1292 : (Jvm.Cond.code ({ cls := "java/lang/StringLatin1", name := "getChar", desc := "([BI)C" } : Jvm.MethodName) prog_51_method_44_code (2 : Nat) (Option.some Jvm.ClassFile.FieldType.char)) ∈ lw_all := lw_g (lw_at lw_m5 227 rfl) rfl
theorem q1301 : (Jvm.Cond.static ({ cls := "java/lang/StringLatin1", name := "compareToUTF16", desc := "([B[B)I" } : Jvm.MethodName)) ∈ lw_all := lw_g (lw_at lw_m5 236 rfl) rfl
theorem q1302 : (Jvm.Cond.code ({ cls := "java/lang/StringLatin1", name := "compareToUTF16", desc := "([B[B)I" } : Jvm.MethodName) prog_51_method_16_code (4 : Nat) (Option.some Jvm.ClassFile.FieldType.int)) ∈ lw_all := lw_g (lw_at lw_m5 237 rfl) rfl
theorem q1303 : (Jvm.Cond.methodLink "java/lang/StringLatin1" (54 : Nat) ({ cls := "java/lang/StringLatin1", name := "length", desc := "([B)I" } : Jvm.MethodName)) ∈ lw_all := lw_g (lw_at lw_m5 238 rfl) rfl
theorem q1304 : (Jvm.Cond.static ({ cls := "java/lang/StringLatin1", name := "length", desc := "([B)I" } : Jvm.MethodName)) ∈ lw_all := lw_g (lw_at lw_m5 239 rfl) rfl
theorem q1305 : (Jvm.Cond.code ({ cls := "java/lang/StringLatin1", name := "length", desc := "([B)I" } : Jvm.MethodName) prog_51_method_5_code (1 : Nat) (Option.some Jvm.ClassFile.FieldType.int)) ∈ lw_all := lw_g (lw_at lw_m6 0 rfl) rfl
theorem q1306 : (Jvm.Cond.methodLink "java/lang/StringLatin1" (58 : Nat) ({ cls := "java/lang/StringUTF16", name := "length", desc := "([B)I" } : Jvm.MethodName)) ∈ lw_all := lw_g (lw_at lw_m6 1 rfl) rfl
theorem q1307 : (Jvm.Cond.methodLink "java/lang/StringLatin1" (59 : Nat) ({ cls := "java/lang/StringLatin1", name := "compareToUTF16Values", desc := "([B[BII)I" } : Jvm.MethodName)) ∈ lw_all := lw_g (lw_at lw_m6 2 rfl) rfl
theorem q1308 : (Jvm.Cond.static ({ cls := "java/lang/StringLatin1", name := "compareToUTF16Values", desc := "([B[BII)I" } : Jvm.MethodName)) ∈ lw_all := lw_g (lw_at lw_m6 3 rfl) rfl
theorem q1309 : (Jvm.Cond.code ({ cls := "java/lang/StringLatin1", name := "compareToUTF16Values", desc := "([B[BII)I" } : Jvm.MethodName) prog_51_method_18_code (8 : Nat) (Option.some Jvm.ClassFile.FieldType.int)) ∈ lw_all := lw_g (lw_at lw_m6 4 rfl) rfl
theorem q1310 : (Jvm.Cond.methodLink "java/lang/StringLatin1" (65 : Nat) ({ cls := "java/lang/StringUTF16", name := "getChar", desc := "([BI)C" } : Jvm.MethodName)) ∈ lw_all := lw_g (lw_at lw_m6 5 rfl) rfl
theorem q1389 : (Jvm.Cond.static ({ cls := "java/lang/StringLatin1", name := "equals", desc := "([B[B)Z" } : Jvm.MethodName)) ∈ lw_all := lw_g (lw_at lw_m6 84 rfl) rfl
theorem q1390 : (Jvm.Cond.code ({ cls := "java/lang/StringLatin1", name := "equals", desc := "([B[B)Z" } : Jvm.MethodName) prog_51_method_13_code (3 : Nat) (Option.some Jvm.ClassFile.FieldType.boolean)) ∈ lw_all := lw_g (lw_at lw_m6 85 rfl) rfl
theorem q2229 : (Jvm.Cond.static ({ cls := "java/lang/StringLatin1", name := "charAt", desc := "([BI)C" } : Jvm.MethodName)) ∈ lw_all := lw_g (lw_at lw_m9 204 rfl) rfl
theorem q2230 : (Jvm.Cond.code ({ cls := "java/lang/StringLatin1", name := "charAt", desc := "([BI)C" } : Jvm.MethodName) prog_51_method_2_code (2 : Nat) (Option.some Jvm.ClassFile.FieldType.char)) ∈ lw_all := lw_g (lw_at lw_m9 205 rfl) rfl
theorem q2231 : (Jvm.Cond.methodLink "java/lang/StringLatin1" (9 : Nat) ({ cls := "java/lang/String", name := "checkIndex", desc := "(II)V" } : Jvm.MethodName)) ∈ lw_all := lw_g (lw_at lw_m9 206 rfl) rfl
/-! java/util/HashMap$Node -/
set_option maxRecDepth 100000
def RJ14 : String := "java/util/HashMap$Node"
def TJ14 : u_T := fun k => match k with
  | 0 => ("java/util/HashMap$Node", "hash", "I", true)
  | 1 => ("java/util/HashMap$Node", "key", "Ljava/lang/Object;", true)
  | 2 => ("java/util/HashMap$Node", "value", "Ljava/lang/Object;", false)
  | _ => ("java/util/HashMap$Node", "next", "Ljava/util/HashMap$Node;", false)
def tyJ14 : Nat → FieldType := fun k => match k with
  | 0 => .int
  | 1 => .object "java/lang/Object"
  | 2 => .object "java/lang/Object"
  | _ => .object "java/util/HashMap$Node"
abbrev wsJ140 : List Cond := u_ws RJ14 TJ14 4
theorem nmJ14 : ∀ a, a < 4 → ∀ b, b < 4 → a ≠ b → (TJ14 a).2.1 ≠ (TJ14 b).2.1 := by decide +kernel
theorem tyJ14_ok : ∀ k, k < 4 → parseFieldDescriptor (TJ14 k).2.2.1 = some (tyJ14 k) := by decide +kernel
abbrev cJ14_init : ByteArray := prog_68_method_1_code
def yJ14_init : MethodName := ⟨RJ14, "<init>", "(ILjava/lang/Object;Ljava/lang/Object;Ljava/util/HashMap$Node;)V"⟩
def dkwJ14_init_1 : List UInt8 := [181, 0, 20, 177]
abbrev dktJ14_init_1 : List UInt8 := dkwJ14_init_1 ++ []
def dkwJ14_init_0 : List UInt8 := [42, 183, 0, 1, 42, 27, 181, 0, 7, 42, 44, 181, 0, 13, 42, 45, 181, 0, 17, 42, 25, 4]
abbrev dktJ14_init_0 : List UInt8 := dkwJ14_init_0 ++ dktJ14_init_1
theorem dksJ14_init_0 : cJ14_init.data.toList.drop 0 = dktJ14_init_0 := by decide +kernel
theorem dksJ14_init_1 : cJ14_init.data.toList.drop 22 = dktJ14_init_1 := dk_seg dksJ14_init_0 22 rfl rfl
theorem dJ14_init_0 : decode cJ14_init 0 = .ok (.aload_n 0, 1) := dk_42 (dk_at dksJ14_init_0 0 rfl rfl)
theorem dJ14_init_1 : decode cJ14_init 1 = .ok (.invokespecial 1, 3) := dk_183 0 1 (dk_at dksJ14_init_0 1 rfl rfl)
theorem dJ14_init_4 : decode cJ14_init 4 = .ok (.aload_n 0, 1) := dk_42 (dk_at dksJ14_init_0 4 rfl rfl)
theorem dJ14_init_5 : decode cJ14_init 5 = .ok (.iload_n 1, 1) := dk_27 (dk_at dksJ14_init_0 5 rfl rfl)
theorem dJ14_init_6 : decode cJ14_init 6 = .ok (.putfield 7, 3) := dk_181 0 7 (dk_at dksJ14_init_0 6 rfl rfl)
theorem dJ14_init_9 : decode cJ14_init 9 = .ok (.aload_n 0, 1) := dk_42 (dk_at dksJ14_init_0 9 rfl rfl)
theorem dJ14_init_10 : decode cJ14_init 10 = .ok (.aload_n 2, 1) := dk_44 (dk_at dksJ14_init_0 10 rfl rfl)
theorem dJ14_init_11 : decode cJ14_init 11 = .ok (.putfield 13, 3) := dk_181 0 13 (dk_at dksJ14_init_0 11 rfl rfl)
theorem dJ14_init_14 : decode cJ14_init 14 = .ok (.aload_n 0, 1) := dk_42 (dk_at dksJ14_init_0 14 rfl rfl)
theorem dJ14_init_15 : decode cJ14_init 15 = .ok (.aload_n 3, 1) := dk_45 (dk_at dksJ14_init_0 15 rfl rfl)
theorem dJ14_init_16 : decode cJ14_init 16 = .ok (.putfield 17, 3) := dk_181 0 17 (dk_at dksJ14_init_0 16 rfl rfl)
theorem dJ14_init_19 : decode cJ14_init 19 = .ok (.aload_n 0, 1) := dk_42 (dk_at dksJ14_init_0 19 rfl rfl)
theorem dJ14_init_20 : decode cJ14_init 20 = .ok (.aload 4, 2) := dk_25 4 (dk_at dksJ14_init_0 20 rfl rfl)
theorem dJ14_init_22 : decode cJ14_init 22 = .ok (.putfield 20, 3) := dk_181 0 20 (dk_at dksJ14_init_1 0 rfl rfl)
theorem dJ14_init_25 : decode cJ14_init 25 = .ok (.return_, 1) := dk_177 (dk_at dksJ14_init_1 3 rfl rfl)
abbrev cJ14_getKey : ByteArray := prog_68_method_2_code
def yJ14_getKey : MethodName := ⟨RJ14, "getKey", "()Ljava/lang/Object;"⟩
theorem dJ14_getKey_0 : decode cJ14_getKey 0 = .ok (.aload_n 0, 1) := by decide +kernel
theorem dJ14_getKey_1 : decode cJ14_getKey 1 = .ok (.getfield 13, 3) := by decide +kernel
theorem dJ14_getKey_4 : decode cJ14_getKey 4 = .ok (.areturn, 1) := by decide +kernel
theorem q136 : (Jvm.Cond.initialized "java/util/HashMap$Node") ∈ lw_all := lw_g (lw_at lw_m1 31 rfl) rfl
theorem q1033 : (Jvm.Cond.instanceMethod ({ cls := "java/util/HashMap$Node", name := "<init>", desc := "(ILjava/lang/Object;Ljava/lang/Object;Ljava/util/HashMap$Node;)V" } : Jvm.MethodName)) ∈ lw_all := lw_g (lw_at lw_m4 208 rfl) rfl
theorem q1034 : (Jvm.Cond.code ({ cls := "java/util/HashMap$Node", name := "<init>", desc := "(ILjava/lang/Object;Ljava/lang/Object;Ljava/util/HashMap$Node;)V" } : Jvm.MethodName) prog_68_method_1_code (5 : Nat) (Option.none : Option Jvm.ClassFile.FieldType)) ∈ lw_all := lw_g (lw_at lw_m4 209 rfl) rfl
theorem q1035 : (Jvm.Cond.methodLink "java/util/HashMap$Node" (1 : Nat) ({ cls := "java/lang/Object", name := "<init>", desc := "()V" } : Jvm.MethodName)) ∈ lw_all := lw_g (lw_at lw_m4 210 rfl) rfl
theorem q1040 : (Jvm.Cond.fieldLink "java/util/HashMap$Node" (7 : Nat) "java/util/HashMap$Node" "hash" "I") ∈ lw_all := lw_g (lw_at lw_m4 215 rfl) rfl
theorem q1046 : (Jvm.Cond.fieldLink "java/util/HashMap$Node" (13 : Nat) "java/util/HashMap$Node" "key" "Ljava/lang/Object;") ∈ lw_all := lw_g (lw_at lw_m4 221 rfl) rfl
theorem q1053 : (Jvm.Cond.fieldLink "java/util/HashMap$Node" (17 : Nat) "java/util/HashMap$Node" "value" "Ljava/lang/Object;") ∈ lw_all := lw_g (lw_at lw_m4 228 rfl) rfl
theorem q1059 : (Jvm.Cond.fieldLink "java/util/HashMap$Node" (20 : Nat) "java/util/HashMap$Node" "next" "Ljava/util/HashMap$Node;") ∈ lw_all := lw_g (lw_at lw_m4 234 rfl) rfl
theorem q1071 : (Jvm.Cond.soleField "java/util/HashMap$Node" "hash") ∈ lw_all := lw_g (lw_at lw_m5 6 rfl) rfl
theorem q1073 : (Jvm.Cond.soleField "java/util/HashMap$Node" "key") ∈ lw_all := lw_g (lw_at lw_m5 8 rfl) rfl
theorem q1075 : (Jvm.Cond.soleField "java/util/HashMap$Node" "value") ∈ lw_all := lw_g (lw_at lw_m5 10 rfl) rfl
theorem q1077 : (Jvm.Cond.soleField "java/util/HashMap$Node" "next") ∈ lw_all := lw_g (lw_at lw_m5 12 rfl) rfl
theorem q1084 : (Jvm.Cond.instantiable "java/util/HashMap$Node" (4 : Nat)) ∈ lw_all := lw_g (lw_at lw_m5 19 rfl) rfl
theorem q1086 : (Jvm.Cond.laysFinal "java/util/HashMap$Node" "java/util/HashMap$Node" "hash" "I") ∈ lw_all := lw_g (lw_at lw_m5 21 rfl) rfl
theorem q1087 : (Jvm.Cond.laysFinal "java/util/HashMap$Node" "java/util/HashMap$Node" "key" "Ljava/lang/Object;") ∈ lw_all := lw_g (lw_at lw_m5 22 rfl) rfl
theorem q1088 : (Jvm.Cond.lays "java/util/HashMap$Node" "java/util/HashMap$Node" "value" "Ljava/lang/Object;") ∈ lw_all := lw_g (lw_at lw_m5 23 rfl) rfl
theorem q1089 : (Jvm.Cond.lays "java/util/HashMap$Node" "java/util/HashMap$Node" "next" "Ljava/util/HashMap$Node;") ∈ lw_all := lw_g (lw_at lw_m5 24 rfl) rfl
theorem q1090 : (Jvm.Cond.superclass "java/util/HashMap$Node" "java/lang/Object") ∈ lw_all := lw_g (lw_at lw_m5 25 rfl) rfl
theorem q1134 : (Jvm.Cond.selects "java/util/HashMap$Node" ({ cls := "java/lang/Object", name := "getClass", desc := "()Ljava/lang/Class;" } : Jvm.MethodName) ({ cls := "java/lang/Object", name := "getClass", desc := "()Ljava/lang/Class;" } : Jvm.MethodName)) ∈ lw_all := lw_g (lw_at lw_m5 69 rfl) rfl
theorem q2071 : (Jvm.Cond.declares ({ cls := "java/util/HashMap$Node", name := "getKey", desc := "()Ljava/lang/Object;" } : Jvm.MethodName)) ∈ lw_tbl := lw_at lw_m9 46 rfl
theorem q2074 : (Jvm.Cond.instanceMethod ({ cls := "java/util/HashMap$Node", name := "getKey", desc := "()Ljava/lang/Object;" } : Jvm.MethodName)) ∈ lw_all := lw_g (lw_at lw_m9 49 rfl) rfl
theorem q2075 : (Jvm.Cond.code ({ cls := "java/util/HashMap$Node", name := "getKey", desc := "()Ljava/lang/Object;" } : Jvm.MethodName) prog_68_method_2_code (1 : Nat) (Option.some (Jvm.ClassFile.FieldType.object "java/lang/Object"))) ∈ lw_all := lw_g (lw_at lw_m9 50 rfl) rfl
theorem q3147 : (Jvm.Cond.castable "java/util/HashMap$Node" "java/lang/Object") ∈ lw_tbl := lw_at lw_m13 162 rfl
theorem in_J14 : ∀ w ∈ wsJ140, w ∈ lw_all := lw_in wsJ140 [1086, 1087, 1088, 1089] (by decide +kernel) (by decide +kernel)
/-! java/util/LinkedHashMap$Entry -/
set_option maxRecDepth 100000
def RJ15 : String := "java/util/LinkedHashMap$Entry"
def TJ15 : u_T := fun k => match k with
  | 0 => ("java/util/HashMap$Node", "hash", "I", true)
  | 1 => ("java/util/HashMap$Node", "key", "Ljava/lang/Object;", true)
  | 2 => ("java/util/HashMap$Node", "value", "Ljava/lang/Object;", false)
  | 3 => ("java/util/HashMap$Node", "next", "Ljava/util/HashMap$Node;", false)
  | 4 => ("java/util/LinkedHashMap$Entry", "before", "Ljava/util/LinkedHashMap$Entry;", false)
  | _ => ("java/util/LinkedHashMap$Entry", "after", "Ljava/util/LinkedHashMap$Entry;", false)
def tyJ15 : Nat → FieldType := fun k => match k with
  | 0 => .int
  | 1 => .object "java/lang/Object"
  | 2 => .object "java/lang/Object"
  | 3 => .object "java/util/HashMap$Node"
  | 4 => .object "java/util/LinkedHashMap$Entry"
  | _ => .object "java/util/LinkedHashMap$Entry"
abbrev wsJ150 : List Cond := u_ws RJ15 TJ15 6
theorem nmJ15 : ∀ a, a < 6 → ∀ b, b < 6 → a ≠ b → (TJ15 a).2.1 ≠ (TJ15 b).2.1 := by decide +kernel
theorem tyJ15_ok : ∀ k, k < 6 → parseFieldDescriptor (TJ15 k).2.2.1 = some (tyJ15 k) := by decide +kernel
abbrev cJ15_init : ByteArray := prog_73_method_1_code
def yJ15_init : MethodName := ⟨RJ15, "<init>", "(ILjava/lang/Object;Ljava/lang/Object;Ljava/util/HashMap$Node;)V"⟩
def dkwJ15_init_0 : List UInt8 := [42, 27, 44, 45, 25, 4, 183, 0, 1, 177]
abbrev dktJ15_init_0 : List UInt8 := dkwJ15_init_0 ++ []
theorem dksJ15_init_0 : cJ15_init.data.toList.drop 0 = dktJ15_init_0 := by decide +kernel
theorem dJ15_init_0 : decode cJ15_init 0 = .ok (.aload_n 0, 1) := dk_42 (dk_at dksJ15_init_0 0 rfl rfl)
theorem dJ15_init_1 : decode cJ15_init 1 = .ok (.iload_n 1, 1) := dk_27 (dk_at dksJ15_init_0 1 rfl rfl)
theorem dJ15_init_2 : decode cJ15_init 2 = .ok (.aload_n 2, 1) := dk_44 (dk_at dksJ15_init_0 2 rfl rfl)
theorem dJ15_init_3 : decode cJ15_init 3 = .ok (.aload_n 3, 1) := dk_45 (dk_at dksJ15_init_0 3 rfl rfl)
theorem dJ15_init_4 : decode cJ15_init 4 = .ok (.aload 4, 2) := dk_25 4 (dk_at dksJ15_init_0 4 rfl rfl)
theorem dJ15_init_6 : decode cJ15_init 6 = .ok (.invokespecial 1, 3) := dk_183 0 1 (dk_at dksJ15_init_0 6 rfl rfl)
theorem dJ15_init_9 : decode cJ15_init 9 = .ok (.return_, 1) := dk_177 (dk_at dksJ15_init_0 9 rfl rfl)
theorem q137 : (Jvm.Cond.initialized "java/util/LinkedHashMap$Entry") ∈ lw_all := lw_g (lw_at lw_m1 32 rfl) rfl
theorem q1028 : (Jvm.Cond.instantiable "java/util/LinkedHashMap$Entry" (6 : Nat)) ∈ lw_all := lw_g (lw_at lw_m4 203 rfl) rfl
theorem q1030 : (Jvm.Cond.instanceMethod ({ cls := "java/util/LinkedHashMap$Entry", name := "<init>", desc := "(ILjava/lang/Object;Ljava/lang/Object;Ljava/util/HashMap$Node;)V" } : Jvm.MethodName)) ∈ lw_all := lw_g (lw_at lw_m4 205 rfl) rfl
theorem q1031 : (Jvm.Cond.code ({ cls := "java/util/LinkedHashMap$Entry", name := "<init>", desc := "(ILjava/lang/Object;Ljava/lang/Object;Ljava/util/HashMap$Node;)V" } : Jvm.MethodName) prog_73_method_1_code (5 : Nat) (Option.none : Option Jvm.ClassFile.FieldType)) ∈ lw_all := lw_g (lw_at lw_m4 206 rfl) rfl
theorem q1032 : (Jvm.Cond.methodLink "java/util/LinkedHashMap$Entry" (1 : Nat) ({ cls := "java/util/HashMap$Node", name := "<init>", desc := "(ILjava/lang/Object;Ljava/lang/Object;Ljava/util/HashMap$Node;)V" } : Jvm.MethodName)) ∈ lw_all := lw_g (lw_at lw_m4 207 rfl) rfl
theorem q1044 : (Jvm.Cond.sameField "java/util/LinkedHashMap$Entry" "java/util/HashMap$Node" "hash" "I") ∈ lw_all := lw_g (lw_at lw_m4 219 rfl) rfl
theorem q1051 : (Jvm.Cond.sameField "java/util/LinkedHashMap$Entry" "java/util/HashMap$Node" "key" "Ljava/lang/Object;") ∈ lw_all := lw_g (lw_at lw_m4 226 rfl) rfl
theorem q1055 : (Jvm.Cond.sameField "java/util/LinkedHashMap$Entry" "java/util/HashMap$Node" "value" "Ljava/lang/Object;") ∈ lw_all := lw_g (lw_at lw_m4 230 rfl) rfl
theorem q1066 : (Jvm.Cond.lays "java/util/LinkedHashMap$Entry" "java/util/LinkedHashMap$Entry" "before" "Ljava/util/LinkedHashMap$Entry;") ∈ lw_all := lw_g (lw_at lw_m5 1 rfl) rfl
theorem q1067 : (Jvm.Cond.soleField "java/util/LinkedHashMap$Entry" "before") ∈ lw_all := lw_g (lw_at lw_m5 2 rfl) rfl
theorem q1068 : (Jvm.Cond.lays "java/util/LinkedHashMap$Entry" "java/util/LinkedHashMap$Entry" "after" "Ljava/util/LinkedHashMap$Entry;") ∈ lw_all := lw_g (lw_at lw_m5 3 rfl) rfl
theorem q1069 : (Jvm.Cond.soleField "java/util/LinkedHashMap$Entry" "after") ∈ lw_all := lw_g (lw_at lw_m5 4 rfl) rfl
theorem q1070 : (Jvm.Cond.laysFinal "java/util/LinkedHashMap$Entry" "java/util/HashMap$Node" "hash" "I") ∈ lw_all := lw_g (lw_at lw_m5 5 rfl) rfl
theorem q1072 : (Jvm.Cond.laysFinal "java/util/LinkedHashMap$Entry" "java/util/HashMap$Node" "key" "Ljava/lang/Object;") ∈ lw_all := lw_g (lw_at lw_m5 7 rfl) rfl
theorem q1074 : (Jvm.Cond.lays "java/util/LinkedHashMap$Entry" "java/util/HashMap$Node" "value" "Ljava/lang/Object;") ∈ lw_all := lw_g (lw_at lw_m5 9 rfl) rfl
theorem q1076 : (Jvm.Cond.lays "java/util/LinkedHashMap$Entry" "java/util/HashMap$Node" "next" "Ljava/util/HashMap$Node;") ∈ lw_all := lw_g (lw_at lw_m5 11 rfl) rfl
theorem q1078 : (Jvm.Cond.superclass "java/util/LinkedHashMap$Entry" "java/util/HashMap$Node") ∈ lw_all := lw_g (lw_at lw_m5 13 rfl) rfl
theorem q1138 : (Jvm.Cond.selects "java/util/LinkedHashMap$Entry" ({ cls := "java/lang/Object", name := "getClass", desc := "()Ljava/lang/Class;" } : Jvm.MethodName) ({ cls := "java/lang/Object", name := "getClass", desc := "()Ljava/lang/Class;" } : Jvm.MethodName)) ∈ lw_all := lw_g (lw_at lw_m5 73 rfl) rfl
theorem q2070 : (Jvm.Cond.sameMethod "java/util/LinkedHashMap$Entry" "java/util/HashMap$Node" "getKey" "()Ljava/lang/Object;") ∈ lw_all := lw_g (lw_at lw_m9 45 rfl) rfl
theorem q2073 : (Jvm.Cond.selects "java/util/LinkedHashMap$Entry" ({ cls := "java/util/LinkedHashMap$Entry", name := "getKey", desc := "()Ljava/lang/Object;" } : Jvm.MethodName) ({ cls := "java/util/HashMap$Node", name := "getKey", desc := "()Ljava/lang/Object;" } : Jvm.MethodName)) ∈ lw_all := lw_g (lw_at lw_m9 48 rfl) rfl
theorem q3148 : (Jvm.Cond.castable "java/util/LinkedHashMap$Entry" "java/lang/Object") ∈ lw_tbl := lw_at lw_m13 163 rfl
theorem q3174 : (Jvm.Cond.castable "java/util/LinkedHashMap$Entry" "java/util/HashMap$Node") ∈ lw_tbl := lw_at lw_m13 189 rfl
theorem in_J15 : ∀ w ∈ wsJ150, w ∈ lw_all := lw_in wsJ150 [1070, 1072, 1074, 1076, 1066, 1068] (by decide +kernel) (by decide +kernel)
/-! java/util/HashMap$TreeNode -/
set_option maxRecDepth 100000
def RJ17 : String := "java/util/HashMap$TreeNode"
def TJ17 : u_T := fun k => match k with
  | 0 => ("java/util/HashMap$Node", "hash", "I", true)
  | 1 => ("java/util/HashMap$Node", "key", "Ljava/lang/Object;", true)
  | 2 => ("java/util/HashMap$Node", "value", "Ljava/lang/Object;", false)
  | 3 => ("java/util/HashMap$Node", "next", "Ljava/util/HashMap$Node;", false)
  | 4 => ("java/util/LinkedHashMap$Entry", "before", "Ljava/util/LinkedHashMap$Entry;", false)
  | 5 => ("java/util/LinkedHashMap$Entry", "after", "Ljava/util/LinkedHashMap$Entry;", false)
  | 6 => ("java/util/HashMap$TreeNode", "parent", "Ljava/util/HashMap$TreeNode;", false)
  | 7 => ("java/util/HashMap$TreeNode", "left", "Ljava/util/HashMap$TreeNode;", false)
  | 8 => ("java/util/HashMap$TreeNode", "right", "Ljava/util/HashMap$TreeNode;", false)
  | 9 => ("java/util/HashMap$TreeNode", "prev", "Ljava/util/HashMap$TreeNode;", false)
  | _ => ("java/util/HashMap$TreeNode", "red", "Z", false)
def tyJ17 : Nat → FieldType := fun k => match k with
  | 0 => .int
  | 1 => .object "java/lang/Object"
  | 2 => .object "java/lang/Object"
  | 3 => .object "java/util/HashMap$Node"
  | 4 => .object "java/util/LinkedHashMap$Entry"
  | 5 => .object "java/util/LinkedHashMap$Entry"
  | 6 => .object "java/util/HashMap$TreeNode"
  | 7 => .object "java/util/HashMap$TreeNode"
  | 8 => .object "java/util/HashMap$TreeNode"
  | 9 => .object "java/util/HashMap$TreeNode"
  | _ => .boolean
abbrev wsJ170 : List Cond := u_ws RJ17 TJ17 11
theorem nmJ17 : ∀ a, a < 11 → ∀ b, b < 11 → a ≠ b → (TJ17 a).2.1 ≠ (TJ17 b).2.1 := by decide +kernel
theorem tyJ17_ok : ∀ k, k < 11 → parseFieldDescriptor (TJ17 k).2.2.1 = some (tyJ17 k) := by decide +kernel
abbrev cJ17_split : ByteArray := prog_69_method_11_code
def yJ17_split : MethodName := ⟨RJ17, "split", "(Ljava/util/HashMap;[Ljava/util/HashMap$Node;II)V"⟩
def dkwJ17_split_9 : List UInt8 := [198, 0, 9, 25, 8, 44, 182, 0, 126, 177]
abbrev dktJ17_split_9 : List UInt8 := dkwJ17_split_9 ++ []
def dkwJ17_split_8 : List UInt8 := [21, 4, 96, 25, 8, 43, 182, 0, 119, 83, 167, 0, 22, 44, 29, 21, 4, 96, 25, 8, 83, 25, 6]
abbrev dktJ17_split_8 : List UInt8 := dkwJ17_split_8 ++ dktJ17_split_9
def dkwJ17_split_7 : List UInt8 := [198, 0, 9, 25, 6, 44, 182, 0, 126, 25, 8, 198, 0, 44, 21, 11, 16, 6, 163, 0, 18, 44, 29]
abbrev dktJ17_split_7 : List UInt8 := dkwJ17_split_7 ++ dktJ17_split_8
def dkwJ17_split_6 : List UInt8 := [163, 0, 15, 44, 29, 25, 6, 43, 182, 0, 119, 83, 167, 0, 19, 44, 29, 25, 6, 83, 25, 8]
abbrev dktJ17_split_6 : List UInt8 := dkwJ17_split_6 ++ dktJ17_split_7
def dkwJ17_split_5 : List UInt8 := [25, 12, 58, 9, 132, 11, 1, 25, 13, 58, 12, 167, 255, 153, 25, 6, 198, 0, 38, 21, 10, 16, 6]
abbrev dktJ17_split_5 : List UInt8 := dkwJ17_split_5 ++ dktJ17_split_6
def dkwJ17_split_4 : List UInt8 := [25, 9, 90, 181, 0, 19, 199, 0, 10, 25, 12, 58, 8, 167, 0, 10, 25, 9, 25, 12, 181, 0, 22]
abbrev dktJ17_split_4 : List UInt8 := dkwJ17_split_4 ++ dktJ17_split_5
def dkwJ17_split_3 : List UInt8 := [58, 6, 167, 0, 10, 25, 7, 25, 12, 181, 0, 22, 25, 12, 58, 7, 132, 10, 1, 167, 0, 35, 25, 12]
abbrev dktJ17_split_3 : List UInt8 := dkwJ17_split_3 ++ dktJ17_split_4
def dkwJ17_split_2 : List UInt8 := [25, 12, 180, 0, 15, 21, 4, 126, 154, 0, 38, 25, 12, 25, 7, 90, 181, 0, 19, 199, 0, 10, 25, 12]
abbrev dktJ17_split_2 : List UInt8 := dkwJ17_split_2 ++ dktJ17_split_3
def dkwJ17_split_1 : List UInt8 := [58, 12, 25, 12, 198, 0, 104, 25, 12, 180, 0, 22, 192, 0, 10, 58, 13, 25, 12, 1, 181, 0, 22]
abbrev dktJ17_split_1 : List UInt8 := dkwJ17_split_1 ++ dktJ17_split_2
def dkwJ17_split_0 : List UInt8 := [42, 58, 5, 1, 58, 6, 1, 58, 7, 1, 58, 8, 1, 58, 9, 3, 54, 10, 3, 54, 11, 25, 5]
abbrev dktJ17_split_0 : List UInt8 := dkwJ17_split_0 ++ dktJ17_split_1
theorem dksJ17_split_0 : cJ17_split.data.toList.drop 0 = dktJ17_split_0 := by decide +kernel
theorem dksJ17_split_1 : cJ17_split.data.toList.drop 23 = dktJ17_split_1 := dk_seg dksJ17_split_0 23 rfl rfl
theorem dksJ17_split_2 : cJ17_split.data.toList.drop 46 = dktJ17_split_2 := dk_seg dksJ17_split_1 23 rfl rfl
theorem dksJ17_split_3 : cJ17_split.data.toList.drop 70 = dktJ17_split_3 := dk_seg dksJ17_split_2 24 rfl rfl
theorem dksJ17_split_4 : cJ17_split.data.toList.drop 94 = dktJ17_split_4 := dk_seg dksJ17_split_3 24 rfl rfl
theorem dksJ17_split_5 : cJ17_split.data.toList.drop 117 = dktJ17_split_5 := dk_seg dksJ17_split_4 23 rfl rfl
theorem dksJ17_split_6 : cJ17_split.data.toList.drop 140 = dktJ17_split_6 := dk_seg dksJ17_split_5 23 rfl rfl
theorem dksJ17_split_7 : cJ17_split.data.toList.drop 162 = dktJ17_split_7 := dk_seg dksJ17_split_6 22 rfl rfl
theorem dksJ17_split_8 : cJ17_split.data.toList.drop 185 = dktJ17_split_8 := dk_seg dksJ17_split_7 23 rfl rfl
theorem dksJ17_split_9 : cJ17_split.data.toList.drop 208 = dktJ17_split_9 := dk_seg dksJ17_split_8 23 rfl rfl
theorem dJ17_split_0 : decode cJ17_split 0 = .ok (.aload_n 0, 1) := dk_42 (dk_at dksJ17_split_0 0 rfl rfl)
theorem dJ17_split_1 : decode cJ17_split 1 = .ok (.astore 5, 2) := dk_58 5 (dk_at dksJ17_split_0 1 rfl rfl)
theorem dJ17_split_3 : decode cJ17_split 3 = .ok (.aconst_null, 1) := dk_1 (dk_at dksJ17_split_0 3 rfl rfl)
theorem dJ17_split_4 : decode cJ17_split 4 = .ok (.astore 6, 2) := dk_58 6 (dk_at dksJ17_split_0 4 rfl rfl)
theorem dJ17_split_6 : decode cJ17_split 6 = .ok (.aconst_null, 1) := dk_1 (dk_at dksJ17_split_0 6 rfl rfl)
theorem dJ17_split_7 : decode cJ17_split 7 = .ok (.astore 7, 2) := dk_58 7 (dk_at dksJ17_split_0 7 rfl rfl)
theorem dJ17_split_9 : decode cJ17_split 9 = .ok (.aconst_null, 1) := dk_1 (dk_at dksJ17_split_0 9 rfl rfl)
theorem dJ17_split_10 : decode cJ17_split 10 = .ok (.astore 8, 2) := dk_58 8 (dk_at dksJ17_split_0 10 rfl rfl)
theorem dJ17_split_12 : decode cJ17_split 12 = .ok (.aconst_null, 1) := dk_1 (dk_at dksJ17_split_0 12 rfl rfl)
theorem dJ17_split_13 : decode cJ17_split 13 = .ok (.astore 9, 2) := dk_58 9 (dk_at dksJ17_split_0 13 rfl rfl)
theorem dJ17_split_15 : decode cJ17_split 15 = .ok (.iconst 0, 1) := dk_3 (dk_at dksJ17_split_0 15 rfl rfl)
theorem dJ17_split_16 : decode cJ17_split 16 = .ok (.istore 10, 2) := dk_54 10 (dk_at dksJ17_split_0 16 rfl rfl)
theorem dJ17_split_18 : decode cJ17_split 18 = .ok (.iconst 0, 1) := dk_3 (dk_at dksJ17_split_0 18 rfl rfl)
theorem dJ17_split_19 : decode cJ17_split 19 = .ok (.istore 11, 2) := dk_54 11 (dk_at dksJ17_split_0 19 rfl rfl)
theorem dJ17_split_21 : decode cJ17_split 21 = .ok (.aload 5, 2) := dk_25 5 (dk_at dksJ17_split_0 21 rfl rfl)
theorem dJ17_split_23 : decode cJ17_split 23 = .ok (.astore 12, 2) := dk_58 12 (dk_at dksJ17_split_1 0 rfl rfl)
theorem dJ17_split_25 : decode cJ17_split 25 = .ok (.aload 12, 2) := dk_25 12 (dk_at dksJ17_split_1 2 rfl rfl)
theorem dJ17_split_27 : decode cJ17_split 27 = .ok (.ifnull 104, 3) := dk_198 0 104 (dk_at dksJ17_split_1 4 rfl rfl)
theorem dJ17_split_30 : decode cJ17_split 30 = .ok (.aload 12, 2) := dk_25 12 (dk_at dksJ17_split_1 7 rfl rfl)
theorem dJ17_split_32 : decode cJ17_split 32 = .ok (.getfield 22, 3) := dk_180 0 22 (dk_at dksJ17_split_1 9 rfl rfl)
theorem dJ17_split_35 : decode cJ17_split 35 = .ok (.checkcast 10, 3) := dk_192 0 10 (dk_at dksJ17_split_1 12 rfl rfl)
theorem dJ17_split_38 : decode cJ17_split 38 = .ok (.astore 13, 2) := dk_58 13 (dk_at dksJ17_split_1 15 rfl rfl)
theorem dJ17_split_40 : decode cJ17_split 40 = .ok (.aload 12, 2) := dk_25 12 (dk_at dksJ17_split_1 17 rfl rfl)
theorem dJ17_split_42 : decode cJ17_split 42 = .ok (.aconst_null, 1) := dk_1 (dk_at dksJ17_split_1 19 rfl rfl)
theorem dJ17_split_43 : decode cJ17_split 43 = .ok (.putfield 22, 3) := dk_181 0 22 (dk_at dksJ17_split_1 20 rfl rfl)
theorem dJ17_split_46 : decode cJ17_split 46 = .ok (.aload 12, 2) := dk_25 12 (dk_at dksJ17_split_2 0 rfl rfl)
theorem dJ17_split_48 : decode cJ17_split 48 = .ok (.getfield 15, 3) := dk_180 0 15 (dk_at dksJ17_split_2 2 rfl rfl)
theorem dJ17_split_51 : decode cJ17_split 51 = .ok (.iload 4, 2) := dk_21 4 (dk_at dksJ17_split_2 5 rfl rfl)
theorem dJ17_split_53 : decode cJ17_split 53 = .ok (.iand, 1) := dk_126 (dk_at dksJ17_split_2 7 rfl rfl)
theorem dJ17_split_54 : decode cJ17_split 54 = .ok (.ifCond .ne 38, 3) := dk_154 0 38 (dk_at dksJ17_split_2 8 rfl rfl)
theorem dJ17_split_57 : decode cJ17_split 57 = .ok (.aload 12, 2) := dk_25 12 (dk_at dksJ17_split_2 11 rfl rfl)
theorem dJ17_split_59 : decode cJ17_split 59 = .ok (.aload 7, 2) := dk_25 7 (dk_at dksJ17_split_2 13 rfl rfl)
theorem dJ17_split_61 : decode cJ17_split 61 = .ok (.dup_x1, 1) := dk_90 (dk_at dksJ17_split_2 15 rfl rfl)
theorem dJ17_split_62 : decode cJ17_split 62 = .ok (.putfield 19, 3) := dk_181 0 19 (dk_at dksJ17_split_2 16 rfl rfl)
theorem dJ17_split_65 : decode cJ17_split 65 = .ok (.ifnonnull 10, 3) := dk_199 0 10 (dk_at dksJ17_split_2 19 rfl rfl)
theorem dJ17_split_68 : decode cJ17_split 68 = .ok (.aload 12, 2) := dk_25 12 (dk_at dksJ17_split_2 22 rfl rfl)
theorem dJ17_split_70 : decode cJ17_split 70 = .ok (.astore 6, 2) := dk_58 6 (dk_at dksJ17_split_3 0 rfl rfl)
theorem dJ17_split_72 : decode cJ17_split 72 = .ok (.goto 10, 3) := dk_167 0 10 (dk_at dksJ17_split_3 2 rfl rfl)
theorem dJ17_split_75 : decode cJ17_split 75 = .ok (.aload 7, 2) := dk_25 7 (dk_at dksJ17_split_3 5 rfl rfl)
theorem dJ17_split_77 : decode cJ17_split 77 = .ok (.aload 12, 2) := dk_25 12 (dk_at dksJ17_split_3 7 rfl rfl)
theorem dJ17_split_79 : decode cJ17_split 79 = .ok (.putfield 22, 3) := dk_181 0 22 (dk_at dksJ17_split_3 9 rfl rfl)
theorem dJ17_split_82 : decode cJ17_split 82 = .ok (.aload 12, 2) := dk_25 12 (dk_at dksJ17_split_3 12 rfl rfl)
theorem dJ17_split_84 : decode cJ17_split 84 = .ok (.astore 7, 2) := dk_58 7 (dk_at dksJ17_split_3 14 rfl rfl)
theorem dJ17_split_86 : decode cJ17_split 86 = .ok (.iinc 10 1, 3) := dk_132 10 1 (dk_at dksJ17_split_3 16 rfl rfl)
theorem dJ17_split_89 : decode cJ17_split 89 = .ok (.goto 35, 3) := dk_167 0 35 (dk_at dksJ17_split_3 19 rfl rfl)
theorem dJ17_split_92 : decode cJ17_split 92 = .ok (.aload 12, 2) := dk_25 12 (dk_at dksJ17_split_3 22 rfl rfl)
theorem dJ17_split_94 : decode cJ17_split 94 = .ok (.aload 9, 2) := dk_25 9 (dk_at dksJ17_split_4 0 rfl rfl)
theorem dJ17_split_96 : decode cJ17_split 96 = .ok (.dup_x1, 1) := dk_90 (dk_at dksJ17_split_4 2 rfl rfl)
theorem dJ17_split_97 : decode cJ17_split 97 = .ok (.putfield 19, 3) := dk_181 0 19 (dk_at dksJ17_split_4 3 rfl rfl)
theorem dJ17_split_100 : decode cJ17_split 100 = .ok (.ifnonnull 10, 3) := dk_199 0 10 (dk_at dksJ17_split_4 6 rfl rfl)
theorem dJ17_split_103 : decode cJ17_split 103 = .ok (.aload 12, 2) := dk_25 12 (dk_at dksJ17_split_4 9 rfl rfl)
theorem dJ17_split_105 : decode cJ17_split 105 = .ok (.astore 8, 2) := dk_58 8 (dk_at dksJ17_split_4 11 rfl rfl)
theorem dJ17_split_107 : decode cJ17_split 107 = .ok (.goto 10, 3) := dk_167 0 10 (dk_at dksJ17_split_4 13 rfl rfl)
theorem dJ17_split_110 : decode cJ17_split 110 = .ok (.aload 9, 2) := dk_25 9 (dk_at dksJ17_split_4 16 rfl rfl)
theorem dJ17_split_112 : decode cJ17_split 112 = .ok (.aload 12, 2) := dk_25 12 (dk_at dksJ17_split_4 18 rfl rfl)
theorem dJ17_split_114 : decode cJ17_split 114 = .ok (.putfield 22, 3) := dk_181 0 22 (dk_at dksJ17_split_4 20 rfl rfl)
theorem dJ17_split_117 : decode cJ17_split 117 = .ok (.aload 12, 2) := dk_25 12 (dk_at dksJ17_split_5 0 rfl rfl)
theorem dJ17_split_119 : decode cJ17_split 119 = .ok (.astore 9, 2) := dk_58 9 (dk_at dksJ17_split_5 2 rfl rfl)
theorem dJ17_split_121 : decode cJ17_split 121 = .ok (.iinc 11 1, 3) := dk_132 11 1 (dk_at dksJ17_split_5 4 rfl rfl)
theorem dJ17_split_124 : decode cJ17_split 124 = .ok (.aload 13, 2) := dk_25 13 (dk_at dksJ17_split_5 7 rfl rfl)
theorem dJ17_split_126 : decode cJ17_split 126 = .ok (.astore 12, 2) := dk_58 12 (dk_at dksJ17_split_5 9 rfl rfl)
theorem dJ17_split_128 : decode cJ17_split 128 = .ok (.goto (-103), 3) := dk_167 255 153 (dk_at dksJ17_split_5 11 rfl rfl)
theorem dJ17_split_131 : decode cJ17_split 131 = .ok (.aload 6, 2) := dk_25 6 (dk_at dksJ17_split_5 14 rfl rfl)
theorem dJ17_split_133 : decode cJ17_split 133 = .ok (.ifnull 38, 3) := dk_198 0 38 (dk_at dksJ17_split_5 16 rfl rfl)
theorem dJ17_split_136 : decode cJ17_split 136 = .ok (.iload 10, 2) := dk_21 10 (dk_at dksJ17_split_5 19 rfl rfl)
theorem dJ17_split_138 : decode cJ17_split 138 = .ok (.bipush 6, 2) := dk_16 6 (dk_at dksJ17_split_5 21 rfl rfl)
theorem dJ17_split_140 : decode cJ17_split 140 = .ok (.if_icmp .gt 15, 3) := dk_163 0 15 (dk_at dksJ17_split_6 0 rfl rfl)
theorem dJ17_split_143 : decode cJ17_split 143 = .ok (.aload_n 2, 1) := dk_44 (dk_at dksJ17_split_6 3 rfl rfl)
theorem dJ17_split_144 : decode cJ17_split 144 = .ok (.iload_n 3, 1) := dk_29 (dk_at dksJ17_split_6 4 rfl rfl)
theorem dJ17_split_145 : decode cJ17_split 145 = .ok (.aload 6, 2) := dk_25 6 (dk_at dksJ17_split_6 5 rfl rfl)
theorem dJ17_split_147 : decode cJ17_split 147 = .ok (.aload_n 1, 1) := dk_43 (dk_at dksJ17_split_6 7 rfl rfl)
theorem dJ17_split_148 : decode cJ17_split 148 = .ok (.invokevirtual 119, 3) := dk_182 0 119 (dk_at dksJ17_split_6 8 rfl rfl)
theorem dJ17_split_151 : decode cJ17_split 151 = .ok (.aastore, 1) := dk_83 (dk_at dksJ17_split_6 11 rfl rfl)
theorem dJ17_split_152 : decode cJ17_split 152 = .ok (.goto 19, 3) := dk_167 0 19 (dk_at dksJ17_split_6 12 rfl rfl)
theorem dJ17_split_155 : decode cJ17_split 155 = .ok (.aload_n 2, 1) := dk_44 (dk_at dksJ17_split_6 15 rfl rfl)
theorem dJ17_split_156 : decode cJ17_split 156 = .ok (.iload_n 3, 1) := dk_29 (dk_at dksJ17_split_6 16 rfl rfl)
theorem dJ17_split_157 : decode cJ17_split 157 = .ok (.aload 6, 2) := dk_25 6 (dk_at dksJ17_split_6 17 rfl rfl)
theorem dJ17_split_159 : decode cJ17_split 159 = .ok (.aastore, 1) := dk_83 (dk_at dksJ17_split_6 19 rfl rfl)
theorem dJ17_split_160 : decode cJ17_split 160 = .ok (.aload 8, 2) := dk_25 8 (dk_at dksJ17_split_6 20 rfl rfl)
theorem dJ17_split_162 : decode cJ17_split 162 = .ok (.ifnull 9, 3) := dk_198 0 9 (dk_at dksJ17_split_7 0 rfl rfl)
theorem dJ17_split_165 : decode cJ17_split 165 = .ok (.aload 6, 2) := dk_25 6 (dk_at dksJ17_split_7 3 rfl rfl)
theorem dJ17_split_167 : decode cJ17_split 167 = .ok (.aload_n 2, 1) := dk_44 (dk_at dksJ17_split_7 5 rfl rfl)
theorem dJ17_split_168 : decode cJ17_split 168 = .ok (.invokevirtual 126, 3) := dk_182 0 126 (dk_at dksJ17_split_7 6 rfl rfl)
theorem dJ17_split_171 : decode cJ17_split 171 = .ok (.aload 8, 2) := dk_25 8 (dk_at dksJ17_split_7 9 rfl rfl)
theorem dJ17_split_173 : decode cJ17_split 173 = .ok (.ifnull 44, 3) := dk_198 0 44 (dk_at dksJ17_split_7 11 rfl rfl)
theorem dJ17_split_176 : decode cJ17_split 176 = .ok (.iload 11, 2) := dk_21 11 (dk_at dksJ17_split_7 14 rfl rfl)
theorem dJ17_split_178 : decode cJ17_split 178 = .ok (.bipush 6, 2) := dk_16 6 (dk_at dksJ17_split_7 16 rfl rfl)
theorem dJ17_split_180 : decode cJ17_split 180 = .ok (.if_icmp .gt 18, 3) := dk_163 0 18 (dk_at dksJ17_split_7 18 rfl rfl)
theorem dJ17_split_183 : decode cJ17_split 183 = .ok (.aload_n 2, 1) := dk_44 (dk_at dksJ17_split_7 21 rfl rfl)
theorem dJ17_split_184 : decode cJ17_split 184 = .ok (.iload_n 3, 1) := dk_29 (dk_at dksJ17_split_7 22 rfl rfl)
theorem dJ17_split_185 : decode cJ17_split 185 = .ok (.iload 4, 2) := dk_21 4 (dk_at dksJ17_split_8 0 rfl rfl)
theorem dJ17_split_187 : decode cJ17_split 187 = .ok (.iadd, 1) := dk_96 (dk_at dksJ17_split_8 2 rfl rfl)
theorem dJ17_split_188 : decode cJ17_split 188 = .ok (.aload 8, 2) := dk_25 8 (dk_at dksJ17_split_8 3 rfl rfl)
theorem dJ17_split_190 : decode cJ17_split 190 = .ok (.aload_n 1, 1) := dk_43 (dk_at dksJ17_split_8 5 rfl rfl)
theorem dJ17_split_191 : decode cJ17_split 191 = .ok (.invokevirtual 119, 3) := dk_182 0 119 (dk_at dksJ17_split_8 6 rfl rfl)
theorem dJ17_split_194 : decode cJ17_split 194 = .ok (.aastore, 1) := dk_83 (dk_at dksJ17_split_8 9 rfl rfl)
theorem dJ17_split_195 : decode cJ17_split 195 = .ok (.goto 22, 3) := dk_167 0 22 (dk_at dksJ17_split_8 10 rfl rfl)
theorem dJ17_split_198 : decode cJ17_split 198 = .ok (.aload_n 2, 1) := dk_44 (dk_at dksJ17_split_8 13 rfl rfl)
theorem dJ17_split_199 : decode cJ17_split 199 = .ok (.iload_n 3, 1) := dk_29 (dk_at dksJ17_split_8 14 rfl rfl)
theorem dJ17_split_200 : decode cJ17_split 200 = .ok (.iload 4, 2) := dk_21 4 (dk_at dksJ17_split_8 15 rfl rfl)
theorem dJ17_split_202 : decode cJ17_split 202 = .ok (.iadd, 1) := dk_96 (dk_at dksJ17_split_8 17 rfl rfl)
theorem dJ17_split_203 : decode cJ17_split 203 = .ok (.aload 8, 2) := dk_25 8 (dk_at dksJ17_split_8 18 rfl rfl)
theorem dJ17_split_205 : decode cJ17_split 205 = .ok (.aastore, 1) := dk_83 (dk_at dksJ17_split_8 20 rfl rfl)
theorem dJ17_split_206 : decode cJ17_split 206 = .ok (.aload 6, 2) := dk_25 6 (dk_at dksJ17_split_8 21 rfl rfl)
theorem dJ17_split_208 : decode cJ17_split 208 = .ok (.ifnull 9, 3) := dk_198 0 9 (dk_at dksJ17_split_9 0 rfl rfl)
theorem dJ17_split_211 : decode cJ17_split 211 = .ok (.aload 8, 2) := dk_25 8 (dk_at dksJ17_split_9 3 rfl rfl)
theorem dJ17_split_213 : decode cJ17_split 213 = .ok (.aload_n 2, 1) := dk_44 (dk_at dksJ17_split_9 5 rfl rfl)
theorem dJ17_split_214 : decode cJ17_split 214 = .ok (.invokevirtual 126, 3) := dk_182 0 126 (dk_at dksJ17_split_9 6 rfl rfl)
theorem dJ17_split_217 : decode cJ17_split 217 = .ok (.return_, 1) := dk_177 (dk_at dksJ17_split_9 9 rfl rfl)
abbrev cJ17_untreeify : ByteArray := prog_69_method_8_code
def yJ17_untreeify : MethodName := ⟨RJ17, "untreeify", "(Ljava/util/HashMap;)Ljava/util/HashMap$Node;"⟩
def dkwJ17_untreeify_2 : List UInt8 := [58, 4, 167, 255, 216, 44, 176]
abbrev dktJ17_untreeify_2 : List UInt8 := dkwJ17_untreeify_2 ++ []
def dkwJ17_untreeify_1 : List UInt8 := [199, 0, 9, 25, 5, 77, 167, 0, 9, 45, 25, 5, 181, 0, 112, 25, 5, 78, 25, 4, 180, 0, 112]
abbrev dktJ17_untreeify_1 : List UInt8 := dkwJ17_untreeify_1 ++ dktJ17_untreeify_2
def dkwJ17_untreeify_0 : List UInt8 := [1, 77, 1, 78, 42, 58, 4, 25, 4, 198, 0, 41, 43, 25, 4, 1, 182, 0, 108, 58, 5, 45]
abbrev dktJ17_untreeify_0 : List UInt8 := dkwJ17_untreeify_0 ++ dktJ17_untreeify_1
theorem dksJ17_untreeify_0 : cJ17_untreeify.data.toList.drop 0 = dktJ17_untreeify_0 := by decide +kernel
theorem dksJ17_untreeify_1 : cJ17_untreeify.data.toList.drop 22 = dktJ17_untreeify_1 := dk_seg dksJ17_untreeify_0 22 rfl rfl
theorem dksJ17_untreeify_2 : cJ17_untreeify.data.toList.drop 45 = dktJ17_untreeify_2 := dk_seg dksJ17_untreeify_1 23 rfl rfl
theorem dJ17_untreeify_0 : decode cJ17_untreeify 0 = .ok (.aconst_null, 1) := dk_1 (dk_at dksJ17_untreeify_0 0 rfl rfl)
theorem dJ17_untreeify_1 : decode cJ17_untreeify 1 = .ok (.astore_n 2, 1) := dk_77 (dk_at dksJ17_untreeify_0 1 rfl rfl)
theorem dJ17_untreeify_2 : decode cJ17_untreeify 2 = .ok (.aconst_null, 1) := dk_1 (dk_at dksJ17_untreeify_0 2 rfl rfl)
theorem dJ17_untreeify_3 : decode cJ17_untreeify 3 = .ok (.astore_n 3, 1) := dk_78 (dk_at dksJ17_untreeify_0 3 rfl rfl)
theorem dJ17_untreeify_4 : decode cJ17_untreeify 4 = .ok (.aload_n 0, 1) := dk_42 (dk_at dksJ17_untreeify_0 4 rfl rfl)
theorem dJ17_untreeify_5 : decode cJ17_untreeify 5 = .ok (.astore 4, 2) := dk_58 4 (dk_at dksJ17_untreeify_0 5 rfl rfl)
theorem dJ17_untreeify_7 : decode cJ17_untreeify 7 = .ok (.aload 4, 2) := dk_25 4 (dk_at dksJ17_untreeify_0 7 rfl rfl)
theorem dJ17_untreeify_9 : decode cJ17_untreeify 9 = .ok (.ifnull 41, 3) := dk_198 0 41 (dk_at dksJ17_untreeify_0 9 rfl rfl)
theorem dJ17_untreeify_12 : decode cJ17_untreeify 12 = .ok (.aload_n 1, 1) := dk_43 (dk_at dksJ17_untreeify_0 12 rfl rfl)
theorem dJ17_untreeify_13 : decode cJ17_untreeify 13 = .ok (.aload 4, 2) := dk_25 4 (dk_at dksJ17_untreeify_0 13 rfl rfl)
theorem dJ17_untreeify_15 : decode cJ17_untreeify 15 = .ok (.aconst_null, 1) := dk_1 (dk_at dksJ17_untreeify_0 15 rfl rfl)
theorem dJ17_untreeify_16 : decode cJ17_untreeify 16 = .ok (.invokevirtual 108, 3) := dk_182 0 108 (dk_at dksJ17_untreeify_0 16 rfl rfl)
theorem dJ17_untreeify_19 : decode cJ17_untreeify 19 = .ok (.astore 5, 2) := dk_58 5 (dk_at dksJ17_untreeify_0 19 rfl rfl)
theorem dJ17_untreeify_21 : decode cJ17_untreeify 21 = .ok (.aload_n 3, 1) := dk_45 (dk_at dksJ17_untreeify_0 21 rfl rfl)
theorem dJ17_untreeify_22 : decode cJ17_untreeify 22 = .ok (.ifnonnull 9, 3) := dk_199 0 9 (dk_at dksJ17_untreeify_1 0 rfl rfl)
theorem dJ17_untreeify_25 : decode cJ17_untreeify 25 = .ok (.aload 5, 2) := dk_25 5 (dk_at dksJ17_untreeify_1 3 rfl rfl)
theorem dJ17_untreeify_27 : decode cJ17_untreeify 27 = .ok (.astore_n 2, 1) := dk_77 (dk_at dksJ17_untreeify_1 5 rfl rfl)
theorem dJ17_untreeify_28 : decode cJ17_untreeify 28 = .ok (.goto 9, 3) := dk_167 0 9 (dk_at dksJ17_untreeify_1 6 rfl rfl)
theorem dJ17_untreeify_31 : decode cJ17_untreeify 31 = .ok (.aload_n 3, 1) := dk_45 (dk_at dksJ17_untreeify_1 9 rfl rfl)
theorem dJ17_untreeify_32 : decode cJ17_untreeify 32 = .ok (.aload 5, 2) := dk_25 5 (dk_at dksJ17_untreeify_1 10 rfl rfl)
theorem dJ17_untreeify_34 : decode cJ17_untreeify 34 = .ok (.putfield 112, 3) := dk_181 0 112 (dk_at dksJ17_untreeify_1 12 rfl rfl)
theorem dJ17_untreeify_37 : decode cJ17_untreeify 37 = .ok (.aload 5, 2) := dk_25 5 (dk_at dksJ17_untreeify_1 15 rfl rfl)
theorem dJ17_untreeify_39 : decode cJ17_untreeify 39 = .ok (.astore_n 3, 1) := dk_78 (dk_at dksJ17_untreeify_1 17 rfl rfl)
theorem dJ17_untreeify_40 : decode cJ17_untreeify 40 = .ok (.aload 4, 2) := dk_25 4 (dk_at dksJ17_untreeify_1 18 rfl rfl)
theorem dJ17_untreeify_42 : decode cJ17_untreeify 42 = .ok (.getfield 112, 3) := dk_180 0 112 (dk_at dksJ17_untreeify_1 20 rfl rfl)
theorem dJ17_untreeify_45 : decode cJ17_untreeify 45 = .ok (.astore 4, 2) := dk_58 4 (dk_at dksJ17_untreeify_2 0 rfl rfl)
theorem dJ17_untreeify_47 : decode cJ17_untreeify 47 = .ok (.goto (-40), 3) := dk_167 255 216 (dk_at dksJ17_untreeify_2 2 rfl rfl)
theorem dJ17_untreeify_50 : decode cJ17_untreeify 50 = .ok (.aload_n 2, 1) := dk_44 (dk_at dksJ17_untreeify_2 5 rfl rfl)
theorem dJ17_untreeify_51 : decode cJ17_untreeify 51 = .ok (.areturn, 1) := dk_176 (dk_at dksJ17_untreeify_2 6 rfl rfl)
abbrev cJ17_treeify : ByteArray := prog_69_method_7_code
def yJ17_treeify : MethodName := ⟨RJ17, "treeify", "([Ljava/util/HashMap$Node;)V"⟩
def dkwJ17_treeify_9 : List UInt8 := [25, 4, 78, 167, 255, 48, 43, 44, 184, 0, 104, 177]
abbrev dktJ17_treeify_9 : List UInt8 := dkwJ17_treeify_9 ++ []
def dkwJ17_treeify_8 : List UInt8 := [181, 0, 39, 167, 0, 9, 25, 12, 45, 181, 0, 42, 44, 45, 184, 0, 100, 77, 167, 0, 6, 167, 255, 114]
abbrev dktJ17_treeify_8 : List UInt8 := dkwJ17_treeify_8 ++ dktJ17_treeify_9
def dkwJ17_treeify_7 : List UInt8 := [180, 0, 42, 89, 58, 8, 199, 0, 38, 45, 25, 12, 181, 0, 9, 21, 9, 157, 0, 12, 25, 12, 45]
abbrev dktJ17_treeify_7 : List UInt8 := dkwJ17_treeify_7 ++ dktJ17_treeify_8
def dkwJ17_treeify_6 : List UInt8 := [184, 0, 96, 54, 9, 25, 8, 58, 12, 21, 9, 157, 0, 11, 25, 8, 180, 0, 39, 167, 0, 8, 25, 8]
abbrev dktJ17_treeify_6 : List UInt8 := dkwJ17_treeify_6 ++ dktJ17_treeify_7
def dkwJ17_treeify_5 : List UInt8 := [198, 0, 18, 25, 7, 25, 5, 25, 11, 184, 0, 59, 89, 54, 9, 154, 0, 12, 25, 5, 25, 11]
abbrev dktJ17_treeify_5 : List UInt8 := dkwJ17_treeify_5 ++ dktJ17_treeify_6
def dkwJ17_treeify_4 : List UInt8 := [162, 0, 9, 4, 54, 9, 167, 0, 43, 25, 7, 199, 0, 14, 25, 5, 184, 0, 55, 89, 58, 7]
abbrev dktJ17_treeify_4 : List UInt8 := dkwJ17_treeify_4 ++ dktJ17_treeify_5
def dkwJ17_treeify_3 : List UInt8 := [25, 8, 180, 0, 15, 89, 54, 10, 21, 6, 164, 0, 9, 2, 54, 9, 167, 0, 56, 21, 10, 21, 6]
abbrev dktJ17_treeify_3 : List UInt8 := dkwJ17_treeify_3 ++ dktJ17_treeify_4
def dkwJ17_treeify_2 : List UInt8 := [180, 0, 45, 58, 5, 45, 180, 0, 15, 54, 6, 1, 58, 7, 44, 58, 8, 25, 8, 180, 0, 45, 58, 11]
abbrev dktJ17_treeify_2 : List UInt8 := dkwJ17_treeify_2 ++ dktJ17_treeify_3
def dkwJ17_treeify_1 : List UInt8 := [181, 0, 39, 44, 199, 0, 18, 45, 1, 181, 0, 9, 45, 3, 181, 0, 93, 45, 77, 167, 0, 166, 45]
abbrev dktJ17_treeify_1 : List UInt8 := dkwJ17_treeify_1 ++ dktJ17_treeify_2
def dkwJ17_treeify_0 : List UInt8 := [1, 77, 42, 78, 45, 198, 0, 210, 45, 180, 0, 22, 192, 0, 10, 58, 4, 45, 45, 1, 90, 181, 0, 42]
abbrev dktJ17_treeify_0 : List UInt8 := dkwJ17_treeify_0 ++ dktJ17_treeify_1
theorem dksJ17_treeify_0 : cJ17_treeify.data.toList.drop 0 = dktJ17_treeify_0 := by decide +kernel
theorem dksJ17_treeify_1 : cJ17_treeify.data.toList.drop 24 = dktJ17_treeify_1 := dk_seg dksJ17_treeify_0 24 rfl rfl
theorem dksJ17_treeify_2 : cJ17_treeify.data.toList.drop 47 = dktJ17_treeify_2 := dk_seg dksJ17_treeify_1 23 rfl rfl
theorem dksJ17_treeify_3 : cJ17_treeify.data.toList.drop 71 = dktJ17_treeify_3 := dk_seg dksJ17_treeify_2 24 rfl rfl
theorem dksJ17_treeify_4 : cJ17_treeify.data.toList.drop 94 = dktJ17_treeify_4 := dk_seg dksJ17_treeify_3 23 rfl rfl
theorem dksJ17_treeify_5 : cJ17_treeify.data.toList.drop 116 = dktJ17_treeify_5 := dk_seg dksJ17_treeify_4 22 rfl rfl
theorem dksJ17_treeify_6 : cJ17_treeify.data.toList.drop 138 = dktJ17_treeify_6 := dk_seg dksJ17_treeify_5 22 rfl rfl
theorem dksJ17_treeify_7 : cJ17_treeify.data.toList.drop 162 = dktJ17_treeify_7 := dk_seg dksJ17_treeify_6 24 rfl rfl
theorem dksJ17_treeify_8 : cJ17_treeify.data.toList.drop 185 = dktJ17_treeify_8 := dk_seg dksJ17_treeify_7 23 rfl rfl
theorem dksJ17_treeify_9 : cJ17_treeify.data.toList.drop 209 = dktJ17_treeify_9 := dk_seg dksJ17_treeify_8 24 rfl rfl
theorem dJ17_treeify_0 : decode cJ17_treeify 0 = .ok (.aconst_null, 1) := dk_1 (dk_at dksJ17_treeify_0 0 rfl rfl)
theorem dJ17_treeify_1 : decode cJ17_treeify 1 = .ok (.astore_n 2, 1) := dk_77 (dk_at dksJ17_treeify_0 1 rfl rfl)
theorem dJ17_treeify_2 : decode cJ17_treeify 2 = .ok (.aload_n 0, 1) := dk_42 (dk_at dksJ17_treeify_0 2 rfl rfl)
theorem dJ17_treeify_3 : decode cJ17_treeify 3 = .ok (.astore_n 3, 1) := dk_78 (dk_at dksJ17_treeify_0 3 rfl rfl)
theorem dJ17_treeify_4 : decode cJ17_treeify 4 = .ok (.aload_n 3, 1) := dk_45 (dk_at dksJ17_treeify_0 4 rfl rfl)
theorem dJ17_treeify_5 : decode cJ17_treeify 5 = .ok (.ifnull 210, 3) := dk_198 0 210 (dk_at dksJ17_treeify_0 5 rfl rfl)
theorem dJ17_treeify_8 : decode cJ17_treeify 8 = .ok (.aload_n 3, 1) := dk_45 (dk_at dksJ17_treeify_0 8 rfl rfl)
theorem dJ17_treeify_9 : decode cJ17_treeify 9 = .ok (.getfield 22, 3) := dk_180 0 22 (dk_at dksJ17_treeify_0 9 rfl rfl)
theorem dJ17_treeify_12 : decode cJ17_treeify 12 = .ok (.checkcast 10, 3) := dk_192 0 10 (dk_at dksJ17_treeify_0 12 rfl rfl)
theorem dJ17_treeify_15 : decode cJ17_treeify 15 = .ok (.astore 4, 2) := dk_58 4 (dk_at dksJ17_treeify_0 15 rfl rfl)
theorem dJ17_treeify_17 : decode cJ17_treeify 17 = .ok (.aload_n 3, 1) := dk_45 (dk_at dksJ17_treeify_0 17 rfl rfl)
theorem dJ17_treeify_18 : decode cJ17_treeify 18 = .ok (.aload_n 3, 1) := dk_45 (dk_at dksJ17_treeify_0 18 rfl rfl)
theorem dJ17_treeify_19 : decode cJ17_treeify 19 = .ok (.aconst_null, 1) := dk_1 (dk_at dksJ17_treeify_0 19 rfl rfl)
theorem dJ17_treeify_20 : decode cJ17_treeify 20 = .ok (.dup_x1, 1) := dk_90 (dk_at dksJ17_treeify_0 20 rfl rfl)
theorem dJ17_treeify_21 : decode cJ17_treeify 21 = .ok (.putfield 42, 3) := dk_181 0 42 (dk_at dksJ17_treeify_0 21 rfl rfl)
theorem dJ17_treeify_24 : decode cJ17_treeify 24 = .ok (.putfield 39, 3) := dk_181 0 39 (dk_at dksJ17_treeify_1 0 rfl rfl)
theorem dJ17_treeify_27 : decode cJ17_treeify 27 = .ok (.aload_n 2, 1) := dk_44 (dk_at dksJ17_treeify_1 3 rfl rfl)
theorem dJ17_treeify_28 : decode cJ17_treeify 28 = .ok (.ifnonnull 18, 3) := dk_199 0 18 (dk_at dksJ17_treeify_1 4 rfl rfl)
theorem dJ17_treeify_31 : decode cJ17_treeify 31 = .ok (.aload_n 3, 1) := dk_45 (dk_at dksJ17_treeify_1 7 rfl rfl)
theorem dJ17_treeify_32 : decode cJ17_treeify 32 = .ok (.aconst_null, 1) := dk_1 (dk_at dksJ17_treeify_1 8 rfl rfl)
theorem dJ17_treeify_33 : decode cJ17_treeify 33 = .ok (.putfield 9, 3) := dk_181 0 9 (dk_at dksJ17_treeify_1 9 rfl rfl)
theorem dJ17_treeify_36 : decode cJ17_treeify 36 = .ok (.aload_n 3, 1) := dk_45 (dk_at dksJ17_treeify_1 12 rfl rfl)
theorem dJ17_treeify_37 : decode cJ17_treeify 37 = .ok (.iconst 0, 1) := dk_3 (dk_at dksJ17_treeify_1 13 rfl rfl)
theorem dJ17_treeify_38 : decode cJ17_treeify 38 = .ok (.putfield 93, 3) := dk_181 0 93 (dk_at dksJ17_treeify_1 14 rfl rfl)
theorem dJ17_treeify_41 : decode cJ17_treeify 41 = .ok (.aload_n 3, 1) := dk_45 (dk_at dksJ17_treeify_1 17 rfl rfl)
theorem dJ17_treeify_42 : decode cJ17_treeify 42 = .ok (.astore_n 2, 1) := dk_77 (dk_at dksJ17_treeify_1 18 rfl rfl)
theorem dJ17_treeify_43 : decode cJ17_treeify 43 = .ok (.goto 166, 3) := dk_167 0 166 (dk_at dksJ17_treeify_1 19 rfl rfl)
theorem dJ17_treeify_46 : decode cJ17_treeify 46 = .ok (.aload_n 3, 1) := dk_45 (dk_at dksJ17_treeify_1 22 rfl rfl)
theorem dJ17_treeify_47 : decode cJ17_treeify 47 = .ok (.getfield 45, 3) := dk_180 0 45 (dk_at dksJ17_treeify_2 0 rfl rfl)
theorem dJ17_treeify_50 : decode cJ17_treeify 50 = .ok (.astore 5, 2) := dk_58 5 (dk_at dksJ17_treeify_2 3 rfl rfl)
theorem dJ17_treeify_52 : decode cJ17_treeify 52 = .ok (.aload_n 3, 1) := dk_45 (dk_at dksJ17_treeify_2 5 rfl rfl)
theorem dJ17_treeify_53 : decode cJ17_treeify 53 = .ok (.getfield 15, 3) := dk_180 0 15 (dk_at dksJ17_treeify_2 6 rfl rfl)
theorem dJ17_treeify_56 : decode cJ17_treeify 56 = .ok (.istore 6, 2) := dk_54 6 (dk_at dksJ17_treeify_2 9 rfl rfl)
theorem dJ17_treeify_58 : decode cJ17_treeify 58 = .ok (.aconst_null, 1) := dk_1 (dk_at dksJ17_treeify_2 11 rfl rfl)
theorem dJ17_treeify_59 : decode cJ17_treeify 59 = .ok (.astore 7, 2) := dk_58 7 (dk_at dksJ17_treeify_2 12 rfl rfl)
theorem dJ17_treeify_61 : decode cJ17_treeify 61 = .ok (.aload_n 2, 1) := dk_44 (dk_at dksJ17_treeify_2 14 rfl rfl)
theorem dJ17_treeify_62 : decode cJ17_treeify 62 = .ok (.astore 8, 2) := dk_58 8 (dk_at dksJ17_treeify_2 15 rfl rfl)
theorem dJ17_treeify_64 : decode cJ17_treeify 64 = .ok (.aload 8, 2) := dk_25 8 (dk_at dksJ17_treeify_2 17 rfl rfl)
theorem dJ17_treeify_66 : decode cJ17_treeify 66 = .ok (.getfield 45, 3) := dk_180 0 45 (dk_at dksJ17_treeify_2 19 rfl rfl)
theorem dJ17_treeify_69 : decode cJ17_treeify 69 = .ok (.astore 11, 2) := dk_58 11 (dk_at dksJ17_treeify_2 22 rfl rfl)
theorem dJ17_treeify_71 : decode cJ17_treeify 71 = .ok (.aload 8, 2) := dk_25 8 (dk_at dksJ17_treeify_3 0 rfl rfl)
theorem dJ17_treeify_73 : decode cJ17_treeify 73 = .ok (.getfield 15, 3) := dk_180 0 15 (dk_at dksJ17_treeify_3 2 rfl rfl)
theorem dJ17_treeify_76 : decode cJ17_treeify 76 = .ok (.dup, 1) := dk_89 (dk_at dksJ17_treeify_3 5 rfl rfl)
theorem dJ17_treeify_77 : decode cJ17_treeify 77 = .ok (.istore 10, 2) := dk_54 10 (dk_at dksJ17_treeify_3 6 rfl rfl)
theorem dJ17_treeify_79 : decode cJ17_treeify 79 = .ok (.iload 6, 2) := dk_21 6 (dk_at dksJ17_treeify_3 8 rfl rfl)
theorem dJ17_treeify_81 : decode cJ17_treeify 81 = .ok (.if_icmp .le 9, 3) := dk_164 0 9 (dk_at dksJ17_treeify_3 10 rfl rfl)
theorem dJ17_treeify_84 : decode cJ17_treeify 84 = .ok (.iconst (-1), 1) := dk_2 (dk_at dksJ17_treeify_3 13 rfl rfl)
theorem dJ17_treeify_85 : decode cJ17_treeify 85 = .ok (.istore 9, 2) := dk_54 9 (dk_at dksJ17_treeify_3 14 rfl rfl)
theorem dJ17_treeify_87 : decode cJ17_treeify 87 = .ok (.goto 56, 3) := dk_167 0 56 (dk_at dksJ17_treeify_3 16 rfl rfl)
theorem dJ17_treeify_90 : decode cJ17_treeify 90 = .ok (.iload 10, 2) := dk_21 10 (dk_at dksJ17_treeify_3 19 rfl rfl)
theorem dJ17_treeify_92 : decode cJ17_treeify 92 = .ok (.iload 6, 2) := dk_21 6 (dk_at dksJ17_treeify_3 21 rfl rfl)
theorem dJ17_treeify_94 : decode cJ17_treeify 94 = .ok (.if_icmp .ge 9, 3) := dk_162 0 9 (dk_at dksJ17_treeify_4 0 rfl rfl)
theorem dJ17_treeify_97 : decode cJ17_treeify 97 = .ok (.iconst 1, 1) := dk_4 (dk_at dksJ17_treeify_4 3 rfl rfl)
theorem dJ17_treeify_98 : decode cJ17_treeify 98 = .ok (.istore 9, 2) := dk_54 9 (dk_at dksJ17_treeify_4 4 rfl rfl)
theorem dJ17_treeify_100 : decode cJ17_treeify 100 = .ok (.goto 43, 3) := dk_167 0 43 (dk_at dksJ17_treeify_4 6 rfl rfl)
theorem dJ17_treeify_103 : decode cJ17_treeify 103 = .ok (.aload 7, 2) := dk_25 7 (dk_at dksJ17_treeify_4 9 rfl rfl)
theorem dJ17_treeify_105 : decode cJ17_treeify 105 = .ok (.ifnonnull 14, 3) := dk_199 0 14 (dk_at dksJ17_treeify_4 11 rfl rfl)
theorem dJ17_treeify_108 : decode cJ17_treeify 108 = .ok (.aload 5, 2) := dk_25 5 (dk_at dksJ17_treeify_4 14 rfl rfl)
theorem dJ17_treeify_110 : decode cJ17_treeify 110 = .ok (.invokestatic 55, 3) := dk_184 0 55 (dk_at dksJ17_treeify_4 16 rfl rfl)
theorem dJ17_treeify_113 : decode cJ17_treeify 113 = .ok (.dup, 1) := dk_89 (dk_at dksJ17_treeify_4 19 rfl rfl)
theorem dJ17_treeify_114 : decode cJ17_treeify 114 = .ok (.astore 7, 2) := dk_58 7 (dk_at dksJ17_treeify_4 20 rfl rfl)
theorem dJ17_treeify_116 : decode cJ17_treeify 116 = .ok (.ifnull 18, 3) := dk_198 0 18 (dk_at dksJ17_treeify_5 0 rfl rfl)
theorem dJ17_treeify_119 : decode cJ17_treeify 119 = .ok (.aload 7, 2) := dk_25 7 (dk_at dksJ17_treeify_5 3 rfl rfl)
theorem dJ17_treeify_121 : decode cJ17_treeify 121 = .ok (.aload 5, 2) := dk_25 5 (dk_at dksJ17_treeify_5 5 rfl rfl)
theorem dJ17_treeify_123 : decode cJ17_treeify 123 = .ok (.aload 11, 2) := dk_25 11 (dk_at dksJ17_treeify_5 7 rfl rfl)
theorem dJ17_treeify_125 : decode cJ17_treeify 125 = .ok (.invokestatic 59, 3) := dk_184 0 59 (dk_at dksJ17_treeify_5 9 rfl rfl)
theorem dJ17_treeify_128 : decode cJ17_treeify 128 = .ok (.dup, 1) := dk_89 (dk_at dksJ17_treeify_5 12 rfl rfl)
theorem dJ17_treeify_129 : decode cJ17_treeify 129 = .ok (.istore 9, 2) := dk_54 9 (dk_at dksJ17_treeify_5 13 rfl rfl)
theorem dJ17_treeify_131 : decode cJ17_treeify 131 = .ok (.ifCond .ne 12, 3) := dk_154 0 12 (dk_at dksJ17_treeify_5 15 rfl rfl)
theorem dJ17_treeify_134 : decode cJ17_treeify 134 = .ok (.aload 5, 2) := dk_25 5 (dk_at dksJ17_treeify_5 18 rfl rfl)
theorem dJ17_treeify_136 : decode cJ17_treeify 136 = .ok (.aload 11, 2) := dk_25 11 (dk_at dksJ17_treeify_5 20 rfl rfl)
theorem dJ17_treeify_138 : decode cJ17_treeify 138 = .ok (.invokestatic 96, 3) := dk_184 0 96 (dk_at dksJ17_treeify_6 0 rfl rfl)
theorem dJ17_treeify_141 : decode cJ17_treeify 141 = .ok (.istore 9, 2) := dk_54 9 (dk_at dksJ17_treeify_6 3 rfl rfl)
theorem dJ17_treeify_143 : decode cJ17_treeify 143 = .ok (.aload 8, 2) := dk_25 8 (dk_at dksJ17_treeify_6 5 rfl rfl)
theorem dJ17_treeify_145 : decode cJ17_treeify 145 = .ok (.astore 12, 2) := dk_58 12 (dk_at dksJ17_treeify_6 7 rfl rfl)
theorem dJ17_treeify_147 : decode cJ17_treeify 147 = .ok (.iload 9, 2) := dk_21 9 (dk_at dksJ17_treeify_6 9 rfl rfl)
theorem dJ17_treeify_149 : decode cJ17_treeify 149 = .ok (.ifCond .gt 11, 3) := dk_157 0 11 (dk_at dksJ17_treeify_6 11 rfl rfl)
theorem dJ17_treeify_152 : decode cJ17_treeify 152 = .ok (.aload 8, 2) := dk_25 8 (dk_at dksJ17_treeify_6 14 rfl rfl)
theorem dJ17_treeify_154 : decode cJ17_treeify 154 = .ok (.getfield 39, 3) := dk_180 0 39 (dk_at dksJ17_treeify_6 16 rfl rfl)
theorem dJ17_treeify_157 : decode cJ17_treeify 157 = .ok (.goto 8, 3) := dk_167 0 8 (dk_at dksJ17_treeify_6 19 rfl rfl)
theorem dJ17_treeify_160 : decode cJ17_treeify 160 = .ok (.aload 8, 2) := dk_25 8 (dk_at dksJ17_treeify_6 22 rfl rfl)
theorem dJ17_treeify_162 : decode cJ17_treeify 162 = .ok (.getfield 42, 3) := dk_180 0 42 (dk_at dksJ17_treeify_7 0 rfl rfl)
theorem dJ17_treeify_165 : decode cJ17_treeify 165 = .ok (.dup, 1) := dk_89 (dk_at dksJ17_treeify_7 3 rfl rfl)
theorem dJ17_treeify_166 : decode cJ17_treeify 166 = .ok (.astore 8, 2) := dk_58 8 (dk_at dksJ17_treeify_7 4 rfl rfl)
theorem dJ17_treeify_168 : decode cJ17_treeify 168 = .ok (.ifnonnull 38, 3) := dk_199 0 38 (dk_at dksJ17_treeify_7 6 rfl rfl)
theorem dJ17_treeify_171 : decode cJ17_treeify 171 = .ok (.aload_n 3, 1) := dk_45 (dk_at dksJ17_treeify_7 9 rfl rfl)
theorem dJ17_treeify_172 : decode cJ17_treeify 172 = .ok (.aload 12, 2) := dk_25 12 (dk_at dksJ17_treeify_7 10 rfl rfl)
theorem dJ17_treeify_174 : decode cJ17_treeify 174 = .ok (.putfield 9, 3) := dk_181 0 9 (dk_at dksJ17_treeify_7 12 rfl rfl)
theorem dJ17_treeify_177 : decode cJ17_treeify 177 = .ok (.iload 9, 2) := dk_21 9 (dk_at dksJ17_treeify_7 15 rfl rfl)
theorem dJ17_treeify_179 : decode cJ17_treeify 179 = .ok (.ifCond .gt 12, 3) := dk_157 0 12 (dk_at dksJ17_treeify_7 17 rfl rfl)
theorem dJ17_treeify_182 : decode cJ17_treeify 182 = .ok (.aload 12, 2) := dk_25 12 (dk_at dksJ17_treeify_7 20 rfl rfl)
theorem dJ17_treeify_184 : decode cJ17_treeify 184 = .ok (.aload_n 3, 1) := dk_45 (dk_at dksJ17_treeify_7 22 rfl rfl)
theorem dJ17_treeify_185 : decode cJ17_treeify 185 = .ok (.putfield 39, 3) := dk_181 0 39 (dk_at dksJ17_treeify_8 0 rfl rfl)
theorem dJ17_treeify_188 : decode cJ17_treeify 188 = .ok (.goto 9, 3) := dk_167 0 9 (dk_at dksJ17_treeify_8 3 rfl rfl)
theorem dJ17_treeify_191 : decode cJ17_treeify 191 = .ok (.aload 12, 2) := dk_25 12 (dk_at dksJ17_treeify_8 6 rfl rfl)
theorem dJ17_treeify_193 : decode cJ17_treeify 193 = .ok (.aload_n 3, 1) := dk_45 (dk_at dksJ17_treeify_8 8 rfl rfl)
theorem dJ17_treeify_194 : decode cJ17_treeify 194 = .ok (.putfield 42, 3) := dk_181 0 42 (dk_at dksJ17_treeify_8 9 rfl rfl)
theorem dJ17_treeify_197 : decode cJ17_treeify 197 = .ok (.aload_n 2, 1) := dk_44 (dk_at dksJ17_treeify_8 12 rfl rfl)
theorem dJ17_treeify_198 : decode cJ17_treeify 198 = .ok (.aload_n 3, 1) := dk_45 (dk_at dksJ17_treeify_8 13 rfl rfl)
theorem dJ17_treeify_199 : decode cJ17_treeify 199 = .ok (.invokestatic 100, 3) := dk_184 0 100 (dk_at dksJ17_treeify_8 14 rfl rfl)
theorem dJ17_treeify_202 : decode cJ17_treeify 202 = .ok (.astore_n 2, 1) := dk_77 (dk_at dksJ17_treeify_8 17 rfl rfl)
theorem dJ17_treeify_203 : decode cJ17_treeify 203 = .ok (.goto 6, 3) := dk_167 0 6 (dk_at dksJ17_treeify_8 18 rfl rfl)
theorem dJ17_treeify_206 : decode cJ17_treeify 206 = .ok (.goto (-142), 3) := dk_167 255 114 (dk_at dksJ17_treeify_8 21 rfl rfl)
theorem dJ17_treeify_209 : decode cJ17_treeify 209 = .ok (.aload 4, 2) := dk_25 4 (dk_at dksJ17_treeify_9 0 rfl rfl)
theorem dJ17_treeify_211 : decode cJ17_treeify 211 = .ok (.astore_n 3, 1) := dk_78 (dk_at dksJ17_treeify_9 2 rfl rfl)
theorem dJ17_treeify_212 : decode cJ17_treeify 212 = .ok (.goto (-208), 3) := dk_167 255 48 (dk_at dksJ17_treeify_9 3 rfl rfl)
theorem dJ17_treeify_215 : decode cJ17_treeify 215 = .ok (.aload_n 1, 1) := dk_43 (dk_at dksJ17_treeify_9 6 rfl rfl)
theorem dJ17_treeify_216 : decode cJ17_treeify 216 = .ok (.aload_n 2, 1) := dk_44 (dk_at dksJ17_treeify_9 7 rfl rfl)
theorem dJ17_treeify_217 : decode cJ17_treeify 217 = .ok (.invokestatic 104, 3) := dk_184 0 104 (dk_at dksJ17_treeify_9 8 rfl rfl)
theorem dJ17_treeify_220 : decode cJ17_treeify 220 = .ok (.return_, 1) := dk_177 (dk_at dksJ17_treeify_9 11 rfl rfl)
abbrev cJ17_balanceInsertion : ByteArray := prog_69_method_14_code
def yJ17_balanceInsertion : MethodName := ⟨RJ17, "balanceInsertion", "(Ljava/util/HashMap$TreeNode;Ljava/util/HashMap$TreeNode;)Ljava/util/HashMap$TreeNode;"⟩
def dkwJ17_balanceInsertion_10 : List UInt8 := [198, 255, 33, 45, 4, 181, 0, 93, 42, 45, 184, 0, 130, 75, 167, 255, 19]
abbrev dktJ17_balanceInsertion_10 : List UInt8 := dkwJ17_balanceInsertion_10 ++ []
def dkwJ17_balanceInsertion_9 : List UInt8 := [199, 0, 7, 1, 167, 0, 7, 44, 180, 0, 9, 78, 44, 198, 255, 42, 44, 3, 181, 0, 93, 45]
abbrev dktJ17_balanceInsertion_9 : List UInt8 := dkwJ17_balanceInsertion_9 ++ dktJ17_balanceInsertion_10
def dkwJ17_balanceInsertion_8 : List UInt8 := [43, 44, 180, 0, 39, 166, 0, 29, 42, 44, 89, 76, 184, 0, 133, 75, 43, 180, 0, 9, 89, 77]
abbrev dktJ17_balanceInsertion_8 : List UInt8 := dkwJ17_balanceInsertion_8 ++ dktJ17_balanceInsertion_9
def dkwJ17_balanceInsertion_7 : List UInt8 := [153, 0, 24, 25, 4, 3, 181, 0, 93, 44, 3, 181, 0, 93, 45, 4, 181, 0, 93, 45, 76, 167, 255, 80]
abbrev dktJ17_balanceInsertion_7 : List UInt8 := dkwJ17_balanceInsertion_7 ++ dktJ17_balanceInsertion_8
def dkwJ17_balanceInsertion_6 : List UInt8 := [181, 0, 93, 42, 45, 184, 0, 133, 75, 167, 255, 114, 25, 4, 198, 0, 32, 25, 4, 180, 0, 93]
abbrev dktJ17_balanceInsertion_6 : List UInt8 := dkwJ17_balanceInsertion_6 ++ dktJ17_balanceInsertion_7
def dkwJ17_balanceInsertion_5 : List UInt8 := [167, 0, 7, 44, 180, 0, 9, 78, 44, 198, 255, 137, 44, 3, 181, 0, 93, 45, 198, 255, 128, 45, 4]
abbrev dktJ17_balanceInsertion_5 : List UInt8 := dkwJ17_balanceInsertion_5 ++ dktJ17_balanceInsertion_6
def dkwJ17_balanceInsertion_4 : List UInt8 := [180, 0, 42, 166, 0, 29, 42, 44, 89, 76, 184, 0, 130, 75, 43, 180, 0, 9, 89, 77, 199, 0, 7, 1]
abbrev dktJ17_balanceInsertion_4 : List UInt8 := dkwJ17_balanceInsertion_4 ++ dktJ17_balanceInsertion_5
def dkwJ17_balanceInsertion_3 : List UInt8 := [25, 5, 3, 181, 0, 93, 44, 3, 181, 0, 93, 45, 4, 181, 0, 93, 45, 76, 167, 255, 175, 43, 44]
abbrev dktJ17_balanceInsertion_3 : List UInt8 := dkwJ17_balanceInsertion_3 ++ dktJ17_balanceInsertion_4
def dkwJ17_balanceInsertion_2 : List UInt8 := [58, 4, 166, 0, 103, 45, 180, 0, 42, 89, 58, 5, 198, 0, 32, 25, 5, 180, 0, 93, 153, 0, 24]
abbrev dktJ17_balanceInsertion_2 : List UInt8 := dkwJ17_balanceInsertion_2 ++ dktJ17_balanceInsertion_3
def dkwJ17_balanceInsertion_1 : List UInt8 := [180, 0, 93, 153, 0, 12, 44, 180, 0, 9, 89, 78, 199, 0, 5, 42, 176, 44, 45, 180, 0, 39, 89]
abbrev dktJ17_balanceInsertion_1 : List UInt8 := dkwJ17_balanceInsertion_1 ++ dktJ17_balanceInsertion_2
def dkwJ17_balanceInsertion_0 : List UInt8 := [43, 4, 181, 0, 93, 43, 180, 0, 9, 89, 77, 199, 0, 10, 43, 3, 181, 0, 93, 43, 176, 44]
abbrev dktJ17_balanceInsertion_0 : List UInt8 := dkwJ17_balanceInsertion_0 ++ dktJ17_balanceInsertion_1
theorem dksJ17_balanceInsertion_0 : cJ17_balanceInsertion.data.toList.drop 0 = dktJ17_balanceInsertion_0 := by decide +kernel
theorem dksJ17_balanceInsertion_1 : cJ17_balanceInsertion.data.toList.drop 22 = dktJ17_balanceInsertion_1 := dk_seg dksJ17_balanceInsertion_0 22 rfl rfl
theorem dksJ17_balanceInsertion_2 : cJ17_balanceInsertion.data.toList.drop 45 = dktJ17_balanceInsertion_2 := dk_seg dksJ17_balanceInsertion_1 23 rfl rfl
theorem dksJ17_balanceInsertion_3 : cJ17_balanceInsertion.data.toList.drop 68 = dktJ17_balanceInsertion_3 := dk_seg dksJ17_balanceInsertion_2 23 rfl rfl
theorem dksJ17_balanceInsertion_4 : cJ17_balanceInsertion.data.toList.drop 91 = dktJ17_balanceInsertion_4 := dk_seg dksJ17_balanceInsertion_3 23 rfl rfl
theorem dksJ17_balanceInsertion_5 : cJ17_balanceInsertion.data.toList.drop 115 = dktJ17_balanceInsertion_5 := dk_seg dksJ17_balanceInsertion_4 24 rfl rfl
theorem dksJ17_balanceInsertion_6 : cJ17_balanceInsertion.data.toList.drop 138 = dktJ17_balanceInsertion_6 := dk_seg dksJ17_balanceInsertion_5 23 rfl rfl
theorem dksJ17_balanceInsertion_7 : cJ17_balanceInsertion.data.toList.drop 160 = dktJ17_balanceInsertion_7 := dk_seg dksJ17_balanceInsertion_6 22 rfl rfl
theorem dksJ17_balanceInsertion_8 : cJ17_balanceInsertion.data.toList.drop 184 = dktJ17_balanceInsertion_8 := dk_seg dksJ17_balanceInsertion_7 24 rfl rfl
theorem dksJ17_balanceInsertion_9 : cJ17_balanceInsertion.data.toList.drop 206 = dktJ17_balanceInsertion_9 := dk_seg dksJ17_balanceInsertion_8 22 rfl rfl
theorem dksJ17_balanceInsertion_10 : cJ17_balanceInsertion.data.toList.drop 228 = dktJ17_balanceInsertion_10 := dk_seg dksJ17_balanceInsertion_9 22 rfl rfl
theorem dJ17_balanceInsertion_0 : decode cJ17_balanceInsertion 0 = .ok (.aload_n 1, 1) := dk_43 (dk_at dksJ17_balanceInsertion_0 0 rfl rfl)
theorem dJ17_balanceInsertion_1 : decode cJ17_balanceInsertion 1 = .ok (.iconst 1, 1) := dk_4 (dk_at dksJ17_balanceInsertion_0 1 rfl rfl)
theorem dJ17_balanceInsertion_2 : decode cJ17_balanceInsertion 2 = .ok (.putfield 93, 3) := dk_181 0 93 (dk_at dksJ17_balanceInsertion_0 2 rfl rfl)
theorem dJ17_balanceInsertion_5 : decode cJ17_balanceInsertion 5 = .ok (.aload_n 1, 1) := dk_43 (dk_at dksJ17_balanceInsertion_0 5 rfl rfl)
theorem dJ17_balanceInsertion_6 : decode cJ17_balanceInsertion 6 = .ok (.getfield 9, 3) := dk_180 0 9 (dk_at dksJ17_balanceInsertion_0 6 rfl rfl)
theorem dJ17_balanceInsertion_9 : decode cJ17_balanceInsertion 9 = .ok (.dup, 1) := dk_89 (dk_at dksJ17_balanceInsertion_0 9 rfl rfl)
theorem dJ17_balanceInsertion_10 : decode cJ17_balanceInsertion 10 = .ok (.astore_n 2, 1) := dk_77 (dk_at dksJ17_balanceInsertion_0 10 rfl rfl)
theorem dJ17_balanceInsertion_11 : decode cJ17_balanceInsertion 11 = .ok (.ifnonnull 10, 3) := dk_199 0 10 (dk_at dksJ17_balanceInsertion_0 11 rfl rfl)
theorem dJ17_balanceInsertion_14 : decode cJ17_balanceInsertion 14 = .ok (.aload_n 1, 1) := dk_43 (dk_at dksJ17_balanceInsertion_0 14 rfl rfl)
theorem dJ17_balanceInsertion_15 : decode cJ17_balanceInsertion 15 = .ok (.iconst 0, 1) := dk_3 (dk_at dksJ17_balanceInsertion_0 15 rfl rfl)
theorem dJ17_balanceInsertion_16 : decode cJ17_balanceInsertion 16 = .ok (.putfield 93, 3) := dk_181 0 93 (dk_at dksJ17_balanceInsertion_0 16 rfl rfl)
theorem dJ17_balanceInsertion_19 : decode cJ17_balanceInsertion 19 = .ok (.aload_n 1, 1) := dk_43 (dk_at dksJ17_balanceInsertion_0 19 rfl rfl)
theorem dJ17_balanceInsertion_20 : decode cJ17_balanceInsertion 20 = .ok (.areturn, 1) := dk_176 (dk_at dksJ17_balanceInsertion_0 20 rfl rfl)
theorem dJ17_balanceInsertion_21 : decode cJ17_balanceInsertion 21 = .ok (.aload_n 2, 1) := dk_44 (dk_at dksJ17_balanceInsertion_0 21 rfl rfl)
theorem dJ17_balanceInsertion_22 : decode cJ17_balanceInsertion 22 = .ok (.getfield 93, 3) := dk_180 0 93 (dk_at dksJ17_balanceInsertion_1 0 rfl rfl)
theorem dJ17_balanceInsertion_25 : decode cJ17_balanceInsertion 25 = .ok (.ifCond .eq 12, 3) := dk_153 0 12 (dk_at dksJ17_balanceInsertion_1 3 rfl rfl)
theorem dJ17_balanceInsertion_28 : decode cJ17_balanceInsertion 28 = .ok (.aload_n 2, 1) := dk_44 (dk_at dksJ17_balanceInsertion_1 6 rfl rfl)
theorem dJ17_balanceInsertion_29 : decode cJ17_balanceInsertion 29 = .ok (.getfield 9, 3) := dk_180 0 9 (dk_at dksJ17_balanceInsertion_1 7 rfl rfl)
theorem dJ17_balanceInsertion_32 : decode cJ17_balanceInsertion 32 = .ok (.dup, 1) := dk_89 (dk_at dksJ17_balanceInsertion_1 10 rfl rfl)
theorem dJ17_balanceInsertion_33 : decode cJ17_balanceInsertion 33 = .ok (.astore_n 3, 1) := dk_78 (dk_at dksJ17_balanceInsertion_1 11 rfl rfl)
theorem dJ17_balanceInsertion_34 : decode cJ17_balanceInsertion 34 = .ok (.ifnonnull 5, 3) := dk_199 0 5 (dk_at dksJ17_balanceInsertion_1 12 rfl rfl)
theorem dJ17_balanceInsertion_37 : decode cJ17_balanceInsertion 37 = .ok (.aload_n 0, 1) := dk_42 (dk_at dksJ17_balanceInsertion_1 15 rfl rfl)
theorem dJ17_balanceInsertion_38 : decode cJ17_balanceInsertion 38 = .ok (.areturn, 1) := dk_176 (dk_at dksJ17_balanceInsertion_1 16 rfl rfl)
theorem dJ17_balanceInsertion_39 : decode cJ17_balanceInsertion 39 = .ok (.aload_n 2, 1) := dk_44 (dk_at dksJ17_balanceInsertion_1 17 rfl rfl)
theorem dJ17_balanceInsertion_40 : decode cJ17_balanceInsertion 40 = .ok (.aload_n 3, 1) := dk_45 (dk_at dksJ17_balanceInsertion_1 18 rfl rfl)
theorem dJ17_balanceInsertion_41 : decode cJ17_balanceInsertion 41 = .ok (.getfield 39, 3) := dk_180 0 39 (dk_at dksJ17_balanceInsertion_1 19 rfl rfl)
theorem dJ17_balanceInsertion_44 : decode cJ17_balanceInsertion 44 = .ok (.dup, 1) := dk_89 (dk_at dksJ17_balanceInsertion_1 22 rfl rfl)
theorem dJ17_balanceInsertion_45 : decode cJ17_balanceInsertion 45 = .ok (.astore 4, 2) := dk_58 4 (dk_at dksJ17_balanceInsertion_2 0 rfl rfl)
theorem dJ17_balanceInsertion_47 : decode cJ17_balanceInsertion 47 = .ok (.if_acmp .ne 103, 3) := dk_166 0 103 (dk_at dksJ17_balanceInsertion_2 2 rfl rfl)
theorem dJ17_balanceInsertion_50 : decode cJ17_balanceInsertion 50 = .ok (.aload_n 3, 1) := dk_45 (dk_at dksJ17_balanceInsertion_2 5 rfl rfl)
theorem dJ17_balanceInsertion_51 : decode cJ17_balanceInsertion 51 = .ok (.getfield 42, 3) := dk_180 0 42 (dk_at dksJ17_balanceInsertion_2 6 rfl rfl)
theorem dJ17_balanceInsertion_54 : decode cJ17_balanceInsertion 54 = .ok (.dup, 1) := dk_89 (dk_at dksJ17_balanceInsertion_2 9 rfl rfl)
theorem dJ17_balanceInsertion_55 : decode cJ17_balanceInsertion 55 = .ok (.astore 5, 2) := dk_58 5 (dk_at dksJ17_balanceInsertion_2 10 rfl rfl)
theorem dJ17_balanceInsertion_57 : decode cJ17_balanceInsertion 57 = .ok (.ifnull 32, 3) := dk_198 0 32 (dk_at dksJ17_balanceInsertion_2 12 rfl rfl)
theorem dJ17_balanceInsertion_60 : decode cJ17_balanceInsertion 60 = .ok (.aload 5, 2) := dk_25 5 (dk_at dksJ17_balanceInsertion_2 15 rfl rfl)
theorem dJ17_balanceInsertion_62 : decode cJ17_balanceInsertion 62 = .ok (.getfield 93, 3) := dk_180 0 93 (dk_at dksJ17_balanceInsertion_2 17 rfl rfl)
theorem dJ17_balanceInsertion_65 : decode cJ17_balanceInsertion 65 = .ok (.ifCond .eq 24, 3) := dk_153 0 24 (dk_at dksJ17_balanceInsertion_2 20 rfl rfl)
theorem dJ17_balanceInsertion_68 : decode cJ17_balanceInsertion 68 = .ok (.aload 5, 2) := dk_25 5 (dk_at dksJ17_balanceInsertion_3 0 rfl rfl)
theorem dJ17_balanceInsertion_70 : decode cJ17_balanceInsertion 70 = .ok (.iconst 0, 1) := dk_3 (dk_at dksJ17_balanceInsertion_3 2 rfl rfl)
theorem dJ17_balanceInsertion_71 : decode cJ17_balanceInsertion 71 = .ok (.putfield 93, 3) := dk_181 0 93 (dk_at dksJ17_balanceInsertion_3 3 rfl rfl)
theorem dJ17_balanceInsertion_74 : decode cJ17_balanceInsertion 74 = .ok (.aload_n 2, 1) := dk_44 (dk_at dksJ17_balanceInsertion_3 6 rfl rfl)
theorem dJ17_balanceInsertion_75 : decode cJ17_balanceInsertion 75 = .ok (.iconst 0, 1) := dk_3 (dk_at dksJ17_balanceInsertion_3 7 rfl rfl)
theorem dJ17_balanceInsertion_76 : decode cJ17_balanceInsertion 76 = .ok (.putfield 93, 3) := dk_181 0 93 (dk_at dksJ17_balanceInsertion_3 8 rfl rfl)
theorem dJ17_balanceInsertion_79 : decode cJ17_balanceInsertion 79 = .ok (.aload_n 3, 1) := dk_45 (dk_at dksJ17_balanceInsertion_3 11 rfl rfl)
theorem dJ17_balanceInsertion_80 : decode cJ17_balanceInsertion 80 = .ok (.iconst 1, 1) := dk_4 (dk_at dksJ17_balanceInsertion_3 12 rfl rfl)
theorem dJ17_balanceInsertion_81 : decode cJ17_balanceInsertion 81 = .ok (.putfield 93, 3) := dk_181 0 93 (dk_at dksJ17_balanceInsertion_3 13 rfl rfl)
theorem dJ17_balanceInsertion_84 : decode cJ17_balanceInsertion 84 = .ok (.aload_n 3, 1) := dk_45 (dk_at dksJ17_balanceInsertion_3 16 rfl rfl)
theorem dJ17_balanceInsertion_85 : decode cJ17_balanceInsertion 85 = .ok (.astore_n 1, 1) := dk_76 (dk_at dksJ17_balanceInsertion_3 17 rfl rfl)
theorem dJ17_balanceInsertion_86 : decode cJ17_balanceInsertion 86 = .ok (.goto (-81), 3) := dk_167 255 175 (dk_at dksJ17_balanceInsertion_3 18 rfl rfl)
theorem dJ17_balanceInsertion_89 : decode cJ17_balanceInsertion 89 = .ok (.aload_n 1, 1) := dk_43 (dk_at dksJ17_balanceInsertion_3 21 rfl rfl)
theorem dJ17_balanceInsertion_90 : decode cJ17_balanceInsertion 90 = .ok (.aload_n 2, 1) := dk_44 (dk_at dksJ17_balanceInsertion_3 22 rfl rfl)
theorem dJ17_balanceInsertion_91 : decode cJ17_balanceInsertion 91 = .ok (.getfield 42, 3) := dk_180 0 42 (dk_at dksJ17_balanceInsertion_4 0 rfl rfl)
theorem dJ17_balanceInsertion_94 : decode cJ17_balanceInsertion 94 = .ok (.if_acmp .ne 29, 3) := dk_166 0 29 (dk_at dksJ17_balanceInsertion_4 3 rfl rfl)
theorem dJ17_balanceInsertion_97 : decode cJ17_balanceInsertion 97 = .ok (.aload_n 0, 1) := dk_42 (dk_at dksJ17_balanceInsertion_4 6 rfl rfl)
theorem dJ17_balanceInsertion_98 : decode cJ17_balanceInsertion 98 = .ok (.aload_n 2, 1) := dk_44 (dk_at dksJ17_balanceInsertion_4 7 rfl rfl)
theorem dJ17_balanceInsertion_99 : decode cJ17_balanceInsertion 99 = .ok (.dup, 1) := dk_89 (dk_at dksJ17_balanceInsertion_4 8 rfl rfl)
theorem dJ17_balanceInsertion_100 : decode cJ17_balanceInsertion 100 = .ok (.astore_n 1, 1) := dk_76 (dk_at dksJ17_balanceInsertion_4 9 rfl rfl)
theorem dJ17_balanceInsertion_101 : decode cJ17_balanceInsertion 101 = .ok (.invokestatic 130, 3) := dk_184 0 130 (dk_at dksJ17_balanceInsertion_4 10 rfl rfl)
theorem dJ17_balanceInsertion_104 : decode cJ17_balanceInsertion 104 = .ok (.astore_n 0, 1) := dk_75 (dk_at dksJ17_balanceInsertion_4 13 rfl rfl)
theorem dJ17_balanceInsertion_105 : decode cJ17_balanceInsertion 105 = .ok (.aload_n 1, 1) := dk_43 (dk_at dksJ17_balanceInsertion_4 14 rfl rfl)
theorem dJ17_balanceInsertion_106 : decode cJ17_balanceInsertion 106 = .ok (.getfield 9, 3) := dk_180 0 9 (dk_at dksJ17_balanceInsertion_4 15 rfl rfl)
theorem dJ17_balanceInsertion_109 : decode cJ17_balanceInsertion 109 = .ok (.dup, 1) := dk_89 (dk_at dksJ17_balanceInsertion_4 18 rfl rfl)
theorem dJ17_balanceInsertion_110 : decode cJ17_balanceInsertion 110 = .ok (.astore_n 2, 1) := dk_77 (dk_at dksJ17_balanceInsertion_4 19 rfl rfl)
theorem dJ17_balanceInsertion_111 : decode cJ17_balanceInsertion 111 = .ok (.ifnonnull 7, 3) := dk_199 0 7 (dk_at dksJ17_balanceInsertion_4 20 rfl rfl)
theorem dJ17_balanceInsertion_114 : decode cJ17_balanceInsertion 114 = .ok (.aconst_null, 1) := dk_1 (dk_at dksJ17_balanceInsertion_4 23 rfl rfl)
theorem dJ17_balanceInsertion_115 : decode cJ17_balanceInsertion 115 = .ok (.goto 7, 3) := dk_167 0 7 (dk_at dksJ17_balanceInsertion_5 0 rfl rfl)
theorem dJ17_balanceInsertion_118 : decode cJ17_balanceInsertion 118 = .ok (.aload_n 2, 1) := dk_44 (dk_at dksJ17_balanceInsertion_5 3 rfl rfl)
theorem dJ17_balanceInsertion_119 : decode cJ17_balanceInsertion 119 = .ok (.getfield 9, 3) := dk_180 0 9 (dk_at dksJ17_balanceInsertion_5 4 rfl rfl)
theorem dJ17_balanceInsertion_122 : decode cJ17_balanceInsertion 122 = .ok (.astore_n 3, 1) := dk_78 (dk_at dksJ17_balanceInsertion_5 7 rfl rfl)
theorem dJ17_balanceInsertion_123 : decode cJ17_balanceInsertion 123 = .ok (.aload_n 2, 1) := dk_44 (dk_at dksJ17_balanceInsertion_5 8 rfl rfl)
theorem dJ17_balanceInsertion_124 : decode cJ17_balanceInsertion 124 = .ok (.ifnull (-119), 3) := dk_198 255 137 (dk_at dksJ17_balanceInsertion_5 9 rfl rfl)
theorem dJ17_balanceInsertion_127 : decode cJ17_balanceInsertion 127 = .ok (.aload_n 2, 1) := dk_44 (dk_at dksJ17_balanceInsertion_5 12 rfl rfl)
theorem dJ17_balanceInsertion_128 : decode cJ17_balanceInsertion 128 = .ok (.iconst 0, 1) := dk_3 (dk_at dksJ17_balanceInsertion_5 13 rfl rfl)
theorem dJ17_balanceInsertion_129 : decode cJ17_balanceInsertion 129 = .ok (.putfield 93, 3) := dk_181 0 93 (dk_at dksJ17_balanceInsertion_5 14 rfl rfl)
theorem dJ17_balanceInsertion_132 : decode cJ17_balanceInsertion 132 = .ok (.aload_n 3, 1) := dk_45 (dk_at dksJ17_balanceInsertion_5 17 rfl rfl)
theorem dJ17_balanceInsertion_133 : decode cJ17_balanceInsertion 133 = .ok (.ifnull (-128), 3) := dk_198 255 128 (dk_at dksJ17_balanceInsertion_5 18 rfl rfl)
theorem dJ17_balanceInsertion_136 : decode cJ17_balanceInsertion 136 = .ok (.aload_n 3, 1) := dk_45 (dk_at dksJ17_balanceInsertion_5 21 rfl rfl)
theorem dJ17_balanceInsertion_137 : decode cJ17_balanceInsertion 137 = .ok (.iconst 1, 1) := dk_4 (dk_at dksJ17_balanceInsertion_5 22 rfl rfl)
theorem dJ17_balanceInsertion_138 : decode cJ17_balanceInsertion 138 = .ok (.putfield 93, 3) := dk_181 0 93 (dk_at dksJ17_balanceInsertion_6 0 rfl rfl)
theorem dJ17_balanceInsertion_141 : decode cJ17_balanceInsertion 141 = .ok (.aload_n 0, 1) := dk_42 (dk_at dksJ17_balanceInsertion_6 3 rfl rfl)
theorem dJ17_balanceInsertion_142 : decode cJ17_balanceInsertion 142 = .ok (.aload_n 3, 1) := dk_45 (dk_at dksJ17_balanceInsertion_6 4 rfl rfl)
theorem dJ17_balanceInsertion_143 : decode cJ17_balanceInsertion 143 = .ok (.invokestatic 133, 3) := dk_184 0 133 (dk_at dksJ17_balanceInsertion_6 5 rfl rfl)
theorem dJ17_balanceInsertion_146 : decode cJ17_balanceInsertion 146 = .ok (.astore_n 0, 1) := dk_75 (dk_at dksJ17_balanceInsertion_6 8 rfl rfl)
theorem dJ17_balanceInsertion_147 : decode cJ17_balanceInsertion 147 = .ok (.goto (-142), 3) := dk_167 255 114 (dk_at dksJ17_balanceInsertion_6 9 rfl rfl)
theorem dJ17_balanceInsertion_150 : decode cJ17_balanceInsertion 150 = .ok (.aload 4, 2) := dk_25 4 (dk_at dksJ17_balanceInsertion_6 12 rfl rfl)
theorem dJ17_balanceInsertion_152 : decode cJ17_balanceInsertion 152 = .ok (.ifnull 32, 3) := dk_198 0 32 (dk_at dksJ17_balanceInsertion_6 14 rfl rfl)
theorem dJ17_balanceInsertion_155 : decode cJ17_balanceInsertion 155 = .ok (.aload 4, 2) := dk_25 4 (dk_at dksJ17_balanceInsertion_6 17 rfl rfl)
theorem dJ17_balanceInsertion_157 : decode cJ17_balanceInsertion 157 = .ok (.getfield 93, 3) := dk_180 0 93 (dk_at dksJ17_balanceInsertion_6 19 rfl rfl)
theorem dJ17_balanceInsertion_160 : decode cJ17_balanceInsertion 160 = .ok (.ifCond .eq 24, 3) := dk_153 0 24 (dk_at dksJ17_balanceInsertion_7 0 rfl rfl)
theorem dJ17_balanceInsertion_163 : decode cJ17_balanceInsertion 163 = .ok (.aload 4, 2) := dk_25 4 (dk_at dksJ17_balanceInsertion_7 3 rfl rfl)
theorem dJ17_balanceInsertion_165 : decode cJ17_balanceInsertion 165 = .ok (.iconst 0, 1) := dk_3 (dk_at dksJ17_balanceInsertion_7 5 rfl rfl)
theorem dJ17_balanceInsertion_166 : decode cJ17_balanceInsertion 166 = .ok (.putfield 93, 3) := dk_181 0 93 (dk_at dksJ17_balanceInsertion_7 6 rfl rfl)
theorem dJ17_balanceInsertion_169 : decode cJ17_balanceInsertion 169 = .ok (.aload_n 2, 1) := dk_44 (dk_at dksJ17_balanceInsertion_7 9 rfl rfl)
theorem dJ17_balanceInsertion_170 : decode cJ17_balanceInsertion 170 = .ok (.iconst 0, 1) := dk_3 (dk_at dksJ17_balanceInsertion_7 10 rfl rfl)
theorem dJ17_balanceInsertion_171 : decode cJ17_balanceInsertion 171 = .ok (.putfield 93, 3) := dk_181 0 93 (dk_at dksJ17_balanceInsertion_7 11 rfl rfl)
theorem dJ17_balanceInsertion_174 : decode cJ17_balanceInsertion 174 = .ok (.aload_n 3, 1) := dk_45 (dk_at dksJ17_balanceInsertion_7 14 rfl rfl)
theorem dJ17_balanceInsertion_175 : decode cJ17_balanceInsertion 175 = .ok (.iconst 1, 1) := dk_4 (dk_at dksJ17_balanceInsertion_7 15 rfl rfl)
theorem dJ17_balanceInsertion_176 : decode cJ17_balanceInsertion 176 = .ok (.putfield 93, 3) := dk_181 0 93 (dk_at dksJ17_balanceInsertion_7 16 rfl rfl)
theorem dJ17_balanceInsertion_179 : decode cJ17_balanceInsertion 179 = .ok (.aload_n 3, 1) := dk_45 (dk_at dksJ17_balanceInsertion_7 19 rfl rfl)
theorem dJ17_balanceInsertion_180 : decode cJ17_balanceInsertion 180 = .ok (.astore_n 1, 1) := dk_76 (dk_at dksJ17_balanceInsertion_7 20 rfl rfl)
theorem dJ17_balanceInsertion_181 : decode cJ17_balanceInsertion 181 = .ok (.goto (-176), 3) := dk_167 255 80 (dk_at dksJ17_balanceInsertion_7 21 rfl rfl)
theorem dJ17_balanceInsertion_184 : decode cJ17_balanceInsertion 184 = .ok (.aload_n 1, 1) := dk_43 (dk_at dksJ17_balanceInsertion_8 0 rfl rfl)
theorem dJ17_balanceInsertion_185 : decode cJ17_balanceInsertion 185 = .ok (.aload_n 2, 1) := dk_44 (dk_at dksJ17_balanceInsertion_8 1 rfl rfl)
theorem dJ17_balanceInsertion_186 : decode cJ17_balanceInsertion 186 = .ok (.getfield 39, 3) := dk_180 0 39 (dk_at dksJ17_balanceInsertion_8 2 rfl rfl)
theorem dJ17_balanceInsertion_189 : decode cJ17_balanceInsertion 189 = .ok (.if_acmp .ne 29, 3) := dk_166 0 29 (dk_at dksJ17_balanceInsertion_8 5 rfl rfl)
theorem dJ17_balanceInsertion_192 : decode cJ17_balanceInsertion 192 = .ok (.aload_n 0, 1) := dk_42 (dk_at dksJ17_balanceInsertion_8 8 rfl rfl)
theorem dJ17_balanceInsertion_193 : decode cJ17_balanceInsertion 193 = .ok (.aload_n 2, 1) := dk_44 (dk_at dksJ17_balanceInsertion_8 9 rfl rfl)
theorem dJ17_balanceInsertion_194 : decode cJ17_balanceInsertion 194 = .ok (.dup, 1) := dk_89 (dk_at dksJ17_balanceInsertion_8 10 rfl rfl)
theorem dJ17_balanceInsertion_195 : decode cJ17_balanceInsertion 195 = .ok (.astore_n 1, 1) := dk_76 (dk_at dksJ17_balanceInsertion_8 11 rfl rfl)
theorem dJ17_balanceInsertion_196 : decode cJ17_balanceInsertion 196 = .ok (.invokestatic 133, 3) := dk_184 0 133 (dk_at dksJ17_balanceInsertion_8 12 rfl rfl)
theorem dJ17_balanceInsertion_199 : decode cJ17_balanceInsertion 199 = .ok (.astore_n 0, 1) := dk_75 (dk_at dksJ17_balanceInsertion_8 15 rfl rfl)
theorem dJ17_balanceInsertion_200 : decode cJ17_balanceInsertion 200 = .ok (.aload_n 1, 1) := dk_43 (dk_at dksJ17_balanceInsertion_8 16 rfl rfl)
theorem dJ17_balanceInsertion_201 : decode cJ17_balanceInsertion 201 = .ok (.getfield 9, 3) := dk_180 0 9 (dk_at dksJ17_balanceInsertion_8 17 rfl rfl)
theorem dJ17_balanceInsertion_204 : decode cJ17_balanceInsertion 204 = .ok (.dup, 1) := dk_89 (dk_at dksJ17_balanceInsertion_8 20 rfl rfl)
theorem dJ17_balanceInsertion_205 : decode cJ17_balanceInsertion 205 = .ok (.astore_n 2, 1) := dk_77 (dk_at dksJ17_balanceInsertion_8 21 rfl rfl)
theorem dJ17_balanceInsertion_206 : decode cJ17_balanceInsertion 206 = .ok (.ifnonnull 7, 3) := dk_199 0 7 (dk_at dksJ17_balanceInsertion_9 0 rfl rfl)
theorem dJ17_balanceInsertion_209 : decode cJ17_balanceInsertion 209 = .ok (.aconst_null, 1) := dk_1 (dk_at dksJ17_balanceInsertion_9 3 rfl rfl)
theorem dJ17_balanceInsertion_210 : decode cJ17_balanceInsertion 210 = .ok (.goto 7, 3) := dk_167 0 7 (dk_at dksJ17_balanceInsertion_9 4 rfl rfl)
theorem dJ17_balanceInsertion_213 : decode cJ17_balanceInsertion 213 = .ok (.aload_n 2, 1) := dk_44 (dk_at dksJ17_balanceInsertion_9 7 rfl rfl)
theorem dJ17_balanceInsertion_214 : decode cJ17_balanceInsertion 214 = .ok (.getfield 9, 3) := dk_180 0 9 (dk_at dksJ17_balanceInsertion_9 8 rfl rfl)
theorem dJ17_balanceInsertion_217 : decode cJ17_balanceInsertion 217 = .ok (.astore_n 3, 1) := dk_78 (dk_at dksJ17_balanceInsertion_9 11 rfl rfl)
theorem dJ17_balanceInsertion_218 : decode cJ17_balanceInsertion 218 = .ok (.aload_n 2, 1) := dk_44 (dk_at dksJ17_balanceInsertion_9 12 rfl rfl)
theorem dJ17_balanceInsertion_219 : decode cJ17_balanceInsertion 219 = .ok (.ifnull (-214), 3) := dk_198 255 42 (dk_at dksJ17_balanceInsertion_9 13 rfl rfl)
theorem dJ17_balanceInsertion_222 : decode cJ17_balanceInsertion 222 = .ok (.aload_n 2, 1) := dk_44 (dk_at dksJ17_balanceInsertion_9 16 rfl rfl)
theorem dJ17_balanceInsertion_223 : decode cJ17_balanceInsertion 223 = .ok (.iconst 0, 1) := dk_3 (dk_at dksJ17_balanceInsertion_9 17 rfl rfl)
theorem dJ17_balanceInsertion_224 : decode cJ17_balanceInsertion 224 = .ok (.putfield 93, 3) := dk_181 0 93 (dk_at dksJ17_balanceInsertion_9 18 rfl rfl)
theorem dJ17_balanceInsertion_227 : decode cJ17_balanceInsertion 227 = .ok (.aload_n 3, 1) := dk_45 (dk_at dksJ17_balanceInsertion_9 21 rfl rfl)
theorem dJ17_balanceInsertion_228 : decode cJ17_balanceInsertion 228 = .ok (.ifnull (-223), 3) := dk_198 255 33 (dk_at dksJ17_balanceInsertion_10 0 rfl rfl)
theorem dJ17_balanceInsertion_231 : decode cJ17_balanceInsertion 231 = .ok (.aload_n 3, 1) := dk_45 (dk_at dksJ17_balanceInsertion_10 3 rfl rfl)
theorem dJ17_balanceInsertion_232 : decode cJ17_balanceInsertion 232 = .ok (.iconst 1, 1) := dk_4 (dk_at dksJ17_balanceInsertion_10 4 rfl rfl)
theorem dJ17_balanceInsertion_233 : decode cJ17_balanceInsertion 233 = .ok (.putfield 93, 3) := dk_181 0 93 (dk_at dksJ17_balanceInsertion_10 5 rfl rfl)
theorem dJ17_balanceInsertion_236 : decode cJ17_balanceInsertion 236 = .ok (.aload_n 0, 1) := dk_42 (dk_at dksJ17_balanceInsertion_10 8 rfl rfl)
theorem dJ17_balanceInsertion_237 : decode cJ17_balanceInsertion 237 = .ok (.aload_n 3, 1) := dk_45 (dk_at dksJ17_balanceInsertion_10 9 rfl rfl)
theorem dJ17_balanceInsertion_238 : decode cJ17_balanceInsertion 238 = .ok (.invokestatic 130, 3) := dk_184 0 130 (dk_at dksJ17_balanceInsertion_10 10 rfl rfl)
theorem dJ17_balanceInsertion_241 : decode cJ17_balanceInsertion 241 = .ok (.astore_n 0, 1) := dk_75 (dk_at dksJ17_balanceInsertion_10 13 rfl rfl)
theorem dJ17_balanceInsertion_242 : decode cJ17_balanceInsertion 242 = .ok (.goto (-237), 3) := dk_167 255 19 (dk_at dksJ17_balanceInsertion_10 14 rfl rfl)
abbrev cJ17_rotateLeft : ByteArray := prog_69_method_12_code
def yJ17_rotateLeft : MethodName := ⟨RJ17, "rotateLeft", "(Ljava/util/HashMap$TreeNode;Ljava/util/HashMap$TreeNode;)Ljava/util/HashMap$TreeNode;"⟩
def dkwJ17_rotateLeft_3 : List UInt8 := [181, 0, 39, 167, 0, 8, 45, 44, 181, 0, 42, 44, 43, 181, 0, 39, 43, 44, 181, 0, 9, 42, 176]
abbrev dktJ17_rotateLeft_3 : List UInt8 := dkwJ17_rotateLeft_3 ++ []
def dkwJ17_rotateLeft_2 : List UInt8 := [199, 0, 13, 44, 89, 75, 3, 181, 0, 93, 167, 0, 24, 45, 180, 0, 39, 43, 166, 0, 11, 45, 44]
abbrev dktJ17_rotateLeft_2 : List UInt8 := dkwJ17_rotateLeft_2 ++ dktJ17_rotateLeft_3
def dkwJ17_rotateLeft_1 : List UInt8 := [58, 4, 198, 0, 9, 25, 4, 43, 181, 0, 9, 44, 43, 180, 0, 9, 90, 181, 0, 9, 89, 78]
abbrev dktJ17_rotateLeft_1 : List UInt8 := dkwJ17_rotateLeft_1 ++ dktJ17_rotateLeft_2
def dkwJ17_rotateLeft_0 : List UInt8 := [43, 198, 0, 88, 43, 180, 0, 42, 89, 77, 198, 0, 79, 43, 44, 180, 0, 39, 90, 181, 0, 42, 89]
abbrev dktJ17_rotateLeft_0 : List UInt8 := dkwJ17_rotateLeft_0 ++ dktJ17_rotateLeft_1
theorem dksJ17_rotateLeft_0 : cJ17_rotateLeft.data.toList.drop 0 = dktJ17_rotateLeft_0 := by decide +kernel
theorem dksJ17_rotateLeft_1 : cJ17_rotateLeft.data.toList.drop 23 = dktJ17_rotateLeft_1 := dk_seg dksJ17_rotateLeft_0 23 rfl rfl
theorem dksJ17_rotateLeft_2 : cJ17_rotateLeft.data.toList.drop 45 = dktJ17_rotateLeft_2 := dk_seg dksJ17_rotateLeft_1 22 rfl rfl
theorem dksJ17_rotateLeft_3 : cJ17_rotateLeft.data.toList.drop 68 = dktJ17_rotateLeft_3 := dk_seg dksJ17_rotateLeft_2 23 rfl rfl
theorem dJ17_rotateLeft_0 : decode cJ17_rotateLeft 0 = .ok (.aload_n 1, 1) := dk_43 (dk_at dksJ17_rotateLeft_0 0 rfl rfl)
theorem dJ17_rotateLeft_1 : decode cJ17_rotateLeft 1 = .ok (.ifnull 88, 3) := dk_198 0 88 (dk_at dksJ17_rotateLeft_0 1 rfl rfl)
theorem dJ17_rotateLeft_4 : decode cJ17_rotateLeft 4 = .ok (.aload_n 1, 1) := dk_43 (dk_at dksJ17_rotateLeft_0 4 rfl rfl)
theorem dJ17_rotateLeft_5 : decode cJ17_rotateLeft 5 = .ok (.getfield 42, 3) := dk_180 0 42 (dk_at dksJ17_rotateLeft_0 5 rfl rfl)
theorem dJ17_rotateLeft_8 : decode cJ17_rotateLeft 8 = .ok (.dup, 1) := dk_89 (dk_at dksJ17_rotateLeft_0 8 rfl rfl)
theorem dJ17_rotateLeft_9 : decode cJ17_rotateLeft 9 = .ok (.astore_n 2, 1) := dk_77 (dk_at dksJ17_rotateLeft_0 9 rfl rfl)
theorem dJ17_rotateLeft_10 : decode cJ17_rotateLeft 10 = .ok (.ifnull 79, 3) := dk_198 0 79 (dk_at dksJ17_rotateLeft_0 10 rfl rfl)
theorem dJ17_rotateLeft_13 : decode cJ17_rotateLeft 13 = .ok (.aload_n 1, 1) := dk_43 (dk_at dksJ17_rotateLeft_0 13 rfl rfl)
theorem dJ17_rotateLeft_14 : decode cJ17_rotateLeft 14 = .ok (.aload_n 2, 1) := dk_44 (dk_at dksJ17_rotateLeft_0 14 rfl rfl)
theorem dJ17_rotateLeft_15 : decode cJ17_rotateLeft 15 = .ok (.getfield 39, 3) := dk_180 0 39 (dk_at dksJ17_rotateLeft_0 15 rfl rfl)
theorem dJ17_rotateLeft_18 : decode cJ17_rotateLeft 18 = .ok (.dup_x1, 1) := dk_90 (dk_at dksJ17_rotateLeft_0 18 rfl rfl)
theorem dJ17_rotateLeft_19 : decode cJ17_rotateLeft 19 = .ok (.putfield 42, 3) := dk_181 0 42 (dk_at dksJ17_rotateLeft_0 19 rfl rfl)
theorem dJ17_rotateLeft_22 : decode cJ17_rotateLeft 22 = .ok (.dup, 1) := dk_89 (dk_at dksJ17_rotateLeft_0 22 rfl rfl)
theorem dJ17_rotateLeft_23 : decode cJ17_rotateLeft 23 = .ok (.astore 4, 2) := dk_58 4 (dk_at dksJ17_rotateLeft_1 0 rfl rfl)
theorem dJ17_rotateLeft_25 : decode cJ17_rotateLeft 25 = .ok (.ifnull 9, 3) := dk_198 0 9 (dk_at dksJ17_rotateLeft_1 2 rfl rfl)
theorem dJ17_rotateLeft_28 : decode cJ17_rotateLeft 28 = .ok (.aload 4, 2) := dk_25 4 (dk_at dksJ17_rotateLeft_1 5 rfl rfl)
theorem dJ17_rotateLeft_30 : decode cJ17_rotateLeft 30 = .ok (.aload_n 1, 1) := dk_43 (dk_at dksJ17_rotateLeft_1 7 rfl rfl)
theorem dJ17_rotateLeft_31 : decode cJ17_rotateLeft 31 = .ok (.putfield 9, 3) := dk_181 0 9 (dk_at dksJ17_rotateLeft_1 8 rfl rfl)
theorem dJ17_rotateLeft_34 : decode cJ17_rotateLeft 34 = .ok (.aload_n 2, 1) := dk_44 (dk_at dksJ17_rotateLeft_1 11 rfl rfl)
theorem dJ17_rotateLeft_35 : decode cJ17_rotateLeft 35 = .ok (.aload_n 1, 1) := dk_43 (dk_at dksJ17_rotateLeft_1 12 rfl rfl)
theorem dJ17_rotateLeft_36 : decode cJ17_rotateLeft 36 = .ok (.getfield 9, 3) := dk_180 0 9 (dk_at dksJ17_rotateLeft_1 13 rfl rfl)
theorem dJ17_rotateLeft_39 : decode cJ17_rotateLeft 39 = .ok (.dup_x1, 1) := dk_90 (dk_at dksJ17_rotateLeft_1 16 rfl rfl)
theorem dJ17_rotateLeft_40 : decode cJ17_rotateLeft 40 = .ok (.putfield 9, 3) := dk_181 0 9 (dk_at dksJ17_rotateLeft_1 17 rfl rfl)
theorem dJ17_rotateLeft_43 : decode cJ17_rotateLeft 43 = .ok (.dup, 1) := dk_89 (dk_at dksJ17_rotateLeft_1 20 rfl rfl)
theorem dJ17_rotateLeft_44 : decode cJ17_rotateLeft 44 = .ok (.astore_n 3, 1) := dk_78 (dk_at dksJ17_rotateLeft_1 21 rfl rfl)
theorem dJ17_rotateLeft_45 : decode cJ17_rotateLeft 45 = .ok (.ifnonnull 13, 3) := dk_199 0 13 (dk_at dksJ17_rotateLeft_2 0 rfl rfl)
theorem dJ17_rotateLeft_48 : decode cJ17_rotateLeft 48 = .ok (.aload_n 2, 1) := dk_44 (dk_at dksJ17_rotateLeft_2 3 rfl rfl)
theorem dJ17_rotateLeft_49 : decode cJ17_rotateLeft 49 = .ok (.dup, 1) := dk_89 (dk_at dksJ17_rotateLeft_2 4 rfl rfl)
theorem dJ17_rotateLeft_50 : decode cJ17_rotateLeft 50 = .ok (.astore_n 0, 1) := dk_75 (dk_at dksJ17_rotateLeft_2 5 rfl rfl)
theorem dJ17_rotateLeft_51 : decode cJ17_rotateLeft 51 = .ok (.iconst 0, 1) := dk_3 (dk_at dksJ17_rotateLeft_2 6 rfl rfl)
theorem dJ17_rotateLeft_52 : decode cJ17_rotateLeft 52 = .ok (.putfield 93, 3) := dk_181 0 93 (dk_at dksJ17_rotateLeft_2 7 rfl rfl)
theorem dJ17_rotateLeft_55 : decode cJ17_rotateLeft 55 = .ok (.goto 24, 3) := dk_167 0 24 (dk_at dksJ17_rotateLeft_2 10 rfl rfl)
theorem dJ17_rotateLeft_58 : decode cJ17_rotateLeft 58 = .ok (.aload_n 3, 1) := dk_45 (dk_at dksJ17_rotateLeft_2 13 rfl rfl)
theorem dJ17_rotateLeft_59 : decode cJ17_rotateLeft 59 = .ok (.getfield 39, 3) := dk_180 0 39 (dk_at dksJ17_rotateLeft_2 14 rfl rfl)
theorem dJ17_rotateLeft_62 : decode cJ17_rotateLeft 62 = .ok (.aload_n 1, 1) := dk_43 (dk_at dksJ17_rotateLeft_2 17 rfl rfl)
theorem dJ17_rotateLeft_63 : decode cJ17_rotateLeft 63 = .ok (.if_acmp .ne 11, 3) := dk_166 0 11 (dk_at dksJ17_rotateLeft_2 18 rfl rfl)
theorem dJ17_rotateLeft_66 : decode cJ17_rotateLeft 66 = .ok (.aload_n 3, 1) := dk_45 (dk_at dksJ17_rotateLeft_2 21 rfl rfl)
theorem dJ17_rotateLeft_67 : decode cJ17_rotateLeft 67 = .ok (.aload_n 2, 1) := dk_44 (dk_at dksJ17_rotateLeft_2 22 rfl rfl)
theorem dJ17_rotateLeft_68 : decode cJ17_rotateLeft 68 = .ok (.putfield 39, 3) := dk_181 0 39 (dk_at dksJ17_rotateLeft_3 0 rfl rfl)
theorem dJ17_rotateLeft_71 : decode cJ17_rotateLeft 71 = .ok (.goto 8, 3) := dk_167 0 8 (dk_at dksJ17_rotateLeft_3 3 rfl rfl)
theorem dJ17_rotateLeft_74 : decode cJ17_rotateLeft 74 = .ok (.aload_n 3, 1) := dk_45 (dk_at dksJ17_rotateLeft_3 6 rfl rfl)
theorem dJ17_rotateLeft_75 : decode cJ17_rotateLeft 75 = .ok (.aload_n 2, 1) := dk_44 (dk_at dksJ17_rotateLeft_3 7 rfl rfl)
theorem dJ17_rotateLeft_76 : decode cJ17_rotateLeft 76 = .ok (.putfield 42, 3) := dk_181 0 42 (dk_at dksJ17_rotateLeft_3 8 rfl rfl)
theorem dJ17_rotateLeft_79 : decode cJ17_rotateLeft 79 = .ok (.aload_n 2, 1) := dk_44 (dk_at dksJ17_rotateLeft_3 11 rfl rfl)
theorem dJ17_rotateLeft_80 : decode cJ17_rotateLeft 80 = .ok (.aload_n 1, 1) := dk_43 (dk_at dksJ17_rotateLeft_3 12 rfl rfl)
theorem dJ17_rotateLeft_81 : decode cJ17_rotateLeft 81 = .ok (.putfield 39, 3) := dk_181 0 39 (dk_at dksJ17_rotateLeft_3 13 rfl rfl)
theorem dJ17_rotateLeft_84 : decode cJ17_rotateLeft 84 = .ok (.aload_n 1, 1) := dk_43 (dk_at dksJ17_rotateLeft_3 16 rfl rfl)
theorem dJ17_rotateLeft_85 : decode cJ17_rotateLeft 85 = .ok (.aload_n 2, 1) := dk_44 (dk_at dksJ17_rotateLeft_3 17 rfl rfl)
theorem dJ17_rotateLeft_86 : decode cJ17_rotateLeft 86 = .ok (.putfield 9, 3) := dk_181 0 9 (dk_at dksJ17_rotateLeft_3 18 rfl rfl)
theorem dJ17_rotateLeft_89 : decode cJ17_rotateLeft 89 = .ok (.aload_n 0, 1) := dk_42 (dk_at dksJ17_rotateLeft_3 21 rfl rfl)
theorem dJ17_rotateLeft_90 : decode cJ17_rotateLeft 90 = .ok (.areturn, 1) := dk_176 (dk_at dksJ17_rotateLeft_3 22 rfl rfl)
abbrev cJ17_rotateRight : ByteArray := prog_69_method_13_code
def yJ17_rotateRight : MethodName := ⟨RJ17, "rotateRight", "(Ljava/util/HashMap$TreeNode;Ljava/util/HashMap$TreeNode;)Ljava/util/HashMap$TreeNode;"⟩
def dkwJ17_rotateRight_3 : List UInt8 := [181, 0, 42, 167, 0, 8, 45, 44, 181, 0, 39, 44, 43, 181, 0, 42, 43, 44, 181, 0, 9, 42, 176]
abbrev dktJ17_rotateRight_3 : List UInt8 := dkwJ17_rotateRight_3 ++ []
def dkwJ17_rotateRight_2 : List UInt8 := [199, 0, 13, 44, 89, 75, 3, 181, 0, 93, 167, 0, 24, 45, 180, 0, 42, 43, 166, 0, 11, 45, 44]
abbrev dktJ17_rotateRight_2 : List UInt8 := dkwJ17_rotateRight_2 ++ dktJ17_rotateRight_3
def dkwJ17_rotateRight_1 : List UInt8 := [58, 4, 198, 0, 9, 25, 4, 43, 181, 0, 9, 44, 43, 180, 0, 9, 90, 181, 0, 9, 89, 78]
abbrev dktJ17_rotateRight_1 : List UInt8 := dkwJ17_rotateRight_1 ++ dktJ17_rotateRight_2
def dkwJ17_rotateRight_0 : List UInt8 := [43, 198, 0, 88, 43, 180, 0, 39, 89, 77, 198, 0, 79, 43, 44, 180, 0, 42, 90, 181, 0, 39, 89]
abbrev dktJ17_rotateRight_0 : List UInt8 := dkwJ17_rotateRight_0 ++ dktJ17_rotateRight_1
theorem dksJ17_rotateRight_0 : cJ17_rotateRight.data.toList.drop 0 = dktJ17_rotateRight_0 := by decide +kernel
theorem dksJ17_rotateRight_1 : cJ17_rotateRight.data.toList.drop 23 = dktJ17_rotateRight_1 := dk_seg dksJ17_rotateRight_0 23 rfl rfl
theorem dksJ17_rotateRight_2 : cJ17_rotateRight.data.toList.drop 45 = dktJ17_rotateRight_2 := dk_seg dksJ17_rotateRight_1 22 rfl rfl
theorem dksJ17_rotateRight_3 : cJ17_rotateRight.data.toList.drop 68 = dktJ17_rotateRight_3 := dk_seg dksJ17_rotateRight_2 23 rfl rfl
theorem dJ17_rotateRight_0 : decode cJ17_rotateRight 0 = .ok (.aload_n 1, 1) := dk_43 (dk_at dksJ17_rotateRight_0 0 rfl rfl)
theorem dJ17_rotateRight_1 : decode cJ17_rotateRight 1 = .ok (.ifnull 88, 3) := dk_198 0 88 (dk_at dksJ17_rotateRight_0 1 rfl rfl)
theorem dJ17_rotateRight_4 : decode cJ17_rotateRight 4 = .ok (.aload_n 1, 1) := dk_43 (dk_at dksJ17_rotateRight_0 4 rfl rfl)
theorem dJ17_rotateRight_5 : decode cJ17_rotateRight 5 = .ok (.getfield 39, 3) := dk_180 0 39 (dk_at dksJ17_rotateRight_0 5 rfl rfl)
theorem dJ17_rotateRight_8 : decode cJ17_rotateRight 8 = .ok (.dup, 1) := dk_89 (dk_at dksJ17_rotateRight_0 8 rfl rfl)
theorem dJ17_rotateRight_9 : decode cJ17_rotateRight 9 = .ok (.astore_n 2, 1) := dk_77 (dk_at dksJ17_rotateRight_0 9 rfl rfl)
theorem dJ17_rotateRight_10 : decode cJ17_rotateRight 10 = .ok (.ifnull 79, 3) := dk_198 0 79 (dk_at dksJ17_rotateRight_0 10 rfl rfl)
theorem dJ17_rotateRight_13 : decode cJ17_rotateRight 13 = .ok (.aload_n 1, 1) := dk_43 (dk_at dksJ17_rotateRight_0 13 rfl rfl)
theorem dJ17_rotateRight_14 : decode cJ17_rotateRight 14 = .ok (.aload_n 2, 1) := dk_44 (dk_at dksJ17_rotateRight_0 14 rfl rfl)
theorem dJ17_rotateRight_15 : decode cJ17_rotateRight 15 = .ok (.getfield 42, 3) := dk_180 0 42 (dk_at dksJ17_rotateRight_0 15 rfl rfl)
theorem dJ17_rotateRight_18 : decode cJ17_rotateRight 18 = .ok (.dup_x1, 1) := dk_90 (dk_at dksJ17_rotateRight_0 18 rfl rfl)
theorem dJ17_rotateRight_19 : decode cJ17_rotateRight 19 = .ok (.putfield 39, 3) := dk_181 0 39 (dk_at dksJ17_rotateRight_0 19 rfl rfl)
theorem dJ17_rotateRight_22 : decode cJ17_rotateRight 22 = .ok (.dup, 1) := dk_89 (dk_at dksJ17_rotateRight_0 22 rfl rfl)
theorem dJ17_rotateRight_23 : decode cJ17_rotateRight 23 = .ok (.astore 4, 2) := dk_58 4 (dk_at dksJ17_rotateRight_1 0 rfl rfl)
theorem dJ17_rotateRight_25 : decode cJ17_rotateRight 25 = .ok (.ifnull 9, 3) := dk_198 0 9 (dk_at dksJ17_rotateRight_1 2 rfl rfl)
theorem dJ17_rotateRight_28 : decode cJ17_rotateRight 28 = .ok (.aload 4, 2) := dk_25 4 (dk_at dksJ17_rotateRight_1 5 rfl rfl)
theorem dJ17_rotateRight_30 : decode cJ17_rotateRight 30 = .ok (.aload_n 1, 1) := dk_43 (dk_at dksJ17_rotateRight_1 7 rfl rfl)
theorem dJ17_rotateRight_31 : decode cJ17_rotateRight 31 = .ok (.putfield 9, 3) := dk_181 0 9 (dk_at dksJ17_rotateRight_1 8 rfl rfl)
theorem dJ17_rotateRight_34 : decode cJ17_rotateRight 34 = .ok (.aload_n 2, 1) := dk_44 (dk_at dksJ17_rotateRight_1 11 rfl rfl)
theorem dJ17_rotateRight_35 : decode cJ17_rotateRight 35 = .ok (.aload_n 1, 1) := dk_43 (dk_at dksJ17_rotateRight_1 12 rfl rfl)
theorem dJ17_rotateRight_36 : decode cJ17_rotateRight 36 = .ok (.getfield 9, 3) := dk_180 0 9 (dk_at dksJ17_rotateRight_1 13 rfl rfl)
theorem dJ17_rotateRight_39 : decode cJ17_rotateRight 39 = .ok (.dup_x1, 1) := dk_90 (dk_at dksJ17_rotateRight_1 16 rfl rfl)
theorem dJ17_rotateRight_40 : decode cJ17_rotateRight 40 = .ok (.putfield 9, 3) := dk_181 0 9 (dk_at dksJ17_rotateRight_1 17 rfl rfl)
theorem dJ17_rotateRight_43 : decode cJ17_rotateRight 43 = .ok (.dup, 1) := dk_89 (dk_at dksJ17_rotateRight_1 20 rfl rfl)
theorem dJ17_rotateRight_44 : decode cJ17_rotateRight 44 = .ok (.astore_n 3, 1) := dk_78 (dk_at dksJ17_rotateRight_1 21 rfl rfl)
theorem dJ17_rotateRight_45 : decode cJ17_rotateRight 45 = .ok (.ifnonnull 13, 3) := dk_199 0 13 (dk_at dksJ17_rotateRight_2 0 rfl rfl)
theorem dJ17_rotateRight_48 : decode cJ17_rotateRight 48 = .ok (.aload_n 2, 1) := dk_44 (dk_at dksJ17_rotateRight_2 3 rfl rfl)
theorem dJ17_rotateRight_49 : decode cJ17_rotateRight 49 = .ok (.dup, 1) := dk_89 (dk_at dksJ17_rotateRight_2 4 rfl rfl)
theorem dJ17_rotateRight_50 : decode cJ17_rotateRight 50 = .ok (.astore_n 0, 1) := dk_75 (dk_at dksJ17_rotateRight_2 5 rfl rfl)
theorem dJ17_rotateRight_51 : decode cJ17_rotateRight 51 = .ok (.iconst 0, 1) := dk_3 (dk_at dksJ17_rotateRight_2 6 rfl rfl)
theorem dJ17_rotateRight_52 : decode cJ17_rotateRight 52 = .ok (.putfield 93, 3) := dk_181 0 93 (dk_at dksJ17_rotateRight_2 7 rfl rfl)
theorem dJ17_rotateRight_55 : decode cJ17_rotateRight 55 = .ok (.goto 24, 3) := dk_167 0 24 (dk_at dksJ17_rotateRight_2 10 rfl rfl)
theorem dJ17_rotateRight_58 : decode cJ17_rotateRight 58 = .ok (.aload_n 3, 1) := dk_45 (dk_at dksJ17_rotateRight_2 13 rfl rfl)
theorem dJ17_rotateRight_59 : decode cJ17_rotateRight 59 = .ok (.getfield 42, 3) := dk_180 0 42 (dk_at dksJ17_rotateRight_2 14 rfl rfl)
theorem dJ17_rotateRight_62 : decode cJ17_rotateRight 62 = .ok (.aload_n 1, 1) := dk_43 (dk_at dksJ17_rotateRight_2 17 rfl rfl)
theorem dJ17_rotateRight_63 : decode cJ17_rotateRight 63 = .ok (.if_acmp .ne 11, 3) := dk_166 0 11 (dk_at dksJ17_rotateRight_2 18 rfl rfl)
theorem dJ17_rotateRight_66 : decode cJ17_rotateRight 66 = .ok (.aload_n 3, 1) := dk_45 (dk_at dksJ17_rotateRight_2 21 rfl rfl)
theorem dJ17_rotateRight_67 : decode cJ17_rotateRight 67 = .ok (.aload_n 2, 1) := dk_44 (dk_at dksJ17_rotateRight_2 22 rfl rfl)
theorem dJ17_rotateRight_68 : decode cJ17_rotateRight 68 = .ok (.putfield 42, 3) := dk_181 0 42 (dk_at dksJ17_rotateRight_3 0 rfl rfl)
theorem dJ17_rotateRight_71 : decode cJ17_rotateRight 71 = .ok (.goto 8, 3) := dk_167 0 8 (dk_at dksJ17_rotateRight_3 3 rfl rfl)
theorem dJ17_rotateRight_74 : decode cJ17_rotateRight 74 = .ok (.aload_n 3, 1) := dk_45 (dk_at dksJ17_rotateRight_3 6 rfl rfl)
theorem dJ17_rotateRight_75 : decode cJ17_rotateRight 75 = .ok (.aload_n 2, 1) := dk_44 (dk_at dksJ17_rotateRight_3 7 rfl rfl)
theorem dJ17_rotateRight_76 : decode cJ17_rotateRight 76 = .ok (.putfield 39, 3) := dk_181 0 39 (dk_at dksJ17_rotateRight_3 8 rfl rfl)
theorem dJ17_rotateRight_79 : decode cJ17_rotateRight 79 = .ok (.aload_n 2, 1) := dk_44 (dk_at dksJ17_rotateRight_3 11 rfl rfl)
theorem dJ17_rotateRight_80 : decode cJ17_rotateRight 80 = .ok (.aload_n 1, 1) := dk_43 (dk_at dksJ17_rotateRight_3 12 rfl rfl)
theorem dJ17_rotateRight_81 : decode cJ17_rotateRight 81 = .ok (.putfield 42, 3) := dk_181 0 42 (dk_at dksJ17_rotateRight_3 13 rfl rfl)
theorem dJ17_rotateRight_84 : decode cJ17_rotateRight 84 = .ok (.aload_n 1, 1) := dk_43 (dk_at dksJ17_rotateRight_3 16 rfl rfl)
theorem dJ17_rotateRight_85 : decode cJ17_rotateRight 85 = .ok (.aload_n 2, 1) := dk_44 (dk_at dksJ17_rotateRight_3 17 rfl rfl)
theorem dJ17_rotateRight_86 : decode cJ17_rotateRight 86 = .ok (.putfield 9, 3) := dk_181 0 9 (dk_at dksJ17_rotateRight_3 18 rfl rfl)
theorem dJ17_rotateRight_89 : decode cJ17_rotateRight 89 = .ok (.aload_n 0, 1) := dk_42 (dk_at dksJ17_rotateRight_3 21 rfl rfl)
theorem dJ17_rotateRight_90 : decode cJ17_rotateRight 90 = .ok (.areturn, 1) := dk_176 (dk_at dksJ17_rotateRight_3 22 rfl rfl)
abbrev cJ17_moveRootToFront : ByteArray := prog_69_method_3_code
def yJ17_moveRootToFront : MethodName := ⟨RJ17, "moveRootToFront", "([Ljava/util/HashMap$Node;Ljava/util/HashMap$TreeNode;)V"⟩
def dkwJ17_moveRootToFront_5 : List UInt8 := [89, 183, 0, 36, 191, 177]
abbrev dktJ17_moveRootToFront_5 : List UInt8 := dkwJ17_moveRootToFront_5 ++ []
def dkwJ17_moveRootToFront_4 : List UInt8 := [181, 0, 22, 43, 1, 181, 0, 19, 178, 0, 26, 154, 0, 18, 43, 184, 0, 30, 154, 0, 11, 187, 0, 34]
abbrev dktJ17_moveRootToFront_4 : List UInt8 := dkwJ17_moveRootToFront_4 ++ dktJ17_moveRootToFront_5
def dkwJ17_moveRootToFront_3 : List UInt8 := [198, 0, 10, 25, 6, 25, 5, 181, 0, 22, 25, 4, 198, 0, 9, 25, 4, 43, 181, 0, 19, 43, 25, 4]
abbrev dktJ17_moveRootToFront_3 : List UInt8 := dkwJ17_moveRootToFront_3 ++ dktJ17_moveRootToFront_4
def dkwJ17_moveRootToFront_2 : List UInt8 := [43, 180, 0, 22, 89, 58, 5, 198, 0, 13, 25, 5, 192, 0, 10, 25, 6, 181, 0, 19, 25, 6]
abbrev dktJ17_moveRootToFront_2 : List UInt8 := dkwJ17_moveRootToFront_2 ++ dktJ17_moveRootToFront_3
def dkwJ17_moveRootToFront_1 : List UInt8 := [42, 29, 50, 192, 0, 10, 58, 4, 43, 25, 4, 165, 0, 67, 42, 29, 43, 83, 43, 180, 0, 19, 58, 6]
abbrev dktJ17_moveRootToFront_1 : List UInt8 := dkwJ17_moveRootToFront_1 ++ dktJ17_moveRootToFront_2
def dkwJ17_moveRootToFront_0 : List UInt8 := [43, 198, 0, 122, 42, 198, 0, 118, 42, 190, 89, 61, 158, 0, 111, 28, 4, 100, 43, 180, 0, 15, 126, 62]
abbrev dktJ17_moveRootToFront_0 : List UInt8 := dkwJ17_moveRootToFront_0 ++ dktJ17_moveRootToFront_1
theorem dksJ17_moveRootToFront_0 : cJ17_moveRootToFront.data.toList.drop 0 = dktJ17_moveRootToFront_0 := by decide +kernel
theorem dksJ17_moveRootToFront_1 : cJ17_moveRootToFront.data.toList.drop 24 = dktJ17_moveRootToFront_1 := dk_seg dksJ17_moveRootToFront_0 24 rfl rfl
theorem dksJ17_moveRootToFront_2 : cJ17_moveRootToFront.data.toList.drop 48 = dktJ17_moveRootToFront_2 := dk_seg dksJ17_moveRootToFront_1 24 rfl rfl
theorem dksJ17_moveRootToFront_3 : cJ17_moveRootToFront.data.toList.drop 70 = dktJ17_moveRootToFront_3 := dk_seg dksJ17_moveRootToFront_2 22 rfl rfl
theorem dksJ17_moveRootToFront_4 : cJ17_moveRootToFront.data.toList.drop 94 = dktJ17_moveRootToFront_4 := dk_seg dksJ17_moveRootToFront_3 24 rfl rfl
theorem dksJ17_moveRootToFront_5 : cJ17_moveRootToFront.data.toList.drop 118 = dktJ17_moveRootToFront_5 := dk_seg dksJ17_moveRootToFront_4 24 rfl rfl
theorem dJ17_moveRootToFront_0 : decode cJ17_moveRootToFront 0 = .ok (.aload_n 1, 1) := dk_43 (dk_at dksJ17_moveRootToFront_0 0 rfl rfl)
theorem dJ17_moveRootToFront_1 : decode cJ17_moveRootToFront 1 = .ok (.ifnull 122, 3) := dk_198 0 122 (dk_at dksJ17_moveRootToFront_0 1 rfl rfl)
theorem dJ17_moveRootToFront_4 : decode cJ17_moveRootToFront 4 = .ok (.aload_n 0, 1) := dk_42 (dk_at dksJ17_moveRootToFront_0 4 rfl rfl)
theorem dJ17_moveRootToFront_5 : decode cJ17_moveRootToFront 5 = .ok (.ifnull 118, 3) := dk_198 0 118 (dk_at dksJ17_moveRootToFront_0 5 rfl rfl)
theorem dJ17_moveRootToFront_8 : decode cJ17_moveRootToFront 8 = .ok (.aload_n 0, 1) := dk_42 (dk_at dksJ17_moveRootToFront_0 8 rfl rfl)
theorem dJ17_moveRootToFront_9 : decode cJ17_moveRootToFront 9 = .ok (.arraylength, 1) := dk_190 (dk_at dksJ17_moveRootToFront_0 9 rfl rfl)
theorem dJ17_moveRootToFront_10 : decode cJ17_moveRootToFront 10 = .ok (.dup, 1) := dk_89 (dk_at dksJ17_moveRootToFront_0 10 rfl rfl)
theorem dJ17_moveRootToFront_11 : decode cJ17_moveRootToFront 11 = .ok (.istore_n 2, 1) := dk_61 (dk_at dksJ17_moveRootToFront_0 11 rfl rfl)
theorem dJ17_moveRootToFront_12 : decode cJ17_moveRootToFront 12 = .ok (.ifCond .le 111, 3) := dk_158 0 111 (dk_at dksJ17_moveRootToFront_0 12 rfl rfl)
theorem dJ17_moveRootToFront_15 : decode cJ17_moveRootToFront 15 = .ok (.iload_n 2, 1) := dk_28 (dk_at dksJ17_moveRootToFront_0 15 rfl rfl)
theorem dJ17_moveRootToFront_16 : decode cJ17_moveRootToFront 16 = .ok (.iconst 1, 1) := dk_4 (dk_at dksJ17_moveRootToFront_0 16 rfl rfl)
theorem dJ17_moveRootToFront_17 : decode cJ17_moveRootToFront 17 = .ok (.isub, 1) := dk_100 (dk_at dksJ17_moveRootToFront_0 17 rfl rfl)
theorem dJ17_moveRootToFront_18 : decode cJ17_moveRootToFront 18 = .ok (.aload_n 1, 1) := dk_43 (dk_at dksJ17_moveRootToFront_0 18 rfl rfl)
theorem dJ17_moveRootToFront_19 : decode cJ17_moveRootToFront 19 = .ok (.getfield 15, 3) := dk_180 0 15 (dk_at dksJ17_moveRootToFront_0 19 rfl rfl)
theorem dJ17_moveRootToFront_22 : decode cJ17_moveRootToFront 22 = .ok (.iand, 1) := dk_126 (dk_at dksJ17_moveRootToFront_0 22 rfl rfl)
theorem dJ17_moveRootToFront_23 : decode cJ17_moveRootToFront 23 = .ok (.istore_n 3, 1) := dk_62 (dk_at dksJ17_moveRootToFront_0 23 rfl rfl)
theorem dJ17_moveRootToFront_24 : decode cJ17_moveRootToFront 24 = .ok (.aload_n 0, 1) := dk_42 (dk_at dksJ17_moveRootToFront_1 0 rfl rfl)
theorem dJ17_moveRootToFront_25 : decode cJ17_moveRootToFront 25 = .ok (.iload_n 3, 1) := dk_29 (dk_at dksJ17_moveRootToFront_1 1 rfl rfl)
theorem dJ17_moveRootToFront_26 : decode cJ17_moveRootToFront 26 = .ok (.aaload, 1) := dk_50 (dk_at dksJ17_moveRootToFront_1 2 rfl rfl)
theorem dJ17_moveRootToFront_27 : decode cJ17_moveRootToFront 27 = .ok (.checkcast 10, 3) := dk_192 0 10 (dk_at dksJ17_moveRootToFront_1 3 rfl rfl)
theorem dJ17_moveRootToFront_30 : decode cJ17_moveRootToFront 30 = .ok (.astore 4, 2) := dk_58 4 (dk_at dksJ17_moveRootToFront_1 6 rfl rfl)
theorem dJ17_moveRootToFront_32 : decode cJ17_moveRootToFront 32 = .ok (.aload_n 1, 1) := dk_43 (dk_at dksJ17_moveRootToFront_1 8 rfl rfl)
theorem dJ17_moveRootToFront_33 : decode cJ17_moveRootToFront 33 = .ok (.aload 4, 2) := dk_25 4 (dk_at dksJ17_moveRootToFront_1 9 rfl rfl)
theorem dJ17_moveRootToFront_35 : decode cJ17_moveRootToFront 35 = .ok (.if_acmp .eq 67, 3) := dk_165 0 67 (dk_at dksJ17_moveRootToFront_1 11 rfl rfl)
theorem dJ17_moveRootToFront_38 : decode cJ17_moveRootToFront 38 = .ok (.aload_n 0, 1) := dk_42 (dk_at dksJ17_moveRootToFront_1 14 rfl rfl)
theorem dJ17_moveRootToFront_39 : decode cJ17_moveRootToFront 39 = .ok (.iload_n 3, 1) := dk_29 (dk_at dksJ17_moveRootToFront_1 15 rfl rfl)
theorem dJ17_moveRootToFront_40 : decode cJ17_moveRootToFront 40 = .ok (.aload_n 1, 1) := dk_43 (dk_at dksJ17_moveRootToFront_1 16 rfl rfl)
theorem dJ17_moveRootToFront_41 : decode cJ17_moveRootToFront 41 = .ok (.aastore, 1) := dk_83 (dk_at dksJ17_moveRootToFront_1 17 rfl rfl)
theorem dJ17_moveRootToFront_42 : decode cJ17_moveRootToFront 42 = .ok (.aload_n 1, 1) := dk_43 (dk_at dksJ17_moveRootToFront_1 18 rfl rfl)
theorem dJ17_moveRootToFront_43 : decode cJ17_moveRootToFront 43 = .ok (.getfield 19, 3) := dk_180 0 19 (dk_at dksJ17_moveRootToFront_1 19 rfl rfl)
theorem dJ17_moveRootToFront_46 : decode cJ17_moveRootToFront 46 = .ok (.astore 6, 2) := dk_58 6 (dk_at dksJ17_moveRootToFront_1 22 rfl rfl)
theorem dJ17_moveRootToFront_48 : decode cJ17_moveRootToFront 48 = .ok (.aload_n 1, 1) := dk_43 (dk_at dksJ17_moveRootToFront_2 0 rfl rfl)
theorem dJ17_moveRootToFront_49 : decode cJ17_moveRootToFront 49 = .ok (.getfield 22, 3) := dk_180 0 22 (dk_at dksJ17_moveRootToFront_2 1 rfl rfl)
theorem dJ17_moveRootToFront_52 : decode cJ17_moveRootToFront 52 = .ok (.dup, 1) := dk_89 (dk_at dksJ17_moveRootToFront_2 4 rfl rfl)
theorem dJ17_moveRootToFront_53 : decode cJ17_moveRootToFront 53 = .ok (.astore 5, 2) := dk_58 5 (dk_at dksJ17_moveRootToFront_2 5 rfl rfl)
theorem dJ17_moveRootToFront_55 : decode cJ17_moveRootToFront 55 = .ok (.ifnull 13, 3) := dk_198 0 13 (dk_at dksJ17_moveRootToFront_2 7 rfl rfl)
theorem dJ17_moveRootToFront_58 : decode cJ17_moveRootToFront 58 = .ok (.aload 5, 2) := dk_25 5 (dk_at dksJ17_moveRootToFront_2 10 rfl rfl)
theorem dJ17_moveRootToFront_60 : decode cJ17_moveRootToFront 60 = .ok (.checkcast 10, 3) := dk_192 0 10 (dk_at dksJ17_moveRootToFront_2 12 rfl rfl)
theorem dJ17_moveRootToFront_63 : decode cJ17_moveRootToFront 63 = .ok (.aload 6, 2) := dk_25 6 (dk_at dksJ17_moveRootToFront_2 15 rfl rfl)
theorem dJ17_moveRootToFront_65 : decode cJ17_moveRootToFront 65 = .ok (.putfield 19, 3) := dk_181 0 19 (dk_at dksJ17_moveRootToFront_2 17 rfl rfl)
theorem dJ17_moveRootToFront_68 : decode cJ17_moveRootToFront 68 = .ok (.aload 6, 2) := dk_25 6 (dk_at dksJ17_moveRootToFront_2 20 rfl rfl)
theorem dJ17_moveRootToFront_70 : decode cJ17_moveRootToFront 70 = .ok (.ifnull 10, 3) := dk_198 0 10 (dk_at dksJ17_moveRootToFront_3 0 rfl rfl)
theorem dJ17_moveRootToFront_73 : decode cJ17_moveRootToFront 73 = .ok (.aload 6, 2) := dk_25 6 (dk_at dksJ17_moveRootToFront_3 3 rfl rfl)
theorem dJ17_moveRootToFront_75 : decode cJ17_moveRootToFront 75 = .ok (.aload 5, 2) := dk_25 5 (dk_at dksJ17_moveRootToFront_3 5 rfl rfl)
theorem dJ17_moveRootToFront_77 : decode cJ17_moveRootToFront 77 = .ok (.putfield 22, 3) := dk_181 0 22 (dk_at dksJ17_moveRootToFront_3 7 rfl rfl)
theorem dJ17_moveRootToFront_80 : decode cJ17_moveRootToFront 80 = .ok (.aload 4, 2) := dk_25 4 (dk_at dksJ17_moveRootToFront_3 10 rfl rfl)
theorem dJ17_moveRootToFront_82 : decode cJ17_moveRootToFront 82 = .ok (.ifnull 9, 3) := dk_198 0 9 (dk_at dksJ17_moveRootToFront_3 12 rfl rfl)
theorem dJ17_moveRootToFront_85 : decode cJ17_moveRootToFront 85 = .ok (.aload 4, 2) := dk_25 4 (dk_at dksJ17_moveRootToFront_3 15 rfl rfl)
theorem dJ17_moveRootToFront_87 : decode cJ17_moveRootToFront 87 = .ok (.aload_n 1, 1) := dk_43 (dk_at dksJ17_moveRootToFront_3 17 rfl rfl)
theorem dJ17_moveRootToFront_88 : decode cJ17_moveRootToFront 88 = .ok (.putfield 19, 3) := dk_181 0 19 (dk_at dksJ17_moveRootToFront_3 18 rfl rfl)
theorem dJ17_moveRootToFront_91 : decode cJ17_moveRootToFront 91 = .ok (.aload_n 1, 1) := dk_43 (dk_at dksJ17_moveRootToFront_3 21 rfl rfl)
theorem dJ17_moveRootToFront_92 : decode cJ17_moveRootToFront 92 = .ok (.aload 4, 2) := dk_25 4 (dk_at dksJ17_moveRootToFront_3 22 rfl rfl)
theorem dJ17_moveRootToFront_94 : decode cJ17_moveRootToFront 94 = .ok (.putfield 22, 3) := dk_181 0 22 (dk_at dksJ17_moveRootToFront_4 0 rfl rfl)
theorem dJ17_moveRootToFront_97 : decode cJ17_moveRootToFront 97 = .ok (.aload_n 1, 1) := dk_43 (dk_at dksJ17_moveRootToFront_4 3 rfl rfl)
theorem dJ17_moveRootToFront_98 : decode cJ17_moveRootToFront 98 = .ok (.aconst_null, 1) := dk_1 (dk_at dksJ17_moveRootToFront_4 4 rfl rfl)
theorem dJ17_moveRootToFront_99 : decode cJ17_moveRootToFront 99 = .ok (.putfield 19, 3) := dk_181 0 19 (dk_at dksJ17_moveRootToFront_4 5 rfl rfl)
theorem dJ17_moveRootToFront_102 : decode cJ17_moveRootToFront 102 = .ok (.getstatic 26, 3) := dk_178 0 26 (dk_at dksJ17_moveRootToFront_4 8 rfl rfl)
theorem dJ17_moveRootToFront_105 : decode cJ17_moveRootToFront 105 = .ok (.ifCond .ne 18, 3) := dk_154 0 18 (dk_at dksJ17_moveRootToFront_4 11 rfl rfl)
theorem dJ17_moveRootToFront_108 : decode cJ17_moveRootToFront 108 = .ok (.aload_n 1, 1) := dk_43 (dk_at dksJ17_moveRootToFront_4 14 rfl rfl)
theorem dJ17_moveRootToFront_109 : decode cJ17_moveRootToFront 109 = .ok (.invokestatic 30, 3) := dk_184 0 30 (dk_at dksJ17_moveRootToFront_4 15 rfl rfl)
theorem dJ17_moveRootToFront_112 : decode cJ17_moveRootToFront 112 = .ok (.ifCond .ne 11, 3) := dk_154 0 11 (dk_at dksJ17_moveRootToFront_4 18 rfl rfl)
theorem dJ17_moveRootToFront_115 : decode cJ17_moveRootToFront 115 = .ok (.new 34, 3) := dk_187 0 34 (dk_at dksJ17_moveRootToFront_4 21 rfl rfl)
theorem dJ17_moveRootToFront_118 : decode cJ17_moveRootToFront 118 = .ok (.dup, 1) := dk_89 (dk_at dksJ17_moveRootToFront_5 0 rfl rfl)
theorem dJ17_moveRootToFront_119 : decode cJ17_moveRootToFront 119 = .ok (.invokespecial 36, 3) := dk_183 0 36 (dk_at dksJ17_moveRootToFront_5 1 rfl rfl)
theorem dJ17_moveRootToFront_122 : decode cJ17_moveRootToFront 122 = .ok (.athrow, 1) := dk_191 (dk_at dksJ17_moveRootToFront_5 4 rfl rfl)
theorem dJ17_moveRootToFront_123 : decode cJ17_moveRootToFront 123 = .ok (.return_, 1) := dk_177 (dk_at dksJ17_moveRootToFront_5 5 rfl rfl)
abbrev cJ17_putTreeVal : ByteArray := prog_69_method_9_code
def yJ17_putTreeVal : MethodName := ⟨RJ17, "putTreeVal", "(Ljava/util/HashMap;[Ljava/util/HashMap$Node;ILjava/lang/Object;Ljava/lang/Object;)Ljava/util/HashMap$TreeNode;"⟩
def dkwJ17_putTreeVal_13 : List UInt8 := [184, 0, 100, 184, 0, 104, 1, 176, 167, 254, 228]
abbrev dktJ17_putTreeVal_13 : List UInt8 := dkwJ17_putTreeVal_13 ++ []
def dkwJ17_putTreeVal_12 : List UInt8 := [181, 0, 9, 25, 14, 198, 0, 13, 25, 14, 192, 0, 10, 25, 15, 181, 0, 19, 44, 25, 8, 25, 15]
abbrev dktJ17_putTreeVal_12 : List UInt8 := dkwJ17_putTreeVal_12 ++ dktJ17_putTreeVal_13
def dkwJ17_putTreeVal_11 : List UInt8 := [25, 15, 181, 0, 42, 25, 13, 25, 15, 181, 0, 22, 25, 15, 25, 15, 25, 13, 90, 181, 0, 19]
abbrev dktJ17_putTreeVal_11 : List UInt8 := dkwJ17_putTreeVal_11 ++ dktJ17_putTreeVal_12
def dkwJ17_putTreeVal_10 : List UInt8 := [25, 14, 182, 0, 115, 58, 15, 21, 10, 157, 0, 13, 25, 13, 25, 15, 181, 0, 39, 167, 0, 10, 25, 13]
abbrev dktJ17_putTreeVal_10 : List UInt8 := dkwJ17_putTreeVal_10 ++ dktJ17_putTreeVal_11
def dkwJ17_putTreeVal_9 : List UInt8 := [25, 9, 180, 0, 42, 89, 58, 9, 199, 0, 93, 25, 13, 180, 0, 22, 58, 14, 43, 29, 25, 4, 25, 5]
abbrev dktJ17_putTreeVal_9 : List UInt8 := dkwJ17_putTreeVal_9 ++ dktJ17_putTreeVal_10
def dkwJ17_putTreeVal_8 : List UInt8 := [25, 12, 184, 0, 96, 54, 10, 25, 9, 58, 13, 21, 10, 157, 0, 11, 25, 9, 180, 0, 39, 167, 0, 8]
abbrev dktJ17_putTreeVal_8 : List UInt8 := dkwJ17_putTreeVal_8 ++ dktJ17_putTreeVal_9
def dkwJ17_putTreeVal_7 : List UInt8 := [198, 0, 22, 25, 14, 29, 25, 4, 25, 6, 182, 0, 63, 89, 58, 13, 198, 0, 6, 25, 13, 176, 25, 4]
abbrev dktJ17_putTreeVal_7 : List UInt8 := dkwJ17_putTreeVal_7 ++ dktJ17_putTreeVal_8
def dkwJ17_putTreeVal_6 : List UInt8 := [29, 25, 4, 25, 6, 182, 0, 63, 89, 58, 13, 199, 0, 30, 25, 9, 180, 0, 42, 89, 58, 14]
abbrev dktJ17_putTreeVal_6 : List UInt8 := dkwJ17_putTreeVal_6 ++ dktJ17_putTreeVal_7
def dkwJ17_putTreeVal_5 : List UInt8 := [154, 0, 77, 21, 7, 154, 0, 63, 4, 54, 7, 25, 9, 180, 0, 39, 89, 58, 14, 198, 0, 19, 25, 14]
abbrev dktJ17_putTreeVal_5 : List UInt8 := dkwJ17_putTreeVal_5 ++ dktJ17_putTreeVal_6
def dkwJ17_putTreeVal_4 : List UInt8 := [25, 4, 184, 0, 55, 89, 58, 6, 198, 0, 18, 25, 6, 25, 4, 25, 12, 184, 0, 59, 89, 54, 10]
abbrev dktJ17_putTreeVal_4 : List UInt8 := dkwJ17_putTreeVal_4 ++ dktJ17_putTreeVal_5
def dkwJ17_putTreeVal_3 : List UInt8 := [25, 4, 198, 0, 16, 25, 4, 25, 12, 182, 0, 49, 153, 0, 6, 25, 9, 176, 25, 6, 199, 0, 14]
abbrev dktJ17_putTreeVal_3 : List UInt8 := dkwJ17_putTreeVal_3 ++ dktJ17_putTreeVal_4
def dkwJ17_putTreeVal_2 : List UInt8 := [29, 162, 0, 9, 4, 54, 10, 167, 0, 139, 25, 9, 180, 0, 45, 89, 58, 12, 25, 4, 165, 0, 18]
abbrev dktJ17_putTreeVal_2 : List UInt8 := dkwJ17_putTreeVal_2 ++ dktJ17_putTreeVal_3
def dkwJ17_putTreeVal_1 : List UInt8 := [25, 8, 58, 9, 25, 9, 180, 0, 15, 89, 54, 11, 29, 164, 0, 9, 2, 54, 10, 167, 0, 151, 21, 11]
abbrev dktJ17_putTreeVal_1 : List UInt8 := dkwJ17_putTreeVal_1 ++ dktJ17_putTreeVal_2
def dkwJ17_putTreeVal_0 : List UInt8 := [1, 58, 6, 3, 54, 7, 42, 180, 0, 9, 198, 0, 10, 42, 182, 0, 67, 167, 0, 4, 42, 58, 8]
abbrev dktJ17_putTreeVal_0 : List UInt8 := dkwJ17_putTreeVal_0 ++ dktJ17_putTreeVal_1
theorem dksJ17_putTreeVal_0 : cJ17_putTreeVal.data.toList.drop 0 = dktJ17_putTreeVal_0 := by decide +kernel
theorem dksJ17_putTreeVal_1 : cJ17_putTreeVal.data.toList.drop 23 = dktJ17_putTreeVal_1 := dk_seg dksJ17_putTreeVal_0 23 rfl rfl
theorem dksJ17_putTreeVal_2 : cJ17_putTreeVal.data.toList.drop 47 = dktJ17_putTreeVal_2 := dk_seg dksJ17_putTreeVal_1 24 rfl rfl
theorem dksJ17_putTreeVal_3 : cJ17_putTreeVal.data.toList.drop 70 = dktJ17_putTreeVal_3 := dk_seg dksJ17_putTreeVal_2 23 rfl rfl
theorem dksJ17_putTreeVal_4 : cJ17_putTreeVal.data.toList.drop 93 = dktJ17_putTreeVal_4 := dk_seg dksJ17_putTreeVal_3 23 rfl rfl
theorem dksJ17_putTreeVal_5 : cJ17_putTreeVal.data.toList.drop 116 = dktJ17_putTreeVal_5 := dk_seg dksJ17_putTreeVal_4 23 rfl rfl
theorem dksJ17_putTreeVal_6 : cJ17_putTreeVal.data.toList.drop 140 = dktJ17_putTreeVal_6 := dk_seg dksJ17_putTreeVal_5 24 rfl rfl
theorem dksJ17_putTreeVal_7 : cJ17_putTreeVal.data.toList.drop 162 = dktJ17_putTreeVal_7 := dk_seg dksJ17_putTreeVal_6 22 rfl rfl
theorem dksJ17_putTreeVal_8 : cJ17_putTreeVal.data.toList.drop 186 = dktJ17_putTreeVal_8 := dk_seg dksJ17_putTreeVal_7 24 rfl rfl
theorem dksJ17_putTreeVal_9 : cJ17_putTreeVal.data.toList.drop 210 = dktJ17_putTreeVal_9 := dk_seg dksJ17_putTreeVal_8 24 rfl rfl
theorem dksJ17_putTreeVal_10 : cJ17_putTreeVal.data.toList.drop 234 = dktJ17_putTreeVal_10 := dk_seg dksJ17_putTreeVal_9 24 rfl rfl
theorem dksJ17_putTreeVal_11 : cJ17_putTreeVal.data.toList.drop 258 = dktJ17_putTreeVal_11 := dk_seg dksJ17_putTreeVal_10 24 rfl rfl
theorem dksJ17_putTreeVal_12 : cJ17_putTreeVal.data.toList.drop 280 = dktJ17_putTreeVal_12 := dk_seg dksJ17_putTreeVal_11 22 rfl rfl
theorem dksJ17_putTreeVal_13 : cJ17_putTreeVal.data.toList.drop 303 = dktJ17_putTreeVal_13 := dk_seg dksJ17_putTreeVal_12 23 rfl rfl
theorem dJ17_putTreeVal_0 : decode cJ17_putTreeVal 0 = .ok (.aconst_null, 1) := dk_1 (dk_at dksJ17_putTreeVal_0 0 rfl rfl)
theorem dJ17_putTreeVal_1 : decode cJ17_putTreeVal 1 = .ok (.astore 6, 2) := dk_58 6 (dk_at dksJ17_putTreeVal_0 1 rfl rfl)
theorem dJ17_putTreeVal_3 : decode cJ17_putTreeVal 3 = .ok (.iconst 0, 1) := dk_3 (dk_at dksJ17_putTreeVal_0 3 rfl rfl)
theorem dJ17_putTreeVal_4 : decode cJ17_putTreeVal 4 = .ok (.istore 7, 2) := dk_54 7 (dk_at dksJ17_putTreeVal_0 4 rfl rfl)
theorem dJ17_putTreeVal_6 : decode cJ17_putTreeVal 6 = .ok (.aload_n 0, 1) := dk_42 (dk_at dksJ17_putTreeVal_0 6 rfl rfl)
theorem dJ17_putTreeVal_7 : decode cJ17_putTreeVal 7 = .ok (.getfield 9, 3) := dk_180 0 9 (dk_at dksJ17_putTreeVal_0 7 rfl rfl)
theorem dJ17_putTreeVal_10 : decode cJ17_putTreeVal 10 = .ok (.ifnull 10, 3) := dk_198 0 10 (dk_at dksJ17_putTreeVal_0 10 rfl rfl)
theorem dJ17_putTreeVal_13 : decode cJ17_putTreeVal 13 = .ok (.aload_n 0, 1) := dk_42 (dk_at dksJ17_putTreeVal_0 13 rfl rfl)
theorem dJ17_putTreeVal_14 : decode cJ17_putTreeVal 14 = .ok (.invokevirtual 67, 3) := dk_182 0 67 (dk_at dksJ17_putTreeVal_0 14 rfl rfl)
theorem dJ17_putTreeVal_17 : decode cJ17_putTreeVal 17 = .ok (.goto 4, 3) := dk_167 0 4 (dk_at dksJ17_putTreeVal_0 17 rfl rfl)
theorem dJ17_putTreeVal_20 : decode cJ17_putTreeVal 20 = .ok (.aload_n 0, 1) := dk_42 (dk_at dksJ17_putTreeVal_0 20 rfl rfl)
theorem dJ17_putTreeVal_21 : decode cJ17_putTreeVal 21 = .ok (.astore 8, 2) := dk_58 8 (dk_at dksJ17_putTreeVal_0 21 rfl rfl)
theorem dJ17_putTreeVal_23 : decode cJ17_putTreeVal 23 = .ok (.aload 8, 2) := dk_25 8 (dk_at dksJ17_putTreeVal_1 0 rfl rfl)
theorem dJ17_putTreeVal_25 : decode cJ17_putTreeVal 25 = .ok (.astore 9, 2) := dk_58 9 (dk_at dksJ17_putTreeVal_1 2 rfl rfl)
theorem dJ17_putTreeVal_27 : decode cJ17_putTreeVal 27 = .ok (.aload 9, 2) := dk_25 9 (dk_at dksJ17_putTreeVal_1 4 rfl rfl)
theorem dJ17_putTreeVal_29 : decode cJ17_putTreeVal 29 = .ok (.getfield 15, 3) := dk_180 0 15 (dk_at dksJ17_putTreeVal_1 6 rfl rfl)
theorem dJ17_putTreeVal_32 : decode cJ17_putTreeVal 32 = .ok (.dup, 1) := dk_89 (dk_at dksJ17_putTreeVal_1 9 rfl rfl)
theorem dJ17_putTreeVal_33 : decode cJ17_putTreeVal 33 = .ok (.istore 11, 2) := dk_54 11 (dk_at dksJ17_putTreeVal_1 10 rfl rfl)
theorem dJ17_putTreeVal_35 : decode cJ17_putTreeVal 35 = .ok (.iload_n 3, 1) := dk_29 (dk_at dksJ17_putTreeVal_1 12 rfl rfl)
theorem dJ17_putTreeVal_36 : decode cJ17_putTreeVal 36 = .ok (.if_icmp .le 9, 3) := dk_164 0 9 (dk_at dksJ17_putTreeVal_1 13 rfl rfl)
theorem dJ17_putTreeVal_39 : decode cJ17_putTreeVal 39 = .ok (.iconst (-1), 1) := dk_2 (dk_at dksJ17_putTreeVal_1 16 rfl rfl)
theorem dJ17_putTreeVal_40 : decode cJ17_putTreeVal 40 = .ok (.istore 10, 2) := dk_54 10 (dk_at dksJ17_putTreeVal_1 17 rfl rfl)
theorem dJ17_putTreeVal_42 : decode cJ17_putTreeVal 42 = .ok (.goto 151, 3) := dk_167 0 151 (dk_at dksJ17_putTreeVal_1 19 rfl rfl)
theorem dJ17_putTreeVal_45 : decode cJ17_putTreeVal 45 = .ok (.iload 11, 2) := dk_21 11 (dk_at dksJ17_putTreeVal_1 22 rfl rfl)
theorem dJ17_putTreeVal_47 : decode cJ17_putTreeVal 47 = .ok (.iload_n 3, 1) := dk_29 (dk_at dksJ17_putTreeVal_2 0 rfl rfl)
theorem dJ17_putTreeVal_48 : decode cJ17_putTreeVal 48 = .ok (.if_icmp .ge 9, 3) := dk_162 0 9 (dk_at dksJ17_putTreeVal_2 1 rfl rfl)
theorem dJ17_putTreeVal_51 : decode cJ17_putTreeVal 51 = .ok (.iconst 1, 1) := dk_4 (dk_at dksJ17_putTreeVal_2 4 rfl rfl)
theorem dJ17_putTreeVal_52 : decode cJ17_putTreeVal 52 = .ok (.istore 10, 2) := dk_54 10 (dk_at dksJ17_putTreeVal_2 5 rfl rfl)
theorem dJ17_putTreeVal_54 : decode cJ17_putTreeVal 54 = .ok (.goto 139, 3) := dk_167 0 139 (dk_at dksJ17_putTreeVal_2 7 rfl rfl)
theorem dJ17_putTreeVal_57 : decode cJ17_putTreeVal 57 = .ok (.aload 9, 2) := dk_25 9 (dk_at dksJ17_putTreeVal_2 10 rfl rfl)
theorem dJ17_putTreeVal_59 : decode cJ17_putTreeVal 59 = .ok (.getfield 45, 3) := dk_180 0 45 (dk_at dksJ17_putTreeVal_2 12 rfl rfl)
theorem dJ17_putTreeVal_62 : decode cJ17_putTreeVal 62 = .ok (.dup, 1) := dk_89 (dk_at dksJ17_putTreeVal_2 15 rfl rfl)
theorem dJ17_putTreeVal_63 : decode cJ17_putTreeVal 63 = .ok (.astore 12, 2) := dk_58 12 (dk_at dksJ17_putTreeVal_2 16 rfl rfl)
theorem dJ17_putTreeVal_65 : decode cJ17_putTreeVal 65 = .ok (.aload 4, 2) := dk_25 4 (dk_at dksJ17_putTreeVal_2 18 rfl rfl)
theorem dJ17_putTreeVal_67 : decode cJ17_putTreeVal 67 = .ok (.if_acmp .eq 18, 3) := dk_165 0 18 (dk_at dksJ17_putTreeVal_2 20 rfl rfl)
theorem dJ17_putTreeVal_70 : decode cJ17_putTreeVal 70 = .ok (.aload 4, 2) := dk_25 4 (dk_at dksJ17_putTreeVal_3 0 rfl rfl)
theorem dJ17_putTreeVal_72 : decode cJ17_putTreeVal 72 = .ok (.ifnull 16, 3) := dk_198 0 16 (dk_at dksJ17_putTreeVal_3 2 rfl rfl)
theorem dJ17_putTreeVal_75 : decode cJ17_putTreeVal 75 = .ok (.aload 4, 2) := dk_25 4 (dk_at dksJ17_putTreeVal_3 5 rfl rfl)
theorem dJ17_putTreeVal_77 : decode cJ17_putTreeVal 77 = .ok (.aload 12, 2) := dk_25 12 (dk_at dksJ17_putTreeVal_3 7 rfl rfl)
theorem dJ17_putTreeVal_79 : decode cJ17_putTreeVal 79 = .ok (.invokevirtual 49, 3) := dk_182 0 49 (dk_at dksJ17_putTreeVal_3 9 rfl rfl)
theorem dJ17_putTreeVal_82 : decode cJ17_putTreeVal 82 = .ok (.ifCond .eq 6, 3) := dk_153 0 6 (dk_at dksJ17_putTreeVal_3 12 rfl rfl)
theorem dJ17_putTreeVal_85 : decode cJ17_putTreeVal 85 = .ok (.aload 9, 2) := dk_25 9 (dk_at dksJ17_putTreeVal_3 15 rfl rfl)
theorem dJ17_putTreeVal_87 : decode cJ17_putTreeVal 87 = .ok (.areturn, 1) := dk_176 (dk_at dksJ17_putTreeVal_3 17 rfl rfl)
theorem dJ17_putTreeVal_88 : decode cJ17_putTreeVal 88 = .ok (.aload 6, 2) := dk_25 6 (dk_at dksJ17_putTreeVal_3 18 rfl rfl)
theorem dJ17_putTreeVal_90 : decode cJ17_putTreeVal 90 = .ok (.ifnonnull 14, 3) := dk_199 0 14 (dk_at dksJ17_putTreeVal_3 20 rfl rfl)
theorem dJ17_putTreeVal_93 : decode cJ17_putTreeVal 93 = .ok (.aload 4, 2) := dk_25 4 (dk_at dksJ17_putTreeVal_4 0 rfl rfl)
theorem dJ17_putTreeVal_95 : decode cJ17_putTreeVal 95 = .ok (.invokestatic 55, 3) := dk_184 0 55 (dk_at dksJ17_putTreeVal_4 2 rfl rfl)
theorem dJ17_putTreeVal_98 : decode cJ17_putTreeVal 98 = .ok (.dup, 1) := dk_89 (dk_at dksJ17_putTreeVal_4 5 rfl rfl)
theorem dJ17_putTreeVal_99 : decode cJ17_putTreeVal 99 = .ok (.astore 6, 2) := dk_58 6 (dk_at dksJ17_putTreeVal_4 6 rfl rfl)
theorem dJ17_putTreeVal_101 : decode cJ17_putTreeVal 101 = .ok (.ifnull 18, 3) := dk_198 0 18 (dk_at dksJ17_putTreeVal_4 8 rfl rfl)
theorem dJ17_putTreeVal_104 : decode cJ17_putTreeVal 104 = .ok (.aload 6, 2) := dk_25 6 (dk_at dksJ17_putTreeVal_4 11 rfl rfl)
theorem dJ17_putTreeVal_106 : decode cJ17_putTreeVal 106 = .ok (.aload 4, 2) := dk_25 4 (dk_at dksJ17_putTreeVal_4 13 rfl rfl)
theorem dJ17_putTreeVal_108 : decode cJ17_putTreeVal 108 = .ok (.aload 12, 2) := dk_25 12 (dk_at dksJ17_putTreeVal_4 15 rfl rfl)
theorem dJ17_putTreeVal_110 : decode cJ17_putTreeVal 110 = .ok (.invokestatic 59, 3) := dk_184 0 59 (dk_at dksJ17_putTreeVal_4 17 rfl rfl)
theorem dJ17_putTreeVal_113 : decode cJ17_putTreeVal 113 = .ok (.dup, 1) := dk_89 (dk_at dksJ17_putTreeVal_4 20 rfl rfl)
theorem dJ17_putTreeVal_114 : decode cJ17_putTreeVal 114 = .ok (.istore 10, 2) := dk_54 10 (dk_at dksJ17_putTreeVal_4 21 rfl rfl)
theorem dJ17_putTreeVal_116 : decode cJ17_putTreeVal 116 = .ok (.ifCond .ne 77, 3) := dk_154 0 77 (dk_at dksJ17_putTreeVal_5 0 rfl rfl)
theorem dJ17_putTreeVal_119 : decode cJ17_putTreeVal 119 = .ok (.iload 7, 2) := dk_21 7 (dk_at dksJ17_putTreeVal_5 3 rfl rfl)
theorem dJ17_putTreeVal_121 : decode cJ17_putTreeVal 121 = .ok (.ifCond .ne 63, 3) := dk_154 0 63 (dk_at dksJ17_putTreeVal_5 5 rfl rfl)
theorem dJ17_putTreeVal_124 : decode cJ17_putTreeVal 124 = .ok (.iconst 1, 1) := dk_4 (dk_at dksJ17_putTreeVal_5 8 rfl rfl)
theorem dJ17_putTreeVal_125 : decode cJ17_putTreeVal 125 = .ok (.istore 7, 2) := dk_54 7 (dk_at dksJ17_putTreeVal_5 9 rfl rfl)
theorem dJ17_putTreeVal_127 : decode cJ17_putTreeVal 127 = .ok (.aload 9, 2) := dk_25 9 (dk_at dksJ17_putTreeVal_5 11 rfl rfl)
theorem dJ17_putTreeVal_129 : decode cJ17_putTreeVal 129 = .ok (.getfield 39, 3) := dk_180 0 39 (dk_at dksJ17_putTreeVal_5 13 rfl rfl)
theorem dJ17_putTreeVal_132 : decode cJ17_putTreeVal 132 = .ok (.dup, 1) := dk_89 (dk_at dksJ17_putTreeVal_5 16 rfl rfl)
theorem dJ17_putTreeVal_133 : decode cJ17_putTreeVal 133 = .ok (.astore 14, 2) := dk_58 14 (dk_at dksJ17_putTreeVal_5 17 rfl rfl)
theorem dJ17_putTreeVal_135 : decode cJ17_putTreeVal 135 = .ok (.ifnull 19, 3) := dk_198 0 19 (dk_at dksJ17_putTreeVal_5 19 rfl rfl)
theorem dJ17_putTreeVal_138 : decode cJ17_putTreeVal 138 = .ok (.aload 14, 2) := dk_25 14 (dk_at dksJ17_putTreeVal_5 22 rfl rfl)
theorem dJ17_putTreeVal_140 : decode cJ17_putTreeVal 140 = .ok (.iload_n 3, 1) := dk_29 (dk_at dksJ17_putTreeVal_6 0 rfl rfl)
theorem dJ17_putTreeVal_141 : decode cJ17_putTreeVal 141 = .ok (.aload 4, 2) := dk_25 4 (dk_at dksJ17_putTreeVal_6 1 rfl rfl)
theorem dJ17_putTreeVal_143 : decode cJ17_putTreeVal 143 = .ok (.aload 6, 2) := dk_25 6 (dk_at dksJ17_putTreeVal_6 3 rfl rfl)
theorem dJ17_putTreeVal_145 : decode cJ17_putTreeVal 145 = .ok (.invokevirtual 63, 3) := dk_182 0 63 (dk_at dksJ17_putTreeVal_6 5 rfl rfl)
theorem dJ17_putTreeVal_148 : decode cJ17_putTreeVal 148 = .ok (.dup, 1) := dk_89 (dk_at dksJ17_putTreeVal_6 8 rfl rfl)
theorem dJ17_putTreeVal_149 : decode cJ17_putTreeVal 149 = .ok (.astore 13, 2) := dk_58 13 (dk_at dksJ17_putTreeVal_6 9 rfl rfl)
theorem dJ17_putTreeVal_151 : decode cJ17_putTreeVal 151 = .ok (.ifnonnull 30, 3) := dk_199 0 30 (dk_at dksJ17_putTreeVal_6 11 rfl rfl)
theorem dJ17_putTreeVal_154 : decode cJ17_putTreeVal 154 = .ok (.aload 9, 2) := dk_25 9 (dk_at dksJ17_putTreeVal_6 14 rfl rfl)
theorem dJ17_putTreeVal_156 : decode cJ17_putTreeVal 156 = .ok (.getfield 42, 3) := dk_180 0 42 (dk_at dksJ17_putTreeVal_6 16 rfl rfl)
theorem dJ17_putTreeVal_159 : decode cJ17_putTreeVal 159 = .ok (.dup, 1) := dk_89 (dk_at dksJ17_putTreeVal_6 19 rfl rfl)
theorem dJ17_putTreeVal_160 : decode cJ17_putTreeVal 160 = .ok (.astore 14, 2) := dk_58 14 (dk_at dksJ17_putTreeVal_6 20 rfl rfl)
theorem dJ17_putTreeVal_162 : decode cJ17_putTreeVal 162 = .ok (.ifnull 22, 3) := dk_198 0 22 (dk_at dksJ17_putTreeVal_7 0 rfl rfl)
theorem dJ17_putTreeVal_165 : decode cJ17_putTreeVal 165 = .ok (.aload 14, 2) := dk_25 14 (dk_at dksJ17_putTreeVal_7 3 rfl rfl)
theorem dJ17_putTreeVal_167 : decode cJ17_putTreeVal 167 = .ok (.iload_n 3, 1) := dk_29 (dk_at dksJ17_putTreeVal_7 5 rfl rfl)
theorem dJ17_putTreeVal_168 : decode cJ17_putTreeVal 168 = .ok (.aload 4, 2) := dk_25 4 (dk_at dksJ17_putTreeVal_7 6 rfl rfl)
theorem dJ17_putTreeVal_170 : decode cJ17_putTreeVal 170 = .ok (.aload 6, 2) := dk_25 6 (dk_at dksJ17_putTreeVal_7 8 rfl rfl)
theorem dJ17_putTreeVal_172 : decode cJ17_putTreeVal 172 = .ok (.invokevirtual 63, 3) := dk_182 0 63 (dk_at dksJ17_putTreeVal_7 10 rfl rfl)
theorem dJ17_putTreeVal_175 : decode cJ17_putTreeVal 175 = .ok (.dup, 1) := dk_89 (dk_at dksJ17_putTreeVal_7 13 rfl rfl)
theorem dJ17_putTreeVal_176 : decode cJ17_putTreeVal 176 = .ok (.astore 13, 2) := dk_58 13 (dk_at dksJ17_putTreeVal_7 14 rfl rfl)
theorem dJ17_putTreeVal_178 : decode cJ17_putTreeVal 178 = .ok (.ifnull 6, 3) := dk_198 0 6 (dk_at dksJ17_putTreeVal_7 16 rfl rfl)
theorem dJ17_putTreeVal_181 : decode cJ17_putTreeVal 181 = .ok (.aload 13, 2) := dk_25 13 (dk_at dksJ17_putTreeVal_7 19 rfl rfl)
theorem dJ17_putTreeVal_183 : decode cJ17_putTreeVal 183 = .ok (.areturn, 1) := dk_176 (dk_at dksJ17_putTreeVal_7 21 rfl rfl)
theorem dJ17_putTreeVal_184 : decode cJ17_putTreeVal 184 = .ok (.aload 4, 2) := dk_25 4 (dk_at dksJ17_putTreeVal_7 22 rfl rfl)
theorem dJ17_putTreeVal_186 : decode cJ17_putTreeVal 186 = .ok (.aload 12, 2) := dk_25 12 (dk_at dksJ17_putTreeVal_8 0 rfl rfl)
theorem dJ17_putTreeVal_188 : decode cJ17_putTreeVal 188 = .ok (.invokestatic 96, 3) := dk_184 0 96 (dk_at dksJ17_putTreeVal_8 2 rfl rfl)
theorem dJ17_putTreeVal_191 : decode cJ17_putTreeVal 191 = .ok (.istore 10, 2) := dk_54 10 (dk_at dksJ17_putTreeVal_8 5 rfl rfl)
theorem dJ17_putTreeVal_193 : decode cJ17_putTreeVal 193 = .ok (.aload 9, 2) := dk_25 9 (dk_at dksJ17_putTreeVal_8 7 rfl rfl)
theorem dJ17_putTreeVal_195 : decode cJ17_putTreeVal 195 = .ok (.astore 13, 2) := dk_58 13 (dk_at dksJ17_putTreeVal_8 9 rfl rfl)
theorem dJ17_putTreeVal_197 : decode cJ17_putTreeVal 197 = .ok (.iload 10, 2) := dk_21 10 (dk_at dksJ17_putTreeVal_8 11 rfl rfl)
theorem dJ17_putTreeVal_199 : decode cJ17_putTreeVal 199 = .ok (.ifCond .gt 11, 3) := dk_157 0 11 (dk_at dksJ17_putTreeVal_8 13 rfl rfl)
theorem dJ17_putTreeVal_202 : decode cJ17_putTreeVal 202 = .ok (.aload 9, 2) := dk_25 9 (dk_at dksJ17_putTreeVal_8 16 rfl rfl)
theorem dJ17_putTreeVal_204 : decode cJ17_putTreeVal 204 = .ok (.getfield 39, 3) := dk_180 0 39 (dk_at dksJ17_putTreeVal_8 18 rfl rfl)
theorem dJ17_putTreeVal_207 : decode cJ17_putTreeVal 207 = .ok (.goto 8, 3) := dk_167 0 8 (dk_at dksJ17_putTreeVal_8 21 rfl rfl)
theorem dJ17_putTreeVal_210 : decode cJ17_putTreeVal 210 = .ok (.aload 9, 2) := dk_25 9 (dk_at dksJ17_putTreeVal_9 0 rfl rfl)
theorem dJ17_putTreeVal_212 : decode cJ17_putTreeVal 212 = .ok (.getfield 42, 3) := dk_180 0 42 (dk_at dksJ17_putTreeVal_9 2 rfl rfl)
theorem dJ17_putTreeVal_215 : decode cJ17_putTreeVal 215 = .ok (.dup, 1) := dk_89 (dk_at dksJ17_putTreeVal_9 5 rfl rfl)
theorem dJ17_putTreeVal_216 : decode cJ17_putTreeVal 216 = .ok (.astore 9, 2) := dk_58 9 (dk_at dksJ17_putTreeVal_9 6 rfl rfl)
theorem dJ17_putTreeVal_218 : decode cJ17_putTreeVal 218 = .ok (.ifnonnull 93, 3) := dk_199 0 93 (dk_at dksJ17_putTreeVal_9 8 rfl rfl)
theorem dJ17_putTreeVal_221 : decode cJ17_putTreeVal 221 = .ok (.aload 13, 2) := dk_25 13 (dk_at dksJ17_putTreeVal_9 11 rfl rfl)
theorem dJ17_putTreeVal_223 : decode cJ17_putTreeVal 223 = .ok (.getfield 22, 3) := dk_180 0 22 (dk_at dksJ17_putTreeVal_9 13 rfl rfl)
theorem dJ17_putTreeVal_226 : decode cJ17_putTreeVal 226 = .ok (.astore 14, 2) := dk_58 14 (dk_at dksJ17_putTreeVal_9 16 rfl rfl)
theorem dJ17_putTreeVal_228 : decode cJ17_putTreeVal 228 = .ok (.aload_n 1, 1) := dk_43 (dk_at dksJ17_putTreeVal_9 18 rfl rfl)
theorem dJ17_putTreeVal_229 : decode cJ17_putTreeVal 229 = .ok (.iload_n 3, 1) := dk_29 (dk_at dksJ17_putTreeVal_9 19 rfl rfl)
theorem dJ17_putTreeVal_230 : decode cJ17_putTreeVal 230 = .ok (.aload 4, 2) := dk_25 4 (dk_at dksJ17_putTreeVal_9 20 rfl rfl)
theorem dJ17_putTreeVal_232 : decode cJ17_putTreeVal 232 = .ok (.aload 5, 2) := dk_25 5 (dk_at dksJ17_putTreeVal_9 22 rfl rfl)
theorem dJ17_putTreeVal_234 : decode cJ17_putTreeVal 234 = .ok (.aload 14, 2) := dk_25 14 (dk_at dksJ17_putTreeVal_10 0 rfl rfl)
theorem dJ17_putTreeVal_236 : decode cJ17_putTreeVal 236 = .ok (.invokevirtual 115, 3) := dk_182 0 115 (dk_at dksJ17_putTreeVal_10 2 rfl rfl)
theorem dJ17_putTreeVal_239 : decode cJ17_putTreeVal 239 = .ok (.astore 15, 2) := dk_58 15 (dk_at dksJ17_putTreeVal_10 5 rfl rfl)
theorem dJ17_putTreeVal_241 : decode cJ17_putTreeVal 241 = .ok (.iload 10, 2) := dk_21 10 (dk_at dksJ17_putTreeVal_10 7 rfl rfl)
theorem dJ17_putTreeVal_243 : decode cJ17_putTreeVal 243 = .ok (.ifCond .gt 13, 3) := dk_157 0 13 (dk_at dksJ17_putTreeVal_10 9 rfl rfl)
theorem dJ17_putTreeVal_246 : decode cJ17_putTreeVal 246 = .ok (.aload 13, 2) := dk_25 13 (dk_at dksJ17_putTreeVal_10 12 rfl rfl)
theorem dJ17_putTreeVal_248 : decode cJ17_putTreeVal 248 = .ok (.aload 15, 2) := dk_25 15 (dk_at dksJ17_putTreeVal_10 14 rfl rfl)
theorem dJ17_putTreeVal_250 : decode cJ17_putTreeVal 250 = .ok (.putfield 39, 3) := dk_181 0 39 (dk_at dksJ17_putTreeVal_10 16 rfl rfl)
theorem dJ17_putTreeVal_253 : decode cJ17_putTreeVal 253 = .ok (.goto 10, 3) := dk_167 0 10 (dk_at dksJ17_putTreeVal_10 19 rfl rfl)
theorem dJ17_putTreeVal_256 : decode cJ17_putTreeVal 256 = .ok (.aload 13, 2) := dk_25 13 (dk_at dksJ17_putTreeVal_10 22 rfl rfl)
theorem dJ17_putTreeVal_258 : decode cJ17_putTreeVal 258 = .ok (.aload 15, 2) := dk_25 15 (dk_at dksJ17_putTreeVal_11 0 rfl rfl)
theorem dJ17_putTreeVal_260 : decode cJ17_putTreeVal 260 = .ok (.putfield 42, 3) := dk_181 0 42 (dk_at dksJ17_putTreeVal_11 2 rfl rfl)
theorem dJ17_putTreeVal_263 : decode cJ17_putTreeVal 263 = .ok (.aload 13, 2) := dk_25 13 (dk_at dksJ17_putTreeVal_11 5 rfl rfl)
theorem dJ17_putTreeVal_265 : decode cJ17_putTreeVal 265 = .ok (.aload 15, 2) := dk_25 15 (dk_at dksJ17_putTreeVal_11 7 rfl rfl)
theorem dJ17_putTreeVal_267 : decode cJ17_putTreeVal 267 = .ok (.putfield 22, 3) := dk_181 0 22 (dk_at dksJ17_putTreeVal_11 9 rfl rfl)
theorem dJ17_putTreeVal_270 : decode cJ17_putTreeVal 270 = .ok (.aload 15, 2) := dk_25 15 (dk_at dksJ17_putTreeVal_11 12 rfl rfl)
theorem dJ17_putTreeVal_272 : decode cJ17_putTreeVal 272 = .ok (.aload 15, 2) := dk_25 15 (dk_at dksJ17_putTreeVal_11 14 rfl rfl)
theorem dJ17_putTreeVal_274 : decode cJ17_putTreeVal 274 = .ok (.aload 13, 2) := dk_25 13 (dk_at dksJ17_putTreeVal_11 16 rfl rfl)
theorem dJ17_putTreeVal_276 : decode cJ17_putTreeVal 276 = .ok (.dup_x1, 1) := dk_90 (dk_at dksJ17_putTreeVal_11 18 rfl rfl)
theorem dJ17_putTreeVal_277 : decode cJ17_putTreeVal 277 = .ok (.putfield 19, 3) := dk_181 0 19 (dk_at dksJ17_putTreeVal_11 19 rfl rfl)
theorem dJ17_putTreeVal_280 : decode cJ17_putTreeVal 280 = .ok (.putfield 9, 3) := dk_181 0 9 (dk_at dksJ17_putTreeVal_12 0 rfl rfl)
theorem dJ17_putTreeVal_283 : decode cJ17_putTreeVal 283 = .ok (.aload 14, 2) := dk_25 14 (dk_at dksJ17_putTreeVal_12 3 rfl rfl)
theorem dJ17_putTreeVal_285 : decode cJ17_putTreeVal 285 = .ok (.ifnull 13, 3) := dk_198 0 13 (dk_at dksJ17_putTreeVal_12 5 rfl rfl)
theorem dJ17_putTreeVal_288 : decode cJ17_putTreeVal 288 = .ok (.aload 14, 2) := dk_25 14 (dk_at dksJ17_putTreeVal_12 8 rfl rfl)
theorem dJ17_putTreeVal_290 : decode cJ17_putTreeVal 290 = .ok (.checkcast 10, 3) := dk_192 0 10 (dk_at dksJ17_putTreeVal_12 10 rfl rfl)
theorem dJ17_putTreeVal_293 : decode cJ17_putTreeVal 293 = .ok (.aload 15, 2) := dk_25 15 (dk_at dksJ17_putTreeVal_12 13 rfl rfl)
theorem dJ17_putTreeVal_295 : decode cJ17_putTreeVal 295 = .ok (.putfield 19, 3) := dk_181 0 19 (dk_at dksJ17_putTreeVal_12 15 rfl rfl)
theorem dJ17_putTreeVal_298 : decode cJ17_putTreeVal 298 = .ok (.aload_n 2, 1) := dk_44 (dk_at dksJ17_putTreeVal_12 18 rfl rfl)
theorem dJ17_putTreeVal_299 : decode cJ17_putTreeVal 299 = .ok (.aload 8, 2) := dk_25 8 (dk_at dksJ17_putTreeVal_12 19 rfl rfl)
theorem dJ17_putTreeVal_301 : decode cJ17_putTreeVal 301 = .ok (.aload 15, 2) := dk_25 15 (dk_at dksJ17_putTreeVal_12 21 rfl rfl)
theorem dJ17_putTreeVal_303 : decode cJ17_putTreeVal 303 = .ok (.invokestatic 100, 3) := dk_184 0 100 (dk_at dksJ17_putTreeVal_13 0 rfl rfl)
theorem dJ17_putTreeVal_306 : decode cJ17_putTreeVal 306 = .ok (.invokestatic 104, 3) := dk_184 0 104 (dk_at dksJ17_putTreeVal_13 3 rfl rfl)
theorem dJ17_putTreeVal_309 : decode cJ17_putTreeVal 309 = .ok (.aconst_null, 1) := dk_1 (dk_at dksJ17_putTreeVal_13 6 rfl rfl)
theorem dJ17_putTreeVal_310 : decode cJ17_putTreeVal 310 = .ok (.areturn, 1) := dk_176 (dk_at dksJ17_putTreeVal_13 7 rfl rfl)
theorem dJ17_putTreeVal_311 : decode cJ17_putTreeVal 311 = .ok (.goto (-284), 3) := dk_167 254 228 (dk_at dksJ17_putTreeVal_13 8 rfl rfl)
abbrev cJ17_root : ByteArray := prog_69_method_2_code
def yJ17_root : MethodName := ⟨RJ17, "root", "()Ljava/util/HashMap$TreeNode;"⟩
def dkwJ17_root_0 : List UInt8 := [42, 76, 43, 180, 0, 9, 89, 77, 199, 0, 5, 43, 176, 44, 76, 167, 255, 243]
abbrev dktJ17_root_0 : List UInt8 := dkwJ17_root_0 ++ []
theorem dksJ17_root_0 : cJ17_root.data.toList.drop 0 = dktJ17_root_0 := by decide +kernel
theorem dJ17_root_0 : decode cJ17_root 0 = .ok (.aload_n 0, 1) := dk_42 (dk_at dksJ17_root_0 0 rfl rfl)
theorem dJ17_root_1 : decode cJ17_root 1 = .ok (.astore_n 1, 1) := dk_76 (dk_at dksJ17_root_0 1 rfl rfl)
theorem dJ17_root_2 : decode cJ17_root 2 = .ok (.aload_n 1, 1) := dk_43 (dk_at dksJ17_root_0 2 rfl rfl)
theorem dJ17_root_3 : decode cJ17_root 3 = .ok (.getfield 9, 3) := dk_180 0 9 (dk_at dksJ17_root_0 3 rfl rfl)
theorem dJ17_root_6 : decode cJ17_root 6 = .ok (.dup, 1) := dk_89 (dk_at dksJ17_root_0 6 rfl rfl)
theorem dJ17_root_7 : decode cJ17_root 7 = .ok (.astore_n 2, 1) := dk_77 (dk_at dksJ17_root_0 7 rfl rfl)
theorem dJ17_root_8 : decode cJ17_root 8 = .ok (.ifnonnull 5, 3) := dk_199 0 5 (dk_at dksJ17_root_0 8 rfl rfl)
theorem dJ17_root_11 : decode cJ17_root 11 = .ok (.aload_n 1, 1) := dk_43 (dk_at dksJ17_root_0 11 rfl rfl)
theorem dJ17_root_12 : decode cJ17_root 12 = .ok (.areturn, 1) := dk_176 (dk_at dksJ17_root_0 12 rfl rfl)
theorem dJ17_root_13 : decode cJ17_root 13 = .ok (.aload_n 2, 1) := dk_44 (dk_at dksJ17_root_0 13 rfl rfl)
theorem dJ17_root_14 : decode cJ17_root 14 = .ok (.astore_n 1, 1) := dk_76 (dk_at dksJ17_root_0 14 rfl rfl)
theorem dJ17_root_15 : decode cJ17_root 15 = .ok (.goto (-13), 3) := dk_167 255 243 (dk_at dksJ17_root_0 15 rfl rfl)
abbrev cJ17_find : ByteArray := prog_69_method_4_code
def yJ17_find : MethodName := ⟨RJ17, "find", "(ILjava/lang/Object;Ljava/lang/Class;)Ljava/util/HashMap$TreeNode;"⟩
def dkwJ17_find_7 : List UInt8 := [58, 4, 25, 4, 199, 255, 92, 1, 176]
abbrev dktJ17_find_7 : List UInt8 := dkwJ17_find_7 ++ []
def dkwJ17_find_6 : List UInt8 := [58, 4, 167, 0, 24, 25, 9, 27, 44, 45, 182, 0, 63, 89, 58, 10, 198, 0, 6, 25, 10, 176, 25, 8]
abbrev dktJ17_find_6 : List UInt8 := dkwJ17_find_6 ++ dktJ17_find_7
def dkwJ17_find_5 : List UInt8 := [44, 25, 7, 184, 0, 59, 89, 54, 6, 153, 0, 20, 21, 6, 156, 0, 8, 25, 8, 167, 0, 5, 25, 9]
abbrev dktJ17_find_5 : List UInt8 := dkwJ17_find_5 ++ dktJ17_find_6
def dkwJ17_find_4 : List UInt8 := [199, 0, 10, 25, 8, 58, 4, 167, 0, 67, 45, 199, 0, 12, 44, 184, 0, 55, 89, 78, 198, 0, 33, 45]
abbrev dktJ17_find_4 : List UInt8 := dkwJ17_find_4 ++ dktJ17_find_5
def dkwJ17_find_3 : List UInt8 := [182, 0, 49, 153, 0, 6, 25, 4, 176, 25, 8, 199, 0, 10, 25, 9, 58, 4, 167, 0, 79, 25, 9]
abbrev dktJ17_find_3 : List UInt8 := dkwJ17_find_3 ++ dktJ17_find_4
def dkwJ17_find_2 : List UInt8 := [167, 0, 119, 25, 4, 180, 0, 45, 89, 58, 7, 44, 165, 0, 16, 44, 198, 0, 15, 44, 25, 7]
abbrev dktJ17_find_2 : List UInt8 := dkwJ17_find_2 ++ dktJ17_find_3
def dkwJ17_find_1 : List UInt8 := [54, 5, 27, 164, 0, 10, 25, 8, 58, 4, 167, 0, 132, 21, 5, 27, 162, 0, 10, 25, 9, 58, 4]
abbrev dktJ17_find_1 : List UInt8 := dkwJ17_find_1 ++ dktJ17_find_2
def dkwJ17_find_0 : List UInt8 := [42, 58, 4, 25, 4, 180, 0, 39, 58, 8, 25, 4, 180, 0, 42, 58, 9, 25, 4, 180, 0, 15, 89]
abbrev dktJ17_find_0 : List UInt8 := dkwJ17_find_0 ++ dktJ17_find_1
theorem dksJ17_find_0 : cJ17_find.data.toList.drop 0 = dktJ17_find_0 := by decide +kernel
theorem dksJ17_find_1 : cJ17_find.data.toList.drop 23 = dktJ17_find_1 := dk_seg dksJ17_find_0 23 rfl rfl
theorem dksJ17_find_2 : cJ17_find.data.toList.drop 46 = dktJ17_find_2 := dk_seg dksJ17_find_1 23 rfl rfl
theorem dksJ17_find_3 : cJ17_find.data.toList.drop 68 = dktJ17_find_3 := dk_seg dksJ17_find_2 22 rfl rfl
theorem dksJ17_find_4 : cJ17_find.data.toList.drop 91 = dktJ17_find_4 := dk_seg dksJ17_find_3 23 rfl rfl
theorem dksJ17_find_5 : cJ17_find.data.toList.drop 115 = dktJ17_find_5 := dk_seg dksJ17_find_4 24 rfl rfl
theorem dksJ17_find_6 : cJ17_find.data.toList.drop 139 = dktJ17_find_6 := dk_seg dksJ17_find_5 24 rfl rfl
theorem dksJ17_find_7 : cJ17_find.data.toList.drop 163 = dktJ17_find_7 := dk_seg dksJ17_find_6 24 rfl rfl
theorem dJ17_find_0 : decode cJ17_find 0 = .ok (.aload_n 0, 1) := dk_42 (dk_at dksJ17_find_0 0 rfl rfl)
theorem dJ17_find_1 : decode cJ17_find 1 = .ok (.astore 4, 2) := dk_58 4 (dk_at dksJ17_find_0 1 rfl rfl)
theorem dJ17_find_3 : decode cJ17_find 3 = .ok (.aload 4, 2) := dk_25 4 (dk_at dksJ17_find_0 3 rfl rfl)
theorem dJ17_find_5 : decode cJ17_find 5 = .ok (.getfield 39, 3) := dk_180 0 39 (dk_at dksJ17_find_0 5 rfl rfl)
theorem dJ17_find_8 : decode cJ17_find 8 = .ok (.astore 8, 2) := dk_58 8 (dk_at dksJ17_find_0 8 rfl rfl)
theorem dJ17_find_10 : decode cJ17_find 10 = .ok (.aload 4, 2) := dk_25 4 (dk_at dksJ17_find_0 10 rfl rfl)
theorem dJ17_find_12 : decode cJ17_find 12 = .ok (.getfield 42, 3) := dk_180 0 42 (dk_at dksJ17_find_0 12 rfl rfl)
theorem dJ17_find_15 : decode cJ17_find 15 = .ok (.astore 9, 2) := dk_58 9 (dk_at dksJ17_find_0 15 rfl rfl)
theorem dJ17_find_17 : decode cJ17_find 17 = .ok (.aload 4, 2) := dk_25 4 (dk_at dksJ17_find_0 17 rfl rfl)
theorem dJ17_find_19 : decode cJ17_find 19 = .ok (.getfield 15, 3) := dk_180 0 15 (dk_at dksJ17_find_0 19 rfl rfl)
theorem dJ17_find_22 : decode cJ17_find 22 = .ok (.dup, 1) := dk_89 (dk_at dksJ17_find_0 22 rfl rfl)
theorem dJ17_find_23 : decode cJ17_find 23 = .ok (.istore 5, 2) := dk_54 5 (dk_at dksJ17_find_1 0 rfl rfl)
theorem dJ17_find_25 : decode cJ17_find 25 = .ok (.iload_n 1, 1) := dk_27 (dk_at dksJ17_find_1 2 rfl rfl)
theorem dJ17_find_26 : decode cJ17_find 26 = .ok (.if_icmp .le 10, 3) := dk_164 0 10 (dk_at dksJ17_find_1 3 rfl rfl)
theorem dJ17_find_29 : decode cJ17_find 29 = .ok (.aload 8, 2) := dk_25 8 (dk_at dksJ17_find_1 6 rfl rfl)
theorem dJ17_find_31 : decode cJ17_find 31 = .ok (.astore 4, 2) := dk_58 4 (dk_at dksJ17_find_1 8 rfl rfl)
theorem dJ17_find_33 : decode cJ17_find 33 = .ok (.goto 132, 3) := dk_167 0 132 (dk_at dksJ17_find_1 10 rfl rfl)
theorem dJ17_find_36 : decode cJ17_find 36 = .ok (.iload 5, 2) := dk_21 5 (dk_at dksJ17_find_1 13 rfl rfl)
theorem dJ17_find_38 : decode cJ17_find 38 = .ok (.iload_n 1, 1) := dk_27 (dk_at dksJ17_find_1 15 rfl rfl)
theorem dJ17_find_39 : decode cJ17_find 39 = .ok (.if_icmp .ge 10, 3) := dk_162 0 10 (dk_at dksJ17_find_1 16 rfl rfl)
theorem dJ17_find_42 : decode cJ17_find 42 = .ok (.aload 9, 2) := dk_25 9 (dk_at dksJ17_find_1 19 rfl rfl)
theorem dJ17_find_44 : decode cJ17_find 44 = .ok (.astore 4, 2) := dk_58 4 (dk_at dksJ17_find_1 21 rfl rfl)
theorem dJ17_find_46 : decode cJ17_find 46 = .ok (.goto 119, 3) := dk_167 0 119 (dk_at dksJ17_find_2 0 rfl rfl)
theorem dJ17_find_49 : decode cJ17_find 49 = .ok (.aload 4, 2) := dk_25 4 (dk_at dksJ17_find_2 3 rfl rfl)
theorem dJ17_find_51 : decode cJ17_find 51 = .ok (.getfield 45, 3) := dk_180 0 45 (dk_at dksJ17_find_2 5 rfl rfl)
theorem dJ17_find_54 : decode cJ17_find 54 = .ok (.dup, 1) := dk_89 (dk_at dksJ17_find_2 8 rfl rfl)
theorem dJ17_find_55 : decode cJ17_find 55 = .ok (.astore 7, 2) := dk_58 7 (dk_at dksJ17_find_2 9 rfl rfl)
theorem dJ17_find_57 : decode cJ17_find 57 = .ok (.aload_n 2, 1) := dk_44 (dk_at dksJ17_find_2 11 rfl rfl)
theorem dJ17_find_58 : decode cJ17_find 58 = .ok (.if_acmp .eq 16, 3) := dk_165 0 16 (dk_at dksJ17_find_2 12 rfl rfl)
theorem dJ17_find_61 : decode cJ17_find 61 = .ok (.aload_n 2, 1) := dk_44 (dk_at dksJ17_find_2 15 rfl rfl)
theorem dJ17_find_62 : decode cJ17_find 62 = .ok (.ifnull 15, 3) := dk_198 0 15 (dk_at dksJ17_find_2 16 rfl rfl)
theorem dJ17_find_65 : decode cJ17_find 65 = .ok (.aload_n 2, 1) := dk_44 (dk_at dksJ17_find_2 19 rfl rfl)
theorem dJ17_find_66 : decode cJ17_find 66 = .ok (.aload 7, 2) := dk_25 7 (dk_at dksJ17_find_2 20 rfl rfl)
theorem dJ17_find_68 : decode cJ17_find 68 = .ok (.invokevirtual 49, 3) := dk_182 0 49 (dk_at dksJ17_find_3 0 rfl rfl)
theorem dJ17_find_71 : decode cJ17_find 71 = .ok (.ifCond .eq 6, 3) := dk_153 0 6 (dk_at dksJ17_find_3 3 rfl rfl)
theorem dJ17_find_74 : decode cJ17_find 74 = .ok (.aload 4, 2) := dk_25 4 (dk_at dksJ17_find_3 6 rfl rfl)
theorem dJ17_find_76 : decode cJ17_find 76 = .ok (.areturn, 1) := dk_176 (dk_at dksJ17_find_3 8 rfl rfl)
theorem dJ17_find_77 : decode cJ17_find 77 = .ok (.aload 8, 2) := dk_25 8 (dk_at dksJ17_find_3 9 rfl rfl)
theorem dJ17_find_79 : decode cJ17_find 79 = .ok (.ifnonnull 10, 3) := dk_199 0 10 (dk_at dksJ17_find_3 11 rfl rfl)
theorem dJ17_find_82 : decode cJ17_find 82 = .ok (.aload 9, 2) := dk_25 9 (dk_at dksJ17_find_3 14 rfl rfl)
theorem dJ17_find_84 : decode cJ17_find 84 = .ok (.astore 4, 2) := dk_58 4 (dk_at dksJ17_find_3 16 rfl rfl)
theorem dJ17_find_86 : decode cJ17_find 86 = .ok (.goto 79, 3) := dk_167 0 79 (dk_at dksJ17_find_3 18 rfl rfl)
theorem dJ17_find_89 : decode cJ17_find 89 = .ok (.aload 9, 2) := dk_25 9 (dk_at dksJ17_find_3 21 rfl rfl)
theorem dJ17_find_91 : decode cJ17_find 91 = .ok (.ifnonnull 10, 3) := dk_199 0 10 (dk_at dksJ17_find_4 0 rfl rfl)
theorem dJ17_find_94 : decode cJ17_find 94 = .ok (.aload 8, 2) := dk_25 8 (dk_at dksJ17_find_4 3 rfl rfl)
theorem dJ17_find_96 : decode cJ17_find 96 = .ok (.astore 4, 2) := dk_58 4 (dk_at dksJ17_find_4 5 rfl rfl)
theorem dJ17_find_98 : decode cJ17_find 98 = .ok (.goto 67, 3) := dk_167 0 67 (dk_at dksJ17_find_4 7 rfl rfl)
theorem dJ17_find_101 : decode cJ17_find 101 = .ok (.aload_n 3, 1) := dk_45 (dk_at dksJ17_find_4 10 rfl rfl)
theorem dJ17_find_102 : decode cJ17_find 102 = .ok (.ifnonnull 12, 3) := dk_199 0 12 (dk_at dksJ17_find_4 11 rfl rfl)
theorem dJ17_find_105 : decode cJ17_find 105 = .ok (.aload_n 2, 1) := dk_44 (dk_at dksJ17_find_4 14 rfl rfl)
theorem dJ17_find_106 : decode cJ17_find 106 = .ok (.invokestatic 55, 3) := dk_184 0 55 (dk_at dksJ17_find_4 15 rfl rfl)
theorem dJ17_find_109 : decode cJ17_find 109 = .ok (.dup, 1) := dk_89 (dk_at dksJ17_find_4 18 rfl rfl)
theorem dJ17_find_110 : decode cJ17_find 110 = .ok (.astore_n 3, 1) := dk_78 (dk_at dksJ17_find_4 19 rfl rfl)
theorem dJ17_find_111 : decode cJ17_find 111 = .ok (.ifnull 33, 3) := dk_198 0 33 (dk_at dksJ17_find_4 20 rfl rfl)
theorem dJ17_find_114 : decode cJ17_find 114 = .ok (.aload_n 3, 1) := dk_45 (dk_at dksJ17_find_4 23 rfl rfl)
theorem dJ17_find_115 : decode cJ17_find 115 = .ok (.aload_n 2, 1) := dk_44 (dk_at dksJ17_find_5 0 rfl rfl)
theorem dJ17_find_116 : decode cJ17_find 116 = .ok (.aload 7, 2) := dk_25 7 (dk_at dksJ17_find_5 1 rfl rfl)
theorem dJ17_find_118 : decode cJ17_find 118 = .ok (.invokestatic 59, 3) := dk_184 0 59 (dk_at dksJ17_find_5 3 rfl rfl)
theorem dJ17_find_121 : decode cJ17_find 121 = .ok (.dup, 1) := dk_89 (dk_at dksJ17_find_5 6 rfl rfl)
theorem dJ17_find_122 : decode cJ17_find 122 = .ok (.istore 6, 2) := dk_54 6 (dk_at dksJ17_find_5 7 rfl rfl)
theorem dJ17_find_124 : decode cJ17_find 124 = .ok (.ifCond .eq 20, 3) := dk_153 0 20 (dk_at dksJ17_find_5 9 rfl rfl)
theorem dJ17_find_127 : decode cJ17_find 127 = .ok (.iload 6, 2) := dk_21 6 (dk_at dksJ17_find_5 12 rfl rfl)
theorem dJ17_find_129 : decode cJ17_find 129 = .ok (.ifCond .ge 8, 3) := dk_156 0 8 (dk_at dksJ17_find_5 14 rfl rfl)
theorem dJ17_find_132 : decode cJ17_find 132 = .ok (.aload 8, 2) := dk_25 8 (dk_at dksJ17_find_5 17 rfl rfl)
theorem dJ17_find_134 : decode cJ17_find 134 = .ok (.goto 5, 3) := dk_167 0 5 (dk_at dksJ17_find_5 19 rfl rfl)
theorem dJ17_find_137 : decode cJ17_find 137 = .ok (.aload 9, 2) := dk_25 9 (dk_at dksJ17_find_5 22 rfl rfl)
theorem dJ17_find_139 : decode cJ17_find 139 = .ok (.astore 4, 2) := dk_58 4 (dk_at dksJ17_find_6 0 rfl rfl)
theorem dJ17_find_141 : decode cJ17_find 141 = .ok (.goto 24, 3) := dk_167 0 24 (dk_at dksJ17_find_6 2 rfl rfl)
theorem dJ17_find_144 : decode cJ17_find 144 = .ok (.aload 9, 2) := dk_25 9 (dk_at dksJ17_find_6 5 rfl rfl)
theorem dJ17_find_146 : decode cJ17_find 146 = .ok (.iload_n 1, 1) := dk_27 (dk_at dksJ17_find_6 7 rfl rfl)
theorem dJ17_find_147 : decode cJ17_find 147 = .ok (.aload_n 2, 1) := dk_44 (dk_at dksJ17_find_6 8 rfl rfl)
theorem dJ17_find_148 : decode cJ17_find 148 = .ok (.aload_n 3, 1) := dk_45 (dk_at dksJ17_find_6 9 rfl rfl)
theorem dJ17_find_149 : decode cJ17_find 149 = .ok (.invokevirtual 63, 3) := dk_182 0 63 (dk_at dksJ17_find_6 10 rfl rfl)
theorem dJ17_find_152 : decode cJ17_find 152 = .ok (.dup, 1) := dk_89 (dk_at dksJ17_find_6 13 rfl rfl)
theorem dJ17_find_153 : decode cJ17_find 153 = .ok (.astore 10, 2) := dk_58 10 (dk_at dksJ17_find_6 14 rfl rfl)
theorem dJ17_find_155 : decode cJ17_find 155 = .ok (.ifnull 6, 3) := dk_198 0 6 (dk_at dksJ17_find_6 16 rfl rfl)
theorem dJ17_find_158 : decode cJ17_find 158 = .ok (.aload 10, 2) := dk_25 10 (dk_at dksJ17_find_6 19 rfl rfl)
theorem dJ17_find_160 : decode cJ17_find 160 = .ok (.areturn, 1) := dk_176 (dk_at dksJ17_find_6 21 rfl rfl)
theorem dJ17_find_161 : decode cJ17_find 161 = .ok (.aload 8, 2) := dk_25 8 (dk_at dksJ17_find_6 22 rfl rfl)
theorem dJ17_find_163 : decode cJ17_find 163 = .ok (.astore 4, 2) := dk_58 4 (dk_at dksJ17_find_7 0 rfl rfl)
theorem dJ17_find_165 : decode cJ17_find 165 = .ok (.aload 4, 2) := dk_25 4 (dk_at dksJ17_find_7 2 rfl rfl)
theorem dJ17_find_167 : decode cJ17_find 167 = .ok (.ifnonnull (-164), 3) := dk_199 255 92 (dk_at dksJ17_find_7 4 rfl rfl)
theorem dJ17_find_170 : decode cJ17_find 170 = .ok (.aconst_null, 1) := dk_1 (dk_at dksJ17_find_7 7 rfl rfl)
theorem dJ17_find_171 : decode cJ17_find 171 = .ok (.areturn, 1) := dk_176 (dk_at dksJ17_find_7 8 rfl rfl)
abbrev cJ17_init : ByteArray := prog_69_method_1_code
def yJ17_init : MethodName := ⟨RJ17, "<init>", "(ILjava/lang/Object;Ljava/lang/Object;Ljava/util/HashMap$Node;)V"⟩
def dkwJ17_init_0 : List UInt8 := [42, 27, 44, 45, 25, 4, 183, 0, 3, 177]
abbrev dktJ17_init_0 : List UInt8 := dkwJ17_init_0 ++ []
theorem dksJ17_init_0 : cJ17_init.data.toList.drop 0 = dktJ17_init_0 := by decide +kernel
theorem dJ17_init_0 : decode cJ17_init 0 = .ok (.aload_n 0, 1) := dk_42 (dk_at dksJ17_init_0 0 rfl rfl)
theorem dJ17_init_1 : decode cJ17_init 1 = .ok (.iload_n 1, 1) := dk_27 (dk_at dksJ17_init_0 1 rfl rfl)
theorem dJ17_init_2 : decode cJ17_init 2 = .ok (.aload_n 2, 1) := dk_44 (dk_at dksJ17_init_0 2 rfl rfl)
theorem dJ17_init_3 : decode cJ17_init 3 = .ok (.aload_n 3, 1) := dk_45 (dk_at dksJ17_init_0 3 rfl rfl)
theorem dJ17_init_4 : decode cJ17_init 4 = .ok (.aload 4, 2) := dk_25 4 (dk_at dksJ17_init_0 4 rfl rfl)
theorem dJ17_init_6 : decode cJ17_init 6 = .ok (.invokespecial 3, 3) := dk_183 0 3 (dk_at dksJ17_init_0 6 rfl rfl)
theorem dJ17_init_9 : decode cJ17_init 9 = .ok (.return_, 1) := dk_177 (dk_at dksJ17_init_0 9 rfl rfl)
abbrev cJ17_getTreeNode : ByteArray := prog_69_method_5_code
def yJ17_getTreeNode : MethodName := ⟨RJ17, "getTreeNode", "(ILjava/lang/Object;)Ljava/util/HashMap$TreeNode;"⟩
def dkwJ17_getTreeNode_0 : List UInt8 := [42, 180, 0, 9, 198, 0, 10, 42, 182, 0, 67, 167, 0, 4, 42, 27, 44, 1, 182, 0, 63, 176]
abbrev dktJ17_getTreeNode_0 : List UInt8 := dkwJ17_getTreeNode_0 ++ []
theorem dksJ17_getTreeNode_0 : cJ17_getTreeNode.data.toList.drop 0 = dktJ17_getTreeNode_0 := by decide +kernel
theorem dJ17_getTreeNode_0 : decode cJ17_getTreeNode 0 = .ok (.aload_n 0, 1) := dk_42 (dk_at dksJ17_getTreeNode_0 0 rfl rfl)
theorem dJ17_getTreeNode_1 : decode cJ17_getTreeNode 1 = .ok (.getfield 9, 3) := dk_180 0 9 (dk_at dksJ17_getTreeNode_0 1 rfl rfl)
theorem dJ17_getTreeNode_4 : decode cJ17_getTreeNode 4 = .ok (.ifnull 10, 3) := dk_198 0 10 (dk_at dksJ17_getTreeNode_0 4 rfl rfl)
theorem dJ17_getTreeNode_7 : decode cJ17_getTreeNode 7 = .ok (.aload_n 0, 1) := dk_42 (dk_at dksJ17_getTreeNode_0 7 rfl rfl)
theorem dJ17_getTreeNode_8 : decode cJ17_getTreeNode 8 = .ok (.invokevirtual 67, 3) := dk_182 0 67 (dk_at dksJ17_getTreeNode_0 8 rfl rfl)
theorem dJ17_getTreeNode_11 : decode cJ17_getTreeNode 11 = .ok (.goto 4, 3) := dk_167 0 4 (dk_at dksJ17_getTreeNode_0 11 rfl rfl)
theorem dJ17_getTreeNode_14 : decode cJ17_getTreeNode 14 = .ok (.aload_n 0, 1) := dk_42 (dk_at dksJ17_getTreeNode_0 14 rfl rfl)
theorem dJ17_getTreeNode_15 : decode cJ17_getTreeNode 15 = .ok (.iload_n 1, 1) := dk_27 (dk_at dksJ17_getTreeNode_0 15 rfl rfl)
theorem dJ17_getTreeNode_16 : decode cJ17_getTreeNode 16 = .ok (.aload_n 2, 1) := dk_44 (dk_at dksJ17_getTreeNode_0 16 rfl rfl)
theorem dJ17_getTreeNode_17 : decode cJ17_getTreeNode 17 = .ok (.aconst_null, 1) := dk_1 (dk_at dksJ17_getTreeNode_0 17 rfl rfl)
theorem dJ17_getTreeNode_18 : decode cJ17_getTreeNode 18 = .ok (.invokevirtual 63, 3) := dk_182 0 63 (dk_at dksJ17_getTreeNode_0 18 rfl rfl)
theorem dJ17_getTreeNode_21 : decode cJ17_getTreeNode 21 = .ok (.areturn, 1) := dk_176 (dk_at dksJ17_getTreeNode_0 21 rfl rfl)
theorem q140 : (Jvm.Cond.initialized "java/util/HashMap$TreeNode") ∈ lw_all := lw_g (lw_at lw_m1 35 rfl) rfl
theorem q1012 : (Jvm.Cond.instanceMethod ({ cls := "java/util/HashMap$TreeNode", name := "split", desc := "(Ljava/util/HashMap;[Ljava/util/HashMap$Node;II)V" } : Jvm.MethodName)) ∈ lw_all := lw_g (lw_at lw_m4 187 rfl) rfl
theorem q1013 : (Jvm.Cond.selects "java/util/HashMap$TreeNode" ({ cls := "java/util/HashMap$TreeNode", name := "split", desc := "(Ljava/util/HashMap;[Ljava/util/HashMap$Node;II)V" } : Jvm.MethodName) ({ cls := "java/util/HashMap$TreeNode", name := "split", desc := "(Ljava/util/HashMap;[Ljava/util/HashMap$Node;II)V" } : Jvm.MethodName)) ∈ lw_all := lw_g (lw_at lw_m4 188 rfl) rfl
theorem q1014 : (Jvm.Cond.code ({ cls := "java/util/HashMap$TreeNode", name := "split", desc := "(Ljava/util/HashMap;[Ljava/util/HashMap$Node;II)V" } : Jvm.MethodName) prog_69_method_11_code (14 : Nat) (Option.none : Option Jvm.ClassFile.FieldType)) ∈ lw_all := lw_g (lw_at lw_m4 189 rfl) rfl
theorem q1015 : (Jvm.Cond.classLink "java/util/HashMap$TreeNode" (10 : Nat) "java/util/HashMap$TreeNode") ∈ lw_all := lw_g (lw_at lw_m4 190 rfl) rfl
theorem q1016 : (Jvm.Cond.methodLink "java/util/HashMap$TreeNode" (119 : Nat) ({ cls := "java/util/HashMap$TreeNode", name := "untreeify", desc := "(Ljava/util/HashMap;)Ljava/util/HashMap$Node;" } : Jvm.MethodName)) ∈ lw_all := lw_g (lw_at lw_m4 191 rfl) rfl
theorem q1017 : (Jvm.Cond.instanceMethod ({ cls := "java/util/HashMap$TreeNode", name := "untreeify", desc := "(Ljava/util/HashMap;)Ljava/util/HashMap$Node;" } : Jvm.MethodName)) ∈ lw_all := lw_g (lw_at lw_m4 192 rfl) rfl
theorem q1018 : (Jvm.Cond.selects "java/util/HashMap$TreeNode" ({ cls := "java/util/HashMap$TreeNode", name := "untreeify", desc := "(Ljava/util/HashMap;)Ljava/util/HashMap$Node;" } : Jvm.MethodName) ({ cls := "java/util/HashMap$TreeNode", name := "untreeify", desc := "(Ljava/util/HashMap;)Ljava/util/HashMap$Node;" } : Jvm.MethodName)) ∈ lw_all := lw_g (lw_at lw_m4 193 rfl) rfl
theorem q1019 : (Jvm.Cond.code ({ cls := "java/util/HashMap$TreeNode", name := "untreeify", desc := "(Ljava/util/HashMap;)Ljava/util/HashMap$Node;" } : Jvm.MethodName) prog_69_method_8_code (6 : Nat) (Option.some (Jvm.ClassFile.FieldType.object "java/util/HashMap$Node"))) ∈ lw_all := lw_g (lw_at lw_m4 194 rfl) rfl
theorem q1020 : (Jvm.Cond.methodLink "java/util/HashMap$TreeNode" (108 : Nat) ({ cls := "java/util/HashMap", name := "replacementNode", desc := "(Ljava/util/HashMap$Node;Ljava/util/HashMap$Node;)Ljava/util/HashMap$Node;" } : Jvm.MethodName)) ∈ lw_all := lw_g (lw_at lw_m4 195 rfl) rfl
theorem q1041 : (Jvm.Cond.fieldLink "java/util/HashMap$TreeNode" (15 : Nat) "java/util/HashMap$TreeNode" "hash" "I") ∈ lw_all := lw_g (lw_at lw_m4 216 rfl) rfl
theorem q1042 : (Jvm.Cond.sameField "java/util/HashMap$TreeNode" "java/util/HashMap$Node" "hash" "I") ∈ lw_all := lw_g (lw_at lw_m4 217 rfl) rfl
theorem q1048 : (Jvm.Cond.fieldLink "java/util/HashMap$TreeNode" (45 : Nat) "java/util/HashMap$TreeNode" "key" "Ljava/lang/Object;") ∈ lw_all := lw_g (lw_at lw_m4 223 rfl) rfl
theorem q1049 : (Jvm.Cond.sameField "java/util/HashMap$TreeNode" "java/util/HashMap$Node" "key" "Ljava/lang/Object;") ∈ lw_all := lw_g (lw_at lw_m4 224 rfl) rfl
theorem q1061 : (Jvm.Cond.fieldLink "java/util/HashMap$TreeNode" (22 : Nat) "java/util/HashMap$TreeNode" "next" "Ljava/util/HashMap$Node;") ∈ lw_all := lw_g (lw_at lw_m4 236 rfl) rfl
theorem q1062 : (Jvm.Cond.sameField "java/util/HashMap$TreeNode" "java/util/HashMap$Node" "next" "Ljava/util/HashMap$Node;") ∈ lw_all := lw_g (lw_at lw_m4 237 rfl) rfl
theorem q1063 : (Jvm.Cond.fieldLink "java/util/HashMap$TreeNode" (112 : Nat) "java/util/HashMap$Node" "next" "Ljava/util/HashMap$Node;") ∈ lw_all := lw_g (lw_at lw_m4 238 rfl) rfl
theorem q1091 : (Jvm.Cond.methodLink "java/util/HashMap$TreeNode" (126 : Nat) ({ cls := "java/util/HashMap$TreeNode", name := "treeify", desc := "([Ljava/util/HashMap$Node;)V" } : Jvm.MethodName)) ∈ lw_all := lw_g (lw_at lw_m5 26 rfl) rfl
theorem q1092 : (Jvm.Cond.instanceMethod ({ cls := "java/util/HashMap$TreeNode", name := "treeify", desc := "([Ljava/util/HashMap$Node;)V" } : Jvm.MethodName)) ∈ lw_all := lw_g (lw_at lw_m5 27 rfl) rfl
theorem q1093 : (Jvm.Cond.selects "java/util/HashMap$TreeNode" ({ cls := "java/util/HashMap$TreeNode", name := "treeify", desc := "([Ljava/util/HashMap$Node;)V" } : Jvm.MethodName) ({ cls := "java/util/HashMap$TreeNode", name := "treeify", desc := "([Ljava/util/HashMap$Node;)V" } : Jvm.MethodName)) ∈ lw_all := lw_g (lw_at lw_m5 28 rfl) rfl
theorem q1094 : (Jvm.Cond.code ({ cls := "java/util/HashMap$TreeNode", name := "treeify", desc := "([Ljava/util/HashMap$Node;)V" } : Jvm.MethodName) prog_69_method_7_code (13 : Nat) (Option.none : Option Jvm.ClassFile.FieldType)) ∈ lw_all := lw_g (lw_at lw_m5 29 rfl) rfl
theorem q1095 : (Jvm.Cond.methodLink "java/util/HashMap$TreeNode" (55 : Nat) ({ cls := "java/util/HashMap", name := "comparableClassFor", desc := "(Ljava/lang/Object;)Ljava/lang/Class;" } : Jvm.MethodName)) ∈ lw_all := lw_g (lw_at lw_m5 30 rfl) rfl
theorem q1135 : (Jvm.Cond.selects "java/util/HashMap$TreeNode" ({ cls := "java/lang/Object", name := "getClass", desc := "()Ljava/lang/Class;" } : Jvm.MethodName) ({ cls := "java/lang/Object", name := "getClass", desc := "()Ljava/lang/Class;" } : Jvm.MethodName)) ∈ lw_all := lw_g (lw_at lw_m5 70 rfl) rfl
theorem q1146 : (Jvm.Cond.methodLink "java/util/HashMap$TreeNode" (59 : Nat) ({ cls := "java/util/HashMap", name := "compareComparables", desc := "(Ljava/lang/Class;Ljava/lang/Object;Ljava/lang/Object;)I" } : Jvm.MethodName)) ∈ lw_all := lw_g (lw_at lw_m5 81 rfl) rfl
theorem q1315 : (Jvm.Cond.methodLink "java/util/HashMap$TreeNode" (100 : Nat) ({ cls := "java/util/HashMap$TreeNode", name := "balanceInsertion", desc := "(Ljava/util/HashMap$TreeNode;Ljava/util/HashMap$TreeNode;)Ljava/util/HashMap$TreeNode;" } : Jvm.MethodName)) ∈ lw_all := lw_g (lw_at lw_m6 10 rfl) rfl
theorem q1316 : (Jvm.Cond.static ({ cls := "java/util/HashMap$TreeNode", name := "balanceInsertion", desc := "(Ljava/util/HashMap$TreeNode;Ljava/util/HashMap$TreeNode;)Ljava/util/HashMap$TreeNode;" } : Jvm.MethodName)) ∈ lw_all := lw_g (lw_at lw_m6 11 rfl) rfl
theorem q1317 : (Jvm.Cond.code ({ cls := "java/util/HashMap$TreeNode", name := "balanceInsertion", desc := "(Ljava/util/HashMap$TreeNode;Ljava/util/HashMap$TreeNode;)Ljava/util/HashMap$TreeNode;" } : Jvm.MethodName) prog_69_method_14_code (6 : Nat) (Option.some (Jvm.ClassFile.FieldType.object "java/util/HashMap$TreeNode"))) ∈ lw_all := lw_g (lw_at lw_m6 12 rfl) rfl
theorem q1318 : (Jvm.Cond.methodLink "java/util/HashMap$TreeNode" (130 : Nat) ({ cls := "java/util/HashMap$TreeNode", name := "rotateLeft", desc := "(Ljava/util/HashMap$TreeNode;Ljava/util/HashMap$TreeNode;)Ljava/util/HashMap$TreeNode;" } : Jvm.MethodName)) ∈ lw_all := lw_g (lw_at lw_m6 13 rfl) rfl
theorem q1319 : (Jvm.Cond.static ({ cls := "java/util/HashMap$TreeNode", name := "rotateLeft", desc := "(Ljava/util/HashMap$TreeNode;Ljava/util/HashMap$TreeNode;)Ljava/util/HashMap$TreeNode;" } : Jvm.MethodName)) ∈ lw_all := lw_g (lw_at lw_m6 14 rfl) rfl
theorem q1320 : (Jvm.Cond.code ({ cls := "java/util/HashMap$TreeNode", name := "rotateLeft", desc := "(Ljava/util/HashMap$TreeNode;Ljava/util/HashMap$TreeNode;)Ljava/util/HashMap$TreeNode;" } : Jvm.MethodName) prog_69_method_12_code (5 : Nat) (Option.some (Jvm.ClassFile.FieldType.object "java/util/HashMap$TreeNode"))) ∈ lw_all := lw_g (lw_at lw_m6 15 rfl) rfl
theorem q1321 : (Jvm.Cond.methodLink "java/util/HashMap$TreeNode" (133 : Nat) ({ cls := "java/util/HashMap$TreeNode", name := "rotateRight", desc := "(Ljava/util/HashMap$TreeNode;Ljava/util/HashMap$TreeNode;)Ljava/util/HashMap$TreeNode;" } : Jvm.MethodName)) ∈ lw_all := lw_g (lw_at lw_m6 16 rfl) rfl
theorem q1322 : (Jvm.Cond.static ({ cls := "java/util/HashMap$TreeNode", name := "rotateRight", desc := "(Ljava/util/HashMap$TreeNode;Ljava/util/HashMap$TreeNode;)Ljava/util/HashMap$TreeNode;" } : Jvm.MethodName)) ∈ lw_all := lw_g (lw_at lw_m6 17 rfl) rfl
theorem q1323 : (Jvm.Cond.code ({ cls := "java/util/HashMap$TreeNode", name := "rotateRight", desc := "(Ljava/util/HashMap$TreeNode;Ljava/util/HashMap$TreeNode;)Ljava/util/HashMap$TreeNode;" } : Jvm.MethodName) prog_69_method_13_code (5 : Nat) (Option.some (Jvm.ClassFile.FieldType.object "java/util/HashMap$TreeNode"))) ∈ lw_all := lw_g (lw_at lw_m6 18 rfl) rfl
theorem q1324 : (Jvm.Cond.methodLink "java/util/HashMap$TreeNode" (104 : Nat) ({ cls := "java/util/HashMap$TreeNode", name := "moveRootToFront", desc := "([Ljava/util/HashMap$Node;Ljava/util/HashMap$TreeNode;)V" } : Jvm.MethodName)) ∈ lw_all := lw_g (lw_at lw_m6 19 rfl) rfl
theorem q1325 : (Jvm.Cond.static ({ cls := "java/util/HashMap$TreeNode", name := "moveRootToFront", desc := "([Ljava/util/HashMap$Node;Ljava/util/HashMap$TreeNode;)V" } : Jvm.MethodName)) ∈ lw_all := lw_g (lw_at lw_m6 20 rfl) rfl
theorem q1326 : (Jvm.Cond.code ({ cls := "java/util/HashMap$TreeNode", name := "moveRootToFront", desc := "([Ljava/util/HashMap$Node;Ljava/util/HashMap$TreeNode;)V" } : Jvm.MethodName) prog_69_method_3_code (7 : Nat) (Option.none : Option Jvm.ClassFile.FieldType)) ∈ lw_all := lw_g (lw_at lw_m6 21 rfl) rfl
theorem q1327 : (Jvm.Cond.fieldLink "java/util/HashMap$TreeNode" (26 : Nat) "java/util/HashMap$TreeNode" "$assertionsDisabled" "Z") ∈ lw_all := lw_g (lw_at lw_m6 22 rfl) rfl
theorem q1328 : (Jvm.Cond.laysStatic "java/util/HashMap$TreeNode" "$assertionsDisabled" "Z") ∈ lw_tbl := lw_at lw_m6 23 rfl
theorem q1395 : (Jvm.Cond.instanceMethod ({ cls := "java/util/HashMap$TreeNode", name := "putTreeVal", desc := "(Ljava/util/HashMap;[Ljava/util/HashMap$Node;ILjava/lang/Object;Ljava/lang/Object;)Ljava/util/HashMap$TreeNode;" } : Jvm.MethodName)) ∈ lw_all := lw_g (lw_at lw_m6 90 rfl) rfl
theorem q1396 : (Jvm.Cond.selects "java/util/HashMap$TreeNode" ({ cls := "java/util/HashMap$TreeNode", name := "putTreeVal", desc := "(Ljava/util/HashMap;[Ljava/util/HashMap$Node;ILjava/lang/Object;Ljava/lang/Object;)Ljava/util/HashMap$TreeNode;" } : Jvm.MethodName) ({ cls := "java/util/HashMap$TreeNode", name := "putTreeVal", desc := "(Ljava/util/HashMap;[Ljava/util/HashMap$Node;ILjava/lang/Object;Ljava/lang/Object;)Ljava/util/HashMap$TreeNode;" } : Jvm.MethodName)) ∈ lw_all := lw_g (lw_at lw_m6 91 rfl) rfl
theorem q1397 : (Jvm.Cond.code ({ cls := "java/util/HashMap$TreeNode", name := "putTreeVal", desc := "(Ljava/util/HashMap;[Ljava/util/HashMap$Node;ILjava/lang/Object;Ljava/lang/Object;)Ljava/util/HashMap$TreeNode;" } : Jvm.MethodName) prog_69_method_9_code (16 : Nat) (Option.some (Jvm.ClassFile.FieldType.object "java/util/HashMap$TreeNode"))) ∈ lw_all := lw_g (lw_at lw_m6 92 rfl) rfl
theorem q1398 : (Jvm.Cond.methodLink "java/util/HashMap$TreeNode" (67 : Nat) ({ cls := "java/util/HashMap$TreeNode", name := "root", desc := "()Ljava/util/HashMap$TreeNode;" } : Jvm.MethodName)) ∈ lw_all := lw_g (lw_at lw_m6 93 rfl) rfl
theorem q1399 : (Jvm.Cond.instanceMethod ({ cls := "java/util/HashMap$TreeNode", name := "root", desc := "()Ljava/util/HashMap$TreeNode;" } : Jvm.MethodName)) ∈ lw_all := lw_g (lw_at lw_m6 94 rfl) rfl
theorem q1400 : (Jvm.Cond.selects "java/util/HashMap$TreeNode" ({ cls := "java/util/HashMap$TreeNode", name := "root", desc := "()Ljava/util/HashMap$TreeNode;" } : Jvm.MethodName) ({ cls := "java/util/HashMap$TreeNode", name := "root", desc := "()Ljava/util/HashMap$TreeNode;" } : Jvm.MethodName)) ∈ lw_all := lw_g (lw_at lw_m6 95 rfl) rfl
theorem q1401 : (Jvm.Cond.code ({ cls := "java/util/HashMap$TreeNode", name := "root", desc := "()Ljava/util/HashMap$TreeNode;" } : Jvm.MethodName) prog_69_method_2_code (3 : Nat) (Option.some (Jvm.ClassFile.FieldType.object "java/util/HashMap$TreeNode"))) ∈ lw_all := lw_g (lw_at lw_m6 96 rfl) rfl
theorem q1402 : (Jvm.Cond.methodLink "java/util/HashMap$TreeNode" (49 : Nat) ({ cls := "java/lang/Object", name := "equals", desc := "(Ljava/lang/Object;)Z" } : Jvm.MethodName)) ∈ lw_all := lw_g (lw_at lw_m6 97 rfl) rfl
theorem q1403 : (Jvm.Cond.methodLink "java/util/HashMap$TreeNode" (63 : Nat) ({ cls := "java/util/HashMap$TreeNode", name := "find", desc := "(ILjava/lang/Object;Ljava/lang/Class;)Ljava/util/HashMap$TreeNode;" } : Jvm.MethodName)) ∈ lw_all := lw_g (lw_at lw_m6 98 rfl) rfl
theorem q1404 : (Jvm.Cond.instanceMethod ({ cls := "java/util/HashMap$TreeNode", name := "find", desc := "(ILjava/lang/Object;Ljava/lang/Class;)Ljava/util/HashMap$TreeNode;" } : Jvm.MethodName)) ∈ lw_all := lw_g (lw_at lw_m6 99 rfl) rfl
theorem q1405 : (Jvm.Cond.selects "java/util/HashMap$TreeNode" ({ cls := "java/util/HashMap$TreeNode", name := "find", desc := "(ILjava/lang/Object;Ljava/lang/Class;)Ljava/util/HashMap$TreeNode;" } : Jvm.MethodName) ({ cls := "java/util/HashMap$TreeNode", name := "find", desc := "(ILjava/lang/Object;Ljava/lang/Class;)Ljava/util/HashMap$TreeNode;" } : Jvm.MethodName)) ∈ lw_all := lw_g (lw_at lw_m6 100 rfl) rfl
theorem q1406 : (Jvm.Cond.code ({ cls := "java/util/HashMap$TreeNode", name := "find", desc := "(ILjava/lang/Object;Ljava/lang/Class;)Ljava/util/HashMap$TreeNode;" } : Jvm.MethodName) prog_69_method_4_code (11 : Nat) (Option.some (Jvm.ClassFile.FieldType.object "java/util/HashMap$TreeNode"))) ∈ lw_all := lw_g (lw_at lw_m6 101 rfl) rfl
theorem q1407 : (Jvm.Cond.methodLink "java/util/HashMap$TreeNode" (115 : Nat) ({ cls := "java/util/HashMap", name := "newTreeNode", desc := "(ILjava/lang/Object;Ljava/lang/Object;Ljava/util/HashMap$Node;)Ljava/util/HashMap$TreeNode;" } : Jvm.MethodName)) ∈ lw_all := lw_g (lw_at lw_m6 102 rfl) rfl
theorem q1415 : (Jvm.Cond.instantiable "java/util/HashMap$TreeNode" (11 : Nat)) ∈ lw_all := lw_g (lw_at lw_m6 110 rfl) rfl
theorem q1417 : (Jvm.Cond.instanceMethod ({ cls := "java/util/HashMap$TreeNode", name := "<init>", desc := "(ILjava/lang/Object;Ljava/lang/Object;Ljava/util/HashMap$Node;)V" } : Jvm.MethodName)) ∈ lw_all := lw_g (lw_at lw_m6 112 rfl) rfl
theorem q1418 : (Jvm.Cond.code ({ cls := "java/util/HashMap$TreeNode", name := "<init>", desc := "(ILjava/lang/Object;Ljava/lang/Object;Ljava/util/HashMap$Node;)V" } : Jvm.MethodName) prog_69_method_1_code (5 : Nat) (Option.none : Option Jvm.ClassFile.FieldType)) ∈ lw_all := lw_g (lw_at lw_m6 113 rfl) rfl
theorem q1419 : (Jvm.Cond.methodLink "java/util/HashMap$TreeNode" (3 : Nat) ({ cls := "java/util/LinkedHashMap$Entry", name := "<init>", desc := "(ILjava/lang/Object;Ljava/lang/Object;Ljava/util/HashMap$Node;)V" } : Jvm.MethodName)) ∈ lw_all := lw_g (lw_at lw_m6 114 rfl) rfl
theorem q1420 : (Jvm.Cond.fieldLink "java/util/HashMap$TreeNode" (9 : Nat) "java/util/HashMap$TreeNode" "parent" "Ljava/util/HashMap$TreeNode;") ∈ lw_all := lw_g (lw_at lw_m6 115 rfl) rfl
theorem q1421 : (Jvm.Cond.fieldLink "java/util/HashMap$TreeNode" (39 : Nat) "java/util/HashMap$TreeNode" "left" "Ljava/util/HashMap$TreeNode;") ∈ lw_all := lw_g (lw_at lw_m6 116 rfl) rfl
theorem q1422 : (Jvm.Cond.fieldLink "java/util/HashMap$TreeNode" (42 : Nat) "java/util/HashMap$TreeNode" "right" "Ljava/util/HashMap$TreeNode;") ∈ lw_all := lw_g (lw_at lw_m6 117 rfl) rfl
theorem q1423 : (Jvm.Cond.fieldLink "java/util/HashMap$TreeNode" (19 : Nat) "java/util/HashMap$TreeNode" "prev" "Ljava/util/HashMap$TreeNode;") ∈ lw_all := lw_g (lw_at lw_m6 118 rfl) rfl
theorem q1425 : (Jvm.Cond.fieldLink "java/util/HashMap$TreeNode" (93 : Nat) "java/util/HashMap$TreeNode" "red" "Z") ∈ lw_all := lw_g (lw_at lw_m6 120 rfl) rfl
theorem q1426 : (Jvm.Cond.lays "java/util/HashMap$TreeNode" "java/util/HashMap$TreeNode" "parent" "Ljava/util/HashMap$TreeNode;") ∈ lw_all := lw_g (lw_at lw_m6 121 rfl) rfl
theorem q1427 : (Jvm.Cond.soleField "java/util/HashMap$TreeNode" "parent") ∈ lw_all := lw_g (lw_at lw_m6 122 rfl) rfl
theorem q1428 : (Jvm.Cond.lays "java/util/HashMap$TreeNode" "java/util/HashMap$TreeNode" "left" "Ljava/util/HashMap$TreeNode;") ∈ lw_all := lw_g (lw_at lw_m6 123 rfl) rfl
theorem q1429 : (Jvm.Cond.soleField "java/util/HashMap$TreeNode" "left") ∈ lw_all := lw_g (lw_at lw_m6 124 rfl) rfl
theorem q1430 : (Jvm.Cond.lays "java/util/HashMap$TreeNode" "java/util/HashMap$TreeNode" "right" "Ljava/util/HashMap$TreeNode;") ∈ lw_all := lw_g (lw_at lw_m6 125 rfl) rfl
theorem q1431 : (Jvm.Cond.soleField "java/util/HashMap$TreeNode" "right") ∈ lw_all := lw_g (lw_at lw_m6 126 rfl) rfl
theorem q1432 : (Jvm.Cond.lays "java/util/HashMap$TreeNode" "java/util/HashMap$TreeNode" "prev" "Ljava/util/HashMap$TreeNode;") ∈ lw_all := lw_g (lw_at lw_m6 127 rfl) rfl
theorem q1433 : (Jvm.Cond.soleField "java/util/HashMap$TreeNode" "prev") ∈ lw_all := lw_g (lw_at lw_m6 128 rfl) rfl
theorem q1434 : (Jvm.Cond.lays "java/util/HashMap$TreeNode" "java/util/HashMap$TreeNode" "red" "Z") ∈ lw_all := lw_g (lw_at lw_m6 129 rfl) rfl
theorem q1435 : (Jvm.Cond.soleField "java/util/HashMap$TreeNode" "red") ∈ lw_all := lw_g (lw_at lw_m6 130 rfl) rfl
theorem q1436 : (Jvm.Cond.lays "java/util/HashMap$TreeNode" "java/util/LinkedHashMap$Entry" "before" "Ljava/util/LinkedHashMap$Entry;") ∈ lw_all := lw_g (lw_at lw_m6 131 rfl) rfl
theorem q1437 : (Jvm.Cond.lays "java/util/HashMap$TreeNode" "java/util/LinkedHashMap$Entry" "after" "Ljava/util/LinkedHashMap$Entry;") ∈ lw_all := lw_g (lw_at lw_m6 132 rfl) rfl
theorem q1438 : (Jvm.Cond.laysFinal "java/util/HashMap$TreeNode" "java/util/HashMap$Node" "hash" "I") ∈ lw_all := lw_g (lw_at lw_m6 133 rfl) rfl
theorem q1439 : (Jvm.Cond.laysFinal "java/util/HashMap$TreeNode" "java/util/HashMap$Node" "key" "Ljava/lang/Object;") ∈ lw_all := lw_g (lw_at lw_m6 134 rfl) rfl
theorem q1440 : (Jvm.Cond.lays "java/util/HashMap$TreeNode" "java/util/HashMap$Node" "value" "Ljava/lang/Object;") ∈ lw_all := lw_g (lw_at lw_m6 135 rfl) rfl
theorem q1441 : (Jvm.Cond.lays "java/util/HashMap$TreeNode" "java/util/HashMap$Node" "next" "Ljava/util/HashMap$Node;") ∈ lw_all := lw_g (lw_at lw_m6 136 rfl) rfl
theorem q1442 : (Jvm.Cond.superclass "java/util/HashMap$TreeNode" "java/util/LinkedHashMap$Entry") ∈ lw_all := lw_g (lw_at lw_m6 137 rfl) rfl
theorem q2072 : (Jvm.Cond.selects "java/util/HashMap$TreeNode" ({ cls := "java/util/LinkedHashMap$Entry", name := "getKey", desc := "()Ljava/lang/Object;" } : Jvm.MethodName) ({ cls := "java/util/HashMap$Node", name := "getKey", desc := "()Ljava/lang/Object;" } : Jvm.MethodName)) ∈ lw_all := lw_g (lw_at lw_m9 47 rfl) rfl
theorem q2105 : (Jvm.Cond.instanceMethod ({ cls := "java/util/HashMap$TreeNode", name := "getTreeNode", desc := "(ILjava/lang/Object;)Ljava/util/HashMap$TreeNode;" } : Jvm.MethodName)) ∈ lw_all := lw_g (lw_at lw_m9 80 rfl) rfl
theorem q2106 : (Jvm.Cond.selects "java/util/HashMap$TreeNode" ({ cls := "java/util/HashMap$TreeNode", name := "getTreeNode", desc := "(ILjava/lang/Object;)Ljava/util/HashMap$TreeNode;" } : Jvm.MethodName) ({ cls := "java/util/HashMap$TreeNode", name := "getTreeNode", desc := "(ILjava/lang/Object;)Ljava/util/HashMap$TreeNode;" } : Jvm.MethodName)) ∈ lw_all := lw_g (lw_at lw_m9 81 rfl) rfl
theorem q2107 : (Jvm.Cond.code ({ cls := "java/util/HashMap$TreeNode", name := "getTreeNode", desc := "(ILjava/lang/Object;)Ljava/util/HashMap$TreeNode;" } : Jvm.MethodName) prog_69_method_5_code (3 : Nat) (Option.some (Jvm.ClassFile.FieldType.object "java/util/HashMap$TreeNode"))) ∈ lw_all := lw_g (lw_at lw_m9 82 rfl) rfl
theorem q3117 : (Jvm.Cond.castable "java/util/HashMap$TreeNode" "java/util/LinkedHashMap$Entry") ∈ lw_tbl := lw_at lw_m13 132 rfl
theorem q3149 : (Jvm.Cond.castable "java/util/HashMap$TreeNode" "java/lang/Object") ∈ lw_tbl := lw_at lw_m13 164 rfl
theorem q3175 : (Jvm.Cond.castable "java/util/HashMap$TreeNode" "java/util/HashMap$Node") ∈ lw_tbl := lw_at lw_m13 190 rfl
theorem in_J17 : ∀ w ∈ wsJ170, w ∈ lw_all := lw_in wsJ170 [1438, 1439, 1440, 1441, 1436, 1437, 1426, 1428, 1430, 1432, 1434] (by decide +kernel) (by decide +kernel)
/-! java/lang/Throwable -/
set_option maxRecDepth 100000
def RJ18 : String := "java/lang/Throwable"
def TJ18 : u_T := fun k => match k with
  | 0 => ("java/lang/Throwable", "cause", "Ljava/lang/Throwable;", false)
  | 1 => ("java/lang/Throwable", "stackTrace", "[Ljava/lang/StackTraceElement;", false)
  | 2 => ("java/lang/Throwable", "suppressedExceptions", "Ljava/util/List;", false)
  | 3 => ("java/lang/Throwable", "detailMessage", "Ljava/lang/String;", false)
  | _ => ("java/lang/Throwable", "backtrace", "Ljava/lang/Object;", false)
def tyJ18 : Nat → FieldType := fun k => match k with
  | 0 => .object "java/lang/Throwable"
  | 1 => .array (.object "java/lang/StackTraceElement")
  | 2 => .object "java/util/List"
  | 3 => .object "java/lang/String"
  | _ => .object "java/lang/Object"
abbrev wsJ180 : List Cond := u_ws RJ18 TJ18 5
theorem nmJ18 : ∀ a, a < 5 → ∀ b, b < 5 → a ≠ b → (TJ18 a).2.1 ≠ (TJ18 b).2.1 := by decide +kernel
theorem tyJ18_ok : ∀ k, k < 5 → parseFieldDescriptor (TJ18 k).2.2.1 = some (tyJ18 k) := by decide +kernel
abbrev cJ18_init : ByteArray := prog_55_method_1_code
def yJ18_init : MethodName := ⟨RJ18, "<init>", "()V"⟩
def dkwJ18_init_1 : List UInt8 := [182, 0, 27, 87, 177]
abbrev dktJ18_init_1 : List UInt8 := dkwJ18_init_1 ++ []
def dkwJ18_init_0 : List UInt8 := [42, 183, 0, 1, 42, 42, 181, 0, 7, 42, 178, 0, 13, 181, 0, 17, 42, 178, 0, 20, 181, 0, 24, 42]
abbrev dktJ18_init_0 : List UInt8 := dkwJ18_init_0 ++ dktJ18_init_1
theorem dksJ18_init_0 : cJ18_init.data.toList.drop 0 = dktJ18_init_0 := by decide +kernel
theorem dksJ18_init_1 : cJ18_init.data.toList.drop 24 = dktJ18_init_1 := dk_seg dksJ18_init_0 24 rfl rfl
theorem dJ18_init_0 : decode cJ18_init 0 = .ok (.aload_n 0, 1) := dk_42 (dk_at dksJ18_init_0 0 rfl rfl)
theorem dJ18_init_1 : decode cJ18_init 1 = .ok (.invokespecial 1, 3) := dk_183 0 1 (dk_at dksJ18_init_0 1 rfl rfl)
theorem dJ18_init_4 : decode cJ18_init 4 = .ok (.aload_n 0, 1) := dk_42 (dk_at dksJ18_init_0 4 rfl rfl)
theorem dJ18_init_5 : decode cJ18_init 5 = .ok (.aload_n 0, 1) := dk_42 (dk_at dksJ18_init_0 5 rfl rfl)
theorem dJ18_init_6 : decode cJ18_init 6 = .ok (.putfield 7, 3) := dk_181 0 7 (dk_at dksJ18_init_0 6 rfl rfl)
theorem dJ18_init_9 : decode cJ18_init 9 = .ok (.aload_n 0, 1) := dk_42 (dk_at dksJ18_init_0 9 rfl rfl)
theorem dJ18_init_10 : decode cJ18_init 10 = .ok (.getstatic 13, 3) := dk_178 0 13 (dk_at dksJ18_init_0 10 rfl rfl)
theorem dJ18_init_13 : decode cJ18_init 13 = .ok (.putfield 17, 3) := dk_181 0 17 (dk_at dksJ18_init_0 13 rfl rfl)
theorem dJ18_init_16 : decode cJ18_init 16 = .ok (.aload_n 0, 1) := dk_42 (dk_at dksJ18_init_0 16 rfl rfl)
theorem dJ18_init_17 : decode cJ18_init 17 = .ok (.getstatic 20, 3) := dk_178 0 20 (dk_at dksJ18_init_0 17 rfl rfl)
theorem dJ18_init_20 : decode cJ18_init 20 = .ok (.putfield 24, 3) := dk_181 0 24 (dk_at dksJ18_init_0 20 rfl rfl)
theorem dJ18_init_23 : decode cJ18_init 23 = .ok (.aload_n 0, 1) := dk_42 (dk_at dksJ18_init_0 23 rfl rfl)
theorem dJ18_init_24 : decode cJ18_init 24 = .ok (.invokevirtual 27, 3) := dk_182 0 27 (dk_at dksJ18_init_1 0 rfl rfl)
theorem dJ18_init_27 : decode cJ18_init 27 = .ok (.pop, 1) := dk_87 (dk_at dksJ18_init_1 3 rfl rfl)
theorem dJ18_init_28 : decode cJ18_init 28 = .ok (.return_, 1) := dk_177 (dk_at dksJ18_init_1 4 rfl rfl)
abbrev cJ18_init_2 : ByteArray := prog_55_method_5_code
def yJ18_init_2 : MethodName := ⟨RJ18, "<init>", "(Ljava/lang/String;Ljava/lang/Throwable;ZZ)V"⟩
def dkwJ18_init_2_2 : List UInt8 := [44, 181, 0, 7, 29, 154, 0, 8, 42, 1, 181, 0, 24, 177]
abbrev dktJ18_init_2_2 : List UInt8 := dkwJ18_init_2_2 ++ []
def dkwJ18_init_2_1 : List UInt8 := [21, 4, 153, 0, 11, 42, 182, 0, 27, 87, 167, 0, 8, 42, 1, 181, 0, 17, 42, 43, 181, 0, 31, 42]
abbrev dktJ18_init_2_1 : List UInt8 := dkwJ18_init_2_1 ++ dktJ18_init_2_2
def dkwJ18_init_2_0 : List UInt8 := [42, 183, 0, 1, 42, 42, 181, 0, 7, 42, 178, 0, 13, 181, 0, 17, 42, 178, 0, 20, 181, 0, 24]
abbrev dktJ18_init_2_0 : List UInt8 := dkwJ18_init_2_0 ++ dktJ18_init_2_1
theorem dksJ18_init_2_0 : cJ18_init_2.data.toList.drop 0 = dktJ18_init_2_0 := by decide +kernel
theorem dksJ18_init_2_1 : cJ18_init_2.data.toList.drop 23 = dktJ18_init_2_1 := dk_seg dksJ18_init_2_0 23 rfl rfl
theorem dksJ18_init_2_2 : cJ18_init_2.data.toList.drop 47 = dktJ18_init_2_2 := dk_seg dksJ18_init_2_1 24 rfl rfl
theorem dJ18_init_2_0 : decode cJ18_init_2 0 = .ok (.aload_n 0, 1) := dk_42 (dk_at dksJ18_init_2_0 0 rfl rfl)
theorem dJ18_init_2_1 : decode cJ18_init_2 1 = .ok (.invokespecial 1, 3) := dk_183 0 1 (dk_at dksJ18_init_2_0 1 rfl rfl)
theorem dJ18_init_2_4 : decode cJ18_init_2 4 = .ok (.aload_n 0, 1) := dk_42 (dk_at dksJ18_init_2_0 4 rfl rfl)
theorem dJ18_init_2_5 : decode cJ18_init_2 5 = .ok (.aload_n 0, 1) := dk_42 (dk_at dksJ18_init_2_0 5 rfl rfl)
theorem dJ18_init_2_6 : decode cJ18_init_2 6 = .ok (.putfield 7, 3) := dk_181 0 7 (dk_at dksJ18_init_2_0 6 rfl rfl)
theorem dJ18_init_2_9 : decode cJ18_init_2 9 = .ok (.aload_n 0, 1) := dk_42 (dk_at dksJ18_init_2_0 9 rfl rfl)
theorem dJ18_init_2_10 : decode cJ18_init_2 10 = .ok (.getstatic 13, 3) := dk_178 0 13 (dk_at dksJ18_init_2_0 10 rfl rfl)
theorem dJ18_init_2_13 : decode cJ18_init_2 13 = .ok (.putfield 17, 3) := dk_181 0 17 (dk_at dksJ18_init_2_0 13 rfl rfl)
theorem dJ18_init_2_16 : decode cJ18_init_2 16 = .ok (.aload_n 0, 1) := dk_42 (dk_at dksJ18_init_2_0 16 rfl rfl)
theorem dJ18_init_2_17 : decode cJ18_init_2 17 = .ok (.getstatic 20, 3) := dk_178 0 20 (dk_at dksJ18_init_2_0 17 rfl rfl)
theorem dJ18_init_2_20 : decode cJ18_init_2 20 = .ok (.putfield 24, 3) := dk_181 0 24 (dk_at dksJ18_init_2_0 20 rfl rfl)
theorem dJ18_init_2_23 : decode cJ18_init_2 23 = .ok (.iload 4, 2) := dk_21 4 (dk_at dksJ18_init_2_1 0 rfl rfl)
theorem dJ18_init_2_25 : decode cJ18_init_2 25 = .ok (.ifCond .eq 11, 3) := dk_153 0 11 (dk_at dksJ18_init_2_1 2 rfl rfl)
theorem dJ18_init_2_28 : decode cJ18_init_2 28 = .ok (.aload_n 0, 1) := dk_42 (dk_at dksJ18_init_2_1 5 rfl rfl)
theorem dJ18_init_2_29 : decode cJ18_init_2 29 = .ok (.invokevirtual 27, 3) := dk_182 0 27 (dk_at dksJ18_init_2_1 6 rfl rfl)
theorem dJ18_init_2_32 : decode cJ18_init_2 32 = .ok (.pop, 1) := dk_87 (dk_at dksJ18_init_2_1 9 rfl rfl)
theorem dJ18_init_2_33 : decode cJ18_init_2 33 = .ok (.goto 8, 3) := dk_167 0 8 (dk_at dksJ18_init_2_1 10 rfl rfl)
theorem dJ18_init_2_36 : decode cJ18_init_2 36 = .ok (.aload_n 0, 1) := dk_42 (dk_at dksJ18_init_2_1 13 rfl rfl)
theorem dJ18_init_2_37 : decode cJ18_init_2 37 = .ok (.aconst_null, 1) := dk_1 (dk_at dksJ18_init_2_1 14 rfl rfl)
theorem dJ18_init_2_38 : decode cJ18_init_2 38 = .ok (.putfield 17, 3) := dk_181 0 17 (dk_at dksJ18_init_2_1 15 rfl rfl)
theorem dJ18_init_2_41 : decode cJ18_init_2 41 = .ok (.aload_n 0, 1) := dk_42 (dk_at dksJ18_init_2_1 18 rfl rfl)
theorem dJ18_init_2_42 : decode cJ18_init_2 42 = .ok (.aload_n 1, 1) := dk_43 (dk_at dksJ18_init_2_1 19 rfl rfl)
theorem dJ18_init_2_43 : decode cJ18_init_2 43 = .ok (.putfield 31, 3) := dk_181 0 31 (dk_at dksJ18_init_2_1 20 rfl rfl)
theorem dJ18_init_2_46 : decode cJ18_init_2 46 = .ok (.aload_n 0, 1) := dk_42 (dk_at dksJ18_init_2_1 23 rfl rfl)
theorem dJ18_init_2_47 : decode cJ18_init_2 47 = .ok (.aload_n 2, 1) := dk_44 (dk_at dksJ18_init_2_2 0 rfl rfl)
theorem dJ18_init_2_48 : decode cJ18_init_2 48 = .ok (.putfield 7, 3) := dk_181 0 7 (dk_at dksJ18_init_2_2 1 rfl rfl)
theorem dJ18_init_2_51 : decode cJ18_init_2 51 = .ok (.iload_n 3, 1) := dk_29 (dk_at dksJ18_init_2_2 4 rfl rfl)
theorem dJ18_init_2_52 : decode cJ18_init_2 52 = .ok (.ifCond .ne 8, 3) := dk_154 0 8 (dk_at dksJ18_init_2_2 5 rfl rfl)
theorem dJ18_init_2_55 : decode cJ18_init_2 55 = .ok (.aload_n 0, 1) := dk_42 (dk_at dksJ18_init_2_2 8 rfl rfl)
theorem dJ18_init_2_56 : decode cJ18_init_2 56 = .ok (.aconst_null, 1) := dk_1 (dk_at dksJ18_init_2_2 9 rfl rfl)
theorem dJ18_init_2_57 : decode cJ18_init_2 57 = .ok (.putfield 24, 3) := dk_181 0 24 (dk_at dksJ18_init_2_2 10 rfl rfl)
theorem dJ18_init_2_60 : decode cJ18_init_2 60 = .ok (.return_, 1) := dk_177 (dk_at dksJ18_init_2_2 13 rfl rfl)
abbrev cJ18_init_3 : ByteArray := prog_55_method_2_code
def yJ18_init_3 : MethodName := ⟨RJ18, "<init>", "(Ljava/lang/String;)V"⟩
def dkwJ18_init_3_1 : List UInt8 := [182, 0, 27, 87, 42, 43, 181, 0, 31, 177]
abbrev dktJ18_init_3_1 : List UInt8 := dkwJ18_init_3_1 ++ []
def dkwJ18_init_3_0 : List UInt8 := [42, 183, 0, 1, 42, 42, 181, 0, 7, 42, 178, 0, 13, 181, 0, 17, 42, 178, 0, 20, 181, 0, 24, 42]
abbrev dktJ18_init_3_0 : List UInt8 := dkwJ18_init_3_0 ++ dktJ18_init_3_1
theorem dksJ18_init_3_0 : cJ18_init_3.data.toList.drop 0 = dktJ18_init_3_0 := by decide +kernel
theorem dksJ18_init_3_1 : cJ18_init_3.data.toList.drop 24 = dktJ18_init_3_1 := dk_seg dksJ18_init_3_0 24 rfl rfl
theorem dJ18_init_3_0 : decode cJ18_init_3 0 = .ok (.aload_n 0, 1) := dk_42 (dk_at dksJ18_init_3_0 0 rfl rfl)
theorem dJ18_init_3_1 : decode cJ18_init_3 1 = .ok (.invokespecial 1, 3) := dk_183 0 1 (dk_at dksJ18_init_3_0 1 rfl rfl)
theorem dJ18_init_3_4 : decode cJ18_init_3 4 = .ok (.aload_n 0, 1) := dk_42 (dk_at dksJ18_init_3_0 4 rfl rfl)
theorem dJ18_init_3_5 : decode cJ18_init_3 5 = .ok (.aload_n 0, 1) := dk_42 (dk_at dksJ18_init_3_0 5 rfl rfl)
theorem dJ18_init_3_6 : decode cJ18_init_3 6 = .ok (.putfield 7, 3) := dk_181 0 7 (dk_at dksJ18_init_3_0 6 rfl rfl)
theorem dJ18_init_3_9 : decode cJ18_init_3 9 = .ok (.aload_n 0, 1) := dk_42 (dk_at dksJ18_init_3_0 9 rfl rfl)
theorem dJ18_init_3_10 : decode cJ18_init_3 10 = .ok (.getstatic 13, 3) := dk_178 0 13 (dk_at dksJ18_init_3_0 10 rfl rfl)
theorem dJ18_init_3_13 : decode cJ18_init_3 13 = .ok (.putfield 17, 3) := dk_181 0 17 (dk_at dksJ18_init_3_0 13 rfl rfl)
theorem dJ18_init_3_16 : decode cJ18_init_3 16 = .ok (.aload_n 0, 1) := dk_42 (dk_at dksJ18_init_3_0 16 rfl rfl)
theorem dJ18_init_3_17 : decode cJ18_init_3 17 = .ok (.getstatic 20, 3) := dk_178 0 20 (dk_at dksJ18_init_3_0 17 rfl rfl)
theorem dJ18_init_3_20 : decode cJ18_init_3 20 = .ok (.putfield 24, 3) := dk_181 0 24 (dk_at dksJ18_init_3_0 20 rfl rfl)
theorem dJ18_init_3_23 : decode cJ18_init_3 23 = .ok (.aload_n 0, 1) := dk_42 (dk_at dksJ18_init_3_0 23 rfl rfl)
theorem dJ18_init_3_24 : decode cJ18_init_3 24 = .ok (.invokevirtual 27, 3) := dk_182 0 27 (dk_at dksJ18_init_3_1 0 rfl rfl)
theorem dJ18_init_3_27 : decode cJ18_init_3 27 = .ok (.pop, 1) := dk_87 (dk_at dksJ18_init_3_1 3 rfl rfl)
theorem dJ18_init_3_28 : decode cJ18_init_3 28 = .ok (.aload_n 0, 1) := dk_42 (dk_at dksJ18_init_3_1 4 rfl rfl)
theorem dJ18_init_3_29 : decode cJ18_init_3 29 = .ok (.aload_n 1, 1) := dk_43 (dk_at dksJ18_init_3_1 5 rfl rfl)
theorem dJ18_init_3_30 : decode cJ18_init_3 30 = .ok (.putfield 31, 3) := dk_181 0 31 (dk_at dksJ18_init_3_1 6 rfl rfl)
theorem dJ18_init_3_33 : decode cJ18_init_3 33 = .ok (.return_, 1) := dk_177 (dk_at dksJ18_init_3_1 9 rfl rfl)
theorem q142 : (Jvm.Cond.initialized "java/lang/Throwable") ∈ lw_all := lw_g (lw_at lw_m1 37 rfl) rfl
theorem q1631 : (Jvm.Cond.declares ({ cls := "java/lang/Throwable", name := "<init>", desc := "()V" } : Jvm.MethodName)) ∈ lw_tbl := lw_at lw_m7 86 rfl
theorem q1632 : (Jvm.Cond.declares ({ cls := "java/lang/Throwable", name := "<init>", desc := "(Ljava/lang/String;)V" } : Jvm.MethodName)) ∈ lw_tbl := lw_at lw_m7 87 rfl
theorem q1636 : (Jvm.Cond.lays "java/lang/Throwable" "java/lang/Throwable" "cause" "Ljava/lang/Throwable;") ∈ lw_all := lw_g (lw_at lw_m7 91 rfl) rfl
theorem q1638 : (Jvm.Cond.lays "java/lang/Throwable" "java/lang/Throwable" "stackTrace" "[Ljava/lang/StackTraceElement;") ∈ lw_all := lw_g (lw_at lw_m7 93 rfl) rfl
theorem q1640 : (Jvm.Cond.lays "java/lang/Throwable" "java/lang/Throwable" "suppressedExceptions" "Ljava/util/List;") ∈ lw_all := lw_g (lw_at lw_m7 95 rfl) rfl
theorem q1642 : (Jvm.Cond.lays "java/lang/Throwable" "java/lang/Throwable" "detailMessage" "Ljava/lang/String;") ∈ lw_all := lw_g (lw_at lw_m7 97 rfl) rfl
theorem q1644 : (Jvm.Cond.lays "java/lang/Throwable" "java/lang/Throwable" "backtrace" "Ljava/lang/Object;") ∈ lw_all := lw_g (lw_at lw_m7 99 rfl) rfl
theorem q1645 : (Jvm.Cond.fieldLink "java/lang/Throwable" (198 : Nat) "java/lang/Throwable" "backtrace" "Ljava/lang/Object;") ∈ lw_all := lw_g (lw_at lw_m7 100 rfl) rfl
theorem q1646 : (Jvm.Cond.superclass "java/lang/Throwable" "java/lang/Object") ∈ lw_all := lw_g (lw_at lw_m7 101 rfl) rfl
theorem q1647 : (Jvm.Cond.instanceMethod ({ cls := "java/lang/Throwable", name := "<init>", desc := "()V" } : Jvm.MethodName)) ∈ lw_all := lw_g (lw_at lw_m7 102 rfl) rfl
theorem q1648 : (Jvm.Cond.code ({ cls := "java/lang/Throwable", name := "<init>", desc := "()V" } : Jvm.MethodName) prog_55_method_1_code (1 : Nat) (Option.none : Option Jvm.ClassFile.FieldType)) ∈ lw_all := lw_g (lw_at lw_m7 103 rfl) rfl
theorem q1649 : (Jvm.Cond.methodLink "java/lang/Throwable" (1 : Nat) ({ cls := "java/lang/Object", name := "<init>", desc := "()V" } : Jvm.MethodName)) ∈ lw_all := lw_g (lw_at lw_m7 104 rfl) rfl
theorem q1650 : (Jvm.Cond.fieldLink "java/lang/Throwable" (13 : Nat) "java/lang/Throwable" "UNASSIGNED_STACK" "[Ljava/lang/StackTraceElement;") ∈ lw_all := lw_g (lw_at lw_m7 105 rfl) rfl
theorem q1651 : (Jvm.Cond.laysStatic "java/lang/Throwable" "UNASSIGNED_STACK" "[Ljava/lang/StackTraceElement;") ∈ lw_tbl := lw_at lw_m7 106 rfl
theorem q1652 : (Jvm.Cond.fieldLink "java/lang/Throwable" (20 : Nat) "java/lang/Throwable" "SUPPRESSED_SENTINEL" "Ljava/util/List;") ∈ lw_all := lw_g (lw_at lw_m7 107 rfl) rfl
theorem q1653 : (Jvm.Cond.laysStatic "java/lang/Throwable" "SUPPRESSED_SENTINEL" "Ljava/util/List;") ∈ lw_tbl := lw_at lw_m7 108 rfl
theorem q1654 : (Jvm.Cond.methodLink "java/lang/Throwable" (27 : Nat) ({ cls := "java/lang/Throwable", name := "fillInStackTrace", desc := "()Ljava/lang/Throwable;" } : Jvm.MethodName)) ∈ lw_all := lw_g (lw_at lw_m7 109 rfl) rfl
theorem q1655 : (Jvm.Cond.instanceMethod ({ cls := "java/lang/Throwable", name := "fillInStackTrace", desc := "()Ljava/lang/Throwable;" } : Jvm.MethodName)) ∈ lw_all := lw_g (lw_at lw_m7 110 rfl) rfl
theorem q1656 : (Jvm.Cond.sameMethod "java/lang/Throwable" "java/lang/Throwable" "fillInStackTrace" "()Ljava/lang/Throwable;") ∈ lw_all := lw_g (lw_at lw_m7 111 rfl) rfl
theorem q1672 : (Jvm.Cond.declares ({ cls := "java/lang/Throwable", name := "fillInStackTrace", desc := "()Ljava/lang/Throwable;" } : Jvm.MethodName)) ∈ lw_tbl := lw_at lw_m7 127 rfl
theorem q1676 : (Jvm.Cond.codeSync ({ cls := "java/lang/Throwable", name := "fillInStackTrace", desc := "()Ljava/lang/Throwable;" } : Jvm.MethodName) prog_55_method_18_code (1 : Nat) (Option.some (Jvm.ClassFile.FieldType.object "java/lang/Throwable"))) ∈ lw_all := lw_g (lw_at lw_m7 131 rfl) rfl
theorem q1677 : (Jvm.Cond.methodLink "java/lang/Throwable" (202 : Nat) ({ cls := "java/lang/Throwable", name := "fillInStackTrace", desc := "(I)Ljava/lang/Throwable;" } : Jvm.MethodName)) ∈ lw_all := lw_g (lw_at lw_m7 132 rfl) rfl
theorem q1678 : (Jvm.Cond.privateMethod ({ cls := "java/lang/Throwable", name := "fillInStackTrace", desc := "(I)Ljava/lang/Throwable;" } : Jvm.MethodName)) ∈ lw_tbl := lw_at lw_m7 133 rfl
theorem q1679 : (Jvm.Cond.instanceMethod ({ cls := "java/lang/Throwable", name := "fillInStackTrace", desc := "(I)Ljava/lang/Throwable;" } : Jvm.MethodName)) ∈ lw_all := lw_g (lw_at lw_m7 134 rfl) rfl
theorem q1680 : (Jvm.Cond.instantiable "java/lang/Throwable" (6 : Nat)) ∈ lw_all := lw_g (lw_at lw_m7 135 rfl) rfl
theorem q1681 : (Jvm.Cond.native ({ cls := "java/lang/Throwable", name := "fillInStackTrace", desc := "(I)Ljava/lang/Throwable;" } : Jvm.MethodName)) ∈ lw_all := lw_g (lw_at lw_m7 136 rfl) rfl
theorem q1689 : (Jvm.Cond.instanceMethod ({ cls := "java/lang/Throwable", name := "<init>", desc := "(Ljava/lang/String;Ljava/lang/Throwable;ZZ)V" } : Jvm.MethodName)) ∈ lw_all := lw_g (lw_at lw_m7 144 rfl) rfl
theorem q1690 : (Jvm.Cond.code ({ cls := "java/lang/Throwable", name := "<init>", desc := "(Ljava/lang/String;Ljava/lang/Throwable;ZZ)V" } : Jvm.MethodName) prog_55_method_5_code (5 : Nat) (Option.none : Option Jvm.ClassFile.FieldType)) ∈ lw_all := lw_g (lw_at lw_m7 145 rfl) rfl
theorem q1693 : (Jvm.Cond.fieldLink "java/lang/Throwable" (198 : Nat) "java/lang/Throwable" "backtrace" "Ljava/lang/Object;") ∈ lw_all := lw_g (lw_at lw_m7 148 rfl) rfl
theorem q1694 : (Jvm.Cond.fieldLink "java/lang/Throwable" (31 : Nat) "java/lang/Throwable" "detailMessage" "Ljava/lang/String;") ∈ lw_all := lw_g (lw_at lw_m7 149 rfl) rfl
theorem q1695 : (Jvm.Cond.fieldLink "java/lang/Throwable" (7 : Nat) "java/lang/Throwable" "cause" "Ljava/lang/Throwable;") ∈ lw_all := lw_g (lw_at lw_m7 150 rfl) rfl
theorem q1696 : (Jvm.Cond.fieldLink "java/lang/Throwable" (17 : Nat) "java/lang/Throwable" "stackTrace" "[Ljava/lang/StackTraceElement;") ∈ lw_all := lw_g (lw_at lw_m7 151 rfl) rfl
theorem q1697 : (Jvm.Cond.fieldLink "java/lang/Throwable" (24 : Nat) "java/lang/Throwable" "suppressedExceptions" "Ljava/util/List;") ∈ lw_all := lw_g (lw_at lw_m7 152 rfl) rfl
theorem q1700 : (Jvm.Cond.soleField "java/lang/Throwable" "backtrace") ∈ lw_all := lw_g (lw_at lw_m7 155 rfl) rfl
theorem q1701 : (Jvm.Cond.soleField "java/lang/Throwable" "detailMessage") ∈ lw_all := lw_g (lw_at lw_m7 156 rfl) rfl
theorem q1702 : (Jvm.Cond.soleField "java/lang/Throwable" "cause") ∈ lw_all := lw_g (lw_at lw_m7 157 rfl) rfl
theorem q1703 : (Jvm.Cond.soleField "java/lang/Throwable" "stackTrace") ∈ lw_all := lw_g (lw_at lw_m7 158 rfl) rfl
theorem q1705 : (Jvm.Cond.soleField "java/lang/Throwable" "depth") ∈ lw_all := lw_g (lw_at lw_m7 160 rfl) rfl
theorem q1706 : (Jvm.Cond.soleField "java/lang/Throwable" "suppressedExceptions") ∈ lw_all := lw_g (lw_at lw_m7 161 rfl) rfl
theorem q1758 : (Jvm.Cond.instanceMethod ({ cls := "java/lang/Throwable", name := "<init>", desc := "(Ljava/lang/String;)V" } : Jvm.MethodName)) ∈ lw_all := lw_g (lw_at lw_m7 213 rfl) rfl
theorem q1759 : (Jvm.Cond.code ({ cls := "java/lang/Throwable", name := "<init>", desc := "(Ljava/lang/String;)V" } : Jvm.MethodName) prog_55_method_2_code (2 : Nat) (Option.none : Option Jvm.ClassFile.FieldType)) ∈ lw_all := lw_g (lw_at lw_m7 214 rfl) rfl
theorem q3111 : (Jvm.Cond.sameMethod "java/lang/Throwable" "java/lang/Throwable" "fillInStackTrace" "(I)Ljava/lang/Throwable;") ∈ lw_all := lw_g (lw_at lw_m13 126 rfl) rfl
theorem q3172 : (Jvm.Cond.castable "java/lang/Throwable" "java/lang/Object") ∈ lw_tbl := lw_at lw_m13 187 rfl
theorem in_J18 : ∀ w ∈ wsJ180, w ∈ lw_all := lw_in wsJ180 [1636, 1638, 1640, 1642, 1644] (by decide +kernel) (by decide +kernel)
/-! java/lang/Exception -/
set_option maxRecDepth 100000
def RJ19 : String := "java/lang/Exception"
abbrev cJ19_init : ByteArray := prog_39_method_5_code
def yJ19_init : MethodName := ⟨RJ19, "<init>", "(Ljava/lang/String;Ljava/lang/Throwable;ZZ)V"⟩
def dkwJ19_init_0 : List UInt8 := [42, 43, 44, 29, 21, 4, 183, 0, 16, 177]
abbrev dktJ19_init_0 : List UInt8 := dkwJ19_init_0 ++ []
theorem dksJ19_init_0 : cJ19_init.data.toList.drop 0 = dktJ19_init_0 := by decide +kernel
theorem dJ19_init_0 : decode cJ19_init 0 = .ok (.aload_n 0, 1) := dk_42 (dk_at dksJ19_init_0 0 rfl rfl)
theorem dJ19_init_1 : decode cJ19_init 1 = .ok (.aload_n 1, 1) := dk_43 (dk_at dksJ19_init_0 1 rfl rfl)
theorem dJ19_init_2 : decode cJ19_init 2 = .ok (.aload_n 2, 1) := dk_44 (dk_at dksJ19_init_0 2 rfl rfl)
theorem dJ19_init_3 : decode cJ19_init 3 = .ok (.iload_n 3, 1) := dk_29 (dk_at dksJ19_init_0 3 rfl rfl)
theorem dJ19_init_4 : decode cJ19_init 4 = .ok (.iload 4, 2) := dk_21 4 (dk_at dksJ19_init_0 4 rfl rfl)
theorem dJ19_init_6 : decode cJ19_init 6 = .ok (.invokespecial 16, 3) := dk_183 0 16 (dk_at dksJ19_init_0 6 rfl rfl)
theorem dJ19_init_9 : decode cJ19_init 9 = .ok (.return_, 1) := dk_177 (dk_at dksJ19_init_0 9 rfl rfl)
abbrev cJ19_init_2 : ByteArray := prog_39_method_2_code
def yJ19_init_2 : MethodName := ⟨RJ19, "<init>", "(Ljava/lang/String;)V"⟩
def dkwJ19_init_2_0 : List UInt8 := [42, 43, 183, 0, 7, 177]
abbrev dktJ19_init_2_0 : List UInt8 := dkwJ19_init_2_0 ++ []
theorem dksJ19_init_2_0 : cJ19_init_2.data.toList.drop 0 = dktJ19_init_2_0 := by decide +kernel
theorem dJ19_init_2_0 : decode cJ19_init_2 0 = .ok (.aload_n 0, 1) := dk_42 (dk_at dksJ19_init_2_0 0 rfl rfl)
theorem dJ19_init_2_1 : decode cJ19_init_2 1 = .ok (.aload_n 1, 1) := dk_43 (dk_at dksJ19_init_2_0 1 rfl rfl)
theorem dJ19_init_2_2 : decode cJ19_init_2 2 = .ok (.invokespecial 7, 3) := dk_183 0 7 (dk_at dksJ19_init_2_0 2 rfl rfl)
theorem dJ19_init_2_5 : decode cJ19_init_2 5 = .ok (.return_, 1) := dk_177 (dk_at dksJ19_init_2_0 5 rfl rfl)
abbrev cJ19_init_3 : ByteArray := prog_39_method_1_code
def yJ19_init_3 : MethodName := ⟨RJ19, "<init>", "()V"⟩
theorem dJ19_init_3_0 : decode cJ19_init_3 0 = .ok (.aload_n 0, 1) := by decide +kernel
theorem dJ19_init_3_1 : decode cJ19_init_3 1 = .ok (.invokespecial 1, 3) := by decide +kernel
theorem dJ19_init_3_4 : decode cJ19_init_3 4 = .ok (.return_, 1) := by decide +kernel
theorem q143 : (Jvm.Cond.initialized "java/lang/Exception") ∈ lw_all := lw_g (lw_at lw_m1 38 rfl) rfl
theorem q1629 : (Jvm.Cond.declares ({ cls := "java/lang/Exception", name := "<init>", desc := "()V" } : Jvm.MethodName)) ∈ lw_tbl := lw_at lw_m7 84 rfl
theorem q1630 : (Jvm.Cond.declares ({ cls := "java/lang/Exception", name := "<init>", desc := "(Ljava/lang/String;)V" } : Jvm.MethodName)) ∈ lw_tbl := lw_at lw_m7 85 rfl
theorem q1675 : (Jvm.Cond.superclass "java/lang/Exception" "java/lang/Throwable") ∈ lw_all := lw_g (lw_at lw_m7 130 rfl) rfl
theorem q1686 : (Jvm.Cond.instanceMethod ({ cls := "java/lang/Exception", name := "<init>", desc := "(Ljava/lang/String;Ljava/lang/Throwable;ZZ)V" } : Jvm.MethodName)) ∈ lw_all := lw_g (lw_at lw_m7 141 rfl) rfl
theorem q1687 : (Jvm.Cond.code ({ cls := "java/lang/Exception", name := "<init>", desc := "(Ljava/lang/String;Ljava/lang/Throwable;ZZ)V" } : Jvm.MethodName) prog_39_method_5_code (5 : Nat) (Option.none : Option Jvm.ClassFile.FieldType)) ∈ lw_all := lw_g (lw_at lw_m7 142 rfl) rfl
theorem q1688 : (Jvm.Cond.methodLink "java/lang/Exception" (16 : Nat) ({ cls := "java/lang/Throwable", name := "<init>", desc := "(Ljava/lang/String;Ljava/lang/Throwable;ZZ)V" } : Jvm.MethodName)) ∈ lw_all := lw_g (lw_at lw_m7 143 rfl) rfl
theorem q1755 : (Jvm.Cond.instanceMethod ({ cls := "java/lang/Exception", name := "<init>", desc := "(Ljava/lang/String;)V" } : Jvm.MethodName)) ∈ lw_all := lw_g (lw_at lw_m7 210 rfl) rfl
theorem q1756 : (Jvm.Cond.code ({ cls := "java/lang/Exception", name := "<init>", desc := "(Ljava/lang/String;)V" } : Jvm.MethodName) prog_39_method_2_code (2 : Nat) (Option.none : Option Jvm.ClassFile.FieldType)) ∈ lw_all := lw_g (lw_at lw_m7 211 rfl) rfl
theorem q1757 : (Jvm.Cond.methodLink "java/lang/Exception" (7 : Nat) ({ cls := "java/lang/Throwable", name := "<init>", desc := "(Ljava/lang/String;)V" } : Jvm.MethodName)) ∈ lw_all := lw_g (lw_at lw_m7 212 rfl) rfl
theorem q2424 : (Jvm.Cond.instanceMethod ({ cls := "java/lang/Exception", name := "<init>", desc := "()V" } : Jvm.MethodName)) ∈ lw_all := lw_g (lw_at lw_m10 159 rfl) rfl
theorem q2425 : (Jvm.Cond.code ({ cls := "java/lang/Exception", name := "<init>", desc := "()V" } : Jvm.MethodName) prog_39_method_1_code (1 : Nat) (Option.none : Option Jvm.ClassFile.FieldType)) ∈ lw_all := lw_g (lw_at lw_m10 160 rfl) rfl
theorem q2426 : (Jvm.Cond.methodLink "java/lang/Exception" (1 : Nat) ({ cls := "java/lang/Throwable", name := "<init>", desc := "()V" } : Jvm.MethodName)) ∈ lw_all := lw_g (lw_at lw_m10 161 rfl) rfl
/-! java/lang/RuntimeException -/
set_option maxRecDepth 100000
def RJ20 : String := "java/lang/RuntimeException"
abbrev cJ20_init : ByteArray := prog_49_method_2_code
def yJ20_init : MethodName := ⟨RJ20, "<init>", "(Ljava/lang/String;)V"⟩
def dkwJ20_init_0 : List UInt8 := [42, 43, 183, 0, 7, 177]
abbrev dktJ20_init_0 : List UInt8 := dkwJ20_init_0 ++ []
theorem dksJ20_init_0 : cJ20_init.data.toList.drop 0 = dktJ20_init_0 := by decide +kernel
theorem dJ20_init_0 : decode cJ20_init 0 = .ok (.aload_n 0, 1) := dk_42 (dk_at dksJ20_init_0 0 rfl rfl)
theorem dJ20_init_1 : decode cJ20_init 1 = .ok (.aload_n 1, 1) := dk_43 (dk_at dksJ20_init_0 1 rfl rfl)
theorem dJ20_init_2 : decode cJ20_init 2 = .ok (.invokespecial 7, 3) := dk_183 0 7 (dk_at dksJ20_init_0 2 rfl rfl)
theorem dJ20_init_5 : decode cJ20_init 5 = .ok (.return_, 1) := dk_177 (dk_at dksJ20_init_0 5 rfl rfl)
abbrev cJ20_init_2 : ByteArray := prog_49_method_1_code
def yJ20_init_2 : MethodName := ⟨RJ20, "<init>", "()V"⟩
theorem dJ20_init_2_0 : decode cJ20_init_2 0 = .ok (.aload_n 0, 1) := by decide +kernel
theorem dJ20_init_2_1 : decode cJ20_init_2 1 = .ok (.invokespecial 1, 3) := by decide +kernel
theorem dJ20_init_2_4 : decode cJ20_init_2 4 = .ok (.return_, 1) := by decide +kernel
theorem q145 : (Jvm.Cond.initialized "java/lang/RuntimeException") ∈ lw_all := lw_g (lw_at lw_m1 40 rfl) rfl
theorem q1671 : (Jvm.Cond.sameMethod "java/lang/RuntimeException" "java/lang/Throwable" "fillInStackTrace" "()Ljava/lang/Throwable;") ∈ lw_all := lw_g (lw_at lw_m7 126 rfl) rfl
theorem q1674 : (Jvm.Cond.superclass "java/lang/RuntimeException" "java/lang/Exception") ∈ lw_all := lw_g (lw_at lw_m7 129 rfl) rfl
theorem q1752 : (Jvm.Cond.instanceMethod ({ cls := "java/lang/RuntimeException", name := "<init>", desc := "(Ljava/lang/String;)V" } : Jvm.MethodName)) ∈ lw_all := lw_g (lw_at lw_m7 207 rfl) rfl
theorem q1753 : (Jvm.Cond.code ({ cls := "java/lang/RuntimeException", name := "<init>", desc := "(Ljava/lang/String;)V" } : Jvm.MethodName) prog_49_method_2_code (2 : Nat) (Option.none : Option Jvm.ClassFile.FieldType)) ∈ lw_all := lw_g (lw_at lw_m7 208 rfl) rfl
theorem q1754 : (Jvm.Cond.methodLink "java/lang/RuntimeException" (7 : Nat) ({ cls := "java/lang/Exception", name := "<init>", desc := "(Ljava/lang/String;)V" } : Jvm.MethodName)) ∈ lw_all := lw_g (lw_at lw_m7 209 rfl) rfl
theorem q1770 : (Jvm.Cond.declares ({ cls := "java/lang/RuntimeException", name := "<init>", desc := "()V" } : Jvm.MethodName)) ∈ lw_tbl := lw_at lw_m7 225 rfl
theorem q1771 : (Jvm.Cond.declares ({ cls := "java/lang/RuntimeException", name := "<init>", desc := "(Ljava/lang/String;)V" } : Jvm.MethodName)) ∈ lw_tbl := lw_at lw_m7 226 rfl
theorem q2421 : (Jvm.Cond.instanceMethod ({ cls := "java/lang/RuntimeException", name := "<init>", desc := "()V" } : Jvm.MethodName)) ∈ lw_all := lw_g (lw_at lw_m10 156 rfl) rfl
theorem q2422 : (Jvm.Cond.code ({ cls := "java/lang/RuntimeException", name := "<init>", desc := "()V" } : Jvm.MethodName) prog_49_method_1_code (1 : Nat) (Option.none : Option Jvm.ClassFile.FieldType)) ∈ lw_all := lw_g (lw_at lw_m10 157 rfl) rfl
theorem q2423 : (Jvm.Cond.methodLink "java/lang/RuntimeException" (1 : Nat) ({ cls := "java/lang/Exception", name := "<init>", desc := "()V" } : Jvm.MethodName)) ∈ lw_all := lw_g (lw_at lw_m10 158 rfl) rfl
theorem q2441 : (Jvm.Cond.castable "java/lang/RuntimeException" "java/lang/Throwable") ∈ lw_tbl := lw_at lw_m10 176 rfl
/-! java/lang/IndexOutOfBoundsException -/
set_option maxRecDepth 100000
def RJ21 : String := "java/lang/IndexOutOfBoundsException"
abbrev cJ21_init : ByteArray := prog_40_method_2_code
def yJ21_init : MethodName := ⟨RJ21, "<init>", "(Ljava/lang/String;)V"⟩
def dkwJ21_init_0 : List UInt8 := [42, 43, 183, 0, 7, 177]
abbrev dktJ21_init_0 : List UInt8 := dkwJ21_init_0 ++ []
theorem dksJ21_init_0 : cJ21_init.data.toList.drop 0 = dktJ21_init_0 := by decide +kernel
theorem dJ21_init_0 : decode cJ21_init 0 = .ok (.aload_n 0, 1) := dk_42 (dk_at dksJ21_init_0 0 rfl rfl)
theorem dJ21_init_1 : decode cJ21_init 1 = .ok (.aload_n 1, 1) := dk_43 (dk_at dksJ21_init_0 1 rfl rfl)
theorem dJ21_init_2 : decode cJ21_init 2 = .ok (.invokespecial 7, 3) := dk_183 0 7 (dk_at dksJ21_init_0 2 rfl rfl)
theorem dJ21_init_5 : decode cJ21_init 5 = .ok (.return_, 1) := dk_177 (dk_at dksJ21_init_0 5 rfl rfl)
theorem q146 : (Jvm.Cond.initialized "java/lang/IndexOutOfBoundsException") ∈ lw_all := lw_g (lw_at lw_m1 41 rfl) rfl
theorem q1749 : (Jvm.Cond.instanceMethod ({ cls := "java/lang/IndexOutOfBoundsException", name := "<init>", desc := "(Ljava/lang/String;)V" } : Jvm.MethodName)) ∈ lw_all := lw_g (lw_at lw_m7 204 rfl) rfl
theorem q1750 : (Jvm.Cond.code ({ cls := "java/lang/IndexOutOfBoundsException", name := "<init>", desc := "(Ljava/lang/String;)V" } : Jvm.MethodName) prog_40_method_2_code (2 : Nat) (Option.none : Option Jvm.ClassFile.FieldType)) ∈ lw_all := lw_g (lw_at lw_m7 205 rfl) rfl
theorem q1751 : (Jvm.Cond.methodLink "java/lang/IndexOutOfBoundsException" (7 : Nat) ({ cls := "java/lang/RuntimeException", name := "<init>", desc := "(Ljava/lang/String;)V" } : Jvm.MethodName)) ∈ lw_all := lw_g (lw_at lw_m7 206 rfl) rfl
theorem q1768 : (Jvm.Cond.declares ({ cls := "java/lang/IndexOutOfBoundsException", name := "<init>", desc := "()V" } : Jvm.MethodName)) ∈ lw_tbl := lw_at lw_m7 223 rfl
theorem q1769 : (Jvm.Cond.declares ({ cls := "java/lang/IndexOutOfBoundsException", name := "<init>", desc := "(Ljava/lang/String;)V" } : Jvm.MethodName)) ∈ lw_tbl := lw_at lw_m7 224 rfl
/-! java/lang/ArrayIndexOutOfBoundsException -/
set_option maxRecDepth 100000
def RJ22 : String := "java/lang/ArrayIndexOutOfBoundsException"
def TJ22 : u_T := fun k => match k with
  | 0 => ("java/lang/Throwable", "backtrace", "Ljava/lang/Object;", false)
  | 1 => ("java/lang/Throwable", "detailMessage", "Ljava/lang/String;", false)
  | 2 => ("java/lang/Throwable", "cause", "Ljava/lang/Throwable;", false)
  | 3 => ("java/lang/Throwable", "stackTrace", "[Ljava/lang/StackTraceElement;", false)
  | 4 => ("java/lang/Throwable", "depth", "I", false)
  | _ => ("java/lang/Throwable", "suppressedExceptions", "Ljava/util/List;", false)
def tyJ22 : Nat → FieldType := fun k => match k with
  | 0 => .object "java/lang/Object"
  | 1 => .object "java/lang/String"
  | 2 => .object "java/lang/Throwable"
  | 3 => .array (.object "java/lang/StackTraceElement")
  | 4 => .int
  | _ => .object "java/util/List"
abbrev wsJ220 : List Cond := u_ws RJ22 TJ22 6
theorem nmJ22 : ∀ a, a < 6 → ∀ b, b < 6 → a ≠ b → (TJ22 a).2.1 ≠ (TJ22 b).2.1 := by decide +kernel
theorem tyJ22_ok : ∀ k, k < 6 → parseFieldDescriptor (TJ22 k).2.2.1 = some (tyJ22 k) := by decide +kernel
abbrev cJ22_init : ByteArray := prog_34_method_2_code
def yJ22_init : MethodName := ⟨RJ22, "<init>", "(Ljava/lang/String;)V"⟩
def dkwJ22_init_0 : List UInt8 := [42, 43, 183, 0, 7, 177]
abbrev dktJ22_init_0 : List UInt8 := dkwJ22_init_0 ++ []
theorem dksJ22_init_0 : cJ22_init.data.toList.drop 0 = dktJ22_init_0 := by decide +kernel
theorem dJ22_init_0 : decode cJ22_init 0 = .ok (.aload_n 0, 1) := dk_42 (dk_at dksJ22_init_0 0 rfl rfl)
theorem dJ22_init_1 : decode cJ22_init 1 = .ok (.aload_n 1, 1) := dk_43 (dk_at dksJ22_init_0 1 rfl rfl)
theorem dJ22_init_2 : decode cJ22_init 2 = .ok (.invokespecial 7, 3) := dk_183 0 7 (dk_at dksJ22_init_0 2 rfl rfl)
theorem dJ22_init_5 : decode cJ22_init 5 = .ok (.return_, 1) := dk_177 (dk_at dksJ22_init_0 5 rfl rfl)
theorem q147 : (Jvm.Cond.initialized "java/lang/ArrayIndexOutOfBoundsException") ∈ lw_all := lw_g (lw_at lw_m1 42 rfl) rfl
theorem q914 : (Jvm.Cond.selects "java/lang/ArrayIndexOutOfBoundsException" ({ cls := "java/lang/Object", name := "hashCode", desc := "()I" } : Jvm.MethodName) ({ cls := "java/lang/Object", name := "hashCode", desc := "()I" } : Jvm.MethodName)) ∈ lw_all := lw_g (lw_at lw_m4 89 rfl) rfl
theorem q1125 : (Jvm.Cond.selects "java/lang/ArrayIndexOutOfBoundsException" ({ cls := "java/lang/Object", name := "getClass", desc := "()Ljava/lang/Class;" } : Jvm.MethodName) ({ cls := "java/lang/Object", name := "getClass", desc := "()Ljava/lang/Class;" } : Jvm.MethodName)) ∈ lw_all := lw_g (lw_at lw_m5 60 rfl) rfl
theorem q1374 : (Jvm.Cond.selects "java/lang/ArrayIndexOutOfBoundsException" ({ cls := "java/lang/Object", name := "equals", desc := "(Ljava/lang/Object;)Z" } : Jvm.MethodName) ({ cls := "java/lang/Object", name := "equals", desc := "(Ljava/lang/Object;)Z" } : Jvm.MethodName)) ∈ lw_all := lw_g (lw_at lw_m6 69 rfl) rfl
theorem q1659 : (Jvm.Cond.selects "java/lang/ArrayIndexOutOfBoundsException" ({ cls := "java/lang/Throwable", name := "fillInStackTrace", desc := "()Ljava/lang/Throwable;" } : Jvm.MethodName) ({ cls := "java/lang/Throwable", name := "fillInStackTrace", desc := "()Ljava/lang/Throwable;" } : Jvm.MethodName)) ∈ lw_all := lw_g (lw_at lw_m7 114 rfl) rfl
theorem q1745 : (Jvm.Cond.instantiable "java/lang/ArrayIndexOutOfBoundsException" (6 : Nat)) ∈ lw_all := lw_g (lw_at lw_m7 200 rfl) rfl
theorem q1746 : (Jvm.Cond.instanceMethod ({ cls := "java/lang/ArrayIndexOutOfBoundsException", name := "<init>", desc := "(Ljava/lang/String;)V" } : Jvm.MethodName)) ∈ lw_all := lw_g (lw_at lw_m7 201 rfl) rfl
theorem q1747 : (Jvm.Cond.code ({ cls := "java/lang/ArrayIndexOutOfBoundsException", name := "<init>", desc := "(Ljava/lang/String;)V" } : Jvm.MethodName) prog_34_method_2_code (2 : Nat) (Option.none : Option Jvm.ClassFile.FieldType)) ∈ lw_all := lw_g (lw_at lw_m7 202 rfl) rfl
theorem q1748 : (Jvm.Cond.methodLink "java/lang/ArrayIndexOutOfBoundsException" (7 : Nat) ({ cls := "java/lang/IndexOutOfBoundsException", name := "<init>", desc := "(Ljava/lang/String;)V" } : Jvm.MethodName)) ∈ lw_all := lw_g (lw_at lw_m7 203 rfl) rfl
theorem q1760 : (Jvm.Cond.lays "java/lang/ArrayIndexOutOfBoundsException" "java/lang/Throwable" "backtrace" "Ljava/lang/Object;") ∈ lw_all := lw_g (lw_at lw_m7 215 rfl) rfl
theorem q1761 : (Jvm.Cond.lays "java/lang/ArrayIndexOutOfBoundsException" "java/lang/Throwable" "detailMessage" "Ljava/lang/String;") ∈ lw_all := lw_g (lw_at lw_m7 216 rfl) rfl
theorem q1762 : (Jvm.Cond.lays "java/lang/ArrayIndexOutOfBoundsException" "java/lang/Throwable" "cause" "Ljava/lang/Throwable;") ∈ lw_all := lw_g (lw_at lw_m7 217 rfl) rfl
theorem q1763 : (Jvm.Cond.lays "java/lang/ArrayIndexOutOfBoundsException" "java/lang/Throwable" "stackTrace" "[Ljava/lang/StackTraceElement;") ∈ lw_all := lw_g (lw_at lw_m7 218 rfl) rfl
theorem q1764 : (Jvm.Cond.lays "java/lang/ArrayIndexOutOfBoundsException" "java/lang/Throwable" "depth" "I") ∈ lw_all := lw_g (lw_at lw_m7 219 rfl) rfl
theorem q1765 : (Jvm.Cond.lays "java/lang/ArrayIndexOutOfBoundsException" "java/lang/Throwable" "suppressedExceptions" "Ljava/util/List;") ∈ lw_all := lw_g (lw_at lw_m7 220 rfl) rfl
theorem q1766 : (Jvm.Cond.superclass "java/lang/ArrayIndexOutOfBoundsException" "java/lang/IndexOutOfBoundsException") ∈ lw_all := lw_g (lw_at lw_m7 221 rfl) rfl
theorem q1767 : (Jvm.Cond.castable "java/lang/ArrayIndexOutOfBoundsException" "java/lang/ArrayIndexOutOfBoundsException") ∈ lw_tbl := lw_at lw_m7 222 rfl
theorem q1772 : (Jvm.Cond.selects "java/lang/ArrayIndexOutOfBoundsException" ({ cls := "java/lang/Throwable", name := "fillInStackTrace", desc := "(I)Ljava/lang/Throwable;" } : Jvm.MethodName) ({ cls := "java/lang/Throwable", name := "fillInStackTrace", desc := "(I)Ljava/lang/Throwable;" } : Jvm.MethodName)) ∈ lw_all := lw_g (lw_at lw_m7 227 rfl) rfl
theorem q3152 : (Jvm.Cond.castable "java/lang/ArrayIndexOutOfBoundsException" "java/lang/Object") ∈ lw_tbl := lw_at lw_m13 167 rfl
theorem in_J22 : ∀ w ∈ wsJ220, w ∈ lw_all := lw_in wsJ220 [1760, 1761, 1762, 1763, 1764, 1765] (by decide +kernel) (by decide +kernel)
/-! java/util/LinkedHashMap$LinkedValues -/
set_option maxRecDepth 100000
def RJ23 : String := "java/util/LinkedHashMap$LinkedValues"
def TJ23 : u_T := fun k => match k with
  | 0 => ("java/util/LinkedHashMap$LinkedValues", "reversed", "Z", true)
  | _ => ("java/util/LinkedHashMap$LinkedValues", "this$0", "Ljava/util/LinkedHashMap;", true)
def tyJ23 : Nat → FieldType := fun k => match k with
  | 0 => .boolean
  | _ => .object "java/util/LinkedHashMap"
abbrev wsJ230 : List Cond := u_ws RJ23 TJ23 2
theorem nmJ23 : ∀ a, a < 2 → ∀ b, b < 2 → a ≠ b → (TJ23 a).2.1 ≠ (TJ23 b).2.1 := by decide +kernel
theorem tyJ23_ok : ∀ k, k < 2 → parseFieldDescriptor (TJ23 k).2.2.1 = some (tyJ23 k) := by decide +kernel
abbrev cJ23_init : ByteArray := prog_78_method_1_code
def yJ23_init : MethodName := ⟨RJ23, "<init>", "(Ljava/util/LinkedHashMap;Z)V"⟩
def dkwJ23_init_0 : List UInt8 := [42, 43, 181, 0, 1, 42, 183, 0, 7, 42, 28, 181, 0, 13, 177]
abbrev dktJ23_init_0 : List UInt8 := dkwJ23_init_0 ++ []
theorem dksJ23_init_0 : cJ23_init.data.toList.drop 0 = dktJ23_init_0 := by decide +kernel
theorem dJ23_init_0 : decode cJ23_init 0 = .ok (.aload_n 0, 1) := dk_42 (dk_at dksJ23_init_0 0 rfl rfl)
theorem dJ23_init_1 : decode cJ23_init 1 = .ok (.aload_n 1, 1) := dk_43 (dk_at dksJ23_init_0 1 rfl rfl)
theorem dJ23_init_2 : decode cJ23_init 2 = .ok (.putfield 1, 3) := dk_181 0 1 (dk_at dksJ23_init_0 2 rfl rfl)
theorem dJ23_init_5 : decode cJ23_init 5 = .ok (.aload_n 0, 1) := dk_42 (dk_at dksJ23_init_0 5 rfl rfl)
theorem dJ23_init_6 : decode cJ23_init 6 = .ok (.invokespecial 7, 3) := dk_183 0 7 (dk_at dksJ23_init_0 6 rfl rfl)
theorem dJ23_init_9 : decode cJ23_init 9 = .ok (.aload_n 0, 1) := dk_42 (dk_at dksJ23_init_0 9 rfl rfl)
theorem dJ23_init_10 : decode cJ23_init 10 = .ok (.iload_n 2, 1) := dk_28 (dk_at dksJ23_init_0 10 rfl rfl)
theorem dJ23_init_11 : decode cJ23_init 11 = .ok (.putfield 13, 3) := dk_181 0 13 (dk_at dksJ23_init_0 11 rfl rfl)
theorem dJ23_init_14 : decode cJ23_init 14 = .ok (.return_, 1) := dk_177 (dk_at dksJ23_init_0 14 rfl rfl)
abbrev cJ23_iterator : ByteArray := prog_78_method_4_code
def yJ23_iterator : MethodName := ⟨RJ23, "iterator", "()Ljava/util/Iterator;"⟩
def dkwJ23_iterator_0 : List UInt8 := [187, 0, 26, 89, 42, 180, 0, 1, 42, 180, 0, 13, 183, 0, 28, 176]
abbrev dktJ23_iterator_0 : List UInt8 := dkwJ23_iterator_0 ++ []
theorem dksJ23_iterator_0 : cJ23_iterator.data.toList.drop 0 = dktJ23_iterator_0 := by decide +kernel
theorem dJ23_iterator_0 : decode cJ23_iterator 0 = .ok (.new 26, 3) := dk_187 0 26 (dk_at dksJ23_iterator_0 0 rfl rfl)
theorem dJ23_iterator_3 : decode cJ23_iterator 3 = .ok (.dup, 1) := dk_89 (dk_at dksJ23_iterator_0 3 rfl rfl)
theorem dJ23_iterator_4 : decode cJ23_iterator 4 = .ok (.aload_n 0, 1) := dk_42 (dk_at dksJ23_iterator_0 4 rfl rfl)
theorem dJ23_iterator_5 : decode cJ23_iterator 5 = .ok (.getfield 1, 3) := dk_180 0 1 (dk_at dksJ23_iterator_0 5 rfl rfl)
theorem dJ23_iterator_8 : decode cJ23_iterator 8 = .ok (.aload_n 0, 1) := dk_42 (dk_at dksJ23_iterator_0 8 rfl rfl)
theorem dJ23_iterator_9 : decode cJ23_iterator 9 = .ok (.getfield 13, 3) := dk_180 0 13 (dk_at dksJ23_iterator_0 9 rfl rfl)
theorem dJ23_iterator_12 : decode cJ23_iterator 12 = .ok (.invokespecial 28, 3) := dk_183 0 28 (dk_at dksJ23_iterator_0 12 rfl rfl)
theorem dJ23_iterator_15 : decode cJ23_iterator 15 = .ok (.areturn, 1) := dk_176 (dk_at dksJ23_iterator_0 15 rfl rfl)
theorem q151 : (Jvm.Cond.initialized "java/util/LinkedHashMap$LinkedValues") ∈ lw_all := lw_g (lw_at lw_m1 46 rfl) rfl
theorem q1142 : (Jvm.Cond.selects "java/util/LinkedHashMap$LinkedValues" ({ cls := "java/lang/Object", name := "getClass", desc := "()Ljava/lang/Class;" } : Jvm.MethodName) ({ cls := "java/lang/Object", name := "getClass", desc := "()Ljava/lang/Class;" } : Jvm.MethodName)) ∈ lw_all := lw_g (lw_at lw_m5 77 rfl) rfl
theorem q1875 : (Jvm.Cond.instantiable "java/util/LinkedHashMap$LinkedValues" (2 : Nat)) ∈ lw_all := lw_g (lw_at lw_m8 90 rfl) rfl
theorem q1877 : (Jvm.Cond.instanceMethod ({ cls := "java/util/LinkedHashMap$LinkedValues", name := "<init>", desc := "(Ljava/util/LinkedHashMap;Z)V" } : Jvm.MethodName)) ∈ lw_all := lw_g (lw_at lw_m8 92 rfl) rfl
theorem q1878 : (Jvm.Cond.code ({ cls := "java/util/LinkedHashMap$LinkedValues", name := "<init>", desc := "(Ljava/util/LinkedHashMap;Z)V" } : Jvm.MethodName) prog_78_method_1_code (3 : Nat) (Option.none : Option Jvm.ClassFile.FieldType)) ∈ lw_all := lw_g (lw_at lw_m8 93 rfl) rfl
theorem q1879 : (Jvm.Cond.methodLink "java/util/LinkedHashMap$LinkedValues" (7 : Nat) ({ cls := "java/util/AbstractCollection", name := "<init>", desc := "()V" } : Jvm.MethodName)) ∈ lw_all := lw_g (lw_at lw_m8 94 rfl) rfl
theorem q1880 : (Jvm.Cond.fieldLink "java/util/LinkedHashMap$LinkedValues" (13 : Nat) "java/util/LinkedHashMap$LinkedValues" "reversed" "Z") ∈ lw_all := lw_g (lw_at lw_m8 95 rfl) rfl
theorem q1881 : (Jvm.Cond.fieldLink "java/util/LinkedHashMap$LinkedValues" (1 : Nat) "java/util/LinkedHashMap$LinkedValues" "this$0" "Ljava/util/LinkedHashMap;") ∈ lw_all := lw_g (lw_at lw_m8 96 rfl) rfl
theorem q1882 : (Jvm.Cond.laysFinal "java/util/LinkedHashMap$LinkedValues" "java/util/LinkedHashMap$LinkedValues" "reversed" "Z") ∈ lw_all := lw_g (lw_at lw_m8 97 rfl) rfl
theorem q1883 : (Jvm.Cond.soleField "java/util/LinkedHashMap$LinkedValues" "reversed") ∈ lw_all := lw_g (lw_at lw_m8 98 rfl) rfl
theorem q1884 : (Jvm.Cond.laysFinal "java/util/LinkedHashMap$LinkedValues" "java/util/LinkedHashMap$LinkedValues" "this$0" "Ljava/util/LinkedHashMap;") ∈ lw_all := lw_g (lw_at lw_m8 99 rfl) rfl
theorem q1885 : (Jvm.Cond.soleField "java/util/LinkedHashMap$LinkedValues" "this$0") ∈ lw_all := lw_g (lw_at lw_m8 100 rfl) rfl
theorem q1886 : (Jvm.Cond.superclass "java/util/LinkedHashMap$LinkedValues" "java/util/AbstractCollection") ∈ lw_all := lw_g (lw_at lw_m8 101 rfl) rfl
theorem q2006 : (Jvm.Cond.castable "java/util/LinkedHashMap$LinkedValues" "java/util/Collection") ∈ lw_tbl := lw_at lw_m8 221 rfl
theorem q2007 : (Jvm.Cond.selects "java/util/LinkedHashMap$LinkedValues" ({ cls := "java/util/Collection", name := "iterator", desc := "()Ljava/util/Iterator;" } : Jvm.MethodName) ({ cls := "java/util/LinkedHashMap$LinkedValues", name := "iterator", desc := "()Ljava/util/Iterator;" } : Jvm.MethodName)) ∈ lw_all := lw_g (lw_at lw_m8 222 rfl) rfl
theorem q2008 : (Jvm.Cond.unhidden "java/util/LinkedHashMap$LinkedValues" "iterator" "()Ljava/util/Iterator;") ∈ lw_tbl := lw_at lw_m8 223 rfl
theorem q2009 : (Jvm.Cond.instanceMethod ({ cls := "java/util/LinkedHashMap$LinkedValues", name := "iterator", desc := "()Ljava/util/Iterator;" } : Jvm.MethodName)) ∈ lw_all := lw_g (lw_at lw_m8 224 rfl) rfl
theorem q2010 : (Jvm.Cond.publicMethod ({ cls := "java/util/LinkedHashMap$LinkedValues", name := "iterator", desc := "()Ljava/util/Iterator;" } : Jvm.MethodName)) ∈ lw_tbl := lw_at lw_m8 225 rfl
theorem q2011 : (Jvm.Cond.code ({ cls := "java/util/LinkedHashMap$LinkedValues", name := "iterator", desc := "()Ljava/util/Iterator;" } : Jvm.MethodName) prog_78_method_4_code (1 : Nat) (Option.some (Jvm.ClassFile.FieldType.object "java/util/Iterator"))) ∈ lw_all := lw_g (lw_at lw_m8 226 rfl) rfl
theorem q2012 : (Jvm.Cond.classLink "java/util/LinkedHashMap$LinkedValues" (26 : Nat) "java/util/LinkedHashMap$LinkedValueIterator") ∈ lw_all := lw_g (lw_at lw_m8 227 rfl) rfl
theorem q2014 : (Jvm.Cond.methodLink "java/util/LinkedHashMap$LinkedValues" (28 : Nat) ({ cls := "java/util/LinkedHashMap$LinkedValueIterator", name := "<init>", desc := "(Ljava/util/LinkedHashMap;Z)V" } : Jvm.MethodName)) ∈ lw_all := lw_g (lw_at lw_m8 229 rfl) rfl
theorem q3119 : (Jvm.Cond.castable "java/util/LinkedHashMap$LinkedValues" "java/util/SequencedCollection") ∈ lw_tbl := lw_at lw_m13 134 rfl
theorem q3156 : (Jvm.Cond.castable "java/util/LinkedHashMap$LinkedValues" "java/lang/Object") ∈ lw_tbl := lw_at lw_m13 171 rfl
theorem in_J23 : ∀ w ∈ wsJ230, w ∈ lw_all := lw_in wsJ230 [1882, 1884] (by decide +kernel) (by decide +kernel)
/-! java/util/HashMap$HashIterator -/
set_option maxRecDepth 100000
def RJ24 : String := "java/util/HashMap$HashIterator"
abbrev cJ24_init : ByteArray := prog_65_method_1_code
def yJ24_init : MethodName := ⟨RJ24, "<init>", "(Ljava/util/HashMap;)V"⟩
def dkwJ24_init_3 : List UInt8 := [181, 0, 26, 198, 255, 229, 177]
abbrev dktJ24_init_3 : List UInt8 := dkwJ24_init_3 ++ []
def dkwJ24_init_2 : List UInt8 := [42, 180, 0, 33, 44, 190, 162, 0, 24, 42, 44, 42, 89, 180, 0, 33, 90, 4, 96, 181, 0, 33, 50, 90]
abbrev dktJ24_init_2 : List UInt8 := dkwJ24_init_2 ++ dktJ24_init_3
def dkwJ24_init_1 : List UInt8 := [1, 90, 181, 0, 26, 181, 0, 30, 42, 3, 181, 0, 33, 44, 198, 0, 40, 43, 180, 0, 36, 158, 0, 33]
abbrev dktJ24_init_1 : List UInt8 := dkwJ24_init_1 ++ dktJ24_init_2
def dkwJ24_init_0 : List UInt8 := [42, 43, 181, 0, 1, 42, 183, 0, 7, 42, 43, 180, 0, 13, 181, 0, 19, 43, 180, 0, 22, 77, 42, 42]
abbrev dktJ24_init_0 : List UInt8 := dkwJ24_init_0 ++ dktJ24_init_1
theorem dksJ24_init_0 : cJ24_init.data.toList.drop 0 = dktJ24_init_0 := by decide +kernel
theorem dksJ24_init_1 : cJ24_init.data.toList.drop 24 = dktJ24_init_1 := dk_seg dksJ24_init_0 24 rfl rfl
theorem dksJ24_init_2 : cJ24_init.data.toList.drop 48 = dktJ24_init_2 := dk_seg dksJ24_init_1 24 rfl rfl
theorem dksJ24_init_3 : cJ24_init.data.toList.drop 72 = dktJ24_init_3 := dk_seg dksJ24_init_2 24 rfl rfl
theorem dJ24_init_0 : decode cJ24_init 0 = .ok (.aload_n 0, 1) := dk_42 (dk_at dksJ24_init_0 0 rfl rfl)
theorem dJ24_init_1 : decode cJ24_init 1 = .ok (.aload_n 1, 1) := dk_43 (dk_at dksJ24_init_0 1 rfl rfl)
theorem dJ24_init_2 : decode cJ24_init 2 = .ok (.putfield 1, 3) := dk_181 0 1 (dk_at dksJ24_init_0 2 rfl rfl)
theorem dJ24_init_5 : decode cJ24_init 5 = .ok (.aload_n 0, 1) := dk_42 (dk_at dksJ24_init_0 5 rfl rfl)
theorem dJ24_init_6 : decode cJ24_init 6 = .ok (.invokespecial 7, 3) := dk_183 0 7 (dk_at dksJ24_init_0 6 rfl rfl)
theorem dJ24_init_9 : decode cJ24_init 9 = .ok (.aload_n 0, 1) := dk_42 (dk_at dksJ24_init_0 9 rfl rfl)
theorem dJ24_init_10 : decode cJ24_init 10 = .ok (.aload_n 1, 1) := dk_43 (dk_at dksJ24_init_0 10 rfl rfl)
theorem dJ24_init_11 : decode cJ24_init 11 = .ok (.getfield 13, 3) := dk_180 0 13 (dk_at dksJ24_init_0 11 rfl rfl)
theorem dJ24_init_14 : decode cJ24_init 14 = .ok (.putfield 19, 3) := dk_181 0 19 (dk_at dksJ24_init_0 14 rfl rfl)
theorem dJ24_init_17 : decode cJ24_init 17 = .ok (.aload_n 1, 1) := dk_43 (dk_at dksJ24_init_0 17 rfl rfl)
theorem dJ24_init_18 : decode cJ24_init 18 = .ok (.getfield 22, 3) := dk_180 0 22 (dk_at dksJ24_init_0 18 rfl rfl)
theorem dJ24_init_21 : decode cJ24_init 21 = .ok (.astore_n 2, 1) := dk_77 (dk_at dksJ24_init_0 21 rfl rfl)
theorem dJ24_init_22 : decode cJ24_init 22 = .ok (.aload_n 0, 1) := dk_42 (dk_at dksJ24_init_0 22 rfl rfl)
theorem dJ24_init_23 : decode cJ24_init 23 = .ok (.aload_n 0, 1) := dk_42 (dk_at dksJ24_init_0 23 rfl rfl)
theorem dJ24_init_24 : decode cJ24_init 24 = .ok (.aconst_null, 1) := dk_1 (dk_at dksJ24_init_1 0 rfl rfl)
theorem dJ24_init_25 : decode cJ24_init 25 = .ok (.dup_x1, 1) := dk_90 (dk_at dksJ24_init_1 1 rfl rfl)
theorem dJ24_init_26 : decode cJ24_init 26 = .ok (.putfield 26, 3) := dk_181 0 26 (dk_at dksJ24_init_1 2 rfl rfl)
theorem dJ24_init_29 : decode cJ24_init 29 = .ok (.putfield 30, 3) := dk_181 0 30 (dk_at dksJ24_init_1 5 rfl rfl)
theorem dJ24_init_32 : decode cJ24_init 32 = .ok (.aload_n 0, 1) := dk_42 (dk_at dksJ24_init_1 8 rfl rfl)
theorem dJ24_init_33 : decode cJ24_init 33 = .ok (.iconst 0, 1) := dk_3 (dk_at dksJ24_init_1 9 rfl rfl)
theorem dJ24_init_34 : decode cJ24_init 34 = .ok (.putfield 33, 3) := dk_181 0 33 (dk_at dksJ24_init_1 10 rfl rfl)
theorem dJ24_init_37 : decode cJ24_init 37 = .ok (.aload_n 2, 1) := dk_44 (dk_at dksJ24_init_1 13 rfl rfl)
theorem dJ24_init_38 : decode cJ24_init 38 = .ok (.ifnull 40, 3) := dk_198 0 40 (dk_at dksJ24_init_1 14 rfl rfl)
theorem dJ24_init_41 : decode cJ24_init 41 = .ok (.aload_n 1, 1) := dk_43 (dk_at dksJ24_init_1 17 rfl rfl)
theorem dJ24_init_42 : decode cJ24_init 42 = .ok (.getfield 36, 3) := dk_180 0 36 (dk_at dksJ24_init_1 18 rfl rfl)
theorem dJ24_init_45 : decode cJ24_init 45 = .ok (.ifCond .le 33, 3) := dk_158 0 33 (dk_at dksJ24_init_1 21 rfl rfl)
theorem dJ24_init_48 : decode cJ24_init 48 = .ok (.aload_n 0, 1) := dk_42 (dk_at dksJ24_init_2 0 rfl rfl)
theorem dJ24_init_49 : decode cJ24_init 49 = .ok (.getfield 33, 3) := dk_180 0 33 (dk_at dksJ24_init_2 1 rfl rfl)
theorem dJ24_init_52 : decode cJ24_init 52 = .ok (.aload_n 2, 1) := dk_44 (dk_at dksJ24_init_2 4 rfl rfl)
theorem dJ24_init_53 : decode cJ24_init 53 = .ok (.arraylength, 1) := dk_190 (dk_at dksJ24_init_2 5 rfl rfl)
theorem dJ24_init_54 : decode cJ24_init 54 = .ok (.if_icmp .ge 24, 3) := dk_162 0 24 (dk_at dksJ24_init_2 6 rfl rfl)
theorem dJ24_init_57 : decode cJ24_init 57 = .ok (.aload_n 0, 1) := dk_42 (dk_at dksJ24_init_2 9 rfl rfl)
theorem dJ24_init_58 : decode cJ24_init 58 = .ok (.aload_n 2, 1) := dk_44 (dk_at dksJ24_init_2 10 rfl rfl)
theorem dJ24_init_59 : decode cJ24_init 59 = .ok (.aload_n 0, 1) := dk_42 (dk_at dksJ24_init_2 11 rfl rfl)
theorem dJ24_init_60 : decode cJ24_init 60 = .ok (.dup, 1) := dk_89 (dk_at dksJ24_init_2 12 rfl rfl)
theorem dJ24_init_61 : decode cJ24_init 61 = .ok (.getfield 33, 3) := dk_180 0 33 (dk_at dksJ24_init_2 13 rfl rfl)
theorem dJ24_init_64 : decode cJ24_init 64 = .ok (.dup_x1, 1) := dk_90 (dk_at dksJ24_init_2 16 rfl rfl)
theorem dJ24_init_65 : decode cJ24_init 65 = .ok (.iconst 1, 1) := dk_4 (dk_at dksJ24_init_2 17 rfl rfl)
theorem dJ24_init_66 : decode cJ24_init 66 = .ok (.iadd, 1) := dk_96 (dk_at dksJ24_init_2 18 rfl rfl)
theorem dJ24_init_67 : decode cJ24_init 67 = .ok (.putfield 33, 3) := dk_181 0 33 (dk_at dksJ24_init_2 19 rfl rfl)
theorem dJ24_init_70 : decode cJ24_init 70 = .ok (.aaload, 1) := dk_50 (dk_at dksJ24_init_2 22 rfl rfl)
theorem dJ24_init_71 : decode cJ24_init 71 = .ok (.dup_x1, 1) := dk_90 (dk_at dksJ24_init_2 23 rfl rfl)
theorem dJ24_init_72 : decode cJ24_init 72 = .ok (.putfield 26, 3) := dk_181 0 26 (dk_at dksJ24_init_3 0 rfl rfl)
theorem dJ24_init_75 : decode cJ24_init 75 = .ok (.ifnull (-27), 3) := dk_198 255 229 (dk_at dksJ24_init_3 3 rfl rfl)
theorem dJ24_init_78 : decode cJ24_init 78 = .ok (.return_, 1) := dk_177 (dk_at dksJ24_init_3 6 rfl rfl)
abbrev cJ24_hasNext : ByteArray := prog_65_method_2_code
def yJ24_hasNext : MethodName := ⟨RJ24, "hasNext", "()Z"⟩
def dkwJ24_hasNext_0 : List UInt8 := [42, 180, 0, 26, 198, 0, 7, 4, 167, 0, 4, 3, 172]
abbrev dktJ24_hasNext_0 : List UInt8 := dkwJ24_hasNext_0 ++ []
theorem dksJ24_hasNext_0 : cJ24_hasNext.data.toList.drop 0 = dktJ24_hasNext_0 := by decide +kernel
theorem dJ24_hasNext_0 : decode cJ24_hasNext 0 = .ok (.aload_n 0, 1) := dk_42 (dk_at dksJ24_hasNext_0 0 rfl rfl)
theorem dJ24_hasNext_1 : decode cJ24_hasNext 1 = .ok (.getfield 26, 3) := dk_180 0 26 (dk_at dksJ24_hasNext_0 1 rfl rfl)
theorem dJ24_hasNext_4 : decode cJ24_hasNext 4 = .ok (.ifnull 7, 3) := dk_198 0 7 (dk_at dksJ24_hasNext_0 4 rfl rfl)
theorem dJ24_hasNext_7 : decode cJ24_hasNext 7 = .ok (.iconst 1, 1) := dk_4 (dk_at dksJ24_hasNext_0 7 rfl rfl)
theorem dJ24_hasNext_8 : decode cJ24_hasNext 8 = .ok (.goto 4, 3) := dk_167 0 4 (dk_at dksJ24_hasNext_0 8 rfl rfl)
theorem dJ24_hasNext_11 : decode cJ24_hasNext 11 = .ok (.iconst 0, 1) := dk_3 (dk_at dksJ24_hasNext_0 11 rfl rfl)
theorem dJ24_hasNext_12 : decode cJ24_hasNext 12 = .ok (.ireturn, 1) := dk_172 (dk_at dksJ24_hasNext_0 12 rfl rfl)
abbrev cJ24_nextNode : ByteArray := prog_65_method_3_code
def yJ24_nextNode : MethodName := ⟨RJ24, "nextNode", "()Ljava/util/HashMap$Node;"⟩
def dkwJ24_nextNode_4 : List UInt8 := [181, 0, 26, 198, 255, 229, 44, 176]
abbrev dktJ24_nextNode_4 : List UInt8 := dkwJ24_nextNode_4 ++ []
def dkwJ24_nextNode_3 : List UInt8 := [180, 0, 33, 43, 190, 162, 0, 24, 42, 43, 42, 89, 180, 0, 33, 90, 4, 96, 181, 0, 33, 50, 90]
abbrev dktJ24_nextNode_3 : List UInt8 := dkwJ24_nextNode_3 ++ dktJ24_nextNode_4
def dkwJ24_nextNode_2 : List UInt8 := [180, 0, 45, 90, 181, 0, 26, 199, 0, 45, 42, 180, 0, 1, 180, 0, 22, 89, 76, 198, 0, 33, 42]
abbrev dktJ24_nextNode_2 : List UInt8 := dkwJ24_nextNode_2 ++ dktJ24_nextNode_3
def dkwJ24_nextNode_1 : List UInt8 := [183, 0, 41, 191, 44, 199, 0, 11, 187, 0, 42, 89, 183, 0, 44, 191, 42, 42, 44, 90, 181, 0, 30]
abbrev dktJ24_nextNode_1 : List UInt8 := dkwJ24_nextNode_1 ++ dktJ24_nextNode_2
def dkwJ24_nextNode_0 : List UInt8 := [42, 180, 0, 26, 77, 42, 180, 0, 1, 180, 0, 13, 42, 180, 0, 19, 159, 0, 11, 187, 0, 39, 89]
abbrev dktJ24_nextNode_0 : List UInt8 := dkwJ24_nextNode_0 ++ dktJ24_nextNode_1
theorem dksJ24_nextNode_0 : cJ24_nextNode.data.toList.drop 0 = dktJ24_nextNode_0 := by decide +kernel
theorem dksJ24_nextNode_1 : cJ24_nextNode.data.toList.drop 23 = dktJ24_nextNode_1 := dk_seg dksJ24_nextNode_0 23 rfl rfl
theorem dksJ24_nextNode_2 : cJ24_nextNode.data.toList.drop 46 = dktJ24_nextNode_2 := dk_seg dksJ24_nextNode_1 23 rfl rfl
theorem dksJ24_nextNode_3 : cJ24_nextNode.data.toList.drop 69 = dktJ24_nextNode_3 := dk_seg dksJ24_nextNode_2 23 rfl rfl
theorem dksJ24_nextNode_4 : cJ24_nextNode.data.toList.drop 92 = dktJ24_nextNode_4 := dk_seg dksJ24_nextNode_3 23 rfl rfl
theorem dJ24_nextNode_0 : decode cJ24_nextNode 0 = .ok (.aload_n 0, 1) := dk_42 (dk_at dksJ24_nextNode_0 0 rfl rfl)
theorem dJ24_nextNode_1 : decode cJ24_nextNode 1 = .ok (.getfield 26, 3) := dk_180 0 26 (dk_at dksJ24_nextNode_0 1 rfl rfl)
theorem dJ24_nextNode_4 : decode cJ24_nextNode 4 = .ok (.astore_n 2, 1) := dk_77 (dk_at dksJ24_nextNode_0 4 rfl rfl)
theorem dJ24_nextNode_5 : decode cJ24_nextNode 5 = .ok (.aload_n 0, 1) := dk_42 (dk_at dksJ24_nextNode_0 5 rfl rfl)
theorem dJ24_nextNode_6 : decode cJ24_nextNode 6 = .ok (.getfield 1, 3) := dk_180 0 1 (dk_at dksJ24_nextNode_0 6 rfl rfl)
theorem dJ24_nextNode_9 : decode cJ24_nextNode 9 = .ok (.getfield 13, 3) := dk_180 0 13 (dk_at dksJ24_nextNode_0 9 rfl rfl)
theorem dJ24_nextNode_12 : decode cJ24_nextNode 12 = .ok (.aload_n 0, 1) := dk_42 (dk_at dksJ24_nextNode_0 12 rfl rfl)
theorem dJ24_nextNode_13 : decode cJ24_nextNode 13 = .ok (.getfield 19, 3) := dk_180 0 19 (dk_at dksJ24_nextNode_0 13 rfl rfl)
theorem dJ24_nextNode_16 : decode cJ24_nextNode 16 = .ok (.if_icmp .eq 11, 3) := dk_159 0 11 (dk_at dksJ24_nextNode_0 16 rfl rfl)
theorem dJ24_nextNode_19 : decode cJ24_nextNode 19 = .ok (.new 39, 3) := dk_187 0 39 (dk_at dksJ24_nextNode_0 19 rfl rfl)
theorem dJ24_nextNode_22 : decode cJ24_nextNode 22 = .ok (.dup, 1) := dk_89 (dk_at dksJ24_nextNode_0 22 rfl rfl)
theorem dJ24_nextNode_23 : decode cJ24_nextNode 23 = .ok (.invokespecial 41, 3) := dk_183 0 41 (dk_at dksJ24_nextNode_1 0 rfl rfl)
theorem dJ24_nextNode_26 : decode cJ24_nextNode 26 = .ok (.athrow, 1) := dk_191 (dk_at dksJ24_nextNode_1 3 rfl rfl)
theorem dJ24_nextNode_27 : decode cJ24_nextNode 27 = .ok (.aload_n 2, 1) := dk_44 (dk_at dksJ24_nextNode_1 4 rfl rfl)
theorem dJ24_nextNode_28 : decode cJ24_nextNode 28 = .ok (.ifnonnull 11, 3) := dk_199 0 11 (dk_at dksJ24_nextNode_1 5 rfl rfl)
theorem dJ24_nextNode_31 : decode cJ24_nextNode 31 = .ok (.new 42, 3) := dk_187 0 42 (dk_at dksJ24_nextNode_1 8 rfl rfl)
theorem dJ24_nextNode_34 : decode cJ24_nextNode 34 = .ok (.dup, 1) := dk_89 (dk_at dksJ24_nextNode_1 11 rfl rfl)
theorem dJ24_nextNode_35 : decode cJ24_nextNode 35 = .ok (.invokespecial 44, 3) := dk_183 0 44 (dk_at dksJ24_nextNode_1 12 rfl rfl)
theorem dJ24_nextNode_38 : decode cJ24_nextNode 38 = .ok (.athrow, 1) := dk_191 (dk_at dksJ24_nextNode_1 15 rfl rfl)
theorem dJ24_nextNode_39 : decode cJ24_nextNode 39 = .ok (.aload_n 0, 1) := dk_42 (dk_at dksJ24_nextNode_1 16 rfl rfl)
theorem dJ24_nextNode_40 : decode cJ24_nextNode 40 = .ok (.aload_n 0, 1) := dk_42 (dk_at dksJ24_nextNode_1 17 rfl rfl)
theorem dJ24_nextNode_41 : decode cJ24_nextNode 41 = .ok (.aload_n 2, 1) := dk_44 (dk_at dksJ24_nextNode_1 18 rfl rfl)
theorem dJ24_nextNode_42 : decode cJ24_nextNode 42 = .ok (.dup_x1, 1) := dk_90 (dk_at dksJ24_nextNode_1 19 rfl rfl)
theorem dJ24_nextNode_43 : decode cJ24_nextNode 43 = .ok (.putfield 30, 3) := dk_181 0 30 (dk_at dksJ24_nextNode_1 20 rfl rfl)
theorem dJ24_nextNode_46 : decode cJ24_nextNode 46 = .ok (.getfield 45, 3) := dk_180 0 45 (dk_at dksJ24_nextNode_2 0 rfl rfl)
theorem dJ24_nextNode_49 : decode cJ24_nextNode 49 = .ok (.dup_x1, 1) := dk_90 (dk_at dksJ24_nextNode_2 3 rfl rfl)
theorem dJ24_nextNode_50 : decode cJ24_nextNode 50 = .ok (.putfield 26, 3) := dk_181 0 26 (dk_at dksJ24_nextNode_2 4 rfl rfl)
theorem dJ24_nextNode_53 : decode cJ24_nextNode 53 = .ok (.ifnonnull 45, 3) := dk_199 0 45 (dk_at dksJ24_nextNode_2 7 rfl rfl)
theorem dJ24_nextNode_56 : decode cJ24_nextNode 56 = .ok (.aload_n 0, 1) := dk_42 (dk_at dksJ24_nextNode_2 10 rfl rfl)
theorem dJ24_nextNode_57 : decode cJ24_nextNode 57 = .ok (.getfield 1, 3) := dk_180 0 1 (dk_at dksJ24_nextNode_2 11 rfl rfl)
theorem dJ24_nextNode_60 : decode cJ24_nextNode 60 = .ok (.getfield 22, 3) := dk_180 0 22 (dk_at dksJ24_nextNode_2 14 rfl rfl)
theorem dJ24_nextNode_63 : decode cJ24_nextNode 63 = .ok (.dup, 1) := dk_89 (dk_at dksJ24_nextNode_2 17 rfl rfl)
theorem dJ24_nextNode_64 : decode cJ24_nextNode 64 = .ok (.astore_n 1, 1) := dk_76 (dk_at dksJ24_nextNode_2 18 rfl rfl)
theorem dJ24_nextNode_65 : decode cJ24_nextNode 65 = .ok (.ifnull 33, 3) := dk_198 0 33 (dk_at dksJ24_nextNode_2 19 rfl rfl)
theorem dJ24_nextNode_68 : decode cJ24_nextNode 68 = .ok (.aload_n 0, 1) := dk_42 (dk_at dksJ24_nextNode_2 22 rfl rfl)
theorem dJ24_nextNode_69 : decode cJ24_nextNode 69 = .ok (.getfield 33, 3) := dk_180 0 33 (dk_at dksJ24_nextNode_3 0 rfl rfl)
theorem dJ24_nextNode_72 : decode cJ24_nextNode 72 = .ok (.aload_n 1, 1) := dk_43 (dk_at dksJ24_nextNode_3 3 rfl rfl)
theorem dJ24_nextNode_73 : decode cJ24_nextNode 73 = .ok (.arraylength, 1) := dk_190 (dk_at dksJ24_nextNode_3 4 rfl rfl)
theorem dJ24_nextNode_74 : decode cJ24_nextNode 74 = .ok (.if_icmp .ge 24, 3) := dk_162 0 24 (dk_at dksJ24_nextNode_3 5 rfl rfl)
theorem dJ24_nextNode_77 : decode cJ24_nextNode 77 = .ok (.aload_n 0, 1) := dk_42 (dk_at dksJ24_nextNode_3 8 rfl rfl)
theorem dJ24_nextNode_78 : decode cJ24_nextNode 78 = .ok (.aload_n 1, 1) := dk_43 (dk_at dksJ24_nextNode_3 9 rfl rfl)
theorem dJ24_nextNode_79 : decode cJ24_nextNode 79 = .ok (.aload_n 0, 1) := dk_42 (dk_at dksJ24_nextNode_3 10 rfl rfl)
theorem dJ24_nextNode_80 : decode cJ24_nextNode 80 = .ok (.dup, 1) := dk_89 (dk_at dksJ24_nextNode_3 11 rfl rfl)
theorem dJ24_nextNode_81 : decode cJ24_nextNode 81 = .ok (.getfield 33, 3) := dk_180 0 33 (dk_at dksJ24_nextNode_3 12 rfl rfl)
theorem dJ24_nextNode_84 : decode cJ24_nextNode 84 = .ok (.dup_x1, 1) := dk_90 (dk_at dksJ24_nextNode_3 15 rfl rfl)
theorem dJ24_nextNode_85 : decode cJ24_nextNode 85 = .ok (.iconst 1, 1) := dk_4 (dk_at dksJ24_nextNode_3 16 rfl rfl)
theorem dJ24_nextNode_86 : decode cJ24_nextNode 86 = .ok (.iadd, 1) := dk_96 (dk_at dksJ24_nextNode_3 17 rfl rfl)
theorem dJ24_nextNode_87 : decode cJ24_nextNode 87 = .ok (.putfield 33, 3) := dk_181 0 33 (dk_at dksJ24_nextNode_3 18 rfl rfl)
theorem dJ24_nextNode_90 : decode cJ24_nextNode 90 = .ok (.aaload, 1) := dk_50 (dk_at dksJ24_nextNode_3 21 rfl rfl)
theorem dJ24_nextNode_91 : decode cJ24_nextNode 91 = .ok (.dup_x1, 1) := dk_90 (dk_at dksJ24_nextNode_3 22 rfl rfl)
theorem dJ24_nextNode_92 : decode cJ24_nextNode 92 = .ok (.putfield 26, 3) := dk_181 0 26 (dk_at dksJ24_nextNode_4 0 rfl rfl)
theorem dJ24_nextNode_95 : decode cJ24_nextNode 95 = .ok (.ifnull (-27), 3) := dk_198 255 229 (dk_at dksJ24_nextNode_4 3 rfl rfl)
theorem dJ24_nextNode_98 : decode cJ24_nextNode 98 = .ok (.aload_n 2, 1) := dk_44 (dk_at dksJ24_nextNode_4 6 rfl rfl)
theorem dJ24_nextNode_99 : decode cJ24_nextNode 99 = .ok (.areturn, 1) := dk_176 (dk_at dksJ24_nextNode_4 7 rfl rfl)
theorem q152 : (Jvm.Cond.initialized "java/util/HashMap$HashIterator") ∈ lw_all := lw_g (lw_at lw_m1 47 rfl) rfl
theorem q324 : (Jvm.Cond.fieldLink "java/util/HashMap$HashIterator" (22 : Nat) "java/util/HashMap" "table" "[Ljava/util/HashMap$Node;") ∈ lw_all := lw_g (lw_at lw_m1 219 rfl) rfl
theorem q326 : (Jvm.Cond.fieldLink "java/util/HashMap$HashIterator" (36 : Nat) "java/util/HashMap" "size" "I") ∈ lw_all := lw_g (lw_at lw_m1 221 rfl) rfl
theorem q328 : (Jvm.Cond.fieldLink "java/util/HashMap$HashIterator" (13 : Nat) "java/util/HashMap" "modCount" "I") ∈ lw_all := lw_g (lw_at lw_m1 223 rfl) rfl
theorem q1060 : (Jvm.Cond.fieldLink "java/util/HashMap$HashIterator" (45 : Nat) "java/util/HashMap$Node" "next" "Ljava/util/HashMap$Node;") ∈ lw_all := lw_g (lw_at lw_m4 235 rfl) rfl
theorem q1904 : (Jvm.Cond.instanceMethod ({ cls := "java/util/HashMap$HashIterator", name := "<init>", desc := "(Ljava/util/HashMap;)V" } : Jvm.MethodName)) ∈ lw_all := lw_g (lw_at lw_m8 119 rfl) rfl
theorem q1905 : (Jvm.Cond.code ({ cls := "java/util/HashMap$HashIterator", name := "<init>", desc := "(Ljava/util/HashMap;)V" } : Jvm.MethodName) prog_65_method_1_code (3 : Nat) (Option.none : Option Jvm.ClassFile.FieldType)) ∈ lw_all := lw_g (lw_at lw_m8 120 rfl) rfl
theorem q1906 : (Jvm.Cond.methodLink "java/util/HashMap$HashIterator" (7 : Nat) ({ cls := "java/lang/Object", name := "<init>", desc := "()V" } : Jvm.MethodName)) ∈ lw_all := lw_g (lw_at lw_m8 121 rfl) rfl
theorem q1907 : (Jvm.Cond.fieldLink "java/util/HashMap$HashIterator" (26 : Nat) "java/util/HashMap$HashIterator" "next" "Ljava/util/HashMap$Node;") ∈ lw_all := lw_g (lw_at lw_m8 122 rfl) rfl
theorem q1908 : (Jvm.Cond.fieldLink "java/util/HashMap$HashIterator" (30 : Nat) "java/util/HashMap$HashIterator" "current" "Ljava/util/HashMap$Node;") ∈ lw_all := lw_g (lw_at lw_m8 123 rfl) rfl
theorem q1909 : (Jvm.Cond.fieldLink "java/util/HashMap$HashIterator" (19 : Nat) "java/util/HashMap$HashIterator" "expectedModCount" "I") ∈ lw_all := lw_g (lw_at lw_m8 124 rfl) rfl
theorem q1910 : (Jvm.Cond.fieldLink "java/util/HashMap$HashIterator" (33 : Nat) "java/util/HashMap$HashIterator" "index" "I") ∈ lw_all := lw_g (lw_at lw_m8 125 rfl) rfl
theorem q1911 : (Jvm.Cond.fieldLink "java/util/HashMap$HashIterator" (1 : Nat) "java/util/HashMap$HashIterator" "this$0" "Ljava/util/HashMap;") ∈ lw_all := lw_g (lw_at lw_m8 126 rfl) rfl
theorem q1913 : (Jvm.Cond.soleField "java/util/HashMap$HashIterator" "next") ∈ lw_all := lw_g (lw_at lw_m8 128 rfl) rfl
theorem q1915 : (Jvm.Cond.soleField "java/util/HashMap$HashIterator" "current") ∈ lw_all := lw_g (lw_at lw_m8 130 rfl) rfl
theorem q1917 : (Jvm.Cond.soleField "java/util/HashMap$HashIterator" "expectedModCount") ∈ lw_all := lw_g (lw_at lw_m8 132 rfl) rfl
theorem q1919 : (Jvm.Cond.soleField "java/util/HashMap$HashIterator" "index") ∈ lw_all := lw_g (lw_at lw_m8 134 rfl) rfl
theorem q1921 : (Jvm.Cond.soleField "java/util/HashMap$HashIterator" "this$0") ∈ lw_all := lw_g (lw_at lw_m8 136 rfl) rfl
theorem q2031 : (Jvm.Cond.instanceMethod ({ cls := "java/util/HashMap$HashIterator", name := "hasNext", desc := "()Z" } : Jvm.MethodName)) ∈ lw_all := lw_g (lw_at lw_m9 6 rfl) rfl
theorem q2032 : (Jvm.Cond.publicMethod ({ cls := "java/util/HashMap$HashIterator", name := "hasNext", desc := "()Z" } : Jvm.MethodName)) ∈ lw_tbl := lw_at lw_m9 7 rfl
theorem q2033 : (Jvm.Cond.code ({ cls := "java/util/HashMap$HashIterator", name := "hasNext", desc := "()Z" } : Jvm.MethodName) prog_65_method_2_code (1 : Nat) (Option.some Jvm.ClassFile.FieldType.boolean)) ∈ lw_all := lw_g (lw_at lw_m9 8 rfl) rfl
theorem q2054 : (Jvm.Cond.declares ({ cls := "java/util/HashMap$HashIterator", name := "nextNode", desc := "()Ljava/util/HashMap$Node;" } : Jvm.MethodName)) ∈ lw_tbl := lw_at lw_m9 29 rfl
theorem q2056 : (Jvm.Cond.instanceMethod ({ cls := "java/util/HashMap$HashIterator", name := "nextNode", desc := "()Ljava/util/HashMap$Node;" } : Jvm.MethodName)) ∈ lw_all := lw_g (lw_at lw_m9 31 rfl) rfl
theorem q2057 : (Jvm.Cond.code ({ cls := "java/util/HashMap$HashIterator", name := "nextNode", desc := "()Ljava/util/HashMap$Node;" } : Jvm.MethodName) prog_65_method_3_code (3 : Nat) (Option.some (Jvm.ClassFile.FieldType.object "java/util/HashMap$Node"))) ∈ lw_all := lw_g (lw_at lw_m9 32 rfl) rfl
/-! java/util/HashMap$KeyIterator -/
set_option maxRecDepth 100000
def RJ25 : String := "java/util/HashMap$KeyIterator"
def TJ25 : u_T := fun k => match k with
  | 0 => ("java/util/HashMap$HashIterator", "next", "Ljava/util/HashMap$Node;", false)
  | 1 => ("java/util/HashMap$HashIterator", "current", "Ljava/util/HashMap$Node;", false)
  | 2 => ("java/util/HashMap$HashIterator", "expectedModCount", "I", false)
  | 3 => ("java/util/HashMap$HashIterator", "index", "I", false)
  | _ => ("java/util/HashMap$HashIterator", "this$0", "Ljava/util/HashMap;", true)
def tyJ25 : Nat → FieldType := fun k => match k with
  | 0 => .object "java/util/HashMap$Node"
  | 1 => .object "java/util/HashMap$Node"
  | 2 => .int
  | 3 => .int
  | _ => .object "java/util/HashMap"
abbrev wsJ250 : List Cond := u_ws RJ25 TJ25 5
theorem nmJ25 : ∀ a, a < 5 → ∀ b, b < 5 → a ≠ b → (TJ25 a).2.1 ≠ (TJ25 b).2.1 := by decide +kernel
theorem tyJ25_ok : ∀ k, k < 5 → parseFieldDescriptor (TJ25 k).2.2.1 = some (tyJ25 k) := by decide +kernel
abbrev cJ25_init : ByteArray := prog_66_method_1_code
def yJ25_init : MethodName := ⟨RJ25, "<init>", "(Ljava/util/HashMap;)V"⟩
def dkwJ25_init_0 : List UInt8 := [42, 43, 183, 0, 1, 177]
abbrev dktJ25_init_0 : List UInt8 := dkwJ25_init_0 ++ []
theorem dksJ25_init_0 : cJ25_init.data.toList.drop 0 = dktJ25_init_0 := by decide +kernel
theorem dJ25_init_0 : decode cJ25_init 0 = .ok (.aload_n 0, 1) := dk_42 (dk_at dksJ25_init_0 0 rfl rfl)
theorem dJ25_init_1 : decode cJ25_init 1 = .ok (.aload_n 1, 1) := dk_43 (dk_at dksJ25_init_0 1 rfl rfl)
theorem dJ25_init_2 : decode cJ25_init 2 = .ok (.invokespecial 1, 3) := dk_183 0 1 (dk_at dksJ25_init_0 2 rfl rfl)
theorem dJ25_init_5 : decode cJ25_init 5 = .ok (.return_, 1) := dk_177 (dk_at dksJ25_init_0 5 rfl rfl)
abbrev cJ25_next : ByteArray := prog_66_method_2_code
def yJ25_next : MethodName := ⟨RJ25, "next", "()Ljava/lang/Object;"⟩
def dkwJ25_next_0 : List UInt8 := [42, 182, 0, 7, 180, 0, 13, 176]
abbrev dktJ25_next_0 : List UInt8 := dkwJ25_next_0 ++ []
theorem dksJ25_next_0 : cJ25_next.data.toList.drop 0 = dktJ25_next_0 := by decide +kernel
theorem dJ25_next_0 : decode cJ25_next 0 = .ok (.aload_n 0, 1) := dk_42 (dk_at dksJ25_next_0 0 rfl rfl)
theorem dJ25_next_1 : decode cJ25_next 1 = .ok (.invokevirtual 7, 3) := dk_182 0 7 (dk_at dksJ25_next_0 1 rfl rfl)
theorem dJ25_next_4 : decode cJ25_next 4 = .ok (.getfield 13, 3) := dk_180 0 13 (dk_at dksJ25_next_0 4 rfl rfl)
theorem dJ25_next_7 : decode cJ25_next 7 = .ok (.areturn, 1) := dk_176 (dk_at dksJ25_next_0 7 rfl rfl)
theorem q153 : (Jvm.Cond.initialized "java/util/HashMap$KeyIterator") ∈ lw_all := lw_g (lw_at lw_m1 48 rfl) rfl
theorem q1047 : (Jvm.Cond.fieldLink "java/util/HashMap$KeyIterator" (13 : Nat) "java/util/HashMap$Node" "key" "Ljava/lang/Object;") ∈ lw_all := lw_g (lw_at lw_m4 222 rfl) rfl
theorem q1132 : (Jvm.Cond.selects "java/util/HashMap$KeyIterator" ({ cls := "java/lang/Object", name := "getClass", desc := "()Ljava/lang/Class;" } : Jvm.MethodName) ({ cls := "java/lang/Object", name := "getClass", desc := "()Ljava/lang/Class;" } : Jvm.MethodName)) ∈ lw_all := lw_g (lw_at lw_m5 67 rfl) rfl
theorem q1899 : (Jvm.Cond.instantiable "java/util/HashMap$KeyIterator" (5 : Nat)) ∈ lw_all := lw_g (lw_at lw_m8 114 rfl) rfl
theorem q1901 : (Jvm.Cond.instanceMethod ({ cls := "java/util/HashMap$KeyIterator", name := "<init>", desc := "(Ljava/util/HashMap;)V" } : Jvm.MethodName)) ∈ lw_all := lw_g (lw_at lw_m8 116 rfl) rfl
theorem q1902 : (Jvm.Cond.code ({ cls := "java/util/HashMap$KeyIterator", name := "<init>", desc := "(Ljava/util/HashMap;)V" } : Jvm.MethodName) prog_66_method_1_code (2 : Nat) (Option.none : Option Jvm.ClassFile.FieldType)) ∈ lw_all := lw_g (lw_at lw_m8 117 rfl) rfl
theorem q1903 : (Jvm.Cond.methodLink "java/util/HashMap$KeyIterator" (1 : Nat) ({ cls := "java/util/HashMap$HashIterator", name := "<init>", desc := "(Ljava/util/HashMap;)V" } : Jvm.MethodName)) ∈ lw_all := lw_g (lw_at lw_m8 118 rfl) rfl
theorem q1912 : (Jvm.Cond.lays "java/util/HashMap$KeyIterator" "java/util/HashMap$HashIterator" "next" "Ljava/util/HashMap$Node;") ∈ lw_all := lw_g (lw_at lw_m8 127 rfl) rfl
theorem q1914 : (Jvm.Cond.lays "java/util/HashMap$KeyIterator" "java/util/HashMap$HashIterator" "current" "Ljava/util/HashMap$Node;") ∈ lw_all := lw_g (lw_at lw_m8 129 rfl) rfl
theorem q1916 : (Jvm.Cond.lays "java/util/HashMap$KeyIterator" "java/util/HashMap$HashIterator" "expectedModCount" "I") ∈ lw_all := lw_g (lw_at lw_m8 131 rfl) rfl
theorem q1918 : (Jvm.Cond.lays "java/util/HashMap$KeyIterator" "java/util/HashMap$HashIterator" "index" "I") ∈ lw_all := lw_g (lw_at lw_m8 133 rfl) rfl
theorem q1920 : (Jvm.Cond.laysFinal "java/util/HashMap$KeyIterator" "java/util/HashMap$HashIterator" "this$0" "Ljava/util/HashMap;") ∈ lw_all := lw_g (lw_at lw_m8 135 rfl) rfl
theorem q1922 : (Jvm.Cond.superclass "java/util/HashMap$KeyIterator" "java/util/HashMap$HashIterator") ∈ lw_all := lw_g (lw_at lw_m8 137 rfl) rfl
theorem q2028 : (Jvm.Cond.castable "java/util/HashMap$KeyIterator" "java/util/Iterator") ∈ lw_tbl := lw_at lw_m9 3 rfl
theorem q2029 : (Jvm.Cond.selects "java/util/HashMap$KeyIterator" ({ cls := "java/util/Iterator", name := "hasNext", desc := "()Z" } : Jvm.MethodName) ({ cls := "java/util/HashMap$HashIterator", name := "hasNext", desc := "()Z" } : Jvm.MethodName)) ∈ lw_all := lw_g (lw_at lw_m9 4 rfl) rfl
theorem q2030 : (Jvm.Cond.unhidden "java/util/HashMap$KeyIterator" "hasNext" "()Z") ∈ lw_tbl := lw_at lw_m9 5 rfl
theorem q2047 : (Jvm.Cond.selects "java/util/HashMap$KeyIterator" ({ cls := "java/util/Iterator", name := "next", desc := "()Ljava/lang/Object;" } : Jvm.MethodName) ({ cls := "java/util/HashMap$KeyIterator", name := "next", desc := "()Ljava/lang/Object;" } : Jvm.MethodName)) ∈ lw_all := lw_g (lw_at lw_m9 22 rfl) rfl
theorem q2048 : (Jvm.Cond.unhidden "java/util/HashMap$KeyIterator" "next" "()Ljava/lang/Object;") ∈ lw_tbl := lw_at lw_m9 23 rfl
theorem q2049 : (Jvm.Cond.instanceMethod ({ cls := "java/util/HashMap$KeyIterator", name := "next", desc := "()Ljava/lang/Object;" } : Jvm.MethodName)) ∈ lw_all := lw_g (lw_at lw_m9 24 rfl) rfl
theorem q2050 : (Jvm.Cond.publicMethod ({ cls := "java/util/HashMap$KeyIterator", name := "next", desc := "()Ljava/lang/Object;" } : Jvm.MethodName)) ∈ lw_tbl := lw_at lw_m9 25 rfl
theorem q2051 : (Jvm.Cond.code ({ cls := "java/util/HashMap$KeyIterator", name := "next", desc := "()Ljava/lang/Object;" } : Jvm.MethodName) prog_66_method_2_code (1 : Nat) (Option.some (Jvm.ClassFile.FieldType.object "java/lang/Object"))) ∈ lw_all := lw_g (lw_at lw_m9 26 rfl) rfl
theorem q2052 : (Jvm.Cond.methodLink "java/util/HashMap$KeyIterator" (7 : Nat) ({ cls := "java/util/HashMap$KeyIterator", name := "nextNode", desc := "()Ljava/util/HashMap$Node;" } : Jvm.MethodName)) ∈ lw_all := lw_g (lw_at lw_m9 27 rfl) rfl
theorem q2053 : (Jvm.Cond.sameMethod "java/util/HashMap$KeyIterator" "java/util/HashMap$HashIterator" "nextNode" "()Ljava/util/HashMap$Node;") ∈ lw_all := lw_g (lw_at lw_m9 28 rfl) rfl
theorem q2055 : (Jvm.Cond.selects "java/util/HashMap$KeyIterator" ({ cls := "java/util/HashMap$KeyIterator", name := "nextNode", desc := "()Ljava/util/HashMap$Node;" } : Jvm.MethodName) ({ cls := "java/util/HashMap$HashIterator", name := "nextNode", desc := "()Ljava/util/HashMap$Node;" } : Jvm.MethodName)) ∈ lw_all := lw_g (lw_at lw_m9 30 rfl) rfl
theorem q3159 : (Jvm.Cond.castable "java/util/HashMap$KeyIterator" "java/lang/Object") ∈ lw_tbl := lw_at lw_m13 174 rfl
theorem in_J25 : ∀ w ∈ wsJ250, w ∈ lw_all := lw_in wsJ250 [1912, 1914, 1916, 1918, 1920] (by decide +kernel) (by decide +kernel)
/-! java/util/HashMap$KeySet -/
set_option maxRecDepth 100000
def RJ26 : String := "java/util/HashMap$KeySet"
def TJ26 : u_T := fun k => match k with
  | _ => ("java/util/HashMap$KeySet", "this$0", "Ljava/util/HashMap;", true)
def tyJ26 : Nat → FieldType := fun k => match k with
  | _ => .object "java/util/HashMap"
abbrev wsJ260 : List Cond := u_ws RJ26 TJ26 1
theorem nmJ26 : ∀ a, a < 1 → ∀ b, b < 1 → a ≠ b → (TJ26 a).2.1 ≠ (TJ26 b).2.1 := by decide +kernel
theorem tyJ26_ok : ∀ k, k < 1 → parseFieldDescriptor (TJ26 k).2.2.1 = some (tyJ26 k) := by decide +kernel
abbrev cJ26_iterator : ByteArray := prog_67_method_4_code
def yJ26_iterator : MethodName := ⟨RJ26, "iterator", "()Ljava/util/Iterator;"⟩
def dkwJ26_iterator_0 : List UInt8 := [187, 0, 22, 89, 42, 180, 0, 1, 183, 0, 24, 176]
abbrev dktJ26_iterator_0 : List UInt8 := dkwJ26_iterator_0 ++ []
theorem dksJ26_iterator_0 : cJ26_iterator.data.toList.drop 0 = dktJ26_iterator_0 := by decide +kernel
theorem dJ26_iterator_0 : decode cJ26_iterator 0 = .ok (.new 22, 3) := dk_187 0 22 (dk_at dksJ26_iterator_0 0 rfl rfl)
theorem dJ26_iterator_3 : decode cJ26_iterator 3 = .ok (.dup, 1) := dk_89 (dk_at dksJ26_iterator_0 3 rfl rfl)
theorem dJ26_iterator_4 : decode cJ26_iterator 4 = .ok (.aload_n 0, 1) := dk_42 (dk_at dksJ26_iterator_0 4 rfl rfl)
theorem dJ26_iterator_5 : decode cJ26_iterator 5 = .ok (.getfield 1, 3) := dk_180 0 1 (dk_at dksJ26_iterator_0 5 rfl rfl)
theorem dJ26_iterator_8 : decode cJ26_iterator 8 = .ok (.invokespecial 24, 3) := dk_183 0 24 (dk_at dksJ26_iterator_0 8 rfl rfl)
theorem dJ26_iterator_11 : decode cJ26_iterator 11 = .ok (.areturn, 1) := dk_176 (dk_at dksJ26_iterator_0 11 rfl rfl)
abbrev cJ26_init : ByteArray := prog_67_method_1_code
def yJ26_init : MethodName := ⟨RJ26, "<init>", "(Ljava/util/HashMap;)V"⟩
def dkwJ26_init_0 : List UInt8 := [42, 43, 181, 0, 1, 42, 183, 0, 7, 177]
abbrev dktJ26_init_0 : List UInt8 := dkwJ26_init_0 ++ []
theorem dksJ26_init_0 : cJ26_init.data.toList.drop 0 = dktJ26_init_0 := by decide +kernel
theorem dJ26_init_0 : decode cJ26_init 0 = .ok (.aload_n 0, 1) := dk_42 (dk_at dksJ26_init_0 0 rfl rfl)
theorem dJ26_init_1 : decode cJ26_init 1 = .ok (.aload_n 1, 1) := dk_43 (dk_at dksJ26_init_0 1 rfl rfl)
theorem dJ26_init_2 : decode cJ26_init 2 = .ok (.putfield 1, 3) := dk_181 0 1 (dk_at dksJ26_init_0 2 rfl rfl)
theorem dJ26_init_5 : decode cJ26_init 5 = .ok (.aload_n 0, 1) := dk_42 (dk_at dksJ26_init_0 5 rfl rfl)
theorem dJ26_init_6 : decode cJ26_init 6 = .ok (.invokespecial 7, 3) := dk_183 0 7 (dk_at dksJ26_init_0 6 rfl rfl)
theorem dJ26_init_9 : decode cJ26_init 9 = .ok (.return_, 1) := dk_177 (dk_at dksJ26_init_0 9 rfl rfl)
theorem q154 : (Jvm.Cond.initialized "java/util/HashMap$KeySet") ∈ lw_all := lw_g (lw_at lw_m1 49 rfl) rfl
theorem q1133 : (Jvm.Cond.selects "java/util/HashMap$KeySet" ({ cls := "java/lang/Object", name := "getClass", desc := "()Ljava/lang/Class;" } : Jvm.MethodName) ({ cls := "java/lang/Object", name := "getClass", desc := "()Ljava/lang/Class;" } : Jvm.MethodName)) ∈ lw_all := lw_g (lw_at lw_m5 68 rfl) rfl
theorem q1892 : (Jvm.Cond.castable "java/util/HashMap$KeySet" "java/util/Collection") ∈ lw_tbl := lw_at lw_m8 107 rfl
theorem q1893 : (Jvm.Cond.selects "java/util/HashMap$KeySet" ({ cls := "java/util/Collection", name := "iterator", desc := "()Ljava/util/Iterator;" } : Jvm.MethodName) ({ cls := "java/util/HashMap$KeySet", name := "iterator", desc := "()Ljava/util/Iterator;" } : Jvm.MethodName)) ∈ lw_all := lw_g (lw_at lw_m8 108 rfl) rfl
theorem q1894 : (Jvm.Cond.unhidden "java/util/HashMap$KeySet" "iterator" "()Ljava/util/Iterator;") ∈ lw_tbl := lw_at lw_m8 109 rfl
theorem q1895 : (Jvm.Cond.instanceMethod ({ cls := "java/util/HashMap$KeySet", name := "iterator", desc := "()Ljava/util/Iterator;" } : Jvm.MethodName)) ∈ lw_all := lw_g (lw_at lw_m8 110 rfl) rfl
theorem q1896 : (Jvm.Cond.publicMethod ({ cls := "java/util/HashMap$KeySet", name := "iterator", desc := "()Ljava/util/Iterator;" } : Jvm.MethodName)) ∈ lw_tbl := lw_at lw_m8 111 rfl
theorem q1897 : (Jvm.Cond.code ({ cls := "java/util/HashMap$KeySet", name := "iterator", desc := "()Ljava/util/Iterator;" } : Jvm.MethodName) prog_67_method_4_code (1 : Nat) (Option.some (Jvm.ClassFile.FieldType.object "java/util/Iterator"))) ∈ lw_all := lw_g (lw_at lw_m8 112 rfl) rfl
theorem q1898 : (Jvm.Cond.classLink "java/util/HashMap$KeySet" (22 : Nat) "java/util/HashMap$KeyIterator") ∈ lw_all := lw_g (lw_at lw_m8 113 rfl) rfl
theorem q1900 : (Jvm.Cond.methodLink "java/util/HashMap$KeySet" (24 : Nat) ({ cls := "java/util/HashMap$KeyIterator", name := "<init>", desc := "(Ljava/util/HashMap;)V" } : Jvm.MethodName)) ∈ lw_all := lw_g (lw_at lw_m8 115 rfl) rfl
theorem q1956 : (Jvm.Cond.instantiable "java/util/HashMap$KeySet" (1 : Nat)) ∈ lw_all := lw_g (lw_at lw_m8 171 rfl) rfl
theorem q1958 : (Jvm.Cond.instanceMethod ({ cls := "java/util/HashMap$KeySet", name := "<init>", desc := "(Ljava/util/HashMap;)V" } : Jvm.MethodName)) ∈ lw_all := lw_g (lw_at lw_m8 173 rfl) rfl
theorem q1959 : (Jvm.Cond.code ({ cls := "java/util/HashMap$KeySet", name := "<init>", desc := "(Ljava/util/HashMap;)V" } : Jvm.MethodName) prog_67_method_1_code (2 : Nat) (Option.none : Option Jvm.ClassFile.FieldType)) ∈ lw_all := lw_g (lw_at lw_m8 174 rfl) rfl
theorem q1960 : (Jvm.Cond.methodLink "java/util/HashMap$KeySet" (7 : Nat) ({ cls := "java/util/AbstractSet", name := "<init>", desc := "()V" } : Jvm.MethodName)) ∈ lw_all := lw_g (lw_at lw_m8 175 rfl) rfl
theorem q1961 : (Jvm.Cond.fieldLink "java/util/HashMap$KeySet" (1 : Nat) "java/util/HashMap$KeySet" "this$0" "Ljava/util/HashMap;") ∈ lw_all := lw_g (lw_at lw_m8 176 rfl) rfl
theorem q1962 : (Jvm.Cond.laysFinal "java/util/HashMap$KeySet" "java/util/HashMap$KeySet" "this$0" "Ljava/util/HashMap;") ∈ lw_all := lw_g (lw_at lw_m8 177 rfl) rfl
theorem q1963 : (Jvm.Cond.soleField "java/util/HashMap$KeySet" "this$0") ∈ lw_all := lw_g (lw_at lw_m8 178 rfl) rfl
theorem q1964 : (Jvm.Cond.superclass "java/util/HashMap$KeySet" "java/util/AbstractSet") ∈ lw_all := lw_g (lw_at lw_m8 179 rfl) rfl
theorem q1969 : (Jvm.Cond.castable "java/util/HashMap$KeySet" "java/util/Set") ∈ lw_tbl := lw_at lw_m8 184 rfl
theorem q1970 : (Jvm.Cond.selects "java/util/HashMap$KeySet" ({ cls := "java/util/Set", name := "iterator", desc := "()Ljava/util/Iterator;" } : Jvm.MethodName) ({ cls := "java/util/HashMap$KeySet", name := "iterator", desc := "()Ljava/util/Iterator;" } : Jvm.MethodName)) ∈ lw_all := lw_g (lw_at lw_m8 185 rfl) rfl
theorem q3157 : (Jvm.Cond.castable "java/util/HashMap$KeySet" "java/lang/Object") ∈ lw_tbl := lw_at lw_m13 172 rfl
theorem in_J26 : ∀ w ∈ wsJ260, w ∈ lw_all := lw_in wsJ260 [1962] (by decide +kernel) (by decide +kernel)
/-! java/util/LinkedHashMap$LinkedKeySet -/
set_option maxRecDepth 100000
def RJ27 : String := "java/util/LinkedHashMap$LinkedKeySet"
def TJ27 : u_T := fun k => match k with
  | 0 => ("java/util/LinkedHashMap$LinkedKeySet", "reversed", "Z", true)
  | _ => ("java/util/LinkedHashMap$LinkedKeySet", "this$0", "Ljava/util/LinkedHashMap;", true)
def tyJ27 : Nat → FieldType := fun k => match k with
  | 0 => .boolean
  | _ => .object "java/util/LinkedHashMap"
abbrev wsJ270 : List Cond := u_ws RJ27 TJ27 2
theorem nmJ27 : ∀ a, a < 2 → ∀ b, b < 2 → a ≠ b → (TJ27 a).2.1 ≠ (TJ27 b).2.1 := by decide +kernel
theorem tyJ27_ok : ∀ k, k < 2 → parseFieldDescriptor (TJ27 k).2.2.1 = some (tyJ27 k) := by decide +kernel
abbrev cJ27_init : ByteArray := prog_76_method_1_code
def yJ27_init : MethodName := ⟨RJ27, "<init>", "(Ljava/util/LinkedHashMap;Z)V"⟩
def dkwJ27_init_0 : List UInt8 := [42, 43, 181, 0, 1, 42, 183, 0, 7, 42, 28, 181, 0, 13, 177]
abbrev dktJ27_init_0 : List UInt8 := dkwJ27_init_0 ++ []
theorem dksJ27_init_0 : cJ27_init.data.toList.drop 0 = dktJ27_init_0 := by decide +kernel
theorem dJ27_init_0 : decode cJ27_init 0 = .ok (.aload_n 0, 1) := dk_42 (dk_at dksJ27_init_0 0 rfl rfl)
theorem dJ27_init_1 : decode cJ27_init 1 = .ok (.aload_n 1, 1) := dk_43 (dk_at dksJ27_init_0 1 rfl rfl)
theorem dJ27_init_2 : decode cJ27_init 2 = .ok (.putfield 1, 3) := dk_181 0 1 (dk_at dksJ27_init_0 2 rfl rfl)
theorem dJ27_init_5 : decode cJ27_init 5 = .ok (.aload_n 0, 1) := dk_42 (dk_at dksJ27_init_0 5 rfl rfl)
theorem dJ27_init_6 : decode cJ27_init 6 = .ok (.invokespecial 7, 3) := dk_183 0 7 (dk_at dksJ27_init_0 6 rfl rfl)
theorem dJ27_init_9 : decode cJ27_init 9 = .ok (.aload_n 0, 1) := dk_42 (dk_at dksJ27_init_0 9 rfl rfl)
theorem dJ27_init_10 : decode cJ27_init 10 = .ok (.iload_n 2, 1) := dk_28 (dk_at dksJ27_init_0 10 rfl rfl)
theorem dJ27_init_11 : decode cJ27_init 11 = .ok (.putfield 13, 3) := dk_181 0 13 (dk_at dksJ27_init_0 11 rfl rfl)
theorem dJ27_init_14 : decode cJ27_init 14 = .ok (.return_, 1) := dk_177 (dk_at dksJ27_init_0 14 rfl rfl)
abbrev cJ27_iterator : ByteArray := prog_76_method_4_code
def yJ27_iterator : MethodName := ⟨RJ27, "iterator", "()Ljava/util/Iterator;"⟩
def dkwJ27_iterator_0 : List UInt8 := [187, 0, 26, 89, 42, 180, 0, 1, 42, 180, 0, 13, 183, 0, 28, 176]
abbrev dktJ27_iterator_0 : List UInt8 := dkwJ27_iterator_0 ++ []
theorem dksJ27_iterator_0 : cJ27_iterator.data.toList.drop 0 = dktJ27_iterator_0 := by decide +kernel
theorem dJ27_iterator_0 : decode cJ27_iterator 0 = .ok (.new 26, 3) := dk_187 0 26 (dk_at dksJ27_iterator_0 0 rfl rfl)
theorem dJ27_iterator_3 : decode cJ27_iterator 3 = .ok (.dup, 1) := dk_89 (dk_at dksJ27_iterator_0 3 rfl rfl)
theorem dJ27_iterator_4 : decode cJ27_iterator 4 = .ok (.aload_n 0, 1) := dk_42 (dk_at dksJ27_iterator_0 4 rfl rfl)
theorem dJ27_iterator_5 : decode cJ27_iterator 5 = .ok (.getfield 1, 3) := dk_180 0 1 (dk_at dksJ27_iterator_0 5 rfl rfl)
theorem dJ27_iterator_8 : decode cJ27_iterator 8 = .ok (.aload_n 0, 1) := dk_42 (dk_at dksJ27_iterator_0 8 rfl rfl)
theorem dJ27_iterator_9 : decode cJ27_iterator 9 = .ok (.getfield 13, 3) := dk_180 0 13 (dk_at dksJ27_iterator_0 9 rfl rfl)
theorem dJ27_iterator_12 : decode cJ27_iterator 12 = .ok (.invokespecial 28, 3) := dk_183 0 28 (dk_at dksJ27_iterator_0 12 rfl rfl)
theorem dJ27_iterator_15 : decode cJ27_iterator 15 = .ok (.areturn, 1) := dk_176 (dk_at dksJ27_iterator_0 15 rfl rfl)
theorem q155 : (Jvm.Cond.initialized "java/util/LinkedHashMap$LinkedKeySet") ∈ lw_all := lw_g (lw_at lw_m1 50 rfl) rfl
theorem q1140 : (Jvm.Cond.selects "java/util/LinkedHashMap$LinkedKeySet" ({ cls := "java/lang/Object", name := "getClass", desc := "()Ljava/lang/Class;" } : Jvm.MethodName) ({ cls := "java/lang/Object", name := "getClass", desc := "()Ljava/lang/Class;" } : Jvm.MethodName)) ∈ lw_all := lw_g (lw_at lw_m5 75 rfl) rfl
theorem q1941 : (Jvm.Cond.instantiable "java/util/LinkedHashMap$LinkedKeySet" (2 : Nat)) ∈ lw_all := lw_g (lw_at lw_m8 156 rfl) rfl
theorem q1943 : (Jvm.Cond.instanceMethod ({ cls := "java/util/LinkedHashMap$LinkedKeySet", name := "<init>", desc := "(Ljava/util/LinkedHashMap;Z)V" } : Jvm.MethodName)) ∈ lw_all := lw_g (lw_at lw_m8 158 rfl) rfl
theorem q1944 : (Jvm.Cond.code ({ cls := "java/util/LinkedHashMap$LinkedKeySet", name := "<init>", desc := "(Ljava/util/LinkedHashMap;Z)V" } : Jvm.MethodName) prog_76_method_1_code (3 : Nat) (Option.none : Option Jvm.ClassFile.FieldType)) ∈ lw_all := lw_g (lw_at lw_m8 159 rfl) rfl
theorem q1945 : (Jvm.Cond.methodLink "java/util/LinkedHashMap$LinkedKeySet" (7 : Nat) ({ cls := "java/util/AbstractSet", name := "<init>", desc := "()V" } : Jvm.MethodName)) ∈ lw_all := lw_g (lw_at lw_m8 160 rfl) rfl
theorem q1946 : (Jvm.Cond.fieldLink "java/util/LinkedHashMap$LinkedKeySet" (13 : Nat) "java/util/LinkedHashMap$LinkedKeySet" "reversed" "Z") ∈ lw_all := lw_g (lw_at lw_m8 161 rfl) rfl
theorem q1947 : (Jvm.Cond.fieldLink "java/util/LinkedHashMap$LinkedKeySet" (1 : Nat) "java/util/LinkedHashMap$LinkedKeySet" "this$0" "Ljava/util/LinkedHashMap;") ∈ lw_all := lw_g (lw_at lw_m8 162 rfl) rfl
theorem q1948 : (Jvm.Cond.laysFinal "java/util/LinkedHashMap$LinkedKeySet" "java/util/LinkedHashMap$LinkedKeySet" "reversed" "Z") ∈ lw_all := lw_g (lw_at lw_m8 163 rfl) rfl
theorem q1949 : (Jvm.Cond.soleField "java/util/LinkedHashMap$LinkedKeySet" "reversed") ∈ lw_all := lw_g (lw_at lw_m8 164 rfl) rfl
theorem q1950 : (Jvm.Cond.laysFinal "java/util/LinkedHashMap$LinkedKeySet" "java/util/LinkedHashMap$LinkedKeySet" "this$0" "Ljava/util/LinkedHashMap;") ∈ lw_all := lw_g (lw_at lw_m8 165 rfl) rfl
theorem q1951 : (Jvm.Cond.soleField "java/util/LinkedHashMap$LinkedKeySet" "this$0") ∈ lw_all := lw_g (lw_at lw_m8 166 rfl) rfl
theorem q1952 : (Jvm.Cond.superclass "java/util/LinkedHashMap$LinkedKeySet" "java/util/AbstractSet") ∈ lw_all := lw_g (lw_at lw_m8 167 rfl) rfl
theorem q1973 : (Jvm.Cond.castable "java/util/LinkedHashMap$LinkedKeySet" "java/util/Set") ∈ lw_tbl := lw_at lw_m8 188 rfl
theorem q1974 : (Jvm.Cond.selects "java/util/LinkedHashMap$LinkedKeySet" ({ cls := "java/util/Set", name := "iterator", desc := "()Ljava/util/Iterator;" } : Jvm.MethodName) ({ cls := "java/util/LinkedHashMap$LinkedKeySet", name := "iterator", desc := "()Ljava/util/Iterator;" } : Jvm.MethodName)) ∈ lw_all := lw_g (lw_at lw_m8 189 rfl) rfl
theorem q1975 : (Jvm.Cond.unhidden "java/util/LinkedHashMap$LinkedKeySet" "iterator" "()Ljava/util/Iterator;") ∈ lw_tbl := lw_at lw_m8 190 rfl
theorem q1976 : (Jvm.Cond.instanceMethod ({ cls := "java/util/LinkedHashMap$LinkedKeySet", name := "iterator", desc := "()Ljava/util/Iterator;" } : Jvm.MethodName)) ∈ lw_all := lw_g (lw_at lw_m8 191 rfl) rfl
theorem q1977 : (Jvm.Cond.publicMethod ({ cls := "java/util/LinkedHashMap$LinkedKeySet", name := "iterator", desc := "()Ljava/util/Iterator;" } : Jvm.MethodName)) ∈ lw_tbl := lw_at lw_m8 192 rfl
theorem q1978 : (Jvm.Cond.code ({ cls := "java/util/LinkedHashMap$LinkedKeySet", name := "iterator", desc := "()Ljava/util/Iterator;" } : Jvm.MethodName) prog_76_method_4_code (1 : Nat) (Option.some (Jvm.ClassFile.FieldType.object "java/util/Iterator"))) ∈ lw_all := lw_g (lw_at lw_m8 193 rfl) rfl
theorem q1979 : (Jvm.Cond.classLink "java/util/LinkedHashMap$LinkedKeySet" (26 : Nat) "java/util/LinkedHashMap$LinkedKeyIterator") ∈ lw_all := lw_g (lw_at lw_m8 194 rfl) rfl
theorem q1981 : (Jvm.Cond.methodLink "java/util/LinkedHashMap$LinkedKeySet" (28 : Nat) ({ cls := "java/util/LinkedHashMap$LinkedKeyIterator", name := "<init>", desc := "(Ljava/util/LinkedHashMap;Z)V" } : Jvm.MethodName)) ∈ lw_all := lw_g (lw_at lw_m8 196 rfl) rfl
theorem q2004 : (Jvm.Cond.castable "java/util/LinkedHashMap$LinkedKeySet" "java/util/Collection") ∈ lw_tbl := lw_at lw_m8 219 rfl
theorem q2005 : (Jvm.Cond.selects "java/util/LinkedHashMap$LinkedKeySet" ({ cls := "java/util/Collection", name := "iterator", desc := "()Ljava/util/Iterator;" } : Jvm.MethodName) ({ cls := "java/util/LinkedHashMap$LinkedKeySet", name := "iterator", desc := "()Ljava/util/Iterator;" } : Jvm.MethodName)) ∈ lw_all := lw_g (lw_at lw_m8 220 rfl) rfl
theorem q3116 : (Jvm.Cond.castable "java/util/LinkedHashMap$LinkedKeySet" "java/util/SequencedSet") ∈ lw_tbl := lw_at lw_m13 131 rfl
theorem q3118 : (Jvm.Cond.castable "java/util/LinkedHashMap$LinkedKeySet" "java/util/SequencedCollection") ∈ lw_tbl := lw_at lw_m13 133 rfl
theorem q3158 : (Jvm.Cond.castable "java/util/LinkedHashMap$LinkedKeySet" "java/lang/Object") ∈ lw_tbl := lw_at lw_m13 173 rfl
theorem in_J27 : ∀ w ∈ wsJ270, w ∈ lw_all := lw_in wsJ270 [1948, 1950] (by decide +kernel) (by decide +kernel)
/-! java/util/LinkedHashMap$LinkedHashIterator -/
set_option maxRecDepth 100000
def RJ28 : String := "java/util/LinkedHashMap$LinkedHashIterator"
abbrev cJ28_init : ByteArray := prog_74_method_1_code
def yJ28_init : MethodName := ⟨RJ28, "<init>", "(Ljava/util/LinkedHashMap;Z)V"⟩
def dkwJ28_init_1 : List UInt8 := [167, 0, 7, 43, 180, 0, 23, 181, 0, 26, 42, 43, 180, 0, 29, 181, 0, 33, 42, 1, 181, 0, 36, 177]
abbrev dktJ28_init_1 : List UInt8 := dkwJ28_init_1 ++ []
def dkwJ28_init_0 : List UInt8 := [42, 43, 181, 0, 1, 42, 183, 0, 7, 42, 28, 181, 0, 13, 42, 28, 153, 0, 10, 43, 180, 0, 17]
abbrev dktJ28_init_0 : List UInt8 := dkwJ28_init_0 ++ dktJ28_init_1
theorem dksJ28_init_0 : cJ28_init.data.toList.drop 0 = dktJ28_init_0 := by decide +kernel
theorem dksJ28_init_1 : cJ28_init.data.toList.drop 23 = dktJ28_init_1 := dk_seg dksJ28_init_0 23 rfl rfl
theorem dJ28_init_0 : decode cJ28_init 0 = .ok (.aload_n 0, 1) := dk_42 (dk_at dksJ28_init_0 0 rfl rfl)
theorem dJ28_init_1 : decode cJ28_init 1 = .ok (.aload_n 1, 1) := dk_43 (dk_at dksJ28_init_0 1 rfl rfl)
theorem dJ28_init_2 : decode cJ28_init 2 = .ok (.putfield 1, 3) := dk_181 0 1 (dk_at dksJ28_init_0 2 rfl rfl)
theorem dJ28_init_5 : decode cJ28_init 5 = .ok (.aload_n 0, 1) := dk_42 (dk_at dksJ28_init_0 5 rfl rfl)
theorem dJ28_init_6 : decode cJ28_init 6 = .ok (.invokespecial 7, 3) := dk_183 0 7 (dk_at dksJ28_init_0 6 rfl rfl)
theorem dJ28_init_9 : decode cJ28_init 9 = .ok (.aload_n 0, 1) := dk_42 (dk_at dksJ28_init_0 9 rfl rfl)
theorem dJ28_init_10 : decode cJ28_init 10 = .ok (.iload_n 2, 1) := dk_28 (dk_at dksJ28_init_0 10 rfl rfl)
theorem dJ28_init_11 : decode cJ28_init 11 = .ok (.putfield 13, 3) := dk_181 0 13 (dk_at dksJ28_init_0 11 rfl rfl)
theorem dJ28_init_14 : decode cJ28_init 14 = .ok (.aload_n 0, 1) := dk_42 (dk_at dksJ28_init_0 14 rfl rfl)
theorem dJ28_init_15 : decode cJ28_init 15 = .ok (.iload_n 2, 1) := dk_28 (dk_at dksJ28_init_0 15 rfl rfl)
theorem dJ28_init_16 : decode cJ28_init 16 = .ok (.ifCond .eq 10, 3) := dk_153 0 10 (dk_at dksJ28_init_0 16 rfl rfl)
theorem dJ28_init_19 : decode cJ28_init 19 = .ok (.aload_n 1, 1) := dk_43 (dk_at dksJ28_init_0 19 rfl rfl)
theorem dJ28_init_20 : decode cJ28_init 20 = .ok (.getfield 17, 3) := dk_180 0 17 (dk_at dksJ28_init_0 20 rfl rfl)
theorem dJ28_init_23 : decode cJ28_init 23 = .ok (.goto 7, 3) := dk_167 0 7 (dk_at dksJ28_init_1 0 rfl rfl)
theorem dJ28_init_26 : decode cJ28_init 26 = .ok (.aload_n 1, 1) := dk_43 (dk_at dksJ28_init_1 3 rfl rfl)
theorem dJ28_init_27 : decode cJ28_init 27 = .ok (.getfield 23, 3) := dk_180 0 23 (dk_at dksJ28_init_1 4 rfl rfl)
theorem dJ28_init_30 : decode cJ28_init 30 = .ok (.putfield 26, 3) := dk_181 0 26 (dk_at dksJ28_init_1 7 rfl rfl)
theorem dJ28_init_33 : decode cJ28_init 33 = .ok (.aload_n 0, 1) := dk_42 (dk_at dksJ28_init_1 10 rfl rfl)
theorem dJ28_init_34 : decode cJ28_init 34 = .ok (.aload_n 1, 1) := dk_43 (dk_at dksJ28_init_1 11 rfl rfl)
theorem dJ28_init_35 : decode cJ28_init 35 = .ok (.getfield 29, 3) := dk_180 0 29 (dk_at dksJ28_init_1 12 rfl rfl)
theorem dJ28_init_38 : decode cJ28_init 38 = .ok (.putfield 33, 3) := dk_181 0 33 (dk_at dksJ28_init_1 15 rfl rfl)
theorem dJ28_init_41 : decode cJ28_init 41 = .ok (.aload_n 0, 1) := dk_42 (dk_at dksJ28_init_1 18 rfl rfl)
theorem dJ28_init_42 : decode cJ28_init 42 = .ok (.aconst_null, 1) := dk_1 (dk_at dksJ28_init_1 19 rfl rfl)
theorem dJ28_init_43 : decode cJ28_init 43 = .ok (.putfield 36, 3) := dk_181 0 36 (dk_at dksJ28_init_1 20 rfl rfl)
theorem dJ28_init_46 : decode cJ28_init 46 = .ok (.return_, 1) := dk_177 (dk_at dksJ28_init_1 23 rfl rfl)
abbrev cJ28_hasNext : ByteArray := prog_74_method_2_code
def yJ28_hasNext : MethodName := ⟨RJ28, "hasNext", "()Z"⟩
def dkwJ28_hasNext_0 : List UInt8 := [42, 180, 0, 26, 198, 0, 7, 4, 167, 0, 4, 3, 172]
abbrev dktJ28_hasNext_0 : List UInt8 := dkwJ28_hasNext_0 ++ []
theorem dksJ28_hasNext_0 : cJ28_hasNext.data.toList.drop 0 = dktJ28_hasNext_0 := by decide +kernel
theorem dJ28_hasNext_0 : decode cJ28_hasNext 0 = .ok (.aload_n 0, 1) := dk_42 (dk_at dksJ28_hasNext_0 0 rfl rfl)
theorem dJ28_hasNext_1 : decode cJ28_hasNext 1 = .ok (.getfield 26, 3) := dk_180 0 26 (dk_at dksJ28_hasNext_0 1 rfl rfl)
theorem dJ28_hasNext_4 : decode cJ28_hasNext 4 = .ok (.ifnull 7, 3) := dk_198 0 7 (dk_at dksJ28_hasNext_0 4 rfl rfl)
theorem dJ28_hasNext_7 : decode cJ28_hasNext 7 = .ok (.iconst 1, 1) := dk_4 (dk_at dksJ28_hasNext_0 7 rfl rfl)
theorem dJ28_hasNext_8 : decode cJ28_hasNext 8 = .ok (.goto 4, 3) := dk_167 0 4 (dk_at dksJ28_hasNext_0 8 rfl rfl)
theorem dJ28_hasNext_11 : decode cJ28_hasNext 11 = .ok (.iconst 0, 1) := dk_3 (dk_at dksJ28_hasNext_0 11 rfl rfl)
theorem dJ28_hasNext_12 : decode cJ28_hasNext 12 = .ok (.ireturn, 1) := dk_172 (dk_at dksJ28_hasNext_0 12 rfl rfl)
abbrev cJ28_nextNode : ByteArray := prog_74_method_3_code
def yJ28_nextNode : MethodName := ⟨RJ28, "nextNode", "()Ljava/util/LinkedHashMap$Entry;"⟩
def dkwJ28_nextNode_2 : List UInt8 := [180, 0, 13, 153, 0, 10, 43, 180, 0, 45, 167, 0, 7, 43, 180, 0, 50, 181, 0, 26, 43, 176]
abbrev dktJ28_nextNode_2 : List UInt8 := dkwJ28_nextNode_2 ++ []
def dkwJ28_nextNode_1 : List UInt8 := [183, 0, 41, 191, 43, 199, 0, 11, 187, 0, 42, 89, 183, 0, 44, 191, 42, 43, 181, 0, 36, 42, 42]
abbrev dktJ28_nextNode_1 : List UInt8 := dkwJ28_nextNode_1 ++ dktJ28_nextNode_2
def dkwJ28_nextNode_0 : List UInt8 := [42, 180, 0, 26, 76, 42, 180, 0, 1, 180, 0, 29, 42, 180, 0, 33, 159, 0, 11, 187, 0, 39, 89]
abbrev dktJ28_nextNode_0 : List UInt8 := dkwJ28_nextNode_0 ++ dktJ28_nextNode_1
theorem dksJ28_nextNode_0 : cJ28_nextNode.data.toList.drop 0 = dktJ28_nextNode_0 := by decide +kernel
theorem dksJ28_nextNode_1 : cJ28_nextNode.data.toList.drop 23 = dktJ28_nextNode_1 := dk_seg dksJ28_nextNode_0 23 rfl rfl
theorem dksJ28_nextNode_2 : cJ28_nextNode.data.toList.drop 46 = dktJ28_nextNode_2 := dk_seg dksJ28_nextNode_1 23 rfl rfl
theorem dJ28_nextNode_0 : decode cJ28_nextNode 0 = .ok (.aload_n 0, 1) := dk_42 (dk_at dksJ28_nextNode_0 0 rfl rfl)
theorem dJ28_nextNode_1 : decode cJ28_nextNode 1 = .ok (.getfield 26, 3) := dk_180 0 26 (dk_at dksJ28_nextNode_0 1 rfl rfl)
theorem dJ28_nextNode_4 : decode cJ28_nextNode 4 = .ok (.astore_n 1, 1) := dk_76 (dk_at dksJ28_nextNode_0 4 rfl rfl)
theorem dJ28_nextNode_5 : decode cJ28_nextNode 5 = .ok (.aload_n 0, 1) := dk_42 (dk_at dksJ28_nextNode_0 5 rfl rfl)
theorem dJ28_nextNode_6 : decode cJ28_nextNode 6 = .ok (.getfield 1, 3) := dk_180 0 1 (dk_at dksJ28_nextNode_0 6 rfl rfl)
theorem dJ28_nextNode_9 : decode cJ28_nextNode 9 = .ok (.getfield 29, 3) := dk_180 0 29 (dk_at dksJ28_nextNode_0 9 rfl rfl)
theorem dJ28_nextNode_12 : decode cJ28_nextNode 12 = .ok (.aload_n 0, 1) := dk_42 (dk_at dksJ28_nextNode_0 12 rfl rfl)
theorem dJ28_nextNode_13 : decode cJ28_nextNode 13 = .ok (.getfield 33, 3) := dk_180 0 33 (dk_at dksJ28_nextNode_0 13 rfl rfl)
theorem dJ28_nextNode_16 : decode cJ28_nextNode 16 = .ok (.if_icmp .eq 11, 3) := dk_159 0 11 (dk_at dksJ28_nextNode_0 16 rfl rfl)
theorem dJ28_nextNode_19 : decode cJ28_nextNode 19 = .ok (.new 39, 3) := dk_187 0 39 (dk_at dksJ28_nextNode_0 19 rfl rfl)
theorem dJ28_nextNode_22 : decode cJ28_nextNode 22 = .ok (.dup, 1) := dk_89 (dk_at dksJ28_nextNode_0 22 rfl rfl)
theorem dJ28_nextNode_23 : decode cJ28_nextNode 23 = .ok (.invokespecial 41, 3) := dk_183 0 41 (dk_at dksJ28_nextNode_1 0 rfl rfl)
theorem dJ28_nextNode_26 : decode cJ28_nextNode 26 = .ok (.athrow, 1) := dk_191 (dk_at dksJ28_nextNode_1 3 rfl rfl)
theorem dJ28_nextNode_27 : decode cJ28_nextNode 27 = .ok (.aload_n 1, 1) := dk_43 (dk_at dksJ28_nextNode_1 4 rfl rfl)
theorem dJ28_nextNode_28 : decode cJ28_nextNode 28 = .ok (.ifnonnull 11, 3) := dk_199 0 11 (dk_at dksJ28_nextNode_1 5 rfl rfl)
theorem dJ28_nextNode_31 : decode cJ28_nextNode 31 = .ok (.new 42, 3) := dk_187 0 42 (dk_at dksJ28_nextNode_1 8 rfl rfl)
theorem dJ28_nextNode_34 : decode cJ28_nextNode 34 = .ok (.dup, 1) := dk_89 (dk_at dksJ28_nextNode_1 11 rfl rfl)
theorem dJ28_nextNode_35 : decode cJ28_nextNode 35 = .ok (.invokespecial 44, 3) := dk_183 0 44 (dk_at dksJ28_nextNode_1 12 rfl rfl)
theorem dJ28_nextNode_38 : decode cJ28_nextNode 38 = .ok (.athrow, 1) := dk_191 (dk_at dksJ28_nextNode_1 15 rfl rfl)
theorem dJ28_nextNode_39 : decode cJ28_nextNode 39 = .ok (.aload_n 0, 1) := dk_42 (dk_at dksJ28_nextNode_1 16 rfl rfl)
theorem dJ28_nextNode_40 : decode cJ28_nextNode 40 = .ok (.aload_n 1, 1) := dk_43 (dk_at dksJ28_nextNode_1 17 rfl rfl)
theorem dJ28_nextNode_41 : decode cJ28_nextNode 41 = .ok (.putfield 36, 3) := dk_181 0 36 (dk_at dksJ28_nextNode_1 18 rfl rfl)
theorem dJ28_nextNode_44 : decode cJ28_nextNode 44 = .ok (.aload_n 0, 1) := dk_42 (dk_at dksJ28_nextNode_1 21 rfl rfl)
theorem dJ28_nextNode_45 : decode cJ28_nextNode 45 = .ok (.aload_n 0, 1) := dk_42 (dk_at dksJ28_nextNode_1 22 rfl rfl)
theorem dJ28_nextNode_46 : decode cJ28_nextNode 46 = .ok (.getfield 13, 3) := dk_180 0 13 (dk_at dksJ28_nextNode_2 0 rfl rfl)
theorem dJ28_nextNode_49 : decode cJ28_nextNode 49 = .ok (.ifCond .eq 10, 3) := dk_153 0 10 (dk_at dksJ28_nextNode_2 3 rfl rfl)
theorem dJ28_nextNode_52 : decode cJ28_nextNode 52 = .ok (.aload_n 1, 1) := dk_43 (dk_at dksJ28_nextNode_2 6 rfl rfl)
theorem dJ28_nextNode_53 : decode cJ28_nextNode 53 = .ok (.getfield 45, 3) := dk_180 0 45 (dk_at dksJ28_nextNode_2 7 rfl rfl)
theorem dJ28_nextNode_56 : decode cJ28_nextNode 56 = .ok (.goto 7, 3) := dk_167 0 7 (dk_at dksJ28_nextNode_2 10 rfl rfl)
theorem dJ28_nextNode_59 : decode cJ28_nextNode 59 = .ok (.aload_n 1, 1) := dk_43 (dk_at dksJ28_nextNode_2 13 rfl rfl)
theorem dJ28_nextNode_60 : decode cJ28_nextNode 60 = .ok (.getfield 50, 3) := dk_180 0 50 (dk_at dksJ28_nextNode_2 14 rfl rfl)
theorem dJ28_nextNode_63 : decode cJ28_nextNode 63 = .ok (.putfield 26, 3) := dk_181 0 26 (dk_at dksJ28_nextNode_2 17 rfl rfl)
theorem dJ28_nextNode_66 : decode cJ28_nextNode 66 = .ok (.aload_n 1, 1) := dk_43 (dk_at dksJ28_nextNode_2 20 rfl rfl)
theorem dJ28_nextNode_67 : decode cJ28_nextNode 67 = .ok (.areturn, 1) := dk_176 (dk_at dksJ28_nextNode_2 21 rfl rfl)
theorem q156 : (Jvm.Cond.initialized "java/util/LinkedHashMap$LinkedHashIterator") ∈ lw_all := lw_g (lw_at lw_m1 51 rfl) rfl
theorem q319 : (Jvm.Cond.fieldLink "java/util/LinkedHashMap$LinkedHashIterator" (23 : Nat) "java/util/LinkedHashMap" "head" "Ljava/util/LinkedHashMap$Entry;") ∈ lw_all := lw_g (lw_at lw_m1 214 rfl) rfl
theorem q320 : (Jvm.Cond.fieldLink "java/util/LinkedHashMap$LinkedHashIterator" (17 : Nat) "java/util/LinkedHashMap" "tail" "Ljava/util/LinkedHashMap$Entry;") ∈ lw_all := lw_g (lw_at lw_m1 215 rfl) rfl
theorem q329 : (Jvm.Cond.fieldLink "java/util/LinkedHashMap$LinkedHashIterator" (29 : Nat) "java/util/LinkedHashMap" "modCount" "I") ∈ lw_all := lw_g (lw_at lw_m1 224 rfl) rfl
theorem q1037 : (Jvm.Cond.fieldLink "java/util/LinkedHashMap$LinkedHashIterator" (45 : Nat) "java/util/LinkedHashMap$Entry" "before" "Ljava/util/LinkedHashMap$Entry;") ∈ lw_all := lw_g (lw_at lw_m4 212 rfl) rfl
theorem q1039 : (Jvm.Cond.fieldLink "java/util/LinkedHashMap$LinkedHashIterator" (50 : Nat) "java/util/LinkedHashMap$Entry" "after" "Ljava/util/LinkedHashMap$Entry;") ∈ lw_all := lw_g (lw_at lw_m4 214 rfl) rfl
theorem q1985 : (Jvm.Cond.instanceMethod ({ cls := "java/util/LinkedHashMap$LinkedHashIterator", name := "<init>", desc := "(Ljava/util/LinkedHashMap;Z)V" } : Jvm.MethodName)) ∈ lw_all := lw_g (lw_at lw_m8 200 rfl) rfl
theorem q1986 : (Jvm.Cond.code ({ cls := "java/util/LinkedHashMap$LinkedHashIterator", name := "<init>", desc := "(Ljava/util/LinkedHashMap;Z)V" } : Jvm.MethodName) prog_74_method_1_code (3 : Nat) (Option.none : Option Jvm.ClassFile.FieldType)) ∈ lw_all := lw_g (lw_at lw_m8 201 rfl) rfl
theorem q1987 : (Jvm.Cond.methodLink "java/util/LinkedHashMap$LinkedHashIterator" (7 : Nat) ({ cls := "java/lang/Object", name := "<init>", desc := "()V" } : Jvm.MethodName)) ∈ lw_all := lw_g (lw_at lw_m8 202 rfl) rfl
theorem q1988 : (Jvm.Cond.fieldLink "java/util/LinkedHashMap$LinkedHashIterator" (26 : Nat) "java/util/LinkedHashMap$LinkedHashIterator" "next" "Ljava/util/LinkedHashMap$Entry;") ∈ lw_all := lw_g (lw_at lw_m8 203 rfl) rfl
theorem q1989 : (Jvm.Cond.fieldLink "java/util/LinkedHashMap$LinkedHashIterator" (36 : Nat) "java/util/LinkedHashMap$LinkedHashIterator" "current" "Ljava/util/LinkedHashMap$Entry;") ∈ lw_all := lw_g (lw_at lw_m8 204 rfl) rfl
theorem q1990 : (Jvm.Cond.fieldLink "java/util/LinkedHashMap$LinkedHashIterator" (33 : Nat) "java/util/LinkedHashMap$LinkedHashIterator" "expectedModCount" "I") ∈ lw_all := lw_g (lw_at lw_m8 205 rfl) rfl
theorem q1991 : (Jvm.Cond.fieldLink "java/util/LinkedHashMap$LinkedHashIterator" (13 : Nat) "java/util/LinkedHashMap$LinkedHashIterator" "reversed" "Z") ∈ lw_all := lw_g (lw_at lw_m8 206 rfl) rfl
theorem q1992 : (Jvm.Cond.fieldLink "java/util/LinkedHashMap$LinkedHashIterator" (1 : Nat) "java/util/LinkedHashMap$LinkedHashIterator" "this$0" "Ljava/util/LinkedHashMap;") ∈ lw_all := lw_g (lw_at lw_m8 207 rfl) rfl
theorem q1994 : (Jvm.Cond.soleField "java/util/LinkedHashMap$LinkedHashIterator" "next") ∈ lw_all := lw_g (lw_at lw_m8 209 rfl) rfl
theorem q1996 : (Jvm.Cond.soleField "java/util/LinkedHashMap$LinkedHashIterator" "current") ∈ lw_all := lw_g (lw_at lw_m8 211 rfl) rfl
theorem q1998 : (Jvm.Cond.soleField "java/util/LinkedHashMap$LinkedHashIterator" "expectedModCount") ∈ lw_all := lw_g (lw_at lw_m8 213 rfl) rfl
theorem q2000 : (Jvm.Cond.soleField "java/util/LinkedHashMap$LinkedHashIterator" "reversed") ∈ lw_all := lw_g (lw_at lw_m8 215 rfl) rfl
theorem q2002 : (Jvm.Cond.soleField "java/util/LinkedHashMap$LinkedHashIterator" "this$0") ∈ lw_all := lw_g (lw_at lw_m8 217 rfl) rfl
theorem q2037 : (Jvm.Cond.instanceMethod ({ cls := "java/util/LinkedHashMap$LinkedHashIterator", name := "hasNext", desc := "()Z" } : Jvm.MethodName)) ∈ lw_all := lw_g (lw_at lw_m9 12 rfl) rfl
theorem q2038 : (Jvm.Cond.publicMethod ({ cls := "java/util/LinkedHashMap$LinkedHashIterator", name := "hasNext", desc := "()Z" } : Jvm.MethodName)) ∈ lw_tbl := lw_at lw_m9 13 rfl
theorem q2039 : (Jvm.Cond.code ({ cls := "java/util/LinkedHashMap$LinkedHashIterator", name := "hasNext", desc := "()Z" } : Jvm.MethodName) prog_74_method_2_code (1 : Nat) (Option.some Jvm.ClassFile.FieldType.boolean)) ∈ lw_all := lw_g (lw_at lw_m9 14 rfl) rfl
theorem q2065 : (Jvm.Cond.declares ({ cls := "java/util/LinkedHashMap$LinkedHashIterator", name := "nextNode", desc := "()Ljava/util/LinkedHashMap$Entry;" } : Jvm.MethodName)) ∈ lw_tbl := lw_at lw_m9 40 rfl
theorem q2067 : (Jvm.Cond.instanceMethod ({ cls := "java/util/LinkedHashMap$LinkedHashIterator", name := "nextNode", desc := "()Ljava/util/LinkedHashMap$Entry;" } : Jvm.MethodName)) ∈ lw_all := lw_g (lw_at lw_m9 42 rfl) rfl
theorem q2068 : (Jvm.Cond.code ({ cls := "java/util/LinkedHashMap$LinkedHashIterator", name := "nextNode", desc := "()Ljava/util/LinkedHashMap$Entry;" } : Jvm.MethodName) prog_74_method_3_code (2 : Nat) (Option.some (Jvm.ClassFile.FieldType.object "java/util/LinkedHashMap$Entry"))) ∈ lw_all := lw_g (lw_at lw_m9 43 rfl) rfl
/-! java/util/LinkedHashMap$LinkedKeyIterator -/
set_option maxRecDepth 100000
def RJ29 : String := "java/util/LinkedHashMap$LinkedKeyIterator"
def TJ29 : u_T := fun k => match k with
  | 0 => ("java/util/LinkedHashMap$LinkedHashIterator", "next", "Ljava/util/LinkedHashMap$Entry;", false)
  | 1 => ("java/util/LinkedHashMap$LinkedHashIterator", "current", "Ljava/util/LinkedHashMap$Entry;", false)
  | 2 => ("java/util/LinkedHashMap$LinkedHashIterator", "expectedModCount", "I", false)
  | 3 => ("java/util/LinkedHashMap$LinkedHashIterator", "reversed", "Z", false)
  | _ => ("java/util/LinkedHashMap$LinkedHashIterator", "this$0", "Ljava/util/LinkedHashMap;", true)
def tyJ29 : Nat → FieldType := fun k => match k with
  | 0 => .object "java/util/LinkedHashMap$Entry"
  | 1 => .object "java/util/LinkedHashMap$Entry"
  | 2 => .int
  | 3 => .boolean
  | _ => .object "java/util/LinkedHashMap"
abbrev wsJ290 : List Cond := u_ws RJ29 TJ29 5
theorem nmJ29 : ∀ a, a < 5 → ∀ b, b < 5 → a ≠ b → (TJ29 a).2.1 ≠ (TJ29 b).2.1 := by decide +kernel
theorem tyJ29_ok : ∀ k, k < 5 → parseFieldDescriptor (TJ29 k).2.2.1 = some (tyJ29 k) := by decide +kernel
abbrev cJ29_init : ByteArray := prog_75_method_1_code
def yJ29_init : MethodName := ⟨RJ29, "<init>", "(Ljava/util/LinkedHashMap;Z)V"⟩
def dkwJ29_init_0 : List UInt8 := [42, 43, 28, 183, 0, 1, 177]
abbrev dktJ29_init_0 : List UInt8 := dkwJ29_init_0 ++ []
theorem dksJ29_init_0 : cJ29_init.data.toList.drop 0 = dktJ29_init_0 := by decide +kernel
theorem dJ29_init_0 : decode cJ29_init 0 = .ok (.aload_n 0, 1) := dk_42 (dk_at dksJ29_init_0 0 rfl rfl)
theorem dJ29_init_1 : decode cJ29_init 1 = .ok (.aload_n 1, 1) := dk_43 (dk_at dksJ29_init_0 1 rfl rfl)
theorem dJ29_init_2 : decode cJ29_init 2 = .ok (.iload_n 2, 1) := dk_28 (dk_at dksJ29_init_0 2 rfl rfl)
theorem dJ29_init_3 : decode cJ29_init 3 = .ok (.invokespecial 1, 3) := dk_183 0 1 (dk_at dksJ29_init_0 3 rfl rfl)
theorem dJ29_init_6 : decode cJ29_init 6 = .ok (.return_, 1) := dk_177 (dk_at dksJ29_init_0 6 rfl rfl)
abbrev cJ29_next : ByteArray := prog_75_method_2_code
def yJ29_next : MethodName := ⟨RJ29, "next", "()Ljava/lang/Object;"⟩
def dkwJ29_next_0 : List UInt8 := [42, 182, 0, 7, 182, 0, 13, 176]
abbrev dktJ29_next_0 : List UInt8 := dkwJ29_next_0 ++ []
theorem dksJ29_next_0 : cJ29_next.data.toList.drop 0 = dktJ29_next_0 := by decide +kernel
theorem dJ29_next_0 : decode cJ29_next 0 = .ok (.aload_n 0, 1) := dk_42 (dk_at dksJ29_next_0 0 rfl rfl)
theorem dJ29_next_1 : decode cJ29_next 1 = .ok (.invokevirtual 7, 3) := dk_182 0 7 (dk_at dksJ29_next_0 1 rfl rfl)
theorem dJ29_next_4 : decode cJ29_next 4 = .ok (.invokevirtual 13, 3) := dk_182 0 13 (dk_at dksJ29_next_0 4 rfl rfl)
theorem dJ29_next_7 : decode cJ29_next 7 = .ok (.areturn, 1) := dk_176 (dk_at dksJ29_next_0 7 rfl rfl)
theorem q157 : (Jvm.Cond.initialized "java/util/LinkedHashMap$LinkedKeyIterator") ∈ lw_all := lw_g (lw_at lw_m1 52 rfl) rfl
theorem q1139 : (Jvm.Cond.selects "java/util/LinkedHashMap$LinkedKeyIterator" ({ cls := "java/lang/Object", name := "getClass", desc := "()Ljava/lang/Class;" } : Jvm.MethodName) ({ cls := "java/lang/Object", name := "getClass", desc := "()Ljava/lang/Class;" } : Jvm.MethodName)) ∈ lw_all := lw_g (lw_at lw_m5 74 rfl) rfl
theorem q1980 : (Jvm.Cond.instantiable "java/util/LinkedHashMap$LinkedKeyIterator" (5 : Nat)) ∈ lw_all := lw_g (lw_at lw_m8 195 rfl) rfl
theorem q1982 : (Jvm.Cond.instanceMethod ({ cls := "java/util/LinkedHashMap$LinkedKeyIterator", name := "<init>", desc := "(Ljava/util/LinkedHashMap;Z)V" } : Jvm.MethodName)) ∈ lw_all := lw_g (lw_at lw_m8 197 rfl) rfl
theorem q1983 : (Jvm.Cond.code ({ cls := "java/util/LinkedHashMap$LinkedKeyIterator", name := "<init>", desc := "(Ljava/util/LinkedHashMap;Z)V" } : Jvm.MethodName) prog_75_method_1_code (3 : Nat) (Option.none : Option Jvm.ClassFile.FieldType)) ∈ lw_all := lw_g (lw_at lw_m8 198 rfl) rfl
theorem q1984 : (Jvm.Cond.methodLink "java/util/LinkedHashMap$LinkedKeyIterator" (1 : Nat) ({ cls := "java/util/LinkedHashMap$LinkedHashIterator", name := "<init>", desc := "(Ljava/util/LinkedHashMap;Z)V" } : Jvm.MethodName)) ∈ lw_all := lw_g (lw_at lw_m8 199 rfl) rfl
theorem q1993 : (Jvm.Cond.lays "java/util/LinkedHashMap$LinkedKeyIterator" "java/util/LinkedHashMap$LinkedHashIterator" "next" "Ljava/util/LinkedHashMap$Entry;") ∈ lw_all := lw_g (lw_at lw_m8 208 rfl) rfl
theorem q1995 : (Jvm.Cond.lays "java/util/LinkedHashMap$LinkedKeyIterator" "java/util/LinkedHashMap$LinkedHashIterator" "current" "Ljava/util/LinkedHashMap$Entry;") ∈ lw_all := lw_g (lw_at lw_m8 210 rfl) rfl
theorem q1997 : (Jvm.Cond.lays "java/util/LinkedHashMap$LinkedKeyIterator" "java/util/LinkedHashMap$LinkedHashIterator" "expectedModCount" "I") ∈ lw_all := lw_g (lw_at lw_m8 212 rfl) rfl
theorem q1999 : (Jvm.Cond.lays "java/util/LinkedHashMap$LinkedKeyIterator" "java/util/LinkedHashMap$LinkedHashIterator" "reversed" "Z") ∈ lw_all := lw_g (lw_at lw_m8 214 rfl) rfl
theorem q2001 : (Jvm.Cond.laysFinal "java/util/LinkedHashMap$LinkedKeyIterator" "java/util/LinkedHashMap$LinkedHashIterator" "this$0" "Ljava/util/LinkedHashMap;") ∈ lw_all := lw_g (lw_at lw_m8 216 rfl) rfl
theorem q2003 : (Jvm.Cond.superclass "java/util/LinkedHashMap$LinkedKeyIterator" "java/util/LinkedHashMap$LinkedHashIterator") ∈ lw_all := lw_g (lw_at lw_m8 218 rfl) rfl
theorem q2034 : (Jvm.Cond.castable "java/util/LinkedHashMap$LinkedKeyIterator" "java/util/Iterator") ∈ lw_tbl := lw_at lw_m9 9 rfl
theorem q2035 : (Jvm.Cond.selects "java/util/LinkedHashMap$LinkedKeyIterator" ({ cls := "java/util/Iterator", name := "hasNext", desc := "()Z" } : Jvm.MethodName) ({ cls := "java/util/LinkedHashMap$LinkedHashIterator", name := "hasNext", desc := "()Z" } : Jvm.MethodName)) ∈ lw_all := lw_g (lw_at lw_m9 10 rfl) rfl
theorem q2036 : (Jvm.Cond.unhidden "java/util/LinkedHashMap$LinkedKeyIterator" "hasNext" "()Z") ∈ lw_tbl := lw_at lw_m9 11 rfl
theorem q2058 : (Jvm.Cond.selects "java/util/LinkedHashMap$LinkedKeyIterator" ({ cls := "java/util/Iterator", name := "next", desc := "()Ljava/lang/Object;" } : Jvm.MethodName) ({ cls := "java/util/LinkedHashMap$LinkedKeyIterator", name := "next", desc := "()Ljava/lang/Object;" } : Jvm.MethodName)) ∈ lw_all := lw_g (lw_at lw_m9 33 rfl) rfl
theorem q2059 : (Jvm.Cond.unhidden "java/util/LinkedHashMap$LinkedKeyIterator" "next" "()Ljava/lang/Object;") ∈ lw_tbl := lw_at lw_m9 34 rfl
theorem q2060 : (Jvm.Cond.instanceMethod ({ cls := "java/util/LinkedHashMap$LinkedKeyIterator", name := "next", desc := "()Ljava/lang/Object;" } : Jvm.MethodName)) ∈ lw_all := lw_g (lw_at lw_m9 35 rfl) rfl
theorem q2061 : (Jvm.Cond.publicMethod ({ cls := "java/util/LinkedHashMap$LinkedKeyIterator", name := "next", desc := "()Ljava/lang/Object;" } : Jvm.MethodName)) ∈ lw_tbl := lw_at lw_m9 36 rfl
theorem q2062 : (Jvm.Cond.code ({ cls := "java/util/LinkedHashMap$LinkedKeyIterator", name := "next", desc := "()Ljava/lang/Object;" } : Jvm.MethodName) prog_75_method_2_code (1 : Nat) (Option.some (Jvm.ClassFile.FieldType.object "java/lang/Object"))) ∈ lw_all := lw_g (lw_at lw_m9 37 rfl) rfl
theorem q2063 : (Jvm.Cond.methodLink "java/util/LinkedHashMap$LinkedKeyIterator" (7 : Nat) ({ cls := "java/util/LinkedHashMap$LinkedKeyIterator", name := "nextNode", desc := "()Ljava/util/LinkedHashMap$Entry;" } : Jvm.MethodName)) ∈ lw_all := lw_g (lw_at lw_m9 38 rfl) rfl
theorem q2064 : (Jvm.Cond.sameMethod "java/util/LinkedHashMap$LinkedKeyIterator" "java/util/LinkedHashMap$LinkedHashIterator" "nextNode" "()Ljava/util/LinkedHashMap$Entry;") ∈ lw_all := lw_g (lw_at lw_m9 39 rfl) rfl
theorem q2066 : (Jvm.Cond.selects "java/util/LinkedHashMap$LinkedKeyIterator" ({ cls := "java/util/LinkedHashMap$LinkedKeyIterator", name := "nextNode", desc := "()Ljava/util/LinkedHashMap$Entry;" } : Jvm.MethodName) ({ cls := "java/util/LinkedHashMap$LinkedHashIterator", name := "nextNode", desc := "()Ljava/util/LinkedHashMap$Entry;" } : Jvm.MethodName)) ∈ lw_all := lw_g (lw_at lw_m9 41 rfl) rfl
theorem q2069 : (Jvm.Cond.methodLink "java/util/LinkedHashMap$LinkedKeyIterator" (13 : Nat) ({ cls := "java/util/LinkedHashMap$Entry", name := "getKey", desc := "()Ljava/lang/Object;" } : Jvm.MethodName)) ∈ lw_all := lw_g (lw_at lw_m9 44 rfl) rfl
theorem q3160 : (Jvm.Cond.castable "java/util/LinkedHashMap$LinkedKeyIterator" "java/lang/Object") ∈ lw_tbl := lw_at lw_m13 175 rfl
theorem in_J29 : ∀ w ∈ wsJ290, w ∈ lw_all := lw_in wsJ290 [1993, 1995, 1997, 1999, 2001] (by decide +kernel) (by decide +kernel)
/-! java/util/LinkedHashMap$LinkedValueIterator -/
set_option maxRecDepth 100000
def RJ30 : String := "java/util/LinkedHashMap$LinkedValueIterator"
def TJ30 : u_T := fun k => match k with
  | 0 => ("java/util/LinkedHashMap$LinkedHashIterator", "next", "Ljava/util/LinkedHashMap$Entry;", false)
  | 1 => ("java/util/LinkedHashMap$LinkedHashIterator", "current", "Ljava/util/LinkedHashMap$Entry;", false)
  | 2 => ("java/util/LinkedHashMap$LinkedHashIterator", "expectedModCount", "I", false)
  | 3 => ("java/util/LinkedHashMap$LinkedHashIterator", "reversed", "Z", false)
  | _ => ("java/util/LinkedHashMap$LinkedHashIterator", "this$0", "Ljava/util/LinkedHashMap;", true)
def tyJ30 : Nat → FieldType := fun k => match k with
  | 0 => .object "java/util/LinkedHashMap$Entry"
  | 1 => .object "java/util/LinkedHashMap$Entry"
  | 2 => .int
  | 3 => .boolean
  | _ => .object "java/util/LinkedHashMap"
abbrev wsJ300 : List Cond := u_ws RJ30 TJ30 5
theorem nmJ30 : ∀ a, a < 5 → ∀ b, b < 5 → a ≠ b → (TJ30 a).2.1 ≠ (TJ30 b).2.1 := by decide +kernel
theorem tyJ30_ok : ∀ k, k < 5 → parseFieldDescriptor (TJ30 k).2.2.1 = some (tyJ30 k) := by decide +kernel
abbrev cJ30_init : ByteArray := prog_77_method_1_code
def yJ30_init : MethodName := ⟨RJ30, "<init>", "(Ljava/util/LinkedHashMap;Z)V"⟩
def dkwJ30_init_0 : List UInt8 := [42, 43, 28, 183, 0, 1, 177]
abbrev dktJ30_init_0 : List UInt8 := dkwJ30_init_0 ++ []
theorem dksJ30_init_0 : cJ30_init.data.toList.drop 0 = dktJ30_init_0 := by decide +kernel
theorem dJ30_init_0 : decode cJ30_init 0 = .ok (.aload_n 0, 1) := dk_42 (dk_at dksJ30_init_0 0 rfl rfl)
theorem dJ30_init_1 : decode cJ30_init 1 = .ok (.aload_n 1, 1) := dk_43 (dk_at dksJ30_init_0 1 rfl rfl)
theorem dJ30_init_2 : decode cJ30_init 2 = .ok (.iload_n 2, 1) := dk_28 (dk_at dksJ30_init_0 2 rfl rfl)
theorem dJ30_init_3 : decode cJ30_init 3 = .ok (.invokespecial 1, 3) := dk_183 0 1 (dk_at dksJ30_init_0 3 rfl rfl)
theorem dJ30_init_6 : decode cJ30_init 6 = .ok (.return_, 1) := dk_177 (dk_at dksJ30_init_0 6 rfl rfl)
abbrev cJ30_next : ByteArray := prog_77_method_2_code
def yJ30_next : MethodName := ⟨RJ30, "next", "()Ljava/lang/Object;"⟩
def dkwJ30_next_0 : List UInt8 := [42, 182, 0, 7, 180, 0, 13, 176]
abbrev dktJ30_next_0 : List UInt8 := dkwJ30_next_0 ++ []
theorem dksJ30_next_0 : cJ30_next.data.toList.drop 0 = dktJ30_next_0 := by decide +kernel
theorem dJ30_next_0 : decode cJ30_next 0 = .ok (.aload_n 0, 1) := dk_42 (dk_at dksJ30_next_0 0 rfl rfl)
theorem dJ30_next_1 : decode cJ30_next 1 = .ok (.invokevirtual 7, 3) := dk_182 0 7 (dk_at dksJ30_next_0 1 rfl rfl)
theorem dJ30_next_4 : decode cJ30_next 4 = .ok (.getfield 13, 3) := dk_180 0 13 (dk_at dksJ30_next_0 4 rfl rfl)
theorem dJ30_next_7 : decode cJ30_next 7 = .ok (.areturn, 1) := dk_176 (dk_at dksJ30_next_0 7 rfl rfl)
theorem q158 : (Jvm.Cond.initialized "java/util/LinkedHashMap$LinkedValueIterator") ∈ lw_all := lw_g (lw_at lw_m1 53 rfl) rfl
theorem q1054 : (Jvm.Cond.fieldLink "java/util/LinkedHashMap$LinkedValueIterator" (13 : Nat) "java/util/LinkedHashMap$Entry" "value" "Ljava/lang/Object;") ∈ lw_all := lw_g (lw_at lw_m4 229 rfl) rfl
theorem q1141 : (Jvm.Cond.selects "java/util/LinkedHashMap$LinkedValueIterator" ({ cls := "java/lang/Object", name := "getClass", desc := "()Ljava/lang/Class;" } : Jvm.MethodName) ({ cls := "java/lang/Object", name := "getClass", desc := "()Ljava/lang/Class;" } : Jvm.MethodName)) ∈ lw_all := lw_g (lw_at lw_m5 76 rfl) rfl
theorem q2013 : (Jvm.Cond.instantiable "java/util/LinkedHashMap$LinkedValueIterator" (5 : Nat)) ∈ lw_all := lw_g (lw_at lw_m8 228 rfl) rfl
theorem q2015 : (Jvm.Cond.instanceMethod ({ cls := "java/util/LinkedHashMap$LinkedValueIterator", name := "<init>", desc := "(Ljava/util/LinkedHashMap;Z)V" } : Jvm.MethodName)) ∈ lw_all := lw_g (lw_at lw_m8 230 rfl) rfl
theorem q2016 : (Jvm.Cond.code ({ cls := "java/util/LinkedHashMap$LinkedValueIterator", name := "<init>", desc := "(Ljava/util/LinkedHashMap;Z)V" } : Jvm.MethodName) prog_77_method_1_code (3 : Nat) (Option.none : Option Jvm.ClassFile.FieldType)) ∈ lw_all := lw_g (lw_at lw_m8 231 rfl) rfl
theorem q2017 : (Jvm.Cond.methodLink "java/util/LinkedHashMap$LinkedValueIterator" (1 : Nat) ({ cls := "java/util/LinkedHashMap$LinkedHashIterator", name := "<init>", desc := "(Ljava/util/LinkedHashMap;Z)V" } : Jvm.MethodName)) ∈ lw_all := lw_g (lw_at lw_m8 232 rfl) rfl
theorem q2018 : (Jvm.Cond.lays "java/util/LinkedHashMap$LinkedValueIterator" "java/util/LinkedHashMap$LinkedHashIterator" "next" "Ljava/util/LinkedHashMap$Entry;") ∈ lw_all := lw_g (lw_at lw_m8 233 rfl) rfl
theorem q2019 : (Jvm.Cond.lays "java/util/LinkedHashMap$LinkedValueIterator" "java/util/LinkedHashMap$LinkedHashIterator" "current" "Ljava/util/LinkedHashMap$Entry;") ∈ lw_all := lw_g (lw_at lw_m8 234 rfl) rfl
theorem q2020 : (Jvm.Cond.lays "java/util/LinkedHashMap$LinkedValueIterator" "java/util/LinkedHashMap$LinkedHashIterator" "expectedModCount" "I") ∈ lw_all := lw_g (lw_at lw_m8 235 rfl) rfl
theorem q2021 : (Jvm.Cond.lays "java/util/LinkedHashMap$LinkedValueIterator" "java/util/LinkedHashMap$LinkedHashIterator" "reversed" "Z") ∈ lw_all := lw_g (lw_at lw_m8 236 rfl) rfl
theorem q2022 : (Jvm.Cond.laysFinal "java/util/LinkedHashMap$LinkedValueIterator" "java/util/LinkedHashMap$LinkedHashIterator" "this$0" "Ljava/util/LinkedHashMap;") ∈ lw_all := lw_g (lw_at lw_m8 237 rfl) rfl
theorem q2023 : (Jvm.Cond.superclass "java/util/LinkedHashMap$LinkedValueIterator" "java/util/LinkedHashMap$LinkedHashIterator") ∈ lw_all := lw_g (lw_at lw_m8 238 rfl) rfl
theorem q2040 : (Jvm.Cond.castable "java/util/LinkedHashMap$LinkedValueIterator" "java/util/Iterator") ∈ lw_tbl := lw_at lw_m9 15 rfl
theorem q2041 : (Jvm.Cond.selects "java/util/LinkedHashMap$LinkedValueIterator" ({ cls := "java/util/Iterator", name := "hasNext", desc := "()Z" } : Jvm.MethodName) ({ cls := "java/util/LinkedHashMap$LinkedHashIterator", name := "hasNext", desc := "()Z" } : Jvm.MethodName)) ∈ lw_all := lw_g (lw_at lw_m9 16 rfl) rfl
theorem q2042 : (Jvm.Cond.unhidden "java/util/LinkedHashMap$LinkedValueIterator" "hasNext" "()Z") ∈ lw_tbl := lw_at lw_m9 17 rfl
theorem q2076 : (Jvm.Cond.selects "java/util/LinkedHashMap$LinkedValueIterator" ({ cls := "java/util/Iterator", name := "next", desc := "()Ljava/lang/Object;" } : Jvm.MethodName) ({ cls := "java/util/LinkedHashMap$LinkedValueIterator", name := "next", desc := "()Ljava/lang/Object;" } : Jvm.MethodName)) ∈ lw_all := lw_g (lw_at lw_m9 51 rfl) rfl
theorem q2077 : (Jvm.Cond.unhidden "java/util/LinkedHashMap$LinkedValueIterator" "next" "()Ljava/lang/Object;") ∈ lw_tbl := lw_at lw_m9 52 rfl
theorem q2078 : (Jvm.Cond.instanceMethod ({ cls := "java/util/LinkedHashMap$LinkedValueIterator", name := "next", desc := "()Ljava/lang/Object;" } : Jvm.MethodName)) ∈ lw_all := lw_g (lw_at lw_m9 53 rfl) rfl
theorem q2079 : (Jvm.Cond.publicMethod ({ cls := "java/util/LinkedHashMap$LinkedValueIterator", name := "next", desc := "()Ljava/lang/Object;" } : Jvm.MethodName)) ∈ lw_tbl := lw_at lw_m9 54 rfl
theorem q2080 : (Jvm.Cond.code ({ cls := "java/util/LinkedHashMap$LinkedValueIterator", name := "next", desc := "()Ljava/lang/Object;" } : Jvm.MethodName) prog_77_method_2_code (1 : Nat) (Option.some (Jvm.ClassFile.FieldType.object "java/lang/Object"))) ∈ lw_all := lw_g (lw_at lw_m9 55 rfl) rfl
theorem q2081 : (Jvm.Cond.methodLink "java/util/LinkedHashMap$LinkedValueIterator" (7 : Nat) ({ cls := "java/util/LinkedHashMap$LinkedValueIterator", name := "nextNode", desc := "()Ljava/util/LinkedHashMap$Entry;" } : Jvm.MethodName)) ∈ lw_all := lw_g (lw_at lw_m9 56 rfl) rfl
theorem q2082 : (Jvm.Cond.sameMethod "java/util/LinkedHashMap$LinkedValueIterator" "java/util/LinkedHashMap$LinkedHashIterator" "nextNode" "()Ljava/util/LinkedHashMap$Entry;") ∈ lw_all := lw_g (lw_at lw_m9 57 rfl) rfl
theorem q2083 : (Jvm.Cond.selects "java/util/LinkedHashMap$LinkedValueIterator" ({ cls := "java/util/LinkedHashMap$LinkedValueIterator", name := "nextNode", desc := "()Ljava/util/LinkedHashMap$Entry;" } : Jvm.MethodName) ({ cls := "java/util/LinkedHashMap$LinkedHashIterator", name := "nextNode", desc := "()Ljava/util/LinkedHashMap$Entry;" } : Jvm.MethodName)) ∈ lw_all := lw_g (lw_at lw_m9 58 rfl) rfl
theorem q3161 : (Jvm.Cond.castable "java/util/LinkedHashMap$LinkedValueIterator" "java/lang/Object") ∈ lw_tbl := lw_at lw_m13 176 rfl
theorem in_J30 : ∀ w ∈ wsJ300, w ∈ lw_all := lw_in wsJ300 [2018, 2019, 2020, 2021, 2022] (by decide +kernel) (by decide +kernel)
/-! jdk/internal/util/Preconditions -/
set_option maxRecDepth 100000
def RJ31 : String := "jdk/internal/util/Preconditions"
abbrev cJ31_checkIndex : ByteArray := prog_91_method_11_code
def yJ31_checkIndex : MethodName := ⟨RJ31, "checkIndex", "(IILjava/util/function/BiFunction;)I"⟩
def dkwJ31_checkIndex_0 : List UInt8 := [26, 155, 0, 8, 26, 27, 161, 0, 10, 44, 26, 27, 184, 0, 95, 191, 26, 172]
abbrev dktJ31_checkIndex_0 : List UInt8 := dkwJ31_checkIndex_0 ++ []
theorem dksJ31_checkIndex_0 : cJ31_checkIndex.data.toList.drop 0 = dktJ31_checkIndex_0 := by decide +kernel
theorem dJ31_checkIndex_0 : decode cJ31_checkIndex 0 = .ok (.iload_n 0, 1) := dk_26 (dk_at dksJ31_checkIndex_0 0 rfl rfl)
theorem dJ31_checkIndex_1 : decode cJ31_checkIndex 1 = .ok (.ifCond .lt 8, 3) := dk_155 0 8 (dk_at dksJ31_checkIndex_0 1 rfl rfl)
theorem dJ31_checkIndex_4 : decode cJ31_checkIndex 4 = .ok (.iload_n 0, 1) := dk_26 (dk_at dksJ31_checkIndex_0 4 rfl rfl)
theorem dJ31_checkIndex_5 : decode cJ31_checkIndex 5 = .ok (.iload_n 1, 1) := dk_27 (dk_at dksJ31_checkIndex_0 5 rfl rfl)
theorem dJ31_checkIndex_6 : decode cJ31_checkIndex 6 = .ok (.if_icmp .lt 10, 3) := dk_161 0 10 (dk_at dksJ31_checkIndex_0 6 rfl rfl)
theorem dJ31_checkIndex_9 : decode cJ31_checkIndex 9 = .ok (.aload_n 2, 1) := dk_44 (dk_at dksJ31_checkIndex_0 9 rfl rfl)
theorem dJ31_checkIndex_10 : decode cJ31_checkIndex 10 = .ok (.iload_n 0, 1) := dk_26 (dk_at dksJ31_checkIndex_0 10 rfl rfl)
theorem dJ31_checkIndex_11 : decode cJ31_checkIndex 11 = .ok (.iload_n 1, 1) := dk_27 (dk_at dksJ31_checkIndex_0 11 rfl rfl)
theorem dJ31_checkIndex_12 : decode cJ31_checkIndex 12 = .ok (.invokestatic 95, 3) := dk_184 0 95 (dk_at dksJ31_checkIndex_0 12 rfl rfl)
theorem dJ31_checkIndex_15 : decode cJ31_checkIndex 15 = .ok (.athrow, 1) := dk_191 (dk_at dksJ31_checkIndex_0 15 rfl rfl)
theorem dJ31_checkIndex_16 : decode cJ31_checkIndex 16 = .ok (.iload_n 0, 1) := dk_26 (dk_at dksJ31_checkIndex_0 16 rfl rfl)
theorem dJ31_checkIndex_17 : decode cJ31_checkIndex 17 = .ok (.ireturn, 1) := dk_172 (dk_at dksJ31_checkIndex_0 17 rfl rfl)
theorem q161 : (Jvm.Cond.initialized "jdk/internal/util/Preconditions") ∈ lw_all := lw_g (lw_at lw_m1 56 rfl) rfl
theorem q2235 : (Jvm.Cond.laysStatic "jdk/internal/util/Preconditions" "SIOOBE_FORMATTER" "Ljava/util/function/BiFunction;") ∈ lw_tbl := lw_at lw_m9 210 rfl
theorem q2237 : (Jvm.Cond.static ({ cls := "jdk/internal/util/Preconditions", name := "checkIndex", desc := "(IILjava/util/function/BiFunction;)I" } : Jvm.MethodName)) ∈ lw_all := lw_g (lw_at lw_m9 212 rfl) rfl
theorem q2238 : (Jvm.Cond.code ({ cls := "jdk/internal/util/Preconditions", name := "checkIndex", desc := "(IILjava/util/function/BiFunction;)I" } : Jvm.MethodName) prog_91_method_11_code (3 : Nat) (Option.some Jvm.ClassFile.FieldType.int)) ∈ lw_all := lw_g (lw_at lw_m9 213 rfl) rfl
/-! java/lang/NegativeArraySizeException -/
set_option maxRecDepth 100000
def RJ32 : String := "java/lang/NegativeArraySizeException"
def TJ32 : u_T := fun k => match k with
  | 0 => ("java/lang/Throwable", "backtrace", "Ljava/lang/Object;", false)
  | 1 => ("java/lang/Throwable", "detailMessage", "Ljava/lang/String;", false)
  | 2 => ("java/lang/Throwable", "cause", "Ljava/lang/Throwable;", false)
  | 3 => ("java/lang/Throwable", "stackTrace", "[Ljava/lang/StackTraceElement;", false)
  | 4 => ("java/lang/Throwable", "depth", "I", false)
  | _ => ("java/lang/Throwable", "suppressedExceptions", "Ljava/util/List;", false)
def tyJ32 : Nat → FieldType := fun k => match k with
  | 0 => .object "java/lang/Object"
  | 1 => .object "java/lang/String"
  | 2 => .object "java/lang/Throwable"
  | 3 => .array (.object "java/lang/StackTraceElement")
  | 4 => .int
  | _ => .object "java/util/List"
abbrev wsJ320 : List Cond := u_ws RJ32 TJ32 6
theorem nmJ32 : ∀ a, a < 6 → ∀ b, b < 6 → a ≠ b → (TJ32 a).2.1 ≠ (TJ32 b).2.1 := by decide +kernel
theorem tyJ32_ok : ∀ k, k < 6 → parseFieldDescriptor (TJ32 k).2.2.1 = some (tyJ32 k) := by decide +kernel
abbrev cJ32_init : ByteArray := prog_46_method_2_code
def yJ32_init : MethodName := ⟨RJ32, "<init>", "(Ljava/lang/String;)V"⟩
def dkwJ32_init_0 : List UInt8 := [42, 43, 183, 0, 7, 177]
abbrev dktJ32_init_0 : List UInt8 := dkwJ32_init_0 ++ []
theorem dksJ32_init_0 : cJ32_init.data.toList.drop 0 = dktJ32_init_0 := by decide +kernel
theorem dJ32_init_0 : decode cJ32_init 0 = .ok (.aload_n 0, 1) := dk_42 (dk_at dksJ32_init_0 0 rfl rfl)
theorem dJ32_init_1 : decode cJ32_init 1 = .ok (.aload_n 1, 1) := dk_43 (dk_at dksJ32_init_0 1 rfl rfl)
theorem dJ32_init_2 : decode cJ32_init 2 = .ok (.invokespecial 7, 3) := dk_183 0 7 (dk_at dksJ32_init_0 2 rfl rfl)
theorem dJ32_init_5 : decode cJ32_init 5 = .ok (.return_, 1) := dk_177 (dk_at dksJ32_init_0 5 rfl rfl)
theorem q165 : (Jvm.Cond.initialized "java/lang/NegativeArraySizeException") ∈ lw_all := lw_g (lw_at lw_m1 60 rfl) rfl
theorem q922 : (Jvm.Cond.selects "java/lang/NegativeArraySizeException" ({ cls := "java/lang/Object", name := "hashCode", desc := "()I" } : Jvm.MethodName) ({ cls := "java/lang/Object", name := "hashCode", desc := "()I" } : Jvm.MethodName)) ∈ lw_all := lw_g (lw_at lw_m4 97 rfl) rfl
theorem q1128 : (Jvm.Cond.selects "java/lang/NegativeArraySizeException" ({ cls := "java/lang/Object", name := "getClass", desc := "()Ljava/lang/Class;" } : Jvm.MethodName) ({ cls := "java/lang/Object", name := "getClass", desc := "()Ljava/lang/Class;" } : Jvm.MethodName)) ∈ lw_all := lw_g (lw_at lw_m5 63 rfl) rfl
theorem q1383 : (Jvm.Cond.selects "java/lang/NegativeArraySizeException" ({ cls := "java/lang/Object", name := "equals", desc := "(Ljava/lang/Object;)Z" } : Jvm.MethodName) ({ cls := "java/lang/Object", name := "equals", desc := "(Ljava/lang/Object;)Z" } : Jvm.MethodName)) ∈ lw_all := lw_g (lw_at lw_m6 78 rfl) rfl
theorem q1661 : (Jvm.Cond.selects "java/lang/NegativeArraySizeException" ({ cls := "java/lang/Throwable", name := "fillInStackTrace", desc := "()Ljava/lang/Throwable;" } : Jvm.MethodName) ({ cls := "java/lang/Throwable", name := "fillInStackTrace", desc := "()Ljava/lang/Throwable;" } : Jvm.MethodName)) ∈ lw_all := lw_g (lw_at lw_m7 116 rfl) rfl
theorem q2400 : (Jvm.Cond.instantiable "java/lang/NegativeArraySizeException" (6 : Nat)) ∈ lw_all := lw_g (lw_at lw_m10 135 rfl) rfl
theorem q2401 : (Jvm.Cond.instanceMethod ({ cls := "java/lang/NegativeArraySizeException", name := "<init>", desc := "(Ljava/lang/String;)V" } : Jvm.MethodName)) ∈ lw_all := lw_g (lw_at lw_m10 136 rfl) rfl
theorem q2402 : (Jvm.Cond.code ({ cls := "java/lang/NegativeArraySizeException", name := "<init>", desc := "(Ljava/lang/String;)V" } : Jvm.MethodName) prog_46_method_2_code (2 : Nat) (Option.none : Option Jvm.ClassFile.FieldType)) ∈ lw_all := lw_g (lw_at lw_m10 137 rfl) rfl
theorem q2403 : (Jvm.Cond.methodLink "java/lang/NegativeArraySizeException" (7 : Nat) ({ cls := "java/lang/RuntimeException", name := "<init>", desc := "(Ljava/lang/String;)V" } : Jvm.MethodName)) ∈ lw_all := lw_g (lw_at lw_m10 138 rfl) rfl
theorem q2404 : (Jvm.Cond.lays "java/lang/NegativeArraySizeException" "java/lang/Throwable" "backtrace" "Ljava/lang/Object;") ∈ lw_all := lw_g (lw_at lw_m10 139 rfl) rfl
theorem q2405 : (Jvm.Cond.lays "java/lang/NegativeArraySizeException" "java/lang/Throwable" "detailMessage" "Ljava/lang/String;") ∈ lw_all := lw_g (lw_at lw_m10 140 rfl) rfl
theorem q2406 : (Jvm.Cond.lays "java/lang/NegativeArraySizeException" "java/lang/Throwable" "cause" "Ljava/lang/Throwable;") ∈ lw_all := lw_g (lw_at lw_m10 141 rfl) rfl
theorem q2407 : (Jvm.Cond.lays "java/lang/NegativeArraySizeException" "java/lang/Throwable" "stackTrace" "[Ljava/lang/StackTraceElement;") ∈ lw_all := lw_g (lw_at lw_m10 142 rfl) rfl
theorem q2408 : (Jvm.Cond.lays "java/lang/NegativeArraySizeException" "java/lang/Throwable" "depth" "I") ∈ lw_all := lw_g (lw_at lw_m10 143 rfl) rfl
theorem q2409 : (Jvm.Cond.lays "java/lang/NegativeArraySizeException" "java/lang/Throwable" "suppressedExceptions" "Ljava/util/List;") ∈ lw_all := lw_g (lw_at lw_m10 144 rfl) rfl
theorem q2410 : (Jvm.Cond.superclass "java/lang/NegativeArraySizeException" "java/lang/RuntimeException") ∈ lw_all := lw_g (lw_at lw_m10 145 rfl) rfl
theorem q2411 : (Jvm.Cond.castable "java/lang/NegativeArraySizeException" "java/lang/NegativeArraySizeException") ∈ lw_tbl := lw_at lw_m10 146 rfl
theorem q2412 : (Jvm.Cond.selects "java/lang/NegativeArraySizeException" ({ cls := "java/lang/Throwable", name := "fillInStackTrace", desc := "(I)Ljava/lang/Throwable;" } : Jvm.MethodName) ({ cls := "java/lang/Throwable", name := "fillInStackTrace", desc := "(I)Ljava/lang/Throwable;" } : Jvm.MethodName)) ∈ lw_all := lw_g (lw_at lw_m10 147 rfl) rfl
theorem q3166 : (Jvm.Cond.castable "java/lang/NegativeArraySizeException" "java/lang/Object") ∈ lw_tbl := lw_at lw_m13 181 rfl
theorem in_J32 : ∀ w ∈ wsJ320, w ∈ lw_all := lw_in wsJ320 [2404, 2405, 2406, 2407, 2408, 2409] (by decide +kernel) (by decide +kernel)
/-! java/lang/NullPointerException -/
set_option maxRecDepth 100000
def RJ33 : String := "java/lang/NullPointerException"
def TJ33 : u_T := fun k => match k with
  | 0 => ("java/lang/Throwable", "backtrace", "Ljava/lang/Object;", false)
  | 1 => ("java/lang/Throwable", "detailMessage", "Ljava/lang/String;", false)
  | 2 => ("java/lang/Throwable", "cause", "Ljava/lang/Throwable;", false)
  | 3 => ("java/lang/Throwable", "stackTrace", "[Ljava/lang/StackTraceElement;", false)
  | 4 => ("java/lang/Throwable", "depth", "I", false)
  | 5 => ("java/lang/Throwable", "suppressedExceptions", "Ljava/util/List;", false)
  | 6 => ("java/lang/NullPointerException", "extendedMessageState", "I", false)
  | _ => ("java/lang/NullPointerException", "extendedMessage", "Ljava/lang/String;", false)
def tyJ33 : Nat → FieldType := fun k => match k with
  | 0 => .object "java/lang/Object"
  | 1 => .object "java/lang/String"
  | 2 => .object "java/lang/Throwable"
  | 3 => .array (.object "java/lang/StackTraceElement")
  | 4 => .int
  | 5 => .object "java/util/List"
  | 6 => .int
  | _ => .object "java/lang/String"
abbrev wsJ330 : List Cond := u_ws RJ33 TJ33 8
theorem nmJ33 : ∀ a, a < 8 → ∀ b, b < 8 → a ≠ b → (TJ33 a).2.1 ≠ (TJ33 b).2.1 := by decide +kernel
theorem tyJ33_ok : ∀ k, k < 8 → parseFieldDescriptor (TJ33 k).2.2.1 = some (tyJ33 k) := by decide +kernel
abbrev cJ33_init : ByteArray := prog_47_method_1_code
def yJ33_init : MethodName := ⟨RJ33, "<init>", "()V"⟩
theorem dJ33_init_0 : decode cJ33_init 0 = .ok (.aload_n 0, 1) := by decide +kernel
theorem dJ33_init_1 : decode cJ33_init 1 = .ok (.invokespecial 1, 3) := by decide +kernel
theorem dJ33_init_4 : decode cJ33_init 4 = .ok (.return_, 1) := by decide +kernel
theorem q166 : (Jvm.Cond.initialized "java/lang/NullPointerException") ∈ lw_all := lw_g (lw_at lw_m1 61 rfl) rfl
theorem q923 : (Jvm.Cond.selects "java/lang/NullPointerException" ({ cls := "java/lang/Object", name := "hashCode", desc := "()I" } : Jvm.MethodName) ({ cls := "java/lang/Object", name := "hashCode", desc := "()I" } : Jvm.MethodName)) ∈ lw_all := lw_g (lw_at lw_m4 98 rfl) rfl
theorem q1129 : (Jvm.Cond.selects "java/lang/NullPointerException" ({ cls := "java/lang/Object", name := "getClass", desc := "()Ljava/lang/Class;" } : Jvm.MethodName) ({ cls := "java/lang/Object", name := "getClass", desc := "()Ljava/lang/Class;" } : Jvm.MethodName)) ∈ lw_all := lw_g (lw_at lw_m5 64 rfl) rfl
theorem q1384 : (Jvm.Cond.selects "java/lang/NullPointerException" ({ cls := "java/lang/Object", name := "equals", desc := "(Ljava/lang/Object;)Z" } : Jvm.MethodName) ({ cls := "java/lang/Object", name := "equals", desc := "(Ljava/lang/Object;)Z" } : Jvm.MethodName)) ∈ lw_all := lw_g (lw_at lw_m6 79 rfl) rfl
theorem q1662 : (Jvm.Cond.selects "java/lang/NullPointerException" ({ cls := "java/lang/Throwable", name := "fillInStackTrace", desc := "()Ljava/lang/Throwable;" } : Jvm.MethodName) ({ cls := "java/lang/NullPointerException", name := "fillInStackTrace", desc := "()Ljava/lang/Throwable;" } : Jvm.MethodName)) ∈ lw_all := lw_g (lw_at lw_m7 117 rfl) rfl
theorem q1663 : (Jvm.Cond.instanceMethod ({ cls := "java/lang/NullPointerException", name := "fillInStackTrace", desc := "()Ljava/lang/Throwable;" } : Jvm.MethodName)) ∈ lw_all := lw_g (lw_at lw_m7 118 rfl) rfl
theorem q1664 : (Jvm.Cond.codeSync ({ cls := "java/lang/NullPointerException", name := "fillInStackTrace", desc := "()Ljava/lang/Throwable;" } : Jvm.MethodName) prog_47_method_3_code (1 : Nat) (Option.some (Jvm.ClassFile.FieldType.object "java/lang/Throwable"))) ∈ lw_all := lw_g (lw_at lw_m7 119 rfl) rfl
theorem q1665 : (Jvm.Cond.methodLink "java/lang/NullPointerException" (16 : Nat) ({ cls := "java/lang/NullPointerException", name := "getExtendedNPEMessage", desc := "()Ljava/lang/String;" } : Jvm.MethodName)) ∈ lw_all := lw_g (lw_at lw_m7 120 rfl) rfl
theorem q1666 : (Jvm.Cond.privateMethod ({ cls := "java/lang/NullPointerException", name := "getExtendedNPEMessage", desc := "()Ljava/lang/String;" } : Jvm.MethodName)) ∈ lw_tbl := lw_at lw_m7 121 rfl
theorem q1667 : (Jvm.Cond.instanceMethod ({ cls := "java/lang/NullPointerException", name := "getExtendedNPEMessage", desc := "()Ljava/lang/String;" } : Jvm.MethodName)) ∈ lw_all := lw_g (lw_at lw_m7 122 rfl) rfl
theorem q1668 : (Jvm.Cond.instantiable "java/lang/NullPointerException" (8 : Nat)) ∈ lw_all := lw_g (lw_at lw_m7 123 rfl) rfl
theorem q1669 : (Jvm.Cond.native ({ cls := "java/lang/NullPointerException", name := "getExtendedNPEMessage", desc := "()Ljava/lang/String;" } : Jvm.MethodName)) ∈ lw_all := lw_g (lw_at lw_m7 124 rfl) rfl
theorem q1670 : (Jvm.Cond.methodLink "java/lang/NullPointerException" (24 : Nat) ({ cls := "java/lang/RuntimeException", name := "fillInStackTrace", desc := "()Ljava/lang/Throwable;" } : Jvm.MethodName)) ∈ lw_all := lw_g (lw_at lw_m7 125 rfl) rfl
theorem q1673 : (Jvm.Cond.superclass "java/lang/NullPointerException" "java/lang/RuntimeException") ∈ lw_all := lw_g (lw_at lw_m7 128 rfl) rfl
theorem q2418 : (Jvm.Cond.instanceMethod ({ cls := "java/lang/NullPointerException", name := "<init>", desc := "()V" } : Jvm.MethodName)) ∈ lw_all := lw_g (lw_at lw_m10 153 rfl) rfl
theorem q2419 : (Jvm.Cond.code ({ cls := "java/lang/NullPointerException", name := "<init>", desc := "()V" } : Jvm.MethodName) prog_47_method_1_code (1 : Nat) (Option.none : Option Jvm.ClassFile.FieldType)) ∈ lw_all := lw_g (lw_at lw_m10 154 rfl) rfl
theorem q2420 : (Jvm.Cond.methodLink "java/lang/NullPointerException" (1 : Nat) ({ cls := "java/lang/RuntimeException", name := "<init>", desc := "()V" } : Jvm.MethodName)) ∈ lw_all := lw_g (lw_at lw_m10 155 rfl) rfl
theorem q2427 : (Jvm.Cond.fieldLink "java/lang/NullPointerException" (10 : Nat) "java/lang/NullPointerException" "extendedMessageState" "I") ∈ lw_all := lw_g (lw_at lw_m10 162 rfl) rfl
theorem q2428 : (Jvm.Cond.fieldLink "java/lang/NullPointerException" (20 : Nat) "java/lang/NullPointerException" "extendedMessage" "Ljava/lang/String;") ∈ lw_all := lw_g (lw_at lw_m10 163 rfl) rfl
theorem q2429 : (Jvm.Cond.lays "java/lang/NullPointerException" "java/lang/NullPointerException" "extendedMessageState" "I") ∈ lw_all := lw_g (lw_at lw_m10 164 rfl) rfl
theorem q2430 : (Jvm.Cond.soleField "java/lang/NullPointerException" "extendedMessageState") ∈ lw_all := lw_g (lw_at lw_m10 165 rfl) rfl
theorem q2431 : (Jvm.Cond.lays "java/lang/NullPointerException" "java/lang/NullPointerException" "extendedMessage" "Ljava/lang/String;") ∈ lw_all := lw_g (lw_at lw_m10 166 rfl) rfl
theorem q2432 : (Jvm.Cond.soleField "java/lang/NullPointerException" "extendedMessage") ∈ lw_all := lw_g (lw_at lw_m10 167 rfl) rfl
theorem q2433 : (Jvm.Cond.lays "java/lang/NullPointerException" "java/lang/Throwable" "backtrace" "Ljava/lang/Object;") ∈ lw_all := lw_g (lw_at lw_m10 168 rfl) rfl
theorem q2434 : (Jvm.Cond.lays "java/lang/NullPointerException" "java/lang/Throwable" "detailMessage" "Ljava/lang/String;") ∈ lw_all := lw_g (lw_at lw_m10 169 rfl) rfl
theorem q2435 : (Jvm.Cond.lays "java/lang/NullPointerException" "java/lang/Throwable" "cause" "Ljava/lang/Throwable;") ∈ lw_all := lw_g (lw_at lw_m10 170 rfl) rfl
theorem q2436 : (Jvm.Cond.lays "java/lang/NullPointerException" "java/lang/Throwable" "stackTrace" "[Ljava/lang/StackTraceElement;") ∈ lw_all := lw_g (lw_at lw_m10 171 rfl) rfl
theorem q2437 : (Jvm.Cond.lays "java/lang/NullPointerException" "java/lang/Throwable" "depth" "I") ∈ lw_all := lw_g (lw_at lw_m10 172 rfl) rfl
theorem q2438 : (Jvm.Cond.lays "java/lang/NullPointerException" "java/lang/Throwable" "suppressedExceptions" "Ljava/util/List;") ∈ lw_all := lw_g (lw_at lw_m10 173 rfl) rfl
theorem q2439 : (Jvm.Cond.castable "java/lang/NullPointerException" "java/lang/NullPointerException") ∈ lw_tbl := lw_at lw_m10 174 rfl
theorem q2440 : (Jvm.Cond.selects "java/lang/NullPointerException" ({ cls := "java/lang/Throwable", name := "fillInStackTrace", desc := "(I)Ljava/lang/Throwable;" } : Jvm.MethodName) ({ cls := "java/lang/Throwable", name := "fillInStackTrace", desc := "(I)Ljava/lang/Throwable;" } : Jvm.MethodName)) ∈ lw_all := lw_g (lw_at lw_m10 175 rfl) rfl
theorem q3167 : (Jvm.Cond.castable "java/lang/NullPointerException" "java/lang/Object") ∈ lw_tbl := lw_at lw_m13 182 rfl
theorem in_J33 : ∀ w ∈ wsJ330, w ∈ lw_all := lw_in wsJ330 [2433, 2434, 2435, 2436, 2437, 2438, 2429, 2431] (by decide +kernel) (by decide +kernel)
/-! java/lang/ClassCastException -/
set_option maxRecDepth 100000
def RJ34 : String := "java/lang/ClassCastException"
def TJ34 : u_T := fun k => match k with
  | 0 => ("java/lang/Throwable", "backtrace", "Ljava/lang/Object;", false)
  | 1 => ("java/lang/Throwable", "detailMessage", "Ljava/lang/String;", false)
  | 2 => ("java/lang/Throwable", "cause", "Ljava/lang/Throwable;", false)
  | 3 => ("java/lang/Throwable", "stackTrace", "[Ljava/lang/StackTraceElement;", false)
  | 4 => ("java/lang/Throwable", "depth", "I", false)
  | _ => ("java/lang/Throwable", "suppressedExceptions", "Ljava/util/List;", false)
def tyJ34 : Nat → FieldType := fun k => match k with
  | 0 => .object "java/lang/Object"
  | 1 => .object "java/lang/String"
  | 2 => .object "java/lang/Throwable"
  | 3 => .array (.object "java/lang/StackTraceElement")
  | 4 => .int
  | _ => .object "java/util/List"
abbrev wsJ340 : List Cond := u_ws RJ34 TJ34 6
theorem nmJ34 : ∀ a, a < 6 → ∀ b, b < 6 → a ≠ b → (TJ34 a).2.1 ≠ (TJ34 b).2.1 := by decide +kernel
theorem tyJ34_ok : ∀ k, k < 6 → parseFieldDescriptor (TJ34 k).2.2.1 = some (tyJ34 k) := by decide +kernel
abbrev cJ34_init : ByteArray := prog_36_method_2_code
def yJ34_init : MethodName := ⟨RJ34, "<init>", "(Ljava/lang/String;)V"⟩
def dkwJ34_init_0 : List UInt8 := [42, 43, 183, 0, 7, 177]
abbrev dktJ34_init_0 : List UInt8 := dkwJ34_init_0 ++ []
theorem dksJ34_init_0 : cJ34_init.data.toList.drop 0 = dktJ34_init_0 := by decide +kernel
theorem dJ34_init_0 : decode cJ34_init 0 = .ok (.aload_n 0, 1) := dk_42 (dk_at dksJ34_init_0 0 rfl rfl)
theorem dJ34_init_1 : decode cJ34_init 1 = .ok (.aload_n 1, 1) := dk_43 (dk_at dksJ34_init_0 1 rfl rfl)
theorem dJ34_init_2 : decode cJ34_init 2 = .ok (.invokespecial 7, 3) := dk_183 0 7 (dk_at dksJ34_init_0 2 rfl rfl)
theorem dJ34_init_5 : decode cJ34_init 5 = .ok (.return_, 1) := dk_177 (dk_at dksJ34_init_0 5 rfl rfl)
theorem q168 : (Jvm.Cond.initialized "java/lang/ClassCastException") ∈ lw_all := lw_g (lw_at lw_m1 63 rfl) rfl
theorem q915 : (Jvm.Cond.selects "java/lang/ClassCastException" ({ cls := "java/lang/Object", name := "hashCode", desc := "()I" } : Jvm.MethodName) ({ cls := "java/lang/Object", name := "hashCode", desc := "()I" } : Jvm.MethodName)) ∈ lw_all := lw_g (lw_at lw_m4 90 rfl) rfl
theorem q1126 : (Jvm.Cond.selects "java/lang/ClassCastException" ({ cls := "java/lang/Object", name := "getClass", desc := "()Ljava/lang/Class;" } : Jvm.MethodName) ({ cls := "java/lang/Object", name := "getClass", desc := "()Ljava/lang/Class;" } : Jvm.MethodName)) ∈ lw_all := lw_g (lw_at lw_m5 61 rfl) rfl
theorem q1375 : (Jvm.Cond.selects "java/lang/ClassCastException" ({ cls := "java/lang/Object", name := "equals", desc := "(Ljava/lang/Object;)Z" } : Jvm.MethodName) ({ cls := "java/lang/Object", name := "equals", desc := "(Ljava/lang/Object;)Z" } : Jvm.MethodName)) ∈ lw_all := lw_g (lw_at lw_m6 70 rfl) rfl
theorem q1660 : (Jvm.Cond.selects "java/lang/ClassCastException" ({ cls := "java/lang/Throwable", name := "fillInStackTrace", desc := "()Ljava/lang/Throwable;" } : Jvm.MethodName) ({ cls := "java/lang/Throwable", name := "fillInStackTrace", desc := "()Ljava/lang/Throwable;" } : Jvm.MethodName)) ∈ lw_all := lw_g (lw_at lw_m7 115 rfl) rfl
theorem q2489 : (Jvm.Cond.instantiable "java/lang/ClassCastException" (6 : Nat)) ∈ lw_all := lw_g (lw_at lw_m10 224 rfl) rfl
theorem q2490 : (Jvm.Cond.instanceMethod ({ cls := "java/lang/ClassCastException", name := "<init>", desc := "(Ljava/lang/String;)V" } : Jvm.MethodName)) ∈ lw_all := lw_g (lw_at lw_m10 225 rfl) rfl
theorem q2491 : (Jvm.Cond.code ({ cls := "java/lang/ClassCastException", name := "<init>", desc := "(Ljava/lang/String;)V" } : Jvm.MethodName) prog_36_method_2_code (2 : Nat) (Option.none : Option Jvm.ClassFile.FieldType)) ∈ lw_all := lw_g (lw_at lw_m10 226 rfl) rfl
theorem q2492 : (Jvm.Cond.methodLink "java/lang/ClassCastException" (7 : Nat) ({ cls := "java/lang/RuntimeException", name := "<init>", desc := "(Ljava/lang/String;)V" } : Jvm.MethodName)) ∈ lw_all := lw_g (lw_at lw_m10 227 rfl) rfl
theorem q2493 : (Jvm.Cond.lays "java/lang/ClassCastException" "java/lang/Throwable" "backtrace" "Ljava/lang/Object;") ∈ lw_all := lw_g (lw_at lw_m10 228 rfl) rfl
theorem q2494 : (Jvm.Cond.lays "java/lang/ClassCastException" "java/lang/Throwable" "detailMessage" "Ljava/lang/String;") ∈ lw_all := lw_g (lw_at lw_m10 229 rfl) rfl
theorem q2495 : (Jvm.Cond.lays "java/lang/ClassCastException" "java/lang/Throwable" "cause" "Ljava/lang/Throwable;") ∈ lw_all := lw_g (lw_at lw_m10 230 rfl) rfl
theorem q2496 : (Jvm.Cond.lays "java/lang/ClassCastException" "java/lang/Throwable" "stackTrace" "[Ljava/lang/StackTraceElement;") ∈ lw_all := lw_g (lw_at lw_m10 231 rfl) rfl
theorem q2497 : (Jvm.Cond.lays "java/lang/ClassCastException" "java/lang/Throwable" "depth" "I") ∈ lw_all := lw_g (lw_at lw_m10 232 rfl) rfl
theorem q2498 : (Jvm.Cond.lays "java/lang/ClassCastException" "java/lang/Throwable" "suppressedExceptions" "Ljava/util/List;") ∈ lw_all := lw_g (lw_at lw_m10 233 rfl) rfl
theorem q2499 : (Jvm.Cond.superclass "java/lang/ClassCastException" "java/lang/RuntimeException") ∈ lw_all := lw_g (lw_at lw_m10 234 rfl) rfl
theorem q2500 : (Jvm.Cond.castable "java/lang/ClassCastException" "java/lang/ClassCastException") ∈ lw_tbl := lw_at lw_m10 235 rfl
theorem q2501 : (Jvm.Cond.selects "java/lang/ClassCastException" ({ cls := "java/lang/Throwable", name := "fillInStackTrace", desc := "(I)Ljava/lang/Throwable;" } : Jvm.MethodName) ({ cls := "java/lang/Throwable", name := "fillInStackTrace", desc := "(I)Ljava/lang/Throwable;" } : Jvm.MethodName)) ∈ lw_all := lw_g (lw_at lw_m10 236 rfl) rfl
theorem q3169 : (Jvm.Cond.castable "java/lang/ClassCastException" "java/lang/Object") ∈ lw_tbl := lw_at lw_m13 184 rfl
theorem in_J34 : ∀ w ∈ wsJ340, w ∈ lw_all := lw_in wsJ340 [2493, 2494, 2495, 2496, 2497, 2498] (by decide +kernel) (by decide +kernel)
/-! java/lang/Object -/
set_option maxRecDepth 100000
def RJ35 : String := "java/lang/Object"
abbrev cJ35_init : ByteArray := object_method_1_code
def yJ35_init : MethodName := ⟨RJ35, "<init>", "()V"⟩
theorem dJ35_init_0 : decode cJ35_init 0 = .ok (.return_, 1) := by decide +kernel
abbrev cJ35_equals : ByteArray := object_method_4_code
def yJ35_equals : MethodName := ⟨RJ35, "equals", "(Ljava/lang/Object;)Z"⟩
def dkwJ35_equals_0 : List UInt8 := [42, 43, 166, 0, 7, 4, 167, 0, 4, 3, 172]
abbrev dktJ35_equals_0 : List UInt8 := dkwJ35_equals_0 ++ []
theorem dksJ35_equals_0 : cJ35_equals.data.toList.drop 0 = dktJ35_equals_0 := by decide +kernel
theorem dJ35_equals_0 : decode cJ35_equals 0 = .ok (.aload_n 0, 1) := dk_42 (dk_at dksJ35_equals_0 0 rfl rfl)
theorem dJ35_equals_1 : decode cJ35_equals 1 = .ok (.aload_n 1, 1) := dk_43 (dk_at dksJ35_equals_0 1 rfl rfl)
theorem dJ35_equals_2 : decode cJ35_equals 2 = .ok (.if_acmp .ne 7, 3) := dk_166 0 7 (dk_at dksJ35_equals_0 2 rfl rfl)
theorem dJ35_equals_5 : decode cJ35_equals 5 = .ok (.iconst 1, 1) := dk_4 (dk_at dksJ35_equals_0 5 rfl rfl)
theorem dJ35_equals_6 : decode cJ35_equals 6 = .ok (.goto 4, 3) := dk_167 0 4 (dk_at dksJ35_equals_0 6 rfl rfl)
theorem dJ35_equals_9 : decode cJ35_equals 9 = .ok (.iconst 0, 1) := dk_3 (dk_at dksJ35_equals_0 9 rfl rfl)
theorem dJ35_equals_10 : decode cJ35_equals 10 = .ok (.ireturn, 1) := dk_172 (dk_at dksJ35_equals_0 10 rfl rfl)
theorem q175 : (Jvm.Cond.instanceMethod ({ cls := "java/lang/Object", name := "<init>", desc := "()V" } : Jvm.MethodName)) ∈ lw_all := lw_g (lw_at lw_m1 70 rfl) rfl
theorem q176 : (Jvm.Cond.code ({ cls := "java/lang/Object", name := "<init>", desc := "()V" } : Jvm.MethodName) object_method_1_code (1 : Nat) (Option.none : Option Jvm.ClassFile.FieldType)) ∈ lw_all := lw_g (lw_at lw_m1 71 rfl) rfl
theorem q879 : (Jvm.Cond.declares ({ cls := "java/lang/Object", name := "hashCode", desc := "()I" } : Jvm.MethodName)) ∈ lw_tbl := lw_at lw_m4 54 rfl
theorem q881 : (Jvm.Cond.instanceMethod ({ cls := "java/lang/Object", name := "hashCode", desc := "()I" } : Jvm.MethodName)) ∈ lw_all := lw_g (lw_at lw_m4 56 rfl) rfl
theorem q882 : (Jvm.Cond.sameMethod "java/lang/Object" "java/lang/Object" "hashCode" "()I") ∈ lw_all := lw_g (lw_at lw_m4 57 rfl) rfl
theorem q992 : (Jvm.Cond.native ({ cls := "java/lang/Object", name := "hashCode", desc := "()I" } : Jvm.MethodName)) ∈ lw_all := lw_g (lw_at lw_m4 167 rfl) rfl
theorem q1100 : (Jvm.Cond.instanceMethod ({ cls := "java/lang/Object", name := "getClass", desc := "()Ljava/lang/Class;" } : Jvm.MethodName)) ∈ lw_all := lw_g (lw_at lw_m5 35 rfl) rfl
theorem q1101 : (Jvm.Cond.sameMethod "java/lang/Object" "java/lang/Object" "getClass" "()Ljava/lang/Class;") ∈ lw_all := lw_g (lw_at lw_m5 36 rfl) rfl
theorem q1144 : (Jvm.Cond.native ({ cls := "java/lang/Object", name := "getClass", desc := "()Ljava/lang/Class;" } : Jvm.MethodName)) ∈ lw_all := lw_g (lw_at lw_m5 79 rfl) rfl
theorem q1341 : (Jvm.Cond.declares ({ cls := "java/lang/Object", name := "equals", desc := "(Ljava/lang/Object;)Z" } : Jvm.MethodName)) ∈ lw_tbl := lw_at lw_m6 36 rfl
theorem q1343 : (Jvm.Cond.instanceMethod ({ cls := "java/lang/Object", name := "equals", desc := "(Ljava/lang/Object;)Z" } : Jvm.MethodName)) ∈ lw_all := lw_g (lw_at lw_m6 38 rfl) rfl
theorem q1344 : (Jvm.Cond.sameMethod "java/lang/Object" "java/lang/Object" "equals" "(Ljava/lang/Object;)Z") ∈ lw_all := lw_g (lw_at lw_m6 39 rfl) rfl
theorem q1393 : (Jvm.Cond.code ({ cls := "java/lang/Object", name := "equals", desc := "(Ljava/lang/Object;)Z" } : Jvm.MethodName) object_method_4_code (2 : Nat) (Option.some Jvm.ClassFile.FieldType.boolean)) ∈ lw_all := lw_g (lw_at lw_m6 88 rfl) rfl
theorem q3114 : (Jvm.Cond.initialized "java/lang/Object") ∈ lw_all := lw_g (lw_at lw_m13 129 rfl) rfl
theorem q3129 : (Jvm.Cond.selects "java/lang/Object" ({ cls := "java/lang/Object", name := "equals", desc := "(Ljava/lang/Object;)Z" } : Jvm.MethodName) ({ cls := "java/lang/Object", name := "equals", desc := "(Ljava/lang/Object;)Z" } : Jvm.MethodName)) ∈ lw_all := lw_g (lw_at lw_m13 144 rfl) rfl
theorem q3179 : (Jvm.Cond.declares ({ cls := "java/lang/Object", name := "getClass", desc := "()Ljava/lang/Class;" } : Jvm.MethodName)) ∈ lw_tbl := lw_at lw_m13 194 rfl
theorem q3200 : (Jvm.Cond.instantiable "java/lang/Object" (0 : Nat)) ∈ lw_all := lw_g (lw_at lw_m13 215 rfl) rfl
/-! java/lang/System$2 -/
set_option maxRecDepth 100000
def RJ36 : String := "java/lang/System$2"
abbrev cJ36_getUTF16Char : ByteArray := prog_54_method_45_code
def yJ36_getUTF16Char : MethodName := ⟨RJ36, "getUTF16Char", "([BI)C"⟩
def dkwJ36_getUTF16Char_0 : List UInt8 := [43, 28, 184, 0, 185, 172]
abbrev dktJ36_getUTF16Char_0 : List UInt8 := dkwJ36_getUTF16Char_0 ++ []
theorem dksJ36_getUTF16Char_0 : cJ36_getUTF16Char.data.toList.drop 0 = dktJ36_getUTF16Char_0 := by decide +kernel
theorem dJ36_getUTF16Char_0 : decode cJ36_getUTF16Char 0 = .ok (.aload_n 1, 1) := dk_43 (dk_at dksJ36_getUTF16Char_0 0 rfl rfl)
theorem dJ36_getUTF16Char_1 : decode cJ36_getUTF16Char 1 = .ok (.iload_n 2, 1) := dk_28 (dk_at dksJ36_getUTF16Char_0 1 rfl rfl)
theorem dJ36_getUTF16Char_2 : decode cJ36_getUTF16Char 2 = .ok (.invokestatic 185, 3) := dk_184 0 185 (dk_at dksJ36_getUTF16Char_0 2 rfl rfl)
theorem dJ36_getUTF16Char_5 : decode cJ36_getUTF16Char 5 = .ok (.ireturn, 1) := dk_172 (dk_at dksJ36_getUTF16Char_0 5 rfl rfl)
theorem q952 : (Jvm.Cond.castable "java/lang/System$2" "jdk/internal/access/JavaLangAccess") ∈ lw_tbl := lw_at lw_m4 127 rfl
theorem q953 : (Jvm.Cond.selects "java/lang/System$2" ({ cls := "jdk/internal/access/JavaLangAccess", name := "getUTF16Char", desc := "([BI)C" } : Jvm.MethodName) ({ cls := "java/lang/System$2", name := "getUTF16Char", desc := "([BI)C" } : Jvm.MethodName)) ∈ lw_all := lw_g (lw_at lw_m4 128 rfl) rfl
theorem q954 : (Jvm.Cond.unhidden "java/lang/System$2" "getUTF16Char" "([BI)C") ∈ lw_tbl := lw_at lw_m4 129 rfl
theorem q955 : (Jvm.Cond.instanceMethod ({ cls := "java/lang/System$2", name := "getUTF16Char", desc := "([BI)C" } : Jvm.MethodName)) ∈ lw_all := lw_g (lw_at lw_m4 130 rfl) rfl
theorem q956 : (Jvm.Cond.publicMethod ({ cls := "java/lang/System$2", name := "getUTF16Char", desc := "([BI)C" } : Jvm.MethodName)) ∈ lw_tbl := lw_at lw_m4 131 rfl
theorem q957 : (Jvm.Cond.code ({ cls := "java/lang/System$2", name := "getUTF16Char", desc := "([BI)C" } : Jvm.MethodName) prog_54_method_45_code (3 : Nat) (Option.some Jvm.ClassFile.FieldType.char)) ∈ lw_all := lw_g (lw_at lw_m4 132 rfl) rfl
theorem q958 : (Jvm.Cond.methodLink "java/lang/System$2" (185 : Nat) ({ cls := "java/lang/StringUTF16", name := "getChar", desc := "([BI)C" } : Jvm.MethodName)) ∈ lw_all := lw_g (lw_at lw_m4 133 rfl) rfl
theorem q990 : (Jvm.Cond.selects "java/lang/System$2" ({ cls := "java/lang/Object", name := "hashCode", desc := "()I" } : Jvm.MethodName) ({ cls := "java/lang/Object", name := "hashCode", desc := "()I" } : Jvm.MethodName)) ∈ lw_all := lw_g (lw_at lw_m4 165 rfl) rfl
theorem q1130 : (Jvm.Cond.selects "java/lang/System$2" ({ cls := "java/lang/Object", name := "getClass", desc := "()Ljava/lang/Class;" } : Jvm.MethodName) ({ cls := "java/lang/Object", name := "getClass", desc := "()Ljava/lang/Class;" } : Jvm.MethodName)) ∈ lw_all := lw_g (lw_at lw_m5 65 rfl) rfl
theorem q1391 : (Jvm.Cond.selects "java/lang/System$2" ({ cls := "java/lang/Object", name := "equals", desc := "(Ljava/lang/Object;)Z" } : Jvm.MethodName) ({ cls := "java/lang/Object", name := "equals", desc := "(Ljava/lang/Object;)Z" } : Jvm.MethodName)) ∈ lw_all := lw_g (lw_at lw_m6 86 rfl) rfl
theorem q3170 : (Jvm.Cond.castable "java/lang/System$2" "java/lang/Object") ∈ lw_tbl := lw_at lw_m13 185 rfl
