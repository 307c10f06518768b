/-! LinesTouched$Net -/
set_option maxRecDepth 100000
def RX1 : String := "LinesTouched$Net"
def TX1 : u_T := fun k => match k with
  | 0 => ("LinesTouched$Net", "point", "[LLinesTouched$Point;", true)
  | 1 => ("LinesTouched$Net", "next", "[I", true)
  | 2 => ("LinesTouched$Net", "points", "I", false)
  | _ => ("LinesTouched$Net", "z", "I", false)
def tyX1 : Nat → FieldType := fun k => match k with
  | 0 => .array (.object "LinesTouched$Point")
  | 1 => .array .int
  | 2 => .int
  | _ => .int
abbrev wsX10 : List Cond := u_ws RX1 TX1 4
theorem nmX1 : ∀ a, a < 4 → ∀ b, b < 4 → a ≠ b → (TX1 a).2.1 ≠ (TX1 b).2.1 := by decide +kernel
theorem tyX1_ok : ∀ k, k < 4 → parseFieldDescriptor (TX1 k).2.2.1 = some (tyX1 k) := by decide +kernel
abbrev cX1_init : ByteArray := prog_14_method_1_code
def yX1_init : MethodName := ⟨RX1, "<init>", "()V"⟩
def dkwX1_init_1 : List UInt8 := [181, 0, 21, 177]
abbrev dktX1_init_1 : List UInt8 := dkwX1_init_1 ++ []
def dkwX1_init_0 : List UInt8 := [42, 183, 0, 3, 42, 16, 12, 189, 0, 9, 181, 0, 11, 42, 16, 12, 188, 10, 181, 0, 17, 42, 4]
abbrev dktX1_init_0 : List UInt8 := dkwX1_init_0 ++ dktX1_init_1
theorem dksX1_init_0 : cX1_init.data.toList.drop 0 = dktX1_init_0 := by decide +kernel
theorem dksX1_init_1 : cX1_init.data.toList.drop 23 = dktX1_init_1 := dk_seg dksX1_init_0 23 rfl rfl
theorem dX1_init_0 : decode cX1_init 0 = .ok (.aload_n 0, 1) := dk_42 (dk_at dksX1_init_0 0 rfl rfl)
theorem dX1_init_1 : decode cX1_init 1 = .ok (.invokespecial 3, 3) := dk_183 0 3 (dk_at dksX1_init_0 1 rfl rfl)
theorem dX1_init_4 : decode cX1_init 4 = .ok (.aload_n 0, 1) := dk_42 (dk_at dksX1_init_0 4 rfl rfl)
theorem dX1_init_5 : decode cX1_init 5 = .ok (.bipush 12, 2) := dk_16 12 (dk_at dksX1_init_0 5 rfl rfl)
theorem dX1_init_7 : decode cX1_init 7 = .ok (.anewarray 9, 3) := dk_189 0 9 (dk_at dksX1_init_0 7 rfl rfl)
theorem dX1_init_10 : decode cX1_init 10 = .ok (.putfield 11, 3) := dk_181 0 11 (dk_at dksX1_init_0 10 rfl rfl)
theorem dX1_init_13 : decode cX1_init 13 = .ok (.aload_n 0, 1) := dk_42 (dk_at dksX1_init_0 13 rfl rfl)
theorem dX1_init_14 : decode cX1_init 14 = .ok (.bipush 12, 2) := dk_16 12 (dk_at dksX1_init_0 14 rfl rfl)
theorem dX1_init_16 : decode cX1_init 16 = .ok (.newarray .int, 2) := dk_188_10 (dk_at dksX1_init_0 16 rfl rfl)
theorem dX1_init_18 : decode cX1_init 18 = .ok (.putfield 17, 3) := dk_181 0 17 (dk_at dksX1_init_0 18 rfl rfl)
theorem dX1_init_21 : decode cX1_init 21 = .ok (.aload_n 0, 1) := dk_42 (dk_at dksX1_init_0 21 rfl rfl)
theorem dX1_init_22 : decode cX1_init 22 = .ok (.iconst 1, 1) := dk_4 (dk_at dksX1_init_0 22 rfl rfl)
theorem dX1_init_23 : decode cX1_init 23 = .ok (.putfield 21, 3) := dk_181 0 21 (dk_at dksX1_init_1 0 rfl rfl)
theorem dX1_init_26 : decode cX1_init 26 = .ok (.return_, 1) := dk_177 (dk_at dksX1_init_1 3 rfl rfl)
abbrev cX1_lines : ByteArray := prog_14_method_8_code
def yX1_lines : MethodName := ⟨RX1, "lines", "(II)I"⟩
def dkwX1_lines_0 : List UInt8 := [42, 180, 0, 17, 27, 46, 28, 126, 184, 0, 46, 172]
abbrev dktX1_lines_0 : List UInt8 := dkwX1_lines_0 ++ []
theorem dksX1_lines_0 : cX1_lines.data.toList.drop 0 = dktX1_lines_0 := by decide +kernel
theorem dX1_lines_0 : decode cX1_lines 0 = .ok (.aload_n 0, 1) := dk_42 (dk_at dksX1_lines_0 0 rfl rfl)
theorem dX1_lines_1 : decode cX1_lines 1 = .ok (.getfield 17, 3) := dk_180 0 17 (dk_at dksX1_lines_0 1 rfl rfl)
theorem dX1_lines_4 : decode cX1_lines 4 = .ok (.iload_n 1, 1) := dk_27 (dk_at dksX1_lines_0 4 rfl rfl)
theorem dX1_lines_5 : decode cX1_lines 5 = .ok (.iaload, 1) := dk_46 (dk_at dksX1_lines_0 5 rfl rfl)
theorem dX1_lines_6 : decode cX1_lines 6 = .ok (.iload_n 2, 1) := dk_28 (dk_at dksX1_lines_0 6 rfl rfl)
theorem dX1_lines_7 : decode cX1_lines 7 = .ok (.iand, 1) := dk_126 (dk_at dksX1_lines_0 7 rfl rfl)
theorem dX1_lines_8 : decode cX1_lines 8 = .ok (.invokestatic 46, 3) := dk_184 0 46 (dk_at dksX1_lines_0 8 rfl rfl)
theorem dX1_lines_11 : decode cX1_lines 11 = .ok (.ireturn, 1) := dk_172 (dk_at dksX1_lines_0 11 rfl rfl)
abbrev cX1_comes : ByteArray := prog_14_method_5_code
def yX1_comes : MethodName := ⟨RX1, "comes", "(II)I"⟩
def dkwX1_comes_1 : List UInt8 := [180, 0, 31, 3, 79, 42, 89, 180, 0, 31, 4, 96, 181, 0, 31, 42, 180, 0, 31, 4, 100, 172]
abbrev dktX1_comes_1 : List UInt8 := dkwX1_comes_1 ++ []
def dkwX1_comes_0 : List UInt8 := [42, 180, 0, 11, 42, 180, 0, 31, 27, 42, 180, 0, 31, 28, 184, 0, 38, 83, 42, 180, 0, 17, 42]
abbrev dktX1_comes_0 : List UInt8 := dkwX1_comes_0 ++ dktX1_comes_1
theorem dksX1_comes_0 : cX1_comes.data.toList.drop 0 = dktX1_comes_0 := by decide +kernel
theorem dksX1_comes_1 : cX1_comes.data.toList.drop 23 = dktX1_comes_1 := dk_seg dksX1_comes_0 23 rfl rfl
theorem dX1_comes_0 : decode cX1_comes 0 = .ok (.aload_n 0, 1) := dk_42 (dk_at dksX1_comes_0 0 rfl rfl)
theorem dX1_comes_1 : decode cX1_comes 1 = .ok (.getfield 11, 3) := dk_180 0 11 (dk_at dksX1_comes_0 1 rfl rfl)
theorem dX1_comes_4 : decode cX1_comes 4 = .ok (.aload_n 0, 1) := dk_42 (dk_at dksX1_comes_0 4 rfl rfl)
theorem dX1_comes_5 : decode cX1_comes 5 = .ok (.getfield 31, 3) := dk_180 0 31 (dk_at dksX1_comes_0 5 rfl rfl)
theorem dX1_comes_8 : decode cX1_comes 8 = .ok (.iload_n 1, 1) := dk_27 (dk_at dksX1_comes_0 8 rfl rfl)
theorem dX1_comes_9 : decode cX1_comes 9 = .ok (.aload_n 0, 1) := dk_42 (dk_at dksX1_comes_0 9 rfl rfl)
theorem dX1_comes_10 : decode cX1_comes 10 = .ok (.getfield 31, 3) := dk_180 0 31 (dk_at dksX1_comes_0 10 rfl rfl)
theorem dX1_comes_13 : decode cX1_comes 13 = .ok (.iload_n 2, 1) := dk_28 (dk_at dksX1_comes_0 13 rfl rfl)
theorem dX1_comes_14 : decode cX1_comes 14 = .ok (.invokestatic 38, 3) := dk_184 0 38 (dk_at dksX1_comes_0 14 rfl rfl)
theorem dX1_comes_17 : decode cX1_comes 17 = .ok (.aastore, 1) := dk_83 (dk_at dksX1_comes_0 17 rfl rfl)
theorem dX1_comes_18 : decode cX1_comes 18 = .ok (.aload_n 0, 1) := dk_42 (dk_at dksX1_comes_0 18 rfl rfl)
theorem dX1_comes_19 : decode cX1_comes 19 = .ok (.getfield 17, 3) := dk_180 0 17 (dk_at dksX1_comes_0 19 rfl rfl)
theorem dX1_comes_22 : decode cX1_comes 22 = .ok (.aload_n 0, 1) := dk_42 (dk_at dksX1_comes_0 22 rfl rfl)
theorem dX1_comes_23 : decode cX1_comes 23 = .ok (.getfield 31, 3) := dk_180 0 31 (dk_at dksX1_comes_1 0 rfl rfl)
theorem dX1_comes_26 : decode cX1_comes 26 = .ok (.iconst 0, 1) := dk_3 (dk_at dksX1_comes_1 3 rfl rfl)
theorem dX1_comes_27 : decode cX1_comes 27 = .ok (.iastore, 1) := dk_79 (dk_at dksX1_comes_1 4 rfl rfl)
theorem dX1_comes_28 : decode cX1_comes 28 = .ok (.aload_n 0, 1) := dk_42 (dk_at dksX1_comes_1 5 rfl rfl)
theorem dX1_comes_29 : decode cX1_comes 29 = .ok (.dup, 1) := dk_89 (dk_at dksX1_comes_1 6 rfl rfl)
theorem dX1_comes_30 : decode cX1_comes 30 = .ok (.getfield 31, 3) := dk_180 0 31 (dk_at dksX1_comes_1 7 rfl rfl)
theorem dX1_comes_33 : decode cX1_comes 33 = .ok (.iconst 1, 1) := dk_4 (dk_at dksX1_comes_1 10 rfl rfl)
theorem dX1_comes_34 : decode cX1_comes 34 = .ok (.iadd, 1) := dk_96 (dk_at dksX1_comes_1 11 rfl rfl)
theorem dX1_comes_35 : decode cX1_comes 35 = .ok (.putfield 31, 3) := dk_181 0 31 (dk_at dksX1_comes_1 12 rfl rfl)
theorem dX1_comes_38 : decode cX1_comes 38 = .ok (.aload_n 0, 1) := dk_42 (dk_at dksX1_comes_1 15 rfl rfl)
theorem dX1_comes_39 : decode cX1_comes 39 = .ok (.getfield 31, 3) := dk_180 0 31 (dk_at dksX1_comes_1 16 rfl rfl)
theorem dX1_comes_42 : decode cX1_comes 42 = .ok (.iconst 1, 1) := dk_4 (dk_at dksX1_comes_1 19 rfl rfl)
theorem dX1_comes_43 : decode cX1_comes 43 = .ok (.isub, 1) := dk_100 (dk_at dksX1_comes_1 20 rfl rfl)
theorem dX1_comes_44 : decode cX1_comes 44 = .ok (.ireturn, 1) := dk_172 (dk_at dksX1_comes_1 21 rfl rfl)
abbrev cX1_isPoint : ByteArray := prog_14_method_4_code
def yX1_isPoint : MethodName := ⟨RX1, "isPoint", "(I)Z"⟩
def dkwX1_isPoint_0 : List UInt8 := [27, 3, 42, 180, 0, 31, 4, 100, 184, 0, 34, 172]
abbrev dktX1_isPoint_0 : List UInt8 := dkwX1_isPoint_0 ++ []
theorem dksX1_isPoint_0 : cX1_isPoint.data.toList.drop 0 = dktX1_isPoint_0 := by decide +kernel
theorem dX1_isPoint_0 : decode cX1_isPoint 0 = .ok (.iload_n 1, 1) := dk_27 (dk_at dksX1_isPoint_0 0 rfl rfl)
theorem dX1_isPoint_1 : decode cX1_isPoint 1 = .ok (.iconst 0, 1) := dk_3 (dk_at dksX1_isPoint_0 1 rfl rfl)
theorem dX1_isPoint_2 : decode cX1_isPoint 2 = .ok (.aload_n 0, 1) := dk_42 (dk_at dksX1_isPoint_0 2 rfl rfl)
theorem dX1_isPoint_3 : decode cX1_isPoint 3 = .ok (.getfield 31, 3) := dk_180 0 31 (dk_at dksX1_isPoint_0 3 rfl rfl)
theorem dX1_isPoint_6 : decode cX1_isPoint 6 = .ok (.iconst 1, 1) := dk_4 (dk_at dksX1_isPoint_0 6 rfl rfl)
theorem dX1_isPoint_7 : decode cX1_isPoint 7 = .ok (.isub, 1) := dk_100 (dk_at dksX1_isPoint_0 7 rfl rfl)
theorem dX1_isPoint_8 : decode cX1_isPoint 8 = .ok (.invokestatic 34, 3) := dk_184 0 34 (dk_at dksX1_isPoint_0 8 rfl rfl)
theorem dX1_isPoint_11 : decode cX1_isPoint 11 = .ok (.ireturn, 1) := dk_172 (dk_at dksX1_isPoint_0 11 rfl rfl)
abbrev cX1_areJoined : ByteArray := prog_14_method_7_code
def yX1_areJoined : MethodName := ⟨RX1, "areJoined", "(II)Z"⟩
def dkwX1_areJoined_0 : List UInt8 := [42, 180, 0, 17, 27, 46, 28, 184, 0, 42, 172]
abbrev dktX1_areJoined_0 : List UInt8 := dkwX1_areJoined_0 ++ []
theorem dksX1_areJoined_0 : cX1_areJoined.data.toList.drop 0 = dktX1_areJoined_0 := by decide +kernel
theorem dX1_areJoined_0 : decode cX1_areJoined 0 = .ok (.aload_n 0, 1) := dk_42 (dk_at dksX1_areJoined_0 0 rfl rfl)
theorem dX1_areJoined_1 : decode cX1_areJoined 1 = .ok (.getfield 17, 3) := dk_180 0 17 (dk_at dksX1_areJoined_0 1 rfl rfl)
theorem dX1_areJoined_4 : decode cX1_areJoined 4 = .ok (.iload_n 1, 1) := dk_27 (dk_at dksX1_areJoined_0 4 rfl rfl)
theorem dX1_areJoined_5 : decode cX1_areJoined 5 = .ok (.iaload, 1) := dk_46 (dk_at dksX1_areJoined_0 5 rfl rfl)
theorem dX1_areJoined_6 : decode cX1_areJoined 6 = .ok (.iload_n 2, 1) := dk_28 (dk_at dksX1_areJoined_0 6 rfl rfl)
theorem dX1_areJoined_7 : decode cX1_areJoined 7 = .ok (.invokestatic 42, 3) := dk_184 0 42 (dk_at dksX1_areJoined_0 7 rfl rfl)
theorem dX1_areJoined_10 : decode cX1_areJoined 10 = .ok (.ireturn, 1) := dk_172 (dk_at dksX1_areJoined_0 10 rfl rfl)
abbrev cX1_joins : ByteArray := prog_14_method_6_code
def yX1_joins : MethodName := ⟨RX1, "joins", "(IIZ)V"⟩
def dkwX1_joins_3 : List UInt8 := [79, 177]
abbrev dktX1_joins_3 : List UInt8 := dkwX1_joins_3 ++ []
def dkwX1_joins_2 : List UInt8 := [180, 0, 17, 28, 46, 4, 27, 120, 128, 167, 0, 15, 42, 180, 0, 17, 28, 46, 4, 27, 120, 2, 130, 126]
abbrev dktX1_joins_2 : List UInt8 := dkwX1_joins_2 ++ dktX1_joins_3
def dkwX1_joins_1 : List UInt8 := [180, 0, 17, 27, 46, 4, 28, 120, 2, 130, 126, 79, 42, 180, 0, 17, 28, 29, 153, 0, 16, 42]
abbrev dktX1_joins_1 : List UInt8 := dkwX1_joins_1 ++ dktX1_joins_2
def dkwX1_joins_0 : List UInt8 := [42, 180, 0, 17, 27, 29, 153, 0, 16, 42, 180, 0, 17, 27, 46, 4, 28, 120, 128, 167, 0, 15, 42]
abbrev dktX1_joins_0 : List UInt8 := dkwX1_joins_0 ++ dktX1_joins_1
theorem dksX1_joins_0 : cX1_joins.data.toList.drop 0 = dktX1_joins_0 := by decide +kernel
theorem dksX1_joins_1 : cX1_joins.data.toList.drop 23 = dktX1_joins_1 := dk_seg dksX1_joins_0 23 rfl rfl
theorem dksX1_joins_2 : cX1_joins.data.toList.drop 45 = dktX1_joins_2 := dk_seg dksX1_joins_1 22 rfl rfl
theorem dksX1_joins_3 : cX1_joins.data.toList.drop 69 = dktX1_joins_3 := dk_seg dksX1_joins_2 24 rfl rfl
theorem dX1_joins_0 : decode cX1_joins 0 = .ok (.aload_n 0, 1) := dk_42 (dk_at dksX1_joins_0 0 rfl rfl)
theorem dX1_joins_1 : decode cX1_joins 1 = .ok (.getfield 17, 3) := dk_180 0 17 (dk_at dksX1_joins_0 1 rfl rfl)
theorem dX1_joins_4 : decode cX1_joins 4 = .ok (.iload_n 1, 1) := dk_27 (dk_at dksX1_joins_0 4 rfl rfl)
theorem dX1_joins_5 : decode cX1_joins 5 = .ok (.iload_n 3, 1) := dk_29 (dk_at dksX1_joins_0 5 rfl rfl)
theorem dX1_joins_6 : decode cX1_joins 6 = .ok (.ifCond .eq 16, 3) := dk_153 0 16 (dk_at dksX1_joins_0 6 rfl rfl)
theorem dX1_joins_9 : decode cX1_joins 9 = .ok (.aload_n 0, 1) := dk_42 (dk_at dksX1_joins_0 9 rfl rfl)
theorem dX1_joins_10 : decode cX1_joins 10 = .ok (.getfield 17, 3) := dk_180 0 17 (dk_at dksX1_joins_0 10 rfl rfl)
theorem dX1_joins_13 : decode cX1_joins 13 = .ok (.iload_n 1, 1) := dk_27 (dk_at dksX1_joins_0 13 rfl rfl)
theorem dX1_joins_14 : decode cX1_joins 14 = .ok (.iaload, 1) := dk_46 (dk_at dksX1_joins_0 14 rfl rfl)
theorem dX1_joins_15 : decode cX1_joins 15 = .ok (.iconst 1, 1) := dk_4 (dk_at dksX1_joins_0 15 rfl rfl)
theorem dX1_joins_16 : decode cX1_joins 16 = .ok (.iload_n 2, 1) := dk_28 (dk_at dksX1_joins_0 16 rfl rfl)
theorem dX1_joins_17 : decode cX1_joins 17 = .ok (.ishl, 1) := dk_120 (dk_at dksX1_joins_0 17 rfl rfl)
theorem dX1_joins_18 : decode cX1_joins 18 = .ok (.ior, 1) := dk_128 (dk_at dksX1_joins_0 18 rfl rfl)
theorem dX1_joins_19 : decode cX1_joins 19 = .ok (.goto 15, 3) := dk_167 0 15 (dk_at dksX1_joins_0 19 rfl rfl)
theorem dX1_joins_22 : decode cX1_joins 22 = .ok (.aload_n 0, 1) := dk_42 (dk_at dksX1_joins_0 22 rfl rfl)
theorem dX1_joins_23 : decode cX1_joins 23 = .ok (.getfield 17, 3) := dk_180 0 17 (dk_at dksX1_joins_1 0 rfl rfl)
theorem dX1_joins_26 : decode cX1_joins 26 = .ok (.iload_n 1, 1) := dk_27 (dk_at dksX1_joins_1 3 rfl rfl)
theorem dX1_joins_27 : decode cX1_joins 27 = .ok (.iaload, 1) := dk_46 (dk_at dksX1_joins_1 4 rfl rfl)
theorem dX1_joins_28 : decode cX1_joins 28 = .ok (.iconst 1, 1) := dk_4 (dk_at dksX1_joins_1 5 rfl rfl)
theorem dX1_joins_29 : decode cX1_joins 29 = .ok (.iload_n 2, 1) := dk_28 (dk_at dksX1_joins_1 6 rfl rfl)
theorem dX1_joins_30 : decode cX1_joins 30 = .ok (.ishl, 1) := dk_120 (dk_at dksX1_joins_1 7 rfl rfl)
theorem dX1_joins_31 : decode cX1_joins 31 = .ok (.iconst (-1), 1) := dk_2 (dk_at dksX1_joins_1 8 rfl rfl)
theorem dX1_joins_32 : decode cX1_joins 32 = .ok (.ixor, 1) := dk_130 (dk_at dksX1_joins_1 9 rfl rfl)
theorem dX1_joins_33 : decode cX1_joins 33 = .ok (.iand, 1) := dk_126 (dk_at dksX1_joins_1 10 rfl rfl)
theorem dX1_joins_34 : decode cX1_joins 34 = .ok (.iastore, 1) := dk_79 (dk_at dksX1_joins_1 11 rfl rfl)
theorem dX1_joins_35 : decode cX1_joins 35 = .ok (.aload_n 0, 1) := dk_42 (dk_at dksX1_joins_1 12 rfl rfl)
theorem dX1_joins_36 : decode cX1_joins 36 = .ok (.getfield 17, 3) := dk_180 0 17 (dk_at dksX1_joins_1 13 rfl rfl)
theorem dX1_joins_39 : decode cX1_joins 39 = .ok (.iload_n 2, 1) := dk_28 (dk_at dksX1_joins_1 16 rfl rfl)
theorem dX1_joins_40 : decode cX1_joins 40 = .ok (.iload_n 3, 1) := dk_29 (dk_at dksX1_joins_1 17 rfl rfl)
theorem dX1_joins_41 : decode cX1_joins 41 = .ok (.ifCond .eq 16, 3) := dk_153 0 16 (dk_at dksX1_joins_1 18 rfl rfl)
theorem dX1_joins_44 : decode cX1_joins 44 = .ok (.aload_n 0, 1) := dk_42 (dk_at dksX1_joins_1 21 rfl rfl)
theorem dX1_joins_45 : decode cX1_joins 45 = .ok (.getfield 17, 3) := dk_180 0 17 (dk_at dksX1_joins_2 0 rfl rfl)
theorem dX1_joins_48 : decode cX1_joins 48 = .ok (.iload_n 2, 1) := dk_28 (dk_at dksX1_joins_2 3 rfl rfl)
theorem dX1_joins_49 : decode cX1_joins 49 = .ok (.iaload, 1) := dk_46 (dk_at dksX1_joins_2 4 rfl rfl)
theorem dX1_joins_50 : decode cX1_joins 50 = .ok (.iconst 1, 1) := dk_4 (dk_at dksX1_joins_2 5 rfl rfl)
theorem dX1_joins_51 : decode cX1_joins 51 = .ok (.iload_n 1, 1) := dk_27 (dk_at dksX1_joins_2 6 rfl rfl)
theorem dX1_joins_52 : decode cX1_joins 52 = .ok (.ishl, 1) := dk_120 (dk_at dksX1_joins_2 7 rfl rfl)
theorem dX1_joins_53 : decode cX1_joins 53 = .ok (.ior, 1) := dk_128 (dk_at dksX1_joins_2 8 rfl rfl)
theorem dX1_joins_54 : decode cX1_joins 54 = .ok (.goto 15, 3) := dk_167 0 15 (dk_at dksX1_joins_2 9 rfl rfl)
theorem dX1_joins_57 : decode cX1_joins 57 = .ok (.aload_n 0, 1) := dk_42 (dk_at dksX1_joins_2 12 rfl rfl)
theorem dX1_joins_58 : decode cX1_joins 58 = .ok (.getfield 17, 3) := dk_180 0 17 (dk_at dksX1_joins_2 13 rfl rfl)
theorem dX1_joins_61 : decode cX1_joins 61 = .ok (.iload_n 2, 1) := dk_28 (dk_at dksX1_joins_2 16 rfl rfl)
theorem dX1_joins_62 : decode cX1_joins 62 = .ok (.iaload, 1) := dk_46 (dk_at dksX1_joins_2 17 rfl rfl)
theorem dX1_joins_63 : decode cX1_joins 63 = .ok (.iconst 1, 1) := dk_4 (dk_at dksX1_joins_2 18 rfl rfl)
theorem dX1_joins_64 : decode cX1_joins 64 = .ok (.iload_n 1, 1) := dk_27 (dk_at dksX1_joins_2 19 rfl rfl)
theorem dX1_joins_65 : decode cX1_joins 65 = .ok (.ishl, 1) := dk_120 (dk_at dksX1_joins_2 20 rfl rfl)
theorem dX1_joins_66 : decode cX1_joins 66 = .ok (.iconst (-1), 1) := dk_2 (dk_at dksX1_joins_2 21 rfl rfl)
theorem dX1_joins_67 : decode cX1_joins 67 = .ok (.ixor, 1) := dk_130 (dk_at dksX1_joins_2 22 rfl rfl)
theorem dX1_joins_68 : decode cX1_joins 68 = .ok (.iand, 1) := dk_126 (dk_at dksX1_joins_2 23 rfl rfl)
theorem dX1_joins_69 : decode cX1_joins 69 = .ok (.iastore, 1) := dk_79 (dk_at dksX1_joins_3 0 rfl rfl)
theorem dX1_joins_70 : decode cX1_joins 70 = .ok (.return_, 1) := dk_177 (dk_at dksX1_joins_3 1 rfl rfl)
abbrev cX1_cost : ByteArray := prog_14_method_9_code
def yX1_cost : MethodName := ⟨RX1, "cost", "(I)I"⟩
def dkwX1_cost_0 : List UInt8 := [42, 180, 0, 11, 27, 50, 42, 180, 0, 17, 27, 46, 184, 0, 46, 182, 0, 50, 172]
abbrev dktX1_cost_0 : List UInt8 := dkwX1_cost_0 ++ []
theorem dksX1_cost_0 : cX1_cost.data.toList.drop 0 = dktX1_cost_0 := by decide +kernel
theorem dX1_cost_0 : decode cX1_cost 0 = .ok (.aload_n 0, 1) := dk_42 (dk_at dksX1_cost_0 0 rfl rfl)
theorem dX1_cost_1 : decode cX1_cost 1 = .ok (.getfield 11, 3) := dk_180 0 11 (dk_at dksX1_cost_0 1 rfl rfl)
theorem dX1_cost_4 : decode cX1_cost 4 = .ok (.iload_n 1, 1) := dk_27 (dk_at dksX1_cost_0 4 rfl rfl)
theorem dX1_cost_5 : decode cX1_cost 5 = .ok (.aaload, 1) := dk_50 (dk_at dksX1_cost_0 5 rfl rfl)
theorem dX1_cost_6 : decode cX1_cost 6 = .ok (.aload_n 0, 1) := dk_42 (dk_at dksX1_cost_0 6 rfl rfl)
theorem dX1_cost_7 : decode cX1_cost 7 = .ok (.getfield 17, 3) := dk_180 0 17 (dk_at dksX1_cost_0 7 rfl rfl)
theorem dX1_cost_10 : decode cX1_cost 10 = .ok (.iload_n 1, 1) := dk_27 (dk_at dksX1_cost_0 10 rfl rfl)
theorem dX1_cost_11 : decode cX1_cost 11 = .ok (.iaload, 1) := dk_46 (dk_at dksX1_cost_0 11 rfl rfl)
theorem dX1_cost_12 : decode cX1_cost 12 = .ok (.invokestatic 46, 3) := dk_184 0 46 (dk_at dksX1_cost_0 12 rfl rfl)
theorem dX1_cost_15 : decode cX1_cost 15 = .ok (.invokevirtual 50, 3) := dk_182 0 50 (dk_at dksX1_cost_0 15 rfl rfl)
theorem dX1_cost_18 : decode cX1_cost 18 = .ok (.ireturn, 1) := dk_172 (dk_at dksX1_cost_0 18 rfl rfl)
abbrev cX1_all : ByteArray := prog_14_method_3_code
def yX1_all : MethodName := ⟨RX1, "all", "()I"⟩
def dkwX1_all_0 : List UInt8 := [4, 42, 180, 0, 31, 120, 4, 100, 172]
abbrev dktX1_all_0 : List UInt8 := dkwX1_all_0 ++ []
theorem dksX1_all_0 : cX1_all.data.toList.drop 0 = dktX1_all_0 := by decide +kernel
theorem dX1_all_0 : decode cX1_all 0 = .ok (.iconst 1, 1) := dk_4 (dk_at dksX1_all_0 0 rfl rfl)
theorem dX1_all_1 : decode cX1_all 1 = .ok (.aload_n 0, 1) := dk_42 (dk_at dksX1_all_0 1 rfl rfl)
theorem dX1_all_2 : decode cX1_all 2 = .ok (.getfield 31, 3) := dk_180 0 31 (dk_at dksX1_all_0 2 rfl rfl)
theorem dX1_all_5 : decode cX1_all 5 = .ok (.ishl, 1) := dk_120 (dk_at dksX1_all_0 5 rfl rfl)
theorem dX1_all_6 : decode cX1_all 6 = .ok (.iconst 1, 1) := dk_4 (dk_at dksX1_all_0 6 rfl rfl)
theorem dX1_all_7 : decode cX1_all 7 = .ok (.isub, 1) := dk_100 (dk_at dksX1_all_0 7 rfl rfl)
theorem dX1_all_8 : decode cX1_all 8 = .ok (.ireturn, 1) := dk_172 (dk_at dksX1_all_0 8 rfl rfl)
abbrev cX1_isBare : ByteArray := prog_14_method_13_code
def yX1_isBare : MethodName := ⟨RX1, "isBare", "(I)Z"⟩
def dkwX1_isBare_1 : List UInt8 := [27, 2, 130, 126, 154, 0, 5, 3, 172, 132, 2, 1, 167, 255, 222, 42, 27, 182, 0, 61, 172]
abbrev dktX1_isBare_1 : List UInt8 := dkwX1_isBare_1 ++ []
def dkwX1_isBare_0 : List UInt8 := [3, 61, 28, 42, 180, 0, 31, 162, 0, 32, 27, 28, 184, 0, 42, 153, 0, 18, 42, 180, 0, 17, 28, 46]
abbrev dktX1_isBare_0 : List UInt8 := dkwX1_isBare_0 ++ dktX1_isBare_1
theorem dksX1_isBare_0 : cX1_isBare.data.toList.drop 0 = dktX1_isBare_0 := by decide +kernel
theorem dksX1_isBare_1 : cX1_isBare.data.toList.drop 24 = dktX1_isBare_1 := dk_seg dksX1_isBare_0 24 rfl rfl
theorem dX1_isBare_0 : decode cX1_isBare 0 = .ok (.iconst 0, 1) := dk_3 (dk_at dksX1_isBare_0 0 rfl rfl)
theorem dX1_isBare_1 : decode cX1_isBare 1 = .ok (.istore_n 2, 1) := dk_61 (dk_at dksX1_isBare_0 1 rfl rfl)
theorem dX1_isBare_2 : decode cX1_isBare 2 = .ok (.iload_n 2, 1) := dk_28 (dk_at dksX1_isBare_0 2 rfl rfl)
theorem dX1_isBare_3 : decode cX1_isBare 3 = .ok (.aload_n 0, 1) := dk_42 (dk_at dksX1_isBare_0 3 rfl rfl)
theorem dX1_isBare_4 : decode cX1_isBare 4 = .ok (.getfield 31, 3) := dk_180 0 31 (dk_at dksX1_isBare_0 4 rfl rfl)
theorem dX1_isBare_7 : decode cX1_isBare 7 = .ok (.if_icmp .ge 32, 3) := dk_162 0 32 (dk_at dksX1_isBare_0 7 rfl rfl)
theorem dX1_isBare_10 : decode cX1_isBare 10 = .ok (.iload_n 1, 1) := dk_27 (dk_at dksX1_isBare_0 10 rfl rfl)
theorem dX1_isBare_11 : decode cX1_isBare 11 = .ok (.iload_n 2, 1) := dk_28 (dk_at dksX1_isBare_0 11 rfl rfl)
theorem dX1_isBare_12 : decode cX1_isBare 12 = .ok (.invokestatic 42, 3) := dk_184 0 42 (dk_at dksX1_isBare_0 12 rfl rfl)
theorem dX1_isBare_15 : decode cX1_isBare 15 = .ok (.ifCond .eq 18, 3) := dk_153 0 18 (dk_at dksX1_isBare_0 15 rfl rfl)
theorem dX1_isBare_18 : decode cX1_isBare 18 = .ok (.aload_n 0, 1) := dk_42 (dk_at dksX1_isBare_0 18 rfl rfl)
theorem dX1_isBare_19 : decode cX1_isBare 19 = .ok (.getfield 17, 3) := dk_180 0 17 (dk_at dksX1_isBare_0 19 rfl rfl)
theorem dX1_isBare_22 : decode cX1_isBare 22 = .ok (.iload_n 2, 1) := dk_28 (dk_at dksX1_isBare_0 22 rfl rfl)
theorem dX1_isBare_23 : decode cX1_isBare 23 = .ok (.iaload, 1) := dk_46 (dk_at dksX1_isBare_0 23 rfl rfl)
theorem dX1_isBare_24 : decode cX1_isBare 24 = .ok (.iload_n 1, 1) := dk_27 (dk_at dksX1_isBare_1 0 rfl rfl)
theorem dX1_isBare_25 : decode cX1_isBare 25 = .ok (.iconst (-1), 1) := dk_2 (dk_at dksX1_isBare_1 1 rfl rfl)
theorem dX1_isBare_26 : decode cX1_isBare 26 = .ok (.ixor, 1) := dk_130 (dk_at dksX1_isBare_1 2 rfl rfl)
theorem dX1_isBare_27 : decode cX1_isBare 27 = .ok (.iand, 1) := dk_126 (dk_at dksX1_isBare_1 3 rfl rfl)
theorem dX1_isBare_28 : decode cX1_isBare 28 = .ok (.ifCond .ne 5, 3) := dk_154 0 5 (dk_at dksX1_isBare_1 4 rfl rfl)
theorem dX1_isBare_31 : decode cX1_isBare 31 = .ok (.iconst 0, 1) := dk_3 (dk_at dksX1_isBare_1 7 rfl rfl)
theorem dX1_isBare_32 : decode cX1_isBare 32 = .ok (.ireturn, 1) := dk_172 (dk_at dksX1_isBare_1 8 rfl rfl)
theorem dX1_isBare_33 : decode cX1_isBare 33 = .ok (.iinc 2 1, 3) := dk_132 2 1 (dk_at dksX1_isBare_1 9 rfl rfl)
theorem dX1_isBare_36 : decode cX1_isBare 36 = .ok (.goto (-34), 3) := dk_167 255 222 (dk_at dksX1_isBare_1 12 rfl rfl)
theorem dX1_isBare_39 : decode cX1_isBare 39 = .ok (.aload_n 0, 1) := dk_42 (dk_at dksX1_isBare_1 15 rfl rfl)
theorem dX1_isBare_40 : decode cX1_isBare 40 = .ok (.iload_n 1, 1) := dk_27 (dk_at dksX1_isBare_1 16 rfl rfl)
theorem dX1_isBare_41 : decode cX1_isBare 41 = .ok (.invokevirtual 61, 3) := dk_182 0 61 (dk_at dksX1_isBare_1 17 rfl rfl)
theorem dX1_isBare_44 : decode cX1_isBare 44 = .ok (.ireturn, 1) := dk_172 (dk_at dksX1_isBare_1 20 rfl rfl)
abbrev cX1_isCover : ByteArray := prog_14_method_12_code
def yX1_isCover : MethodName := ⟨RX1, "isCover", "(I)Z"⟩
def dkwX1_isCover_1 : List UInt8 := [172]
abbrev dktX1_isCover_1 : List UInt8 := dkwX1_isCover_1 ++ []
def dkwX1_isCover_0 : List UInt8 := [42, 182, 0, 54, 27, 2, 130, 126, 61, 42, 28, 182, 0, 58, 28, 126, 154, 0, 7, 4, 167, 0, 4, 3]
abbrev dktX1_isCover_0 : List UInt8 := dkwX1_isCover_0 ++ dktX1_isCover_1
theorem dksX1_isCover_0 : cX1_isCover.data.toList.drop 0 = dktX1_isCover_0 := by decide +kernel
theorem dksX1_isCover_1 : cX1_isCover.data.toList.drop 24 = dktX1_isCover_1 := dk_seg dksX1_isCover_0 24 rfl rfl
theorem dX1_isCover_0 : decode cX1_isCover 0 = .ok (.aload_n 0, 1) := dk_42 (dk_at dksX1_isCover_0 0 rfl rfl)
theorem dX1_isCover_1 : decode cX1_isCover 1 = .ok (.invokevirtual 54, 3) := dk_182 0 54 (dk_at dksX1_isCover_0 1 rfl rfl)
theorem dX1_isCover_4 : decode cX1_isCover 4 = .ok (.iload_n 1, 1) := dk_27 (dk_at dksX1_isCover_0 4 rfl rfl)
theorem dX1_isCover_5 : decode cX1_isCover 5 = .ok (.iconst (-1), 1) := dk_2 (dk_at dksX1_isCover_0 5 rfl rfl)
theorem dX1_isCover_6 : decode cX1_isCover 6 = .ok (.ixor, 1) := dk_130 (dk_at dksX1_isCover_0 6 rfl rfl)
theorem dX1_isCover_7 : decode cX1_isCover 7 = .ok (.iand, 1) := dk_126 (dk_at dksX1_isCover_0 7 rfl rfl)
theorem dX1_isCover_8 : decode cX1_isCover 8 = .ok (.istore_n 2, 1) := dk_61 (dk_at dksX1_isCover_0 8 rfl rfl)
theorem dX1_isCover_9 : decode cX1_isCover 9 = .ok (.aload_n 0, 1) := dk_42 (dk_at dksX1_isCover_0 9 rfl rfl)
theorem dX1_isCover_10 : decode cX1_isCover 10 = .ok (.iload_n 2, 1) := dk_28 (dk_at dksX1_isCover_0 10 rfl rfl)
theorem dX1_isCover_11 : decode cX1_isCover 11 = .ok (.invokevirtual 58, 3) := dk_182 0 58 (dk_at dksX1_isCover_0 11 rfl rfl)
theorem dX1_isCover_14 : decode cX1_isCover 14 = .ok (.iload_n 2, 1) := dk_28 (dk_at dksX1_isCover_0 14 rfl rfl)
theorem dX1_isCover_15 : decode cX1_isCover 15 = .ok (.iand, 1) := dk_126 (dk_at dksX1_isCover_0 15 rfl rfl)
theorem dX1_isCover_16 : decode cX1_isCover 16 = .ok (.ifCond .ne 7, 3) := dk_154 0 7 (dk_at dksX1_isCover_0 16 rfl rfl)
theorem dX1_isCover_19 : decode cX1_isCover 19 = .ok (.iconst 1, 1) := dk_4 (dk_at dksX1_isCover_0 19 rfl rfl)
theorem dX1_isCover_20 : decode cX1_isCover 20 = .ok (.goto 4, 3) := dk_167 0 4 (dk_at dksX1_isCover_0 20 rfl rfl)
theorem dX1_isCover_23 : decode cX1_isCover 23 = .ok (.iconst 0, 1) := dk_3 (dk_at dksX1_isCover_0 23 rfl rfl)
theorem dX1_isCover_24 : decode cX1_isCover 24 = .ok (.ireturn, 1) := dk_172 (dk_at dksX1_isCover_1 0 rfl rfl)
abbrev cX1_around : ByteArray := prog_14_method_11_code
def yX1_around : MethodName := ⟨RX1, "around", "(I)I"⟩
def dkwX1_around_1 : List UInt8 := [180, 0, 17, 29, 46, 167, 0, 4, 3, 128, 61, 132, 3, 1, 167, 255, 224, 28, 172]
abbrev dktX1_around_1 : List UInt8 := dkwX1_around_1 ++ []
def dkwX1_around_0 : List UInt8 := [3, 61, 3, 62, 29, 42, 180, 0, 31, 162, 0, 30, 28, 27, 29, 184, 0, 42, 153, 0, 12, 42]
abbrev dktX1_around_0 : List UInt8 := dkwX1_around_0 ++ dktX1_around_1
theorem dksX1_around_0 : cX1_around.data.toList.drop 0 = dktX1_around_0 := by decide +kernel
theorem dksX1_around_1 : cX1_around.data.toList.drop 22 = dktX1_around_1 := dk_seg dksX1_around_0 22 rfl rfl
theorem dX1_around_0 : decode cX1_around 0 = .ok (.iconst 0, 1) := dk_3 (dk_at dksX1_around_0 0 rfl rfl)
theorem dX1_around_1 : decode cX1_around 1 = .ok (.istore_n 2, 1) := dk_61 (dk_at dksX1_around_0 1 rfl rfl)
theorem dX1_around_2 : decode cX1_around 2 = .ok (.iconst 0, 1) := dk_3 (dk_at dksX1_around_0 2 rfl rfl)
theorem dX1_around_3 : decode cX1_around 3 = .ok (.istore_n 3, 1) := dk_62 (dk_at dksX1_around_0 3 rfl rfl)
theorem dX1_around_4 : decode cX1_around 4 = .ok (.iload_n 3, 1) := dk_29 (dk_at dksX1_around_0 4 rfl rfl)
theorem dX1_around_5 : decode cX1_around 5 = .ok (.aload_n 0, 1) := dk_42 (dk_at dksX1_around_0 5 rfl rfl)
theorem dX1_around_6 : decode cX1_around 6 = .ok (.getfield 31, 3) := dk_180 0 31 (dk_at dksX1_around_0 6 rfl rfl)
theorem dX1_around_9 : decode cX1_around 9 = .ok (.if_icmp .ge 30, 3) := dk_162 0 30 (dk_at dksX1_around_0 9 rfl rfl)
theorem dX1_around_12 : decode cX1_around 12 = .ok (.iload_n 2, 1) := dk_28 (dk_at dksX1_around_0 12 rfl rfl)
theorem dX1_around_13 : decode cX1_around 13 = .ok (.iload_n 1, 1) := dk_27 (dk_at dksX1_around_0 13 rfl rfl)
theorem dX1_around_14 : decode cX1_around 14 = .ok (.iload_n 3, 1) := dk_29 (dk_at dksX1_around_0 14 rfl rfl)
theorem dX1_around_15 : decode cX1_around 15 = .ok (.invokestatic 42, 3) := dk_184 0 42 (dk_at dksX1_around_0 15 rfl rfl)
theorem dX1_around_18 : decode cX1_around 18 = .ok (.ifCond .eq 12, 3) := dk_153 0 12 (dk_at dksX1_around_0 18 rfl rfl)
theorem dX1_around_21 : decode cX1_around 21 = .ok (.aload_n 0, 1) := dk_42 (dk_at dksX1_around_0 21 rfl rfl)
theorem dX1_around_22 : decode cX1_around 22 = .ok (.getfield 17, 3) := dk_180 0 17 (dk_at dksX1_around_1 0 rfl rfl)
theorem dX1_around_25 : decode cX1_around 25 = .ok (.iload_n 3, 1) := dk_29 (dk_at dksX1_around_1 3 rfl rfl)
theorem dX1_around_26 : decode cX1_around 26 = .ok (.iaload, 1) := dk_46 (dk_at dksX1_around_1 4 rfl rfl)
theorem dX1_around_27 : decode cX1_around 27 = .ok (.goto 4, 3) := dk_167 0 4 (dk_at dksX1_around_1 5 rfl rfl)
theorem dX1_around_30 : decode cX1_around 30 = .ok (.iconst 0, 1) := dk_3 (dk_at dksX1_around_1 8 rfl rfl)
theorem dX1_around_31 : decode cX1_around 31 = .ok (.ior, 1) := dk_128 (dk_at dksX1_around_1 9 rfl rfl)
theorem dX1_around_32 : decode cX1_around 32 = .ok (.istore_n 2, 1) := dk_61 (dk_at dksX1_around_1 10 rfl rfl)
theorem dX1_around_33 : decode cX1_around 33 = .ok (.iinc 3 1, 3) := dk_132 3 1 (dk_at dksX1_around_1 11 rfl rfl)
theorem dX1_around_36 : decode cX1_around 36 = .ok (.goto (-32), 3) := dk_167 255 224 (dk_at dksX1_around_1 14 rfl rfl)
theorem dX1_around_39 : decode cX1_around 39 = .ok (.iload_n 2, 1) := dk_28 (dk_at dksX1_around_1 17 rfl rfl)
theorem dX1_around_40 : decode cX1_around 40 = .ok (.ireturn, 1) := dk_172 (dk_at dksX1_around_1 18 rfl rfl)
abbrev cX1_costOf : ByteArray := prog_14_method_10_code
def yX1_costOf : MethodName := ⟨RX1, "costOf", "(I)I"⟩
def dkwX1_costOf_1 : List UInt8 := [182, 0, 53, 167, 0, 4, 3, 96, 61, 132, 3, 1, 167, 255, 225, 28, 172]
abbrev dktX1_costOf_1 : List UInt8 := dkwX1_costOf_1 ++ []
def dkwX1_costOf_0 : List UInt8 := [3, 61, 3, 62, 29, 42, 180, 0, 31, 162, 0, 29, 28, 27, 29, 184, 0, 42, 153, 0, 11, 42, 29]
abbrev dktX1_costOf_0 : List UInt8 := dkwX1_costOf_0 ++ dktX1_costOf_1
theorem dksX1_costOf_0 : cX1_costOf.data.toList.drop 0 = dktX1_costOf_0 := by decide +kernel
theorem dksX1_costOf_1 : cX1_costOf.data.toList.drop 23 = dktX1_costOf_1 := dk_seg dksX1_costOf_0 23 rfl rfl
theorem dX1_costOf_0 : decode cX1_costOf 0 = .ok (.iconst 0, 1) := dk_3 (dk_at dksX1_costOf_0 0 rfl rfl)
theorem dX1_costOf_1 : decode cX1_costOf 1 = .ok (.istore_n 2, 1) := dk_61 (dk_at dksX1_costOf_0 1 rfl rfl)
theorem dX1_costOf_2 : decode cX1_costOf 2 = .ok (.iconst 0, 1) := dk_3 (dk_at dksX1_costOf_0 2 rfl rfl)
theorem dX1_costOf_3 : decode cX1_costOf 3 = .ok (.istore_n 3, 1) := dk_62 (dk_at dksX1_costOf_0 3 rfl rfl)
theorem dX1_costOf_4 : decode cX1_costOf 4 = .ok (.iload_n 3, 1) := dk_29 (dk_at dksX1_costOf_0 4 rfl rfl)
theorem dX1_costOf_5 : decode cX1_costOf 5 = .ok (.aload_n 0, 1) := dk_42 (dk_at dksX1_costOf_0 5 rfl rfl)
theorem dX1_costOf_6 : decode cX1_costOf 6 = .ok (.getfield 31, 3) := dk_180 0 31 (dk_at dksX1_costOf_0 6 rfl rfl)
theorem dX1_costOf_9 : decode cX1_costOf 9 = .ok (.if_icmp .ge 29, 3) := dk_162 0 29 (dk_at dksX1_costOf_0 9 rfl rfl)
theorem dX1_costOf_12 : decode cX1_costOf 12 = .ok (.iload_n 2, 1) := dk_28 (dk_at dksX1_costOf_0 12 rfl rfl)
theorem dX1_costOf_13 : decode cX1_costOf 13 = .ok (.iload_n 1, 1) := dk_27 (dk_at dksX1_costOf_0 13 rfl rfl)
theorem dX1_costOf_14 : decode cX1_costOf 14 = .ok (.iload_n 3, 1) := dk_29 (dk_at dksX1_costOf_0 14 rfl rfl)
theorem dX1_costOf_15 : decode cX1_costOf 15 = .ok (.invokestatic 42, 3) := dk_184 0 42 (dk_at dksX1_costOf_0 15 rfl rfl)
theorem dX1_costOf_18 : decode cX1_costOf 18 = .ok (.ifCond .eq 11, 3) := dk_153 0 11 (dk_at dksX1_costOf_0 18 rfl rfl)
theorem dX1_costOf_21 : decode cX1_costOf 21 = .ok (.aload_n 0, 1) := dk_42 (dk_at dksX1_costOf_0 21 rfl rfl)
theorem dX1_costOf_22 : decode cX1_costOf 22 = .ok (.iload_n 3, 1) := dk_29 (dk_at dksX1_costOf_0 22 rfl rfl)
theorem dX1_costOf_23 : decode cX1_costOf 23 = .ok (.invokevirtual 53, 3) := dk_182 0 53 (dk_at dksX1_costOf_1 0 rfl rfl)
theorem dX1_costOf_26 : decode cX1_costOf 26 = .ok (.goto 4, 3) := dk_167 0 4 (dk_at dksX1_costOf_1 3 rfl rfl)
theorem dX1_costOf_29 : decode cX1_costOf 29 = .ok (.iconst 0, 1) := dk_3 (dk_at dksX1_costOf_1 6 rfl rfl)
theorem dX1_costOf_30 : decode cX1_costOf 30 = .ok (.iadd, 1) := dk_96 (dk_at dksX1_costOf_1 7 rfl rfl)
theorem dX1_costOf_31 : decode cX1_costOf 31 = .ok (.istore_n 2, 1) := dk_61 (dk_at dksX1_costOf_1 8 rfl rfl)
theorem dX1_costOf_32 : decode cX1_costOf 32 = .ok (.iinc 3 1, 3) := dk_132 3 1 (dk_at dksX1_costOf_1 9 rfl rfl)
theorem dX1_costOf_35 : decode cX1_costOf 35 = .ok (.goto (-31), 3) := dk_167 255 225 (dk_at dksX1_costOf_1 12 rfl rfl)
theorem dX1_costOf_38 : decode cX1_costOf 38 = .ok (.iload_n 2, 1) := dk_28 (dk_at dksX1_costOf_1 15 rfl rfl)
theorem dX1_costOf_39 : decode cX1_costOf 39 = .ok (.ireturn, 1) := dk_172 (dk_at dksX1_costOf_1 16 rfl rfl)
abbrev cX1_deals : ByteArray := prog_14_method_15_code
def yX1_deals : MethodName := ⟨RX1, "deals", "(II)I"⟩
def dkwX1_deals_4 : List UInt8 := [132, 4, 1, 167, 255, 206, 29, 172]
abbrev dktX1_deals_4 : List UInt8 := dkwX1_deals_4 ++ []
def dkwX1_deals_3 : List UInt8 := [112, 28, 162, 0, 15, 42, 21, 4, 21, 5, 4, 182, 0, 73, 132, 3, 1, 132, 5, 1, 167, 255, 224]
abbrev dktX1_deals_3 : List UInt8 := dkwX1_deals_3 ++ dktX1_deals_4
def dkwX1_deals_2 : List UInt8 := [21, 4, 27, 162, 0, 50, 21, 4, 4, 96, 54, 5, 21, 5, 27, 162, 0, 32, 42, 182, 0, 66, 16, 10]
abbrev dktX1_deals_2 : List UInt8 := dkwX1_deals_2 ++ dktX1_deals_3
def dkwX1_deals_1 : List UInt8 := [4, 42, 182, 0, 66, 16, 9, 112, 96, 182, 0, 69, 87, 132, 3, 1, 167, 255, 223, 3, 62, 3, 54, 4]
abbrev dktX1_deals_1 : List UInt8 := dkwX1_deals_1 ++ dktX1_deals_2
def dkwX1_deals_0 : List UInt8 := [42, 3, 181, 0, 31, 3, 62, 29, 27, 162, 0, 34, 42, 182, 0, 66, 16, 6, 112, 54, 4, 42, 21, 4]
abbrev dktX1_deals_0 : List UInt8 := dkwX1_deals_0 ++ dktX1_deals_1
theorem dksX1_deals_0 : cX1_deals.data.toList.drop 0 = dktX1_deals_0 := by decide +kernel
theorem dksX1_deals_1 : cX1_deals.data.toList.drop 24 = dktX1_deals_1 := dk_seg dksX1_deals_0 24 rfl rfl
theorem dksX1_deals_2 : cX1_deals.data.toList.drop 48 = dktX1_deals_2 := dk_seg dksX1_deals_1 24 rfl rfl
theorem dksX1_deals_3 : cX1_deals.data.toList.drop 72 = dktX1_deals_3 := dk_seg dksX1_deals_2 24 rfl rfl
theorem dksX1_deals_4 : cX1_deals.data.toList.drop 95 = dktX1_deals_4 := dk_seg dksX1_deals_3 23 rfl rfl
theorem dX1_deals_0 : decode cX1_deals 0 = .ok (.aload_n 0, 1) := dk_42 (dk_at dksX1_deals_0 0 rfl rfl)
theorem dX1_deals_1 : decode cX1_deals 1 = .ok (.iconst 0, 1) := dk_3 (dk_at dksX1_deals_0 1 rfl rfl)
theorem dX1_deals_2 : decode cX1_deals 2 = .ok (.putfield 31, 3) := dk_181 0 31 (dk_at dksX1_deals_0 2 rfl rfl)
theorem dX1_deals_5 : decode cX1_deals 5 = .ok (.iconst 0, 1) := dk_3 (dk_at dksX1_deals_0 5 rfl rfl)
theorem dX1_deals_6 : decode cX1_deals 6 = .ok (.istore_n 3, 1) := dk_62 (dk_at dksX1_deals_0 6 rfl rfl)
theorem dX1_deals_7 : decode cX1_deals 7 = .ok (.iload_n 3, 1) := dk_29 (dk_at dksX1_deals_0 7 rfl rfl)
theorem dX1_deals_8 : decode cX1_deals 8 = .ok (.iload_n 1, 1) := dk_27 (dk_at dksX1_deals_0 8 rfl rfl)
theorem dX1_deals_9 : decode cX1_deals 9 = .ok (.if_icmp .ge 34, 3) := dk_162 0 34 (dk_at dksX1_deals_0 9 rfl rfl)
theorem dX1_deals_12 : decode cX1_deals 12 = .ok (.aload_n 0, 1) := dk_42 (dk_at dksX1_deals_0 12 rfl rfl)
theorem dX1_deals_13 : decode cX1_deals 13 = .ok (.invokevirtual 66, 3) := dk_182 0 66 (dk_at dksX1_deals_0 13 rfl rfl)
theorem dX1_deals_16 : decode cX1_deals 16 = .ok (.bipush 6, 2) := dk_16 6 (dk_at dksX1_deals_0 16 rfl rfl)
theorem dX1_deals_18 : decode cX1_deals 18 = .ok (.irem, 1) := dk_112 (dk_at dksX1_deals_0 18 rfl rfl)
theorem dX1_deals_19 : decode cX1_deals 19 = .ok (.istore 4, 2) := dk_54 4 (dk_at dksX1_deals_0 19 rfl rfl)
theorem dX1_deals_21 : decode cX1_deals 21 = .ok (.aload_n 0, 1) := dk_42 (dk_at dksX1_deals_0 21 rfl rfl)
theorem dX1_deals_22 : decode cX1_deals 22 = .ok (.iload 4, 2) := dk_21 4 (dk_at dksX1_deals_0 22 rfl rfl)
theorem dX1_deals_24 : decode cX1_deals 24 = .ok (.iconst 1, 1) := dk_4 (dk_at dksX1_deals_1 0 rfl rfl)
theorem dX1_deals_25 : decode cX1_deals 25 = .ok (.aload_n 0, 1) := dk_42 (dk_at dksX1_deals_1 1 rfl rfl)
theorem dX1_deals_26 : decode cX1_deals 26 = .ok (.invokevirtual 66, 3) := dk_182 0 66 (dk_at dksX1_deals_1 2 rfl rfl)
theorem dX1_deals_29 : decode cX1_deals 29 = .ok (.bipush 9, 2) := dk_16 9 (dk_at dksX1_deals_1 5 rfl rfl)
theorem dX1_deals_31 : decode cX1_deals 31 = .ok (.irem, 1) := dk_112 (dk_at dksX1_deals_1 7 rfl rfl)
theorem dX1_deals_32 : decode cX1_deals 32 = .ok (.iadd, 1) := dk_96 (dk_at dksX1_deals_1 8 rfl rfl)
theorem dX1_deals_33 : decode cX1_deals 33 = .ok (.invokevirtual 69, 3) := dk_182 0 69 (dk_at dksX1_deals_1 9 rfl rfl)
theorem dX1_deals_36 : decode cX1_deals 36 = .ok (.pop, 1) := dk_87 (dk_at dksX1_deals_1 12 rfl rfl)
theorem dX1_deals_37 : decode cX1_deals 37 = .ok (.iinc 3 1, 3) := dk_132 3 1 (dk_at dksX1_deals_1 13 rfl rfl)
theorem dX1_deals_40 : decode cX1_deals 40 = .ok (.goto (-33), 3) := dk_167 255 223 (dk_at dksX1_deals_1 16 rfl rfl)
theorem dX1_deals_43 : decode cX1_deals 43 = .ok (.iconst 0, 1) := dk_3 (dk_at dksX1_deals_1 19 rfl rfl)
theorem dX1_deals_44 : decode cX1_deals 44 = .ok (.istore_n 3, 1) := dk_62 (dk_at dksX1_deals_1 20 rfl rfl)
theorem dX1_deals_45 : decode cX1_deals 45 = .ok (.iconst 0, 1) := dk_3 (dk_at dksX1_deals_1 21 rfl rfl)
theorem dX1_deals_46 : decode cX1_deals 46 = .ok (.istore 4, 2) := dk_54 4 (dk_at dksX1_deals_1 22 rfl rfl)
theorem dX1_deals_48 : decode cX1_deals 48 = .ok (.iload 4, 2) := dk_21 4 (dk_at dksX1_deals_2 0 rfl rfl)
theorem dX1_deals_50 : decode cX1_deals 50 = .ok (.iload_n 1, 1) := dk_27 (dk_at dksX1_deals_2 2 rfl rfl)
theorem dX1_deals_51 : decode cX1_deals 51 = .ok (.if_icmp .ge 50, 3) := dk_162 0 50 (dk_at dksX1_deals_2 3 rfl rfl)
theorem dX1_deals_54 : decode cX1_deals 54 = .ok (.iload 4, 2) := dk_21 4 (dk_at dksX1_deals_2 6 rfl rfl)
theorem dX1_deals_56 : decode cX1_deals 56 = .ok (.iconst 1, 1) := dk_4 (dk_at dksX1_deals_2 8 rfl rfl)
theorem dX1_deals_57 : decode cX1_deals 57 = .ok (.iadd, 1) := dk_96 (dk_at dksX1_deals_2 9 rfl rfl)
theorem dX1_deals_58 : decode cX1_deals 58 = .ok (.istore 5, 2) := dk_54 5 (dk_at dksX1_deals_2 10 rfl rfl)
theorem dX1_deals_60 : decode cX1_deals 60 = .ok (.iload 5, 2) := dk_21 5 (dk_at dksX1_deals_2 12 rfl rfl)
theorem dX1_deals_62 : decode cX1_deals 62 = .ok (.iload_n 1, 1) := dk_27 (dk_at dksX1_deals_2 14 rfl rfl)
theorem dX1_deals_63 : decode cX1_deals 63 = .ok (.if_icmp .ge 32, 3) := dk_162 0 32 (dk_at dksX1_deals_2 15 rfl rfl)
theorem dX1_deals_66 : decode cX1_deals 66 = .ok (.aload_n 0, 1) := dk_42 (dk_at dksX1_deals_2 18 rfl rfl)
theorem dX1_deals_67 : decode cX1_deals 67 = .ok (.invokevirtual 66, 3) := dk_182 0 66 (dk_at dksX1_deals_2 19 rfl rfl)
theorem dX1_deals_70 : decode cX1_deals 70 = .ok (.bipush 10, 2) := dk_16 10 (dk_at dksX1_deals_2 22 rfl rfl)
theorem dX1_deals_72 : decode cX1_deals 72 = .ok (.irem, 1) := dk_112 (dk_at dksX1_deals_3 0 rfl rfl)
theorem dX1_deals_73 : decode cX1_deals 73 = .ok (.iload_n 2, 1) := dk_28 (dk_at dksX1_deals_3 1 rfl rfl)
theorem dX1_deals_74 : decode cX1_deals 74 = .ok (.if_icmp .ge 15, 3) := dk_162 0 15 (dk_at dksX1_deals_3 2 rfl rfl)
theorem dX1_deals_77 : decode cX1_deals 77 = .ok (.aload_n 0, 1) := dk_42 (dk_at dksX1_deals_3 5 rfl rfl)
theorem dX1_deals_78 : decode cX1_deals 78 = .ok (.iload 4, 2) := dk_21 4 (dk_at dksX1_deals_3 6 rfl rfl)
theorem dX1_deals_80 : decode cX1_deals 80 = .ok (.iload 5, 2) := dk_21 5 (dk_at dksX1_deals_3 8 rfl rfl)
theorem dX1_deals_82 : decode cX1_deals 82 = .ok (.iconst 1, 1) := dk_4 (dk_at dksX1_deals_3 10 rfl rfl)
theorem dX1_deals_83 : decode cX1_deals 83 = .ok (.invokevirtual 73, 3) := dk_182 0 73 (dk_at dksX1_deals_3 11 rfl rfl)
theorem dX1_deals_86 : decode cX1_deals 86 = .ok (.iinc 3 1, 3) := dk_132 3 1 (dk_at dksX1_deals_3 14 rfl rfl)
theorem dX1_deals_89 : decode cX1_deals 89 = .ok (.iinc 5 1, 3) := dk_132 5 1 (dk_at dksX1_deals_3 17 rfl rfl)
theorem dX1_deals_92 : decode cX1_deals 92 = .ok (.goto (-32), 3) := dk_167 255 224 (dk_at dksX1_deals_3 20 rfl rfl)
theorem dX1_deals_95 : decode cX1_deals 95 = .ok (.iinc 4 1, 3) := dk_132 4 1 (dk_at dksX1_deals_4 0 rfl rfl)
theorem dX1_deals_98 : decode cX1_deals 98 = .ok (.goto (-50), 3) := dk_167 255 206 (dk_at dksX1_deals_4 3 rfl rfl)
theorem dX1_deals_101 : decode cX1_deals 101 = .ok (.iload_n 3, 1) := dk_29 (dk_at dksX1_deals_4 6 rfl rfl)
theorem dX1_deals_102 : decode cX1_deals 102 = .ok (.ireturn, 1) := dk_172 (dk_at dksX1_deals_4 7 rfl rfl)
abbrev cX1_draw : ByteArray := prog_14_method_14_code
def yX1_draw : MethodName := ⟨RX1, "draw", "()I"⟩
def dkwX1_draw_0 : List UInt8 := [42, 42, 180, 0, 21, 18, 65, 104, 17, 48, 57, 96, 181, 0, 21, 42, 180, 0, 21, 16, 16, 124, 172]
abbrev dktX1_draw_0 : List UInt8 := dkwX1_draw_0 ++ []
theorem dksX1_draw_0 : cX1_draw.data.toList.drop 0 = dktX1_draw_0 := by decide +kernel
theorem dX1_draw_0 : decode cX1_draw 0 = .ok (.aload_n 0, 1) := dk_42 (dk_at dksX1_draw_0 0 rfl rfl)
theorem dX1_draw_1 : decode cX1_draw 1 = .ok (.aload_n 0, 1) := dk_42 (dk_at dksX1_draw_0 1 rfl rfl)
theorem dX1_draw_2 : decode cX1_draw 2 = .ok (.getfield 21, 3) := dk_180 0 21 (dk_at dksX1_draw_0 2 rfl rfl)
theorem dX1_draw_5 : decode cX1_draw 5 = .ok (.ldc 65, 2) := dk_18 65 (dk_at dksX1_draw_0 5 rfl rfl)
theorem dX1_draw_7 : decode cX1_draw 7 = .ok (.imul, 1) := dk_104 (dk_at dksX1_draw_0 7 rfl rfl)
theorem dX1_draw_8 : decode cX1_draw 8 = .ok (.sipush 12345, 3) := dk_17 48 57 (dk_at dksX1_draw_0 8 rfl rfl)
theorem dX1_draw_11 : decode cX1_draw 11 = .ok (.iadd, 1) := dk_96 (dk_at dksX1_draw_0 11 rfl rfl)
theorem dX1_draw_12 : decode cX1_draw 12 = .ok (.putfield 21, 3) := dk_181 0 21 (dk_at dksX1_draw_0 12 rfl rfl)
theorem dX1_draw_15 : decode cX1_draw 15 = .ok (.aload_n 0, 1) := dk_42 (dk_at dksX1_draw_0 15 rfl rfl)
theorem dX1_draw_16 : decode cX1_draw 16 = .ok (.getfield 21, 3) := dk_180 0 21 (dk_at dksX1_draw_0 16 rfl rfl)
theorem dX1_draw_19 : decode cX1_draw 19 = .ok (.bipush 16, 2) := dk_16 16 (dk_at dksX1_draw_0 19 rfl rfl)
theorem dX1_draw_21 : decode cX1_draw 21 = .ok (.iushr, 1) := dk_124 (dk_at dksX1_draw_0 21 rfl rfl)
theorem dX1_draw_22 : decode cX1_draw 22 = .ok (.ireturn, 1) := dk_172 (dk_at dksX1_draw_0 22 rfl rfl)
abbrev cX1_become : ByteArray := prog_14_method_2_code
def yX1_become : MethodName := ⟨RX1, "become", "(LLinesTouched$Net;)V"⟩
def dkwX1_become_1 : List UInt8 := [3, 16, 12, 184, 0, 25, 42, 43, 180, 0, 31, 181, 0, 31, 42, 43, 180, 0, 21, 181, 0, 21, 177]
abbrev dktX1_become_1 : List UInt8 := dkwX1_become_1 ++ []
def dkwX1_become_0 : List UInt8 := [43, 180, 0, 11, 3, 42, 180, 0, 11, 3, 16, 12, 184, 0, 25, 43, 180, 0, 17, 3, 42, 180, 0, 17]
abbrev dktX1_become_0 : List UInt8 := dkwX1_become_0 ++ dktX1_become_1
theorem dksX1_become_0 : cX1_become.data.toList.drop 0 = dktX1_become_0 := by decide +kernel
theorem dksX1_become_1 : cX1_become.data.toList.drop 24 = dktX1_become_1 := dk_seg dksX1_become_0 24 rfl rfl
theorem dX1_become_0 : decode cX1_become 0 = .ok (.aload_n 1, 1) := dk_43 (dk_at dksX1_become_0 0 rfl rfl)
theorem dX1_become_1 : decode cX1_become 1 = .ok (.getfield 11, 3) := dk_180 0 11 (dk_at dksX1_become_0 1 rfl rfl)
theorem dX1_become_4 : decode cX1_become 4 = .ok (.iconst 0, 1) := dk_3 (dk_at dksX1_become_0 4 rfl rfl)
theorem dX1_become_5 : decode cX1_become 5 = .ok (.aload_n 0, 1) := dk_42 (dk_at dksX1_become_0 5 rfl rfl)
theorem dX1_become_6 : decode cX1_become 6 = .ok (.getfield 11, 3) := dk_180 0 11 (dk_at dksX1_become_0 6 rfl rfl)
theorem dX1_become_9 : decode cX1_become 9 = .ok (.iconst 0, 1) := dk_3 (dk_at dksX1_become_0 9 rfl rfl)
theorem dX1_become_10 : decode cX1_become 10 = .ok (.bipush 12, 2) := dk_16 12 (dk_at dksX1_become_0 10 rfl rfl)
theorem dX1_become_12 : decode cX1_become 12 = .ok (.invokestatic 25, 3) := dk_184 0 25 (dk_at dksX1_become_0 12 rfl rfl)
theorem dX1_become_15 : decode cX1_become 15 = .ok (.aload_n 1, 1) := dk_43 (dk_at dksX1_become_0 15 rfl rfl)
theorem dX1_become_16 : decode cX1_become 16 = .ok (.getfield 17, 3) := dk_180 0 17 (dk_at dksX1_become_0 16 rfl rfl)
theorem dX1_become_19 : decode cX1_become 19 = .ok (.iconst 0, 1) := dk_3 (dk_at dksX1_become_0 19 rfl rfl)
theorem dX1_become_20 : decode cX1_become 20 = .ok (.aload_n 0, 1) := dk_42 (dk_at dksX1_become_0 20 rfl rfl)
theorem dX1_become_21 : decode cX1_become 21 = .ok (.getfield 17, 3) := dk_180 0 17 (dk_at dksX1_become_0 21 rfl rfl)
theorem dX1_become_24 : decode cX1_become 24 = .ok (.iconst 0, 1) := dk_3 (dk_at dksX1_become_1 0 rfl rfl)
theorem dX1_become_25 : decode cX1_become 25 = .ok (.bipush 12, 2) := dk_16 12 (dk_at dksX1_become_1 1 rfl rfl)
theorem dX1_become_27 : decode cX1_become 27 = .ok (.invokestatic 25, 3) := dk_184 0 25 (dk_at dksX1_become_1 3 rfl rfl)
theorem dX1_become_30 : decode cX1_become 30 = .ok (.aload_n 0, 1) := dk_42 (dk_at dksX1_become_1 6 rfl rfl)
theorem dX1_become_31 : decode cX1_become 31 = .ok (.aload_n 1, 1) := dk_43 (dk_at dksX1_become_1 7 rfl rfl)
theorem dX1_become_32 : decode cX1_become 32 = .ok (.getfield 31, 3) := dk_180 0 31 (dk_at dksX1_become_1 8 rfl rfl)
theorem dX1_become_35 : decode cX1_become 35 = .ok (.putfield 31, 3) := dk_181 0 31 (dk_at dksX1_become_1 11 rfl rfl)
theorem dX1_become_38 : decode cX1_become 38 = .ok (.aload_n 0, 1) := dk_42 (dk_at dksX1_become_1 14 rfl rfl)
theorem dX1_become_39 : decode cX1_become 39 = .ok (.aload_n 1, 1) := dk_43 (dk_at dksX1_become_1 15 rfl rfl)
theorem dX1_become_40 : decode cX1_become 40 = .ok (.getfield 21, 3) := dk_180 0 21 (dk_at dksX1_become_1 16 rfl rfl)
theorem dX1_become_43 : decode cX1_become 43 = .ok (.putfield 21, 3) := dk_181 0 21 (dk_at dksX1_become_1 19 rfl rfl)
theorem dX1_become_46 : decode cX1_become 46 = .ok (.return_, 1) := dk_177 (dk_at dksX1_become_1 22 rfl rfl)
theorem q107 : (Jvm.Cond.initialized "LinesTouched$Net") ∈ lw_all := lw_g (lw_at lw_m1 2 rfl) rfl
theorem q178 : (Jvm.Cond.instantiable "LinesTouched$Net" (4 : Nat)) ∈ lw_all := lw_g (lw_at lw_m1 73 rfl) rfl
theorem q180 : (Jvm.Cond.instanceMethod ({ cls := "LinesTouched$Net", name := "<init>", desc := "()V" } : Jvm.MethodName)) ∈ lw_all := lw_g (lw_at lw_m1 75 rfl) rfl
theorem q181 : (Jvm.Cond.code ({ cls := "LinesTouched$Net", name := "<init>", desc := "()V" } : Jvm.MethodName) prog_14_method_1_code (1 : Nat) (Option.none : Option Jvm.ClassFile.FieldType)) ∈ lw_all := lw_g (lw_at lw_m1 76 rfl) rfl
theorem q182 : (Jvm.Cond.methodLink "LinesTouched$Net" (3 : Nat) ({ cls := "java/lang/Object", name := "<init>", desc := "()V" } : Jvm.MethodName)) ∈ lw_all := lw_g (lw_at lw_m1 77 rfl) rfl
theorem q183 : (Jvm.Cond.classLink "LinesTouched$Net" (9 : Nat) "LinesTouched$Point") ∈ lw_all := lw_g (lw_at lw_m1 78 rfl) rfl
theorem q185 : (Jvm.Cond.fieldLink "LinesTouched$Net" (11 : Nat) "LinesTouched$Net" "point" "[LLinesTouched$Point;") ∈ lw_all := lw_g (lw_at lw_m1 80 rfl) rfl
theorem q187 : (Jvm.Cond.fieldLink "LinesTouched$Net" (17 : Nat) "LinesTouched$Net" "next" "[I") ∈ lw_all := lw_g (lw_at lw_m1 82 rfl) rfl
theorem q190 : (Jvm.Cond.fieldLink "LinesTouched$Net" (31 : Nat) "LinesTouched$Net" "points" "I") ∈ lw_all := lw_g (lw_at lw_m1 85 rfl) rfl
theorem q193 : (Jvm.Cond.fieldLink "LinesTouched$Net" (21 : Nat) "LinesTouched$Net" "z" "I") ∈ lw_all := lw_g (lw_at lw_m1 88 rfl) rfl
theorem q195 : (Jvm.Cond.laysFinal "LinesTouched$Net" "LinesTouched$Net" "point" "[LLinesTouched$Point;") ∈ lw_all := lw_g (lw_at lw_m1 90 rfl) rfl
theorem q196 : (Jvm.Cond.soleField "LinesTouched$Net" "point") ∈ lw_all := lw_g (lw_at lw_m1 91 rfl) rfl
theorem q197 : (Jvm.Cond.laysFinal "LinesTouched$Net" "LinesTouched$Net" "next" "[I") ∈ lw_all := lw_g (lw_at lw_m1 92 rfl) rfl
theorem q198 : (Jvm.Cond.soleField "LinesTouched$Net" "next") ∈ lw_all := lw_g (lw_at lw_m1 93 rfl) rfl
theorem q199 : (Jvm.Cond.lays "LinesTouched$Net" "LinesTouched$Net" "points" "I") ∈ lw_all := lw_g (lw_at lw_m1 94 rfl) rfl
theorem q200 : (Jvm.Cond.soleField "LinesTouched$Net" "points") ∈ lw_all := lw_g (lw_at lw_m1 95 rfl) rfl
theorem q201 : (Jvm.Cond.lays "LinesTouched$Net" "LinesTouched$Net" "z" "I") ∈ lw_all := lw_g (lw_at lw_m1 96 rfl) rfl
theorem q202 : (Jvm.Cond.soleField "LinesTouched$Net" "z") ∈ lw_all := lw_g (lw_at lw_m1 97 rfl) rfl
theorem q203 : (Jvm.Cond.superclass "LinesTouched$Net" "java/lang/Object") ∈ lw_all := lw_g (lw_at lw_m1 98 rfl) rfl
theorem q214 : (Jvm.Cond.instanceMethod ({ cls := "LinesTouched$Net", name := "lines", desc := "(II)I" } : Jvm.MethodName)) ∈ lw_all := lw_g (lw_at lw_m1 109 rfl) rfl
theorem q215 : (Jvm.Cond.selects "LinesTouched$Net" ({ cls := "LinesTouched$Net", name := "lines", desc := "(II)I" } : Jvm.MethodName) ({ cls := "LinesTouched$Net", name := "lines", desc := "(II)I" } : Jvm.MethodName)) ∈ lw_all := lw_g (lw_at lw_m1 110 rfl) rfl
theorem q216 : (Jvm.Cond.code ({ cls := "LinesTouched$Net", name := "lines", desc := "(II)I" } : Jvm.MethodName) prog_14_method_8_code (3 : Nat) (Option.some Jvm.ClassFile.FieldType.int)) ∈ lw_all := lw_g (lw_at lw_m1 111 rfl) rfl
theorem q217 : (Jvm.Cond.methodLinkNest "LinesTouched$Net" (46 : Nat) ({ cls := "LinesTouched", name := "ones", desc := "(I)I" } : Jvm.MethodName) "LinesTouched") ∈ lw_tbl := lw_at lw_m1 112 rfl
theorem q483 : (Jvm.Cond.instanceMethod ({ cls := "LinesTouched$Net", name := "comes", desc := "(II)I" } : Jvm.MethodName)) ∈ lw_all := lw_g (lw_at lw_m2 138 rfl) rfl
theorem q484 : (Jvm.Cond.selects "LinesTouched$Net" ({ cls := "LinesTouched$Net", name := "comes", desc := "(II)I" } : Jvm.MethodName) ({ cls := "LinesTouched$Net", name := "comes", desc := "(II)I" } : Jvm.MethodName)) ∈ lw_all := lw_g (lw_at lw_m2 139 rfl) rfl
theorem q485 : (Jvm.Cond.code ({ cls := "LinesTouched$Net", name := "comes", desc := "(II)I" } : Jvm.MethodName) prog_14_method_5_code (3 : Nat) (Option.some Jvm.ClassFile.FieldType.int)) ∈ lw_all := lw_g (lw_at lw_m2 140 rfl) rfl
theorem q486 : (Jvm.Cond.methodLinkNest "LinesTouched$Net" (38 : Nat) ({ cls := "LinesTouched", name := "made", desc := "(III)LLinesTouched$Point;" } : Jvm.MethodName) "LinesTouched") ∈ lw_tbl := lw_at lw_m2 141 rfl
theorem q560 : (Jvm.Cond.instanceMethod ({ cls := "LinesTouched$Net", name := "isPoint", desc := "(I)Z" } : Jvm.MethodName)) ∈ lw_all := lw_g (lw_at lw_m2 215 rfl) rfl
theorem q561 : (Jvm.Cond.selects "LinesTouched$Net" ({ cls := "LinesTouched$Net", name := "isPoint", desc := "(I)Z" } : Jvm.MethodName) ({ cls := "LinesTouched$Net", name := "isPoint", desc := "(I)Z" } : Jvm.MethodName)) ∈ lw_all := lw_g (lw_at lw_m2 216 rfl) rfl
theorem q562 : (Jvm.Cond.code ({ cls := "LinesTouched$Net", name := "isPoint", desc := "(I)Z" } : Jvm.MethodName) prog_14_method_4_code (2 : Nat) (Option.some Jvm.ClassFile.FieldType.boolean)) ∈ lw_all := lw_g (lw_at lw_m2 217 rfl) rfl
theorem q563 : (Jvm.Cond.methodLinkNest "LinesTouched$Net" (34 : Nat) ({ cls := "LinesTouched", name := "in", desc := "(III)Z" } : Jvm.MethodName) "LinesTouched") ∈ lw_tbl := lw_at lw_m2 218 rfl
theorem q565 : (Jvm.Cond.instanceMethod ({ cls := "LinesTouched$Net", name := "areJoined", desc := "(II)Z" } : Jvm.MethodName)) ∈ lw_all := lw_g (lw_at lw_m2 220 rfl) rfl
theorem q566 : (Jvm.Cond.selects "LinesTouched$Net" ({ cls := "LinesTouched$Net", name := "areJoined", desc := "(II)Z" } : Jvm.MethodName) ({ cls := "LinesTouched$Net", name := "areJoined", desc := "(II)Z" } : Jvm.MethodName)) ∈ lw_all := lw_g (lw_at lw_m2 221 rfl) rfl
theorem q567 : (Jvm.Cond.code ({ cls := "LinesTouched$Net", name := "areJoined", desc := "(II)Z" } : Jvm.MethodName) prog_14_method_7_code (3 : Nat) (Option.some Jvm.ClassFile.FieldType.boolean)) ∈ lw_all := lw_g (lw_at lw_m2 222 rfl) rfl
theorem q568 : (Jvm.Cond.methodLinkNest "LinesTouched$Net" (42 : Nat) ({ cls := "LinesTouched", name := "has", desc := "(II)Z" } : Jvm.MethodName) "LinesTouched") ∈ lw_tbl := lw_at lw_m2 223 rfl
theorem q570 : (Jvm.Cond.instanceMethod ({ cls := "LinesTouched$Net", name := "joins", desc := "(IIZ)V" } : Jvm.MethodName)) ∈ lw_all := lw_g (lw_at lw_m2 225 rfl) rfl
theorem q571 : (Jvm.Cond.selects "LinesTouched$Net" ({ cls := "LinesTouched$Net", name := "joins", desc := "(IIZ)V" } : Jvm.MethodName) ({ cls := "LinesTouched$Net", name := "joins", desc := "(IIZ)V" } : Jvm.MethodName)) ∈ lw_all := lw_g (lw_at lw_m2 226 rfl) rfl
theorem q572 : (Jvm.Cond.code ({ cls := "LinesTouched$Net", name := "joins", desc := "(IIZ)V" } : Jvm.MethodName) prog_14_method_6_code (4 : Nat) (Option.none : Option Jvm.ClassFile.FieldType)) ∈ lw_all := lw_g (lw_at lw_m2 227 rfl) rfl
theorem q601 : (Jvm.Cond.instanceMethod ({ cls := "LinesTouched$Net", name := "cost", desc := "(I)I" } : Jvm.MethodName)) ∈ lw_all := lw_g (lw_at lw_m3 16 rfl) rfl
theorem q602 : (Jvm.Cond.selects "LinesTouched$Net" ({ cls := "LinesTouched$Net", name := "cost", desc := "(I)I" } : Jvm.MethodName) ({ cls := "LinesTouched$Net", name := "cost", desc := "(I)I" } : Jvm.MethodName)) ∈ lw_all := lw_g (lw_at lw_m3 17 rfl) rfl
theorem q603 : (Jvm.Cond.code ({ cls := "LinesTouched$Net", name := "cost", desc := "(I)I" } : Jvm.MethodName) prog_14_method_9_code (2 : Nat) (Option.some Jvm.ClassFile.FieldType.int)) ∈ lw_all := lw_g (lw_at lw_m3 18 rfl) rfl
theorem q604 : (Jvm.Cond.methodLink "LinesTouched$Net" (50 : Nat) ({ cls := "LinesTouched$Point", name := "cost", desc := "(I)I" } : Jvm.MethodName)) ∈ lw_all := lw_g (lw_at lw_m3 19 rfl) rfl
theorem q664 : (Jvm.Cond.instanceMethod ({ cls := "LinesTouched$Net", name := "all", desc := "()I" } : Jvm.MethodName)) ∈ lw_all := lw_g (lw_at lw_m3 79 rfl) rfl
theorem q665 : (Jvm.Cond.selects "LinesTouched$Net" ({ cls := "LinesTouched$Net", name := "all", desc := "()I" } : Jvm.MethodName) ({ cls := "LinesTouched$Net", name := "all", desc := "()I" } : Jvm.MethodName)) ∈ lw_all := lw_g (lw_at lw_m3 80 rfl) rfl
theorem q666 : (Jvm.Cond.code ({ cls := "LinesTouched$Net", name := "all", desc := "()I" } : Jvm.MethodName) prog_14_method_3_code (1 : Nat) (Option.some Jvm.ClassFile.FieldType.int)) ∈ lw_all := lw_g (lw_at lw_m3 81 rfl) rfl
theorem q668 : (Jvm.Cond.instanceMethod ({ cls := "LinesTouched$Net", name := "isBare", desc := "(I)Z" } : Jvm.MethodName)) ∈ lw_all := lw_g (lw_at lw_m3 83 rfl) rfl
theorem q669 : (Jvm.Cond.selects "LinesTouched$Net" ({ cls := "LinesTouched$Net", name := "isBare", desc := "(I)Z" } : Jvm.MethodName) ({ cls := "LinesTouched$Net", name := "isBare", desc := "(I)Z" } : Jvm.MethodName)) ∈ lw_all := lw_g (lw_at lw_m3 84 rfl) rfl
theorem q670 : (Jvm.Cond.code ({ cls := "LinesTouched$Net", name := "isBare", desc := "(I)Z" } : Jvm.MethodName) prog_14_method_13_code (3 : Nat) (Option.some Jvm.ClassFile.FieldType.boolean)) ∈ lw_all := lw_g (lw_at lw_m3 85 rfl) rfl
theorem q671 : (Jvm.Cond.methodLink "LinesTouched$Net" (61 : Nat) ({ cls := "LinesTouched$Net", name := "isCover", desc := "(I)Z" } : Jvm.MethodName)) ∈ lw_all := lw_g (lw_at lw_m3 86 rfl) rfl
theorem q672 : (Jvm.Cond.instanceMethod ({ cls := "LinesTouched$Net", name := "isCover", desc := "(I)Z" } : Jvm.MethodName)) ∈ lw_all := lw_g (lw_at lw_m3 87 rfl) rfl
theorem q673 : (Jvm.Cond.selects "LinesTouched$Net" ({ cls := "LinesTouched$Net", name := "isCover", desc := "(I)Z" } : Jvm.MethodName) ({ cls := "LinesTouched$Net", name := "isCover", desc := "(I)Z" } : Jvm.MethodName)) ∈ lw_all := lw_g (lw_at lw_m3 88 rfl) rfl
theorem q674 : (Jvm.Cond.code ({ cls := "LinesTouched$Net", name := "isCover", desc := "(I)Z" } : Jvm.MethodName) prog_14_method_12_code (3 : Nat) (Option.some Jvm.ClassFile.FieldType.boolean)) ∈ lw_all := lw_g (lw_at lw_m3 89 rfl) rfl
theorem q675 : (Jvm.Cond.methodLink "LinesTouched$Net" (54 : Nat) ({ cls := "LinesTouched$Net", name := "all", desc := "()I" } : Jvm.MethodName)) ∈ lw_all := lw_g (lw_at lw_m3 90 rfl) rfl
theorem q676 : (Jvm.Cond.methodLink "LinesTouched$Net" (58 : Nat) ({ cls := "LinesTouched$Net", name := "around", desc := "(I)I" } : Jvm.MethodName)) ∈ lw_all := lw_g (lw_at lw_m3 91 rfl) rfl
theorem q677 : (Jvm.Cond.instanceMethod ({ cls := "LinesTouched$Net", name := "around", desc := "(I)I" } : Jvm.MethodName)) ∈ lw_all := lw_g (lw_at lw_m3 92 rfl) rfl
theorem q678 : (Jvm.Cond.selects "LinesTouched$Net" ({ cls := "LinesTouched$Net", name := "around", desc := "(I)I" } : Jvm.MethodName) ({ cls := "LinesTouched$Net", name := "around", desc := "(I)I" } : Jvm.MethodName)) ∈ lw_all := lw_g (lw_at lw_m3 93 rfl) rfl
theorem q679 : (Jvm.Cond.code ({ cls := "LinesTouched$Net", name := "around", desc := "(I)I" } : Jvm.MethodName) prog_14_method_11_code (4 : Nat) (Option.some Jvm.ClassFile.FieldType.int)) ∈ lw_all := lw_g (lw_at lw_m3 94 rfl) rfl
theorem q686 : (Jvm.Cond.instanceMethod ({ cls := "LinesTouched$Net", name := "costOf", desc := "(I)I" } : Jvm.MethodName)) ∈ lw_all := lw_g (lw_at lw_m3 101 rfl) rfl
theorem q687 : (Jvm.Cond.selects "LinesTouched$Net" ({ cls := "LinesTouched$Net", name := "costOf", desc := "(I)I" } : Jvm.MethodName) ({ cls := "LinesTouched$Net", name := "costOf", desc := "(I)I" } : Jvm.MethodName)) ∈ lw_all := lw_g (lw_at lw_m3 102 rfl) rfl
theorem q688 : (Jvm.Cond.code ({ cls := "LinesTouched$Net", name := "costOf", desc := "(I)I" } : Jvm.MethodName) prog_14_method_10_code (4 : Nat) (Option.some Jvm.ClassFile.FieldType.int)) ∈ lw_all := lw_g (lw_at lw_m3 103 rfl) rfl
theorem q689 : (Jvm.Cond.methodLink "LinesTouched$Net" (53 : Nat) ({ cls := "LinesTouched$Net", name := "cost", desc := "(I)I" } : Jvm.MethodName)) ∈ lw_all := lw_g (lw_at lw_m3 104 rfl) rfl
theorem q900 : (Jvm.Cond.selects "LinesTouched$Net" ({ cls := "java/lang/Object", name := "hashCode", desc := "()I" } : Jvm.MethodName) ({ cls := "java/lang/Object", name := "hashCode", desc := "()I" } : Jvm.MethodName)) ∈ lw_all := lw_g (lw_at lw_m4 75 rfl) rfl
theorem q1111 : (Jvm.Cond.selects "LinesTouched$Net" ({ cls := "java/lang/Object", name := "getClass", desc := "()Ljava/lang/Class;" } : Jvm.MethodName) ({ cls := "java/lang/Object", name := "getClass", desc := "()Ljava/lang/Class;" } : Jvm.MethodName)) ∈ lw_all := lw_g (lw_at lw_m5 46 rfl) rfl
theorem q1360 : (Jvm.Cond.selects "LinesTouched$Net" ({ cls := "java/lang/Object", name := "equals", desc := "(Ljava/lang/Object;)Z" } : Jvm.MethodName) ({ cls := "java/lang/Object", name := "equals", desc := "(Ljava/lang/Object;)Z" } : Jvm.MethodName)) ∈ lw_all := lw_g (lw_at lw_m6 55 rfl) rfl
theorem q2374 : (Jvm.Cond.instanceMethod ({ cls := "LinesTouched$Net", name := "deals", desc := "(II)I" } : Jvm.MethodName)) ∈ lw_all := lw_g (lw_at lw_m10 109 rfl) rfl
theorem q2375 : (Jvm.Cond.selects "LinesTouched$Net" ({ cls := "LinesTouched$Net", name := "deals", desc := "(II)I" } : Jvm.MethodName) ({ cls := "LinesTouched$Net", name := "deals", desc := "(II)I" } : Jvm.MethodName)) ∈ lw_all := lw_g (lw_at lw_m10 110 rfl) rfl
theorem q2376 : (Jvm.Cond.code ({ cls := "LinesTouched$Net", name := "deals", desc := "(II)I" } : Jvm.MethodName) prog_14_method_15_code (6 : Nat) (Option.some Jvm.ClassFile.FieldType.int)) ∈ lw_all := lw_g (lw_at lw_m10 111 rfl) rfl
theorem q2377 : (Jvm.Cond.methodLink "LinesTouched$Net" (66 : Nat) ({ cls := "LinesTouched$Net", name := "draw", desc := "()I" } : Jvm.MethodName)) ∈ lw_all := lw_g (lw_at lw_m10 112 rfl) rfl
theorem q2378 : (Jvm.Cond.instanceMethod ({ cls := "LinesTouched$Net", name := "draw", desc := "()I" } : Jvm.MethodName)) ∈ lw_all := lw_g (lw_at lw_m10 113 rfl) rfl
theorem q2379 : (Jvm.Cond.selects "LinesTouched$Net" ({ cls := "LinesTouched$Net", name := "draw", desc := "()I" } : Jvm.MethodName) ({ cls := "LinesTouched$Net", name := "draw", desc := "()I" } : Jvm.MethodName)) ∈ lw_all := lw_g (lw_at lw_m10 114 rfl) rfl
theorem q2380 : (Jvm.Cond.code ({ cls := "LinesTouched$Net", name := "draw", desc := "()I" } : Jvm.MethodName) prog_14_method_14_code (1 : Nat) (Option.some Jvm.ClassFile.FieldType.int)) ∈ lw_all := lw_g (lw_at lw_m10 115 rfl) rfl
theorem q2381 : (Jvm.Cond.constant "LinesTouched$Net" (65 : Nat) (1103515245 : Int32)) ∈ lw_all := lw_g (lw_at lw_m10 116 rfl) rfl
theorem q2382 : (Jvm.Cond.methodLink "LinesTouched$Net" (69 : Nat) ({ cls := "LinesTouched$Net", name := "comes", desc := "(II)I" } : Jvm.MethodName)) ∈ lw_all := lw_g (lw_at lw_m10 117 rfl) rfl
theorem q2383 : (Jvm.Cond.methodLink "LinesTouched$Net" (73 : Nat) ({ cls := "LinesTouched$Net", name := "joins", desc := "(IIZ)V" } : Jvm.MethodName)) ∈ lw_all := lw_g (lw_at lw_m10 118 rfl) rfl
theorem q2389 : (Jvm.Cond.instanceMethod ({ cls := "LinesTouched$Net", name := "become", desc := "(LLinesTouched$Net;)V" } : Jvm.MethodName)) ∈ lw_all := lw_g (lw_at lw_m10 124 rfl) rfl
theorem q2390 : (Jvm.Cond.selects "LinesTouched$Net" ({ cls := "LinesTouched$Net", name := "become", desc := "(LLinesTouched$Net;)V" } : Jvm.MethodName) ({ cls := "LinesTouched$Net", name := "become", desc := "(LLinesTouched$Net;)V" } : Jvm.MethodName)) ∈ lw_all := lw_g (lw_at lw_m10 125 rfl) rfl
theorem q2391 : (Jvm.Cond.code ({ cls := "LinesTouched$Net", name := "become", desc := "(LLinesTouched$Net;)V" } : Jvm.MethodName) prog_14_method_2_code (2 : Nat) (Option.none : Option Jvm.ClassFile.FieldType)) ∈ lw_all := lw_g (lw_at lw_m10 126 rfl) rfl
theorem q2392 : (Jvm.Cond.methodLink "LinesTouched$Net" (25 : Nat) ({ cls := "java/lang/System", name := "arraycopy", desc := "(Ljava/lang/Object;ILjava/lang/Object;II)V" } : Jvm.MethodName)) ∈ lw_all := lw_g (lw_at lw_m10 127 rfl) rfl
theorem q3131 : (Jvm.Cond.castable "LinesTouched$Net" "java/lang/Object") ∈ lw_tbl := lw_at lw_m13 146 rfl
theorem in_X1 : ∀ w ∈ wsX10, w ∈ lw_all := lw_in wsX10 [195, 197, 199, 201] (by decide +kernel) (by decide +kernel)
/-! LinesTouched$Round -/
set_option maxRecDepth 100000
def RX2 : String := "LinesTouched$Round"
def TX2 : u_T := fun k => match k with
  | 0 => ("LinesTouched$Round", "rule", "I", true)
  | 1 => ("LinesTouched$Round", "goes", "I", true)
  | _ => ("LinesTouched$Round", "taken", "I", true)
def tyX2 : Nat → FieldType := fun k => match k with
  | 0 => .int
  | 1 => .int
  | _ => .int
abbrev wsX20 : List Cond := u_ws RX2 TX2 3
theorem nmX2 : ∀ a, a < 3 → ∀ b, b < 3 → a ≠ b → (TX2 a).2.1 ≠ (TX2 b).2.1 := by decide +kernel
theorem tyX2_ok : ∀ k, k < 3 → parseFieldDescriptor (TX2 k).2.2.1 = some (tyX2 k) := by decide +kernel
abbrev cX2_init : ByteArray := prog_19_method_1_code
def yX2_init : MethodName := ⟨RX2, "<init>", "(III)V"⟩
def dkwX2_init_0 : List UInt8 := [42, 183, 0, 1, 42, 27, 181, 0, 7, 42, 28, 181, 0, 13, 42, 29, 181, 0, 16, 177]
abbrev dktX2_init_0 : List UInt8 := dkwX2_init_0 ++ []
theorem dksX2_init_0 : cX2_init.data.toList.drop 0 = dktX2_init_0 := by decide +kernel
theorem dX2_init_0 : decode cX2_init 0 = .ok (.aload_n 0, 1) := dk_42 (dk_at dksX2_init_0 0 rfl rfl)
theorem dX2_init_1 : decode cX2_init 1 = .ok (.invokespecial 1, 3) := dk_183 0 1 (dk_at dksX2_init_0 1 rfl rfl)
theorem dX2_init_4 : decode cX2_init 4 = .ok (.aload_n 0, 1) := dk_42 (dk_at dksX2_init_0 4 rfl rfl)
theorem dX2_init_5 : decode cX2_init 5 = .ok (.iload_n 1, 1) := dk_27 (dk_at dksX2_init_0 5 rfl rfl)
theorem dX2_init_6 : decode cX2_init 6 = .ok (.putfield 7, 3) := dk_181 0 7 (dk_at dksX2_init_0 6 rfl rfl)
theorem dX2_init_9 : decode cX2_init 9 = .ok (.aload_n 0, 1) := dk_42 (dk_at dksX2_init_0 9 rfl rfl)
theorem dX2_init_10 : decode cX2_init 10 = .ok (.iload_n 2, 1) := dk_28 (dk_at dksX2_init_0 10 rfl rfl)
theorem dX2_init_11 : decode cX2_init 11 = .ok (.putfield 13, 3) := dk_181 0 13 (dk_at dksX2_init_0 11 rfl rfl)
theorem dX2_init_14 : decode cX2_init 14 = .ok (.aload_n 0, 1) := dk_42 (dk_at dksX2_init_0 14 rfl rfl)
theorem dX2_init_15 : decode cX2_init 15 = .ok (.iload_n 3, 1) := dk_29 (dk_at dksX2_init_0 15 rfl rfl)
theorem dX2_init_16 : decode cX2_init 16 = .ok (.putfield 16, 3) := dk_181 0 16 (dk_at dksX2_init_0 16 rfl rfl)
theorem dX2_init_19 : decode cX2_init 19 = .ok (.return_, 1) := dk_177 (dk_at dksX2_init_0 19 rfl rfl)
theorem q110 : (Jvm.Cond.initialized "LinesTouched$Round") ∈ lw_all := lw_g (lw_at lw_m1 5 rfl) rfl
theorem q227 : (Jvm.Cond.instantiable "LinesTouched$Round" (3 : Nat)) ∈ lw_all := lw_g (lw_at lw_m1 122 rfl) rfl
theorem q229 : (Jvm.Cond.instanceMethod ({ cls := "LinesTouched$Round", name := "<init>", desc := "(III)V" } : Jvm.MethodName)) ∈ lw_all := lw_g (lw_at lw_m1 124 rfl) rfl
theorem q230 : (Jvm.Cond.code ({ cls := "LinesTouched$Round", name := "<init>", desc := "(III)V" } : Jvm.MethodName) prog_19_method_1_code (4 : Nat) (Option.none : Option Jvm.ClassFile.FieldType)) ∈ lw_all := lw_g (lw_at lw_m1 125 rfl) rfl
theorem q231 : (Jvm.Cond.methodLink "LinesTouched$Round" (1 : Nat) ({ cls := "java/lang/Object", name := "<init>", desc := "()V" } : Jvm.MethodName)) ∈ lw_all := lw_g (lw_at lw_m1 126 rfl) rfl
theorem q232 : (Jvm.Cond.fieldLink "LinesTouched$Round" (7 : Nat) "LinesTouched$Round" "rule" "I") ∈ lw_all := lw_g (lw_at lw_m1 127 rfl) rfl
theorem q234 : (Jvm.Cond.fieldLink "LinesTouched$Round" (13 : Nat) "LinesTouched$Round" "goes" "I") ∈ lw_all := lw_g (lw_at lw_m1 129 rfl) rfl
theorem q236 : (Jvm.Cond.fieldLink "LinesTouched$Round" (16 : Nat) "LinesTouched$Round" "taken" "I") ∈ lw_all := lw_g (lw_at lw_m1 131 rfl) rfl
theorem q238 : (Jvm.Cond.laysFinal "LinesTouched$Round" "LinesTouched$Round" "rule" "I") ∈ lw_all := lw_g (lw_at lw_m1 133 rfl) rfl
theorem q239 : (Jvm.Cond.soleField "LinesTouched$Round" "rule") ∈ lw_all := lw_g (lw_at lw_m1 134 rfl) rfl
theorem q240 : (Jvm.Cond.laysFinal "LinesTouched$Round" "LinesTouched$Round" "goes" "I") ∈ lw_all := lw_g (lw_at lw_m1 135 rfl) rfl
theorem q241 : (Jvm.Cond.soleField "LinesTouched$Round" "goes") ∈ lw_all := lw_g (lw_at lw_m1 136 rfl) rfl
theorem q242 : (Jvm.Cond.laysFinal "LinesTouched$Round" "LinesTouched$Round" "taken" "I") ∈ lw_all := lw_g (lw_at lw_m1 137 rfl) rfl
theorem q243 : (Jvm.Cond.soleField "LinesTouched$Round" "taken") ∈ lw_all := lw_g (lw_at lw_m1 138 rfl) rfl
theorem q244 : (Jvm.Cond.superclass "LinesTouched$Round" "java/lang/Object") ∈ lw_all := lw_g (lw_at lw_m1 139 rfl) rfl
theorem q905 : (Jvm.Cond.selects "LinesTouched$Round" ({ cls := "java/lang/Object", name := "hashCode", desc := "()I" } : Jvm.MethodName) ({ cls := "java/lang/Object", name := "hashCode", desc := "()I" } : Jvm.MethodName)) ∈ lw_all := lw_g (lw_at lw_m4 80 rfl) rfl
theorem q1116 : (Jvm.Cond.selects "LinesTouched$Round" ({ cls := "java/lang/Object", name := "getClass", desc := "()Ljava/lang/Class;" } : Jvm.MethodName) ({ cls := "java/lang/Object", name := "getClass", desc := "()Ljava/lang/Class;" } : Jvm.MethodName)) ∈ lw_all := lw_g (lw_at lw_m5 51 rfl) rfl
theorem q1365 : (Jvm.Cond.selects "LinesTouched$Round" ({ cls := "java/lang/Object", name := "equals", desc := "(Ljava/lang/Object;)Z" } : Jvm.MethodName) ({ cls := "java/lang/Object", name := "equals", desc := "(Ljava/lang/Object;)Z" } : Jvm.MethodName)) ∈ lw_all := lw_g (lw_at lw_m6 60 rfl) rfl
theorem q3132 : (Jvm.Cond.castable "LinesTouched$Round" "java/lang/Object") ∈ lw_tbl := lw_at lw_m13 147 rfl
theorem in_X2 : ∀ w ∈ wsX20, w ∈ lw_all := lw_in wsX20 [238, 240, 242] (by decide +kernel) (by decide +kernel)
/-! LinesTouched$Slot -/
set_option maxRecDepth 100000
def RX3 : String := "LinesTouched$Slot"
def TX3 : u_T := fun k => match k with
  | _ => ("LinesTouched$Slot", "held", "Ljava/lang/Object;", false)
def tyX3 : Nat → FieldType := fun k => match k with
  | _ => .object "java/lang/Object"
abbrev wsX30 : List Cond := u_ws RX3 TX3 1
theorem nmX3 : ∀ a, a < 1 → ∀ b, b < 1 → a ≠ b → (TX3 a).2.1 ≠ (TX3 b).2.1 := by decide +kernel
theorem tyX3_ok : ∀ k, k < 1 → parseFieldDescriptor (TX3 k).2.2.1 = some (tyX3 k) := by decide +kernel
abbrev cX3_init : ByteArray := prog_21_method_1_code
def yX3_init : MethodName := ⟨RX3, "<init>", "()V"⟩
theorem dX3_init_0 : decode cX3_init 0 = .ok (.aload_n 0, 1) := by decide +kernel
theorem dX3_init_1 : decode cX3_init 1 = .ok (.invokespecial 1, 3) := by decide +kernel
theorem dX3_init_4 : decode cX3_init 4 = .ok (.return_, 1) := by decide +kernel
theorem q115 : (Jvm.Cond.initialized "LinesTouched$Slot") ∈ lw_all := lw_g (lw_at lw_m1 10 rfl) rfl
theorem q369 : (Jvm.Cond.instantiable "LinesTouched$Slot" (1 : Nat)) ∈ lw_all := lw_g (lw_at lw_m2 24 rfl) rfl
theorem q371 : (Jvm.Cond.instanceMethod ({ cls := "LinesTouched$Slot", name := "<init>", desc := "()V" } : Jvm.MethodName)) ∈ lw_all := lw_g (lw_at lw_m2 26 rfl) rfl
theorem q372 : (Jvm.Cond.code ({ cls := "LinesTouched$Slot", name := "<init>", desc := "()V" } : Jvm.MethodName) prog_21_method_1_code (1 : Nat) (Option.none : Option Jvm.ClassFile.FieldType)) ∈ lw_all := lw_g (lw_at lw_m2 27 rfl) rfl
theorem q373 : (Jvm.Cond.methodLink "LinesTouched$Slot" (1 : Nat) ({ cls := "java/lang/Object", name := "<init>", desc := "()V" } : Jvm.MethodName)) ∈ lw_all := lw_g (lw_at lw_m2 28 rfl) rfl
theorem q375 : (Jvm.Cond.lays "LinesTouched$Slot" "LinesTouched$Slot" "held" "Ljava/lang/Object;") ∈ lw_all := lw_g (lw_at lw_m2 30 rfl) rfl
theorem q376 : (Jvm.Cond.soleField "LinesTouched$Slot" "held") ∈ lw_all := lw_g (lw_at lw_m2 31 rfl) rfl
theorem q377 : (Jvm.Cond.superclass "LinesTouched$Slot" "java/lang/Object") ∈ lw_all := lw_g (lw_at lw_m2 32 rfl) rfl
theorem q906 : (Jvm.Cond.selects "LinesTouched$Slot" ({ cls := "java/lang/Object", name := "hashCode", desc := "()I" } : Jvm.MethodName) ({ cls := "java/lang/Object", name := "hashCode", desc := "()I" } : Jvm.MethodName)) ∈ lw_all := lw_g (lw_at lw_m4 81 rfl) rfl
theorem q1117 : (Jvm.Cond.selects "LinesTouched$Slot" ({ cls := "java/lang/Object", name := "getClass", desc := "()Ljava/lang/Class;" } : Jvm.MethodName) ({ cls := "java/lang/Object", name := "getClass", desc := "()Ljava/lang/Class;" } : Jvm.MethodName)) ∈ lw_all := lw_g (lw_at lw_m5 52 rfl) rfl
theorem q1366 : (Jvm.Cond.selects "LinesTouched$Slot" ({ cls := "java/lang/Object", name := "equals", desc := "(Ljava/lang/Object;)Z" } : Jvm.MethodName) ({ cls := "java/lang/Object", name := "equals", desc := "(Ljava/lang/Object;)Z" } : Jvm.MethodName)) ∈ lw_all := lw_g (lw_at lw_m6 61 rfl) rfl
theorem q3134 : (Jvm.Cond.castable "LinesTouched$Slot" "java/lang/Object") ∈ lw_tbl := lw_at lw_m13 149 rfl
theorem in_X3 : ∀ w ∈ wsX30, w ∈ lw_all := lw_in wsX30 [375] (by decide +kernel) (by decide +kernel)
/-! LinesTouched$Point -/
set_option maxRecDepth 100000
def RX5 : String := "LinesTouched$Point"
def TX5 : u_T := fun k => match k with
  | 0 => ("LinesTouched$Point", "number", "I", true)
  | _ => ("LinesTouched$Point", "weight", "I", true)
def tyX5 : Nat → FieldType := fun k => match k with
  | 0 => .int
  | _ => .int
abbrev wsX50 : List Cond := u_ws RX5 TX5 2
theorem nmX5 : ∀ a, a < 2 → ∀ b, b < 2 → a ≠ b → (TX5 a).2.1 ≠ (TX5 b).2.1 := by decide +kernel
theorem tyX5_ok : ∀ k, k < 2 → parseFieldDescriptor (TX5 k).2.2.1 = some (tyX5 k) := by decide +kernel
abbrev cX5_init : ByteArray := prog_17_method_1_code
def yX5_init : MethodName := ⟨RX5, "<init>", "(II)V"⟩
def dkwX5_init_0 : List UInt8 := [42, 183, 0, 1, 42, 27, 181, 0, 7, 42, 28, 181, 0, 13, 177]
abbrev dktX5_init_0 : List UInt8 := dkwX5_init_0 ++ []
theorem dksX5_init_0 : cX5_init.data.toList.drop 0 = dktX5_init_0 := by decide +kernel
theorem dX5_init_0 : decode cX5_init 0 = .ok (.aload_n 0, 1) := dk_42 (dk_at dksX5_init_0 0 rfl rfl)
theorem dX5_init_1 : decode cX5_init 1 = .ok (.invokespecial 1, 3) := dk_183 0 1 (dk_at dksX5_init_0 1 rfl rfl)
theorem dX5_init_4 : decode cX5_init 4 = .ok (.aload_n 0, 1) := dk_42 (dk_at dksX5_init_0 4 rfl rfl)
theorem dX5_init_5 : decode cX5_init 5 = .ok (.iload_n 1, 1) := dk_27 (dk_at dksX5_init_0 5 rfl rfl)
theorem dX5_init_6 : decode cX5_init 6 = .ok (.putfield 7, 3) := dk_181 0 7 (dk_at dksX5_init_0 6 rfl rfl)
theorem dX5_init_9 : decode cX5_init 9 = .ok (.aload_n 0, 1) := dk_42 (dk_at dksX5_init_0 9 rfl rfl)
theorem dX5_init_10 : decode cX5_init 10 = .ok (.iload_n 2, 1) := dk_28 (dk_at dksX5_init_0 10 rfl rfl)
theorem dX5_init_11 : decode cX5_init 11 = .ok (.putfield 13, 3) := dk_181 0 13 (dk_at dksX5_init_0 11 rfl rfl)
theorem dX5_init_14 : decode cX5_init 14 = .ok (.return_, 1) := dk_177 (dk_at dksX5_init_0 14 rfl rfl)
abbrev cX5_kind : ByteArray := prog_17_method_2_code
def yX5_kind : MethodName := ⟨RX5, "kind", "()I"⟩
theorem dX5_kind_0 : decode cX5_kind 0 = .ok (.iconst 0, 1) := by decide +kernel
theorem dX5_kind_1 : decode cX5_kind 1 = .ok (.ireturn, 1) := by decide +kernel
abbrev cX5_cost : ByteArray := prog_17_method_3_code
def yX5_cost : MethodName := ⟨RX5, "cost", "(I)I"⟩
theorem dX5_cost_0 : decode cX5_cost 0 = .ok (.aload_n 0, 1) := by decide +kernel
theorem dX5_cost_1 : decode cX5_cost 1 = .ok (.getfield 13, 3) := by decide +kernel
theorem dX5_cost_4 : decode cX5_cost 4 = .ok (.ireturn, 1) := by decide +kernel
theorem q117 : (Jvm.Cond.initialized "LinesTouched$Point") ∈ lw_all := lw_g (lw_at lw_m1 12 rfl) rfl
theorem q490 : (Jvm.Cond.instantiable "LinesTouched$Point" (2 : Nat)) ∈ lw_all := lw_g (lw_at lw_m2 145 rfl) rfl
theorem q492 : (Jvm.Cond.instanceMethod ({ cls := "LinesTouched$Point", name := "<init>", desc := "(II)V" } : Jvm.MethodName)) ∈ lw_all := lw_g (lw_at lw_m2 147 rfl) rfl
theorem q493 : (Jvm.Cond.code ({ cls := "LinesTouched$Point", name := "<init>", desc := "(II)V" } : Jvm.MethodName) prog_17_method_1_code (3 : Nat) (Option.none : Option Jvm.ClassFile.FieldType)) ∈ lw_all := lw_g (lw_at lw_m2 148 rfl) rfl
theorem q494 : (Jvm.Cond.methodLink "LinesTouched$Point" (1 : Nat) ({ cls := "java/lang/Object", name := "<init>", desc := "()V" } : Jvm.MethodName)) ∈ lw_all := lw_g (lw_at lw_m2 149 rfl) rfl
theorem q495 : (Jvm.Cond.fieldLink "LinesTouched$Point" (7 : Nat) "LinesTouched$Point" "number" "I") ∈ lw_all := lw_g (lw_at lw_m2 150 rfl) rfl
theorem q499 : (Jvm.Cond.fieldLink "LinesTouched$Point" (13 : Nat) "LinesTouched$Point" "weight" "I") ∈ lw_all := lw_g (lw_at lw_m2 154 rfl) rfl
theorem q501 : (Jvm.Cond.laysFinal "LinesTouched$Point" "LinesTouched$Point" "number" "I") ∈ lw_all := lw_g (lw_at lw_m2 156 rfl) rfl
theorem q502 : (Jvm.Cond.soleField "LinesTouched$Point" "number") ∈ lw_all := lw_g (lw_at lw_m2 157 rfl) rfl
theorem q503 : (Jvm.Cond.laysFinal "LinesTouched$Point" "LinesTouched$Point" "weight" "I") ∈ lw_all := lw_g (lw_at lw_m2 158 rfl) rfl
theorem q504 : (Jvm.Cond.soleField "LinesTouched$Point" "weight") ∈ lw_all := lw_g (lw_at lw_m2 159 rfl) rfl
theorem q505 : (Jvm.Cond.superclass "LinesTouched$Point" "java/lang/Object") ∈ lw_all := lw_g (lw_at lw_m2 160 rfl) rfl
theorem q578 : (Jvm.Cond.instanceMethod ({ cls := "LinesTouched$Point", name := "kind", desc := "()I" } : Jvm.MethodName)) ∈ lw_all := lw_g (lw_at lw_m2 233 rfl) rfl
theorem q579 : (Jvm.Cond.selects "LinesTouched$Point" ({ cls := "LinesTouched$Point", name := "kind", desc := "()I" } : Jvm.MethodName) ({ cls := "LinesTouched$Point", name := "kind", desc := "()I" } : Jvm.MethodName)) ∈ lw_all := lw_g (lw_at lw_m2 234 rfl) rfl
theorem q580 : (Jvm.Cond.sameMethod "LinesTouched$Point" "LinesTouched$Point" "kind" "()I") ∈ lw_all := lw_g (lw_at lw_m2 235 rfl) rfl
theorem q599 : (Jvm.Cond.code ({ cls := "LinesTouched$Point", name := "kind", desc := "()I" } : Jvm.MethodName) prog_17_method_2_code (1 : Nat) (Option.some Jvm.ClassFile.FieldType.int)) ∈ lw_all := lw_g (lw_at lw_m3 14 rfl) rfl
theorem q605 : (Jvm.Cond.instanceMethod ({ cls := "LinesTouched$Point", name := "cost", desc := "(I)I" } : Jvm.MethodName)) ∈ lw_all := lw_g (lw_at lw_m3 20 rfl) rfl
theorem q606 : (Jvm.Cond.selects "LinesTouched$Point" ({ cls := "LinesTouched$Point", name := "cost", desc := "(I)I" } : Jvm.MethodName) ({ cls := "LinesTouched$Point", name := "cost", desc := "(I)I" } : Jvm.MethodName)) ∈ lw_all := lw_g (lw_at lw_m3 21 rfl) rfl
theorem q607 : (Jvm.Cond.sameMethod "LinesTouched$Point" "LinesTouched$Point" "cost" "(I)I") ∈ lw_all := lw_g (lw_at lw_m3 22 rfl) rfl
theorem q612 : (Jvm.Cond.code ({ cls := "LinesTouched$Point", name := "cost", desc := "(I)I" } : Jvm.MethodName) prog_17_method_3_code (2 : Nat) (Option.some Jvm.ClassFile.FieldType.int)) ∈ lw_all := lw_g (lw_at lw_m3 27 rfl) rfl
theorem q903 : (Jvm.Cond.selects "LinesTouched$Point" ({ cls := "java/lang/Object", name := "hashCode", desc := "()I" } : Jvm.MethodName) ({ cls := "java/lang/Object", name := "hashCode", desc := "()I" } : Jvm.MethodName)) ∈ lw_all := lw_g (lw_at lw_m4 78 rfl) rfl
theorem q1114 : (Jvm.Cond.selects "LinesTouched$Point" ({ cls := "java/lang/Object", name := "getClass", desc := "()Ljava/lang/Class;" } : Jvm.MethodName) ({ cls := "java/lang/Object", name := "getClass", desc := "()Ljava/lang/Class;" } : Jvm.MethodName)) ∈ lw_all := lw_g (lw_at lw_m5 49 rfl) rfl
theorem q1363 : (Jvm.Cond.selects "LinesTouched$Point" ({ cls := "java/lang/Object", name := "equals", desc := "(Ljava/lang/Object;)Z" } : Jvm.MethodName) ({ cls := "java/lang/Object", name := "equals", desc := "(Ljava/lang/Object;)Z" } : Jvm.MethodName)) ∈ lw_all := lw_g (lw_at lw_m6 58 rfl) rfl
theorem q3136 : (Jvm.Cond.castable "LinesTouched$Point" "java/lang/Object") ∈ lw_tbl := lw_at lw_m13 151 rfl
theorem in_X5 : ∀ w ∈ wsX50, w ∈ lw_all := lw_in wsX50 [501, 503] (by decide +kernel) (by decide +kernel)
/-! LinesTouched$Toll -/
set_option maxRecDepth 100000
def RX6 : String := "LinesTouched$Toll"
def TX6 : u_T := fun k => match k with
  | 0 => ("LinesTouched$Point", "number", "I", true)
  | _ => ("LinesTouched$Point", "weight", "I", true)
def tyX6 : Nat → FieldType := fun k => match k with
  | 0 => .int
  | _ => .int
abbrev wsX60 : List Cond := u_ws RX6 TX6 2
theorem nmX6 : ∀ a, a < 2 → ∀ b, b < 2 → a ≠ b → (TX6 a).2.1 ≠ (TX6 b).2.1 := by decide +kernel
theorem tyX6_ok : ∀ k, k < 2 → parseFieldDescriptor (TX6 k).2.2.1 = some (tyX6 k) := by decide +kernel
abbrev cX6_init : ByteArray := prog_24_method_1_code
def yX6_init : MethodName := ⟨RX6, "<init>", "(II)V"⟩
def dkwX6_init_0 : List UInt8 := [42, 27, 28, 183, 0, 1, 177]
abbrev dktX6_init_0 : List UInt8 := dkwX6_init_0 ++ []
theorem dksX6_init_0 : cX6_init.data.toList.drop 0 = dktX6_init_0 := by decide +kernel
theorem dX6_init_0 : decode cX6_init 0 = .ok (.aload_n 0, 1) := dk_42 (dk_at dksX6_init_0 0 rfl rfl)
theorem dX6_init_1 : decode cX6_init 1 = .ok (.iload_n 1, 1) := dk_27 (dk_at dksX6_init_0 1 rfl rfl)
theorem dX6_init_2 : decode cX6_init 2 = .ok (.iload_n 2, 1) := dk_28 (dk_at dksX6_init_0 2 rfl rfl)
theorem dX6_init_3 : decode cX6_init 3 = .ok (.invokespecial 1, 3) := dk_183 0 1 (dk_at dksX6_init_0 3 rfl rfl)
theorem dX6_init_6 : decode cX6_init 6 = .ok (.return_, 1) := dk_177 (dk_at dksX6_init_0 6 rfl rfl)
abbrev cX6_kind : ByteArray := prog_24_method_2_code
def yX6_kind : MethodName := ⟨RX6, "kind", "()I"⟩
theorem dX6_kind_0 : decode cX6_kind 0 = .ok (.iconst 1, 1) := by decide +kernel
theorem dX6_kind_1 : decode cX6_kind 1 = .ok (.ireturn, 1) := by decide +kernel
abbrev cX6_cost : ByteArray := prog_24_method_3_code
def yX6_cost : MethodName := ⟨RX6, "cost", "(I)I"⟩
def dkwX6_cost_0 : List UInt8 := [42, 27, 183, 0, 7, 27, 96, 172]
abbrev dktX6_cost_0 : List UInt8 := dkwX6_cost_0 ++ []
theorem dksX6_cost_0 : cX6_cost.data.toList.drop 0 = dktX6_cost_0 := by decide +kernel
theorem dX6_cost_0 : decode cX6_cost 0 = .ok (.aload_n 0, 1) := dk_42 (dk_at dksX6_cost_0 0 rfl rfl)
theorem dX6_cost_1 : decode cX6_cost 1 = .ok (.iload_n 1, 1) := dk_27 (dk_at dksX6_cost_0 1 rfl rfl)
theorem dX6_cost_2 : decode cX6_cost 2 = .ok (.invokespecial 7, 3) := dk_183 0 7 (dk_at dksX6_cost_0 2 rfl rfl)
theorem dX6_cost_5 : decode cX6_cost 5 = .ok (.iload_n 1, 1) := dk_27 (dk_at dksX6_cost_0 5 rfl rfl)
theorem dX6_cost_6 : decode cX6_cost 6 = .ok (.iadd, 1) := dk_96 (dk_at dksX6_cost_0 6 rfl rfl)
theorem dX6_cost_7 : decode cX6_cost 7 = .ok (.ireturn, 1) := dk_172 (dk_at dksX6_cost_0 7 rfl rfl)
theorem q118 : (Jvm.Cond.initialized "LinesTouched$Toll") ∈ lw_all := lw_g (lw_at lw_m1 13 rfl) rfl
theorem q507 : (Jvm.Cond.instantiable "LinesTouched$Toll" (2 : Nat)) ∈ lw_all := lw_g (lw_at lw_m2 162 rfl) rfl
theorem q509 : (Jvm.Cond.instanceMethod ({ cls := "LinesTouched$Toll", name := "<init>", desc := "(II)V" } : Jvm.MethodName)) ∈ lw_all := lw_g (lw_at lw_m2 164 rfl) rfl
theorem q510 : (Jvm.Cond.code ({ cls := "LinesTouched$Toll", name := "<init>", desc := "(II)V" } : Jvm.MethodName) prog_24_method_1_code (3 : Nat) (Option.none : Option Jvm.ClassFile.FieldType)) ∈ lw_all := lw_g (lw_at lw_m2 165 rfl) rfl
theorem q511 : (Jvm.Cond.methodLink "LinesTouched$Toll" (1 : Nat) ({ cls := "LinesTouched$Point", name := "<init>", desc := "(II)V" } : Jvm.MethodName)) ∈ lw_all := lw_g (lw_at lw_m2 166 rfl) rfl
theorem q512 : (Jvm.Cond.laysFinal "LinesTouched$Toll" "LinesTouched$Point" "number" "I") ∈ lw_all := lw_g (lw_at lw_m2 167 rfl) rfl
theorem q513 : (Jvm.Cond.laysFinal "LinesTouched$Toll" "LinesTouched$Point" "weight" "I") ∈ lw_all := lw_g (lw_at lw_m2 168 rfl) rfl
theorem q514 : (Jvm.Cond.superclass "LinesTouched$Toll" "LinesTouched$Point") ∈ lw_all := lw_g (lw_at lw_m2 169 rfl) rfl
theorem q592 : (Jvm.Cond.instanceMethod ({ cls := "LinesTouched$Toll", name := "kind", desc := "()I" } : Jvm.MethodName)) ∈ lw_all := lw_g (lw_at lw_m3 7 rfl) rfl
theorem q593 : (Jvm.Cond.code ({ cls := "LinesTouched$Toll", name := "kind", desc := "()I" } : Jvm.MethodName) prog_24_method_2_code (1 : Nat) (Option.some Jvm.ClassFile.FieldType.int)) ∈ lw_all := lw_g (lw_at lw_m3 8 rfl) rfl
theorem q594 : (Jvm.Cond.selects "LinesTouched$Toll" ({ cls := "LinesTouched$Point", name := "kind", desc := "()I" } : Jvm.MethodName) ({ cls := "LinesTouched$Toll", name := "kind", desc := "()I" } : Jvm.MethodName)) ∈ lw_all := lw_g (lw_at lw_m3 9 rfl) rfl
theorem q621 : (Jvm.Cond.instanceMethod ({ cls := "LinesTouched$Toll", name := "cost", desc := "(I)I" } : Jvm.MethodName)) ∈ lw_all := lw_g (lw_at lw_m3 36 rfl) rfl
theorem q622 : (Jvm.Cond.code ({ cls := "LinesTouched$Toll", name := "cost", desc := "(I)I" } : Jvm.MethodName) prog_24_method_3_code (2 : Nat) (Option.some Jvm.ClassFile.FieldType.int)) ∈ lw_all := lw_g (lw_at lw_m3 37 rfl) rfl
theorem q623 : (Jvm.Cond.methodLink "LinesTouched$Toll" (7 : Nat) ({ cls := "LinesTouched$Point", name := "cost", desc := "(I)I" } : Jvm.MethodName)) ∈ lw_all := lw_g (lw_at lw_m3 38 rfl) rfl
theorem q627 : (Jvm.Cond.selects "LinesTouched$Toll" ({ cls := "LinesTouched$Point", name := "cost", desc := "(I)I" } : Jvm.MethodName) ({ cls := "LinesTouched$Toll", name := "cost", desc := "(I)I" } : Jvm.MethodName)) ∈ lw_all := lw_g (lw_at lw_m3 42 rfl) rfl
theorem q909 : (Jvm.Cond.selects "LinesTouched$Toll" ({ cls := "java/lang/Object", name := "hashCode", desc := "()I" } : Jvm.MethodName) ({ cls := "java/lang/Object", name := "hashCode", desc := "()I" } : Jvm.MethodName)) ∈ lw_all := lw_g (lw_at lw_m4 84 rfl) rfl
theorem q1120 : (Jvm.Cond.selects "LinesTouched$Toll" ({ cls := "java/lang/Object", name := "getClass", desc := "()Ljava/lang/Class;" } : Jvm.MethodName) ({ cls := "java/lang/Object", name := "getClass", desc := "()Ljava/lang/Class;" } : Jvm.MethodName)) ∈ lw_all := lw_g (lw_at lw_m5 55 rfl) rfl
theorem q1369 : (Jvm.Cond.selects "LinesTouched$Toll" ({ cls := "java/lang/Object", name := "equals", desc := "(Ljava/lang/Object;)Z" } : Jvm.MethodName) ({ cls := "java/lang/Object", name := "equals", desc := "(Ljava/lang/Object;)Z" } : Jvm.MethodName)) ∈ lw_all := lw_g (lw_at lw_m6 64 rfl) rfl
theorem q3105 : (Jvm.Cond.sameMethod "LinesTouched$Toll" "LinesTouched$Toll" "kind" "()I") ∈ lw_all := lw_g (lw_at lw_m13 120 rfl) rfl
theorem q3108 : (Jvm.Cond.sameMethod "LinesTouched$Toll" "LinesTouched$Toll" "cost" "(I)I") ∈ lw_all := lw_g (lw_at lw_m13 123 rfl) rfl
theorem q3123 : (Jvm.Cond.castable "LinesTouched$Toll" "LinesTouched$Point") ∈ lw_tbl := lw_at lw_m13 138 rfl
theorem q3137 : (Jvm.Cond.castable "LinesTouched$Toll" "java/lang/Object") ∈ lw_tbl := lw_at lw_m13 152 rfl
theorem in_X6 : ∀ w ∈ wsX60, w ∈ lw_all := lw_in wsX60 [512, 513] (by decide +kernel) (by decide +kernel)
/-! LinesTouched$Club -/
set_option maxRecDepth 100000
def RX7 : String := "LinesTouched$Club"
def TX7 : u_T := fun k => match k with
  | 0 => ("LinesTouched$Point", "number", "I", true)
  | _ => ("LinesTouched$Point", "weight", "I", true)
def tyX7 : Nat → FieldType := fun k => match k with
  | 0 => .int
  | _ => .int
abbrev wsX70 : List Cond := u_ws RX7 TX7 2
theorem nmX7 : ∀ a, a < 2 → ∀ b, b < 2 → a ≠ b → (TX7 a).2.1 ≠ (TX7 b).2.1 := by decide +kernel
theorem tyX7_ok : ∀ k, k < 2 → parseFieldDescriptor (TX7 k).2.2.1 = some (tyX7 k) := by decide +kernel
abbrev cX7_init : ByteArray := prog_3_method_1_code
def yX7_init : MethodName := ⟨RX7, "<init>", "(II)V"⟩
def dkwX7_init_0 : List UInt8 := [42, 27, 28, 183, 0, 1, 177]
abbrev dktX7_init_0 : List UInt8 := dkwX7_init_0 ++ []
theorem dksX7_init_0 : cX7_init.data.toList.drop 0 = dktX7_init_0 := by decide +kernel
theorem dX7_init_0 : decode cX7_init 0 = .ok (.aload_n 0, 1) := dk_42 (dk_at dksX7_init_0 0 rfl rfl)
theorem dX7_init_1 : decode cX7_init 1 = .ok (.iload_n 1, 1) := dk_27 (dk_at dksX7_init_0 1 rfl rfl)
theorem dX7_init_2 : decode cX7_init 2 = .ok (.iload_n 2, 1) := dk_28 (dk_at dksX7_init_0 2 rfl rfl)
theorem dX7_init_3 : decode cX7_init 3 = .ok (.invokespecial 1, 3) := dk_183 0 1 (dk_at dksX7_init_0 3 rfl rfl)
theorem dX7_init_6 : decode cX7_init 6 = .ok (.return_, 1) := dk_177 (dk_at dksX7_init_0 6 rfl rfl)
abbrev cX7_kind : ByteArray := prog_3_method_2_code
def yX7_kind : MethodName := ⟨RX7, "kind", "()I"⟩
theorem dX7_kind_0 : decode cX7_kind 0 = .ok (.iconst 2, 1) := by decide +kernel
theorem dX7_kind_1 : decode cX7_kind 1 = .ok (.ireturn, 1) := by decide +kernel
abbrev cX7_cost : ByteArray := prog_3_method_3_code
def yX7_cost : MethodName := ⟨RX7, "cost", "(I)I"⟩
def dkwX7_cost_0 : List UInt8 := [5, 42, 27, 183, 0, 7, 104, 172]
abbrev dktX7_cost_0 : List UInt8 := dkwX7_cost_0 ++ []
theorem dksX7_cost_0 : cX7_cost.data.toList.drop 0 = dktX7_cost_0 := by decide +kernel
theorem dX7_cost_0 : decode cX7_cost 0 = .ok (.iconst 2, 1) := dk_5 (dk_at dksX7_cost_0 0 rfl rfl)
theorem dX7_cost_1 : decode cX7_cost 1 = .ok (.aload_n 0, 1) := dk_42 (dk_at dksX7_cost_0 1 rfl rfl)
theorem dX7_cost_2 : decode cX7_cost 2 = .ok (.iload_n 1, 1) := dk_27 (dk_at dksX7_cost_0 2 rfl rfl)
theorem dX7_cost_3 : decode cX7_cost 3 = .ok (.invokespecial 7, 3) := dk_183 0 7 (dk_at dksX7_cost_0 3 rfl rfl)
theorem dX7_cost_6 : decode cX7_cost 6 = .ok (.imul, 1) := dk_104 (dk_at dksX7_cost_0 6 rfl rfl)
theorem dX7_cost_7 : decode cX7_cost 7 = .ok (.ireturn, 1) := dk_172 (dk_at dksX7_cost_0 7 rfl rfl)
theorem q119 : (Jvm.Cond.initialized "LinesTouched$Club") ∈ lw_all := lw_g (lw_at lw_m1 14 rfl) rfl
theorem q516 : (Jvm.Cond.instantiable "LinesTouched$Club" (2 : Nat)) ∈ lw_all := lw_g (lw_at lw_m2 171 rfl) rfl
theorem q518 : (Jvm.Cond.instanceMethod ({ cls := "LinesTouched$Club", name := "<init>", desc := "(II)V" } : Jvm.MethodName)) ∈ lw_all := lw_g (lw_at lw_m2 173 rfl) rfl
theorem q519 : (Jvm.Cond.code ({ cls := "LinesTouched$Club", name := "<init>", desc := "(II)V" } : Jvm.MethodName) prog_3_method_1_code (3 : Nat) (Option.none : Option Jvm.ClassFile.FieldType)) ∈ lw_all := lw_g (lw_at lw_m2 174 rfl) rfl
theorem q520 : (Jvm.Cond.methodLink "LinesTouched$Club" (1 : Nat) ({ cls := "LinesTouched$Point", name := "<init>", desc := "(II)V" } : Jvm.MethodName)) ∈ lw_all := lw_g (lw_at lw_m2 175 rfl) rfl
theorem q521 : (Jvm.Cond.laysFinal "LinesTouched$Club" "LinesTouched$Point" "number" "I") ∈ lw_all := lw_g (lw_at lw_m2 176 rfl) rfl
theorem q522 : (Jvm.Cond.laysFinal "LinesTouched$Club" "LinesTouched$Point" "weight" "I") ∈ lw_all := lw_g (lw_at lw_m2 177 rfl) rfl
theorem q523 : (Jvm.Cond.superclass "LinesTouched$Club" "LinesTouched$Point") ∈ lw_all := lw_g (lw_at lw_m2 178 rfl) rfl
theorem q581 : (Jvm.Cond.selects "LinesTouched$Club" ({ cls := "LinesTouched$Point", name := "kind", desc := "()I" } : Jvm.MethodName) ({ cls := "LinesTouched$Club", name := "kind", desc := "()I" } : Jvm.MethodName)) ∈ lw_all := lw_g (lw_at lw_m2 236 rfl) rfl
theorem q582 : (Jvm.Cond.instanceMethod ({ cls := "LinesTouched$Club", name := "kind", desc := "()I" } : Jvm.MethodName)) ∈ lw_all := lw_g (lw_at lw_m2 237 rfl) rfl
theorem q583 : (Jvm.Cond.code ({ cls := "LinesTouched$Club", name := "kind", desc := "()I" } : Jvm.MethodName) prog_3_method_2_code (1 : Nat) (Option.some Jvm.ClassFile.FieldType.int)) ∈ lw_all := lw_g (lw_at lw_m2 238 rfl) rfl
theorem q608 : (Jvm.Cond.selects "LinesTouched$Club" ({ cls := "LinesTouched$Point", name := "cost", desc := "(I)I" } : Jvm.MethodName) ({ cls := "LinesTouched$Club", name := "cost", desc := "(I)I" } : Jvm.MethodName)) ∈ lw_all := lw_g (lw_at lw_m3 23 rfl) rfl
theorem q609 : (Jvm.Cond.instanceMethod ({ cls := "LinesTouched$Club", name := "cost", desc := "(I)I" } : Jvm.MethodName)) ∈ lw_all := lw_g (lw_at lw_m3 24 rfl) rfl
theorem q610 : (Jvm.Cond.code ({ cls := "LinesTouched$Club", name := "cost", desc := "(I)I" } : Jvm.MethodName) prog_3_method_3_code (2 : Nat) (Option.some Jvm.ClassFile.FieldType.int)) ∈ lw_all := lw_g (lw_at lw_m3 25 rfl) rfl
theorem q611 : (Jvm.Cond.methodLink "LinesTouched$Club" (7 : Nat) ({ cls := "LinesTouched$Point", name := "cost", desc := "(I)I" } : Jvm.MethodName)) ∈ lw_all := lw_g (lw_at lw_m3 26 rfl) rfl
theorem q885 : (Jvm.Cond.selects "LinesTouched$Club" ({ cls := "java/lang/Object", name := "hashCode", desc := "()I" } : Jvm.MethodName) ({ cls := "java/lang/Object", name := "hashCode", desc := "()I" } : Jvm.MethodName)) ∈ lw_all := lw_g (lw_at lw_m4 60 rfl) rfl
theorem q1104 : (Jvm.Cond.selects "LinesTouched$Club" ({ cls := "java/lang/Object", name := "getClass", desc := "()Ljava/lang/Class;" } : Jvm.MethodName) ({ cls := "java/lang/Object", name := "getClass", desc := "()Ljava/lang/Class;" } : Jvm.MethodName)) ∈ lw_all := lw_g (lw_at lw_m5 39 rfl) rfl
theorem q1347 : (Jvm.Cond.selects "LinesTouched$Club" ({ cls := "java/lang/Object", name := "equals", desc := "(Ljava/lang/Object;)Z" } : Jvm.MethodName) ({ cls := "java/lang/Object", name := "equals", desc := "(Ljava/lang/Object;)Z" } : Jvm.MethodName)) ∈ lw_all := lw_g (lw_at lw_m6 42 rfl) rfl
theorem q3104 : (Jvm.Cond.sameMethod "LinesTouched$Club" "LinesTouched$Club" "kind" "()I") ∈ lw_all := lw_g (lw_at lw_m13 119 rfl) rfl
theorem q3107 : (Jvm.Cond.sameMethod "LinesTouched$Club" "LinesTouched$Club" "cost" "(I)I") ∈ lw_all := lw_g (lw_at lw_m13 122 rfl) rfl
theorem q3120 : (Jvm.Cond.castable "LinesTouched$Club" "LinesTouched$Point") ∈ lw_tbl := lw_at lw_m13 135 rfl
theorem q3138 : (Jvm.Cond.castable "LinesTouched$Club" "java/lang/Object") ∈ lw_tbl := lw_at lw_m13 153 rfl
theorem in_X7 : ∀ w ∈ wsX70, w ∈ lw_all := lw_in wsX70 [521, 522] (by decide +kernel) (by decide +kernel)
/-! LinesTouched$Keeper -/
set_option maxRecDepth 100000
def RX8 : String := "LinesTouched$Keeper"
def TX8 : u_T := fun k => match k with
  | 0 => ("LinesTouched$Point", "number", "I", true)
  | _ => ("LinesTouched$Point", "weight", "I", true)
def tyX8 : Nat → FieldType := fun k => match k with
  | 0 => .int
  | _ => .int
abbrev wsX80 : List Cond := u_ws RX8 TX8 2
theorem nmX8 : ∀ a, a < 2 → ∀ b, b < 2 → a ≠ b → (TX8 a).2.1 ≠ (TX8 b).2.1 := by decide +kernel
theorem tyX8_ok : ∀ k, k < 2 → parseFieldDescriptor (TX8 k).2.2.1 = some (tyX8 k) := by decide +kernel
abbrev cX8_init : ByteArray := prog_11_method_1_code
def yX8_init : MethodName := ⟨RX8, "<init>", "(II)V"⟩
def dkwX8_init_0 : List UInt8 := [42, 27, 28, 183, 0, 1, 177]
abbrev dktX8_init_0 : List UInt8 := dkwX8_init_0 ++ []
theorem dksX8_init_0 : cX8_init.data.toList.drop 0 = dktX8_init_0 := by decide +kernel
theorem dX8_init_0 : decode cX8_init 0 = .ok (.aload_n 0, 1) := dk_42 (dk_at dksX8_init_0 0 rfl rfl)
theorem dX8_init_1 : decode cX8_init 1 = .ok (.iload_n 1, 1) := dk_27 (dk_at dksX8_init_0 1 rfl rfl)
theorem dX8_init_2 : decode cX8_init 2 = .ok (.iload_n 2, 1) := dk_28 (dk_at dksX8_init_0 2 rfl rfl)
theorem dX8_init_3 : decode cX8_init 3 = .ok (.invokespecial 1, 3) := dk_183 0 1 (dk_at dksX8_init_0 3 rfl rfl)
theorem dX8_init_6 : decode cX8_init 6 = .ok (.return_, 1) := dk_177 (dk_at dksX8_init_0 6 rfl rfl)
abbrev cX8_kind : ByteArray := prog_11_method_2_code
def yX8_kind : MethodName := ⟨RX8, "kind", "()I"⟩
def dkwX8_kind_0 : List UInt8 := [5, 42, 183, 0, 7, 96, 172]
abbrev dktX8_kind_0 : List UInt8 := dkwX8_kind_0 ++ []
theorem dksX8_kind_0 : cX8_kind.data.toList.drop 0 = dktX8_kind_0 := by decide +kernel
theorem dX8_kind_0 : decode cX8_kind 0 = .ok (.iconst 2, 1) := dk_5 (dk_at dksX8_kind_0 0 rfl rfl)
theorem dX8_kind_1 : decode cX8_kind 1 = .ok (.aload_n 0, 1) := dk_42 (dk_at dksX8_kind_0 1 rfl rfl)
theorem dX8_kind_2 : decode cX8_kind 2 = .ok (.invokespecial 7, 3) := dk_183 0 7 (dk_at dksX8_kind_0 2 rfl rfl)
theorem dX8_kind_5 : decode cX8_kind 5 = .ok (.iadd, 1) := dk_96 (dk_at dksX8_kind_0 5 rfl rfl)
theorem dX8_kind_6 : decode cX8_kind 6 = .ok (.ireturn, 1) := dk_172 (dk_at dksX8_kind_0 6 rfl rfl)
abbrev cX8_cost : ByteArray := prog_11_method_3_code
def yX8_cost : MethodName := ⟨RX8, "cost", "(I)I"⟩
def dkwX8_cost_0 : List UInt8 := [4, 42, 27, 183, 0, 11, 5, 100, 184, 0, 15, 172]
abbrev dktX8_cost_0 : List UInt8 := dkwX8_cost_0 ++ []
theorem dksX8_cost_0 : cX8_cost.data.toList.drop 0 = dktX8_cost_0 := by decide +kernel
theorem dX8_cost_0 : decode cX8_cost 0 = .ok (.iconst 1, 1) := dk_4 (dk_at dksX8_cost_0 0 rfl rfl)
theorem dX8_cost_1 : decode cX8_cost 1 = .ok (.aload_n 0, 1) := dk_42 (dk_at dksX8_cost_0 1 rfl rfl)
theorem dX8_cost_2 : decode cX8_cost 2 = .ok (.iload_n 1, 1) := dk_27 (dk_at dksX8_cost_0 2 rfl rfl)
theorem dX8_cost_3 : decode cX8_cost 3 = .ok (.invokespecial 11, 3) := dk_183 0 11 (dk_at dksX8_cost_0 3 rfl rfl)
theorem dX8_cost_6 : decode cX8_cost 6 = .ok (.iconst 2, 1) := dk_5 (dk_at dksX8_cost_0 6 rfl rfl)
theorem dX8_cost_7 : decode cX8_cost 7 = .ok (.isub, 1) := dk_100 (dk_at dksX8_cost_0 7 rfl rfl)
theorem dX8_cost_8 : decode cX8_cost 8 = .ok (.invokestatic 15, 3) := dk_184 0 15 (dk_at dksX8_cost_0 8 rfl rfl)
theorem dX8_cost_11 : decode cX8_cost 11 = .ok (.ireturn, 1) := dk_172 (dk_at dksX8_cost_0 11 rfl rfl)
theorem q120 : (Jvm.Cond.initialized "LinesTouched$Keeper") ∈ lw_all := lw_g (lw_at lw_m1 15 rfl) rfl
theorem q525 : (Jvm.Cond.instantiable "LinesTouched$Keeper" (2 : Nat)) ∈ lw_all := lw_g (lw_at lw_m2 180 rfl) rfl
theorem q527 : (Jvm.Cond.instanceMethod ({ cls := "LinesTouched$Keeper", name := "<init>", desc := "(II)V" } : Jvm.MethodName)) ∈ lw_all := lw_g (lw_at lw_m2 182 rfl) rfl
theorem q528 : (Jvm.Cond.code ({ cls := "LinesTouched$Keeper", name := "<init>", desc := "(II)V" } : Jvm.MethodName) prog_11_method_1_code (3 : Nat) (Option.none : Option Jvm.ClassFile.FieldType)) ∈ lw_all := lw_g (lw_at lw_m2 183 rfl) rfl
theorem q529 : (Jvm.Cond.methodLink "LinesTouched$Keeper" (1 : Nat) ({ cls := "LinesTouched$Toll", name := "<init>", desc := "(II)V" } : Jvm.MethodName)) ∈ lw_all := lw_g (lw_at lw_m2 184 rfl) rfl
theorem q530 : (Jvm.Cond.laysFinal "LinesTouched$Keeper" "LinesTouched$Point" "number" "I") ∈ lw_all := lw_g (lw_at lw_m2 185 rfl) rfl
theorem q531 : (Jvm.Cond.laysFinal "LinesTouched$Keeper" "LinesTouched$Point" "weight" "I") ∈ lw_all := lw_g (lw_at lw_m2 186 rfl) rfl
theorem q532 : (Jvm.Cond.superclass "LinesTouched$Keeper" "LinesTouched$Toll") ∈ lw_all := lw_g (lw_at lw_m2 187 rfl) rfl
theorem q588 : (Jvm.Cond.selects "LinesTouched$Keeper" ({ cls := "LinesTouched$Point", name := "kind", desc := "()I" } : Jvm.MethodName) ({ cls := "LinesTouched$Keeper", name := "kind", desc := "()I" } : Jvm.MethodName)) ∈ lw_all := lw_g (lw_at lw_m3 3 rfl) rfl
theorem q589 : (Jvm.Cond.instanceMethod ({ cls := "LinesTouched$Keeper", name := "kind", desc := "()I" } : Jvm.MethodName)) ∈ lw_all := lw_g (lw_at lw_m3 4 rfl) rfl
theorem q590 : (Jvm.Cond.code ({ cls := "LinesTouched$Keeper", name := "kind", desc := "()I" } : Jvm.MethodName) prog_11_method_2_code (1 : Nat) (Option.some Jvm.ClassFile.FieldType.int)) ∈ lw_all := lw_g (lw_at lw_m3 5 rfl) rfl
theorem q591 : (Jvm.Cond.methodLink "LinesTouched$Keeper" (7 : Nat) ({ cls := "LinesTouched$Toll", name := "kind", desc := "()I" } : Jvm.MethodName)) ∈ lw_all := lw_g (lw_at lw_m3 6 rfl) rfl
theorem q617 : (Jvm.Cond.selects "LinesTouched$Keeper" ({ cls := "LinesTouched$Point", name := "cost", desc := "(I)I" } : Jvm.MethodName) ({ cls := "LinesTouched$Keeper", name := "cost", desc := "(I)I" } : Jvm.MethodName)) ∈ lw_all := lw_g (lw_at lw_m3 32 rfl) rfl
theorem q618 : (Jvm.Cond.instanceMethod ({ cls := "LinesTouched$Keeper", name := "cost", desc := "(I)I" } : Jvm.MethodName)) ∈ lw_all := lw_g (lw_at lw_m3 33 rfl) rfl
theorem q619 : (Jvm.Cond.code ({ cls := "LinesTouched$Keeper", name := "cost", desc := "(I)I" } : Jvm.MethodName) prog_11_method_3_code (2 : Nat) (Option.some Jvm.ClassFile.FieldType.int)) ∈ lw_all := lw_g (lw_at lw_m3 34 rfl) rfl
theorem q620 : (Jvm.Cond.methodLink "LinesTouched$Keeper" (11 : Nat) ({ cls := "LinesTouched$Toll", name := "cost", desc := "(I)I" } : Jvm.MethodName)) ∈ lw_all := lw_g (lw_at lw_m3 35 rfl) rfl
theorem q624 : (Jvm.Cond.methodLink "LinesTouched$Keeper" (15 : Nat) ({ cls := "java/lang/Math", name := "max", desc := "(II)I" } : Jvm.MethodName)) ∈ lw_all := lw_g (lw_at lw_m3 39 rfl) rfl
theorem q892 : (Jvm.Cond.selects "LinesTouched$Keeper" ({ cls := "java/lang/Object", name := "hashCode", desc := "()I" } : Jvm.MethodName) ({ cls := "java/lang/Object", name := "hashCode", desc := "()I" } : Jvm.MethodName)) ∈ lw_all := lw_g (lw_at lw_m4 67 rfl) rfl
theorem q1109 : (Jvm.Cond.selects "LinesTouched$Keeper" ({ cls := "java/lang/Object", name := "getClass", desc := "()Ljava/lang/Class;" } : Jvm.MethodName) ({ cls := "java/lang/Object", name := "getClass", desc := "()Ljava/lang/Class;" } : Jvm.MethodName)) ∈ lw_all := lw_g (lw_at lw_m5 44 rfl) rfl
theorem q1355 : (Jvm.Cond.selects "LinesTouched$Keeper" ({ cls := "java/lang/Object", name := "equals", desc := "(Ljava/lang/Object;)Z" } : Jvm.MethodName) ({ cls := "java/lang/Object", name := "equals", desc := "(Ljava/lang/Object;)Z" } : Jvm.MethodName)) ∈ lw_all := lw_g (lw_at lw_m6 50 rfl) rfl
theorem q3106 : (Jvm.Cond.sameMethod "LinesTouched$Keeper" "LinesTouched$Keeper" "kind" "()I") ∈ lw_all := lw_g (lw_at lw_m13 121 rfl) rfl
theorem q3109 : (Jvm.Cond.sameMethod "LinesTouched$Keeper" "LinesTouched$Keeper" "cost" "(I)I") ∈ lw_all := lw_g (lw_at lw_m13 124 rfl) rfl
theorem q3122 : (Jvm.Cond.castable "LinesTouched$Keeper" "LinesTouched$Point") ∈ lw_tbl := lw_at lw_m13 137 rfl
theorem q3125 : (Jvm.Cond.castable "LinesTouched$Keeper" "LinesTouched$Toll") ∈ lw_tbl := lw_at lw_m13 140 rfl
theorem q3139 : (Jvm.Cond.castable "LinesTouched$Keeper" "java/lang/Object") ∈ lw_tbl := lw_at lw_m13 154 rfl
theorem in_X8 : ∀ w ∈ wsX80, w ∈ lw_all := lw_in wsX80 [530, 531] (by decide +kernel) (by decide +kernel)
/-! LinesTouched$Guild -/
set_option maxRecDepth 100000
def RX9 : String := "LinesTouched$Guild"
def TX9 : u_T := fun k => match k with
  | 0 => ("LinesTouched$Point", "number", "I", true)
  | _ => ("LinesTouched$Point", "weight", "I", true)
def tyX9 : Nat → FieldType := fun k => match k with
  | 0 => .int
  | _ => .int
abbrev wsX90 : List Cond := u_ws RX9 TX9 2
theorem nmX9 : ∀ a, a < 2 → ∀ b, b < 2 → a ≠ b → (TX9 a).2.1 ≠ (TX9 b).2.1 := by decide +kernel
theorem tyX9_ok : ∀ k, k < 2 → parseFieldDescriptor (TX9 k).2.2.1 = some (tyX9 k) := by decide +kernel
abbrev cX9_init : ByteArray := prog_10_method_1_code
def yX9_init : MethodName := ⟨RX9, "<init>", "(II)V"⟩
def dkwX9_init_0 : List UInt8 := [42, 27, 28, 183, 0, 1, 177]
abbrev dktX9_init_0 : List UInt8 := dkwX9_init_0 ++ []
theorem dksX9_init_0 : cX9_init.data.toList.drop 0 = dktX9_init_0 := by decide +kernel
theorem dX9_init_0 : decode cX9_init 0 = .ok (.aload_n 0, 1) := dk_42 (dk_at dksX9_init_0 0 rfl rfl)
theorem dX9_init_1 : decode cX9_init 1 = .ok (.iload_n 1, 1) := dk_27 (dk_at dksX9_init_0 1 rfl rfl)
theorem dX9_init_2 : decode cX9_init 2 = .ok (.iload_n 2, 1) := dk_28 (dk_at dksX9_init_0 2 rfl rfl)
theorem dX9_init_3 : decode cX9_init 3 = .ok (.invokespecial 1, 3) := dk_183 0 1 (dk_at dksX9_init_0 3 rfl rfl)
theorem dX9_init_6 : decode cX9_init 6 = .ok (.return_, 1) := dk_177 (dk_at dksX9_init_0 6 rfl rfl)
abbrev cX9_kind : ByteArray := prog_10_method_2_code
def yX9_kind : MethodName := ⟨RX9, "kind", "()I"⟩
def dkwX9_kind_0 : List UInt8 := [5, 42, 183, 0, 7, 96, 172]
abbrev dktX9_kind_0 : List UInt8 := dkwX9_kind_0 ++ []
theorem dksX9_kind_0 : cX9_kind.data.toList.drop 0 = dktX9_kind_0 := by decide +kernel
theorem dX9_kind_0 : decode cX9_kind 0 = .ok (.iconst 2, 1) := dk_5 (dk_at dksX9_kind_0 0 rfl rfl)
theorem dX9_kind_1 : decode cX9_kind 1 = .ok (.aload_n 0, 1) := dk_42 (dk_at dksX9_kind_0 1 rfl rfl)
theorem dX9_kind_2 : decode cX9_kind 2 = .ok (.invokespecial 7, 3) := dk_183 0 7 (dk_at dksX9_kind_0 2 rfl rfl)
theorem dX9_kind_5 : decode cX9_kind 5 = .ok (.iadd, 1) := dk_96 (dk_at dksX9_kind_0 5 rfl rfl)
theorem dX9_kind_6 : decode cX9_kind 6 = .ok (.ireturn, 1) := dk_172 (dk_at dksX9_kind_0 6 rfl rfl)
abbrev cX9_cost : ByteArray := prog_10_method_3_code
def yX9_cost : MethodName := ⟨RX9, "cost", "(I)I"⟩
def dkwX9_cost_0 : List UInt8 := [42, 27, 183, 0, 11, 42, 180, 0, 15, 96, 172]
abbrev dktX9_cost_0 : List UInt8 := dkwX9_cost_0 ++ []
theorem dksX9_cost_0 : cX9_cost.data.toList.drop 0 = dktX9_cost_0 := by decide +kernel
theorem dX9_cost_0 : decode cX9_cost 0 = .ok (.aload_n 0, 1) := dk_42 (dk_at dksX9_cost_0 0 rfl rfl)
theorem dX9_cost_1 : decode cX9_cost 1 = .ok (.iload_n 1, 1) := dk_27 (dk_at dksX9_cost_0 1 rfl rfl)
theorem dX9_cost_2 : decode cX9_cost 2 = .ok (.invokespecial 11, 3) := dk_183 0 11 (dk_at dksX9_cost_0 2 rfl rfl)
theorem dX9_cost_5 : decode cX9_cost 5 = .ok (.aload_n 0, 1) := dk_42 (dk_at dksX9_cost_0 5 rfl rfl)
theorem dX9_cost_6 : decode cX9_cost 6 = .ok (.getfield 15, 3) := dk_180 0 15 (dk_at dksX9_cost_0 6 rfl rfl)
theorem dX9_cost_9 : decode cX9_cost 9 = .ok (.iadd, 1) := dk_96 (dk_at dksX9_cost_0 9 rfl rfl)
theorem dX9_cost_10 : decode cX9_cost 10 = .ok (.ireturn, 1) := dk_172 (dk_at dksX9_cost_0 10 rfl rfl)
theorem q121 : (Jvm.Cond.initialized "LinesTouched$Guild") ∈ lw_all := lw_g (lw_at lw_m1 16 rfl) rfl
theorem q496 : (Jvm.Cond.fieldLink "LinesTouched$Guild" (15 : Nat) "LinesTouched$Guild" "number" "I") ∈ lw_all := lw_g (lw_at lw_m2 151 rfl) rfl
theorem q497 : (Jvm.Cond.sameField "LinesTouched$Guild" "LinesTouched$Point" "number" "I") ∈ lw_all := lw_g (lw_at lw_m2 152 rfl) rfl
theorem q534 : (Jvm.Cond.instantiable "LinesTouched$Guild" (2 : Nat)) ∈ lw_all := lw_g (lw_at lw_m2 189 rfl) rfl
theorem q536 : (Jvm.Cond.instanceMethod ({ cls := "LinesTouched$Guild", name := "<init>", desc := "(II)V" } : Jvm.MethodName)) ∈ lw_all := lw_g (lw_at lw_m2 191 rfl) rfl
theorem q537 : (Jvm.Cond.code ({ cls := "LinesTouched$Guild", name := "<init>", desc := "(II)V" } : Jvm.MethodName) prog_10_method_1_code (3 : Nat) (Option.none : Option Jvm.ClassFile.FieldType)) ∈ lw_all := lw_g (lw_at lw_m2 192 rfl) rfl
theorem q538 : (Jvm.Cond.methodLink "LinesTouched$Guild" (1 : Nat) ({ cls := "LinesTouched$Club", name := "<init>", desc := "(II)V" } : Jvm.MethodName)) ∈ lw_all := lw_g (lw_at lw_m2 193 rfl) rfl
theorem q539 : (Jvm.Cond.laysFinal "LinesTouched$Guild" "LinesTouched$Point" "number" "I") ∈ lw_all := lw_g (lw_at lw_m2 194 rfl) rfl
theorem q540 : (Jvm.Cond.laysFinal "LinesTouched$Guild" "LinesTouched$Point" "weight" "I") ∈ lw_all := lw_g (lw_at lw_m2 195 rfl) rfl
theorem q541 : (Jvm.Cond.superclass "LinesTouched$Guild" "LinesTouched$Club") ∈ lw_all := lw_g (lw_at lw_m2 196 rfl) rfl
theorem q584 : (Jvm.Cond.selects "LinesTouched$Guild" ({ cls := "LinesTouched$Point", name := "kind", desc := "()I" } : Jvm.MethodName) ({ cls := "LinesTouched$Guild", name := "kind", desc := "()I" } : Jvm.MethodName)) ∈ lw_all := lw_g (lw_at lw_m2 239 rfl) rfl
theorem q585 : (Jvm.Cond.instanceMethod ({ cls := "LinesTouched$Guild", name := "kind", desc := "()I" } : Jvm.MethodName)) ∈ lw_all := lw_g (lw_at lw_m3 0 rfl) rfl
theorem q586 : (Jvm.Cond.code ({ cls := "LinesTouched$Guild", name := "kind", desc := "()I" } : Jvm.MethodName) prog_10_method_2_code (1 : Nat) (Option.some Jvm.ClassFile.FieldType.int)) ∈ lw_all := lw_g (lw_at lw_m3 1 rfl) rfl
theorem q587 : (Jvm.Cond.methodLink "LinesTouched$Guild" (7 : Nat) ({ cls := "LinesTouched$Club", name := "kind", desc := "()I" } : Jvm.MethodName)) ∈ lw_all := lw_g (lw_at lw_m3 2 rfl) rfl
theorem q613 : (Jvm.Cond.selects "LinesTouched$Guild" ({ cls := "LinesTouched$Point", name := "cost", desc := "(I)I" } : Jvm.MethodName) ({ cls := "LinesTouched$Guild", name := "cost", desc := "(I)I" } : Jvm.MethodName)) ∈ lw_all := lw_g (lw_at lw_m3 28 rfl) rfl
theorem q614 : (Jvm.Cond.instanceMethod ({ cls := "LinesTouched$Guild", name := "cost", desc := "(I)I" } : Jvm.MethodName)) ∈ lw_all := lw_g (lw_at lw_m3 29 rfl) rfl
theorem q615 : (Jvm.Cond.code ({ cls := "LinesTouched$Guild", name := "cost", desc := "(I)I" } : Jvm.MethodName) prog_10_method_3_code (2 : Nat) (Option.some Jvm.ClassFile.FieldType.int)) ∈ lw_all := lw_g (lw_at lw_m3 30 rfl) rfl
theorem q616 : (Jvm.Cond.methodLink "LinesTouched$Guild" (11 : Nat) ({ cls := "LinesTouched$Club", name := "cost", desc := "(I)I" } : Jvm.MethodName)) ∈ lw_all := lw_g (lw_at lw_m3 31 rfl) rfl
theorem q891 : (Jvm.Cond.selects "LinesTouched$Guild" ({ cls := "java/lang/Object", name := "hashCode", desc := "()I" } : Jvm.MethodName) ({ cls := "java/lang/Object", name := "hashCode", desc := "()I" } : Jvm.MethodName)) ∈ lw_all := lw_g (lw_at lw_m4 66 rfl) rfl
theorem q1108 : (Jvm.Cond.selects "LinesTouched$Guild" ({ cls := "java/lang/Object", name := "getClass", desc := "()Ljava/lang/Class;" } : Jvm.MethodName) ({ cls := "java/lang/Object", name := "getClass", desc := "()Ljava/lang/Class;" } : Jvm.MethodName)) ∈ lw_all := lw_g (lw_at lw_m5 43 rfl) rfl
theorem q1354 : (Jvm.Cond.selects "LinesTouched$Guild" ({ cls := "java/lang/Object", name := "equals", desc := "(Ljava/lang/Object;)Z" } : Jvm.MethodName) ({ cls := "java/lang/Object", name := "equals", desc := "(Ljava/lang/Object;)Z" } : Jvm.MethodName)) ∈ lw_all := lw_g (lw_at lw_m6 49 rfl) rfl
theorem q3121 : (Jvm.Cond.castable "LinesTouched$Guild" "LinesTouched$Point") ∈ lw_tbl := lw_at lw_m13 136 rfl
theorem q3127 : (Jvm.Cond.castable "LinesTouched$Guild" "LinesTouched$Club") ∈ lw_tbl := lw_at lw_m13 142 rfl
theorem q3140 : (Jvm.Cond.castable "LinesTouched$Guild" "java/lang/Object") ∈ lw_tbl := lw_at lw_m13 155 rfl
theorem in_X9 : ∀ w ∈ wsX90, w ∈ lw_all := lw_in wsX90 [539, 540] (by decide +kernel) (by decide +kernel)
/-! LinesTouched$Warden -/
set_option maxRecDepth 100000
def RX10 : String := "LinesTouched$Warden"
def TX10 : u_T := fun k => match k with
  | 0 => ("LinesTouched$Point", "number", "I", true)
  | _ => ("LinesTouched$Point", "weight", "I", true)
def tyX10 : Nat → FieldType := fun k => match k with
  | 0 => .int
  | _ => .int
abbrev wsX100 : List Cond := u_ws RX10 TX10 2
theorem nmX10 : ∀ a, a < 2 → ∀ b, b < 2 → a ≠ b → (TX10 a).2.1 ≠ (TX10 b).2.1 := by decide +kernel
theorem tyX10_ok : ∀ k, k < 2 → parseFieldDescriptor (TX10 k).2.2.1 = some (tyX10 k) := by decide +kernel
abbrev cX10_init : ByteArray := prog_28_method_1_code
def yX10_init : MethodName := ⟨RX10, "<init>", "(II)V"⟩
def dkwX10_init_0 : List UInt8 := [42, 27, 28, 183, 0, 1, 177]
abbrev dktX10_init_0 : List UInt8 := dkwX10_init_0 ++ []
theorem dksX10_init_0 : cX10_init.data.toList.drop 0 = dktX10_init_0 := by decide +kernel
theorem dX10_init_0 : decode cX10_init 0 = .ok (.aload_n 0, 1) := dk_42 (dk_at dksX10_init_0 0 rfl rfl)
theorem dX10_init_1 : decode cX10_init 1 = .ok (.iload_n 1, 1) := dk_27 (dk_at dksX10_init_0 1 rfl rfl)
theorem dX10_init_2 : decode cX10_init 2 = .ok (.iload_n 2, 1) := dk_28 (dk_at dksX10_init_0 2 rfl rfl)
theorem dX10_init_3 : decode cX10_init 3 = .ok (.invokespecial 1, 3) := dk_183 0 1 (dk_at dksX10_init_0 3 rfl rfl)
theorem dX10_init_6 : decode cX10_init 6 = .ok (.return_, 1) := dk_177 (dk_at dksX10_init_0 6 rfl rfl)
abbrev cX10_kind : ByteArray := prog_28_method_2_code
def yX10_kind : MethodName := ⟨RX10, "kind", "()I"⟩
def dkwX10_kind_0 : List UInt8 := [5, 42, 183, 0, 7, 96, 172]
abbrev dktX10_kind_0 : List UInt8 := dkwX10_kind_0 ++ []
theorem dksX10_kind_0 : cX10_kind.data.toList.drop 0 = dktX10_kind_0 := by decide +kernel
theorem dX10_kind_0 : decode cX10_kind 0 = .ok (.iconst 2, 1) := dk_5 (dk_at dksX10_kind_0 0 rfl rfl)
theorem dX10_kind_1 : decode cX10_kind 1 = .ok (.aload_n 0, 1) := dk_42 (dk_at dksX10_kind_0 1 rfl rfl)
theorem dX10_kind_2 : decode cX10_kind 2 = .ok (.invokespecial 7, 3) := dk_183 0 7 (dk_at dksX10_kind_0 2 rfl rfl)
theorem dX10_kind_5 : decode cX10_kind 5 = .ok (.iadd, 1) := dk_96 (dk_at dksX10_kind_0 5 rfl rfl)
theorem dX10_kind_6 : decode cX10_kind 6 = .ok (.ireturn, 1) := dk_172 (dk_at dksX10_kind_0 6 rfl rfl)
abbrev cX10_cost : ByteArray := prog_28_method_3_code
def yX10_cost : MethodName := ⟨RX10, "cost", "(I)I"⟩
def dkwX10_cost_0 : List UInt8 := [42, 42, 27, 183, 0, 11, 182, 0, 15, 4, 96, 172]
abbrev dktX10_cost_0 : List UInt8 := dkwX10_cost_0 ++ []
theorem dksX10_cost_0 : cX10_cost.data.toList.drop 0 = dktX10_cost_0 := by decide +kernel
theorem dX10_cost_0 : decode cX10_cost 0 = .ok (.aload_n 0, 1) := dk_42 (dk_at dksX10_cost_0 0 rfl rfl)
theorem dX10_cost_1 : decode cX10_cost 1 = .ok (.aload_n 0, 1) := dk_42 (dk_at dksX10_cost_0 1 rfl rfl)
theorem dX10_cost_2 : decode cX10_cost 2 = .ok (.iload_n 1, 1) := dk_27 (dk_at dksX10_cost_0 2 rfl rfl)
theorem dX10_cost_3 : decode cX10_cost 3 = .ok (.invokespecial 11, 3) := dk_183 0 11 (dk_at dksX10_cost_0 3 rfl rfl)
theorem dX10_cost_6 : decode cX10_cost 6 = .ok (.invokevirtual 15, 3) := dk_182 0 15 (dk_at dksX10_cost_0 6 rfl rfl)
theorem dX10_cost_9 : decode cX10_cost 9 = .ok (.iconst 1, 1) := dk_4 (dk_at dksX10_cost_0 9 rfl rfl)
theorem dX10_cost_10 : decode cX10_cost 10 = .ok (.iadd, 1) := dk_96 (dk_at dksX10_cost_0 10 rfl rfl)
theorem dX10_cost_11 : decode cX10_cost 11 = .ok (.ireturn, 1) := dk_172 (dk_at dksX10_cost_0 11 rfl rfl)
theorem q122 : (Jvm.Cond.initialized "LinesTouched$Warden") ∈ lw_all := lw_g (lw_at lw_m1 17 rfl) rfl
theorem q543 : (Jvm.Cond.instantiable "LinesTouched$Warden" (2 : Nat)) ∈ lw_all := lw_g (lw_at lw_m2 198 rfl) rfl
theorem q545 : (Jvm.Cond.instanceMethod ({ cls := "LinesTouched$Warden", name := "<init>", desc := "(II)V" } : Jvm.MethodName)) ∈ lw_all := lw_g (lw_at lw_m2 200 rfl) rfl
theorem q546 : (Jvm.Cond.code ({ cls := "LinesTouched$Warden", name := "<init>", desc := "(II)V" } : Jvm.MethodName) prog_28_method_1_code (3 : Nat) (Option.none : Option Jvm.ClassFile.FieldType)) ∈ lw_all := lw_g (lw_at lw_m2 201 rfl) rfl
theorem q547 : (Jvm.Cond.methodLink "LinesTouched$Warden" (1 : Nat) ({ cls := "LinesTouched$Keeper", name := "<init>", desc := "(II)V" } : Jvm.MethodName)) ∈ lw_all := lw_g (lw_at lw_m2 202 rfl) rfl
theorem q548 : (Jvm.Cond.laysFinal "LinesTouched$Warden" "LinesTouched$Point" "number" "I") ∈ lw_all := lw_g (lw_at lw_m2 203 rfl) rfl
theorem q549 : (Jvm.Cond.laysFinal "LinesTouched$Warden" "LinesTouched$Point" "weight" "I") ∈ lw_all := lw_g (lw_at lw_m2 204 rfl) rfl
theorem q550 : (Jvm.Cond.superclass "LinesTouched$Warden" "LinesTouched$Keeper") ∈ lw_all := lw_g (lw_at lw_m2 205 rfl) rfl
theorem q595 : (Jvm.Cond.selects "LinesTouched$Warden" ({ cls := "LinesTouched$Point", name := "kind", desc := "()I" } : Jvm.MethodName) ({ cls := "LinesTouched$Warden", name := "kind", desc := "()I" } : Jvm.MethodName)) ∈ lw_all := lw_g (lw_at lw_m3 10 rfl) rfl
theorem q596 : (Jvm.Cond.instanceMethod ({ cls := "LinesTouched$Warden", name := "kind", desc := "()I" } : Jvm.MethodName)) ∈ lw_all := lw_g (lw_at lw_m3 11 rfl) rfl
theorem q597 : (Jvm.Cond.code ({ cls := "LinesTouched$Warden", name := "kind", desc := "()I" } : Jvm.MethodName) prog_28_method_2_code (1 : Nat) (Option.some Jvm.ClassFile.FieldType.int)) ∈ lw_all := lw_g (lw_at lw_m3 12 rfl) rfl
theorem q598 : (Jvm.Cond.methodLink "LinesTouched$Warden" (7 : Nat) ({ cls := "LinesTouched$Keeper", name := "kind", desc := "()I" } : Jvm.MethodName)) ∈ lw_all := lw_g (lw_at lw_m3 13 rfl) rfl
theorem q628 : (Jvm.Cond.selects "LinesTouched$Warden" ({ cls := "LinesTouched$Point", name := "cost", desc := "(I)I" } : Jvm.MethodName) ({ cls := "LinesTouched$Warden", name := "cost", desc := "(I)I" } : Jvm.MethodName)) ∈ lw_all := lw_g (lw_at lw_m3 43 rfl) rfl
theorem q629 : (Jvm.Cond.instanceMethod ({ cls := "LinesTouched$Warden", name := "cost", desc := "(I)I" } : Jvm.MethodName)) ∈ lw_all := lw_g (lw_at lw_m3 44 rfl) rfl
theorem q630 : (Jvm.Cond.code ({ cls := "LinesTouched$Warden", name := "cost", desc := "(I)I" } : Jvm.MethodName) prog_28_method_3_code (2 : Nat) (Option.some Jvm.ClassFile.FieldType.int)) ∈ lw_all := lw_g (lw_at lw_m3 45 rfl) rfl
theorem q631 : (Jvm.Cond.methodLink "LinesTouched$Warden" (11 : Nat) ({ cls := "LinesTouched$Keeper", name := "cost", desc := "(I)I" } : Jvm.MethodName)) ∈ lw_all := lw_g (lw_at lw_m3 46 rfl) rfl
theorem q633 : (Jvm.Cond.unhidden "LinesTouched$Warden" "halved" "(I)I") ∈ lw_tbl := lw_at lw_m3 48 rfl
theorem q911 : (Jvm.Cond.selects "LinesTouched$Warden" ({ cls := "java/lang/Object", name := "hashCode", desc := "()I" } : Jvm.MethodName) ({ cls := "java/lang/Object", name := "hashCode", desc := "()I" } : Jvm.MethodName)) ∈ lw_all := lw_g (lw_at lw_m4 86 rfl) rfl
theorem q1122 : (Jvm.Cond.selects "LinesTouched$Warden" ({ cls := "java/lang/Object", name := "getClass", desc := "()Ljava/lang/Class;" } : Jvm.MethodName) ({ cls := "java/lang/Object", name := "getClass", desc := "()Ljava/lang/Class;" } : Jvm.MethodName)) ∈ lw_all := lw_g (lw_at lw_m5 57 rfl) rfl
theorem q1371 : (Jvm.Cond.selects "LinesTouched$Warden" ({ cls := "java/lang/Object", name := "equals", desc := "(Ljava/lang/Object;)Z" } : Jvm.MethodName) ({ cls := "java/lang/Object", name := "equals", desc := "(Ljava/lang/Object;)Z" } : Jvm.MethodName)) ∈ lw_all := lw_g (lw_at lw_m6 66 rfl) rfl
theorem q3124 : (Jvm.Cond.castable "LinesTouched$Warden" "LinesTouched$Point") ∈ lw_tbl := lw_at lw_m13 139 rfl
theorem q3126 : (Jvm.Cond.castable "LinesTouched$Warden" "LinesTouched$Toll") ∈ lw_tbl := lw_at lw_m13 141 rfl
theorem q3128 : (Jvm.Cond.castable "LinesTouched$Warden" "LinesTouched$Keeper") ∈ lw_tbl := lw_at lw_m13 143 rfl
theorem q3141 : (Jvm.Cond.castable "LinesTouched$Warden" "java/lang/Object") ∈ lw_tbl := lw_at lw_m13 156 rfl
theorem in_X10 : ∀ w ∈ wsX100, w ∈ lw_all := lw_in wsX100 [548, 549] (by decide +kernel) (by decide +kernel)
/-! LinesTouched$Walk -/
set_option maxRecDepth 100000
def RX11 : String := "LinesTouched$Walk"
abbrev cX11_init : ByteArray := prog_27_method_1_code
def yX11_init : MethodName := ⟨RX11, "<init>", "(LLinesTouched$Net;)V"⟩
def dkwX11_init_0 : List UInt8 := [42, 183, 0, 1, 42, 43, 181, 0, 7, 177]
abbrev dktX11_init_0 : List UInt8 := dkwX11_init_0 ++ []
theorem dksX11_init_0 : cX11_init.data.toList.drop 0 = dktX11_init_0 := by decide +kernel
theorem dX11_init_0 : decode cX11_init 0 = .ok (.aload_n 0, 1) := dk_42 (dk_at dksX11_init_0 0 rfl rfl)
theorem dX11_init_1 : decode cX11_init 1 = .ok (.invokespecial 1, 3) := dk_183 0 1 (dk_at dksX11_init_0 1 rfl rfl)
theorem dX11_init_4 : decode cX11_init 4 = .ok (.aload_n 0, 1) := dk_42 (dk_at dksX11_init_0 4 rfl rfl)
theorem dX11_init_5 : decode cX11_init 5 = .ok (.aload_n 1, 1) := dk_43 (dk_at dksX11_init_0 5 rfl rfl)
theorem dX11_init_6 : decode cX11_init 6 = .ok (.putfield 7, 3) := dk_181 0 7 (dk_at dksX11_init_0 6 rfl rfl)
theorem dX11_init_9 : decode cX11_init 9 = .ok (.return_, 1) := dk_177 (dk_at dksX11_init_0 9 rfl rfl)
abbrev cX11_starts : ByteArray := prog_27_method_4_code
def yX11_starts : MethodName := ⟨RX11, "starts", "()V"⟩
def dkwX11_starts_0 : List UInt8 := [42, 3, 3, 3, 182, 0, 33, 177]
abbrev dktX11_starts_0 : List UInt8 := dkwX11_starts_0 ++ []
theorem dksX11_starts_0 : cX11_starts.data.toList.drop 0 = dktX11_starts_0 := by decide +kernel
theorem dX11_starts_0 : decode cX11_starts 0 = .ok (.aload_n 0, 1) := dk_42 (dk_at dksX11_starts_0 0 rfl rfl)
theorem dX11_starts_1 : decode cX11_starts 1 = .ok (.iconst 0, 1) := dk_3 (dk_at dksX11_starts_0 1 rfl rfl)
theorem dX11_starts_2 : decode cX11_starts 2 = .ok (.iconst 0, 1) := dk_3 (dk_at dksX11_starts_0 2 rfl rfl)
theorem dX11_starts_3 : decode cX11_starts 3 = .ok (.iconst 0, 1) := dk_3 (dk_at dksX11_starts_0 3 rfl rfl)
theorem dX11_starts_4 : decode cX11_starts 4 = .ok (.invokevirtual 33, 3) := dk_182 0 33 (dk_at dksX11_starts_0 4 rfl rfl)
theorem dX11_starts_7 : decode cX11_starts 7 = .ok (.return_, 1) := dk_177 (dk_at dksX11_starts_0 7 rfl rfl)
abbrev cX11_goes : ByteArray := prog_27_method_3_code
def yX11_goes : MethodName := ⟨RX11, "goes", "(III)V"⟩
def dkwX11_goes_2 : List UInt8 := [4, 96, 28, 4, 27, 120, 128, 29, 182, 0, 33, 177]
abbrev dktX11_goes_2 : List UInt8 := dkwX11_goes_2 ++ []
def dkwX11_goes_1 : List UInt8 := [154, 0, 22, 42, 27, 4, 96, 28, 29, 42, 180, 0, 7, 180, 0, 29, 27, 46, 128, 182, 0, 33, 42, 27]
abbrev dktX11_goes_1 : List UInt8 := dkwX11_goes_1 ++ dktX11_goes_2
def dkwX11_goes_0 : List UInt8 := [27, 42, 180, 0, 7, 180, 0, 13, 160, 0, 9, 42, 28, 182, 0, 19, 177, 29, 27, 184, 0, 23]
abbrev dktX11_goes_0 : List UInt8 := dkwX11_goes_0 ++ dktX11_goes_1
theorem dksX11_goes_0 : cX11_goes.data.toList.drop 0 = dktX11_goes_0 := by decide +kernel
theorem dksX11_goes_1 : cX11_goes.data.toList.drop 22 = dktX11_goes_1 := dk_seg dksX11_goes_0 22 rfl rfl
theorem dksX11_goes_2 : cX11_goes.data.toList.drop 46 = dktX11_goes_2 := dk_seg dksX11_goes_1 24 rfl rfl
theorem dX11_goes_0 : decode cX11_goes 0 = .ok (.iload_n 1, 1) := dk_27 (dk_at dksX11_goes_0 0 rfl rfl)
theorem dX11_goes_1 : decode cX11_goes 1 = .ok (.aload_n 0, 1) := dk_42 (dk_at dksX11_goes_0 1 rfl rfl)
theorem dX11_goes_2 : decode cX11_goes 2 = .ok (.getfield 7, 3) := dk_180 0 7 (dk_at dksX11_goes_0 2 rfl rfl)
theorem dX11_goes_5 : decode cX11_goes 5 = .ok (.getfield 13, 3) := dk_180 0 13 (dk_at dksX11_goes_0 5 rfl rfl)
theorem dX11_goes_8 : decode cX11_goes 8 = .ok (.if_icmp .ne 9, 3) := dk_160 0 9 (dk_at dksX11_goes_0 8 rfl rfl)
theorem dX11_goes_11 : decode cX11_goes 11 = .ok (.aload_n 0, 1) := dk_42 (dk_at dksX11_goes_0 11 rfl rfl)
theorem dX11_goes_12 : decode cX11_goes 12 = .ok (.iload_n 2, 1) := dk_28 (dk_at dksX11_goes_0 12 rfl rfl)
theorem dX11_goes_13 : decode cX11_goes 13 = .ok (.invokevirtual 19, 3) := dk_182 0 19 (dk_at dksX11_goes_0 13 rfl rfl)
theorem dX11_goes_16 : decode cX11_goes 16 = .ok (.return_, 1) := dk_177 (dk_at dksX11_goes_0 16 rfl rfl)
theorem dX11_goes_17 : decode cX11_goes 17 = .ok (.iload_n 3, 1) := dk_29 (dk_at dksX11_goes_0 17 rfl rfl)
theorem dX11_goes_18 : decode cX11_goes 18 = .ok (.iload_n 1, 1) := dk_27 (dk_at dksX11_goes_0 18 rfl rfl)
theorem dX11_goes_19 : decode cX11_goes 19 = .ok (.invokestatic 23, 3) := dk_184 0 23 (dk_at dksX11_goes_0 19 rfl rfl)
theorem dX11_goes_22 : decode cX11_goes 22 = .ok (.ifCond .ne 22, 3) := dk_154 0 22 (dk_at dksX11_goes_1 0 rfl rfl)
theorem dX11_goes_25 : decode cX11_goes 25 = .ok (.aload_n 0, 1) := dk_42 (dk_at dksX11_goes_1 3 rfl rfl)
theorem dX11_goes_26 : decode cX11_goes 26 = .ok (.iload_n 1, 1) := dk_27 (dk_at dksX11_goes_1 4 rfl rfl)
theorem dX11_goes_27 : decode cX11_goes 27 = .ok (.iconst 1, 1) := dk_4 (dk_at dksX11_goes_1 5 rfl rfl)
theorem dX11_goes_28 : decode cX11_goes 28 = .ok (.iadd, 1) := dk_96 (dk_at dksX11_goes_1 6 rfl rfl)
theorem dX11_goes_29 : decode cX11_goes 29 = .ok (.iload_n 2, 1) := dk_28 (dk_at dksX11_goes_1 7 rfl rfl)
theorem dX11_goes_30 : decode cX11_goes 30 = .ok (.iload_n 3, 1) := dk_29 (dk_at dksX11_goes_1 8 rfl rfl)
theorem dX11_goes_31 : decode cX11_goes 31 = .ok (.aload_n 0, 1) := dk_42 (dk_at dksX11_goes_1 9 rfl rfl)
theorem dX11_goes_32 : decode cX11_goes 32 = .ok (.getfield 7, 3) := dk_180 0 7 (dk_at dksX11_goes_1 10 rfl rfl)
theorem dX11_goes_35 : decode cX11_goes 35 = .ok (.getfield 29, 3) := dk_180 0 29 (dk_at dksX11_goes_1 13 rfl rfl)
theorem dX11_goes_38 : decode cX11_goes 38 = .ok (.iload_n 1, 1) := dk_27 (dk_at dksX11_goes_1 16 rfl rfl)
theorem dX11_goes_39 : decode cX11_goes 39 = .ok (.iaload, 1) := dk_46 (dk_at dksX11_goes_1 17 rfl rfl)
theorem dX11_goes_40 : decode cX11_goes 40 = .ok (.ior, 1) := dk_128 (dk_at dksX11_goes_1 18 rfl rfl)
theorem dX11_goes_41 : decode cX11_goes 41 = .ok (.invokevirtual 33, 3) := dk_182 0 33 (dk_at dksX11_goes_1 19 rfl rfl)
theorem dX11_goes_44 : decode cX11_goes 44 = .ok (.aload_n 0, 1) := dk_42 (dk_at dksX11_goes_1 22 rfl rfl)
theorem dX11_goes_45 : decode cX11_goes 45 = .ok (.iload_n 1, 1) := dk_27 (dk_at dksX11_goes_1 23 rfl rfl)
theorem dX11_goes_46 : decode cX11_goes 46 = .ok (.iconst 1, 1) := dk_4 (dk_at dksX11_goes_2 0 rfl rfl)
theorem dX11_goes_47 : decode cX11_goes 47 = .ok (.iadd, 1) := dk_96 (dk_at dksX11_goes_2 1 rfl rfl)
theorem dX11_goes_48 : decode cX11_goes 48 = .ok (.iload_n 2, 1) := dk_28 (dk_at dksX11_goes_2 2 rfl rfl)
theorem dX11_goes_49 : decode cX11_goes 49 = .ok (.iconst 1, 1) := dk_4 (dk_at dksX11_goes_2 3 rfl rfl)
theorem dX11_goes_50 : decode cX11_goes 50 = .ok (.iload_n 1, 1) := dk_27 (dk_at dksX11_goes_2 4 rfl rfl)
theorem dX11_goes_51 : decode cX11_goes 51 = .ok (.ishl, 1) := dk_120 (dk_at dksX11_goes_2 5 rfl rfl)
theorem dX11_goes_52 : decode cX11_goes 52 = .ok (.ior, 1) := dk_128 (dk_at dksX11_goes_2 6 rfl rfl)
theorem dX11_goes_53 : decode cX11_goes 53 = .ok (.iload_n 3, 1) := dk_29 (dk_at dksX11_goes_2 7 rfl rfl)
theorem dX11_goes_54 : decode cX11_goes 54 = .ok (.invokevirtual 33, 3) := dk_182 0 33 (dk_at dksX11_goes_2 8 rfl rfl)
theorem dX11_goes_57 : decode cX11_goes 57 = .ok (.return_, 1) := dk_177 (dk_at dksX11_goes_2 11 rfl rfl)
theorem q124 : (Jvm.Cond.initialized "LinesTouched$Walk") ∈ lw_all := lw_g (lw_at lw_m1 19 rfl) rfl
theorem q188 : (Jvm.Cond.fieldLinkNest "LinesTouched$Walk" (29 : Nat) "LinesTouched$Net" "next" "[I" "LinesTouched") ∈ lw_tbl := lw_at lw_m1 83 rfl
theorem q191 : (Jvm.Cond.fieldLinkNest "LinesTouched$Walk" (13 : Nat) "LinesTouched$Net" "points" "I" "LinesTouched") ∈ lw_tbl := lw_at lw_m1 86 rfl
theorem q707 : (Jvm.Cond.instanceMethod ({ cls := "LinesTouched$Walk", name := "<init>", desc := "(LLinesTouched$Net;)V" } : Jvm.MethodName)) ∈ lw_all := lw_g (lw_at lw_m3 122 rfl) rfl
theorem q708 : (Jvm.Cond.code ({ cls := "LinesTouched$Walk", name := "<init>", desc := "(LLinesTouched$Net;)V" } : Jvm.MethodName) prog_27_method_1_code (2 : Nat) (Option.none : Option Jvm.ClassFile.FieldType)) ∈ lw_all := lw_g (lw_at lw_m3 123 rfl) rfl
theorem q709 : (Jvm.Cond.methodLink "LinesTouched$Walk" (1 : Nat) ({ cls := "java/lang/Object", name := "<init>", desc := "()V" } : Jvm.MethodName)) ∈ lw_all := lw_g (lw_at lw_m3 124 rfl) rfl
theorem q726 : (Jvm.Cond.fieldLink "LinesTouched$Walk" (7 : Nat) "LinesTouched$Walk" "net" "LLinesTouched$Net;") ∈ lw_all := lw_g (lw_at lw_m3 141 rfl) rfl
theorem q744 : (Jvm.Cond.soleField "LinesTouched$Walk" "net") ∈ lw_all := lw_g (lw_at lw_m3 159 rfl) rfl
theorem q748 : (Jvm.Cond.declares ({ cls := "LinesTouched$Walk", name := "starts", desc := "()V" } : Jvm.MethodName)) ∈ lw_tbl := lw_at lw_m3 163 rfl
theorem q750 : (Jvm.Cond.instanceMethod ({ cls := "LinesTouched$Walk", name := "starts", desc := "()V" } : Jvm.MethodName)) ∈ lw_all := lw_g (lw_at lw_m3 165 rfl) rfl
theorem q751 : (Jvm.Cond.code ({ cls := "LinesTouched$Walk", name := "starts", desc := "()V" } : Jvm.MethodName) prog_27_method_4_code (1 : Nat) (Option.none : Option Jvm.ClassFile.FieldType)) ∈ lw_all := lw_g (lw_at lw_m3 166 rfl) rfl
theorem q752 : (Jvm.Cond.methodLink "LinesTouched$Walk" (33 : Nat) ({ cls := "LinesTouched$Walk", name := "goes", desc := "(III)V" } : Jvm.MethodName)) ∈ lw_all := lw_g (lw_at lw_m3 167 rfl) rfl
theorem q753 : (Jvm.Cond.instanceMethod ({ cls := "LinesTouched$Walk", name := "goes", desc := "(III)V" } : Jvm.MethodName)) ∈ lw_all := lw_g (lw_at lw_m3 168 rfl) rfl
theorem q754 : (Jvm.Cond.sameMethod "LinesTouched$Walk" "LinesTouched$Walk" "goes" "(III)V") ∈ lw_all := lw_g (lw_at lw_m3 169 rfl) rfl
theorem q757 : (Jvm.Cond.code ({ cls := "LinesTouched$Walk", name := "goes", desc := "(III)V" } : Jvm.MethodName) prog_27_method_3_code (4 : Nat) (Option.none : Option Jvm.ClassFile.FieldType)) ∈ lw_all := lw_g (lw_at lw_m3 172 rfl) rfl
theorem q758 : (Jvm.Cond.methodLink "LinesTouched$Walk" (19 : Nat) ({ cls := "LinesTouched$Walk", name := "meets", desc := "(I)V" } : Jvm.MethodName)) ∈ lw_all := lw_g (lw_at lw_m3 173 rfl) rfl
theorem q759 : (Jvm.Cond.declares ({ cls := "LinesTouched$Walk", name := "meets", desc := "(I)V" } : Jvm.MethodName)) ∈ lw_tbl := lw_at lw_m3 174 rfl
theorem q760 : (Jvm.Cond.sameMethod "LinesTouched$Walk" "LinesTouched$Walk" "meets" "(I)V") ∈ lw_all := lw_g (lw_at lw_m3 175 rfl) rfl
theorem q784 : (Jvm.Cond.methodLinkNest "LinesTouched$Walk" (23 : Nat) ({ cls := "LinesTouched", name := "has", desc := "(II)Z" } : Jvm.MethodName) "LinesTouched") ∈ lw_tbl := lw_at lw_m3 199 rfl
/-! LinesTouched$Counting -/
set_option maxRecDepth 100000
def RX12 : String := "LinesTouched$Counting"
abbrev cX12_init : ByteArray := prog_6_method_1_code
def yX12_init : MethodName := ⟨RX12, "<init>", "(LLinesTouched$Net;)V"⟩
def dkwX12_init_0 : List UInt8 := [42, 43, 183, 0, 3, 42, 16, 13, 188, 10, 181, 0, 9, 177]
abbrev dktX12_init_0 : List UInt8 := dkwX12_init_0 ++ []
theorem dksX12_init_0 : cX12_init.data.toList.drop 0 = dktX12_init_0 := by decide +kernel
theorem dX12_init_0 : decode cX12_init 0 = .ok (.aload_n 0, 1) := dk_42 (dk_at dksX12_init_0 0 rfl rfl)
theorem dX12_init_1 : decode cX12_init 1 = .ok (.aload_n 1, 1) := dk_43 (dk_at dksX12_init_0 1 rfl rfl)
theorem dX12_init_2 : decode cX12_init 2 = .ok (.invokespecial 3, 3) := dk_183 0 3 (dk_at dksX12_init_0 2 rfl rfl)
theorem dX12_init_5 : decode cX12_init 5 = .ok (.aload_n 0, 1) := dk_42 (dk_at dksX12_init_0 5 rfl rfl)
theorem dX12_init_6 : decode cX12_init 6 = .ok (.bipush 13, 2) := dk_16 13 (dk_at dksX12_init_0 6 rfl rfl)
theorem dX12_init_8 : decode cX12_init 8 = .ok (.newarray .int, 2) := dk_188_10 (dk_at dksX12_init_0 8 rfl rfl)
theorem dX12_init_10 : decode cX12_init 10 = .ok (.putfield 9, 3) := dk_181 0 9 (dk_at dksX12_init_0 10 rfl rfl)
theorem dX12_init_13 : decode cX12_init 13 = .ok (.return_, 1) := dk_177 (dk_at dksX12_init_0 13 rfl rfl)
abbrev cX12_meets : ByteArray := prog_6_method_2_code
def yX12_meets : MethodName := ⟨RX12, "meets", "(I)V"⟩
def dkwX12_meets_0 : List UInt8 := [42, 180, 0, 9, 27, 184, 0, 15, 92, 46, 4, 96, 79, 42, 89, 180, 0, 19, 4, 96, 181, 0, 19, 177]
abbrev dktX12_meets_0 : List UInt8 := dkwX12_meets_0 ++ []
theorem dksX12_meets_0 : cX12_meets.data.toList.drop 0 = dktX12_meets_0 := by decide +kernel
theorem dX12_meets_0 : decode cX12_meets 0 = .ok (.aload_n 0, 1) := dk_42 (dk_at dksX12_meets_0 0 rfl rfl)
theorem dX12_meets_1 : decode cX12_meets 1 = .ok (.getfield 9, 3) := dk_180 0 9 (dk_at dksX12_meets_0 1 rfl rfl)
theorem dX12_meets_4 : decode cX12_meets 4 = .ok (.iload_n 1, 1) := dk_27 (dk_at dksX12_meets_0 4 rfl rfl)
theorem dX12_meets_5 : decode cX12_meets 5 = .ok (.invokestatic 15, 3) := dk_184 0 15 (dk_at dksX12_meets_0 5 rfl rfl)
theorem dX12_meets_8 : decode cX12_meets 8 = .ok (.dup2, 1) := dk_92 (dk_at dksX12_meets_0 8 rfl rfl)
theorem dX12_meets_9 : decode cX12_meets 9 = .ok (.iaload, 1) := dk_46 (dk_at dksX12_meets_0 9 rfl rfl)
theorem dX12_meets_10 : decode cX12_meets 10 = .ok (.iconst 1, 1) := dk_4 (dk_at dksX12_meets_0 10 rfl rfl)
theorem dX12_meets_11 : decode cX12_meets 11 = .ok (.iadd, 1) := dk_96 (dk_at dksX12_meets_0 11 rfl rfl)
theorem dX12_meets_12 : decode cX12_meets 12 = .ok (.iastore, 1) := dk_79 (dk_at dksX12_meets_0 12 rfl rfl)
theorem dX12_meets_13 : decode cX12_meets 13 = .ok (.aload_n 0, 1) := dk_42 (dk_at dksX12_meets_0 13 rfl rfl)
theorem dX12_meets_14 : decode cX12_meets 14 = .ok (.dup, 1) := dk_89 (dk_at dksX12_meets_0 14 rfl rfl)
theorem dX12_meets_15 : decode cX12_meets 15 = .ok (.getfield 19, 3) := dk_180 0 19 (dk_at dksX12_meets_0 15 rfl rfl)
theorem dX12_meets_18 : decode cX12_meets 18 = .ok (.iconst 1, 1) := dk_4 (dk_at dksX12_meets_0 18 rfl rfl)
theorem dX12_meets_19 : decode cX12_meets 19 = .ok (.iadd, 1) := dk_96 (dk_at dksX12_meets_0 19 rfl rfl)
theorem dX12_meets_20 : decode cX12_meets 20 = .ok (.putfield 19, 3) := dk_181 0 19 (dk_at dksX12_meets_0 20 rfl rfl)
theorem dX12_meets_23 : decode cX12_meets 23 = .ok (.return_, 1) := dk_177 (dk_at dksX12_meets_0 23 rfl rfl)
theorem q125 : (Jvm.Cond.initialized "LinesTouched$Counting") ∈ lw_all := lw_g (lw_at lw_m1 20 rfl) rfl
theorem q704 : (Jvm.Cond.instanceMethod ({ cls := "LinesTouched$Counting", name := "<init>", desc := "(LLinesTouched$Net;)V" } : Jvm.MethodName)) ∈ lw_all := lw_g (lw_at lw_m3 119 rfl) rfl
theorem q705 : (Jvm.Cond.code ({ cls := "LinesTouched$Counting", name := "<init>", desc := "(LLinesTouched$Net;)V" } : Jvm.MethodName) prog_6_method_1_code (2 : Nat) (Option.none : Option Jvm.ClassFile.FieldType)) ∈ lw_all := lw_g (lw_at lw_m3 120 rfl) rfl
theorem q706 : (Jvm.Cond.methodLink "LinesTouched$Counting" (3 : Nat) ({ cls := "LinesTouched$Walk", name := "<init>", desc := "(LLinesTouched$Net;)V" } : Jvm.MethodName)) ∈ lw_all := lw_g (lw_at lw_m3 121 rfl) rfl
theorem q722 : (Jvm.Cond.fieldLink "LinesTouched$Counting" (9 : Nat) "LinesTouched$Counting" "sized" "[I") ∈ lw_all := lw_g (lw_at lw_m3 137 rfl) rfl
theorem q724 : (Jvm.Cond.fieldLink "LinesTouched$Counting" (19 : Nat) "LinesTouched$Counting" "many" "I") ∈ lw_all := lw_g (lw_at lw_m3 139 rfl) rfl
theorem q740 : (Jvm.Cond.soleField "LinesTouched$Counting" "sized") ∈ lw_all := lw_g (lw_at lw_m3 155 rfl) rfl
theorem q742 : (Jvm.Cond.soleField "LinesTouched$Counting" "many") ∈ lw_all := lw_g (lw_at lw_m3 157 rfl) rfl
theorem q765 : (Jvm.Cond.instanceMethod ({ cls := "LinesTouched$Counting", name := "meets", desc := "(I)V" } : Jvm.MethodName)) ∈ lw_all := lw_g (lw_at lw_m3 180 rfl) rfl
theorem q766 : (Jvm.Cond.code ({ cls := "LinesTouched$Counting", name := "meets", desc := "(I)V" } : Jvm.MethodName) prog_6_method_2_code (2 : Nat) (Option.none : Option Jvm.ClassFile.FieldType)) ∈ lw_all := lw_g (lw_at lw_m3 181 rfl) rfl
theorem q767 : (Jvm.Cond.methodLinkNest "LinesTouched$Counting" (15 : Nat) ({ cls := "LinesTouched", name := "ones", desc := "(I)I" } : Jvm.MethodName) "LinesTouched") ∈ lw_tbl := lw_at lw_m3 182 rfl
theorem q815 : (Jvm.Cond.sameMethod "LinesTouched$Counting" "LinesTouched$Walk" "starts" "()V") ∈ lw_all := lw_g (lw_at lw_m3 230 rfl) rfl
theorem q3110 : (Jvm.Cond.sameMethod "LinesTouched$Counting" "LinesTouched$Counting" "meets" "(I)V") ∈ lw_all := lw_g (lw_at lw_m13 125 rfl) rfl
/-! LinesTouched$Cheapest -/
set_option maxRecDepth 100000
def RX13 : String := "LinesTouched$Cheapest"
def TX13 : u_T := fun k => match k with
  | 0 => ("LinesTouched$Counting", "sized", "[I", true)
  | 1 => ("LinesTouched$Counting", "many", "I", false)
  | 2 => ("LinesTouched$Walk", "net", "LLinesTouched$Net;", true)
  | 3 => ("LinesTouched$Cheapest", "worth", "LLinesTouched$Worth;", true)
  | 4 => ("LinesTouched$Cheapest", "least", "I", false)
  | 5 => ("LinesTouched$Cheapest", "first", "I", false)
  | 6 => ("LinesTouched$Cheapest", "ways", "I", false)
  | 7 => ("LinesTouched$Cheapest", "inAll", "I", false)
  | _ => ("LinesTouched$Cheapest", "inAny", "I", false)
def tyX13 : Nat → FieldType := fun k => match k with
  | 0 => .array .int
  | 1 => .int
  | 2 => .object "LinesTouched$Net"
  | 3 => .object "LinesTouched$Worth"
  | 4 => .int
  | 5 => .int
  | 6 => .int
  | 7 => .int
  | _ => .int
abbrev wsX130 : List Cond := u_ws RX13 TX13 9
theorem nmX13 : ∀ a, a < 9 → ∀ b, b < 9 → a ≠ b → (TX13 a).2.1 ≠ (TX13 b).2.1 := by decide +kernel
theorem tyX13_ok : ∀ k, k < 9 → parseFieldDescriptor (TX13 k).2.2.1 = some (tyX13 k) := by decide +kernel
abbrev cX13_init : ByteArray := prog_2_method_1_code
def yX13_init : MethodName := ⟨RX13, "<init>", "(LLinesTouched$Net;LLinesTouched$Worth;)V"⟩
def dkwX13_init_0 : List UInt8 := [42, 43, 183, 0, 1, 42, 18, 9, 181, 0, 10, 42, 44, 181, 0, 16, 177]
abbrev dktX13_init_0 : List UInt8 := dkwX13_init_0 ++ []
theorem dksX13_init_0 : cX13_init.data.toList.drop 0 = dktX13_init_0 := by decide +kernel
theorem dX13_init_0 : decode cX13_init 0 = .ok (.aload_n 0, 1) := dk_42 (dk_at dksX13_init_0 0 rfl rfl)
theorem dX13_init_1 : decode cX13_init 1 = .ok (.aload_n 1, 1) := dk_43 (dk_at dksX13_init_0 1 rfl rfl)
theorem dX13_init_2 : decode cX13_init 2 = .ok (.invokespecial 1, 3) := dk_183 0 1 (dk_at dksX13_init_0 2 rfl rfl)
theorem dX13_init_5 : decode cX13_init 5 = .ok (.aload_n 0, 1) := dk_42 (dk_at dksX13_init_0 5 rfl rfl)
theorem dX13_init_6 : decode cX13_init 6 = .ok (.ldc 9, 2) := dk_18 9 (dk_at dksX13_init_0 6 rfl rfl)
theorem dX13_init_8 : decode cX13_init 8 = .ok (.putfield 10, 3) := dk_181 0 10 (dk_at dksX13_init_0 8 rfl rfl)
theorem dX13_init_11 : decode cX13_init 11 = .ok (.aload_n 0, 1) := dk_42 (dk_at dksX13_init_0 11 rfl rfl)
theorem dX13_init_12 : decode cX13_init 12 = .ok (.aload_n 2, 1) := dk_44 (dk_at dksX13_init_0 12 rfl rfl)
theorem dX13_init_13 : decode cX13_init 13 = .ok (.putfield 16, 3) := dk_181 0 16 (dk_at dksX13_init_0 13 rfl rfl)
theorem dX13_init_16 : decode cX13_init 16 = .ok (.return_, 1) := dk_177 (dk_at dksX13_init_0 16 rfl rfl)
abbrev cX13_meets : ByteArray := prog_2_method_2_code
def yX13_meets : MethodName := ⟨RX13, "meets", "(I)V"⟩
def dkwX13_meets_4 : List UInt8 := [42, 29, 153, 0, 7, 27, 167, 0, 9, 42, 180, 0, 45, 27, 128, 181, 0, 45, 42, 28, 181, 0, 10, 177]
abbrev dktX13_meets_4 : List UInt8 := dkwX13_meets_4 ++ []
def dkwX13_meets_3 : List UInt8 := [184, 0, 36, 181, 0, 33, 42, 29, 153, 0, 7, 27, 167, 0, 9, 42, 180, 0, 42, 27, 126, 181, 0, 42]
abbrev dktX13_meets_3 : List UInt8 := dkwX13_meets_3 ++ dktX13_meets_4
def dkwX13_meets_2 : List UInt8 := [42, 180, 0, 30, 4, 96, 181, 0, 30, 42, 29, 153, 0, 7, 27, 167, 0, 11, 42, 180, 0, 33, 27]
abbrev dktX13_meets_2 : List UInt8 := dkwX13_meets_2 ++ dktX13_meets_3
def dkwX13_meets_1 : List UInt8 := [177, 28, 42, 180, 0, 10, 162, 0, 7, 4, 167, 0, 4, 3, 62, 42, 29, 153, 0, 7, 4, 167, 0, 9]
abbrev dktX13_meets_1 : List UInt8 := dkwX13_meets_1 ++ dktX13_meets_2
def dkwX13_meets_0 : List UInt8 := [42, 27, 183, 0, 20, 42, 180, 0, 16, 27, 185, 0, 24, 2, 0, 61, 28, 42, 180, 0, 10, 164, 0, 4]
abbrev dktX13_meets_0 : List UInt8 := dkwX13_meets_0 ++ dktX13_meets_1
theorem dksX13_meets_0 : cX13_meets.data.toList.drop 0 = dktX13_meets_0 := by decide +kernel
theorem dksX13_meets_1 : cX13_meets.data.toList.drop 24 = dktX13_meets_1 := dk_seg dksX13_meets_0 24 rfl rfl
theorem dksX13_meets_2 : cX13_meets.data.toList.drop 48 = dktX13_meets_2 := dk_seg dksX13_meets_1 24 rfl rfl
theorem dksX13_meets_3 : cX13_meets.data.toList.drop 71 = dktX13_meets_3 := dk_seg dksX13_meets_2 23 rfl rfl
theorem dksX13_meets_4 : cX13_meets.data.toList.drop 95 = dktX13_meets_4 := dk_seg dksX13_meets_3 24 rfl rfl
theorem dX13_meets_0 : decode cX13_meets 0 = .ok (.aload_n 0, 1) := dk_42 (dk_at dksX13_meets_0 0 rfl rfl)
theorem dX13_meets_1 : decode cX13_meets 1 = .ok (.iload_n 1, 1) := dk_27 (dk_at dksX13_meets_0 1 rfl rfl)
theorem dX13_meets_2 : decode cX13_meets 2 = .ok (.invokespecial 20, 3) := dk_183 0 20 (dk_at dksX13_meets_0 2 rfl rfl)
theorem dX13_meets_5 : decode cX13_meets 5 = .ok (.aload_n 0, 1) := dk_42 (dk_at dksX13_meets_0 5 rfl rfl)
theorem dX13_meets_6 : decode cX13_meets 6 = .ok (.getfield 16, 3) := dk_180 0 16 (dk_at dksX13_meets_0 6 rfl rfl)
theorem dX13_meets_9 : decode cX13_meets 9 = .ok (.iload_n 1, 1) := dk_27 (dk_at dksX13_meets_0 9 rfl rfl)
theorem dX13_meets_10 : decode cX13_meets 10 = .ok (.invokeinterface 24 2, 5) := by decide +kernel
theorem dX13_meets_15 : decode cX13_meets 15 = .ok (.istore_n 2, 1) := dk_61 (dk_at dksX13_meets_0 15 rfl rfl)
theorem dX13_meets_16 : decode cX13_meets 16 = .ok (.iload_n 2, 1) := dk_28 (dk_at dksX13_meets_0 16 rfl rfl)
theorem dX13_meets_17 : decode cX13_meets 17 = .ok (.aload_n 0, 1) := dk_42 (dk_at dksX13_meets_0 17 rfl rfl)
theorem dX13_meets_18 : decode cX13_meets 18 = .ok (.getfield 10, 3) := dk_180 0 10 (dk_at dksX13_meets_0 18 rfl rfl)
theorem dX13_meets_21 : decode cX13_meets 21 = .ok (.if_icmp .le 4, 3) := dk_164 0 4 (dk_at dksX13_meets_0 21 rfl rfl)
theorem dX13_meets_24 : decode cX13_meets 24 = .ok (.return_, 1) := dk_177 (dk_at dksX13_meets_1 0 rfl rfl)
theorem dX13_meets_25 : decode cX13_meets 25 = .ok (.iload_n 2, 1) := dk_28 (dk_at dksX13_meets_1 1 rfl rfl)
theorem dX13_meets_26 : decode cX13_meets 26 = .ok (.aload_n 0, 1) := dk_42 (dk_at dksX13_meets_1 2 rfl rfl)
theorem dX13_meets_27 : decode cX13_meets 27 = .ok (.getfield 10, 3) := dk_180 0 10 (dk_at dksX13_meets_1 3 rfl rfl)
theorem dX13_meets_30 : decode cX13_meets 30 = .ok (.if_icmp .ge 7, 3) := dk_162 0 7 (dk_at dksX13_meets_1 6 rfl rfl)
theorem dX13_meets_33 : decode cX13_meets 33 = .ok (.iconst 1, 1) := dk_4 (dk_at dksX13_meets_1 9 rfl rfl)
theorem dX13_meets_34 : decode cX13_meets 34 = .ok (.goto 4, 3) := dk_167 0 4 (dk_at dksX13_meets_1 10 rfl rfl)
theorem dX13_meets_37 : decode cX13_meets 37 = .ok (.iconst 0, 1) := dk_3 (dk_at dksX13_meets_1 13 rfl rfl)
theorem dX13_meets_38 : decode cX13_meets 38 = .ok (.istore_n 3, 1) := dk_62 (dk_at dksX13_meets_1 14 rfl rfl)
theorem dX13_meets_39 : decode cX13_meets 39 = .ok (.aload_n 0, 1) := dk_42 (dk_at dksX13_meets_1 15 rfl rfl)
theorem dX13_meets_40 : decode cX13_meets 40 = .ok (.iload_n 3, 1) := dk_29 (dk_at dksX13_meets_1 16 rfl rfl)
theorem dX13_meets_41 : decode cX13_meets 41 = .ok (.ifCond .eq 7, 3) := dk_153 0 7 (dk_at dksX13_meets_1 17 rfl rfl)
theorem dX13_meets_44 : decode cX13_meets 44 = .ok (.iconst 1, 1) := dk_4 (dk_at dksX13_meets_1 20 rfl rfl)
theorem dX13_meets_45 : decode cX13_meets 45 = .ok (.goto 9, 3) := dk_167 0 9 (dk_at dksX13_meets_1 21 rfl rfl)
theorem dX13_meets_48 : decode cX13_meets 48 = .ok (.aload_n 0, 1) := dk_42 (dk_at dksX13_meets_2 0 rfl rfl)
theorem dX13_meets_49 : decode cX13_meets 49 = .ok (.getfield 30, 3) := dk_180 0 30 (dk_at dksX13_meets_2 1 rfl rfl)
theorem dX13_meets_52 : decode cX13_meets 52 = .ok (.iconst 1, 1) := dk_4 (dk_at dksX13_meets_2 4 rfl rfl)
theorem dX13_meets_53 : decode cX13_meets 53 = .ok (.iadd, 1) := dk_96 (dk_at dksX13_meets_2 5 rfl rfl)
theorem dX13_meets_54 : decode cX13_meets 54 = .ok (.putfield 30, 3) := dk_181 0 30 (dk_at dksX13_meets_2 6 rfl rfl)
theorem dX13_meets_57 : decode cX13_meets 57 = .ok (.aload_n 0, 1) := dk_42 (dk_at dksX13_meets_2 9 rfl rfl)
theorem dX13_meets_58 : decode cX13_meets 58 = .ok (.iload_n 3, 1) := dk_29 (dk_at dksX13_meets_2 10 rfl rfl)
theorem dX13_meets_59 : decode cX13_meets 59 = .ok (.ifCond .eq 7, 3) := dk_153 0 7 (dk_at dksX13_meets_2 11 rfl rfl)
theorem dX13_meets_62 : decode cX13_meets 62 = .ok (.iload_n 1, 1) := dk_27 (dk_at dksX13_meets_2 14 rfl rfl)
theorem dX13_meets_63 : decode cX13_meets 63 = .ok (.goto 11, 3) := dk_167 0 11 (dk_at dksX13_meets_2 15 rfl rfl)
theorem dX13_meets_66 : decode cX13_meets 66 = .ok (.aload_n 0, 1) := dk_42 (dk_at dksX13_meets_2 18 rfl rfl)
theorem dX13_meets_67 : decode cX13_meets 67 = .ok (.getfield 33, 3) := dk_180 0 33 (dk_at dksX13_meets_2 19 rfl rfl)
theorem dX13_meets_70 : decode cX13_meets 70 = .ok (.iload_n 1, 1) := dk_27 (dk_at dksX13_meets_2 22 rfl rfl)
theorem dX13_meets_71 : decode cX13_meets 71 = .ok (.invokestatic 36, 3) := dk_184 0 36 (dk_at dksX13_meets_3 0 rfl rfl)
theorem dX13_meets_74 : decode cX13_meets 74 = .ok (.putfield 33, 3) := dk_181 0 33 (dk_at dksX13_meets_3 3 rfl rfl)
theorem dX13_meets_77 : decode cX13_meets 77 = .ok (.aload_n 0, 1) := dk_42 (dk_at dksX13_meets_3 6 rfl rfl)
theorem dX13_meets_78 : decode cX13_meets 78 = .ok (.iload_n 3, 1) := dk_29 (dk_at dksX13_meets_3 7 rfl rfl)
theorem dX13_meets_79 : decode cX13_meets 79 = .ok (.ifCond .eq 7, 3) := dk_153 0 7 (dk_at dksX13_meets_3 8 rfl rfl)
theorem dX13_meets_82 : decode cX13_meets 82 = .ok (.iload_n 1, 1) := dk_27 (dk_at dksX13_meets_3 11 rfl rfl)
theorem dX13_meets_83 : decode cX13_meets 83 = .ok (.goto 9, 3) := dk_167 0 9 (dk_at dksX13_meets_3 12 rfl rfl)
theorem dX13_meets_86 : decode cX13_meets 86 = .ok (.aload_n 0, 1) := dk_42 (dk_at dksX13_meets_3 15 rfl rfl)
theorem dX13_meets_87 : decode cX13_meets 87 = .ok (.getfield 42, 3) := dk_180 0 42 (dk_at dksX13_meets_3 16 rfl rfl)
theorem dX13_meets_90 : decode cX13_meets 90 = .ok (.iload_n 1, 1) := dk_27 (dk_at dksX13_meets_3 19 rfl rfl)
theorem dX13_meets_91 : decode cX13_meets 91 = .ok (.iand, 1) := dk_126 (dk_at dksX13_meets_3 20 rfl rfl)
theorem dX13_meets_92 : decode cX13_meets 92 = .ok (.putfield 42, 3) := dk_181 0 42 (dk_at dksX13_meets_3 21 rfl rfl)
theorem dX13_meets_95 : decode cX13_meets 95 = .ok (.aload_n 0, 1) := dk_42 (dk_at dksX13_meets_4 0 rfl rfl)
theorem dX13_meets_96 : decode cX13_meets 96 = .ok (.iload_n 3, 1) := dk_29 (dk_at dksX13_meets_4 1 rfl rfl)
theorem dX13_meets_97 : decode cX13_meets 97 = .ok (.ifCond .eq 7, 3) := dk_153 0 7 (dk_at dksX13_meets_4 2 rfl rfl)
theorem dX13_meets_100 : decode cX13_meets 100 = .ok (.iload_n 1, 1) := dk_27 (dk_at dksX13_meets_4 5 rfl rfl)
theorem dX13_meets_101 : decode cX13_meets 101 = .ok (.goto 9, 3) := dk_167 0 9 (dk_at dksX13_meets_4 6 rfl rfl)
theorem dX13_meets_104 : decode cX13_meets 104 = .ok (.aload_n 0, 1) := dk_42 (dk_at dksX13_meets_4 9 rfl rfl)
theorem dX13_meets_105 : decode cX13_meets 105 = .ok (.getfield 45, 3) := dk_180 0 45 (dk_at dksX13_meets_4 10 rfl rfl)
theorem dX13_meets_108 : decode cX13_meets 108 = .ok (.iload_n 1, 1) := dk_27 (dk_at dksX13_meets_4 13 rfl rfl)
theorem dX13_meets_109 : decode cX13_meets 109 = .ok (.ior, 1) := dk_128 (dk_at dksX13_meets_4 14 rfl rfl)
theorem dX13_meets_110 : decode cX13_meets 110 = .ok (.putfield 45, 3) := dk_181 0 45 (dk_at dksX13_meets_4 15 rfl rfl)
theorem dX13_meets_113 : decode cX13_meets 113 = .ok (.aload_n 0, 1) := dk_42 (dk_at dksX13_meets_4 18 rfl rfl)
theorem dX13_meets_114 : decode cX13_meets 114 = .ok (.iload_n 2, 1) := dk_28 (dk_at dksX13_meets_4 19 rfl rfl)
theorem dX13_meets_115 : decode cX13_meets 115 = .ok (.putfield 10, 3) := dk_181 0 10 (dk_at dksX13_meets_4 20 rfl rfl)
theorem dX13_meets_118 : decode cX13_meets 118 = .ok (.return_, 1) := dk_177 (dk_at dksX13_meets_4 23 rfl rfl)
theorem q126 : (Jvm.Cond.initialized "LinesTouched$Cheapest") ∈ lw_all := lw_g (lw_at lw_m1 21 rfl) rfl
theorem q699 : (Jvm.Cond.instantiable "LinesTouched$Cheapest" (9 : Nat)) ∈ lw_all := lw_g (lw_at lw_m3 114 rfl) rfl
theorem q701 : (Jvm.Cond.instanceMethod ({ cls := "LinesTouched$Cheapest", name := "<init>", desc := "(LLinesTouched$Net;LLinesTouched$Worth;)V" } : Jvm.MethodName)) ∈ lw_all := lw_g (lw_at lw_m3 116 rfl) rfl
theorem q702 : (Jvm.Cond.code ({ cls := "LinesTouched$Cheapest", name := "<init>", desc := "(LLinesTouched$Net;LLinesTouched$Worth;)V" } : Jvm.MethodName) prog_2_method_1_code (3 : Nat) (Option.none : Option Jvm.ClassFile.FieldType)) ∈ lw_all := lw_g (lw_at lw_m3 117 rfl) rfl
theorem q703 : (Jvm.Cond.methodLink "LinesTouched$Cheapest" (1 : Nat) ({ cls := "LinesTouched$Counting", name := "<init>", desc := "(LLinesTouched$Net;)V" } : Jvm.MethodName)) ∈ lw_all := lw_g (lw_at lw_m3 118 rfl) rfl
theorem q710 : (Jvm.Cond.constant "LinesTouched$Cheapest" (9 : Nat) (2147483647 : Int32)) ∈ lw_all := lw_g (lw_at lw_m3 125 rfl) rfl
theorem q711 : (Jvm.Cond.fieldLink "LinesTouched$Cheapest" (16 : Nat) "LinesTouched$Cheapest" "worth" "LLinesTouched$Worth;") ∈ lw_all := lw_g (lw_at lw_m3 126 rfl) rfl
theorem q712 : (Jvm.Cond.fieldLink "LinesTouched$Cheapest" (10 : Nat) "LinesTouched$Cheapest" "least" "I") ∈ lw_all := lw_g (lw_at lw_m3 127 rfl) rfl
theorem q714 : (Jvm.Cond.fieldLink "LinesTouched$Cheapest" (33 : Nat) "LinesTouched$Cheapest" "first" "I") ∈ lw_all := lw_g (lw_at lw_m3 129 rfl) rfl
theorem q716 : (Jvm.Cond.fieldLink "LinesTouched$Cheapest" (30 : Nat) "LinesTouched$Cheapest" "ways" "I") ∈ lw_all := lw_g (lw_at lw_m3 131 rfl) rfl
theorem q718 : (Jvm.Cond.fieldLink "LinesTouched$Cheapest" (42 : Nat) "LinesTouched$Cheapest" "inAll" "I") ∈ lw_all := lw_g (lw_at lw_m3 133 rfl) rfl
theorem q720 : (Jvm.Cond.fieldLink "LinesTouched$Cheapest" (45 : Nat) "LinesTouched$Cheapest" "inAny" "I") ∈ lw_all := lw_g (lw_at lw_m3 135 rfl) rfl
theorem q727 : (Jvm.Cond.laysFinal "LinesTouched$Cheapest" "LinesTouched$Cheapest" "worth" "LLinesTouched$Worth;") ∈ lw_all := lw_g (lw_at lw_m3 142 rfl) rfl
theorem q728 : (Jvm.Cond.soleField "LinesTouched$Cheapest" "worth") ∈ lw_all := lw_g (lw_at lw_m3 143 rfl) rfl
theorem q729 : (Jvm.Cond.lays "LinesTouched$Cheapest" "LinesTouched$Cheapest" "least" "I") ∈ lw_all := lw_g (lw_at lw_m3 144 rfl) rfl
theorem q730 : (Jvm.Cond.soleField "LinesTouched$Cheapest" "least") ∈ lw_all := lw_g (lw_at lw_m3 145 rfl) rfl
theorem q731 : (Jvm.Cond.lays "LinesTouched$Cheapest" "LinesTouched$Cheapest" "first" "I") ∈ lw_all := lw_g (lw_at lw_m3 146 rfl) rfl
theorem q732 : (Jvm.Cond.soleField "LinesTouched$Cheapest" "first") ∈ lw_all := lw_g (lw_at lw_m3 147 rfl) rfl
theorem q733 : (Jvm.Cond.lays "LinesTouched$Cheapest" "LinesTouched$Cheapest" "ways" "I") ∈ lw_all := lw_g (lw_at lw_m3 148 rfl) rfl
theorem q734 : (Jvm.Cond.soleField "LinesTouched$Cheapest" "ways") ∈ lw_all := lw_g (lw_at lw_m3 149 rfl) rfl
theorem q735 : (Jvm.Cond.lays "LinesTouched$Cheapest" "LinesTouched$Cheapest" "inAll" "I") ∈ lw_all := lw_g (lw_at lw_m3 150 rfl) rfl
theorem q736 : (Jvm.Cond.soleField "LinesTouched$Cheapest" "inAll") ∈ lw_all := lw_g (lw_at lw_m3 151 rfl) rfl
theorem q737 : (Jvm.Cond.lays "LinesTouched$Cheapest" "LinesTouched$Cheapest" "inAny" "I") ∈ lw_all := lw_g (lw_at lw_m3 152 rfl) rfl
theorem q738 : (Jvm.Cond.soleField "LinesTouched$Cheapest" "inAny") ∈ lw_all := lw_g (lw_at lw_m3 153 rfl) rfl
theorem q739 : (Jvm.Cond.laysFinal "LinesTouched$Cheapest" "LinesTouched$Counting" "sized" "[I") ∈ lw_all := lw_g (lw_at lw_m3 154 rfl) rfl
theorem q741 : (Jvm.Cond.lays "LinesTouched$Cheapest" "LinesTouched$Counting" "many" "I") ∈ lw_all := lw_g (lw_at lw_m3 156 rfl) rfl
theorem q743 : (Jvm.Cond.laysFinal "LinesTouched$Cheapest" "LinesTouched$Walk" "net" "LLinesTouched$Net;") ∈ lw_all := lw_g (lw_at lw_m3 158 rfl) rfl
theorem q745 : (Jvm.Cond.superclass "LinesTouched$Cheapest" "LinesTouched$Counting") ∈ lw_all := lw_g (lw_at lw_m3 160 rfl) rfl
theorem q747 : (Jvm.Cond.sameMethod "LinesTouched$Cheapest" "LinesTouched$Walk" "starts" "()V") ∈ lw_all := lw_g (lw_at lw_m3 162 rfl) rfl
theorem q749 : (Jvm.Cond.selects "LinesTouched$Cheapest" ({ cls := "LinesTouched$Cheapest", name := "starts", desc := "()V" } : Jvm.MethodName) ({ cls := "LinesTouched$Walk", name := "starts", desc := "()V" } : Jvm.MethodName)) ∈ lw_all := lw_g (lw_at lw_m3 164 rfl) rfl
theorem q755 : (Jvm.Cond.selects "LinesTouched$Cheapest" ({ cls := "LinesTouched$Walk", name := "goes", desc := "(III)V" } : Jvm.MethodName) ({ cls := "LinesTouched$Walk", name := "goes", desc := "(III)V" } : Jvm.MethodName)) ∈ lw_all := lw_g (lw_at lw_m3 170 rfl) rfl
theorem q761 : (Jvm.Cond.selects "LinesTouched$Cheapest" ({ cls := "LinesTouched$Walk", name := "meets", desc := "(I)V" } : Jvm.MethodName) ({ cls := "LinesTouched$Cheapest", name := "meets", desc := "(I)V" } : Jvm.MethodName)) ∈ lw_all := lw_g (lw_at lw_m3 176 rfl) rfl
theorem q762 : (Jvm.Cond.instanceMethod ({ cls := "LinesTouched$Cheapest", name := "meets", desc := "(I)V" } : Jvm.MethodName)) ∈ lw_all := lw_g (lw_at lw_m3 177 rfl) rfl
theorem q763 : (Jvm.Cond.code ({ cls := "LinesTouched$Cheapest", name := "meets", desc := "(I)V" } : Jvm.MethodName) prog_2_method_2_code (4 : Nat) (Option.none : Option Jvm.ClassFile.FieldType)) ∈ lw_all := lw_g (lw_at lw_m3 178 rfl) rfl
theorem q764 : (Jvm.Cond.methodLink "LinesTouched$Cheapest" (20 : Nat) ({ cls := "LinesTouched$Counting", name := "meets", desc := "(I)V" } : Jvm.MethodName)) ∈ lw_all := lw_g (lw_at lw_m3 179 rfl) rfl
theorem q768 : (Jvm.Cond.interfaceEntry "LinesTouched$Cheapest" (24 : Nat)) ∈ lw_tbl := lw_at lw_m3 183 rfl
theorem q769 : (Jvm.Cond.methodLink "LinesTouched$Cheapest" (24 : Nat) ({ cls := "LinesTouched$Worth", name := "of", desc := "(I)I" } : Jvm.MethodName)) ∈ lw_all := lw_g (lw_at lw_m3 184 rfl) rfl
theorem q772 : (Jvm.Cond.methodLink "LinesTouched$Cheapest" (36 : Nat) ({ cls := "java/lang/Math", name := "min", desc := "(II)I" } : Jvm.MethodName)) ∈ lw_all := lw_g (lw_at lw_m3 187 rfl) rfl
theorem q816 : (Jvm.Cond.selects "LinesTouched$Cheapest" ({ cls := "LinesTouched$Counting", name := "starts", desc := "()V" } : Jvm.MethodName) ({ cls := "LinesTouched$Walk", name := "starts", desc := "()V" } : Jvm.MethodName)) ∈ lw_all := lw_g (lw_at lw_m3 231 rfl) rfl
theorem q884 : (Jvm.Cond.selects "LinesTouched$Cheapest" ({ cls := "java/lang/Object", name := "hashCode", desc := "()I" } : Jvm.MethodName) ({ cls := "java/lang/Object", name := "hashCode", desc := "()I" } : Jvm.MethodName)) ∈ lw_all := lw_g (lw_at lw_m4 59 rfl) rfl
theorem q1103 : (Jvm.Cond.selects "LinesTouched$Cheapest" ({ cls := "java/lang/Object", name := "getClass", desc := "()Ljava/lang/Class;" } : Jvm.MethodName) ({ cls := "java/lang/Object", name := "getClass", desc := "()Ljava/lang/Class;" } : Jvm.MethodName)) ∈ lw_all := lw_g (lw_at lw_m5 38 rfl) rfl
theorem q1346 : (Jvm.Cond.selects "LinesTouched$Cheapest" ({ cls := "java/lang/Object", name := "equals", desc := "(Ljava/lang/Object;)Z" } : Jvm.MethodName) ({ cls := "java/lang/Object", name := "equals", desc := "(Ljava/lang/Object;)Z" } : Jvm.MethodName)) ∈ lw_all := lw_g (lw_at lw_m6 41 rfl) rfl
theorem q3142 : (Jvm.Cond.castable "LinesTouched$Cheapest" "java/lang/Object") ∈ lw_tbl := lw_at lw_m13 157 rfl
theorem in_X13 : ∀ w ∈ wsX130, w ∈ lw_all := lw_in wsX130 [739, 741, 743, 727, 729, 731, 733, 735, 737] (by decide +kernel) (by decide +kernel)
/-! LinesTouched$Picked -/
set_option maxRecDepth 100000
def RX14 : String := "LinesTouched$Picked"
def TX14 : u_T := fun k => match k with
  | 0 => ("LinesTouched$Counting", "sized", "[I", true)
  | 1 => ("LinesTouched$Counting", "many", "I", false)
  | 2 => ("LinesTouched$Walk", "net", "LLinesTouched$Net;", true)
  | _ => ("LinesTouched$Picked", "meant", "LLinesTouched$Meant;", true)
def tyX14 : Nat → FieldType := fun k => match k with
  | 0 => .array .int
  | 1 => .int
  | 2 => .object "LinesTouched$Net"
  | _ => .object "LinesTouched$Meant"
abbrev wsX140 : List Cond := u_ws RX14 TX14 4
theorem nmX14 : ∀ a, a < 4 → ∀ b, b < 4 → a ≠ b → (TX14 a).2.1 ≠ (TX14 b).2.1 := by decide +kernel
theorem tyX14_ok : ∀ k, k < 4 → parseFieldDescriptor (TX14 k).2.2.1 = some (tyX14 k) := by decide +kernel
abbrev cX14_meets : ByteArray := prog_16_method_2_code
def yX14_meets : MethodName := ⟨RX14, "meets", "(I)V"⟩
def dkwX14_meets_0 : List UInt8 := [42, 180, 0, 7, 27, 185, 0, 13, 2, 0, 153, 0, 8, 42, 27, 183, 0, 19, 177]
abbrev dktX14_meets_0 : List UInt8 := dkwX14_meets_0 ++ []
theorem dksX14_meets_0 : cX14_meets.data.toList.drop 0 = dktX14_meets_0 := by decide +kernel
theorem dX14_meets_0 : decode cX14_meets 0 = .ok (.aload_n 0, 1) := dk_42 (dk_at dksX14_meets_0 0 rfl rfl)
theorem dX14_meets_1 : decode cX14_meets 1 = .ok (.getfield 7, 3) := dk_180 0 7 (dk_at dksX14_meets_0 1 rfl rfl)
theorem dX14_meets_4 : decode cX14_meets 4 = .ok (.iload_n 1, 1) := dk_27 (dk_at dksX14_meets_0 4 rfl rfl)
theorem dX14_meets_5 : decode cX14_meets 5 = .ok (.invokeinterface 13 2, 5) := by decide +kernel
theorem dX14_meets_10 : decode cX14_meets 10 = .ok (.ifCond .eq 8, 3) := dk_153 0 8 (dk_at dksX14_meets_0 10 rfl rfl)
theorem dX14_meets_13 : decode cX14_meets 13 = .ok (.aload_n 0, 1) := dk_42 (dk_at dksX14_meets_0 13 rfl rfl)
theorem dX14_meets_14 : decode cX14_meets 14 = .ok (.iload_n 1, 1) := dk_27 (dk_at dksX14_meets_0 14 rfl rfl)
theorem dX14_meets_15 : decode cX14_meets 15 = .ok (.invokespecial 19, 3) := dk_183 0 19 (dk_at dksX14_meets_0 15 rfl rfl)
theorem dX14_meets_18 : decode cX14_meets 18 = .ok (.return_, 1) := dk_177 (dk_at dksX14_meets_0 18 rfl rfl)
abbrev cX14_init : ByteArray := prog_16_method_1_code
def yX14_init : MethodName := ⟨RX14, "<init>", "(LLinesTouched$Net;LLinesTouched$Meant;)V"⟩
def dkwX14_init_0 : List UInt8 := [42, 43, 183, 0, 1, 42, 44, 181, 0, 7, 177]
abbrev dktX14_init_0 : List UInt8 := dkwX14_init_0 ++ []
theorem dksX14_init_0 : cX14_init.data.toList.drop 0 = dktX14_init_0 := by decide +kernel
theorem dX14_init_0 : decode cX14_init 0 = .ok (.aload_n 0, 1) := dk_42 (dk_at dksX14_init_0 0 rfl rfl)
theorem dX14_init_1 : decode cX14_init 1 = .ok (.aload_n 1, 1) := dk_43 (dk_at dksX14_init_0 1 rfl rfl)
theorem dX14_init_2 : decode cX14_init 2 = .ok (.invokespecial 1, 3) := dk_183 0 1 (dk_at dksX14_init_0 2 rfl rfl)
theorem dX14_init_5 : decode cX14_init 5 = .ok (.aload_n 0, 1) := dk_42 (dk_at dksX14_init_0 5 rfl rfl)
theorem dX14_init_6 : decode cX14_init 6 = .ok (.aload_n 2, 1) := dk_44 (dk_at dksX14_init_0 6 rfl rfl)
theorem dX14_init_7 : decode cX14_init 7 = .ok (.putfield 7, 3) := dk_181 0 7 (dk_at dksX14_init_0 7 rfl rfl)
theorem dX14_init_10 : decode cX14_init 10 = .ok (.return_, 1) := dk_177 (dk_at dksX14_init_0 10 rfl rfl)
theorem q127 : (Jvm.Cond.initialized "LinesTouched$Picked") ∈ lw_all := lw_g (lw_at lw_m1 22 rfl) rfl
theorem q756 : (Jvm.Cond.selects "LinesTouched$Picked" ({ cls := "LinesTouched$Walk", name := "goes", desc := "(III)V" } : Jvm.MethodName) ({ cls := "LinesTouched$Walk", name := "goes", desc := "(III)V" } : Jvm.MethodName)) ∈ lw_all := lw_g (lw_at lw_m3 171 rfl) rfl
theorem q775 : (Jvm.Cond.selects "LinesTouched$Picked" ({ cls := "LinesTouched$Walk", name := "meets", desc := "(I)V" } : Jvm.MethodName) ({ cls := "LinesTouched$Picked", name := "meets", desc := "(I)V" } : Jvm.MethodName)) ∈ lw_all := lw_g (lw_at lw_m3 190 rfl) rfl
theorem q776 : (Jvm.Cond.instanceMethod ({ cls := "LinesTouched$Picked", name := "meets", desc := "(I)V" } : Jvm.MethodName)) ∈ lw_all := lw_g (lw_at lw_m3 191 rfl) rfl
theorem q777 : (Jvm.Cond.code ({ cls := "LinesTouched$Picked", name := "meets", desc := "(I)V" } : Jvm.MethodName) prog_16_method_2_code (2 : Nat) (Option.none : Option Jvm.ClassFile.FieldType)) ∈ lw_all := lw_g (lw_at lw_m3 192 rfl) rfl
theorem q778 : (Jvm.Cond.interfaceEntry "LinesTouched$Picked" (13 : Nat)) ∈ lw_tbl := lw_at lw_m3 193 rfl
theorem q779 : (Jvm.Cond.methodLink "LinesTouched$Picked" (13 : Nat) ({ cls := "LinesTouched$Meant", name := "is", desc := "(I)Z" } : Jvm.MethodName)) ∈ lw_all := lw_g (lw_at lw_m3 194 rfl) rfl
theorem q782 : (Jvm.Cond.methodLink "LinesTouched$Picked" (19 : Nat) ({ cls := "LinesTouched$Counting", name := "meets", desc := "(I)V" } : Jvm.MethodName)) ∈ lw_all := lw_g (lw_at lw_m3 197 rfl) rfl
theorem q783 : (Jvm.Cond.superclass "LinesTouched$Picked" "LinesTouched$Counting") ∈ lw_all := lw_g (lw_at lw_m3 198 rfl) rfl
theorem q803 : (Jvm.Cond.instantiable "LinesTouched$Picked" (4 : Nat)) ∈ lw_all := lw_g (lw_at lw_m3 218 rfl) rfl
theorem q805 : (Jvm.Cond.instanceMethod ({ cls := "LinesTouched$Picked", name := "<init>", desc := "(LLinesTouched$Net;LLinesTouched$Meant;)V" } : Jvm.MethodName)) ∈ lw_all := lw_g (lw_at lw_m3 220 rfl) rfl
theorem q806 : (Jvm.Cond.code ({ cls := "LinesTouched$Picked", name := "<init>", desc := "(LLinesTouched$Net;LLinesTouched$Meant;)V" } : Jvm.MethodName) prog_16_method_1_code (3 : Nat) (Option.none : Option Jvm.ClassFile.FieldType)) ∈ lw_all := lw_g (lw_at lw_m3 221 rfl) rfl
theorem q807 : (Jvm.Cond.methodLink "LinesTouched$Picked" (1 : Nat) ({ cls := "LinesTouched$Counting", name := "<init>", desc := "(LLinesTouched$Net;)V" } : Jvm.MethodName)) ∈ lw_all := lw_g (lw_at lw_m3 222 rfl) rfl
theorem q808 : (Jvm.Cond.fieldLink "LinesTouched$Picked" (7 : Nat) "LinesTouched$Picked" "meant" "LLinesTouched$Meant;") ∈ lw_all := lw_g (lw_at lw_m3 223 rfl) rfl
theorem q809 : (Jvm.Cond.laysFinal "LinesTouched$Picked" "LinesTouched$Picked" "meant" "LLinesTouched$Meant;") ∈ lw_all := lw_g (lw_at lw_m3 224 rfl) rfl
theorem q810 : (Jvm.Cond.soleField "LinesTouched$Picked" "meant") ∈ lw_all := lw_g (lw_at lw_m3 225 rfl) rfl
theorem q811 : (Jvm.Cond.laysFinal "LinesTouched$Picked" "LinesTouched$Counting" "sized" "[I") ∈ lw_all := lw_g (lw_at lw_m3 226 rfl) rfl
theorem q812 : (Jvm.Cond.lays "LinesTouched$Picked" "LinesTouched$Counting" "many" "I") ∈ lw_all := lw_g (lw_at lw_m3 227 rfl) rfl
theorem q813 : (Jvm.Cond.laysFinal "LinesTouched$Picked" "LinesTouched$Walk" "net" "LLinesTouched$Net;") ∈ lw_all := lw_g (lw_at lw_m3 228 rfl) rfl
theorem q817 : (Jvm.Cond.selects "LinesTouched$Picked" ({ cls := "LinesTouched$Counting", name := "starts", desc := "()V" } : Jvm.MethodName) ({ cls := "LinesTouched$Walk", name := "starts", desc := "()V" } : Jvm.MethodName)) ∈ lw_all := lw_g (lw_at lw_m3 232 rfl) rfl
theorem q902 : (Jvm.Cond.selects "LinesTouched$Picked" ({ cls := "java/lang/Object", name := "hashCode", desc := "()I" } : Jvm.MethodName) ({ cls := "java/lang/Object", name := "hashCode", desc := "()I" } : Jvm.MethodName)) ∈ lw_all := lw_g (lw_at lw_m4 77 rfl) rfl
theorem q1113 : (Jvm.Cond.selects "LinesTouched$Picked" ({ cls := "java/lang/Object", name := "getClass", desc := "()Ljava/lang/Class;" } : Jvm.MethodName) ({ cls := "java/lang/Object", name := "getClass", desc := "()Ljava/lang/Class;" } : Jvm.MethodName)) ∈ lw_all := lw_g (lw_at lw_m5 48 rfl) rfl
theorem q1362 : (Jvm.Cond.selects "LinesTouched$Picked" ({ cls := "java/lang/Object", name := "equals", desc := "(Ljava/lang/Object;)Z" } : Jvm.MethodName) ({ cls := "java/lang/Object", name := "equals", desc := "(Ljava/lang/Object;)Z" } : Jvm.MethodName)) ∈ lw_all := lw_g (lw_at lw_m6 57 rfl) rfl
theorem q3143 : (Jvm.Cond.castable "LinesTouched$Picked" "java/lang/Object") ∈ lw_tbl := lw_at lw_m13 158 rfl
theorem in_X14 : ∀ w ∈ wsX140, w ∈ lw_all := lw_in wsX140 [811, 812, 813, 809] (by decide +kernel) (by decide +kernel)
/-! LinesTouched$Cover -/
set_option maxRecDepth 100000
def RX15 : String := "LinesTouched$Cover"
def TX15 : u_T := fun k => match k with
  | _ => ("LinesTouched$Cover", "set", "I", true)
def tyX15 : Nat → FieldType := fun k => match k with
  | _ => .int
abbrev wsX150 : List Cond := u_ws RX15 TX15 1
theorem nmX15 : ∀ a, a < 1 → ∀ b, b < 1 → a ≠ b → (TX15 a).2.1 ≠ (TX15 b).2.1 := by decide +kernel
theorem tyX15_ok : ∀ k, k < 1 → parseFieldDescriptor (TX15 k).2.2.1 = some (tyX15 k) := by decide +kernel
abbrev cX15_init : ByteArray := prog_7_method_1_code
def yX15_init : MethodName := ⟨RX15, "<init>", "(I)V"⟩
def dkwX15_init_0 : List UInt8 := [42, 183, 0, 1, 42, 27, 181, 0, 7, 177]
abbrev dktX15_init_0 : List UInt8 := dkwX15_init_0 ++ []
theorem dksX15_init_0 : cX15_init.data.toList.drop 0 = dktX15_init_0 := by decide +kernel
theorem dX15_init_0 : decode cX15_init 0 = .ok (.aload_n 0, 1) := dk_42 (dk_at dksX15_init_0 0 rfl rfl)
theorem dX15_init_1 : decode cX15_init 1 = .ok (.invokespecial 1, 3) := dk_183 0 1 (dk_at dksX15_init_0 1 rfl rfl)
theorem dX15_init_4 : decode cX15_init 4 = .ok (.aload_n 0, 1) := dk_42 (dk_at dksX15_init_0 4 rfl rfl)
theorem dX15_init_5 : decode cX15_init 5 = .ok (.iload_n 1, 1) := dk_27 (dk_at dksX15_init_0 5 rfl rfl)
theorem dX15_init_6 : decode cX15_init 6 = .ok (.putfield 7, 3) := dk_181 0 7 (dk_at dksX15_init_0 6 rfl rfl)
theorem dX15_init_9 : decode cX15_init 9 = .ok (.return_, 1) := dk_177 (dk_at dksX15_init_0 9 rfl rfl)
abbrev cX15_hashCode : ByteArray := prog_7_method_3_code
def yX15_hashCode : MethodName := ⟨RX15, "hashCode", "()I"⟩
def dkwX15_hashCode_0 : List UInt8 := [42, 180, 0, 7, 42, 180, 0, 7, 16, 6, 124, 130, 172]
abbrev dktX15_hashCode_0 : List UInt8 := dkwX15_hashCode_0 ++ []
theorem dksX15_hashCode_0 : cX15_hashCode.data.toList.drop 0 = dktX15_hashCode_0 := by decide +kernel
theorem dX15_hashCode_0 : decode cX15_hashCode 0 = .ok (.aload_n 0, 1) := dk_42 (dk_at dksX15_hashCode_0 0 rfl rfl)
theorem dX15_hashCode_1 : decode cX15_hashCode 1 = .ok (.getfield 7, 3) := dk_180 0 7 (dk_at dksX15_hashCode_0 1 rfl rfl)
theorem dX15_hashCode_4 : decode cX15_hashCode 4 = .ok (.aload_n 0, 1) := dk_42 (dk_at dksX15_hashCode_0 4 rfl rfl)
theorem dX15_hashCode_5 : decode cX15_hashCode 5 = .ok (.getfield 7, 3) := dk_180 0 7 (dk_at dksX15_hashCode_0 5 rfl rfl)
theorem dX15_hashCode_8 : decode cX15_hashCode 8 = .ok (.bipush 6, 2) := dk_16 6 (dk_at dksX15_hashCode_0 8 rfl rfl)
theorem dX15_hashCode_10 : decode cX15_hashCode 10 = .ok (.iushr, 1) := dk_124 (dk_at dksX15_hashCode_0 10 rfl rfl)
theorem dX15_hashCode_11 : decode cX15_hashCode 11 = .ok (.ixor, 1) := dk_130 (dk_at dksX15_hashCode_0 11 rfl rfl)
theorem dX15_hashCode_12 : decode cX15_hashCode 12 = .ok (.ireturn, 1) := dk_172 (dk_at dksX15_hashCode_0 12 rfl rfl)
abbrev cX15_equals : ByteArray := prog_7_method_2_code
def yX15_equals : MethodName := ⟨RX15, "equals", "(Ljava/lang/Object;)Z"⟩
def dkwX15_equals_1 : List UInt8 := [167, 0, 4, 3, 172]
abbrev dktX15_equals_1 : List UInt8 := dkwX15_equals_1 ++ []
def dkwX15_equals_0 : List UInt8 := [43, 193, 0, 8, 153, 0, 21, 43, 192, 0, 8, 180, 0, 7, 42, 180, 0, 7, 160, 0, 7, 4]
abbrev dktX15_equals_0 : List UInt8 := dkwX15_equals_0 ++ dktX15_equals_1
theorem dksX15_equals_0 : cX15_equals.data.toList.drop 0 = dktX15_equals_0 := by decide +kernel
theorem dksX15_equals_1 : cX15_equals.data.toList.drop 22 = dktX15_equals_1 := dk_seg dksX15_equals_0 22 rfl rfl
theorem dX15_equals_0 : decode cX15_equals 0 = .ok (.aload_n 1, 1) := dk_43 (dk_at dksX15_equals_0 0 rfl rfl)
theorem dX15_equals_1 : decode cX15_equals 1 = .ok (.instanceof 8, 3) := dk_193 0 8 (dk_at dksX15_equals_0 1 rfl rfl)
theorem dX15_equals_4 : decode cX15_equals 4 = .ok (.ifCond .eq 21, 3) := dk_153 0 21 (dk_at dksX15_equals_0 4 rfl rfl)
theorem dX15_equals_7 : decode cX15_equals 7 = .ok (.aload_n 1, 1) := dk_43 (dk_at dksX15_equals_0 7 rfl rfl)
theorem dX15_equals_8 : decode cX15_equals 8 = .ok (.checkcast 8, 3) := dk_192 0 8 (dk_at dksX15_equals_0 8 rfl rfl)
theorem dX15_equals_11 : decode cX15_equals 11 = .ok (.getfield 7, 3) := dk_180 0 7 (dk_at dksX15_equals_0 11 rfl rfl)
theorem dX15_equals_14 : decode cX15_equals 14 = .ok (.aload_n 0, 1) := dk_42 (dk_at dksX15_equals_0 14 rfl rfl)
theorem dX15_equals_15 : decode cX15_equals 15 = .ok (.getfield 7, 3) := dk_180 0 7 (dk_at dksX15_equals_0 15 rfl rfl)
theorem dX15_equals_18 : decode cX15_equals 18 = .ok (.if_icmp .ne 7, 3) := dk_160 0 7 (dk_at dksX15_equals_0 18 rfl rfl)
theorem dX15_equals_21 : decode cX15_equals 21 = .ok (.iconst 1, 1) := dk_4 (dk_at dksX15_equals_0 21 rfl rfl)
theorem dX15_equals_22 : decode cX15_equals 22 = .ok (.goto 4, 3) := dk_167 0 4 (dk_at dksX15_equals_1 0 rfl rfl)
theorem dX15_equals_25 : decode cX15_equals 25 = .ok (.iconst 0, 1) := dk_3 (dk_at dksX15_equals_1 3 rfl rfl)
theorem dX15_equals_26 : decode cX15_equals 26 = .ok (.ireturn, 1) := dk_172 (dk_at dksX15_equals_1 4 rfl rfl)
theorem q131 : (Jvm.Cond.initialized "LinesTouched$Cover") ∈ lw_all := lw_g (lw_at lw_m1 26 rfl) rfl
theorem q855 : (Jvm.Cond.instantiable "LinesTouched$Cover" (1 : Nat)) ∈ lw_all := lw_g (lw_at lw_m4 30 rfl) rfl
theorem q857 : (Jvm.Cond.instanceMethod ({ cls := "LinesTouched$Cover", name := "<init>", desc := "(I)V" } : Jvm.MethodName)) ∈ lw_all := lw_g (lw_at lw_m4 32 rfl) rfl
theorem q858 : (Jvm.Cond.code ({ cls := "LinesTouched$Cover", name := "<init>", desc := "(I)V" } : Jvm.MethodName) prog_7_method_1_code (2 : Nat) (Option.none : Option Jvm.ClassFile.FieldType)) ∈ lw_all := lw_g (lw_at lw_m4 33 rfl) rfl
theorem q859 : (Jvm.Cond.methodLink "LinesTouched$Cover" (1 : Nat) ({ cls := "java/lang/Object", name := "<init>", desc := "()V" } : Jvm.MethodName)) ∈ lw_all := lw_g (lw_at lw_m4 34 rfl) rfl
theorem q860 : (Jvm.Cond.fieldLink "LinesTouched$Cover" (7 : Nat) "LinesTouched$Cover" "set" "I") ∈ lw_all := lw_g (lw_at lw_m4 35 rfl) rfl
theorem q861 : (Jvm.Cond.laysFinal "LinesTouched$Cover" "LinesTouched$Cover" "set" "I") ∈ lw_all := lw_g (lw_at lw_m4 36 rfl) rfl
theorem q862 : (Jvm.Cond.soleField "LinesTouched$Cover" "set") ∈ lw_all := lw_g (lw_at lw_m4 37 rfl) rfl
theorem q863 : (Jvm.Cond.superclass "LinesTouched$Cover" "java/lang/Object") ∈ lw_all := lw_g (lw_at lw_m4 38 rfl) rfl
theorem q886 : (Jvm.Cond.selects "LinesTouched$Cover" ({ cls := "java/lang/Object", name := "hashCode", desc := "()I" } : Jvm.MethodName) ({ cls := "LinesTouched$Cover", name := "hashCode", desc := "()I" } : Jvm.MethodName)) ∈ lw_all := lw_g (lw_at lw_m4 61 rfl) rfl
theorem q887 : (Jvm.Cond.instanceMethod ({ cls := "LinesTouched$Cover", name := "hashCode", desc := "()I" } : Jvm.MethodName)) ∈ lw_all := lw_g (lw_at lw_m4 62 rfl) rfl
theorem q888 : (Jvm.Cond.code ({ cls := "LinesTouched$Cover", name := "hashCode", desc := "()I" } : Jvm.MethodName) prog_7_method_3_code (1 : Nat) (Option.some Jvm.ClassFile.FieldType.int)) ∈ lw_all := lw_g (lw_at lw_m4 63 rfl) rfl
theorem q1105 : (Jvm.Cond.selects "LinesTouched$Cover" ({ cls := "java/lang/Object", name := "getClass", desc := "()Ljava/lang/Class;" } : Jvm.MethodName) ({ cls := "java/lang/Object", name := "getClass", desc := "()Ljava/lang/Class;" } : Jvm.MethodName)) ∈ lw_all := lw_g (lw_at lw_m5 40 rfl) rfl
theorem q1348 : (Jvm.Cond.selects "LinesTouched$Cover" ({ cls := "java/lang/Object", name := "equals", desc := "(Ljava/lang/Object;)Z" } : Jvm.MethodName) ({ cls := "LinesTouched$Cover", name := "equals", desc := "(Ljava/lang/Object;)Z" } : Jvm.MethodName)) ∈ lw_all := lw_g (lw_at lw_m6 43 rfl) rfl
theorem q1349 : (Jvm.Cond.instanceMethod ({ cls := "LinesTouched$Cover", name := "equals", desc := "(Ljava/lang/Object;)Z" } : Jvm.MethodName)) ∈ lw_all := lw_g (lw_at lw_m6 44 rfl) rfl
theorem q1350 : (Jvm.Cond.code ({ cls := "LinesTouched$Cover", name := "equals", desc := "(Ljava/lang/Object;)Z" } : Jvm.MethodName) prog_7_method_2_code (2 : Nat) (Option.some Jvm.ClassFile.FieldType.boolean)) ∈ lw_all := lw_g (lw_at lw_m6 45 rfl) rfl
theorem q1351 : (Jvm.Cond.classLink "LinesTouched$Cover" (8 : Nat) "LinesTouched$Cover") ∈ lw_all := lw_g (lw_at lw_m6 46 rfl) rfl
theorem q3146 : (Jvm.Cond.castable "LinesTouched$Cover" "java/lang/Object") ∈ lw_tbl := lw_at lw_m13 161 rfl
theorem in_X15 : ∀ w ∈ wsX150, w ∈ lw_all := lw_in wsX150 [861] (by decide +kernel) (by decide +kernel)
/-! LinesTouched$Node -/
set_option maxRecDepth 100000
def RX16 : String := "LinesTouched$Node"
def TX16 : u_T := fun k => match k with
  | 0 => ("LinesTouched$Node", "left", "I", true)
  | 1 => ("LinesTouched$Node", "taken", "I", true)
  | 2 => ("LinesTouched$Node", "k", "I", true)
  | 3 => ("LinesTouched$Node", "depth", "I", true)
  | _ => ("LinesTouched$Node", "branch", "I", false)
def tyX16 : Nat → FieldType := fun k => match k with
  | 0 => .int
  | 1 => .int
  | 2 => .int
  | 3 => .int
  | _ => .int
abbrev wsX160 : List Cond := u_ws RX16 TX16 5
theorem nmX16 : ∀ a, a < 5 → ∀ b, b < 5 → a ≠ b → (TX16 a).2.1 ≠ (TX16 b).2.1 := by decide +kernel
theorem tyX16_ok : ∀ k, k < 5 → parseFieldDescriptor (TX16 k).2.2.1 = some (tyX16 k) := by decide +kernel
abbrev cX16_init : ByteArray := prog_15_method_1_code
def yX16_init : MethodName := ⟨RX16, "<init>", "(IIII)V"⟩
def dkwX16_init_1 : List UInt8 := [42, 21, 4, 181, 0, 24, 177]
abbrev dktX16_init_1 : List UInt8 := dkwX16_init_1 ++ []
def dkwX16_init_0 : List UInt8 := [42, 183, 0, 3, 42, 2, 181, 0, 9, 42, 27, 181, 0, 15, 42, 28, 181, 0, 18, 42, 29, 181, 0, 21]
abbrev dktX16_init_0 : List UInt8 := dkwX16_init_0 ++ dktX16_init_1
theorem dksX16_init_0 : cX16_init.data.toList.drop 0 = dktX16_init_0 := by decide +kernel
theorem dksX16_init_1 : cX16_init.data.toList.drop 24 = dktX16_init_1 := dk_seg dksX16_init_0 24 rfl rfl
theorem dX16_init_0 : decode cX16_init 0 = .ok (.aload_n 0, 1) := dk_42 (dk_at dksX16_init_0 0 rfl rfl)
theorem dX16_init_1 : decode cX16_init 1 = .ok (.invokespecial 3, 3) := dk_183 0 3 (dk_at dksX16_init_0 1 rfl rfl)
theorem dX16_init_4 : decode cX16_init 4 = .ok (.aload_n 0, 1) := dk_42 (dk_at dksX16_init_0 4 rfl rfl)
theorem dX16_init_5 : decode cX16_init 5 = .ok (.iconst (-1), 1) := dk_2 (dk_at dksX16_init_0 5 rfl rfl)
theorem dX16_init_6 : decode cX16_init 6 = .ok (.putfield 9, 3) := dk_181 0 9 (dk_at dksX16_init_0 6 rfl rfl)
theorem dX16_init_9 : decode cX16_init 9 = .ok (.aload_n 0, 1) := dk_42 (dk_at dksX16_init_0 9 rfl rfl)
theorem dX16_init_10 : decode cX16_init 10 = .ok (.iload_n 1, 1) := dk_27 (dk_at dksX16_init_0 10 rfl rfl)
theorem dX16_init_11 : decode cX16_init 11 = .ok (.putfield 15, 3) := dk_181 0 15 (dk_at dksX16_init_0 11 rfl rfl)
theorem dX16_init_14 : decode cX16_init 14 = .ok (.aload_n 0, 1) := dk_42 (dk_at dksX16_init_0 14 rfl rfl)
theorem dX16_init_15 : decode cX16_init 15 = .ok (.iload_n 2, 1) := dk_28 (dk_at dksX16_init_0 15 rfl rfl)
theorem dX16_init_16 : decode cX16_init 16 = .ok (.putfield 18, 3) := dk_181 0 18 (dk_at dksX16_init_0 16 rfl rfl)
theorem dX16_init_19 : decode cX16_init 19 = .ok (.aload_n 0, 1) := dk_42 (dk_at dksX16_init_0 19 rfl rfl)
theorem dX16_init_20 : decode cX16_init 20 = .ok (.iload_n 3, 1) := dk_29 (dk_at dksX16_init_0 20 rfl rfl)
theorem dX16_init_21 : decode cX16_init 21 = .ok (.putfield 21, 3) := dk_181 0 21 (dk_at dksX16_init_0 21 rfl rfl)
theorem dX16_init_24 : decode cX16_init 24 = .ok (.aload_n 0, 1) := dk_42 (dk_at dksX16_init_1 0 rfl rfl)
theorem dX16_init_25 : decode cX16_init 25 = .ok (.iload 4, 2) := dk_21 4 (dk_at dksX16_init_1 1 rfl rfl)
theorem dX16_init_27 : decode cX16_init 27 = .ok (.putfield 24, 3) := dk_181 0 24 (dk_at dksX16_init_1 3 rfl rfl)
theorem dX16_init_30 : decode cX16_init 30 = .ok (.return_, 1) := dk_177 (dk_at dksX16_init_1 6 rfl rfl)
theorem q141 : (Jvm.Cond.initialized "LinesTouched$Node") ∈ lw_all := lw_g (lw_at lw_m1 36 rfl) rfl
theorem q901 : (Jvm.Cond.selects "LinesTouched$Node" ({ cls := "java/lang/Object", name := "hashCode", desc := "()I" } : Jvm.MethodName) ({ cls := "java/lang/Object", name := "hashCode", desc := "()I" } : Jvm.MethodName)) ∈ lw_all := lw_g (lw_at lw_m4 76 rfl) rfl
theorem q1112 : (Jvm.Cond.selects "LinesTouched$Node" ({ cls := "java/lang/Object", name := "getClass", desc := "()Ljava/lang/Class;" } : Jvm.MethodName) ({ cls := "java/lang/Object", name := "getClass", desc := "()Ljava/lang/Class;" } : Jvm.MethodName)) ∈ lw_all := lw_g (lw_at lw_m5 47 rfl) rfl
theorem q1361 : (Jvm.Cond.selects "LinesTouched$Node" ({ cls := "java/lang/Object", name := "equals", desc := "(Ljava/lang/Object;)Z" } : Jvm.MethodName) ({ cls := "java/lang/Object", name := "equals", desc := "(Ljava/lang/Object;)Z" } : Jvm.MethodName)) ∈ lw_all := lw_g (lw_at lw_m6 56 rfl) rfl
theorem q1601 : (Jvm.Cond.instantiable "LinesTouched$Node" (5 : Nat)) ∈ lw_all := lw_g (lw_at lw_m7 56 rfl) rfl
theorem q1603 : (Jvm.Cond.instanceMethod ({ cls := "LinesTouched$Node", name := "<init>", desc := "(IIII)V" } : Jvm.MethodName)) ∈ lw_all := lw_g (lw_at lw_m7 58 rfl) rfl
theorem q1604 : (Jvm.Cond.code ({ cls := "LinesTouched$Node", name := "<init>", desc := "(IIII)V" } : Jvm.MethodName) prog_15_method_1_code (5 : Nat) (Option.none : Option Jvm.ClassFile.FieldType)) ∈ lw_all := lw_g (lw_at lw_m7 59 rfl) rfl
theorem q1605 : (Jvm.Cond.methodLink "LinesTouched$Node" (3 : Nat) ({ cls := "java/lang/Object", name := "<init>", desc := "()V" } : Jvm.MethodName)) ∈ lw_all := lw_g (lw_at lw_m7 60 rfl) rfl
theorem q1606 : (Jvm.Cond.fieldLink "LinesTouched$Node" (15 : Nat) "LinesTouched$Node" "left" "I") ∈ lw_all := lw_g (lw_at lw_m7 61 rfl) rfl
theorem q1608 : (Jvm.Cond.fieldLink "LinesTouched$Node" (18 : Nat) "LinesTouched$Node" "taken" "I") ∈ lw_all := lw_g (lw_at lw_m7 63 rfl) rfl
theorem q1610 : (Jvm.Cond.fieldLink "LinesTouched$Node" (21 : Nat) "LinesTouched$Node" "k" "I") ∈ lw_all := lw_g (lw_at lw_m7 65 rfl) rfl
theorem q1612 : (Jvm.Cond.fieldLink "LinesTouched$Node" (24 : Nat) "LinesTouched$Node" "depth" "I") ∈ lw_all := lw_g (lw_at lw_m7 67 rfl) rfl
theorem q1614 : (Jvm.Cond.fieldLink "LinesTouched$Node" (9 : Nat) "LinesTouched$Node" "branch" "I") ∈ lw_all := lw_g (lw_at lw_m7 69 rfl) rfl
theorem q1616 : (Jvm.Cond.laysFinal "LinesTouched$Node" "LinesTouched$Node" "left" "I") ∈ lw_all := lw_g (lw_at lw_m7 71 rfl) rfl
theorem q1617 : (Jvm.Cond.soleField "LinesTouched$Node" "left") ∈ lw_all := lw_g (lw_at lw_m7 72 rfl) rfl
theorem q1618 : (Jvm.Cond.laysFinal "LinesTouched$Node" "LinesTouched$Node" "taken" "I") ∈ lw_all := lw_g (lw_at lw_m7 73 rfl) rfl
theorem q1619 : (Jvm.Cond.soleField "LinesTouched$Node" "taken") ∈ lw_all := lw_g (lw_at lw_m7 74 rfl) rfl
theorem q1620 : (Jvm.Cond.laysFinal "LinesTouched$Node" "LinesTouched$Node" "k" "I") ∈ lw_all := lw_g (lw_at lw_m7 75 rfl) rfl
theorem q1621 : (Jvm.Cond.soleField "LinesTouched$Node" "k") ∈ lw_all := lw_g (lw_at lw_m7 76 rfl) rfl
theorem q1622 : (Jvm.Cond.laysFinal "LinesTouched$Node" "LinesTouched$Node" "depth" "I") ∈ lw_all := lw_g (lw_at lw_m7 77 rfl) rfl
theorem q1623 : (Jvm.Cond.soleField "LinesTouched$Node" "depth") ∈ lw_all := lw_g (lw_at lw_m7 78 rfl) rfl
theorem q1624 : (Jvm.Cond.lays "LinesTouched$Node" "LinesTouched$Node" "branch" "I") ∈ lw_all := lw_g (lw_at lw_m7 79 rfl) rfl
theorem q1625 : (Jvm.Cond.soleField "LinesTouched$Node" "branch") ∈ lw_all := lw_g (lw_at lw_m7 80 rfl) rfl
theorem q1626 : (Jvm.Cond.superclass "LinesTouched$Node" "java/lang/Object") ∈ lw_all := lw_g (lw_at lw_m7 81 rfl) rfl
theorem q3150 : (Jvm.Cond.castable "LinesTouched$Node" "java/lang/Object") ∈ lw_tbl := lw_at lw_m13 165 rfl
theorem in_X16 : ∀ w ∈ wsX160, w ∈ lw_all := lw_in wsX160 [1616, 1618, 1620, 1622, 1624] (by decide +kernel) (by decide +kernel)
/-! LinesTouched$Found -/
set_option maxRecDepth 100000
def RX17 : String := "LinesTouched$Found"
def TX17 : u_T := fun k => match k with
  | 0 => ("java/lang/Throwable", "cause", "Ljava/lang/Throwable;", false)
  | 1 => ("java/lang/Throwable", "stackTrace", "[Ljava/lang/StackTraceElement;", false)
  | 2 => ("java/lang/Throwable", "suppressedExceptions", "Ljava/util/List;", false)
  | 3 => ("java/lang/Throwable", "detailMessage", "Ljava/lang/String;", false)
  | 4 => ("java/lang/Throwable", "backtrace", "Ljava/lang/Object;", false)
  | 5 => ("java/lang/Throwable", "depth", "I", false)
  | _ => ("LinesTouched$Found", "cover", "I", true)
def tyX17 : Nat → FieldType := fun k => match k with
  | 0 => .object "java/lang/Throwable"
  | 1 => .array (.object "java/lang/StackTraceElement")
  | 2 => .object "java/util/List"
  | 3 => .object "java/lang/String"
  | 4 => .object "java/lang/Object"
  | 5 => .int
  | _ => .int
abbrev wsX170 : List Cond := u_ws RX17 TX17 7
theorem nmX17 : ∀ a, a < 7 → ∀ b, b < 7 → a ≠ b → (TX17 a).2.1 ≠ (TX17 b).2.1 := by decide +kernel
theorem tyX17_ok : ∀ k, k < 7 → parseFieldDescriptor (TX17 k).2.2.1 = some (tyX17 k) := by decide +kernel
abbrev cX17_init : ByteArray := prog_9_method_1_code
def yX17_init : MethodName := ⟨RX17, "<init>", "(I)V"⟩
def dkwX17_init_0 : List UInt8 := [42, 1, 1, 3, 3, 183, 0, 1, 42, 27, 181, 0, 7, 177]
abbrev dktX17_init_0 : List UInt8 := dkwX17_init_0 ++ []
theorem dksX17_init_0 : cX17_init.data.toList.drop 0 = dktX17_init_0 := by decide +kernel
theorem dX17_init_0 : decode cX17_init 0 = .ok (.aload_n 0, 1) := dk_42 (dk_at dksX17_init_0 0 rfl rfl)
theorem dX17_init_1 : decode cX17_init 1 = .ok (.aconst_null, 1) := dk_1 (dk_at dksX17_init_0 1 rfl rfl)
theorem dX17_init_2 : decode cX17_init 2 = .ok (.aconst_null, 1) := dk_1 (dk_at dksX17_init_0 2 rfl rfl)
theorem dX17_init_3 : decode cX17_init 3 = .ok (.iconst 0, 1) := dk_3 (dk_at dksX17_init_0 3 rfl rfl)
theorem dX17_init_4 : decode cX17_init 4 = .ok (.iconst 0, 1) := dk_3 (dk_at dksX17_init_0 4 rfl rfl)
theorem dX17_init_5 : decode cX17_init 5 = .ok (.invokespecial 1, 3) := dk_183 0 1 (dk_at dksX17_init_0 5 rfl rfl)
theorem dX17_init_8 : decode cX17_init 8 = .ok (.aload_n 0, 1) := dk_42 (dk_at dksX17_init_0 8 rfl rfl)
theorem dX17_init_9 : decode cX17_init 9 = .ok (.iload_n 1, 1) := dk_27 (dk_at dksX17_init_0 9 rfl rfl)
theorem dX17_init_10 : decode cX17_init 10 = .ok (.putfield 7, 3) := dk_181 0 7 (dk_at dksX17_init_0 10 rfl rfl)
theorem dX17_init_13 : decode cX17_init 13 = .ok (.return_, 1) := dk_177 (dk_at dksX17_init_0 13 rfl rfl)
theorem q144 : (Jvm.Cond.initialized "LinesTouched$Found") ∈ lw_all := lw_g (lw_at lw_m1 39 rfl) rfl
theorem q890 : (Jvm.Cond.selects "LinesTouched$Found" ({ cls := "java/lang/Object", name := "hashCode", desc := "()I" } : Jvm.MethodName) ({ cls := "java/lang/Object", name := "hashCode", desc := "()I" } : Jvm.MethodName)) ∈ lw_all := lw_g (lw_at lw_m4 65 rfl) rfl
theorem q1107 : (Jvm.Cond.selects "LinesTouched$Found" ({ cls := "java/lang/Object", name := "getClass", desc := "()Ljava/lang/Class;" } : Jvm.MethodName) ({ cls := "java/lang/Object", name := "getClass", desc := "()Ljava/lang/Class;" } : Jvm.MethodName)) ∈ lw_all := lw_g (lw_at lw_m5 42 rfl) rfl
theorem q1353 : (Jvm.Cond.selects "LinesTouched$Found" ({ cls := "java/lang/Object", name := "equals", desc := "(Ljava/lang/Object;)Z" } : Jvm.MethodName) ({ cls := "java/lang/Object", name := "equals", desc := "(Ljava/lang/Object;)Z" } : Jvm.MethodName)) ∈ lw_all := lw_g (lw_at lw_m6 48 rfl) rfl
theorem q1627 : (Jvm.Cond.instantiable "LinesTouched$Found" (7 : Nat)) ∈ lw_all := lw_g (lw_at lw_m7 82 rfl) rfl
theorem q1628 : (Jvm.Cond.castable "LinesTouched$Found" "LinesTouched$Found") ∈ lw_tbl := lw_at lw_m7 83 rfl
theorem q1633 : (Jvm.Cond.selects "LinesTouched$Found" ({ cls := "java/lang/Throwable", name := "fillInStackTrace", desc := "(I)Ljava/lang/Throwable;" } : Jvm.MethodName) ({ cls := "java/lang/Throwable", name := "fillInStackTrace", desc := "(I)Ljava/lang/Throwable;" } : Jvm.MethodName)) ∈ lw_all := lw_g (lw_at lw_m7 88 rfl) rfl
theorem q1634 : (Jvm.Cond.selects "LinesTouched$Found" ({ cls := "java/lang/Throwable", name := "fillInStackTrace", desc := "()Ljava/lang/Throwable;" } : Jvm.MethodName) ({ cls := "java/lang/Throwable", name := "fillInStackTrace", desc := "()Ljava/lang/Throwable;" } : Jvm.MethodName)) ∈ lw_all := lw_g (lw_at lw_m7 89 rfl) rfl
theorem q1635 : (Jvm.Cond.lays "LinesTouched$Found" "java/lang/Throwable" "cause" "Ljava/lang/Throwable;") ∈ lw_all := lw_g (lw_at lw_m7 90 rfl) rfl
theorem q1637 : (Jvm.Cond.lays "LinesTouched$Found" "java/lang/Throwable" "stackTrace" "[Ljava/lang/StackTraceElement;") ∈ lw_all := lw_g (lw_at lw_m7 92 rfl) rfl
theorem q1639 : (Jvm.Cond.lays "LinesTouched$Found" "java/lang/Throwable" "suppressedExceptions" "Ljava/util/List;") ∈ lw_all := lw_g (lw_at lw_m7 94 rfl) rfl
theorem q1641 : (Jvm.Cond.lays "LinesTouched$Found" "java/lang/Throwable" "detailMessage" "Ljava/lang/String;") ∈ lw_all := lw_g (lw_at lw_m7 96 rfl) rfl
theorem q1643 : (Jvm.Cond.lays "LinesTouched$Found" "java/lang/Throwable" "backtrace" "Ljava/lang/Object;") ∈ lw_all := lw_g (lw_at lw_m7 98 rfl) rfl
theorem q1683 : (Jvm.Cond.instanceMethod ({ cls := "LinesTouched$Found", name := "<init>", desc := "(I)V" } : Jvm.MethodName)) ∈ lw_all := lw_g (lw_at lw_m7 138 rfl) rfl
theorem q1684 : (Jvm.Cond.code ({ cls := "LinesTouched$Found", name := "<init>", desc := "(I)V" } : Jvm.MethodName) prog_9_method_1_code (2 : Nat) (Option.none : Option Jvm.ClassFile.FieldType)) ∈ lw_all := lw_g (lw_at lw_m7 139 rfl) rfl
theorem q1685 : (Jvm.Cond.methodLink "LinesTouched$Found" (1 : Nat) ({ cls := "java/lang/Exception", name := "<init>", desc := "(Ljava/lang/String;Ljava/lang/Throwable;ZZ)V" } : Jvm.MethodName)) ∈ lw_all := lw_g (lw_at lw_m7 140 rfl) rfl
theorem q1691 : (Jvm.Cond.fieldLink "LinesTouched$Found" (7 : Nat) "LinesTouched$Found" "cover" "I") ∈ lw_all := lw_g (lw_at lw_m7 146 rfl) rfl
theorem q1698 : (Jvm.Cond.laysFinal "LinesTouched$Found" "LinesTouched$Found" "cover" "I") ∈ lw_all := lw_g (lw_at lw_m7 153 rfl) rfl
theorem q1699 : (Jvm.Cond.soleField "LinesTouched$Found" "cover") ∈ lw_all := lw_g (lw_at lw_m7 154 rfl) rfl
theorem q1704 : (Jvm.Cond.lays "LinesTouched$Found" "java/lang/Throwable" "depth" "I") ∈ lw_all := lw_g (lw_at lw_m7 159 rfl) rfl
theorem q1707 : (Jvm.Cond.superclass "LinesTouched$Found" "java/lang/Exception") ∈ lw_all := lw_g (lw_at lw_m7 162 rfl) rfl
theorem q3151 : (Jvm.Cond.castable "LinesTouched$Found" "java/lang/Object") ∈ lw_tbl := lw_at lw_m13 166 rfl
theorem in_X17 : ∀ w ∈ wsX170, w ∈ lw_all := lw_in wsX170 [1635, 1637, 1639, 1641, 1643, 1704, 1698] (by decide +kernel) (by decide +kernel)
/-! LinesTouched$Wrong -/
set_option maxRecDepth 100000
def RX18 : String := "LinesTouched$Wrong"
def TX18 : u_T := fun k => match k with
  | 0 => ("java/lang/Throwable", "cause", "Ljava/lang/Throwable;", false)
  | 1 => ("java/lang/Throwable", "stackTrace", "[Ljava/lang/StackTraceElement;", false)
  | 2 => ("java/lang/Throwable", "suppressedExceptions", "Ljava/util/List;", false)
  | 3 => ("java/lang/Throwable", "detailMessage", "Ljava/lang/String;", false)
  | 4 => ("java/lang/Throwable", "backtrace", "Ljava/lang/Object;", false)
  | _ => ("java/lang/Throwable", "depth", "I", false)
def tyX18 : Nat → FieldType := fun k => match k with
  | 0 => .object "java/lang/Throwable"
  | 1 => .array (.object "java/lang/StackTraceElement")
  | 2 => .object "java/util/List"
  | 3 => .object "java/lang/String"
  | 4 => .object "java/lang/Object"
  | _ => .int
abbrev wsX180 : List Cond := u_ws RX18 TX18 6
theorem nmX18 : ∀ a, a < 6 → ∀ b, b < 6 → a ≠ b → (TX18 a).2.1 ≠ (TX18 b).2.1 := by decide +kernel
theorem tyX18_ok : ∀ k, k < 6 → parseFieldDescriptor (TX18 k).2.2.1 = some (tyX18 k) := by decide +kernel
abbrev cX18_init : ByteArray := prog_30_method_1_code
def yX18_init : MethodName := ⟨RX18, "<init>", "()V"⟩
def dkwX18_init_0 : List UInt8 := [42, 1, 1, 3, 3, 183, 0, 1, 177]
abbrev dktX18_init_0 : List UInt8 := dkwX18_init_0 ++ []
theorem dksX18_init_0 : cX18_init.data.toList.drop 0 = dktX18_init_0 := by decide +kernel
theorem dX18_init_0 : decode cX18_init 0 = .ok (.aload_n 0, 1) := dk_42 (dk_at dksX18_init_0 0 rfl rfl)
theorem dX18_init_1 : decode cX18_init 1 = .ok (.aconst_null, 1) := dk_1 (dk_at dksX18_init_0 1 rfl rfl)
theorem dX18_init_2 : decode cX18_init 2 = .ok (.aconst_null, 1) := dk_1 (dk_at dksX18_init_0 2 rfl rfl)
theorem dX18_init_3 : decode cX18_init 3 = .ok (.iconst 0, 1) := dk_3 (dk_at dksX18_init_0 3 rfl rfl)
theorem dX18_init_4 : decode cX18_init 4 = .ok (.iconst 0, 1) := dk_3 (dk_at dksX18_init_0 4 rfl rfl)
theorem dX18_init_5 : decode cX18_init 5 = .ok (.invokespecial 1, 3) := dk_183 0 1 (dk_at dksX18_init_0 5 rfl rfl)
theorem dX18_init_8 : decode cX18_init 8 = .ok (.return_, 1) := dk_177 (dk_at dksX18_init_0 8 rfl rfl)
theorem q148 : (Jvm.Cond.initialized "LinesTouched$Wrong") ∈ lw_all := lw_g (lw_at lw_m1 43 rfl) rfl
theorem q912 : (Jvm.Cond.selects "LinesTouched$Wrong" ({ cls := "java/lang/Object", name := "hashCode", desc := "()I" } : Jvm.MethodName) ({ cls := "java/lang/Object", name := "hashCode", desc := "()I" } : Jvm.MethodName)) ∈ lw_all := lw_g (lw_at lw_m4 87 rfl) rfl
theorem q1123 : (Jvm.Cond.selects "LinesTouched$Wrong" ({ cls := "java/lang/Object", name := "getClass", desc := "()Ljava/lang/Class;" } : Jvm.MethodName) ({ cls := "java/lang/Object", name := "getClass", desc := "()Ljava/lang/Class;" } : Jvm.MethodName)) ∈ lw_all := lw_g (lw_at lw_m5 58 rfl) rfl
theorem q1372 : (Jvm.Cond.selects "LinesTouched$Wrong" ({ cls := "java/lang/Object", name := "equals", desc := "(Ljava/lang/Object;)Z" } : Jvm.MethodName) ({ cls := "java/lang/Object", name := "equals", desc := "(Ljava/lang/Object;)Z" } : Jvm.MethodName)) ∈ lw_all := lw_g (lw_at lw_m6 67 rfl) rfl
theorem q1658 : (Jvm.Cond.selects "LinesTouched$Wrong" ({ cls := "java/lang/Throwable", name := "fillInStackTrace", desc := "()Ljava/lang/Throwable;" } : Jvm.MethodName) ({ cls := "java/lang/Throwable", name := "fillInStackTrace", desc := "()Ljava/lang/Throwable;" } : Jvm.MethodName)) ∈ lw_all := lw_g (lw_at lw_m7 113 rfl) rfl
theorem q1782 : (Jvm.Cond.instantiable "LinesTouched$Wrong" (6 : Nat)) ∈ lw_all := lw_g (lw_at lw_m7 237 rfl) rfl
theorem q1783 : (Jvm.Cond.castable "LinesTouched$Wrong" "LinesTouched$Wrong") ∈ lw_tbl := lw_at lw_m7 238 rfl
theorem q1784 : (Jvm.Cond.selects "LinesTouched$Wrong" ({ cls := "java/lang/Throwable", name := "fillInStackTrace", desc := "(I)Ljava/lang/Throwable;" } : Jvm.MethodName) ({ cls := "java/lang/Throwable", name := "fillInStackTrace", desc := "(I)Ljava/lang/Throwable;" } : Jvm.MethodName)) ∈ lw_all := lw_g (lw_at lw_m7 239 rfl) rfl
theorem q1785 : (Jvm.Cond.lays "LinesTouched$Wrong" "java/lang/Throwable" "cause" "Ljava/lang/Throwable;") ∈ lw_all := lw_g (lw_at lw_m8 0 rfl) rfl
theorem q1786 : (Jvm.Cond.lays "LinesTouched$Wrong" "java/lang/Throwable" "stackTrace" "[Ljava/lang/StackTraceElement;") ∈ lw_all := lw_g (lw_at lw_m8 1 rfl) rfl
theorem q1787 : (Jvm.Cond.lays "LinesTouched$Wrong" "java/lang/Throwable" "suppressedExceptions" "Ljava/util/List;") ∈ lw_all := lw_g (lw_at lw_m8 2 rfl) rfl
theorem q1788 : (Jvm.Cond.lays "LinesTouched$Wrong" "java/lang/Throwable" "detailMessage" "Ljava/lang/String;") ∈ lw_all := lw_g (lw_at lw_m8 3 rfl) rfl
theorem q1789 : (Jvm.Cond.lays "LinesTouched$Wrong" "java/lang/Throwable" "backtrace" "Ljava/lang/Object;") ∈ lw_all := lw_g (lw_at lw_m8 4 rfl) rfl
theorem q1791 : (Jvm.Cond.instanceMethod ({ cls := "LinesTouched$Wrong", name := "<init>", desc := "()V" } : Jvm.MethodName)) ∈ lw_all := lw_g (lw_at lw_m8 6 rfl) rfl
theorem q1792 : (Jvm.Cond.code ({ cls := "LinesTouched$Wrong", name := "<init>", desc := "()V" } : Jvm.MethodName) prog_30_method_1_code (1 : Nat) (Option.none : Option Jvm.ClassFile.FieldType)) ∈ lw_all := lw_g (lw_at lw_m8 7 rfl) rfl
theorem q1793 : (Jvm.Cond.methodLink "LinesTouched$Wrong" (1 : Nat) ({ cls := "java/lang/Exception", name := "<init>", desc := "(Ljava/lang/String;Ljava/lang/Throwable;ZZ)V" } : Jvm.MethodName)) ∈ lw_all := lw_g (lw_at lw_m8 8 rfl) rfl
theorem q1794 : (Jvm.Cond.lays "LinesTouched$Wrong" "java/lang/Throwable" "depth" "I") ∈ lw_all := lw_g (lw_at lw_m8 9 rfl) rfl
theorem q1795 : (Jvm.Cond.superclass "LinesTouched$Wrong" "java/lang/Exception") ∈ lw_all := lw_g (lw_at lw_m8 10 rfl) rfl
theorem q3153 : (Jvm.Cond.castable "LinesTouched$Wrong" "java/lang/Object") ∈ lw_tbl := lw_at lw_m13 168 rfl
theorem in_X18 : ∀ w ∈ wsX180, w ∈ lw_all := lw_in wsX180 [1785, 1786, 1787, 1788, 1789, 1794] (by decide +kernel) (by decide +kernel)
/-! LinesTouched$Line -/
set_option maxRecDepth 100000
def RX19 : String := "LinesTouched$Line"
def TX19 : u_T := fun k => match k with
  | 0 => ("LinesTouched$Line", "a", "I", true)
  | _ => ("LinesTouched$Line", "b", "I", true)
def tyX19 : Nat → FieldType := fun k => match k with
  | 0 => .int
  | _ => .int
abbrev wsX190 : List Cond := u_ws RX19 TX19 2
theorem nmX19 : ∀ a, a < 2 → ∀ b, b < 2 → a ≠ b → (TX19 a).2.1 ≠ (TX19 b).2.1 := by decide +kernel
theorem tyX19_ok : ∀ k, k < 2 → parseFieldDescriptor (TX19 k).2.2.1 = some (tyX19 k) := by decide +kernel
abbrev cX19_hashCode : ByteArray := prog_12_method_4_code
def yX19_hashCode : MethodName := ⟨RX19, "hashCode", "()I"⟩
theorem dX19_hashCode_0 : decode cX19_hashCode 0 = .ok (.aload_n 0, 1) := by decide +kernel
theorem dX19_hashCode_1 : decode cX19_hashCode 1 = .ok (.invokevirtual 27, 3) := by decide +kernel
theorem dX19_hashCode_4 : decode cX19_hashCode 4 = .ok (.ireturn, 1) := by decide +kernel
abbrev cX19_told : ByteArray := prog_12_method_2_code
def yX19_told : MethodName := ⟨RX19, "told", "()I"⟩
def dkwX19_told_0 : List UInt8 := [16, 12, 42, 180, 0, 15, 104, 42, 180, 0, 24, 96, 172]
abbrev dktX19_told_0 : List UInt8 := dkwX19_told_0 ++ []
theorem dksX19_told_0 : cX19_told.data.toList.drop 0 = dktX19_told_0 := by decide +kernel
theorem dX19_told_0 : decode cX19_told 0 = .ok (.bipush 12, 2) := dk_16 12 (dk_at dksX19_told_0 0 rfl rfl)
theorem dX19_told_2 : decode cX19_told 2 = .ok (.aload_n 0, 1) := dk_42 (dk_at dksX19_told_0 2 rfl rfl)
theorem dX19_told_3 : decode cX19_told 3 = .ok (.getfield 15, 3) := dk_180 0 15 (dk_at dksX19_told_0 3 rfl rfl)
theorem dX19_told_6 : decode cX19_told 6 = .ok (.imul, 1) := dk_104 (dk_at dksX19_told_0 6 rfl rfl)
theorem dX19_told_7 : decode cX19_told 7 = .ok (.aload_n 0, 1) := dk_42 (dk_at dksX19_told_0 7 rfl rfl)
theorem dX19_told_8 : decode cX19_told 8 = .ok (.getfield 24, 3) := dk_180 0 24 (dk_at dksX19_told_0 8 rfl rfl)
theorem dX19_told_11 : decode cX19_told 11 = .ok (.iadd, 1) := dk_96 (dk_at dksX19_told_0 11 rfl rfl)
theorem dX19_told_12 : decode cX19_told 12 = .ok (.ireturn, 1) := dk_172 (dk_at dksX19_told_0 12 rfl rfl)
abbrev cX19_equals : ByteArray := prog_12_method_3_code
def yX19_equals : MethodName := ⟨RX19, "equals", "(Ljava/lang/Object;)Z"⟩
def dkwX19_equals_1 : List UInt8 := [192, 0, 16, 180, 0, 24, 42, 180, 0, 24, 160, 0, 7, 4, 167, 0, 4, 3, 172]
abbrev dktX19_equals_1 : List UInt8 := dkwX19_equals_1 ++ []
def dkwX19_equals_0 : List UInt8 := [43, 193, 0, 16, 153, 0, 35, 43, 192, 0, 16, 180, 0, 15, 42, 180, 0, 15, 160, 0, 21, 43]
abbrev dktX19_equals_0 : List UInt8 := dkwX19_equals_0 ++ dktX19_equals_1
theorem dksX19_equals_0 : cX19_equals.data.toList.drop 0 = dktX19_equals_0 := by decide +kernel
theorem dksX19_equals_1 : cX19_equals.data.toList.drop 22 = dktX19_equals_1 := dk_seg dksX19_equals_0 22 rfl rfl
theorem dX19_equals_0 : decode cX19_equals 0 = .ok (.aload_n 1, 1) := dk_43 (dk_at dksX19_equals_0 0 rfl rfl)
theorem dX19_equals_1 : decode cX19_equals 1 = .ok (.instanceof 16, 3) := dk_193 0 16 (dk_at dksX19_equals_0 1 rfl rfl)
theorem dX19_equals_4 : decode cX19_equals 4 = .ok (.ifCond .eq 35, 3) := dk_153 0 35 (dk_at dksX19_equals_0 4 rfl rfl)
theorem dX19_equals_7 : decode cX19_equals 7 = .ok (.aload_n 1, 1) := dk_43 (dk_at dksX19_equals_0 7 rfl rfl)
theorem dX19_equals_8 : decode cX19_equals 8 = .ok (.checkcast 16, 3) := dk_192 0 16 (dk_at dksX19_equals_0 8 rfl rfl)
theorem dX19_equals_11 : decode cX19_equals 11 = .ok (.getfield 15, 3) := dk_180 0 15 (dk_at dksX19_equals_0 11 rfl rfl)
theorem dX19_equals_14 : decode cX19_equals 14 = .ok (.aload_n 0, 1) := dk_42 (dk_at dksX19_equals_0 14 rfl rfl)
theorem dX19_equals_15 : decode cX19_equals 15 = .ok (.getfield 15, 3) := dk_180 0 15 (dk_at dksX19_equals_0 15 rfl rfl)
theorem dX19_equals_18 : decode cX19_equals 18 = .ok (.if_icmp .ne 21, 3) := dk_160 0 21 (dk_at dksX19_equals_0 18 rfl rfl)
theorem dX19_equals_21 : decode cX19_equals 21 = .ok (.aload_n 1, 1) := dk_43 (dk_at dksX19_equals_0 21 rfl rfl)
theorem dX19_equals_22 : decode cX19_equals 22 = .ok (.checkcast 16, 3) := dk_192 0 16 (dk_at dksX19_equals_1 0 rfl rfl)
theorem dX19_equals_25 : decode cX19_equals 25 = .ok (.getfield 24, 3) := dk_180 0 24 (dk_at dksX19_equals_1 3 rfl rfl)
theorem dX19_equals_28 : decode cX19_equals 28 = .ok (.aload_n 0, 1) := dk_42 (dk_at dksX19_equals_1 6 rfl rfl)
theorem dX19_equals_29 : decode cX19_equals 29 = .ok (.getfield 24, 3) := dk_180 0 24 (dk_at dksX19_equals_1 7 rfl rfl)
theorem dX19_equals_32 : decode cX19_equals 32 = .ok (.if_icmp .ne 7, 3) := dk_160 0 7 (dk_at dksX19_equals_1 10 rfl rfl)
theorem dX19_equals_35 : decode cX19_equals 35 = .ok (.iconst 1, 1) := dk_4 (dk_at dksX19_equals_1 13 rfl rfl)
theorem dX19_equals_36 : decode cX19_equals 36 = .ok (.goto 4, 3) := dk_167 0 4 (dk_at dksX19_equals_1 14 rfl rfl)
theorem dX19_equals_39 : decode cX19_equals 39 = .ok (.iconst 0, 1) := dk_3 (dk_at dksX19_equals_1 17 rfl rfl)
theorem dX19_equals_40 : decode cX19_equals 40 = .ok (.ireturn, 1) := dk_172 (dk_at dksX19_equals_1 18 rfl rfl)
abbrev cX19_init : ByteArray := prog_12_method_1_code
def yX19_init : MethodName := ⟨RX19, "<init>", "(II)V"⟩
def dkwX19_init_0 : List UInt8 := [42, 183, 0, 3, 42, 27, 28, 184, 0, 9, 181, 0, 15, 42, 27, 28, 184, 0, 21, 181, 0, 24, 177]
abbrev dktX19_init_0 : List UInt8 := dkwX19_init_0 ++ []
theorem dksX19_init_0 : cX19_init.data.toList.drop 0 = dktX19_init_0 := by decide +kernel
theorem dX19_init_0 : decode cX19_init 0 = .ok (.aload_n 0, 1) := dk_42 (dk_at dksX19_init_0 0 rfl rfl)
theorem dX19_init_1 : decode cX19_init 1 = .ok (.invokespecial 3, 3) := dk_183 0 3 (dk_at dksX19_init_0 1 rfl rfl)
theorem dX19_init_4 : decode cX19_init 4 = .ok (.aload_n 0, 1) := dk_42 (dk_at dksX19_init_0 4 rfl rfl)
theorem dX19_init_5 : decode cX19_init 5 = .ok (.iload_n 1, 1) := dk_27 (dk_at dksX19_init_0 5 rfl rfl)
theorem dX19_init_6 : decode cX19_init 6 = .ok (.iload_n 2, 1) := dk_28 (dk_at dksX19_init_0 6 rfl rfl)
theorem dX19_init_7 : decode cX19_init 7 = .ok (.invokestatic 9, 3) := dk_184 0 9 (dk_at dksX19_init_0 7 rfl rfl)
theorem dX19_init_10 : decode cX19_init 10 = .ok (.putfield 15, 3) := dk_181 0 15 (dk_at dksX19_init_0 10 rfl rfl)
theorem dX19_init_13 : decode cX19_init 13 = .ok (.aload_n 0, 1) := dk_42 (dk_at dksX19_init_0 13 rfl rfl)
theorem dX19_init_14 : decode cX19_init 14 = .ok (.iload_n 1, 1) := dk_27 (dk_at dksX19_init_0 14 rfl rfl)
theorem dX19_init_15 : decode cX19_init 15 = .ok (.iload_n 2, 1) := dk_28 (dk_at dksX19_init_0 15 rfl rfl)
theorem dX19_init_16 : decode cX19_init 16 = .ok (.invokestatic 21, 3) := dk_184 0 21 (dk_at dksX19_init_0 16 rfl rfl)
theorem dX19_init_19 : decode cX19_init 19 = .ok (.putfield 24, 3) := dk_181 0 24 (dk_at dksX19_init_0 19 rfl rfl)
theorem dX19_init_22 : decode cX19_init 22 = .ok (.return_, 1) := dk_177 (dk_at dksX19_init_0 22 rfl rfl)
theorem q149 : (Jvm.Cond.initialized "LinesTouched$Line") ∈ lw_all := lw_g (lw_at lw_m1 44 rfl) rfl
theorem q893 : (Jvm.Cond.selects "LinesTouched$Line" ({ cls := "java/lang/Object", name := "hashCode", desc := "()I" } : Jvm.MethodName) ({ cls := "LinesTouched$Line", name := "hashCode", desc := "()I" } : Jvm.MethodName)) ∈ lw_all := lw_g (lw_at lw_m4 68 rfl) rfl
theorem q894 : (Jvm.Cond.instanceMethod ({ cls := "LinesTouched$Line", name := "hashCode", desc := "()I" } : Jvm.MethodName)) ∈ lw_all := lw_g (lw_at lw_m4 69 rfl) rfl
theorem q895 : (Jvm.Cond.code ({ cls := "LinesTouched$Line", name := "hashCode", desc := "()I" } : Jvm.MethodName) prog_12_method_4_code (1 : Nat) (Option.some Jvm.ClassFile.FieldType.int)) ∈ lw_all := lw_g (lw_at lw_m4 70 rfl) rfl
theorem q896 : (Jvm.Cond.methodLink "LinesTouched$Line" (27 : Nat) ({ cls := "LinesTouched$Line", name := "told", desc := "()I" } : Jvm.MethodName)) ∈ lw_all := lw_g (lw_at lw_m4 71 rfl) rfl
theorem q897 : (Jvm.Cond.instanceMethod ({ cls := "LinesTouched$Line", name := "told", desc := "()I" } : Jvm.MethodName)) ∈ lw_all := lw_g (lw_at lw_m4 72 rfl) rfl
theorem q898 : (Jvm.Cond.selects "LinesTouched$Line" ({ cls := "LinesTouched$Line", name := "told", desc := "()I" } : Jvm.MethodName) ({ cls := "LinesTouched$Line", name := "told", desc := "()I" } : Jvm.MethodName)) ∈ lw_all := lw_g (lw_at lw_m4 73 rfl) rfl
theorem q899 : (Jvm.Cond.code ({ cls := "LinesTouched$Line", name := "told", desc := "()I" } : Jvm.MethodName) prog_12_method_2_code (1 : Nat) (Option.some Jvm.ClassFile.FieldType.int)) ∈ lw_all := lw_g (lw_at lw_m4 74 rfl) rfl
theorem q1110 : (Jvm.Cond.selects "LinesTouched$Line" ({ cls := "java/lang/Object", name := "getClass", desc := "()Ljava/lang/Class;" } : Jvm.MethodName) ({ cls := "java/lang/Object", name := "getClass", desc := "()Ljava/lang/Class;" } : Jvm.MethodName)) ∈ lw_all := lw_g (lw_at lw_m5 45 rfl) rfl
theorem q1356 : (Jvm.Cond.selects "LinesTouched$Line" ({ cls := "java/lang/Object", name := "equals", desc := "(Ljava/lang/Object;)Z" } : Jvm.MethodName) ({ cls := "LinesTouched$Line", name := "equals", desc := "(Ljava/lang/Object;)Z" } : Jvm.MethodName)) ∈ lw_all := lw_g (lw_at lw_m6 51 rfl) rfl
theorem q1357 : (Jvm.Cond.instanceMethod ({ cls := "LinesTouched$Line", name := "equals", desc := "(Ljava/lang/Object;)Z" } : Jvm.MethodName)) ∈ lw_all := lw_g (lw_at lw_m6 52 rfl) rfl
theorem q1358 : (Jvm.Cond.code ({ cls := "LinesTouched$Line", name := "equals", desc := "(Ljava/lang/Object;)Z" } : Jvm.MethodName) prog_12_method_3_code (2 : Nat) (Option.some Jvm.ClassFile.FieldType.boolean)) ∈ lw_all := lw_g (lw_at lw_m6 53 rfl) rfl
theorem q1359 : (Jvm.Cond.classLink "LinesTouched$Line" (16 : Nat) "LinesTouched$Line") ∈ lw_all := lw_g (lw_at lw_m6 54 rfl) rfl
theorem q1809 : (Jvm.Cond.instantiable "LinesTouched$Line" (2 : Nat)) ∈ lw_all := lw_g (lw_at lw_m8 24 rfl) rfl
theorem q1811 : (Jvm.Cond.instanceMethod ({ cls := "LinesTouched$Line", name := "<init>", desc := "(II)V" } : Jvm.MethodName)) ∈ lw_all := lw_g (lw_at lw_m8 26 rfl) rfl
theorem q1812 : (Jvm.Cond.code ({ cls := "LinesTouched$Line", name := "<init>", desc := "(II)V" } : Jvm.MethodName) prog_12_method_1_code (3 : Nat) (Option.none : Option Jvm.ClassFile.FieldType)) ∈ lw_all := lw_g (lw_at lw_m8 27 rfl) rfl
theorem q1813 : (Jvm.Cond.methodLink "LinesTouched$Line" (3 : Nat) ({ cls := "java/lang/Object", name := "<init>", desc := "()V" } : Jvm.MethodName)) ∈ lw_all := lw_g (lw_at lw_m8 28 rfl) rfl
theorem q1814 : (Jvm.Cond.methodLink "LinesTouched$Line" (9 : Nat) ({ cls := "java/lang/Math", name := "min", desc := "(II)I" } : Jvm.MethodName)) ∈ lw_all := lw_g (lw_at lw_m8 29 rfl) rfl
theorem q1815 : (Jvm.Cond.methodLink "LinesTouched$Line" (21 : Nat) ({ cls := "java/lang/Math", name := "max", desc := "(II)I" } : Jvm.MethodName)) ∈ lw_all := lw_g (lw_at lw_m8 30 rfl) rfl
theorem q1816 : (Jvm.Cond.fieldLink "LinesTouched$Line" (15 : Nat) "LinesTouched$Line" "a" "I") ∈ lw_all := lw_g (lw_at lw_m8 31 rfl) rfl
theorem q1817 : (Jvm.Cond.fieldLink "LinesTouched$Line" (24 : Nat) "LinesTouched$Line" "b" "I") ∈ lw_all := lw_g (lw_at lw_m8 32 rfl) rfl
theorem q1818 : (Jvm.Cond.laysFinal "LinesTouched$Line" "LinesTouched$Line" "a" "I") ∈ lw_all := lw_g (lw_at lw_m8 33 rfl) rfl
theorem q1819 : (Jvm.Cond.soleField "LinesTouched$Line" "a") ∈ lw_all := lw_g (lw_at lw_m8 34 rfl) rfl
theorem q1820 : (Jvm.Cond.laysFinal "LinesTouched$Line" "LinesTouched$Line" "b" "I") ∈ lw_all := lw_g (lw_at lw_m8 35 rfl) rfl
theorem q1821 : (Jvm.Cond.soleField "LinesTouched$Line" "b") ∈ lw_all := lw_g (lw_at lw_m8 36 rfl) rfl
theorem q1822 : (Jvm.Cond.superclass "LinesTouched$Line" "java/lang/Object") ∈ lw_all := lw_g (lw_at lw_m8 37 rfl) rfl
theorem q3154 : (Jvm.Cond.castable "LinesTouched$Line" "java/lang/Object") ∈ lw_tbl := lw_at lw_m13 169 rfl
theorem in_X19 : ∀ w ∈ wsX190, w ∈ lw_all := lw_in wsX190 [1818, 1820] (by decide +kernel) (by decide +kernel)
/-! LinesTouched$Reader -/
set_option maxRecDepth 100000
def RX20 : String := "LinesTouched$Reader"
def TX20 : u_T := fun k => match k with
  | 0 => ("LinesTouched$Reader", "words", "[Ljava/lang/String;", true)
  | 1 => ("LinesTouched$Reader", "tape", "[B", true)
  | 2 => ("LinesTouched$Reader", "size", "I", true)
  | 3 => ("LinesTouched$Reader", "twigs", "[LLinesTouched$Twig;", true)
  | 4 => ("LinesTouched$Reader", "many", "I", false)
  | 5 => ("LinesTouched$Reader", "open", "I", false)
  | 6 => ("LinesTouched$Reader", "at", "I", false)
  | 7 => ("LinesTouched$Reader", "from", "I", false)
  | _ => ("LinesTouched$Reader", "token", "I", false)
def tyX20 : Nat → FieldType := fun k => match k with
  | 0 => .array (.object "java/lang/String")
  | 1 => .array .byte
  | 2 => .int
  | 3 => .array (.object "LinesTouched$Twig")
  | 4 => .int
  | 5 => .int
  | 6 => .int
  | 7 => .int
  | _ => .int
abbrev wsX200 : List Cond := u_ws RX20 TX20 9
theorem nmX20 : ∀ a, a < 9 → ∀ b, b < 9 → a ≠ b → (TX20 a).2.1 ≠ (TX20 b).2.1 := by decide +kernel
theorem tyX20_ok : ∀ k, k < 9 → parseFieldDescriptor (TX20 k).2.2.1 = some (tyX20 k) := by decide +kernel
abbrev cX20_init : ByteArray := prog_18_method_1_code
def yX20_init : MethodName := ⟨RX20, "<init>", "([BI)V"⟩
def dkwX20_init_2 : List UInt8 := [189, 0, 29, 181, 0, 31, 42, 43, 181, 0, 35, 42, 28, 181, 0, 39, 177]
abbrev dktX20_init_2 : List UInt8 := dkwX20_init_2 ++ []
def dkwX20_init_1 : List UInt8 := [83, 89, 6, 18, 17, 83, 89, 7, 18, 19, 83, 89, 8, 18, 21, 83, 181, 0, 23, 42, 16, 60]
abbrev dktX20_init_1 : List UInt8 := dkwX20_init_1 ++ dktX20_init_2
def dkwX20_init_0 : List UInt8 := [42, 183, 0, 3, 42, 16, 6, 189, 0, 9, 89, 3, 18, 11, 83, 89, 4, 18, 13, 83, 89, 5, 18, 15]
abbrev dktX20_init_0 : List UInt8 := dkwX20_init_0 ++ dktX20_init_1
theorem dksX20_init_0 : cX20_init.data.toList.drop 0 = dktX20_init_0 := by decide +kernel
theorem dksX20_init_1 : cX20_init.data.toList.drop 24 = dktX20_init_1 := dk_seg dksX20_init_0 24 rfl rfl
theorem dksX20_init_2 : cX20_init.data.toList.drop 46 = dktX20_init_2 := dk_seg dksX20_init_1 22 rfl rfl
theorem dX20_init_0 : decode cX20_init 0 = .ok (.aload_n 0, 1) := dk_42 (dk_at dksX20_init_0 0 rfl rfl)
theorem dX20_init_1 : decode cX20_init 1 = .ok (.invokespecial 3, 3) := dk_183 0 3 (dk_at dksX20_init_0 1 rfl rfl)
theorem dX20_init_4 : decode cX20_init 4 = .ok (.aload_n 0, 1) := dk_42 (dk_at dksX20_init_0 4 rfl rfl)
theorem dX20_init_5 : decode cX20_init 5 = .ok (.bipush 6, 2) := dk_16 6 (dk_at dksX20_init_0 5 rfl rfl)
theorem dX20_init_7 : decode cX20_init 7 = .ok (.anewarray 9, 3) := dk_189 0 9 (dk_at dksX20_init_0 7 rfl rfl)
theorem dX20_init_10 : decode cX20_init 10 = .ok (.dup, 1) := dk_89 (dk_at dksX20_init_0 10 rfl rfl)
theorem dX20_init_11 : decode cX20_init 11 = .ok (.iconst 0, 1) := dk_3 (dk_at dksX20_init_0 11 rfl rfl)
theorem dX20_init_12 : decode cX20_init 12 = .ok (.ldc 11, 2) := dk_18 11 (dk_at dksX20_init_0 12 rfl rfl)
theorem dX20_init_14 : decode cX20_init 14 = .ok (.aastore, 1) := dk_83 (dk_at dksX20_init_0 14 rfl rfl)
theorem dX20_init_15 : decode cX20_init 15 = .ok (.dup, 1) := dk_89 (dk_at dksX20_init_0 15 rfl rfl)
theorem dX20_init_16 : decode cX20_init 16 = .ok (.iconst 1, 1) := dk_4 (dk_at dksX20_init_0 16 rfl rfl)
theorem dX20_init_17 : decode cX20_init 17 = .ok (.ldc 13, 2) := dk_18 13 (dk_at dksX20_init_0 17 rfl rfl)
theorem dX20_init_19 : decode cX20_init 19 = .ok (.aastore, 1) := dk_83 (dk_at dksX20_init_0 19 rfl rfl)
theorem dX20_init_20 : decode cX20_init 20 = .ok (.dup, 1) := dk_89 (dk_at dksX20_init_0 20 rfl rfl)
theorem dX20_init_21 : decode cX20_init 21 = .ok (.iconst 2, 1) := dk_5 (dk_at dksX20_init_0 21 rfl rfl)
theorem dX20_init_22 : decode cX20_init 22 = .ok (.ldc 15, 2) := dk_18 15 (dk_at dksX20_init_0 22 rfl rfl)
theorem dX20_init_24 : decode cX20_init 24 = .ok (.aastore, 1) := dk_83 (dk_at dksX20_init_1 0 rfl rfl)
theorem dX20_init_25 : decode cX20_init 25 = .ok (.dup, 1) := dk_89 (dk_at dksX20_init_1 1 rfl rfl)
theorem dX20_init_26 : decode cX20_init 26 = .ok (.iconst 3, 1) := dk_6 (dk_at dksX20_init_1 2 rfl rfl)
theorem dX20_init_27 : decode cX20_init 27 = .ok (.ldc 17, 2) := dk_18 17 (dk_at dksX20_init_1 3 rfl rfl)
theorem dX20_init_29 : decode cX20_init 29 = .ok (.aastore, 1) := dk_83 (dk_at dksX20_init_1 5 rfl rfl)
theorem dX20_init_30 : decode cX20_init 30 = .ok (.dup, 1) := dk_89 (dk_at dksX20_init_1 6 rfl rfl)
theorem dX20_init_31 : decode cX20_init 31 = .ok (.iconst 4, 1) := dk_7 (dk_at dksX20_init_1 7 rfl rfl)
theorem dX20_init_32 : decode cX20_init 32 = .ok (.ldc 19, 2) := dk_18 19 (dk_at dksX20_init_1 8 rfl rfl)
theorem dX20_init_34 : decode cX20_init 34 = .ok (.aastore, 1) := dk_83 (dk_at dksX20_init_1 10 rfl rfl)
theorem dX20_init_35 : decode cX20_init 35 = .ok (.dup, 1) := dk_89 (dk_at dksX20_init_1 11 rfl rfl)
theorem dX20_init_36 : decode cX20_init 36 = .ok (.iconst 5, 1) := dk_8 (dk_at dksX20_init_1 12 rfl rfl)
theorem dX20_init_37 : decode cX20_init 37 = .ok (.ldc 21, 2) := dk_18 21 (dk_at dksX20_init_1 13 rfl rfl)
theorem dX20_init_39 : decode cX20_init 39 = .ok (.aastore, 1) := dk_83 (dk_at dksX20_init_1 15 rfl rfl)
theorem dX20_init_40 : decode cX20_init 40 = .ok (.putfield 23, 3) := dk_181 0 23 (dk_at dksX20_init_1 16 rfl rfl)
theorem dX20_init_43 : decode cX20_init 43 = .ok (.aload_n 0, 1) := dk_42 (dk_at dksX20_init_1 19 rfl rfl)
theorem dX20_init_44 : decode cX20_init 44 = .ok (.bipush 60, 2) := dk_16 60 (dk_at dksX20_init_1 20 rfl rfl)
theorem dX20_init_46 : decode cX20_init 46 = .ok (.anewarray 29, 3) := dk_189 0 29 (dk_at dksX20_init_2 0 rfl rfl)
theorem dX20_init_49 : decode cX20_init 49 = .ok (.putfield 31, 3) := dk_181 0 31 (dk_at dksX20_init_2 3 rfl rfl)
theorem dX20_init_52 : decode cX20_init 52 = .ok (.aload_n 0, 1) := dk_42 (dk_at dksX20_init_2 6 rfl rfl)
theorem dX20_init_53 : decode cX20_init 53 = .ok (.aload_n 1, 1) := dk_43 (dk_at dksX20_init_2 7 rfl rfl)
theorem dX20_init_54 : decode cX20_init 54 = .ok (.putfield 35, 3) := dk_181 0 35 (dk_at dksX20_init_2 8 rfl rfl)
theorem dX20_init_57 : decode cX20_init 57 = .ok (.aload_n 0, 1) := dk_42 (dk_at dksX20_init_2 11 rfl rfl)
theorem dX20_init_58 : decode cX20_init 58 = .ok (.iload_n 2, 1) := dk_28 (dk_at dksX20_init_2 12 rfl rfl)
theorem dX20_init_59 : decode cX20_init 59 = .ok (.putfield 39, 3) := dk_181 0 39 (dk_at dksX20_init_2 13 rfl rfl)
theorem dX20_init_62 : decode cX20_init 62 = .ok (.return_, 1) := dk_177 (dk_at dksX20_init_2 16 rfl rfl)
abbrev cX20_reads : ByteArray := prog_18_method_10_code
def yX20_reads : MethodName := ⟨RX20, "reads", "()V"⟩
def dkwX20_reads_1 : List UInt8 := [182, 0, 80, 177]
abbrev dktX20_reads_1 : List UInt8 := dkwX20_reads_1 ++ []
def dkwX20_reads_0 : List UInt8 := [42, 182, 0, 84, 42, 1, 182, 0, 106, 42, 42, 180, 0, 61, 154, 0, 7, 4, 167, 0, 4, 3]
abbrev dktX20_reads_0 : List UInt8 := dkwX20_reads_0 ++ dktX20_reads_1
theorem dksX20_reads_0 : cX20_reads.data.toList.drop 0 = dktX20_reads_0 := by decide +kernel
theorem dksX20_reads_1 : cX20_reads.data.toList.drop 22 = dktX20_reads_1 := dk_seg dksX20_reads_0 22 rfl rfl
theorem dX20_reads_0 : decode cX20_reads 0 = .ok (.aload_n 0, 1) := dk_42 (dk_at dksX20_reads_0 0 rfl rfl)
theorem dX20_reads_1 : decode cX20_reads 1 = .ok (.invokevirtual 84, 3) := dk_182 0 84 (dk_at dksX20_reads_0 1 rfl rfl)
theorem dX20_reads_4 : decode cX20_reads 4 = .ok (.aload_n 0, 1) := dk_42 (dk_at dksX20_reads_0 4 rfl rfl)
theorem dX20_reads_5 : decode cX20_reads 5 = .ok (.aconst_null, 1) := dk_1 (dk_at dksX20_reads_0 5 rfl rfl)
theorem dX20_reads_6 : decode cX20_reads 6 = .ok (.invokevirtual 106, 3) := dk_182 0 106 (dk_at dksX20_reads_0 6 rfl rfl)
theorem dX20_reads_9 : decode cX20_reads 9 = .ok (.aload_n 0, 1) := dk_42 (dk_at dksX20_reads_0 9 rfl rfl)
theorem dX20_reads_10 : decode cX20_reads 10 = .ok (.aload_n 0, 1) := dk_42 (dk_at dksX20_reads_0 10 rfl rfl)
theorem dX20_reads_11 : decode cX20_reads 11 = .ok (.getfield 61, 3) := dk_180 0 61 (dk_at dksX20_reads_0 11 rfl rfl)
theorem dX20_reads_14 : decode cX20_reads 14 = .ok (.ifCond .ne 7, 3) := dk_154 0 7 (dk_at dksX20_reads_0 14 rfl rfl)
theorem dX20_reads_17 : decode cX20_reads 17 = .ok (.iconst 1, 1) := dk_4 (dk_at dksX20_reads_0 17 rfl rfl)
theorem dX20_reads_18 : decode cX20_reads 18 = .ok (.goto 4, 3) := dk_167 0 4 (dk_at dksX20_reads_0 18 rfl rfl)
theorem dX20_reads_21 : decode cX20_reads 21 = .ok (.iconst 0, 1) := dk_3 (dk_at dksX20_reads_0 21 rfl rfl)
theorem dX20_reads_22 : decode cX20_reads 22 = .ok (.invokevirtual 80, 3) := dk_182 0 80 (dk_at dksX20_reads_1 0 rfl rfl)
theorem dX20_reads_25 : decode cX20_reads 25 = .ok (.return_, 1) := dk_177 (dk_at dksX20_reads_1 3 rfl rfl)
abbrev cX20_next : ByteArray := prog_18_method_4_code
def yX20_next : MethodName := ⟨RX20, "next", "()V"⟩
def dkwX20_next_7 : List UInt8 := [153, 0, 16, 42, 89, 180, 0, 43, 4, 96, 181, 0, 43, 167, 255, 208, 177]
abbrev dktX20_next_7 : List UInt8 := dkwX20_next_7 ++ []
def dkwX20_next_6 : List UInt8 := [16, 122, 182, 0, 50, 154, 0, 22, 42, 180, 0, 61, 5, 160, 0, 27, 42, 16, 48, 16, 57, 182, 0, 50]
abbrev dktX20_next_6 : List UInt8 := dkwX20_next_6 ++ dktX20_next_7
def dkwX20_next_5 : List UInt8 := [164, 0, 7, 4, 167, 0, 4, 3, 96, 181, 0, 43, 42, 180, 0, 61, 4, 160, 0, 14, 42, 16, 97]
abbrev dktX20_next_5 : List UInt8 := dkwX20_next_5 ++ dktX20_next_6
def dkwX20_next_4 : List UInt8 := [16, 41, 160, 0, 7, 7, 167, 0, 4, 8, 181, 0, 61, 42, 89, 180, 0, 43, 42, 180, 0, 61, 5]
abbrev dktX20_next_4 : List UInt8 := dkwX20_next_4 ++ dktX20_next_5
def dkwX20_next_3 : List UInt8 := [153, 0, 7, 5, 167, 0, 30, 42, 182, 0, 57, 16, 40, 160, 0, 7, 6, 167, 0, 17, 42, 182, 0, 57]
abbrev dktX20_next_3 : List UInt8 := dkwX20_next_3 ++ dktX20_next_4
def dkwX20_next_2 : List UInt8 := [42, 16, 97, 16, 122, 182, 0, 50, 153, 0, 7, 4, 167, 0, 45, 42, 16, 48, 16, 57, 182, 0, 50]
abbrev dktX20_next_2 : List UInt8 := dkwX20_next_2 ++ dktX20_next_3
def dkwX20_next_1 : List UInt8 := [42, 42, 180, 0, 43, 181, 0, 54, 42, 42, 180, 0, 43, 42, 180, 0, 39, 160, 0, 7, 3, 167, 0, 60]
abbrev dktX20_next_1 : List UInt8 := dkwX20_next_1 ++ dktX20_next_2
def dkwX20_next_0 : List UInt8 := [42, 16, 32, 16, 32, 182, 0, 50, 153, 0, 16, 42, 89, 180, 0, 43, 4, 96, 181, 0, 43, 167, 255, 235]
abbrev dktX20_next_0 : List UInt8 := dkwX20_next_0 ++ dktX20_next_1
theorem dksX20_next_0 : cX20_next.data.toList.drop 0 = dktX20_next_0 := by decide +kernel
theorem dksX20_next_1 : cX20_next.data.toList.drop 24 = dktX20_next_1 := dk_seg dksX20_next_0 24 rfl rfl
theorem dksX20_next_2 : cX20_next.data.toList.drop 48 = dktX20_next_2 := dk_seg dksX20_next_1 24 rfl rfl
theorem dksX20_next_3 : cX20_next.data.toList.drop 71 = dktX20_next_3 := dk_seg dksX20_next_2 23 rfl rfl
theorem dksX20_next_4 : cX20_next.data.toList.drop 95 = dktX20_next_4 := dk_seg dksX20_next_3 24 rfl rfl
theorem dksX20_next_5 : cX20_next.data.toList.drop 118 = dktX20_next_5 := dk_seg dksX20_next_4 23 rfl rfl
theorem dksX20_next_6 : cX20_next.data.toList.drop 141 = dktX20_next_6 := dk_seg dksX20_next_5 23 rfl rfl
theorem dksX20_next_7 : cX20_next.data.toList.drop 165 = dktX20_next_7 := dk_seg dksX20_next_6 24 rfl rfl
theorem dX20_next_0 : decode cX20_next 0 = .ok (.aload_n 0, 1) := dk_42 (dk_at dksX20_next_0 0 rfl rfl)
theorem dX20_next_1 : decode cX20_next 1 = .ok (.bipush 32, 2) := dk_16 32 (dk_at dksX20_next_0 1 rfl rfl)
theorem dX20_next_3 : decode cX20_next 3 = .ok (.bipush 32, 2) := dk_16 32 (dk_at dksX20_next_0 3 rfl rfl)
theorem dX20_next_5 : decode cX20_next 5 = .ok (.invokevirtual 50, 3) := dk_182 0 50 (dk_at dksX20_next_0 5 rfl rfl)
theorem dX20_next_8 : decode cX20_next 8 = .ok (.ifCond .eq 16, 3) := dk_153 0 16 (dk_at dksX20_next_0 8 rfl rfl)
theorem dX20_next_11 : decode cX20_next 11 = .ok (.aload_n 0, 1) := dk_42 (dk_at dksX20_next_0 11 rfl rfl)
theorem dX20_next_12 : decode cX20_next 12 = .ok (.dup, 1) := dk_89 (dk_at dksX20_next_0 12 rfl rfl)
theorem dX20_next_13 : decode cX20_next 13 = .ok (.getfield 43, 3) := dk_180 0 43 (dk_at dksX20_next_0 13 rfl rfl)
theorem dX20_next_16 : decode cX20_next 16 = .ok (.iconst 1, 1) := dk_4 (dk_at dksX20_next_0 16 rfl rfl)
theorem dX20_next_17 : decode cX20_next 17 = .ok (.iadd, 1) := dk_96 (dk_at dksX20_next_0 17 rfl rfl)
theorem dX20_next_18 : decode cX20_next 18 = .ok (.putfield 43, 3) := dk_181 0 43 (dk_at dksX20_next_0 18 rfl rfl)
theorem dX20_next_21 : decode cX20_next 21 = .ok (.goto (-21), 3) := dk_167 255 235 (dk_at dksX20_next_0 21 rfl rfl)
theorem dX20_next_24 : decode cX20_next 24 = .ok (.aload_n 0, 1) := dk_42 (dk_at dksX20_next_1 0 rfl rfl)
theorem dX20_next_25 : decode cX20_next 25 = .ok (.aload_n 0, 1) := dk_42 (dk_at dksX20_next_1 1 rfl rfl)
theorem dX20_next_26 : decode cX20_next 26 = .ok (.getfield 43, 3) := dk_180 0 43 (dk_at dksX20_next_1 2 rfl rfl)
theorem dX20_next_29 : decode cX20_next 29 = .ok (.putfield 54, 3) := dk_181 0 54 (dk_at dksX20_next_1 5 rfl rfl)
theorem dX20_next_32 : decode cX20_next 32 = .ok (.aload_n 0, 1) := dk_42 (dk_at dksX20_next_1 8 rfl rfl)
theorem dX20_next_33 : decode cX20_next 33 = .ok (.aload_n 0, 1) := dk_42 (dk_at dksX20_next_1 9 rfl rfl)
theorem dX20_next_34 : decode cX20_next 34 = .ok (.getfield 43, 3) := dk_180 0 43 (dk_at dksX20_next_1 10 rfl rfl)
theorem dX20_next_37 : decode cX20_next 37 = .ok (.aload_n 0, 1) := dk_42 (dk_at dksX20_next_1 13 rfl rfl)
theorem dX20_next_38 : decode cX20_next 38 = .ok (.getfield 39, 3) := dk_180 0 39 (dk_at dksX20_next_1 14 rfl rfl)
theorem dX20_next_41 : decode cX20_next 41 = .ok (.if_icmp .ne 7, 3) := dk_160 0 7 (dk_at dksX20_next_1 17 rfl rfl)
theorem dX20_next_44 : decode cX20_next 44 = .ok (.iconst 0, 1) := dk_3 (dk_at dksX20_next_1 20 rfl rfl)
theorem dX20_next_45 : decode cX20_next 45 = .ok (.goto 60, 3) := dk_167 0 60 (dk_at dksX20_next_1 21 rfl rfl)
theorem dX20_next_48 : decode cX20_next 48 = .ok (.aload_n 0, 1) := dk_42 (dk_at dksX20_next_2 0 rfl rfl)
theorem dX20_next_49 : decode cX20_next 49 = .ok (.bipush 97, 2) := dk_16 97 (dk_at dksX20_next_2 1 rfl rfl)
theorem dX20_next_51 : decode cX20_next 51 = .ok (.bipush 122, 2) := dk_16 122 (dk_at dksX20_next_2 3 rfl rfl)
theorem dX20_next_53 : decode cX20_next 53 = .ok (.invokevirtual 50, 3) := dk_182 0 50 (dk_at dksX20_next_2 5 rfl rfl)
theorem dX20_next_56 : decode cX20_next 56 = .ok (.ifCond .eq 7, 3) := dk_153 0 7 (dk_at dksX20_next_2 8 rfl rfl)
theorem dX20_next_59 : decode cX20_next 59 = .ok (.iconst 1, 1) := dk_4 (dk_at dksX20_next_2 11 rfl rfl)
theorem dX20_next_60 : decode cX20_next 60 = .ok (.goto 45, 3) := dk_167 0 45 (dk_at dksX20_next_2 12 rfl rfl)
theorem dX20_next_63 : decode cX20_next 63 = .ok (.aload_n 0, 1) := dk_42 (dk_at dksX20_next_2 15 rfl rfl)
theorem dX20_next_64 : decode cX20_next 64 = .ok (.bipush 48, 2) := dk_16 48 (dk_at dksX20_next_2 16 rfl rfl)
theorem dX20_next_66 : decode cX20_next 66 = .ok (.bipush 57, 2) := dk_16 57 (dk_at dksX20_next_2 18 rfl rfl)
theorem dX20_next_68 : decode cX20_next 68 = .ok (.invokevirtual 50, 3) := dk_182 0 50 (dk_at dksX20_next_2 20 rfl rfl)
theorem dX20_next_71 : decode cX20_next 71 = .ok (.ifCond .eq 7, 3) := dk_153 0 7 (dk_at dksX20_next_3 0 rfl rfl)
theorem dX20_next_74 : decode cX20_next 74 = .ok (.iconst 2, 1) := dk_5 (dk_at dksX20_next_3 3 rfl rfl)
theorem dX20_next_75 : decode cX20_next 75 = .ok (.goto 30, 3) := dk_167 0 30 (dk_at dksX20_next_3 4 rfl rfl)
theorem dX20_next_78 : decode cX20_next 78 = .ok (.aload_n 0, 1) := dk_42 (dk_at dksX20_next_3 7 rfl rfl)
theorem dX20_next_79 : decode cX20_next 79 = .ok (.invokevirtual 57, 3) := dk_182 0 57 (dk_at dksX20_next_3 8 rfl rfl)
theorem dX20_next_82 : decode cX20_next 82 = .ok (.bipush 40, 2) := dk_16 40 (dk_at dksX20_next_3 11 rfl rfl)
theorem dX20_next_84 : decode cX20_next 84 = .ok (.if_icmp .ne 7, 3) := dk_160 0 7 (dk_at dksX20_next_3 13 rfl rfl)
theorem dX20_next_87 : decode cX20_next 87 = .ok (.iconst 3, 1) := dk_6 (dk_at dksX20_next_3 16 rfl rfl)
theorem dX20_next_88 : decode cX20_next 88 = .ok (.goto 17, 3) := dk_167 0 17 (dk_at dksX20_next_3 17 rfl rfl)
theorem dX20_next_91 : decode cX20_next 91 = .ok (.aload_n 0, 1) := dk_42 (dk_at dksX20_next_3 20 rfl rfl)
theorem dX20_next_92 : decode cX20_next 92 = .ok (.invokevirtual 57, 3) := dk_182 0 57 (dk_at dksX20_next_3 21 rfl rfl)
theorem dX20_next_95 : decode cX20_next 95 = .ok (.bipush 41, 2) := dk_16 41 (dk_at dksX20_next_4 0 rfl rfl)
theorem dX20_next_97 : decode cX20_next 97 = .ok (.if_icmp .ne 7, 3) := dk_160 0 7 (dk_at dksX20_next_4 2 rfl rfl)
theorem dX20_next_100 : decode cX20_next 100 = .ok (.iconst 4, 1) := dk_7 (dk_at dksX20_next_4 5 rfl rfl)
theorem dX20_next_101 : decode cX20_next 101 = .ok (.goto 4, 3) := dk_167 0 4 (dk_at dksX20_next_4 6 rfl rfl)
theorem dX20_next_104 : decode cX20_next 104 = .ok (.iconst 5, 1) := dk_8 (dk_at dksX20_next_4 9 rfl rfl)
theorem dX20_next_105 : decode cX20_next 105 = .ok (.putfield 61, 3) := dk_181 0 61 (dk_at dksX20_next_4 10 rfl rfl)
theorem dX20_next_108 : decode cX20_next 108 = .ok (.aload_n 0, 1) := dk_42 (dk_at dksX20_next_4 13 rfl rfl)
theorem dX20_next_109 : decode cX20_next 109 = .ok (.dup, 1) := dk_89 (dk_at dksX20_next_4 14 rfl rfl)
theorem dX20_next_110 : decode cX20_next 110 = .ok (.getfield 43, 3) := dk_180 0 43 (dk_at dksX20_next_4 15 rfl rfl)
theorem dX20_next_113 : decode cX20_next 113 = .ok (.aload_n 0, 1) := dk_42 (dk_at dksX20_next_4 18 rfl rfl)
theorem dX20_next_114 : decode cX20_next 114 = .ok (.getfield 61, 3) := dk_180 0 61 (dk_at dksX20_next_4 19 rfl rfl)
theorem dX20_next_117 : decode cX20_next 117 = .ok (.iconst 2, 1) := dk_5 (dk_at dksX20_next_4 22 rfl rfl)
theorem dX20_next_118 : decode cX20_next 118 = .ok (.if_icmp .le 7, 3) := dk_164 0 7 (dk_at dksX20_next_5 0 rfl rfl)
theorem dX20_next_121 : decode cX20_next 121 = .ok (.iconst 1, 1) := dk_4 (dk_at dksX20_next_5 3 rfl rfl)
theorem dX20_next_122 : decode cX20_next 122 = .ok (.goto 4, 3) := dk_167 0 4 (dk_at dksX20_next_5 4 rfl rfl)
theorem dX20_next_125 : decode cX20_next 125 = .ok (.iconst 0, 1) := dk_3 (dk_at dksX20_next_5 7 rfl rfl)
theorem dX20_next_126 : decode cX20_next 126 = .ok (.iadd, 1) := dk_96 (dk_at dksX20_next_5 8 rfl rfl)
theorem dX20_next_127 : decode cX20_next 127 = .ok (.putfield 43, 3) := dk_181 0 43 (dk_at dksX20_next_5 9 rfl rfl)
theorem dX20_next_130 : decode cX20_next 130 = .ok (.aload_n 0, 1) := dk_42 (dk_at dksX20_next_5 12 rfl rfl)
theorem dX20_next_131 : decode cX20_next 131 = .ok (.getfield 61, 3) := dk_180 0 61 (dk_at dksX20_next_5 13 rfl rfl)
theorem dX20_next_134 : decode cX20_next 134 = .ok (.iconst 1, 1) := dk_4 (dk_at dksX20_next_5 16 rfl rfl)
theorem dX20_next_135 : decode cX20_next 135 = .ok (.if_icmp .ne 14, 3) := dk_160 0 14 (dk_at dksX20_next_5 17 rfl rfl)
theorem dX20_next_138 : decode cX20_next 138 = .ok (.aload_n 0, 1) := dk_42 (dk_at dksX20_next_5 20 rfl rfl)
theorem dX20_next_139 : decode cX20_next 139 = .ok (.bipush 97, 2) := dk_16 97 (dk_at dksX20_next_5 21 rfl rfl)
theorem dX20_next_141 : decode cX20_next 141 = .ok (.bipush 122, 2) := dk_16 122 (dk_at dksX20_next_6 0 rfl rfl)
theorem dX20_next_143 : decode cX20_next 143 = .ok (.invokevirtual 50, 3) := dk_182 0 50 (dk_at dksX20_next_6 2 rfl rfl)
theorem dX20_next_146 : decode cX20_next 146 = .ok (.ifCond .ne 22, 3) := dk_154 0 22 (dk_at dksX20_next_6 5 rfl rfl)
theorem dX20_next_149 : decode cX20_next 149 = .ok (.aload_n 0, 1) := dk_42 (dk_at dksX20_next_6 8 rfl rfl)
theorem dX20_next_150 : decode cX20_next 150 = .ok (.getfield 61, 3) := dk_180 0 61 (dk_at dksX20_next_6 9 rfl rfl)
theorem dX20_next_153 : decode cX20_next 153 = .ok (.iconst 2, 1) := dk_5 (dk_at dksX20_next_6 12 rfl rfl)
theorem dX20_next_154 : decode cX20_next 154 = .ok (.if_icmp .ne 27, 3) := dk_160 0 27 (dk_at dksX20_next_6 13 rfl rfl)
theorem dX20_next_157 : decode cX20_next 157 = .ok (.aload_n 0, 1) := dk_42 (dk_at dksX20_next_6 16 rfl rfl)
theorem dX20_next_158 : decode cX20_next 158 = .ok (.bipush 48, 2) := dk_16 48 (dk_at dksX20_next_6 17 rfl rfl)
theorem dX20_next_160 : decode cX20_next 160 = .ok (.bipush 57, 2) := dk_16 57 (dk_at dksX20_next_6 19 rfl rfl)
theorem dX20_next_162 : decode cX20_next 162 = .ok (.invokevirtual 50, 3) := dk_182 0 50 (dk_at dksX20_next_6 21 rfl rfl)
theorem dX20_next_165 : decode cX20_next 165 = .ok (.ifCond .eq 16, 3) := dk_153 0 16 (dk_at dksX20_next_7 0 rfl rfl)
theorem dX20_next_168 : decode cX20_next 168 = .ok (.aload_n 0, 1) := dk_42 (dk_at dksX20_next_7 3 rfl rfl)
theorem dX20_next_169 : decode cX20_next 169 = .ok (.dup, 1) := dk_89 (dk_at dksX20_next_7 4 rfl rfl)
theorem dX20_next_170 : decode cX20_next 170 = .ok (.getfield 43, 3) := dk_180 0 43 (dk_at dksX20_next_7 5 rfl rfl)
theorem dX20_next_173 : decode cX20_next 173 = .ok (.iconst 1, 1) := dk_4 (dk_at dksX20_next_7 8 rfl rfl)
theorem dX20_next_174 : decode cX20_next 174 = .ok (.iadd, 1) := dk_96 (dk_at dksX20_next_7 9 rfl rfl)
theorem dX20_next_175 : decode cX20_next 175 = .ok (.putfield 43, 3) := dk_181 0 43 (dk_at dksX20_next_7 10 rfl rfl)
theorem dX20_next_178 : decode cX20_next 178 = .ok (.goto (-48), 3) := dk_167 255 208 (dk_at dksX20_next_7 13 rfl rfl)
theorem dX20_next_181 : decode cX20_next 181 = .ok (.return_, 1) := dk_177 (dk_at dksX20_next_7 16 rfl rfl)
abbrev cX20_isIn : ByteArray := prog_18_method_3_code
def yX20_isIn : MethodName := ⟨RX20, "isIn", "(II)Z"⟩
def dkwX20_isIn_1 : List UInt8 := [184, 0, 46, 153, 0, 7, 4, 167, 0, 4, 3, 172]
abbrev dktX20_isIn_1 : List UInt8 := dkwX20_isIn_1 ++ []
def dkwX20_isIn_0 : List UInt8 := [42, 180, 0, 43, 42, 180, 0, 39, 162, 0, 24, 42, 180, 0, 35, 42, 180, 0, 43, 51, 27, 28]
abbrev dktX20_isIn_0 : List UInt8 := dkwX20_isIn_0 ++ dktX20_isIn_1
theorem dksX20_isIn_0 : cX20_isIn.data.toList.drop 0 = dktX20_isIn_0 := by decide +kernel
theorem dksX20_isIn_1 : cX20_isIn.data.toList.drop 22 = dktX20_isIn_1 := dk_seg dksX20_isIn_0 22 rfl rfl
theorem dX20_isIn_0 : decode cX20_isIn 0 = .ok (.aload_n 0, 1) := dk_42 (dk_at dksX20_isIn_0 0 rfl rfl)
theorem dX20_isIn_1 : decode cX20_isIn 1 = .ok (.getfield 43, 3) := dk_180 0 43 (dk_at dksX20_isIn_0 1 rfl rfl)
theorem dX20_isIn_4 : decode cX20_isIn 4 = .ok (.aload_n 0, 1) := dk_42 (dk_at dksX20_isIn_0 4 rfl rfl)
theorem dX20_isIn_5 : decode cX20_isIn 5 = .ok (.getfield 39, 3) := dk_180 0 39 (dk_at dksX20_isIn_0 5 rfl rfl)
theorem dX20_isIn_8 : decode cX20_isIn 8 = .ok (.if_icmp .ge 24, 3) := dk_162 0 24 (dk_at dksX20_isIn_0 8 rfl rfl)
theorem dX20_isIn_11 : decode cX20_isIn 11 = .ok (.aload_n 0, 1) := dk_42 (dk_at dksX20_isIn_0 11 rfl rfl)
theorem dX20_isIn_12 : decode cX20_isIn 12 = .ok (.getfield 35, 3) := dk_180 0 35 (dk_at dksX20_isIn_0 12 rfl rfl)
theorem dX20_isIn_15 : decode cX20_isIn 15 = .ok (.aload_n 0, 1) := dk_42 (dk_at dksX20_isIn_0 15 rfl rfl)
theorem dX20_isIn_16 : decode cX20_isIn 16 = .ok (.getfield 43, 3) := dk_180 0 43 (dk_at dksX20_isIn_0 16 rfl rfl)
theorem dX20_isIn_19 : decode cX20_isIn 19 = .ok (.baload, 1) := dk_51 (dk_at dksX20_isIn_0 19 rfl rfl)
theorem dX20_isIn_20 : decode cX20_isIn 20 = .ok (.iload_n 1, 1) := dk_27 (dk_at dksX20_isIn_0 20 rfl rfl)
theorem dX20_isIn_21 : decode cX20_isIn 21 = .ok (.iload_n 2, 1) := dk_28 (dk_at dksX20_isIn_0 21 rfl rfl)
theorem dX20_isIn_22 : decode cX20_isIn 22 = .ok (.invokestatic 46, 3) := dk_184 0 46 (dk_at dksX20_isIn_1 0 rfl rfl)
theorem dX20_isIn_25 : decode cX20_isIn 25 = .ok (.ifCond .eq 7, 3) := dk_153 0 7 (dk_at dksX20_isIn_1 3 rfl rfl)
theorem dX20_isIn_28 : decode cX20_isIn 28 = .ok (.iconst 1, 1) := dk_4 (dk_at dksX20_isIn_1 6 rfl rfl)
theorem dX20_isIn_29 : decode cX20_isIn 29 = .ok (.goto 4, 3) := dk_167 0 4 (dk_at dksX20_isIn_1 7 rfl rfl)
theorem dX20_isIn_32 : decode cX20_isIn 32 = .ok (.iconst 0, 1) := dk_3 (dk_at dksX20_isIn_1 10 rfl rfl)
theorem dX20_isIn_33 : decode cX20_isIn 33 = .ok (.ireturn, 1) := dk_172 (dk_at dksX20_isIn_1 11 rfl rfl)
abbrev cX20_here : ByteArray := prog_18_method_2_code
def yX20_here : MethodName := ⟨RX20, "here", "()I"⟩
def dkwX20_here_1 : List UInt8 := [172]
abbrev dktX20_here_1 : List UInt8 := dkwX20_here_1 ++ []
def dkwX20_here_0 : List UInt8 := [42, 180, 0, 43, 42, 180, 0, 39, 162, 0, 15, 42, 180, 0, 35, 42, 180, 0, 43, 51, 167, 0, 4, 2]
abbrev dktX20_here_0 : List UInt8 := dkwX20_here_0 ++ dktX20_here_1
theorem dksX20_here_0 : cX20_here.data.toList.drop 0 = dktX20_here_0 := by decide +kernel
theorem dksX20_here_1 : cX20_here.data.toList.drop 24 = dktX20_here_1 := dk_seg dksX20_here_0 24 rfl rfl
theorem dX20_here_0 : decode cX20_here 0 = .ok (.aload_n 0, 1) := dk_42 (dk_at dksX20_here_0 0 rfl rfl)
theorem dX20_here_1 : decode cX20_here 1 = .ok (.getfield 43, 3) := dk_180 0 43 (dk_at dksX20_here_0 1 rfl rfl)
theorem dX20_here_4 : decode cX20_here 4 = .ok (.aload_n 0, 1) := dk_42 (dk_at dksX20_here_0 4 rfl rfl)
theorem dX20_here_5 : decode cX20_here 5 = .ok (.getfield 39, 3) := dk_180 0 39 (dk_at dksX20_here_0 5 rfl rfl)
theorem dX20_here_8 : decode cX20_here 8 = .ok (.if_icmp .ge 15, 3) := dk_162 0 15 (dk_at dksX20_here_0 8 rfl rfl)
theorem dX20_here_11 : decode cX20_here 11 = .ok (.aload_n 0, 1) := dk_42 (dk_at dksX20_here_0 11 rfl rfl)
theorem dX20_here_12 : decode cX20_here 12 = .ok (.getfield 35, 3) := dk_180 0 35 (dk_at dksX20_here_0 12 rfl rfl)
theorem dX20_here_15 : decode cX20_here 15 = .ok (.aload_n 0, 1) := dk_42 (dk_at dksX20_here_0 15 rfl rfl)
theorem dX20_here_16 : decode cX20_here 16 = .ok (.getfield 43, 3) := dk_180 0 43 (dk_at dksX20_here_0 16 rfl rfl)
theorem dX20_here_19 : decode cX20_here 19 = .ok (.baload, 1) := dk_51 (dk_at dksX20_here_0 19 rfl rfl)
theorem dX20_here_20 : decode cX20_here 20 = .ok (.goto 4, 3) := dk_167 0 4 (dk_at dksX20_here_0 20 rfl rfl)
theorem dX20_here_23 : decode cX20_here 23 = .ok (.iconst (-1), 1) := dk_2 (dk_at dksX20_here_0 23 rfl rfl)
theorem dX20_here_24 : decode cX20_here 24 = .ok (.ireturn, 1) := dk_172 (dk_at dksX20_here_1 0 rfl rfl)
abbrev cX20_node : ByteArray := prog_18_method_9_code
def yX20_node : MethodName := ⟨RX20, "node", "(LLinesTouched$Twig;)V"⟩
def dkwX20_node_6 : List UInt8 := [182, 0, 84, 177]
abbrev dktX20_node_6 : List UInt8 := dkwX20_node_6 ++ []
def dkwX20_node_5 : List UInt8 := [7, 160, 0, 7, 4, 167, 0, 4, 3, 182, 0, 80, 42, 89, 180, 0, 87, 4, 100, 181, 0, 87, 42]
abbrev dktX20_node_5 : List UInt8 := dkwX20_node_5 ++ dktX20_node_6
def dkwX20_node_4 : List UInt8 := [181, 0, 90, 42, 180, 0, 61, 6, 160, 0, 11, 42, 45, 182, 0, 106, 167, 255, 243, 42, 42, 180, 0, 61]
abbrev dktX20_node_4 : List UInt8 := dkwX20_node_4 ++ dktX20_node_5
def dkwX20_node_3 : List UInt8 := [184, 0, 99, 183, 0, 103, 78, 42, 180, 0, 31, 42, 180, 0, 90, 45, 83, 42, 89, 180, 0, 90, 4, 96]
abbrev dktX20_node_3 : List UInt8 := dkwX20_node_3 ++ dktX20_node_4
def dkwX20_node_2 : List UInt8 := [182, 0, 84, 42, 182, 0, 93, 61, 187, 0, 29, 89, 43, 28, 42, 180, 0, 90, 42, 182, 0, 96]
abbrev dktX20_node_2 : List UInt8 := dkwX20_node_2 ++ dktX20_node_3
def dkwX20_node_1 : List UInt8 := [162, 0, 7, 4, 167, 0, 4, 3, 182, 0, 80, 42, 89, 180, 0, 87, 4, 96, 181, 0, 87, 42]
abbrev dktX20_node_1 : List UInt8 := dkwX20_node_1 ++ dktX20_node_2
def dkwX20_node_0 : List UInt8 := [42, 42, 180, 0, 61, 6, 160, 0, 25, 42, 180, 0, 87, 16, 20, 162, 0, 16, 42, 180, 0, 90, 16, 60]
abbrev dktX20_node_0 : List UInt8 := dkwX20_node_0 ++ dktX20_node_1
theorem dksX20_node_0 : cX20_node.data.toList.drop 0 = dktX20_node_0 := by decide +kernel
theorem dksX20_node_1 : cX20_node.data.toList.drop 24 = dktX20_node_1 := dk_seg dksX20_node_0 24 rfl rfl
theorem dksX20_node_2 : cX20_node.data.toList.drop 46 = dktX20_node_2 := dk_seg dksX20_node_1 22 rfl rfl
theorem dksX20_node_3 : cX20_node.data.toList.drop 68 = dktX20_node_3 := dk_seg dksX20_node_2 22 rfl rfl
theorem dksX20_node_4 : cX20_node.data.toList.drop 92 = dktX20_node_4 := dk_seg dksX20_node_3 24 rfl rfl
theorem dksX20_node_5 : cX20_node.data.toList.drop 116 = dktX20_node_5 := dk_seg dksX20_node_4 24 rfl rfl
theorem dksX20_node_6 : cX20_node.data.toList.drop 139 = dktX20_node_6 := dk_seg dksX20_node_5 23 rfl rfl
theorem dX20_node_0 : decode cX20_node 0 = .ok (.aload_n 0, 1) := dk_42 (dk_at dksX20_node_0 0 rfl rfl)
theorem dX20_node_1 : decode cX20_node 1 = .ok (.aload_n 0, 1) := dk_42 (dk_at dksX20_node_0 1 rfl rfl)
theorem dX20_node_2 : decode cX20_node 2 = .ok (.getfield 61, 3) := dk_180 0 61 (dk_at dksX20_node_0 2 rfl rfl)
theorem dX20_node_5 : decode cX20_node 5 = .ok (.iconst 3, 1) := dk_6 (dk_at dksX20_node_0 5 rfl rfl)
theorem dX20_node_6 : decode cX20_node 6 = .ok (.if_icmp .ne 25, 3) := dk_160 0 25 (dk_at dksX20_node_0 6 rfl rfl)
theorem dX20_node_9 : decode cX20_node 9 = .ok (.aload_n 0, 1) := dk_42 (dk_at dksX20_node_0 9 rfl rfl)
theorem dX20_node_10 : decode cX20_node 10 = .ok (.getfield 87, 3) := dk_180 0 87 (dk_at dksX20_node_0 10 rfl rfl)
theorem dX20_node_13 : decode cX20_node 13 = .ok (.bipush 20, 2) := dk_16 20 (dk_at dksX20_node_0 13 rfl rfl)
theorem dX20_node_15 : decode cX20_node 15 = .ok (.if_icmp .ge 16, 3) := dk_162 0 16 (dk_at dksX20_node_0 15 rfl rfl)
theorem dX20_node_18 : decode cX20_node 18 = .ok (.aload_n 0, 1) := dk_42 (dk_at dksX20_node_0 18 rfl rfl)
theorem dX20_node_19 : decode cX20_node 19 = .ok (.getfield 90, 3) := dk_180 0 90 (dk_at dksX20_node_0 19 rfl rfl)
theorem dX20_node_22 : decode cX20_node 22 = .ok (.bipush 60, 2) := dk_16 60 (dk_at dksX20_node_0 22 rfl rfl)
theorem dX20_node_24 : decode cX20_node 24 = .ok (.if_icmp .ge 7, 3) := dk_162 0 7 (dk_at dksX20_node_1 0 rfl rfl)
theorem dX20_node_27 : decode cX20_node 27 = .ok (.iconst 1, 1) := dk_4 (dk_at dksX20_node_1 3 rfl rfl)
theorem dX20_node_28 : decode cX20_node 28 = .ok (.goto 4, 3) := dk_167 0 4 (dk_at dksX20_node_1 4 rfl rfl)
theorem dX20_node_31 : decode cX20_node 31 = .ok (.iconst 0, 1) := dk_3 (dk_at dksX20_node_1 7 rfl rfl)
theorem dX20_node_32 : decode cX20_node 32 = .ok (.invokevirtual 80, 3) := dk_182 0 80 (dk_at dksX20_node_1 8 rfl rfl)
theorem dX20_node_35 : decode cX20_node 35 = .ok (.aload_n 0, 1) := dk_42 (dk_at dksX20_node_1 11 rfl rfl)
theorem dX20_node_36 : decode cX20_node 36 = .ok (.dup, 1) := dk_89 (dk_at dksX20_node_1 12 rfl rfl)
theorem dX20_node_37 : decode cX20_node 37 = .ok (.getfield 87, 3) := dk_180 0 87 (dk_at dksX20_node_1 13 rfl rfl)
theorem dX20_node_40 : decode cX20_node 40 = .ok (.iconst 1, 1) := dk_4 (dk_at dksX20_node_1 16 rfl rfl)
theorem dX20_node_41 : decode cX20_node 41 = .ok (.iadd, 1) := dk_96 (dk_at dksX20_node_1 17 rfl rfl)
theorem dX20_node_42 : decode cX20_node 42 = .ok (.putfield 87, 3) := dk_181 0 87 (dk_at dksX20_node_1 18 rfl rfl)
theorem dX20_node_45 : decode cX20_node 45 = .ok (.aload_n 0, 1) := dk_42 (dk_at dksX20_node_1 21 rfl rfl)
theorem dX20_node_46 : decode cX20_node 46 = .ok (.invokevirtual 84, 3) := dk_182 0 84 (dk_at dksX20_node_2 0 rfl rfl)
theorem dX20_node_49 : decode cX20_node 49 = .ok (.aload_n 0, 1) := dk_42 (dk_at dksX20_node_2 3 rfl rfl)
theorem dX20_node_50 : decode cX20_node 50 = .ok (.invokevirtual 93, 3) := dk_182 0 93 (dk_at dksX20_node_2 4 rfl rfl)
theorem dX20_node_53 : decode cX20_node 53 = .ok (.istore_n 2, 1) := dk_61 (dk_at dksX20_node_2 7 rfl rfl)
theorem dX20_node_54 : decode cX20_node 54 = .ok (.new 29, 3) := dk_187 0 29 (dk_at dksX20_node_2 8 rfl rfl)
theorem dX20_node_57 : decode cX20_node 57 = .ok (.dup, 1) := dk_89 (dk_at dksX20_node_2 11 rfl rfl)
theorem dX20_node_58 : decode cX20_node 58 = .ok (.aload_n 1, 1) := dk_43 (dk_at dksX20_node_2 12 rfl rfl)
theorem dX20_node_59 : decode cX20_node 59 = .ok (.iload_n 2, 1) := dk_28 (dk_at dksX20_node_2 13 rfl rfl)
theorem dX20_node_60 : decode cX20_node 60 = .ok (.aload_n 0, 1) := dk_42 (dk_at dksX20_node_2 14 rfl rfl)
theorem dX20_node_61 : decode cX20_node 61 = .ok (.getfield 90, 3) := dk_180 0 90 (dk_at dksX20_node_2 15 rfl rfl)
theorem dX20_node_64 : decode cX20_node 64 = .ok (.aload_n 0, 1) := dk_42 (dk_at dksX20_node_2 18 rfl rfl)
theorem dX20_node_65 : decode cX20_node 65 = .ok (.invokevirtual 96, 3) := dk_182 0 96 (dk_at dksX20_node_2 19 rfl rfl)
theorem dX20_node_68 : decode cX20_node 68 = .ok (.invokestatic 99, 3) := dk_184 0 99 (dk_at dksX20_node_3 0 rfl rfl)
theorem dX20_node_71 : decode cX20_node 71 = .ok (.invokespecial 103, 3) := dk_183 0 103 (dk_at dksX20_node_3 3 rfl rfl)
theorem dX20_node_74 : decode cX20_node 74 = .ok (.astore_n 3, 1) := dk_78 (dk_at dksX20_node_3 6 rfl rfl)
theorem dX20_node_75 : decode cX20_node 75 = .ok (.aload_n 0, 1) := dk_42 (dk_at dksX20_node_3 7 rfl rfl)
theorem dX20_node_76 : decode cX20_node 76 = .ok (.getfield 31, 3) := dk_180 0 31 (dk_at dksX20_node_3 8 rfl rfl)
theorem dX20_node_79 : decode cX20_node 79 = .ok (.aload_n 0, 1) := dk_42 (dk_at dksX20_node_3 11 rfl rfl)
theorem dX20_node_80 : decode cX20_node 80 = .ok (.getfield 90, 3) := dk_180 0 90 (dk_at dksX20_node_3 12 rfl rfl)
theorem dX20_node_83 : decode cX20_node 83 = .ok (.aload_n 3, 1) := dk_45 (dk_at dksX20_node_3 15 rfl rfl)
theorem dX20_node_84 : decode cX20_node 84 = .ok (.aastore, 1) := dk_83 (dk_at dksX20_node_3 16 rfl rfl)
theorem dX20_node_85 : decode cX20_node 85 = .ok (.aload_n 0, 1) := dk_42 (dk_at dksX20_node_3 17 rfl rfl)
theorem dX20_node_86 : decode cX20_node 86 = .ok (.dup, 1) := dk_89 (dk_at dksX20_node_3 18 rfl rfl)
theorem dX20_node_87 : decode cX20_node 87 = .ok (.getfield 90, 3) := dk_180 0 90 (dk_at dksX20_node_3 19 rfl rfl)
theorem dX20_node_90 : decode cX20_node 90 = .ok (.iconst 1, 1) := dk_4 (dk_at dksX20_node_3 22 rfl rfl)
theorem dX20_node_91 : decode cX20_node 91 = .ok (.iadd, 1) := dk_96 (dk_at dksX20_node_3 23 rfl rfl)
theorem dX20_node_92 : decode cX20_node 92 = .ok (.putfield 90, 3) := dk_181 0 90 (dk_at dksX20_node_4 0 rfl rfl)
theorem dX20_node_95 : decode cX20_node 95 = .ok (.aload_n 0, 1) := dk_42 (dk_at dksX20_node_4 3 rfl rfl)
theorem dX20_node_96 : decode cX20_node 96 = .ok (.getfield 61, 3) := dk_180 0 61 (dk_at dksX20_node_4 4 rfl rfl)
theorem dX20_node_99 : decode cX20_node 99 = .ok (.iconst 3, 1) := dk_6 (dk_at dksX20_node_4 7 rfl rfl)
theorem dX20_node_100 : decode cX20_node 100 = .ok (.if_icmp .ne 11, 3) := dk_160 0 11 (dk_at dksX20_node_4 8 rfl rfl)
theorem dX20_node_103 : decode cX20_node 103 = .ok (.aload_n 0, 1) := dk_42 (dk_at dksX20_node_4 11 rfl rfl)
theorem dX20_node_104 : decode cX20_node 104 = .ok (.aload_n 3, 1) := dk_45 (dk_at dksX20_node_4 12 rfl rfl)
theorem dX20_node_105 : decode cX20_node 105 = .ok (.invokevirtual 106, 3) := dk_182 0 106 (dk_at dksX20_node_4 13 rfl rfl)
theorem dX20_node_108 : decode cX20_node 108 = .ok (.goto (-13), 3) := dk_167 255 243 (dk_at dksX20_node_4 16 rfl rfl)
theorem dX20_node_111 : decode cX20_node 111 = .ok (.aload_n 0, 1) := dk_42 (dk_at dksX20_node_4 19 rfl rfl)
theorem dX20_node_112 : decode cX20_node 112 = .ok (.aload_n 0, 1) := dk_42 (dk_at dksX20_node_4 20 rfl rfl)
theorem dX20_node_113 : decode cX20_node 113 = .ok (.getfield 61, 3) := dk_180 0 61 (dk_at dksX20_node_4 21 rfl rfl)
theorem dX20_node_116 : decode cX20_node 116 = .ok (.iconst 4, 1) := dk_7 (dk_at dksX20_node_5 0 rfl rfl)
theorem dX20_node_117 : decode cX20_node 117 = .ok (.if_icmp .ne 7, 3) := dk_160 0 7 (dk_at dksX20_node_5 1 rfl rfl)
theorem dX20_node_120 : decode cX20_node 120 = .ok (.iconst 1, 1) := dk_4 (dk_at dksX20_node_5 4 rfl rfl)
theorem dX20_node_121 : decode cX20_node 121 = .ok (.goto 4, 3) := dk_167 0 4 (dk_at dksX20_node_5 5 rfl rfl)
theorem dX20_node_124 : decode cX20_node 124 = .ok (.iconst 0, 1) := dk_3 (dk_at dksX20_node_5 8 rfl rfl)
theorem dX20_node_125 : decode cX20_node 125 = .ok (.invokevirtual 80, 3) := dk_182 0 80 (dk_at dksX20_node_5 9 rfl rfl)
theorem dX20_node_128 : decode cX20_node 128 = .ok (.aload_n 0, 1) := dk_42 (dk_at dksX20_node_5 12 rfl rfl)
theorem dX20_node_129 : decode cX20_node 129 = .ok (.dup, 1) := dk_89 (dk_at dksX20_node_5 13 rfl rfl)
theorem dX20_node_130 : decode cX20_node 130 = .ok (.getfield 87, 3) := dk_180 0 87 (dk_at dksX20_node_5 14 rfl rfl)
theorem dX20_node_133 : decode cX20_node 133 = .ok (.iconst 1, 1) := dk_4 (dk_at dksX20_node_5 17 rfl rfl)
theorem dX20_node_134 : decode cX20_node 134 = .ok (.isub, 1) := dk_100 (dk_at dksX20_node_5 18 rfl rfl)
theorem dX20_node_135 : decode cX20_node 135 = .ok (.putfield 87, 3) := dk_181 0 87 (dk_at dksX20_node_5 19 rfl rfl)
theorem dX20_node_138 : decode cX20_node 138 = .ok (.aload_n 0, 1) := dk_42 (dk_at dksX20_node_5 22 rfl rfl)
theorem dX20_node_139 : decode cX20_node 139 = .ok (.invokevirtual 84, 3) := dk_182 0 84 (dk_at dksX20_node_6 0 rfl rfl)
theorem dX20_node_142 : decode cX20_node 142 = .ok (.return_, 1) := dk_177 (dk_at dksX20_node_6 3 rfl rfl)
abbrev cX20_need : ByteArray := prog_18_method_5_code
def yX20_need : MethodName := ⟨RX20, "need", "(Z)V"⟩
def dkwX20_need_0 : List UInt8 := [27, 154, 0, 15, 187, 0, 64, 89, 42, 180, 0, 54, 183, 0, 66, 191, 177]
abbrev dktX20_need_0 : List UInt8 := dkwX20_need_0 ++ []
theorem dksX20_need_0 : cX20_need.data.toList.drop 0 = dktX20_need_0 := by decide +kernel
theorem dX20_need_0 : decode cX20_need 0 = .ok (.iload_n 1, 1) := dk_27 (dk_at dksX20_need_0 0 rfl rfl)
theorem dX20_need_1 : decode cX20_need 1 = .ok (.ifCond .ne 15, 3) := dk_154 0 15 (dk_at dksX20_need_0 1 rfl rfl)
theorem dX20_need_4 : decode cX20_need 4 = .ok (.new 64, 3) := dk_187 0 64 (dk_at dksX20_need_0 4 rfl rfl)
theorem dX20_need_7 : decode cX20_need 7 = .ok (.dup, 1) := dk_89 (dk_at dksX20_need_0 7 rfl rfl)
theorem dX20_need_8 : decode cX20_need 8 = .ok (.aload_n 0, 1) := dk_42 (dk_at dksX20_need_0 8 rfl rfl)
theorem dX20_need_9 : decode cX20_need 9 = .ok (.getfield 54, 3) := dk_180 0 54 (dk_at dksX20_need_0 9 rfl rfl)
theorem dX20_need_12 : decode cX20_need 12 = .ok (.invokespecial 66, 3) := dk_183 0 66 (dk_at dksX20_need_0 12 rfl rfl)
theorem dX20_need_15 : decode cX20_need 15 = .ok (.athrow, 1) := dk_191 (dk_at dksX20_need_0 15 rfl rfl)
theorem dX20_need_16 : decode cX20_need 16 = .ok (.return_, 1) := dk_177 (dk_at dksX20_need_0 16 rfl rfl)
abbrev cX20_kind : ByteArray := prog_18_method_7_code
def yX20_kind : MethodName := ⟨RX20, "kind", "()I"⟩
def dkwX20_kind_2 : List UInt8 := [3, 182, 0, 80, 42, 182, 0, 84, 27, 172]
abbrev dktX20_kind_2 : List UInt8 := dkwX20_kind_2 ++ []
def dkwX20_kind_1 : List UInt8 := [50, 182, 0, 76, 154, 0, 9, 132, 1, 1, 167, 255, 234, 42, 27, 16, 6, 162, 0, 7, 4, 167, 0, 4]
abbrev dktX20_kind_1 : List UInt8 := dkwX20_kind_1 ++ dktX20_kind_2
def dkwX20_kind_0 : List UInt8 := [42, 180, 0, 61, 4, 159, 0, 5, 3, 172, 3, 60, 27, 16, 6, 162, 0, 22, 42, 42, 180, 0, 23, 27]
abbrev dktX20_kind_0 : List UInt8 := dkwX20_kind_0 ++ dktX20_kind_1
theorem dksX20_kind_0 : cX20_kind.data.toList.drop 0 = dktX20_kind_0 := by decide +kernel
theorem dksX20_kind_1 : cX20_kind.data.toList.drop 24 = dktX20_kind_1 := dk_seg dksX20_kind_0 24 rfl rfl
theorem dksX20_kind_2 : cX20_kind.data.toList.drop 48 = dktX20_kind_2 := dk_seg dksX20_kind_1 24 rfl rfl
theorem dX20_kind_0 : decode cX20_kind 0 = .ok (.aload_n 0, 1) := dk_42 (dk_at dksX20_kind_0 0 rfl rfl)
theorem dX20_kind_1 : decode cX20_kind 1 = .ok (.getfield 61, 3) := dk_180 0 61 (dk_at dksX20_kind_0 1 rfl rfl)
theorem dX20_kind_4 : decode cX20_kind 4 = .ok (.iconst 1, 1) := dk_4 (dk_at dksX20_kind_0 4 rfl rfl)
theorem dX20_kind_5 : decode cX20_kind 5 = .ok (.if_icmp .eq 5, 3) := dk_159 0 5 (dk_at dksX20_kind_0 5 rfl rfl)
theorem dX20_kind_8 : decode cX20_kind 8 = .ok (.iconst 0, 1) := dk_3 (dk_at dksX20_kind_0 8 rfl rfl)
theorem dX20_kind_9 : decode cX20_kind 9 = .ok (.ireturn, 1) := dk_172 (dk_at dksX20_kind_0 9 rfl rfl)
theorem dX20_kind_10 : decode cX20_kind 10 = .ok (.iconst 0, 1) := dk_3 (dk_at dksX20_kind_0 10 rfl rfl)
theorem dX20_kind_11 : decode cX20_kind 11 = .ok (.istore_n 1, 1) := dk_60 (dk_at dksX20_kind_0 11 rfl rfl)
theorem dX20_kind_12 : decode cX20_kind 12 = .ok (.iload_n 1, 1) := dk_27 (dk_at dksX20_kind_0 12 rfl rfl)
theorem dX20_kind_13 : decode cX20_kind 13 = .ok (.bipush 6, 2) := dk_16 6 (dk_at dksX20_kind_0 13 rfl rfl)
theorem dX20_kind_15 : decode cX20_kind 15 = .ok (.if_icmp .ge 22, 3) := dk_162 0 22 (dk_at dksX20_kind_0 15 rfl rfl)
theorem dX20_kind_18 : decode cX20_kind 18 = .ok (.aload_n 0, 1) := dk_42 (dk_at dksX20_kind_0 18 rfl rfl)
theorem dX20_kind_19 : decode cX20_kind 19 = .ok (.aload_n 0, 1) := dk_42 (dk_at dksX20_kind_0 19 rfl rfl)
theorem dX20_kind_20 : decode cX20_kind 20 = .ok (.getfield 23, 3) := dk_180 0 23 (dk_at dksX20_kind_0 20 rfl rfl)
theorem dX20_kind_23 : decode cX20_kind 23 = .ok (.iload_n 1, 1) := dk_27 (dk_at dksX20_kind_0 23 rfl rfl)
theorem dX20_kind_24 : decode cX20_kind 24 = .ok (.aaload, 1) := dk_50 (dk_at dksX20_kind_1 0 rfl rfl)
theorem dX20_kind_25 : decode cX20_kind 25 = .ok (.invokevirtual 76, 3) := dk_182 0 76 (dk_at dksX20_kind_1 1 rfl rfl)
theorem dX20_kind_28 : decode cX20_kind 28 = .ok (.ifCond .ne 9, 3) := dk_154 0 9 (dk_at dksX20_kind_1 4 rfl rfl)
theorem dX20_kind_31 : decode cX20_kind 31 = .ok (.iinc 1 1, 3) := dk_132 1 1 (dk_at dksX20_kind_1 7 rfl rfl)
theorem dX20_kind_34 : decode cX20_kind 34 = .ok (.goto (-22), 3) := dk_167 255 234 (dk_at dksX20_kind_1 10 rfl rfl)
theorem dX20_kind_37 : decode cX20_kind 37 = .ok (.aload_n 0, 1) := dk_42 (dk_at dksX20_kind_1 13 rfl rfl)
theorem dX20_kind_38 : decode cX20_kind 38 = .ok (.iload_n 1, 1) := dk_27 (dk_at dksX20_kind_1 14 rfl rfl)
theorem dX20_kind_39 : decode cX20_kind 39 = .ok (.bipush 6, 2) := dk_16 6 (dk_at dksX20_kind_1 15 rfl rfl)
theorem dX20_kind_41 : decode cX20_kind 41 = .ok (.if_icmp .ge 7, 3) := dk_162 0 7 (dk_at dksX20_kind_1 17 rfl rfl)
theorem dX20_kind_44 : decode cX20_kind 44 = .ok (.iconst 1, 1) := dk_4 (dk_at dksX20_kind_1 20 rfl rfl)
theorem dX20_kind_45 : decode cX20_kind 45 = .ok (.goto 4, 3) := dk_167 0 4 (dk_at dksX20_kind_1 21 rfl rfl)
theorem dX20_kind_48 : decode cX20_kind 48 = .ok (.iconst 0, 1) := dk_3 (dk_at dksX20_kind_2 0 rfl rfl)
theorem dX20_kind_49 : decode cX20_kind 49 = .ok (.invokevirtual 80, 3) := dk_182 0 80 (dk_at dksX20_kind_2 1 rfl rfl)
theorem dX20_kind_52 : decode cX20_kind 52 = .ok (.aload_n 0, 1) := dk_42 (dk_at dksX20_kind_2 4 rfl rfl)
theorem dX20_kind_53 : decode cX20_kind 53 = .ok (.invokevirtual 84, 3) := dk_182 0 84 (dk_at dksX20_kind_2 5 rfl rfl)
theorem dX20_kind_56 : decode cX20_kind 56 = .ok (.iload_n 1, 1) := dk_27 (dk_at dksX20_kind_2 8 rfl rfl)
theorem dX20_kind_57 : decode cX20_kind 57 = .ok (.ireturn, 1) := dk_172 (dk_at dksX20_kind_2 9 rfl rfl)
abbrev cX20_isWord : ByteArray := prog_18_method_6_code
def yX20_isWord : MethodName := ⟨RX20, "isWord", "(Ljava/lang/String;)Z"⟩
def dkwX20_isWord_2 : List UInt8 := [29, 182, 0, 72, 160, 0, 7, 4, 167, 0, 4, 3, 61, 132, 3, 1, 167, 255, 216, 28, 172]
abbrev dktX20_isWord_2 : List UInt8 := dkwX20_isWord_2 ++ []
def dkwX20_isWord_1 : List UInt8 := [29, 43, 182, 0, 69, 162, 0, 38, 28, 153, 0, 34, 42, 180, 0, 35, 42, 180, 0, 54, 29, 96, 51, 43]
abbrev dktX20_isWord_1 : List UInt8 := dkwX20_isWord_1 ++ dktX20_isWord_2
def dkwX20_isWord_0 : List UInt8 := [42, 180, 0, 43, 42, 180, 0, 54, 100, 43, 182, 0, 69, 160, 0, 7, 4, 167, 0, 4, 3, 61, 3, 62]
abbrev dktX20_isWord_0 : List UInt8 := dkwX20_isWord_0 ++ dktX20_isWord_1
theorem dksX20_isWord_0 : cX20_isWord.data.toList.drop 0 = dktX20_isWord_0 := by decide +kernel
theorem dksX20_isWord_1 : cX20_isWord.data.toList.drop 24 = dktX20_isWord_1 := dk_seg dksX20_isWord_0 24 rfl rfl
theorem dksX20_isWord_2 : cX20_isWord.data.toList.drop 48 = dktX20_isWord_2 := dk_seg dksX20_isWord_1 24 rfl rfl
theorem dX20_isWord_0 : decode cX20_isWord 0 = .ok (.aload_n 0, 1) := dk_42 (dk_at dksX20_isWord_0 0 rfl rfl)
theorem dX20_isWord_1 : decode cX20_isWord 1 = .ok (.getfield 43, 3) := dk_180 0 43 (dk_at dksX20_isWord_0 1 rfl rfl)
theorem dX20_isWord_4 : decode cX20_isWord 4 = .ok (.aload_n 0, 1) := dk_42 (dk_at dksX20_isWord_0 4 rfl rfl)
theorem dX20_isWord_5 : decode cX20_isWord 5 = .ok (.getfield 54, 3) := dk_180 0 54 (dk_at dksX20_isWord_0 5 rfl rfl)
theorem dX20_isWord_8 : decode cX20_isWord 8 = .ok (.isub, 1) := dk_100 (dk_at dksX20_isWord_0 8 rfl rfl)
theorem dX20_isWord_9 : decode cX20_isWord 9 = .ok (.aload_n 1, 1) := dk_43 (dk_at dksX20_isWord_0 9 rfl rfl)
theorem dX20_isWord_10 : decode cX20_isWord 10 = .ok (.invokevirtual 69, 3) := dk_182 0 69 (dk_at dksX20_isWord_0 10 rfl rfl)
theorem dX20_isWord_13 : decode cX20_isWord 13 = .ok (.if_icmp .ne 7, 3) := dk_160 0 7 (dk_at dksX20_isWord_0 13 rfl rfl)
theorem dX20_isWord_16 : decode cX20_isWord 16 = .ok (.iconst 1, 1) := dk_4 (dk_at dksX20_isWord_0 16 rfl rfl)
theorem dX20_isWord_17 : decode cX20_isWord 17 = .ok (.goto 4, 3) := dk_167 0 4 (dk_at dksX20_isWord_0 17 rfl rfl)
theorem dX20_isWord_20 : decode cX20_isWord 20 = .ok (.iconst 0, 1) := dk_3 (dk_at dksX20_isWord_0 20 rfl rfl)
theorem dX20_isWord_21 : decode cX20_isWord 21 = .ok (.istore_n 2, 1) := dk_61 (dk_at dksX20_isWord_0 21 rfl rfl)
theorem dX20_isWord_22 : decode cX20_isWord 22 = .ok (.iconst 0, 1) := dk_3 (dk_at dksX20_isWord_0 22 rfl rfl)
theorem dX20_isWord_23 : decode cX20_isWord 23 = .ok (.istore_n 3, 1) := dk_62 (dk_at dksX20_isWord_0 23 rfl rfl)
theorem dX20_isWord_24 : decode cX20_isWord 24 = .ok (.iload_n 3, 1) := dk_29 (dk_at dksX20_isWord_1 0 rfl rfl)
theorem dX20_isWord_25 : decode cX20_isWord 25 = .ok (.aload_n 1, 1) := dk_43 (dk_at dksX20_isWord_1 1 rfl rfl)
theorem dX20_isWord_26 : decode cX20_isWord 26 = .ok (.invokevirtual 69, 3) := dk_182 0 69 (dk_at dksX20_isWord_1 2 rfl rfl)
theorem dX20_isWord_29 : decode cX20_isWord 29 = .ok (.if_icmp .ge 38, 3) := dk_162 0 38 (dk_at dksX20_isWord_1 5 rfl rfl)
theorem dX20_isWord_32 : decode cX20_isWord 32 = .ok (.iload_n 2, 1) := dk_28 (dk_at dksX20_isWord_1 8 rfl rfl)
theorem dX20_isWord_33 : decode cX20_isWord 33 = .ok (.ifCond .eq 34, 3) := dk_153 0 34 (dk_at dksX20_isWord_1 9 rfl rfl)
theorem dX20_isWord_36 : decode cX20_isWord 36 = .ok (.aload_n 0, 1) := dk_42 (dk_at dksX20_isWord_1 12 rfl rfl)
theorem dX20_isWord_37 : decode cX20_isWord 37 = .ok (.getfield 35, 3) := dk_180 0 35 (dk_at dksX20_isWord_1 13 rfl rfl)
theorem dX20_isWord_40 : decode cX20_isWord 40 = .ok (.aload_n 0, 1) := dk_42 (dk_at dksX20_isWord_1 16 rfl rfl)
theorem dX20_isWord_41 : decode cX20_isWord 41 = .ok (.getfield 54, 3) := dk_180 0 54 (dk_at dksX20_isWord_1 17 rfl rfl)
theorem dX20_isWord_44 : decode cX20_isWord 44 = .ok (.iload_n 3, 1) := dk_29 (dk_at dksX20_isWord_1 20 rfl rfl)
theorem dX20_isWord_45 : decode cX20_isWord 45 = .ok (.iadd, 1) := dk_96 (dk_at dksX20_isWord_1 21 rfl rfl)
theorem dX20_isWord_46 : decode cX20_isWord 46 = .ok (.baload, 1) := dk_51 (dk_at dksX20_isWord_1 22 rfl rfl)
theorem dX20_isWord_47 : decode cX20_isWord 47 = .ok (.aload_n 1, 1) := dk_43 (dk_at dksX20_isWord_1 23 rfl rfl)
theorem dX20_isWord_48 : decode cX20_isWord 48 = .ok (.iload_n 3, 1) := dk_29 (dk_at dksX20_isWord_2 0 rfl rfl)
theorem dX20_isWord_49 : decode cX20_isWord 49 = .ok (.invokevirtual 72, 3) := dk_182 0 72 (dk_at dksX20_isWord_2 1 rfl rfl)
theorem dX20_isWord_52 : decode cX20_isWord 52 = .ok (.if_icmp .ne 7, 3) := dk_160 0 7 (dk_at dksX20_isWord_2 4 rfl rfl)
theorem dX20_isWord_55 : decode cX20_isWord 55 = .ok (.iconst 1, 1) := dk_4 (dk_at dksX20_isWord_2 7 rfl rfl)
theorem dX20_isWord_56 : decode cX20_isWord 56 = .ok (.goto 4, 3) := dk_167 0 4 (dk_at dksX20_isWord_2 8 rfl rfl)
theorem dX20_isWord_59 : decode cX20_isWord 59 = .ok (.iconst 0, 1) := dk_3 (dk_at dksX20_isWord_2 11 rfl rfl)
theorem dX20_isWord_60 : decode cX20_isWord 60 = .ok (.istore_n 2, 1) := dk_61 (dk_at dksX20_isWord_2 12 rfl rfl)
theorem dX20_isWord_61 : decode cX20_isWord 61 = .ok (.iinc 3 1, 3) := dk_132 3 1 (dk_at dksX20_isWord_2 13 rfl rfl)
theorem dX20_isWord_64 : decode cX20_isWord 64 = .ok (.goto (-40), 3) := dk_167 255 216 (dk_at dksX20_isWord_2 16 rfl rfl)
theorem dX20_isWord_67 : decode cX20_isWord 67 = .ok (.iload_n 2, 1) := dk_28 (dk_at dksX20_isWord_2 19 rfl rfl)
theorem dX20_isWord_68 : decode cX20_isWord 68 = .ok (.ireturn, 1) := dk_172 (dk_at dksX20_isWord_2 20 rfl rfl)
abbrev cX20_weight : ByteArray := prog_18_method_8_code
def yX20_weight : MethodName := ⟨RX20, "weight", "()I"⟩
def dkwX20_weight_2 : List UInt8 := [182, 0, 80, 42, 182, 0, 84, 27, 172]
abbrev dktX20_weight_2 : List UInt8 := dkwX20_weight_2 ++ []
def dkwX20_weight_1 : List UInt8 := [42, 180, 0, 43, 42, 180, 0, 54, 100, 4, 160, 0, 11, 27, 158, 0, 7, 4, 167, 0, 4, 3]
abbrev dktX20_weight_1 : List UInt8 := dkwX20_weight_1 ++ dktX20_weight_2
def dkwX20_weight_0 : List UInt8 := [42, 180, 0, 61, 5, 159, 0, 5, 4, 172, 42, 180, 0, 35, 42, 180, 0, 54, 51, 16, 48, 100, 60, 42]
abbrev dktX20_weight_0 : List UInt8 := dkwX20_weight_0 ++ dktX20_weight_1
theorem dksX20_weight_0 : cX20_weight.data.toList.drop 0 = dktX20_weight_0 := by decide +kernel
theorem dksX20_weight_1 : cX20_weight.data.toList.drop 24 = dktX20_weight_1 := dk_seg dksX20_weight_0 24 rfl rfl
theorem dksX20_weight_2 : cX20_weight.data.toList.drop 46 = dktX20_weight_2 := dk_seg dksX20_weight_1 22 rfl rfl
theorem dX20_weight_0 : decode cX20_weight 0 = .ok (.aload_n 0, 1) := dk_42 (dk_at dksX20_weight_0 0 rfl rfl)
theorem dX20_weight_1 : decode cX20_weight 1 = .ok (.getfield 61, 3) := dk_180 0 61 (dk_at dksX20_weight_0 1 rfl rfl)
theorem dX20_weight_4 : decode cX20_weight 4 = .ok (.iconst 2, 1) := dk_5 (dk_at dksX20_weight_0 4 rfl rfl)
theorem dX20_weight_5 : decode cX20_weight 5 = .ok (.if_icmp .eq 5, 3) := dk_159 0 5 (dk_at dksX20_weight_0 5 rfl rfl)
theorem dX20_weight_8 : decode cX20_weight 8 = .ok (.iconst 1, 1) := dk_4 (dk_at dksX20_weight_0 8 rfl rfl)
theorem dX20_weight_9 : decode cX20_weight 9 = .ok (.ireturn, 1) := dk_172 (dk_at dksX20_weight_0 9 rfl rfl)
theorem dX20_weight_10 : decode cX20_weight 10 = .ok (.aload_n 0, 1) := dk_42 (dk_at dksX20_weight_0 10 rfl rfl)
theorem dX20_weight_11 : decode cX20_weight 11 = .ok (.getfield 35, 3) := dk_180 0 35 (dk_at dksX20_weight_0 11 rfl rfl)
theorem dX20_weight_14 : decode cX20_weight 14 = .ok (.aload_n 0, 1) := dk_42 (dk_at dksX20_weight_0 14 rfl rfl)
theorem dX20_weight_15 : decode cX20_weight 15 = .ok (.getfield 54, 3) := dk_180 0 54 (dk_at dksX20_weight_0 15 rfl rfl)
theorem dX20_weight_18 : decode cX20_weight 18 = .ok (.baload, 1) := dk_51 (dk_at dksX20_weight_0 18 rfl rfl)
theorem dX20_weight_19 : decode cX20_weight 19 = .ok (.bipush 48, 2) := dk_16 48 (dk_at dksX20_weight_0 19 rfl rfl)
theorem dX20_weight_21 : decode cX20_weight 21 = .ok (.isub, 1) := dk_100 (dk_at dksX20_weight_0 21 rfl rfl)
theorem dX20_weight_22 : decode cX20_weight 22 = .ok (.istore_n 1, 1) := dk_60 (dk_at dksX20_weight_0 22 rfl rfl)
theorem dX20_weight_23 : decode cX20_weight 23 = .ok (.aload_n 0, 1) := dk_42 (dk_at dksX20_weight_0 23 rfl rfl)
theorem dX20_weight_24 : decode cX20_weight 24 = .ok (.aload_n 0, 1) := dk_42 (dk_at dksX20_weight_1 0 rfl rfl)
theorem dX20_weight_25 : decode cX20_weight 25 = .ok (.getfield 43, 3) := dk_180 0 43 (dk_at dksX20_weight_1 1 rfl rfl)
theorem dX20_weight_28 : decode cX20_weight 28 = .ok (.aload_n 0, 1) := dk_42 (dk_at dksX20_weight_1 4 rfl rfl)
theorem dX20_weight_29 : decode cX20_weight 29 = .ok (.getfield 54, 3) := dk_180 0 54 (dk_at dksX20_weight_1 5 rfl rfl)
theorem dX20_weight_32 : decode cX20_weight 32 = .ok (.isub, 1) := dk_100 (dk_at dksX20_weight_1 8 rfl rfl)
theorem dX20_weight_33 : decode cX20_weight 33 = .ok (.iconst 1, 1) := dk_4 (dk_at dksX20_weight_1 9 rfl rfl)
theorem dX20_weight_34 : decode cX20_weight 34 = .ok (.if_icmp .ne 11, 3) := dk_160 0 11 (dk_at dksX20_weight_1 10 rfl rfl)
theorem dX20_weight_37 : decode cX20_weight 37 = .ok (.iload_n 1, 1) := dk_27 (dk_at dksX20_weight_1 13 rfl rfl)
theorem dX20_weight_38 : decode cX20_weight 38 = .ok (.ifCond .le 7, 3) := dk_158 0 7 (dk_at dksX20_weight_1 14 rfl rfl)
theorem dX20_weight_41 : decode cX20_weight 41 = .ok (.iconst 1, 1) := dk_4 (dk_at dksX20_weight_1 17 rfl rfl)
theorem dX20_weight_42 : decode cX20_weight 42 = .ok (.goto 4, 3) := dk_167 0 4 (dk_at dksX20_weight_1 18 rfl rfl)
theorem dX20_weight_45 : decode cX20_weight 45 = .ok (.iconst 0, 1) := dk_3 (dk_at dksX20_weight_1 21 rfl rfl)
theorem dX20_weight_46 : decode cX20_weight 46 = .ok (.invokevirtual 80, 3) := dk_182 0 80 (dk_at dksX20_weight_2 0 rfl rfl)
theorem dX20_weight_49 : decode cX20_weight 49 = .ok (.aload_n 0, 1) := dk_42 (dk_at dksX20_weight_2 3 rfl rfl)
theorem dX20_weight_50 : decode cX20_weight 50 = .ok (.invokevirtual 84, 3) := dk_182 0 84 (dk_at dksX20_weight_2 4 rfl rfl)
theorem dX20_weight_53 : decode cX20_weight 53 = .ok (.iload_n 1, 1) := dk_27 (dk_at dksX20_weight_2 7 rfl rfl)
theorem dX20_weight_54 : decode cX20_weight 54 = .ok (.ireturn, 1) := dk_172 (dk_at dksX20_weight_2 8 rfl rfl)
theorem q159 : (Jvm.Cond.initialized "LinesTouched$Reader") ∈ lw_all := lw_g (lw_at lw_m1 54 rfl) rfl
theorem q904 : (Jvm.Cond.selects "LinesTouched$Reader" ({ cls := "java/lang/Object", name := "hashCode", desc := "()I" } : Jvm.MethodName) ({ cls := "java/lang/Object", name := "hashCode", desc := "()I" } : Jvm.MethodName)) ∈ lw_all := lw_g (lw_at lw_m4 79 rfl) rfl
theorem q1115 : (Jvm.Cond.selects "LinesTouched$Reader" ({ cls := "java/lang/Object", name := "getClass", desc := "()Ljava/lang/Class;" } : Jvm.MethodName) ({ cls := "java/lang/Object", name := "getClass", desc := "()Ljava/lang/Class;" } : Jvm.MethodName)) ∈ lw_all := lw_g (lw_at lw_m5 50 rfl) rfl
theorem q1364 : (Jvm.Cond.selects "LinesTouched$Reader" ({ cls := "java/lang/Object", name := "equals", desc := "(Ljava/lang/Object;)Z" } : Jvm.MethodName) ({ cls := "java/lang/Object", name := "equals", desc := "(Ljava/lang/Object;)Z" } : Jvm.MethodName)) ∈ lw_all := lw_g (lw_at lw_m6 59 rfl) rfl
theorem q2123 : (Jvm.Cond.instantiable "LinesTouched$Reader" (9 : Nat)) ∈ lw_all := lw_g (lw_at lw_m9 98 rfl) rfl
theorem q2125 : (Jvm.Cond.instanceMethod ({ cls := "LinesTouched$Reader", name := "<init>", desc := "([BI)V" } : Jvm.MethodName)) ∈ lw_all := lw_g (lw_at lw_m9 100 rfl) rfl
theorem q2126 : (Jvm.Cond.code ({ cls := "LinesTouched$Reader", name := "<init>", desc := "([BI)V" } : Jvm.MethodName) prog_18_method_1_code (3 : Nat) (Option.none : Option Jvm.ClassFile.FieldType)) ∈ lw_all := lw_g (lw_at lw_m9 101 rfl) rfl
theorem q2127 : (Jvm.Cond.methodLink "LinesTouched$Reader" (3 : Nat) ({ cls := "java/lang/Object", name := "<init>", desc := "()V" } : Jvm.MethodName)) ∈ lw_all := lw_g (lw_at lw_m9 102 rfl) rfl
theorem q2128 : (Jvm.Cond.classLink "LinesTouched$Reader" (9 : Nat) "java/lang/String") ∈ lw_all := lw_g (lw_at lw_m9 103 rfl) rfl
theorem q2130 : (Jvm.Cond.stringRef "LinesTouched$Reader" (11 : Nat) "point") ∈ lw_tbl := lw_at lw_m9 105 rfl
theorem q2131 : (Jvm.Cond.stringRef "LinesTouched$Reader" (13 : Nat) "toll") ∈ lw_tbl := lw_at lw_m9 106 rfl
theorem q2132 : (Jvm.Cond.stringRef "LinesTouched$Reader" (15 : Nat) "club") ∈ lw_tbl := lw_at lw_m9 107 rfl
theorem q2133 : (Jvm.Cond.stringRef "LinesTouched$Reader" (17 : Nat) "keeper") ∈ lw_tbl := lw_at lw_m9 108 rfl
theorem q2134 : (Jvm.Cond.stringRef "LinesTouched$Reader" (19 : Nat) "guild") ∈ lw_tbl := lw_at lw_m9 109 rfl
theorem q2135 : (Jvm.Cond.stringRef "LinesTouched$Reader" (21 : Nat) "warden") ∈ lw_tbl := lw_at lw_m9 110 rfl
theorem q2136 : (Jvm.Cond.classLink "LinesTouched$Reader" (29 : Nat) "LinesTouched$Twig") ∈ lw_all := lw_g (lw_at lw_m9 111 rfl) rfl
theorem q2138 : (Jvm.Cond.fieldLink "LinesTouched$Reader" (23 : Nat) "LinesTouched$Reader" "words" "[Ljava/lang/String;") ∈ lw_all := lw_g (lw_at lw_m9 113 rfl) rfl
theorem q2139 : (Jvm.Cond.fieldLink "LinesTouched$Reader" (35 : Nat) "LinesTouched$Reader" "tape" "[B") ∈ lw_all := lw_g (lw_at lw_m9 114 rfl) rfl
theorem q2140 : (Jvm.Cond.fieldLink "LinesTouched$Reader" (39 : Nat) "LinesTouched$Reader" "size" "I") ∈ lw_all := lw_g (lw_at lw_m9 115 rfl) rfl
theorem q2141 : (Jvm.Cond.fieldLink "LinesTouched$Reader" (31 : Nat) "LinesTouched$Reader" "twigs" "[LLinesTouched$Twig;") ∈ lw_all := lw_g (lw_at lw_m9 116 rfl) rfl
theorem q2143 : (Jvm.Cond.fieldLink "LinesTouched$Reader" (90 : Nat) "LinesTouched$Reader" "many" "I") ∈ lw_all := lw_g (lw_at lw_m9 118 rfl) rfl
theorem q2145 : (Jvm.Cond.fieldLink "LinesTouched$Reader" (87 : Nat) "LinesTouched$Reader" "open" "I") ∈ lw_all := lw_g (lw_at lw_m9 120 rfl) rfl
theorem q2146 : (Jvm.Cond.fieldLink "LinesTouched$Reader" (43 : Nat) "LinesTouched$Reader" "at" "I") ∈ lw_all := lw_g (lw_at lw_m9 121 rfl) rfl
theorem q2147 : (Jvm.Cond.fieldLink "LinesTouched$Reader" (54 : Nat) "LinesTouched$Reader" "from" "I") ∈ lw_all := lw_g (lw_at lw_m9 122 rfl) rfl
theorem q2148 : (Jvm.Cond.fieldLink "LinesTouched$Reader" (61 : Nat) "LinesTouched$Reader" "token" "I") ∈ lw_all := lw_g (lw_at lw_m9 123 rfl) rfl
theorem q2149 : (Jvm.Cond.laysFinal "LinesTouched$Reader" "LinesTouched$Reader" "words" "[Ljava/lang/String;") ∈ lw_all := lw_g (lw_at lw_m9 124 rfl) rfl
theorem q2150 : (Jvm.Cond.soleField "LinesTouched$Reader" "words") ∈ lw_all := lw_g (lw_at lw_m9 125 rfl) rfl
theorem q2151 : (Jvm.Cond.laysFinal "LinesTouched$Reader" "LinesTouched$Reader" "tape" "[B") ∈ lw_all := lw_g (lw_at lw_m9 126 rfl) rfl
theorem q2152 : (Jvm.Cond.soleField "LinesTouched$Reader" "tape") ∈ lw_all := lw_g (lw_at lw_m9 127 rfl) rfl
theorem q2153 : (Jvm.Cond.laysFinal "LinesTouched$Reader" "LinesTouched$Reader" "size" "I") ∈ lw_all := lw_g (lw_at lw_m9 128 rfl) rfl
theorem q2154 : (Jvm.Cond.soleField "LinesTouched$Reader" "size") ∈ lw_all := lw_g (lw_at lw_m9 129 rfl) rfl
theorem q2155 : (Jvm.Cond.laysFinal "LinesTouched$Reader" "LinesTouched$Reader" "twigs" "[LLinesTouched$Twig;") ∈ lw_all := lw_g (lw_at lw_m9 130 rfl) rfl
theorem q2156 : (Jvm.Cond.soleField "LinesTouched$Reader" "twigs") ∈ lw_all := lw_g (lw_at lw_m9 131 rfl) rfl
theorem q2157 : (Jvm.Cond.lays "LinesTouched$Reader" "LinesTouched$Reader" "many" "I") ∈ lw_all := lw_g (lw_at lw_m9 132 rfl) rfl
theorem q2158 : (Jvm.Cond.soleField "LinesTouched$Reader" "many") ∈ lw_all := lw_g (lw_at lw_m9 133 rfl) rfl
theorem q2159 : (Jvm.Cond.lays "LinesTouched$Reader" "LinesTouched$Reader" "open" "I") ∈ lw_all := lw_g (lw_at lw_m9 134 rfl) rfl
theorem q2160 : (Jvm.Cond.soleField "LinesTouched$Reader" "open") ∈ lw_all := lw_g (lw_at lw_m9 135 rfl) rfl
theorem q2161 : (Jvm.Cond.lays "LinesTouched$Reader" "LinesTouched$Reader" "at" "I") ∈ lw_all := lw_g (lw_at lw_m9 136 rfl) rfl
theorem q2162 : (Jvm.Cond.soleField "LinesTouched$Reader" "at") ∈ lw_all := lw_g (lw_at lw_m9 137 rfl) rfl
theorem q2163 : (Jvm.Cond.lays "LinesTouched$Reader" "LinesTouched$Reader" "from" "I") ∈ lw_all := lw_g (lw_at lw_m9 138 rfl) rfl
theorem q2164 : (Jvm.Cond.soleField "LinesTouched$Reader" "from") ∈ lw_all := lw_g (lw_at lw_m9 139 rfl) rfl
theorem q2165 : (Jvm.Cond.lays "LinesTouched$Reader" "LinesTouched$Reader" "token" "I") ∈ lw_all := lw_g (lw_at lw_m9 140 rfl) rfl
theorem q2166 : (Jvm.Cond.soleField "LinesTouched$Reader" "token") ∈ lw_all := lw_g (lw_at lw_m9 141 rfl) rfl
theorem q2167 : (Jvm.Cond.superclass "LinesTouched$Reader" "java/lang/Object") ∈ lw_all := lw_g (lw_at lw_m9 142 rfl) rfl
theorem q2169 : (Jvm.Cond.instanceMethod ({ cls := "LinesTouched$Reader", name := "reads", desc := "()V" } : Jvm.MethodName)) ∈ lw_all := lw_g (lw_at lw_m9 144 rfl) rfl
theorem q2170 : (Jvm.Cond.selects "LinesTouched$Reader" ({ cls := "LinesTouched$Reader", name := "reads", desc := "()V" } : Jvm.MethodName) ({ cls := "LinesTouched$Reader", name := "reads", desc := "()V" } : Jvm.MethodName)) ∈ lw_all := lw_g (lw_at lw_m9 145 rfl) rfl
theorem q2171 : (Jvm.Cond.code ({ cls := "LinesTouched$Reader", name := "reads", desc := "()V" } : Jvm.MethodName) prog_18_method_10_code (1 : Nat) (Option.none : Option Jvm.ClassFile.FieldType)) ∈ lw_all := lw_g (lw_at lw_m9 146 rfl) rfl
theorem q2172 : (Jvm.Cond.methodLink "LinesTouched$Reader" (84 : Nat) ({ cls := "LinesTouched$Reader", name := "next", desc := "()V" } : Jvm.MethodName)) ∈ lw_all := lw_g (lw_at lw_m9 147 rfl) rfl
theorem q2173 : (Jvm.Cond.privateMethod ({ cls := "LinesTouched$Reader", name := "next", desc := "()V" } : Jvm.MethodName)) ∈ lw_tbl := lw_at lw_m9 148 rfl
theorem q2174 : (Jvm.Cond.instanceMethod ({ cls := "LinesTouched$Reader", name := "next", desc := "()V" } : Jvm.MethodName)) ∈ lw_all := lw_g (lw_at lw_m9 149 rfl) rfl
theorem q2175 : (Jvm.Cond.code ({ cls := "LinesTouched$Reader", name := "next", desc := "()V" } : Jvm.MethodName) prog_18_method_4_code (1 : Nat) (Option.none : Option Jvm.ClassFile.FieldType)) ∈ lw_all := lw_g (lw_at lw_m9 150 rfl) rfl
theorem q2176 : (Jvm.Cond.methodLink "LinesTouched$Reader" (50 : Nat) ({ cls := "LinesTouched$Reader", name := "isIn", desc := "(II)Z" } : Jvm.MethodName)) ∈ lw_all := lw_g (lw_at lw_m9 151 rfl) rfl
theorem q2177 : (Jvm.Cond.privateMethod ({ cls := "LinesTouched$Reader", name := "isIn", desc := "(II)Z" } : Jvm.MethodName)) ∈ lw_tbl := lw_at lw_m9 152 rfl
theorem q2178 : (Jvm.Cond.instanceMethod ({ cls := "LinesTouched$Reader", name := "isIn", desc := "(II)Z" } : Jvm.MethodName)) ∈ lw_all := lw_g (lw_at lw_m9 153 rfl) rfl
theorem q2179 : (Jvm.Cond.code ({ cls := "LinesTouched$Reader", name := "isIn", desc := "(II)Z" } : Jvm.MethodName) prog_18_method_3_code (3 : Nat) (Option.some Jvm.ClassFile.FieldType.boolean)) ∈ lw_all := lw_g (lw_at lw_m9 154 rfl) rfl
theorem q2180 : (Jvm.Cond.methodLinkNest "LinesTouched$Reader" (46 : Nat) ({ cls := "LinesTouched", name := "in", desc := "(III)Z" } : Jvm.MethodName) "LinesTouched") ∈ lw_tbl := lw_at lw_m9 155 rfl
theorem q2181 : (Jvm.Cond.methodLink "LinesTouched$Reader" (57 : Nat) ({ cls := "LinesTouched$Reader", name := "here", desc := "()I" } : Jvm.MethodName)) ∈ lw_all := lw_g (lw_at lw_m9 156 rfl) rfl
theorem q2182 : (Jvm.Cond.privateMethod ({ cls := "LinesTouched$Reader", name := "here", desc := "()I" } : Jvm.MethodName)) ∈ lw_tbl := lw_at lw_m9 157 rfl
theorem q2183 : (Jvm.Cond.instanceMethod ({ cls := "LinesTouched$Reader", name := "here", desc := "()I" } : Jvm.MethodName)) ∈ lw_all := lw_g (lw_at lw_m9 158 rfl) rfl
theorem q2184 : (Jvm.Cond.code ({ cls := "LinesTouched$Reader", name := "here", desc := "()I" } : Jvm.MethodName) prog_18_method_2_code (1 : Nat) (Option.some Jvm.ClassFile.FieldType.int)) ∈ lw_all := lw_g (lw_at lw_m9 159 rfl) rfl
theorem q2185 : (Jvm.Cond.methodLink "LinesTouched$Reader" (106 : Nat) ({ cls := "LinesTouched$Reader", name := "node", desc := "(LLinesTouched$Twig;)V" } : Jvm.MethodName)) ∈ lw_all := lw_g (lw_at lw_m9 160 rfl) rfl
theorem q2186 : (Jvm.Cond.privateMethod ({ cls := "LinesTouched$Reader", name := "node", desc := "(LLinesTouched$Twig;)V" } : Jvm.MethodName)) ∈ lw_tbl := lw_at lw_m9 161 rfl
theorem q2187 : (Jvm.Cond.instanceMethod ({ cls := "LinesTouched$Reader", name := "node", desc := "(LLinesTouched$Twig;)V" } : Jvm.MethodName)) ∈ lw_all := lw_g (lw_at lw_m9 162 rfl) rfl
theorem q2188 : (Jvm.Cond.code ({ cls := "LinesTouched$Reader", name := "node", desc := "(LLinesTouched$Twig;)V" } : Jvm.MethodName) prog_18_method_9_code (4 : Nat) (Option.none : Option Jvm.ClassFile.FieldType)) ∈ lw_all := lw_g (lw_at lw_m9 163 rfl) rfl
theorem q2189 : (Jvm.Cond.methodLink "LinesTouched$Reader" (80 : Nat) ({ cls := "LinesTouched$Reader", name := "need", desc := "(Z)V" } : Jvm.MethodName)) ∈ lw_all := lw_g (lw_at lw_m9 164 rfl) rfl
theorem q2190 : (Jvm.Cond.privateMethod ({ cls := "LinesTouched$Reader", name := "need", desc := "(Z)V" } : Jvm.MethodName)) ∈ lw_tbl := lw_at lw_m9 165 rfl
theorem q2191 : (Jvm.Cond.instanceMethod ({ cls := "LinesTouched$Reader", name := "need", desc := "(Z)V" } : Jvm.MethodName)) ∈ lw_all := lw_g (lw_at lw_m9 166 rfl) rfl
theorem q2192 : (Jvm.Cond.code ({ cls := "LinesTouched$Reader", name := "need", desc := "(Z)V" } : Jvm.MethodName) prog_18_method_5_code (2 : Nat) (Option.none : Option Jvm.ClassFile.FieldType)) ∈ lw_all := lw_g (lw_at lw_m9 167 rfl) rfl
theorem q2193 : (Jvm.Cond.classLink "LinesTouched$Reader" (64 : Nat) "LinesTouched$Fault") ∈ lw_all := lw_g (lw_at lw_m9 168 rfl) rfl
theorem q2202 : (Jvm.Cond.methodLink "LinesTouched$Reader" (66 : Nat) ({ cls := "LinesTouched$Fault", name := "<init>", desc := "(I)V" } : Jvm.MethodName)) ∈ lw_all := lw_g (lw_at lw_m9 177 rfl) rfl
theorem q2212 : (Jvm.Cond.methodLink "LinesTouched$Reader" (93 : Nat) ({ cls := "LinesTouched$Reader", name := "kind", desc := "()I" } : Jvm.MethodName)) ∈ lw_all := lw_g (lw_at lw_m9 187 rfl) rfl
theorem q2213 : (Jvm.Cond.privateMethod ({ cls := "LinesTouched$Reader", name := "kind", desc := "()I" } : Jvm.MethodName)) ∈ lw_tbl := lw_at lw_m9 188 rfl
theorem q2214 : (Jvm.Cond.instanceMethod ({ cls := "LinesTouched$Reader", name := "kind", desc := "()I" } : Jvm.MethodName)) ∈ lw_all := lw_g (lw_at lw_m9 189 rfl) rfl
theorem q2215 : (Jvm.Cond.code ({ cls := "LinesTouched$Reader", name := "kind", desc := "()I" } : Jvm.MethodName) prog_18_method_7_code (2 : Nat) (Option.some Jvm.ClassFile.FieldType.int)) ∈ lw_all := lw_g (lw_at lw_m9 190 rfl) rfl
theorem q2216 : (Jvm.Cond.methodLink "LinesTouched$Reader" (76 : Nat) ({ cls := "LinesTouched$Reader", name := "isWord", desc := "(Ljava/lang/String;)Z" } : Jvm.MethodName)) ∈ lw_all := lw_g (lw_at lw_m9 191 rfl) rfl
theorem q2217 : (Jvm.Cond.privateMethod ({ cls := "LinesTouched$Reader", name := "isWord", desc := "(Ljava/lang/String;)Z" } : Jvm.MethodName)) ∈ lw_tbl := lw_at lw_m9 192 rfl
theorem q2218 : (Jvm.Cond.instanceMethod ({ cls := "LinesTouched$Reader", name := "isWord", desc := "(Ljava/lang/String;)Z" } : Jvm.MethodName)) ∈ lw_all := lw_g (lw_at lw_m9 193 rfl) rfl
theorem q2219 : (Jvm.Cond.code ({ cls := "LinesTouched$Reader", name := "isWord", desc := "(Ljava/lang/String;)Z" } : Jvm.MethodName) prog_18_method_6_code (4 : Nat) (Option.some Jvm.ClassFile.FieldType.boolean)) ∈ lw_all := lw_g (lw_at lw_m9 194 rfl) rfl
theorem q2220 : (Jvm.Cond.methodLink "LinesTouched$Reader" (69 : Nat) ({ cls := "java/lang/String", name := "length", desc := "()I" } : Jvm.MethodName)) ∈ lw_all := lw_g (lw_at lw_m9 195 rfl) rfl
theorem q2224 : (Jvm.Cond.methodLink "LinesTouched$Reader" (72 : Nat) ({ cls := "java/lang/String", name := "charAt", desc := "(I)C" } : Jvm.MethodName)) ∈ lw_all := lw_g (lw_at lw_m9 199 rfl) rfl
theorem q2247 : (Jvm.Cond.methodLink "LinesTouched$Reader" (96 : Nat) ({ cls := "LinesTouched$Reader", name := "weight", desc := "()I" } : Jvm.MethodName)) ∈ lw_all := lw_g (lw_at lw_m9 222 rfl) rfl
theorem q2248 : (Jvm.Cond.privateMethod ({ cls := "LinesTouched$Reader", name := "weight", desc := "()I" } : Jvm.MethodName)) ∈ lw_tbl := lw_at lw_m9 223 rfl
theorem q2249 : (Jvm.Cond.instanceMethod ({ cls := "LinesTouched$Reader", name := "weight", desc := "()I" } : Jvm.MethodName)) ∈ lw_all := lw_g (lw_at lw_m9 224 rfl) rfl
theorem q2250 : (Jvm.Cond.code ({ cls := "LinesTouched$Reader", name := "weight", desc := "()I" } : Jvm.MethodName) prog_18_method_8_code (2 : Nat) (Option.some Jvm.ClassFile.FieldType.int)) ∈ lw_all := lw_g (lw_at lw_m9 225 rfl) rfl
theorem q2251 : (Jvm.Cond.methodLinkNest "LinesTouched$Reader" (99 : Nat) ({ cls := "LinesTouched", name := "made", desc := "(III)LLinesTouched$Point;" } : Jvm.MethodName) "LinesTouched") ∈ lw_tbl := lw_at lw_m9 226 rfl
theorem q2252 : (Jvm.Cond.methodLink "LinesTouched$Reader" (103 : Nat) ({ cls := "LinesTouched$Twig", name := "<init>", desc := "(LLinesTouched$Twig;LLinesTouched$Point;)V" } : Jvm.MethodName)) ∈ lw_all := lw_g (lw_at lw_m9 227 rfl) rfl
theorem q3162 : (Jvm.Cond.castable "LinesTouched$Reader" "java/lang/Object") ∈ lw_tbl := lw_at lw_m13 177 rfl
theorem in_X20 : ∀ w ∈ wsX200, w ∈ lw_all := lw_in wsX200 [2149, 2151, 2153, 2155, 2157, 2159, 2161, 2163, 2165] (by decide +kernel) (by decide +kernel)
/-! LinesTouched$Fault -/
set_option maxRecDepth 100000
def RX21 : String := "LinesTouched$Fault"
def TX21 : u_T := fun k => match k with
  | 0 => ("java/lang/Throwable", "cause", "Ljava/lang/Throwable;", false)
  | 1 => ("java/lang/Throwable", "stackTrace", "[Ljava/lang/StackTraceElement;", false)
  | 2 => ("java/lang/Throwable", "suppressedExceptions", "Ljava/util/List;", false)
  | 3 => ("java/lang/Throwable", "detailMessage", "Ljava/lang/String;", false)
  | 4 => ("java/lang/Throwable", "backtrace", "Ljava/lang/Object;", false)
  | 5 => ("java/lang/Throwable", "depth", "I", false)
  | _ => ("LinesTouched$Fault", "place", "I", true)
def tyX21 : Nat → FieldType := fun k => match k with
  | 0 => .object "java/lang/Throwable"
  | 1 => .array (.object "java/lang/StackTraceElement")
  | 2 => .object "java/util/List"
  | 3 => .object "java/lang/String"
  | 4 => .object "java/lang/Object"
  | 5 => .int
  | _ => .int
abbrev wsX210 : List Cond := u_ws RX21 TX21 7
theorem nmX21 : ∀ a, a < 7 → ∀ b, b < 7 → a ≠ b → (TX21 a).2.1 ≠ (TX21 b).2.1 := by decide +kernel
theorem tyX21_ok : ∀ k, k < 7 → parseFieldDescriptor (TX21 k).2.2.1 = some (tyX21 k) := by decide +kernel
abbrev cX21_init : ByteArray := prog_8_method_1_code
def yX21_init : MethodName := ⟨RX21, "<init>", "(I)V"⟩
def dkwX21_init_0 : List UInt8 := [42, 1, 1, 3, 3, 183, 0, 1, 42, 27, 181, 0, 7, 177]
abbrev dktX21_init_0 : List UInt8 := dkwX21_init_0 ++ []
theorem dksX21_init_0 : cX21_init.data.toList.drop 0 = dktX21_init_0 := by decide +kernel
theorem dX21_init_0 : decode cX21_init 0 = .ok (.aload_n 0, 1) := dk_42 (dk_at dksX21_init_0 0 rfl rfl)
theorem dX21_init_1 : decode cX21_init 1 = .ok (.aconst_null, 1) := dk_1 (dk_at dksX21_init_0 1 rfl rfl)
theorem dX21_init_2 : decode cX21_init 2 = .ok (.aconst_null, 1) := dk_1 (dk_at dksX21_init_0 2 rfl rfl)
theorem dX21_init_3 : decode cX21_init 3 = .ok (.iconst 0, 1) := dk_3 (dk_at dksX21_init_0 3 rfl rfl)
theorem dX21_init_4 : decode cX21_init 4 = .ok (.iconst 0, 1) := dk_3 (dk_at dksX21_init_0 4 rfl rfl)
theorem dX21_init_5 : decode cX21_init 5 = .ok (.invokespecial 1, 3) := dk_183 0 1 (dk_at dksX21_init_0 5 rfl rfl)
theorem dX21_init_8 : decode cX21_init 8 = .ok (.aload_n 0, 1) := dk_42 (dk_at dksX21_init_0 8 rfl rfl)
theorem dX21_init_9 : decode cX21_init 9 = .ok (.iload_n 1, 1) := dk_27 (dk_at dksX21_init_0 9 rfl rfl)
theorem dX21_init_10 : decode cX21_init 10 = .ok (.putfield 7, 3) := dk_181 0 7 (dk_at dksX21_init_0 10 rfl rfl)
theorem dX21_init_13 : decode cX21_init 13 = .ok (.return_, 1) := dk_177 (dk_at dksX21_init_0 13 rfl rfl)
theorem q160 : (Jvm.Cond.initialized "LinesTouched$Fault") ∈ lw_all := lw_g (lw_at lw_m1 55 rfl) rfl
theorem q889 : (Jvm.Cond.selects "LinesTouched$Fault" ({ cls := "java/lang/Object", name := "hashCode", desc := "()I" } : Jvm.MethodName) ({ cls := "java/lang/Object", name := "hashCode", desc := "()I" } : Jvm.MethodName)) ∈ lw_all := lw_g (lw_at lw_m4 64 rfl) rfl
theorem q1106 : (Jvm.Cond.selects "LinesTouched$Fault" ({ cls := "java/lang/Object", name := "getClass", desc := "()Ljava/lang/Class;" } : Jvm.MethodName) ({ cls := "java/lang/Object", name := "getClass", desc := "()Ljava/lang/Class;" } : Jvm.MethodName)) ∈ lw_all := lw_g (lw_at lw_m5 41 rfl) rfl
theorem q1352 : (Jvm.Cond.selects "LinesTouched$Fault" ({ cls := "java/lang/Object", name := "equals", desc := "(Ljava/lang/Object;)Z" } : Jvm.MethodName) ({ cls := "java/lang/Object", name := "equals", desc := "(Ljava/lang/Object;)Z" } : Jvm.MethodName)) ∈ lw_all := lw_g (lw_at lw_m6 47 rfl) rfl
theorem q1657 : (Jvm.Cond.selects "LinesTouched$Fault" ({ cls := "java/lang/Throwable", name := "fillInStackTrace", desc := "()Ljava/lang/Throwable;" } : Jvm.MethodName) ({ cls := "java/lang/Throwable", name := "fillInStackTrace", desc := "()Ljava/lang/Throwable;" } : Jvm.MethodName)) ∈ lw_all := lw_g (lw_at lw_m7 112 rfl) rfl
theorem q2194 : (Jvm.Cond.instantiable "LinesTouched$Fault" (7 : Nat)) ∈ lw_all := lw_g (lw_at lw_m9 169 rfl) rfl
theorem q2195 : (Jvm.Cond.castable "LinesTouched$Fault" "LinesTouched$Fault") ∈ lw_tbl := lw_at lw_m9 170 rfl
theorem q2196 : (Jvm.Cond.selects "LinesTouched$Fault" ({ cls := "java/lang/Throwable", name := "fillInStackTrace", desc := "(I)Ljava/lang/Throwable;" } : Jvm.MethodName) ({ cls := "java/lang/Throwable", name := "fillInStackTrace", desc := "(I)Ljava/lang/Throwable;" } : Jvm.MethodName)) ∈ lw_all := lw_g (lw_at lw_m9 171 rfl) rfl
theorem q2197 : (Jvm.Cond.lays "LinesTouched$Fault" "java/lang/Throwable" "cause" "Ljava/lang/Throwable;") ∈ lw_all := lw_g (lw_at lw_m9 172 rfl) rfl
theorem q2198 : (Jvm.Cond.lays "LinesTouched$Fault" "java/lang/Throwable" "stackTrace" "[Ljava/lang/StackTraceElement;") ∈ lw_all := lw_g (lw_at lw_m9 173 rfl) rfl
theorem q2199 : (Jvm.Cond.lays "LinesTouched$Fault" "java/lang/Throwable" "suppressedExceptions" "Ljava/util/List;") ∈ lw_all := lw_g (lw_at lw_m9 174 rfl) rfl
theorem q2200 : (Jvm.Cond.lays "LinesTouched$Fault" "java/lang/Throwable" "detailMessage" "Ljava/lang/String;") ∈ lw_all := lw_g (lw_at lw_m9 175 rfl) rfl
theorem q2201 : (Jvm.Cond.lays "LinesTouched$Fault" "java/lang/Throwable" "backtrace" "Ljava/lang/Object;") ∈ lw_all := lw_g (lw_at lw_m9 176 rfl) rfl
theorem q2203 : (Jvm.Cond.instanceMethod ({ cls := "LinesTouched$Fault", name := "<init>", desc := "(I)V" } : Jvm.MethodName)) ∈ lw_all := lw_g (lw_at lw_m9 178 rfl) rfl
theorem q2204 : (Jvm.Cond.code ({ cls := "LinesTouched$Fault", name := "<init>", desc := "(I)V" } : Jvm.MethodName) prog_8_method_1_code (2 : Nat) (Option.none : Option Jvm.ClassFile.FieldType)) ∈ lw_all := lw_g (lw_at lw_m9 179 rfl) rfl
theorem q2205 : (Jvm.Cond.methodLink "LinesTouched$Fault" (1 : Nat) ({ cls := "java/lang/Exception", name := "<init>", desc := "(Ljava/lang/String;Ljava/lang/Throwable;ZZ)V" } : Jvm.MethodName)) ∈ lw_all := lw_g (lw_at lw_m9 180 rfl) rfl
theorem q2206 : (Jvm.Cond.fieldLink "LinesTouched$Fault" (7 : Nat) "LinesTouched$Fault" "place" "I") ∈ lw_all := lw_g (lw_at lw_m9 181 rfl) rfl
theorem q2208 : (Jvm.Cond.laysFinal "LinesTouched$Fault" "LinesTouched$Fault" "place" "I") ∈ lw_all := lw_g (lw_at lw_m9 183 rfl) rfl
theorem q2209 : (Jvm.Cond.soleField "LinesTouched$Fault" "place") ∈ lw_all := lw_g (lw_at lw_m9 184 rfl) rfl
theorem q2210 : (Jvm.Cond.lays "LinesTouched$Fault" "java/lang/Throwable" "depth" "I") ∈ lw_all := lw_g (lw_at lw_m9 185 rfl) rfl
theorem q2211 : (Jvm.Cond.superclass "LinesTouched$Fault" "java/lang/Exception") ∈ lw_all := lw_g (lw_at lw_m9 186 rfl) rfl
theorem q3163 : (Jvm.Cond.castable "LinesTouched$Fault" "java/lang/Object") ∈ lw_tbl := lw_at lw_m13 178 rfl
theorem in_X21 : ∀ w ∈ wsX210, w ∈ lw_all := lw_in wsX210 [2197, 2198, 2199, 2200, 2201, 2210, 2208] (by decide +kernel) (by decide +kernel)
/-! LinesTouched$Twig -/
set_option maxRecDepth 100000
def RX22 : String := "LinesTouched$Twig"
def TX22 : u_T := fun k => match k with
  | 0 => ("LinesTouched$Twig", "within", "LLinesTouched$Twig;", true)
  | 1 => ("LinesTouched$Twig", "point", "LLinesTouched$Point;", true)
  | 2 => ("LinesTouched$Twig", "first", "LLinesTouched$Twig;", false)
  | 3 => ("LinesTouched$Twig", "last", "LLinesTouched$Twig;", false)
  | 4 => ("LinesTouched$Twig", "behind", "LLinesTouched$Twig;", false)
  | 5 => ("LinesTouched$Twig", "under", "I", false)
  | _ => ("LinesTouched$Twig", "lines", "I", false)
def tyX22 : Nat → FieldType := fun k => match k with
  | 0 => .object "LinesTouched$Twig"
  | 1 => .object "LinesTouched$Point"
  | 2 => .object "LinesTouched$Twig"
  | 3 => .object "LinesTouched$Twig"
  | 4 => .object "LinesTouched$Twig"
  | 5 => .int
  | _ => .int
abbrev wsX220 : List Cond := u_ws RX22 TX22 7
theorem nmX22 : ∀ a, a < 7 → ∀ b, b < 7 → a ≠ b → (TX22 a).2.1 ≠ (TX22 b).2.1 := by decide +kernel
theorem tyX22_ok : ∀ k, k < 7 → parseFieldDescriptor (TX22 k).2.2.1 = some (tyX22 k) := by decide +kernel
abbrev cX22_init : ByteArray := prog_25_method_1_code
def yX22_init : MethodName := ⟨RX22, "<init>", "(LLinesTouched$Twig;LLinesTouched$Point;)V"⟩
def dkwX22_init_1 : List UInt8 := [4, 181, 0, 21, 177]
abbrev dktX22_init_1 : List UInt8 := dkwX22_init_1 ++ []
def dkwX22_init_0 : List UInt8 := [42, 183, 0, 1, 42, 43, 181, 0, 7, 42, 44, 181, 0, 13, 43, 198, 0, 13, 43, 42, 182, 0, 17, 42]
abbrev dktX22_init_0 : List UInt8 := dkwX22_init_0 ++ dktX22_init_1
theorem dksX22_init_0 : cX22_init.data.toList.drop 0 = dktX22_init_0 := by decide +kernel
theorem dksX22_init_1 : cX22_init.data.toList.drop 24 = dktX22_init_1 := dk_seg dksX22_init_0 24 rfl rfl
theorem dX22_init_0 : decode cX22_init 0 = .ok (.aload_n 0, 1) := dk_42 (dk_at dksX22_init_0 0 rfl rfl)
theorem dX22_init_1 : decode cX22_init 1 = .ok (.invokespecial 1, 3) := dk_183 0 1 (dk_at dksX22_init_0 1 rfl rfl)
theorem dX22_init_4 : decode cX22_init 4 = .ok (.aload_n 0, 1) := dk_42 (dk_at dksX22_init_0 4 rfl rfl)
theorem dX22_init_5 : decode cX22_init 5 = .ok (.aload_n 1, 1) := dk_43 (dk_at dksX22_init_0 5 rfl rfl)
theorem dX22_init_6 : decode cX22_init 6 = .ok (.putfield 7, 3) := dk_181 0 7 (dk_at dksX22_init_0 6 rfl rfl)
theorem dX22_init_9 : decode cX22_init 9 = .ok (.aload_n 0, 1) := dk_42 (dk_at dksX22_init_0 9 rfl rfl)
theorem dX22_init_10 : decode cX22_init 10 = .ok (.aload_n 2, 1) := dk_44 (dk_at dksX22_init_0 10 rfl rfl)
theorem dX22_init_11 : decode cX22_init 11 = .ok (.putfield 13, 3) := dk_181 0 13 (dk_at dksX22_init_0 11 rfl rfl)
theorem dX22_init_14 : decode cX22_init 14 = .ok (.aload_n 1, 1) := dk_43 (dk_at dksX22_init_0 14 rfl rfl)
theorem dX22_init_15 : decode cX22_init 15 = .ok (.ifnull 13, 3) := dk_198 0 13 (dk_at dksX22_init_0 15 rfl rfl)
theorem dX22_init_18 : decode cX22_init 18 = .ok (.aload_n 1, 1) := dk_43 (dk_at dksX22_init_0 18 rfl rfl)
theorem dX22_init_19 : decode cX22_init 19 = .ok (.aload_n 0, 1) := dk_42 (dk_at dksX22_init_0 19 rfl rfl)
theorem dX22_init_20 : decode cX22_init 20 = .ok (.invokevirtual 17, 3) := dk_182 0 17 (dk_at dksX22_init_0 20 rfl rfl)
theorem dX22_init_23 : decode cX22_init 23 = .ok (.aload_n 0, 1) := dk_42 (dk_at dksX22_init_0 23 rfl rfl)
theorem dX22_init_24 : decode cX22_init 24 = .ok (.iconst 1, 1) := dk_4 (dk_at dksX22_init_1 0 rfl rfl)
theorem dX22_init_25 : decode cX22_init 25 = .ok (.putfield 21, 3) := dk_181 0 21 (dk_at dksX22_init_1 1 rfl rfl)
theorem dX22_init_28 : decode cX22_init 28 = .ok (.return_, 1) := dk_177 (dk_at dksX22_init_1 4 rfl rfl)
abbrev cX22_gets : ByteArray := prog_25_method_2_code
def yX22_gets : MethodName := ⟨RX22, "gets", "(LLinesTouched$Twig;)V"⟩
def dkwX22_gets_2 : List UInt8 := [180, 0, 34, 4, 96, 181, 0, 34, 44, 180, 0, 7, 77, 167, 255, 237, 177]
abbrev dktX22_gets_2 : List UInt8 := dkwX22_gets_2 ++ []
def dkwX22_gets_1 : List UInt8 := [167, 0, 11, 42, 180, 0, 25, 43, 181, 0, 31, 42, 43, 181, 0, 25, 42, 77, 44, 198, 0, 21, 44, 89]
abbrev dktX22_gets_1 : List UInt8 := dkwX22_gets_1 ++ dktX22_gets_2
def dkwX22_gets_0 : List UInt8 := [42, 89, 180, 0, 21, 4, 96, 181, 0, 21, 42, 180, 0, 25, 199, 0, 11, 42, 43, 181, 0, 28]
abbrev dktX22_gets_0 : List UInt8 := dkwX22_gets_0 ++ dktX22_gets_1
theorem dksX22_gets_0 : cX22_gets.data.toList.drop 0 = dktX22_gets_0 := by decide +kernel
theorem dksX22_gets_1 : cX22_gets.data.toList.drop 22 = dktX22_gets_1 := dk_seg dksX22_gets_0 22 rfl rfl
theorem dksX22_gets_2 : cX22_gets.data.toList.drop 46 = dktX22_gets_2 := dk_seg dksX22_gets_1 24 rfl rfl
theorem dX22_gets_0 : decode cX22_gets 0 = .ok (.aload_n 0, 1) := dk_42 (dk_at dksX22_gets_0 0 rfl rfl)
theorem dX22_gets_1 : decode cX22_gets 1 = .ok (.dup, 1) := dk_89 (dk_at dksX22_gets_0 1 rfl rfl)
theorem dX22_gets_2 : decode cX22_gets 2 = .ok (.getfield 21, 3) := dk_180 0 21 (dk_at dksX22_gets_0 2 rfl rfl)
theorem dX22_gets_5 : decode cX22_gets 5 = .ok (.iconst 1, 1) := dk_4 (dk_at dksX22_gets_0 5 rfl rfl)
theorem dX22_gets_6 : decode cX22_gets 6 = .ok (.iadd, 1) := dk_96 (dk_at dksX22_gets_0 6 rfl rfl)
theorem dX22_gets_7 : decode cX22_gets 7 = .ok (.putfield 21, 3) := dk_181 0 21 (dk_at dksX22_gets_0 7 rfl rfl)
theorem dX22_gets_10 : decode cX22_gets 10 = .ok (.aload_n 0, 1) := dk_42 (dk_at dksX22_gets_0 10 rfl rfl)
theorem dX22_gets_11 : decode cX22_gets 11 = .ok (.getfield 25, 3) := dk_180 0 25 (dk_at dksX22_gets_0 11 rfl rfl)
theorem dX22_gets_14 : decode cX22_gets 14 = .ok (.ifnonnull 11, 3) := dk_199 0 11 (dk_at dksX22_gets_0 14 rfl rfl)
theorem dX22_gets_17 : decode cX22_gets 17 = .ok (.aload_n 0, 1) := dk_42 (dk_at dksX22_gets_0 17 rfl rfl)
theorem dX22_gets_18 : decode cX22_gets 18 = .ok (.aload_n 1, 1) := dk_43 (dk_at dksX22_gets_0 18 rfl rfl)
theorem dX22_gets_19 : decode cX22_gets 19 = .ok (.putfield 28, 3) := dk_181 0 28 (dk_at dksX22_gets_0 19 rfl rfl)
theorem dX22_gets_22 : decode cX22_gets 22 = .ok (.goto 11, 3) := dk_167 0 11 (dk_at dksX22_gets_1 0 rfl rfl)
theorem dX22_gets_25 : decode cX22_gets 25 = .ok (.aload_n 0, 1) := dk_42 (dk_at dksX22_gets_1 3 rfl rfl)
theorem dX22_gets_26 : decode cX22_gets 26 = .ok (.getfield 25, 3) := dk_180 0 25 (dk_at dksX22_gets_1 4 rfl rfl)
theorem dX22_gets_29 : decode cX22_gets 29 = .ok (.aload_n 1, 1) := dk_43 (dk_at dksX22_gets_1 7 rfl rfl)
theorem dX22_gets_30 : decode cX22_gets 30 = .ok (.putfield 31, 3) := dk_181 0 31 (dk_at dksX22_gets_1 8 rfl rfl)
theorem dX22_gets_33 : decode cX22_gets 33 = .ok (.aload_n 0, 1) := dk_42 (dk_at dksX22_gets_1 11 rfl rfl)
theorem dX22_gets_34 : decode cX22_gets 34 = .ok (.aload_n 1, 1) := dk_43 (dk_at dksX22_gets_1 12 rfl rfl)
theorem dX22_gets_35 : decode cX22_gets 35 = .ok (.putfield 25, 3) := dk_181 0 25 (dk_at dksX22_gets_1 13 rfl rfl)
theorem dX22_gets_38 : decode cX22_gets 38 = .ok (.aload_n 0, 1) := dk_42 (dk_at dksX22_gets_1 16 rfl rfl)
theorem dX22_gets_39 : decode cX22_gets 39 = .ok (.astore_n 2, 1) := dk_77 (dk_at dksX22_gets_1 17 rfl rfl)
theorem dX22_gets_40 : decode cX22_gets 40 = .ok (.aload_n 2, 1) := dk_44 (dk_at dksX22_gets_1 18 rfl rfl)
theorem dX22_gets_41 : decode cX22_gets 41 = .ok (.ifnull 21, 3) := dk_198 0 21 (dk_at dksX22_gets_1 19 rfl rfl)
theorem dX22_gets_44 : decode cX22_gets 44 = .ok (.aload_n 2, 1) := dk_44 (dk_at dksX22_gets_1 22 rfl rfl)
theorem dX22_gets_45 : decode cX22_gets 45 = .ok (.dup, 1) := dk_89 (dk_at dksX22_gets_1 23 rfl rfl)
theorem dX22_gets_46 : decode cX22_gets 46 = .ok (.getfield 34, 3) := dk_180 0 34 (dk_at dksX22_gets_2 0 rfl rfl)
theorem dX22_gets_49 : decode cX22_gets 49 = .ok (.iconst 1, 1) := dk_4 (dk_at dksX22_gets_2 3 rfl rfl)
theorem dX22_gets_50 : decode cX22_gets 50 = .ok (.iadd, 1) := dk_96 (dk_at dksX22_gets_2 4 rfl rfl)
theorem dX22_gets_51 : decode cX22_gets 51 = .ok (.putfield 34, 3) := dk_181 0 34 (dk_at dksX22_gets_2 5 rfl rfl)
theorem dX22_gets_54 : decode cX22_gets 54 = .ok (.aload_n 2, 1) := dk_44 (dk_at dksX22_gets_2 8 rfl rfl)
theorem dX22_gets_55 : decode cX22_gets 55 = .ok (.getfield 7, 3) := dk_180 0 7 (dk_at dksX22_gets_2 9 rfl rfl)
theorem dX22_gets_58 : decode cX22_gets 58 = .ok (.astore_n 2, 1) := dk_77 (dk_at dksX22_gets_2 12 rfl rfl)
theorem dX22_gets_59 : decode cX22_gets 59 = .ok (.goto (-19), 3) := dk_167 255 237 (dk_at dksX22_gets_2 13 rfl rfl)
theorem dX22_gets_62 : decode cX22_gets 62 = .ok (.return_, 1) := dk_177 (dk_at dksX22_gets_2 16 rfl rfl)
abbrev cX22_cost : ByteArray := prog_25_method_3_code
def yX22_cost : MethodName := ⟨RX22, "cost", "()I"⟩
def dkwX22_cost_0 : List UInt8 := [42, 180, 0, 13, 42, 180, 0, 21, 182, 0, 37, 172]
abbrev dktX22_cost_0 : List UInt8 := dkwX22_cost_0 ++ []
theorem dksX22_cost_0 : cX22_cost.data.toList.drop 0 = dktX22_cost_0 := by decide +kernel
theorem dX22_cost_0 : decode cX22_cost 0 = .ok (.aload_n 0, 1) := dk_42 (dk_at dksX22_cost_0 0 rfl rfl)
theorem dX22_cost_1 : decode cX22_cost 1 = .ok (.getfield 13, 3) := dk_180 0 13 (dk_at dksX22_cost_0 1 rfl rfl)
theorem dX22_cost_4 : decode cX22_cost 4 = .ok (.aload_n 0, 1) := dk_42 (dk_at dksX22_cost_0 4 rfl rfl)
theorem dX22_cost_5 : decode cX22_cost 5 = .ok (.getfield 21, 3) := dk_180 0 21 (dk_at dksX22_cost_0 5 rfl rfl)
theorem dX22_cost_8 : decode cX22_cost 8 = .ok (.invokevirtual 37, 3) := dk_182 0 37 (dk_at dksX22_cost_0 8 rfl rfl)
theorem dX22_cost_11 : decode cX22_cost 11 = .ok (.ireturn, 1) := dk_172 (dk_at dksX22_cost_0 11 rfl rfl)
theorem q162 : (Jvm.Cond.initialized "LinesTouched$Twig") ∈ lw_all := lw_g (lw_at lw_m1 57 rfl) rfl
theorem q910 : (Jvm.Cond.selects "LinesTouched$Twig" ({ cls := "java/lang/Object", name := "hashCode", desc := "()I" } : Jvm.MethodName) ({ cls := "java/lang/Object", name := "hashCode", desc := "()I" } : Jvm.MethodName)) ∈ lw_all := lw_g (lw_at lw_m4 85 rfl) rfl
theorem q1121 : (Jvm.Cond.selects "LinesTouched$Twig" ({ cls := "java/lang/Object", name := "getClass", desc := "()Ljava/lang/Class;" } : Jvm.MethodName) ({ cls := "java/lang/Object", name := "getClass", desc := "()Ljava/lang/Class;" } : Jvm.MethodName)) ∈ lw_all := lw_g (lw_at lw_m5 56 rfl) rfl
theorem q1370 : (Jvm.Cond.selects "LinesTouched$Twig" ({ cls := "java/lang/Object", name := "equals", desc := "(Ljava/lang/Object;)Z" } : Jvm.MethodName) ({ cls := "java/lang/Object", name := "equals", desc := "(Ljava/lang/Object;)Z" } : Jvm.MethodName)) ∈ lw_all := lw_g (lw_at lw_m6 65 rfl) rfl
theorem q2246 : (Jvm.Cond.instantiable "LinesTouched$Twig" (7 : Nat)) ∈ lw_all := lw_g (lw_at lw_m9 221 rfl) rfl
theorem q2253 : (Jvm.Cond.instanceMethod ({ cls := "LinesTouched$Twig", name := "<init>", desc := "(LLinesTouched$Twig;LLinesTouched$Point;)V" } : Jvm.MethodName)) ∈ lw_all := lw_g (lw_at lw_m9 228 rfl) rfl
theorem q2254 : (Jvm.Cond.code ({ cls := "LinesTouched$Twig", name := "<init>", desc := "(LLinesTouched$Twig;LLinesTouched$Point;)V" } : Jvm.MethodName) prog_25_method_1_code (3 : Nat) (Option.none : Option Jvm.ClassFile.FieldType)) ∈ lw_all := lw_g (lw_at lw_m9 229 rfl) rfl
theorem q2255 : (Jvm.Cond.methodLink "LinesTouched$Twig" (1 : Nat) ({ cls := "java/lang/Object", name := "<init>", desc := "()V" } : Jvm.MethodName)) ∈ lw_all := lw_g (lw_at lw_m9 230 rfl) rfl
theorem q2256 : (Jvm.Cond.methodLink "LinesTouched$Twig" (17 : Nat) ({ cls := "LinesTouched$Twig", name := "gets", desc := "(LLinesTouched$Twig;)V" } : Jvm.MethodName)) ∈ lw_all := lw_g (lw_at lw_m9 231 rfl) rfl
theorem q2257 : (Jvm.Cond.privateMethod ({ cls := "LinesTouched$Twig", name := "gets", desc := "(LLinesTouched$Twig;)V" } : Jvm.MethodName)) ∈ lw_tbl := lw_at lw_m9 232 rfl
theorem q2258 : (Jvm.Cond.instanceMethod ({ cls := "LinesTouched$Twig", name := "gets", desc := "(LLinesTouched$Twig;)V" } : Jvm.MethodName)) ∈ lw_all := lw_g (lw_at lw_m9 233 rfl) rfl
theorem q2259 : (Jvm.Cond.code ({ cls := "LinesTouched$Twig", name := "gets", desc := "(LLinesTouched$Twig;)V" } : Jvm.MethodName) prog_25_method_2_code (3 : Nat) (Option.none : Option Jvm.ClassFile.FieldType)) ∈ lw_all := lw_g (lw_at lw_m9 234 rfl) rfl
theorem q2260 : (Jvm.Cond.fieldLink "LinesTouched$Twig" (7 : Nat) "LinesTouched$Twig" "within" "LLinesTouched$Twig;") ∈ lw_all := lw_g (lw_at lw_m9 235 rfl) rfl
theorem q2262 : (Jvm.Cond.fieldLink "LinesTouched$Twig" (13 : Nat) "LinesTouched$Twig" "point" "LLinesTouched$Point;") ∈ lw_all := lw_g (lw_at lw_m9 237 rfl) rfl
theorem q2264 : (Jvm.Cond.fieldLink "LinesTouched$Twig" (28 : Nat) "LinesTouched$Twig" "first" "LLinesTouched$Twig;") ∈ lw_all := lw_g (lw_at lw_m9 239 rfl) rfl
theorem q2266 : (Jvm.Cond.fieldLink "LinesTouched$Twig" (25 : Nat) "LinesTouched$Twig" "last" "LLinesTouched$Twig;") ∈ lw_all := lw_g (lw_at lw_m10 1 rfl) rfl
theorem q2267 : (Jvm.Cond.fieldLink "LinesTouched$Twig" (31 : Nat) "LinesTouched$Twig" "behind" "LLinesTouched$Twig;") ∈ lw_all := lw_g (lw_at lw_m10 2 rfl) rfl
theorem q2269 : (Jvm.Cond.fieldLink "LinesTouched$Twig" (34 : Nat) "LinesTouched$Twig" "under" "I") ∈ lw_all := lw_g (lw_at lw_m10 4 rfl) rfl
theorem q2271 : (Jvm.Cond.fieldLink "LinesTouched$Twig" (21 : Nat) "LinesTouched$Twig" "lines" "I") ∈ lw_all := lw_g (lw_at lw_m10 6 rfl) rfl
theorem q2272 : (Jvm.Cond.laysFinal "LinesTouched$Twig" "LinesTouched$Twig" "within" "LLinesTouched$Twig;") ∈ lw_all := lw_g (lw_at lw_m10 7 rfl) rfl
theorem q2273 : (Jvm.Cond.soleField "LinesTouched$Twig" "within") ∈ lw_all := lw_g (lw_at lw_m10 8 rfl) rfl
theorem q2274 : (Jvm.Cond.laysFinal "LinesTouched$Twig" "LinesTouched$Twig" "point" "LLinesTouched$Point;") ∈ lw_all := lw_g (lw_at lw_m10 9 rfl) rfl
theorem q2275 : (Jvm.Cond.soleField "LinesTouched$Twig" "point") ∈ lw_all := lw_g (lw_at lw_m10 10 rfl) rfl
theorem q2276 : (Jvm.Cond.lays "LinesTouched$Twig" "LinesTouched$Twig" "first" "LLinesTouched$Twig;") ∈ lw_all := lw_g (lw_at lw_m10 11 rfl) rfl
theorem q2277 : (Jvm.Cond.soleField "LinesTouched$Twig" "first") ∈ lw_all := lw_g (lw_at lw_m10 12 rfl) rfl
theorem q2278 : (Jvm.Cond.lays "LinesTouched$Twig" "LinesTouched$Twig" "last" "LLinesTouched$Twig;") ∈ lw_all := lw_g (lw_at lw_m10 13 rfl) rfl
theorem q2279 : (Jvm.Cond.soleField "LinesTouched$Twig" "last") ∈ lw_all := lw_g (lw_at lw_m10 14 rfl) rfl
theorem q2280 : (Jvm.Cond.lays "LinesTouched$Twig" "LinesTouched$Twig" "behind" "LLinesTouched$Twig;") ∈ lw_all := lw_g (lw_at lw_m10 15 rfl) rfl
theorem q2281 : (Jvm.Cond.soleField "LinesTouched$Twig" "behind") ∈ lw_all := lw_g (lw_at lw_m10 16 rfl) rfl
theorem q2282 : (Jvm.Cond.lays "LinesTouched$Twig" "LinesTouched$Twig" "under" "I") ∈ lw_all := lw_g (lw_at lw_m10 17 rfl) rfl
theorem q2283 : (Jvm.Cond.soleField "LinesTouched$Twig" "under") ∈ lw_all := lw_g (lw_at lw_m10 18 rfl) rfl
theorem q2284 : (Jvm.Cond.lays "LinesTouched$Twig" "LinesTouched$Twig" "lines" "I") ∈ lw_all := lw_g (lw_at lw_m10 19 rfl) rfl
theorem q2285 : (Jvm.Cond.soleField "LinesTouched$Twig" "lines") ∈ lw_all := lw_g (lw_at lw_m10 20 rfl) rfl
theorem q2286 : (Jvm.Cond.superclass "LinesTouched$Twig" "java/lang/Object") ∈ lw_all := lw_g (lw_at lw_m10 21 rfl) rfl
theorem q2337 : (Jvm.Cond.instanceMethod ({ cls := "LinesTouched$Twig", name := "cost", desc := "()I" } : Jvm.MethodName)) ∈ lw_all := lw_g (lw_at lw_m10 72 rfl) rfl
theorem q2338 : (Jvm.Cond.selects "LinesTouched$Twig" ({ cls := "LinesTouched$Twig", name := "cost", desc := "()I" } : Jvm.MethodName) ({ cls := "LinesTouched$Twig", name := "cost", desc := "()I" } : Jvm.MethodName)) ∈ lw_all := lw_g (lw_at lw_m10 73 rfl) rfl
theorem q2339 : (Jvm.Cond.code ({ cls := "LinesTouched$Twig", name := "cost", desc := "()I" } : Jvm.MethodName) prog_25_method_3_code (1 : Nat) (Option.some Jvm.ClassFile.FieldType.int)) ∈ lw_all := lw_g (lw_at lw_m10 74 rfl) rfl
theorem q2340 : (Jvm.Cond.methodLink "LinesTouched$Twig" (37 : Nat) ({ cls := "LinesTouched$Point", name := "cost", desc := "(I)I" } : Jvm.MethodName)) ∈ lw_all := lw_g (lw_at lw_m10 75 rfl) rfl
theorem q3164 : (Jvm.Cond.castable "LinesTouched$Twig" "java/lang/Object") ∈ lw_tbl := lw_at lw_m13 179 rfl
theorem in_X22 : ∀ w ∈ wsX220, w ∈ lw_all := lw_in wsX220 [2272, 2274, 2276, 2278, 2280, 2282, 2284] (by decide +kernel) (by decide +kernel)
/-! LinesTouched$Tally -/
set_option maxRecDepth 100000
def RX23 : String := "LinesTouched$Tally"
def TX23 : u_T := fun k => match k with
  | 0 => ("LinesTouched$Tally", "least", "I", true)
  | _ => ("LinesTouched$Tally", "ways", "J", true)
def tyX23 : Nat → FieldType := fun k => match k with
  | 0 => .int
  | _ => .long
abbrev wsX230 : List Cond := u_ws RX23 TX23 2
theorem nmX23 : ∀ a, a < 2 → ∀ b, b < 2 → a ≠ b → (TX23 a).2.1 ≠ (TX23 b).2.1 := by decide +kernel
theorem tyX23_ok : ∀ k, k < 2 → parseFieldDescriptor (TX23 k).2.2.1 = some (tyX23 k) := by decide +kernel
abbrev cX23_init : ByteArray := prog_22_method_1_code
def yX23_init : MethodName := ⟨RX23, "<init>", "(IJ)V"⟩
def dkwX23_init_0 : List UInt8 := [42, 183, 0, 1, 42, 27, 181, 0, 7, 42, 32, 181, 0, 13, 177]
abbrev dktX23_init_0 : List UInt8 := dkwX23_init_0 ++ []
theorem dksX23_init_0 : cX23_init.data.toList.drop 0 = dktX23_init_0 := by decide +kernel
theorem dX23_init_0 : decode cX23_init 0 = .ok (.aload_n 0, 1) := dk_42 (dk_at dksX23_init_0 0 rfl rfl)
theorem dX23_init_1 : decode cX23_init 1 = .ok (.invokespecial 1, 3) := dk_183 0 1 (dk_at dksX23_init_0 1 rfl rfl)
theorem dX23_init_4 : decode cX23_init 4 = .ok (.aload_n 0, 1) := dk_42 (dk_at dksX23_init_0 4 rfl rfl)
theorem dX23_init_5 : decode cX23_init 5 = .ok (.iload_n 1, 1) := dk_27 (dk_at dksX23_init_0 5 rfl rfl)
theorem dX23_init_6 : decode cX23_init 6 = .ok (.putfield 7, 3) := dk_181 0 7 (dk_at dksX23_init_0 6 rfl rfl)
theorem dX23_init_9 : decode cX23_init 9 = .ok (.aload_n 0, 1) := dk_42 (dk_at dksX23_init_0 9 rfl rfl)
theorem dX23_init_10 : decode cX23_init 10 = .ok (.lload_n 2, 1) := dk_32 (dk_at dksX23_init_0 10 rfl rfl)
theorem dX23_init_11 : decode cX23_init 11 = .ok (.putfield 13, 3) := dk_181 0 13 (dk_at dksX23_init_0 11 rfl rfl)
theorem dX23_init_14 : decode cX23_init 14 = .ok (.return_, 1) := dk_177 (dk_at dksX23_init_0 14 rfl rfl)
abbrev cX23_and : ByteArray := prog_22_method_2_code
def yX23_and : MethodName := ⟨RX23, "and", "(LLinesTouched$Tally;)LLinesTouched$Tally;"⟩
def dkwX23_and_1 : List UInt8 := [183, 0, 17, 176]
abbrev dktX23_and_1 : List UInt8 := dkwX23_and_1 ++ []
def dkwX23_and_0 : List UInt8 := [187, 0, 8, 89, 42, 180, 0, 7, 43, 180, 0, 7, 96, 42, 180, 0, 13, 43, 180, 0, 13, 105]
abbrev dktX23_and_0 : List UInt8 := dkwX23_and_0 ++ dktX23_and_1
theorem dksX23_and_0 : cX23_and.data.toList.drop 0 = dktX23_and_0 := by decide +kernel
theorem dksX23_and_1 : cX23_and.data.toList.drop 22 = dktX23_and_1 := dk_seg dksX23_and_0 22 rfl rfl
theorem dX23_and_0 : decode cX23_and 0 = .ok (.new 8, 3) := dk_187 0 8 (dk_at dksX23_and_0 0 rfl rfl)
theorem dX23_and_3 : decode cX23_and 3 = .ok (.dup, 1) := dk_89 (dk_at dksX23_and_0 3 rfl rfl)
theorem dX23_and_4 : decode cX23_and 4 = .ok (.aload_n 0, 1) := dk_42 (dk_at dksX23_and_0 4 rfl rfl)
theorem dX23_and_5 : decode cX23_and 5 = .ok (.getfield 7, 3) := dk_180 0 7 (dk_at dksX23_and_0 5 rfl rfl)
theorem dX23_and_8 : decode cX23_and 8 = .ok (.aload_n 1, 1) := dk_43 (dk_at dksX23_and_0 8 rfl rfl)
theorem dX23_and_9 : decode cX23_and 9 = .ok (.getfield 7, 3) := dk_180 0 7 (dk_at dksX23_and_0 9 rfl rfl)
theorem dX23_and_12 : decode cX23_and 12 = .ok (.iadd, 1) := dk_96 (dk_at dksX23_and_0 12 rfl rfl)
theorem dX23_and_13 : decode cX23_and 13 = .ok (.aload_n 0, 1) := dk_42 (dk_at dksX23_and_0 13 rfl rfl)
theorem dX23_and_14 : decode cX23_and 14 = .ok (.getfield 13, 3) := dk_180 0 13 (dk_at dksX23_and_0 14 rfl rfl)
theorem dX23_and_17 : decode cX23_and 17 = .ok (.aload_n 1, 1) := dk_43 (dk_at dksX23_and_0 17 rfl rfl)
theorem dX23_and_18 : decode cX23_and 18 = .ok (.getfield 13, 3) := dk_180 0 13 (dk_at dksX23_and_0 18 rfl rfl)
theorem dX23_and_21 : decode cX23_and 21 = .ok (.lmul, 1) := dk_105 (dk_at dksX23_and_0 21 rfl rfl)
theorem dX23_and_22 : decode cX23_and 22 = .ok (.invokespecial 17, 3) := dk_183 0 17 (dk_at dksX23_and_1 0 rfl rfl)
theorem dX23_and_25 : decode cX23_and 25 = .ok (.areturn, 1) := dk_176 (dk_at dksX23_and_1 3 rfl rfl)
abbrev cX23_or : ByteArray := prog_22_method_3_code
def yX23_or : MethodName := ⟨RX23, "or", "(LLinesTouched$Tally;)LLinesTouched$Tally;"⟩
def dkwX23_or_2 : List UInt8 := [183, 0, 17, 176]
abbrev dktX23_or_2 : List UInt8 := dkwX23_or_2 ++ []
def dkwX23_or_1 : List UInt8 := [162, 0, 7, 43, 167, 0, 23, 187, 0, 8, 89, 42, 180, 0, 7, 42, 180, 0, 13, 43, 180, 0, 13, 97]
abbrev dktX23_or_1 : List UInt8 := dkwX23_or_1 ++ dktX23_or_2
def dkwX23_or_0 : List UInt8 := [42, 180, 0, 7, 43, 180, 0, 7, 162, 0, 7, 42, 167, 0, 38, 43, 180, 0, 7, 42, 180, 0, 7]
abbrev dktX23_or_0 : List UInt8 := dkwX23_or_0 ++ dktX23_or_1
theorem dksX23_or_0 : cX23_or.data.toList.drop 0 = dktX23_or_0 := by decide +kernel
theorem dksX23_or_1 : cX23_or.data.toList.drop 23 = dktX23_or_1 := dk_seg dksX23_or_0 23 rfl rfl
theorem dksX23_or_2 : cX23_or.data.toList.drop 47 = dktX23_or_2 := dk_seg dksX23_or_1 24 rfl rfl
theorem dX23_or_0 : decode cX23_or 0 = .ok (.aload_n 0, 1) := dk_42 (dk_at dksX23_or_0 0 rfl rfl)
theorem dX23_or_1 : decode cX23_or 1 = .ok (.getfield 7, 3) := dk_180 0 7 (dk_at dksX23_or_0 1 rfl rfl)
theorem dX23_or_4 : decode cX23_or 4 = .ok (.aload_n 1, 1) := dk_43 (dk_at dksX23_or_0 4 rfl rfl)
theorem dX23_or_5 : decode cX23_or 5 = .ok (.getfield 7, 3) := dk_180 0 7 (dk_at dksX23_or_0 5 rfl rfl)
theorem dX23_or_8 : decode cX23_or 8 = .ok (.if_icmp .ge 7, 3) := dk_162 0 7 (dk_at dksX23_or_0 8 rfl rfl)
theorem dX23_or_11 : decode cX23_or 11 = .ok (.aload_n 0, 1) := dk_42 (dk_at dksX23_or_0 11 rfl rfl)
theorem dX23_or_12 : decode cX23_or 12 = .ok (.goto 38, 3) := dk_167 0 38 (dk_at dksX23_or_0 12 rfl rfl)
theorem dX23_or_15 : decode cX23_or 15 = .ok (.aload_n 1, 1) := dk_43 (dk_at dksX23_or_0 15 rfl rfl)
theorem dX23_or_16 : decode cX23_or 16 = .ok (.getfield 7, 3) := dk_180 0 7 (dk_at dksX23_or_0 16 rfl rfl)
theorem dX23_or_19 : decode cX23_or 19 = .ok (.aload_n 0, 1) := dk_42 (dk_at dksX23_or_0 19 rfl rfl)
theorem dX23_or_20 : decode cX23_or 20 = .ok (.getfield 7, 3) := dk_180 0 7 (dk_at dksX23_or_0 20 rfl rfl)
theorem dX23_or_23 : decode cX23_or 23 = .ok (.if_icmp .ge 7, 3) := dk_162 0 7 (dk_at dksX23_or_1 0 rfl rfl)
theorem dX23_or_26 : decode cX23_or 26 = .ok (.aload_n 1, 1) := dk_43 (dk_at dksX23_or_1 3 rfl rfl)
theorem dX23_or_27 : decode cX23_or 27 = .ok (.goto 23, 3) := dk_167 0 23 (dk_at dksX23_or_1 4 rfl rfl)
theorem dX23_or_30 : decode cX23_or 30 = .ok (.new 8, 3) := dk_187 0 8 (dk_at dksX23_or_1 7 rfl rfl)
theorem dX23_or_33 : decode cX23_or 33 = .ok (.dup, 1) := dk_89 (dk_at dksX23_or_1 10 rfl rfl)
theorem dX23_or_34 : decode cX23_or 34 = .ok (.aload_n 0, 1) := dk_42 (dk_at dksX23_or_1 11 rfl rfl)
theorem dX23_or_35 : decode cX23_or 35 = .ok (.getfield 7, 3) := dk_180 0 7 (dk_at dksX23_or_1 12 rfl rfl)
theorem dX23_or_38 : decode cX23_or 38 = .ok (.aload_n 0, 1) := dk_42 (dk_at dksX23_or_1 15 rfl rfl)
theorem dX23_or_39 : decode cX23_or 39 = .ok (.getfield 13, 3) := dk_180 0 13 (dk_at dksX23_or_1 16 rfl rfl)
theorem dX23_or_42 : decode cX23_or 42 = .ok (.aload_n 1, 1) := dk_43 (dk_at dksX23_or_1 19 rfl rfl)
theorem dX23_or_43 : decode cX23_or 43 = .ok (.getfield 13, 3) := dk_180 0 13 (dk_at dksX23_or_1 20 rfl rfl)
theorem dX23_or_46 : decode cX23_or 46 = .ok (.ladd, 1) := dk_97 (dk_at dksX23_or_1 23 rfl rfl)
theorem dX23_or_47 : decode cX23_or 47 = .ok (.invokespecial 17, 3) := dk_183 0 17 (dk_at dksX23_or_2 0 rfl rfl)
theorem dX23_or_50 : decode cX23_or 50 = .ok (.areturn, 1) := dk_176 (dk_at dksX23_or_2 3 rfl rfl)
theorem q163 : (Jvm.Cond.initialized "LinesTouched$Tally") ∈ lw_all := lw_g (lw_at lw_m1 58 rfl) rfl
theorem q907 : (Jvm.Cond.selects "LinesTouched$Tally" ({ cls := "java/lang/Object", name := "hashCode", desc := "()I" } : Jvm.MethodName) ({ cls := "java/lang/Object", name := "hashCode", desc := "()I" } : Jvm.MethodName)) ∈ lw_all := lw_g (lw_at lw_m4 82 rfl) rfl
theorem q1118 : (Jvm.Cond.selects "LinesTouched$Tally" ({ cls := "java/lang/Object", name := "getClass", desc := "()Ljava/lang/Class;" } : Jvm.MethodName) ({ cls := "java/lang/Object", name := "getClass", desc := "()Ljava/lang/Class;" } : Jvm.MethodName)) ∈ lw_all := lw_g (lw_at lw_m5 53 rfl) rfl
theorem q1367 : (Jvm.Cond.selects "LinesTouched$Tally" ({ cls := "java/lang/Object", name := "equals", desc := "(Ljava/lang/Object;)Z" } : Jvm.MethodName) ({ cls := "java/lang/Object", name := "equals", desc := "(Ljava/lang/Object;)Z" } : Jvm.MethodName)) ∈ lw_all := lw_g (lw_at lw_m6 62 rfl) rfl
theorem q2301 : (Jvm.Cond.instantiable "LinesTouched$Tally" (2 : Nat)) ∈ lw_all := lw_g (lw_at lw_m10 36 rfl) rfl
theorem q2303 : (Jvm.Cond.instanceMethod ({ cls := "LinesTouched$Tally", name := "<init>", desc := "(IJ)V" } : Jvm.MethodName)) ∈ lw_all := lw_g (lw_at lw_m10 38 rfl) rfl
theorem q2304 : (Jvm.Cond.code ({ cls := "LinesTouched$Tally", name := "<init>", desc := "(IJ)V" } : Jvm.MethodName) prog_22_method_1_code (4 : Nat) (Option.none : Option Jvm.ClassFile.FieldType)) ∈ lw_all := lw_g (lw_at lw_m10 39 rfl) rfl
theorem q2305 : (Jvm.Cond.methodLink "LinesTouched$Tally" (1 : Nat) ({ cls := "java/lang/Object", name := "<init>", desc := "()V" } : Jvm.MethodName)) ∈ lw_all := lw_g (lw_at lw_m10 40 rfl) rfl
theorem q2306 : (Jvm.Cond.fieldLink "LinesTouched$Tally" (7 : Nat) "LinesTouched$Tally" "least" "I") ∈ lw_all := lw_g (lw_at lw_m10 41 rfl) rfl
theorem q2308 : (Jvm.Cond.fieldLink "LinesTouched$Tally" (13 : Nat) "LinesTouched$Tally" "ways" "J") ∈ lw_all := lw_g (lw_at lw_m10 43 rfl) rfl
theorem q2310 : (Jvm.Cond.laysFinal "LinesTouched$Tally" "LinesTouched$Tally" "least" "I") ∈ lw_all := lw_g (lw_at lw_m10 45 rfl) rfl
theorem q2311 : (Jvm.Cond.soleField "LinesTouched$Tally" "least") ∈ lw_all := lw_g (lw_at lw_m10 46 rfl) rfl
theorem q2312 : (Jvm.Cond.laysFinal "LinesTouched$Tally" "LinesTouched$Tally" "ways" "J") ∈ lw_all := lw_g (lw_at lw_m10 47 rfl) rfl
theorem q2313 : (Jvm.Cond.soleField "LinesTouched$Tally" "ways") ∈ lw_all := lw_g (lw_at lw_m10 48 rfl) rfl
theorem q2314 : (Jvm.Cond.superclass "LinesTouched$Tally" "java/lang/Object") ∈ lw_all := lw_g (lw_at lw_m10 49 rfl) rfl
theorem q2320 : (Jvm.Cond.instanceMethod ({ cls := "LinesTouched$Tally", name := "and", desc := "(LLinesTouched$Tally;)LLinesTouched$Tally;" } : Jvm.MethodName)) ∈ lw_all := lw_g (lw_at lw_m10 55 rfl) rfl
theorem q2321 : (Jvm.Cond.selects "LinesTouched$Tally" ({ cls := "LinesTouched$Tally", name := "and", desc := "(LLinesTouched$Tally;)LLinesTouched$Tally;" } : Jvm.MethodName) ({ cls := "LinesTouched$Tally", name := "and", desc := "(LLinesTouched$Tally;)LLinesTouched$Tally;" } : Jvm.MethodName)) ∈ lw_all := lw_g (lw_at lw_m10 56 rfl) rfl
theorem q2322 : (Jvm.Cond.code ({ cls := "LinesTouched$Tally", name := "and", desc := "(LLinesTouched$Tally;)LLinesTouched$Tally;" } : Jvm.MethodName) prog_22_method_2_code (2 : Nat) (Option.some (Jvm.ClassFile.FieldType.object "LinesTouched$Tally"))) ∈ lw_all := lw_g (lw_at lw_m10 57 rfl) rfl
theorem q2323 : (Jvm.Cond.classLink "LinesTouched$Tally" (8 : Nat) "LinesTouched$Tally") ∈ lw_all := lw_g (lw_at lw_m10 58 rfl) rfl
theorem q2324 : (Jvm.Cond.methodLink "LinesTouched$Tally" (17 : Nat) ({ cls := "LinesTouched$Tally", name := "<init>", desc := "(IJ)V" } : Jvm.MethodName)) ∈ lw_all := lw_g (lw_at lw_m10 59 rfl) rfl
theorem q2326 : (Jvm.Cond.instanceMethod ({ cls := "LinesTouched$Tally", name := "or", desc := "(LLinesTouched$Tally;)LLinesTouched$Tally;" } : Jvm.MethodName)) ∈ lw_all := lw_g (lw_at lw_m10 61 rfl) rfl
theorem q2327 : (Jvm.Cond.selects "LinesTouched$Tally" ({ cls := "LinesTouched$Tally", name := "or", desc := "(LLinesTouched$Tally;)LLinesTouched$Tally;" } : Jvm.MethodName) ({ cls := "LinesTouched$Tally", name := "or", desc := "(LLinesTouched$Tally;)LLinesTouched$Tally;" } : Jvm.MethodName)) ∈ lw_all := lw_g (lw_at lw_m10 62 rfl) rfl
theorem q2328 : (Jvm.Cond.code ({ cls := "LinesTouched$Tally", name := "or", desc := "(LLinesTouched$Tally;)LLinesTouched$Tally;" } : Jvm.MethodName) prog_22_method_3_code (2 : Nat) (Option.some (Jvm.ClassFile.FieldType.object "LinesTouched$Tally"))) ∈ lw_all := lw_g (lw_at lw_m10 63 rfl) rfl
theorem q3165 : (Jvm.Cond.castable "LinesTouched$Tally" "java/lang/Object") ∈ lw_tbl := lw_at lw_m13 180 rfl
theorem in_X23 : ∀ w ∈ wsX230, w ∈ lw_all := lw_in wsX230 [2310, 2312] (by decide +kernel) (by decide +kernel)
/-! LinesTouched$Ticket -/
set_option maxRecDepth 100000
def RX24 : String := "LinesTouched$Ticket"
def TX24 : u_T := fun k => match k with
  | _ => ("LinesTouched$Ticket", "number", "I", true)
def tyX24 : Nat → FieldType := fun k => match k with
  | _ => .int
abbrev wsX240 : List Cond := u_ws RX24 TX24 1
theorem nmX24 : ∀ a, a < 1 → ∀ b, b < 1 → a ≠ b → (TX24 a).2.1 ≠ (TX24 b).2.1 := by decide +kernel
theorem tyX24_ok : ∀ k, k < 1 → parseFieldDescriptor (TX24 k).2.2.1 = some (tyX24 k) := by decide +kernel
abbrev cX24_init : ByteArray := prog_23_method_1_code
def yX24_init : MethodName := ⟨RX24, "<init>", "(I)V"⟩
def dkwX24_init_0 : List UInt8 := [42, 183, 0, 1, 42, 27, 181, 0, 7, 177]
abbrev dktX24_init_0 : List UInt8 := dkwX24_init_0 ++ []
theorem dksX24_init_0 : cX24_init.data.toList.drop 0 = dktX24_init_0 := by decide +kernel
theorem dX24_init_0 : decode cX24_init 0 = .ok (.aload_n 0, 1) := dk_42 (dk_at dksX24_init_0 0 rfl rfl)
theorem dX24_init_1 : decode cX24_init 1 = .ok (.invokespecial 1, 3) := dk_183 0 1 (dk_at dksX24_init_0 1 rfl rfl)
theorem dX24_init_4 : decode cX24_init 4 = .ok (.aload_n 0, 1) := dk_42 (dk_at dksX24_init_0 4 rfl rfl)
theorem dX24_init_5 : decode cX24_init 5 = .ok (.iload_n 1, 1) := dk_27 (dk_at dksX24_init_0 5 rfl rfl)
theorem dX24_init_6 : decode cX24_init 6 = .ok (.putfield 7, 3) := dk_181 0 7 (dk_at dksX24_init_0 6 rfl rfl)
theorem dX24_init_9 : decode cX24_init 9 = .ok (.return_, 1) := dk_177 (dk_at dksX24_init_0 9 rfl rfl)
theorem q167 : (Jvm.Cond.initialized "LinesTouched$Ticket") ∈ lw_all := lw_g (lw_at lw_m1 62 rfl) rfl
theorem q908 : (Jvm.Cond.selects "LinesTouched$Ticket" ({ cls := "java/lang/Object", name := "hashCode", desc := "()I" } : Jvm.MethodName) ({ cls := "java/lang/Object", name := "hashCode", desc := "()I" } : Jvm.MethodName)) ∈ lw_all := lw_g (lw_at lw_m4 83 rfl) rfl
theorem q1119 : (Jvm.Cond.selects "LinesTouched$Ticket" ({ cls := "java/lang/Object", name := "getClass", desc := "()Ljava/lang/Class;" } : Jvm.MethodName) ({ cls := "java/lang/Object", name := "getClass", desc := "()Ljava/lang/Class;" } : Jvm.MethodName)) ∈ lw_all := lw_g (lw_at lw_m5 54 rfl) rfl
theorem q1368 : (Jvm.Cond.selects "LinesTouched$Ticket" ({ cls := "java/lang/Object", name := "equals", desc := "(Ljava/lang/Object;)Z" } : Jvm.MethodName) ({ cls := "java/lang/Object", name := "equals", desc := "(Ljava/lang/Object;)Z" } : Jvm.MethodName)) ∈ lw_all := lw_g (lw_at lw_m6 63 rfl) rfl
theorem q2474 : (Jvm.Cond.instantiable "LinesTouched$Ticket" (1 : Nat)) ∈ lw_all := lw_g (lw_at lw_m10 209 rfl) rfl
theorem q2476 : (Jvm.Cond.instanceMethod ({ cls := "LinesTouched$Ticket", name := "<init>", desc := "(I)V" } : Jvm.MethodName)) ∈ lw_all := lw_g (lw_at lw_m10 211 rfl) rfl
theorem q2477 : (Jvm.Cond.code ({ cls := "LinesTouched$Ticket", name := "<init>", desc := "(I)V" } : Jvm.MethodName) prog_23_method_1_code (2 : Nat) (Option.none : Option Jvm.ClassFile.FieldType)) ∈ lw_all := lw_g (lw_at lw_m10 212 rfl) rfl
theorem q2478 : (Jvm.Cond.methodLink "LinesTouched$Ticket" (1 : Nat) ({ cls := "java/lang/Object", name := "<init>", desc := "()V" } : Jvm.MethodName)) ∈ lw_all := lw_g (lw_at lw_m10 213 rfl) rfl
theorem q2479 : (Jvm.Cond.fieldLink "LinesTouched$Ticket" (7 : Nat) "LinesTouched$Ticket" "number" "I") ∈ lw_all := lw_g (lw_at lw_m10 214 rfl) rfl
theorem q2481 : (Jvm.Cond.laysFinal "LinesTouched$Ticket" "LinesTouched$Ticket" "number" "I") ∈ lw_all := lw_g (lw_at lw_m10 216 rfl) rfl
theorem q2482 : (Jvm.Cond.soleField "LinesTouched$Ticket" "number") ∈ lw_all := lw_g (lw_at lw_m10 217 rfl) rfl
theorem q2483 : (Jvm.Cond.superclass "LinesTouched$Ticket" "java/lang/Object") ∈ lw_all := lw_g (lw_at lw_m10 218 rfl) rfl
theorem q3168 : (Jvm.Cond.castable "LinesTouched$Ticket" "java/lang/Object") ∈ lw_tbl := lw_at lw_m13 183 rfl
theorem in_X24 : ∀ w ∈ wsX240, w ∈ lw_all := lw_in wsX240 [2481] (by decide +kernel) (by decide +kernel)
/-! LinesTouched$Costs -/
set_option maxRecDepth 100000
def RX25 : String := "LinesTouched$Costs"
abbrev cX25_halved : ByteArray := prog_4_method_2_code
def yX25_halved : MethodName := ⟨RX25, "halved", "(I)I"⟩
def dkwX25_halved_0 : List UInt8 := [27, 5, 108, 172]
abbrev dktX25_halved_0 : List UInt8 := dkwX25_halved_0 ++ []
theorem dksX25_halved_0 : cX25_halved.data.toList.drop 0 = dktX25_halved_0 := by decide +kernel
theorem dX25_halved_0 : decode cX25_halved 0 = .ok (.iload_n 1, 1) := dk_27 (dk_at dksX25_halved_0 0 rfl rfl)
theorem dX25_halved_1 : decode cX25_halved 1 = .ok (.iconst 2, 1) := dk_5 (dk_at dksX25_halved_0 1 rfl rfl)
theorem dX25_halved_2 : decode cX25_halved 2 = .ok (.idiv, 1) := dk_108 (dk_at dksX25_halved_0 2 rfl rfl)
theorem dX25_halved_3 : decode cX25_halved 3 = .ok (.ireturn, 1) := dk_172 (dk_at dksX25_halved_0 3 rfl rfl)
theorem q632 : (Jvm.Cond.declares ({ cls := "LinesTouched$Costs", name := "halved", desc := "(I)I" } : Jvm.MethodName)) ∈ lw_tbl := lw_at lw_m3 47 rfl
theorem q634 : (Jvm.Cond.instanceMethod ({ cls := "LinesTouched$Costs", name := "halved", desc := "(I)I" } : Jvm.MethodName)) ∈ lw_all := lw_g (lw_at lw_m3 49 rfl) rfl
theorem q635 : (Jvm.Cond.publicMethod ({ cls := "LinesTouched$Costs", name := "halved", desc := "(I)I" } : Jvm.MethodName)) ∈ lw_tbl := lw_at lw_m3 50 rfl
theorem q636 : (Jvm.Cond.code ({ cls := "LinesTouched$Costs", name := "halved", desc := "(I)I" } : Jvm.MethodName) prog_4_method_2_code (2 : Nat) (Option.some Jvm.ClassFile.FieldType.int)) ∈ lw_all := lw_g (lw_at lw_m3 51 rfl) rfl
theorem q3115 : (Jvm.Cond.initialized "LinesTouched$Costs") ∈ lw_all := lw_g (lw_at lw_m13 130 rfl) rfl
