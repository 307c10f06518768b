/-! LinesTouchedModel -/
set_option maxRecDepth 100000
def RX4 : String := "LinesTouchedModel"
def TX4 : u_T := fun k => match k with
  | 0 => ("LinesTouchedModel", "many", "I", false)
  | 1 => ("LinesTouchedModel", "z", "I", false)
  | 2 => ("LinesTouchedModel", "kind", "[I", true)
  | 3 => ("LinesTouchedModel", "weight", "[I", true)
  | 4 => ("LinesTouchedModel", "next", "[I", true)
  | 5 => ("LinesTouchedModel", "mateOf", "[I", true)
  | 6 => ("LinesTouchedModel", "seen", "I", false)
  | 7 => ("LinesTouchedModel", "half", "[I", true)
  | 8 => ("LinesTouchedModel", "partner", "[I", true)
  | 9 => ("LinesTouchedModel", "kernelLeft", "I", false)
  | 10 => ("LinesTouchedModel", "kernelTaken", "I", false)
  | 11 => ("LinesTouchedModel", "kernelK", "I", false)
  | 12 => ("LinesTouchedModel", "rounds", "I", false)
  | 13 => ("LinesTouchedModel", "roundRow", "[I", true)
  | 14 => ("LinesTouchedModel", "worths", "[I", true)
  | 15 => ("LinesTouchedModel", "fewest", "[I", true)
  | 16 => ("LinesTouchedModel", "nodeMany", "I", false)
  | 17 => ("LinesTouchedModel", "refused", "I", false)
  | 18 => ("LinesTouchedModel", "deepest", "I", false)
  | 19 => ("LinesTouchedModel", "wanted", "I", false)
  | 20 => ("LinesTouchedModel", "nodeRow", "[I", true)
  | 21 => ("LinesTouchedModel", "branches", "[I", true)
  | 22 => ("LinesTouchedModel", "readTo", "I", false)
  | 23 => ("LinesTouchedModel", "purse", "[I", true)
  | 24 => ("LinesTouchedModel", "tape", "[I", true)
  | 25 => ("LinesTouchedModel", "taped", "I", false)
  | 26 => ("LinesTouchedModel", "treeMany", "I", false)
  | 27 => ("LinesTouchedModel", "treeKind", "[I", true)
  | 28 => ("LinesTouchedModel", "treeWeight", "[I", true)
  | 29 => ("LinesTouchedModel", "treeIn", "[I", true)
  | 30 => ("LinesTouchedModel", "readMany", "I", false)
  | 31 => ("LinesTouchedModel", "readKind", "[I", true)
  | 32 => ("LinesTouchedModel", "readWeight", "[I", true)
  | 33 => ("LinesTouchedModel", "readIn", "[I", true)
  | 34 => ("LinesTouchedModel", "with", "[J", true)
  | 35 => ("LinesTouchedModel", "without", "[J", true)
  | 36 => ("LinesTouchedModel", "withWays", "[J", true)
  | 37 => ("LinesTouchedModel", "withoutWays", "[J", true)
  | 38 => ("LinesTouchedModel", "lacks", "[J", true)
  | 39 => ("LinesTouchedModel", "marks", "[Z", true)
  | 40 => ("LinesTouchedModel", "aside", "[I", true)
  | 41 => ("LinesTouchedModel", "imageRow", "[I", true)
  | 42 => ("LinesTouchedModel", "hasImage", "Z", false)
  | 43 => ("LinesTouchedModel", "sort", "[I", true)
  | 44 => ("LinesTouchedModel", "size", "[I", true)
  | 45 => ("LinesTouchedModel", "items", "[I", true)
  | 46 => ("LinesTouchedModel", "heldWhat", "[I", true)
  | 47 => ("LinesTouchedModel", "heldPoint", "[I", true)
  | 48 => ("LinesTouchedModel", "heldSort", "[I", true)
  | _ => ("LinesTouchedModel", "heldSize", "[I", true)
def tyX4 : Nat → FieldType := fun k => match k with
  | 0 => .int
  | 1 => .int
  | 2 => .array .int
  | 3 => .array .int
  | 4 => .array .int
  | 5 => .array .int
  | 6 => .int
  | 7 => .array .int
  | 8 => .array .int
  | 9 => .int
  | 10 => .int
  | 11 => .int
  | 12 => .int
  | 13 => .array .int
  | 14 => .array .int
  | 15 => .array .int
  | 16 => .int
  | 17 => .int
  | 18 => .int
  | 19 => .int
  | 20 => .array .int
  | 21 => .array .int
  | 22 => .int
  | 23 => .array .int
  | 24 => .array .int
  | 25 => .int
  | 26 => .int
  | 27 => .array .int
  | 28 => .array .int
  | 29 => .array .int
  | 30 => .int
  | 31 => .array .int
  | 32 => .array .int
  | 33 => .array .int
  | 34 => .array .long
  | 35 => .array .long
  | 36 => .array .long
  | 37 => .array .long
  | 38 => .array .long
  | 39 => .array .boolean
  | 40 => .array .int
  | 41 => .array .int
  | 42 => .boolean
  | 43 => .array .int
  | 44 => .array .int
  | 45 => .array .int
  | 46 => .array .int
  | 47 => .array .int
  | 48 => .array .int
  | _ => .array .int
abbrev wsX40 : List Cond := u_ws RX4 TX4 50
set_option maxRecDepth 100000 in
theorem nmX4 : ∀ a, a < 50 → ∀ b, b < 50 → a ≠ b → (TX4 a).2.1 ≠ (TX4 b).2.1 := by decide +kernel
set_option maxRecDepth 100000 in
theorem tyX4_ok : ∀ k, k < 50 → parseFieldDescriptor (TX4 k).2.2.1 = some (tyX4 k) := by decide +kernel
abbrev cX4_init : ByteArray := prog_32_method_1_code
def yX4_init : MethodName := ⟨RX4, "<init>", "()V"⟩
def dkwX4_init_13 : List UInt8 := [181, 0, 115, 177]
abbrev dktX4_init_13 : List UInt8 := dkwX4_init_13 ++ []
def dkwX4_init_12 : List UInt8 := [79, 181, 0, 106, 42, 7, 188, 10, 181, 0, 109, 42, 7, 188, 10, 181, 0, 112, 42, 7, 188, 10]
abbrev dktX4_init_12 : List UInt8 := dkwX4_init_12 ++ dktX4_init_13
def dkwX4_init_11 : List UInt8 := [188, 10, 181, 0, 103, 42, 7, 188, 10, 89, 3, 5, 79, 89, 4, 5, 79, 89, 5, 5, 79, 89, 6, 5]
abbrev dktX4_init_11 : List UInt8 := dkwX4_init_11 ++ dktX4_init_12
def dkwX4_init_10 : List UInt8 := [79, 89, 5, 2, 79, 89, 6, 2, 79, 181, 0, 97, 42, 7, 188, 10, 181, 0, 100, 42, 17, 0, 240]
abbrev dktX4_init_10 : List UInt8 := dkwX4_init_10 ++ dktX4_init_11
def dkwX4_init_9 : List UInt8 := [188, 10, 181, 0, 91, 42, 16, 38, 188, 10, 181, 0, 94, 42, 7, 188, 10, 89, 3, 2, 79, 89, 4, 2]
abbrev dktX4_init_9 : List UInt8 := dkwX4_init_9 ++ dktX4_init_10
def dkwX4_init_8 : List UInt8 := [188, 11, 181, 0, 81, 42, 16, 60, 188, 11, 181, 0, 84, 42, 16, 60, 188, 4, 181, 0, 87, 42, 16, 38]
abbrev dktX4_init_8 : List UInt8 := dkwX4_init_8 ++ dktX4_init_9
def dkwX4_init_7 : List UInt8 := [188, 11, 181, 0, 71, 42, 16, 60, 188, 11, 181, 0, 75, 42, 16, 60, 188, 11, 181, 0, 78, 42, 16, 60]
abbrev dktX4_init_7 : List UInt8 := dkwX4_init_7 ++ dktX4_init_8
def dkwX4_init_6 : List UInt8 := [188, 10, 181, 0, 62, 42, 16, 60, 188, 10, 181, 0, 65, 42, 16, 60, 188, 10, 181, 0, 68, 42, 16, 60]
abbrev dktX4_init_6 : List UInt8 := dkwX4_init_6 ++ dktX4_init_7
def dkwX4_init_5 : List UInt8 := [188, 10, 181, 0, 53, 42, 16, 60, 188, 10, 181, 0, 56, 42, 16, 60, 188, 10, 181, 0, 59, 42, 16, 60]
abbrev dktX4_init_5 : List UInt8 := dkwX4_init_5 ++ dktX4_init_6
def dkwX4_init_4 : List UInt8 := [181, 0, 44, 42, 16, 12, 188, 10, 181, 0, 47, 42, 17, 0, 200, 188, 10, 181, 0, 50, 42, 16, 60]
abbrev dktX4_init_4 : List UInt8 := dkwX4_init_4 ++ dktX4_init_5
def dkwX4_init_3 : List UInt8 := [181, 0, 35, 42, 17, 16, 0, 188, 10, 181, 0, 38, 42, 8, 188, 10, 181, 0, 41, 42, 16, 60, 188, 10]
abbrev dktX4_init_3 : List UInt8 := dkwX4_init_3 ++ dktX4_init_4
def dkwX4_init_2 : List UInt8 := [181, 0, 26, 42, 16, 12, 188, 10, 181, 0, 29, 42, 6, 188, 10, 181, 0, 32, 42, 17, 16, 0, 188, 10]
abbrev dktX4_init_2 : List UInt8 := dkwX4_init_2 ++ dktX4_init_3
def dkwX4_init_1 : List UInt8 := [181, 0, 17, 42, 16, 12, 188, 10, 181, 0, 20, 42, 16, 12, 188, 10, 181, 0, 23, 42, 16, 12, 188, 10]
abbrev dktX4_init_1 : List UInt8 := dkwX4_init_1 ++ dktX4_init_2
def dkwX4_init_0 : List UInt8 := [42, 183, 0, 1, 42, 4, 181, 0, 7, 42, 16, 12, 188, 10, 181, 0, 13, 42, 16, 12, 188, 10]
abbrev dktX4_init_0 : List UInt8 := dkwX4_init_0 ++ dktX4_init_1
theorem dksX4_init_0 : cX4_init.data.toList.drop 0 = dktX4_init_0 := by decide +kernel
theorem dksX4_init_1 : cX4_init.data.toList.drop 22 = dktX4_init_1 := dk_seg dksX4_init_0 22 rfl rfl
theorem dksX4_init_2 : cX4_init.data.toList.drop 46 = dktX4_init_2 := dk_seg dksX4_init_1 24 rfl rfl
theorem dksX4_init_3 : cX4_init.data.toList.drop 70 = dktX4_init_3 := dk_seg dksX4_init_2 24 rfl rfl
theorem dksX4_init_4 : cX4_init.data.toList.drop 94 = dktX4_init_4 := dk_seg dksX4_init_3 24 rfl rfl
theorem dksX4_init_5 : cX4_init.data.toList.drop 117 = dktX4_init_5 := dk_seg dksX4_init_4 23 rfl rfl
theorem dksX4_init_6 : cX4_init.data.toList.drop 141 = dktX4_init_6 := dk_seg dksX4_init_5 24 rfl rfl
theorem dksX4_init_7 : cX4_init.data.toList.drop 165 = dktX4_init_7 := dk_seg dksX4_init_6 24 rfl rfl
theorem dksX4_init_8 : cX4_init.data.toList.drop 189 = dktX4_init_8 := dk_seg dksX4_init_7 24 rfl rfl
theorem dksX4_init_9 : cX4_init.data.toList.drop 213 = dktX4_init_9 := dk_seg dksX4_init_8 24 rfl rfl
theorem dksX4_init_10 : cX4_init.data.toList.drop 237 = dktX4_init_10 := dk_seg dksX4_init_9 24 rfl rfl
theorem dksX4_init_11 : cX4_init.data.toList.drop 260 = dktX4_init_11 := dk_seg dksX4_init_10 23 rfl rfl
theorem dksX4_init_12 : cX4_init.data.toList.drop 284 = dktX4_init_12 := dk_seg dksX4_init_11 24 rfl rfl
theorem dksX4_init_13 : cX4_init.data.toList.drop 306 = dktX4_init_13 := dk_seg dksX4_init_12 22 rfl rfl
theorem dX4_init_0 : decode cX4_init 0 = .ok (.aload_n 0, 1) := dk_42 (dk_at dksX4_init_0 0 rfl rfl)
theorem dX4_init_1 : decode cX4_init 1 = .ok (.invokespecial 1, 3) := dk_183 0 1 (dk_at dksX4_init_0 1 rfl rfl)
theorem dX4_init_4 : decode cX4_init 4 = .ok (.aload_n 0, 1) := dk_42 (dk_at dksX4_init_0 4 rfl rfl)
theorem dX4_init_5 : decode cX4_init 5 = .ok (.iconst 1, 1) := dk_4 (dk_at dksX4_init_0 5 rfl rfl)
theorem dX4_init_6 : decode cX4_init 6 = .ok (.putfield 7, 3) := dk_181 0 7 (dk_at dksX4_init_0 6 rfl rfl)
theorem dX4_init_9 : decode cX4_init 9 = .ok (.aload_n 0, 1) := dk_42 (dk_at dksX4_init_0 9 rfl rfl)
theorem dX4_init_10 : decode cX4_init 10 = .ok (.bipush 12, 2) := dk_16 12 (dk_at dksX4_init_0 10 rfl rfl)
theorem dX4_init_12 : decode cX4_init 12 = .ok (.newarray .int, 2) := dk_188_10 (dk_at dksX4_init_0 12 rfl rfl)
theorem dX4_init_14 : decode cX4_init 14 = .ok (.putfield 13, 3) := dk_181 0 13 (dk_at dksX4_init_0 14 rfl rfl)
theorem dX4_init_17 : decode cX4_init 17 = .ok (.aload_n 0, 1) := dk_42 (dk_at dksX4_init_0 17 rfl rfl)
theorem dX4_init_18 : decode cX4_init 18 = .ok (.bipush 12, 2) := dk_16 12 (dk_at dksX4_init_0 18 rfl rfl)
theorem dX4_init_20 : decode cX4_init 20 = .ok (.newarray .int, 2) := dk_188_10 (dk_at dksX4_init_0 20 rfl rfl)
theorem dX4_init_22 : decode cX4_init 22 = .ok (.putfield 17, 3) := dk_181 0 17 (dk_at dksX4_init_1 0 rfl rfl)
theorem dX4_init_25 : decode cX4_init 25 = .ok (.aload_n 0, 1) := dk_42 (dk_at dksX4_init_1 3 rfl rfl)
theorem dX4_init_26 : decode cX4_init 26 = .ok (.bipush 12, 2) := dk_16 12 (dk_at dksX4_init_1 4 rfl rfl)
theorem dX4_init_28 : decode cX4_init 28 = .ok (.newarray .int, 2) := dk_188_10 (dk_at dksX4_init_1 6 rfl rfl)
theorem dX4_init_30 : decode cX4_init 30 = .ok (.putfield 20, 3) := dk_181 0 20 (dk_at dksX4_init_1 8 rfl rfl)
theorem dX4_init_33 : decode cX4_init 33 = .ok (.aload_n 0, 1) := dk_42 (dk_at dksX4_init_1 11 rfl rfl)
theorem dX4_init_34 : decode cX4_init 34 = .ok (.bipush 12, 2) := dk_16 12 (dk_at dksX4_init_1 12 rfl rfl)
theorem dX4_init_36 : decode cX4_init 36 = .ok (.newarray .int, 2) := dk_188_10 (dk_at dksX4_init_1 14 rfl rfl)
theorem dX4_init_38 : decode cX4_init 38 = .ok (.putfield 23, 3) := dk_181 0 23 (dk_at dksX4_init_1 16 rfl rfl)
theorem dX4_init_41 : decode cX4_init 41 = .ok (.aload_n 0, 1) := dk_42 (dk_at dksX4_init_1 19 rfl rfl)
theorem dX4_init_42 : decode cX4_init 42 = .ok (.bipush 12, 2) := dk_16 12 (dk_at dksX4_init_1 20 rfl rfl)
theorem dX4_init_44 : decode cX4_init 44 = .ok (.newarray .int, 2) := dk_188_10 (dk_at dksX4_init_1 22 rfl rfl)
theorem dX4_init_46 : decode cX4_init 46 = .ok (.putfield 26, 3) := dk_181 0 26 (dk_at dksX4_init_2 0 rfl rfl)
theorem dX4_init_49 : decode cX4_init 49 = .ok (.aload_n 0, 1) := dk_42 (dk_at dksX4_init_2 3 rfl rfl)
theorem dX4_init_50 : decode cX4_init 50 = .ok (.bipush 12, 2) := dk_16 12 (dk_at dksX4_init_2 4 rfl rfl)
theorem dX4_init_52 : decode cX4_init 52 = .ok (.newarray .int, 2) := dk_188_10 (dk_at dksX4_init_2 6 rfl rfl)
theorem dX4_init_54 : decode cX4_init 54 = .ok (.putfield 29, 3) := dk_181 0 29 (dk_at dksX4_init_2 8 rfl rfl)
theorem dX4_init_57 : decode cX4_init 57 = .ok (.aload_n 0, 1) := dk_42 (dk_at dksX4_init_2 11 rfl rfl)
theorem dX4_init_58 : decode cX4_init 58 = .ok (.iconst 3, 1) := dk_6 (dk_at dksX4_init_2 12 rfl rfl)
theorem dX4_init_59 : decode cX4_init 59 = .ok (.newarray .int, 2) := dk_188_10 (dk_at dksX4_init_2 13 rfl rfl)
theorem dX4_init_61 : decode cX4_init 61 = .ok (.putfield 32, 3) := dk_181 0 32 (dk_at dksX4_init_2 15 rfl rfl)
theorem dX4_init_64 : decode cX4_init 64 = .ok (.aload_n 0, 1) := dk_42 (dk_at dksX4_init_2 18 rfl rfl)
theorem dX4_init_65 : decode cX4_init 65 = .ok (.sipush 4096, 3) := dk_17 16 0 (dk_at dksX4_init_2 19 rfl rfl)
theorem dX4_init_68 : decode cX4_init 68 = .ok (.newarray .int, 2) := dk_188_10 (dk_at dksX4_init_2 22 rfl rfl)
theorem dX4_init_70 : decode cX4_init 70 = .ok (.putfield 35, 3) := dk_181 0 35 (dk_at dksX4_init_3 0 rfl rfl)
theorem dX4_init_73 : decode cX4_init 73 = .ok (.aload_n 0, 1) := dk_42 (dk_at dksX4_init_3 3 rfl rfl)
theorem dX4_init_74 : decode cX4_init 74 = .ok (.sipush 4096, 3) := dk_17 16 0 (dk_at dksX4_init_3 4 rfl rfl)
theorem dX4_init_77 : decode cX4_init 77 = .ok (.newarray .int, 2) := dk_188_10 (dk_at dksX4_init_3 7 rfl rfl)
theorem dX4_init_79 : decode cX4_init 79 = .ok (.putfield 38, 3) := dk_181 0 38 (dk_at dksX4_init_3 9 rfl rfl)
theorem dX4_init_82 : decode cX4_init 82 = .ok (.aload_n 0, 1) := dk_42 (dk_at dksX4_init_3 12 rfl rfl)
theorem dX4_init_83 : decode cX4_init 83 = .ok (.iconst 5, 1) := dk_8 (dk_at dksX4_init_3 13 rfl rfl)
theorem dX4_init_84 : decode cX4_init 84 = .ok (.newarray .int, 2) := dk_188_10 (dk_at dksX4_init_3 14 rfl rfl)
theorem dX4_init_86 : decode cX4_init 86 = .ok (.putfield 41, 3) := dk_181 0 41 (dk_at dksX4_init_3 16 rfl rfl)
theorem dX4_init_89 : decode cX4_init 89 = .ok (.aload_n 0, 1) := dk_42 (dk_at dksX4_init_3 19 rfl rfl)
theorem dX4_init_90 : decode cX4_init 90 = .ok (.bipush 60, 2) := dk_16 60 (dk_at dksX4_init_3 20 rfl rfl)
theorem dX4_init_92 : decode cX4_init 92 = .ok (.newarray .int, 2) := dk_188_10 (dk_at dksX4_init_3 22 rfl rfl)
theorem dX4_init_94 : decode cX4_init 94 = .ok (.putfield 44, 3) := dk_181 0 44 (dk_at dksX4_init_4 0 rfl rfl)
theorem dX4_init_97 : decode cX4_init 97 = .ok (.aload_n 0, 1) := dk_42 (dk_at dksX4_init_4 3 rfl rfl)
theorem dX4_init_98 : decode cX4_init 98 = .ok (.bipush 12, 2) := dk_16 12 (dk_at dksX4_init_4 4 rfl rfl)
theorem dX4_init_100 : decode cX4_init 100 = .ok (.newarray .int, 2) := dk_188_10 (dk_at dksX4_init_4 6 rfl rfl)
theorem dX4_init_102 : decode cX4_init 102 = .ok (.putfield 47, 3) := dk_181 0 47 (dk_at dksX4_init_4 8 rfl rfl)
theorem dX4_init_105 : decode cX4_init 105 = .ok (.aload_n 0, 1) := dk_42 (dk_at dksX4_init_4 11 rfl rfl)
theorem dX4_init_106 : decode cX4_init 106 = .ok (.sipush 200, 3) := dk_17 0 200 (dk_at dksX4_init_4 12 rfl rfl)
theorem dX4_init_109 : decode cX4_init 109 = .ok (.newarray .int, 2) := dk_188_10 (dk_at dksX4_init_4 15 rfl rfl)
theorem dX4_init_111 : decode cX4_init 111 = .ok (.putfield 50, 3) := dk_181 0 50 (dk_at dksX4_init_4 17 rfl rfl)
theorem dX4_init_114 : decode cX4_init 114 = .ok (.aload_n 0, 1) := dk_42 (dk_at dksX4_init_4 20 rfl rfl)
theorem dX4_init_115 : decode cX4_init 115 = .ok (.bipush 60, 2) := dk_16 60 (dk_at dksX4_init_4 21 rfl rfl)
theorem dX4_init_117 : decode cX4_init 117 = .ok (.newarray .int, 2) := dk_188_10 (dk_at dksX4_init_5 0 rfl rfl)
theorem dX4_init_119 : decode cX4_init 119 = .ok (.putfield 53, 3) := dk_181 0 53 (dk_at dksX4_init_5 2 rfl rfl)
theorem dX4_init_122 : decode cX4_init 122 = .ok (.aload_n 0, 1) := dk_42 (dk_at dksX4_init_5 5 rfl rfl)
theorem dX4_init_123 : decode cX4_init 123 = .ok (.bipush 60, 2) := dk_16 60 (dk_at dksX4_init_5 6 rfl rfl)
theorem dX4_init_125 : decode cX4_init 125 = .ok (.newarray .int, 2) := dk_188_10 (dk_at dksX4_init_5 8 rfl rfl)
theorem dX4_init_127 : decode cX4_init 127 = .ok (.putfield 56, 3) := dk_181 0 56 (dk_at dksX4_init_5 10 rfl rfl)
theorem dX4_init_130 : decode cX4_init 130 = .ok (.aload_n 0, 1) := dk_42 (dk_at dksX4_init_5 13 rfl rfl)
theorem dX4_init_131 : decode cX4_init 131 = .ok (.bipush 60, 2) := dk_16 60 (dk_at dksX4_init_5 14 rfl rfl)
theorem dX4_init_133 : decode cX4_init 133 = .ok (.newarray .int, 2) := dk_188_10 (dk_at dksX4_init_5 16 rfl rfl)
theorem dX4_init_135 : decode cX4_init 135 = .ok (.putfield 59, 3) := dk_181 0 59 (dk_at dksX4_init_5 18 rfl rfl)
theorem dX4_init_138 : decode cX4_init 138 = .ok (.aload_n 0, 1) := dk_42 (dk_at dksX4_init_5 21 rfl rfl)
theorem dX4_init_139 : decode cX4_init 139 = .ok (.bipush 60, 2) := dk_16 60 (dk_at dksX4_init_5 22 rfl rfl)
theorem dX4_init_141 : decode cX4_init 141 = .ok (.newarray .int, 2) := dk_188_10 (dk_at dksX4_init_6 0 rfl rfl)
theorem dX4_init_143 : decode cX4_init 143 = .ok (.putfield 62, 3) := dk_181 0 62 (dk_at dksX4_init_6 2 rfl rfl)
theorem dX4_init_146 : decode cX4_init 146 = .ok (.aload_n 0, 1) := dk_42 (dk_at dksX4_init_6 5 rfl rfl)
theorem dX4_init_147 : decode cX4_init 147 = .ok (.bipush 60, 2) := dk_16 60 (dk_at dksX4_init_6 6 rfl rfl)
theorem dX4_init_149 : decode cX4_init 149 = .ok (.newarray .int, 2) := dk_188_10 (dk_at dksX4_init_6 8 rfl rfl)
theorem dX4_init_151 : decode cX4_init 151 = .ok (.putfield 65, 3) := dk_181 0 65 (dk_at dksX4_init_6 10 rfl rfl)
theorem dX4_init_154 : decode cX4_init 154 = .ok (.aload_n 0, 1) := dk_42 (dk_at dksX4_init_6 13 rfl rfl)
theorem dX4_init_155 : decode cX4_init 155 = .ok (.bipush 60, 2) := dk_16 60 (dk_at dksX4_init_6 14 rfl rfl)
theorem dX4_init_157 : decode cX4_init 157 = .ok (.newarray .int, 2) := dk_188_10 (dk_at dksX4_init_6 16 rfl rfl)
theorem dX4_init_159 : decode cX4_init 159 = .ok (.putfield 68, 3) := dk_181 0 68 (dk_at dksX4_init_6 18 rfl rfl)
theorem dX4_init_162 : decode cX4_init 162 = .ok (.aload_n 0, 1) := dk_42 (dk_at dksX4_init_6 21 rfl rfl)
theorem dX4_init_163 : decode cX4_init 163 = .ok (.bipush 60, 2) := dk_16 60 (dk_at dksX4_init_6 22 rfl rfl)
theorem dX4_init_165 : decode cX4_init 165 = .ok (.newarray .long, 2) := dk_188_11 (dk_at dksX4_init_7 0 rfl rfl)
theorem dX4_init_167 : decode cX4_init 167 = .ok (.putfield 71, 3) := dk_181 0 71 (dk_at dksX4_init_7 2 rfl rfl)
theorem dX4_init_170 : decode cX4_init 170 = .ok (.aload_n 0, 1) := dk_42 (dk_at dksX4_init_7 5 rfl rfl)
theorem dX4_init_171 : decode cX4_init 171 = .ok (.bipush 60, 2) := dk_16 60 (dk_at dksX4_init_7 6 rfl rfl)
theorem dX4_init_173 : decode cX4_init 173 = .ok (.newarray .long, 2) := dk_188_11 (dk_at dksX4_init_7 8 rfl rfl)
theorem dX4_init_175 : decode cX4_init 175 = .ok (.putfield 75, 3) := dk_181 0 75 (dk_at dksX4_init_7 10 rfl rfl)
theorem dX4_init_178 : decode cX4_init 178 = .ok (.aload_n 0, 1) := dk_42 (dk_at dksX4_init_7 13 rfl rfl)
theorem dX4_init_179 : decode cX4_init 179 = .ok (.bipush 60, 2) := dk_16 60 (dk_at dksX4_init_7 14 rfl rfl)
theorem dX4_init_181 : decode cX4_init 181 = .ok (.newarray .long, 2) := dk_188_11 (dk_at dksX4_init_7 16 rfl rfl)
theorem dX4_init_183 : decode cX4_init 183 = .ok (.putfield 78, 3) := dk_181 0 78 (dk_at dksX4_init_7 18 rfl rfl)
theorem dX4_init_186 : decode cX4_init 186 = .ok (.aload_n 0, 1) := dk_42 (dk_at dksX4_init_7 21 rfl rfl)
theorem dX4_init_187 : decode cX4_init 187 = .ok (.bipush 60, 2) := dk_16 60 (dk_at dksX4_init_7 22 rfl rfl)
theorem dX4_init_189 : decode cX4_init 189 = .ok (.newarray .long, 2) := dk_188_11 (dk_at dksX4_init_8 0 rfl rfl)
theorem dX4_init_191 : decode cX4_init 191 = .ok (.putfield 81, 3) := dk_181 0 81 (dk_at dksX4_init_8 2 rfl rfl)
theorem dX4_init_194 : decode cX4_init 194 = .ok (.aload_n 0, 1) := dk_42 (dk_at dksX4_init_8 5 rfl rfl)
theorem dX4_init_195 : decode cX4_init 195 = .ok (.bipush 60, 2) := dk_16 60 (dk_at dksX4_init_8 6 rfl rfl)
theorem dX4_init_197 : decode cX4_init 197 = .ok (.newarray .long, 2) := dk_188_11 (dk_at dksX4_init_8 8 rfl rfl)
theorem dX4_init_199 : decode cX4_init 199 = .ok (.putfield 84, 3) := dk_181 0 84 (dk_at dksX4_init_8 10 rfl rfl)
theorem dX4_init_202 : decode cX4_init 202 = .ok (.aload_n 0, 1) := dk_42 (dk_at dksX4_init_8 13 rfl rfl)
theorem dX4_init_203 : decode cX4_init 203 = .ok (.bipush 60, 2) := dk_16 60 (dk_at dksX4_init_8 14 rfl rfl)
theorem dX4_init_205 : decode cX4_init 205 = .ok (.newarray .boolean, 2) := dk_188_4 (dk_at dksX4_init_8 16 rfl rfl)
theorem dX4_init_207 : decode cX4_init 207 = .ok (.putfield 87, 3) := dk_181 0 87 (dk_at dksX4_init_8 18 rfl rfl)
theorem dX4_init_210 : decode cX4_init 210 = .ok (.aload_n 0, 1) := dk_42 (dk_at dksX4_init_8 21 rfl rfl)
theorem dX4_init_211 : decode cX4_init 211 = .ok (.bipush 38, 2) := dk_16 38 (dk_at dksX4_init_8 22 rfl rfl)
theorem dX4_init_213 : decode cX4_init 213 = .ok (.newarray .int, 2) := dk_188_10 (dk_at dksX4_init_9 0 rfl rfl)
theorem dX4_init_215 : decode cX4_init 215 = .ok (.putfield 91, 3) := dk_181 0 91 (dk_at dksX4_init_9 2 rfl rfl)
theorem dX4_init_218 : decode cX4_init 218 = .ok (.aload_n 0, 1) := dk_42 (dk_at dksX4_init_9 5 rfl rfl)
theorem dX4_init_219 : decode cX4_init 219 = .ok (.bipush 38, 2) := dk_16 38 (dk_at dksX4_init_9 6 rfl rfl)
theorem dX4_init_221 : decode cX4_init 221 = .ok (.newarray .int, 2) := dk_188_10 (dk_at dksX4_init_9 8 rfl rfl)
theorem dX4_init_223 : decode cX4_init 223 = .ok (.putfield 94, 3) := dk_181 0 94 (dk_at dksX4_init_9 10 rfl rfl)
theorem dX4_init_226 : decode cX4_init 226 = .ok (.aload_n 0, 1) := dk_42 (dk_at dksX4_init_9 13 rfl rfl)
theorem dX4_init_227 : decode cX4_init 227 = .ok (.iconst 4, 1) := dk_7 (dk_at dksX4_init_9 14 rfl rfl)
theorem dX4_init_228 : decode cX4_init 228 = .ok (.newarray .int, 2) := dk_188_10 (dk_at dksX4_init_9 15 rfl rfl)
theorem dX4_init_230 : decode cX4_init 230 = .ok (.dup, 1) := dk_89 (dk_at dksX4_init_9 17 rfl rfl)
theorem dX4_init_231 : decode cX4_init 231 = .ok (.iconst 0, 1) := dk_3 (dk_at dksX4_init_9 18 rfl rfl)
theorem dX4_init_232 : decode cX4_init 232 = .ok (.iconst (-1), 1) := dk_2 (dk_at dksX4_init_9 19 rfl rfl)
theorem dX4_init_233 : decode cX4_init 233 = .ok (.iastore, 1) := dk_79 (dk_at dksX4_init_9 20 rfl rfl)
theorem dX4_init_234 : decode cX4_init 234 = .ok (.dup, 1) := dk_89 (dk_at dksX4_init_9 21 rfl rfl)
theorem dX4_init_235 : decode cX4_init 235 = .ok (.iconst 1, 1) := dk_4 (dk_at dksX4_init_9 22 rfl rfl)
theorem dX4_init_236 : decode cX4_init 236 = .ok (.iconst (-1), 1) := dk_2 (dk_at dksX4_init_9 23 rfl rfl)
theorem dX4_init_237 : decode cX4_init 237 = .ok (.iastore, 1) := dk_79 (dk_at dksX4_init_10 0 rfl rfl)
theorem dX4_init_238 : decode cX4_init 238 = .ok (.dup, 1) := dk_89 (dk_at dksX4_init_10 1 rfl rfl)
theorem dX4_init_239 : decode cX4_init 239 = .ok (.iconst 2, 1) := dk_5 (dk_at dksX4_init_10 2 rfl rfl)
theorem dX4_init_240 : decode cX4_init 240 = .ok (.iconst (-1), 1) := dk_2 (dk_at dksX4_init_10 3 rfl rfl)
theorem dX4_init_241 : decode cX4_init 241 = .ok (.iastore, 1) := dk_79 (dk_at dksX4_init_10 4 rfl rfl)
theorem dX4_init_242 : decode cX4_init 242 = .ok (.dup, 1) := dk_89 (dk_at dksX4_init_10 5 rfl rfl)
theorem dX4_init_243 : decode cX4_init 243 = .ok (.iconst 3, 1) := dk_6 (dk_at dksX4_init_10 6 rfl rfl)
theorem dX4_init_244 : decode cX4_init 244 = .ok (.iconst (-1), 1) := dk_2 (dk_at dksX4_init_10 7 rfl rfl)
theorem dX4_init_245 : decode cX4_init 245 = .ok (.iastore, 1) := dk_79 (dk_at dksX4_init_10 8 rfl rfl)
theorem dX4_init_246 : decode cX4_init 246 = .ok (.putfield 97, 3) := dk_181 0 97 (dk_at dksX4_init_10 9 rfl rfl)
theorem dX4_init_249 : decode cX4_init 249 = .ok (.aload_n 0, 1) := dk_42 (dk_at dksX4_init_10 12 rfl rfl)
theorem dX4_init_250 : decode cX4_init 250 = .ok (.iconst 4, 1) := dk_7 (dk_at dksX4_init_10 13 rfl rfl)
theorem dX4_init_251 : decode cX4_init 251 = .ok (.newarray .int, 2) := dk_188_10 (dk_at dksX4_init_10 14 rfl rfl)
theorem dX4_init_253 : decode cX4_init 253 = .ok (.putfield 100, 3) := dk_181 0 100 (dk_at dksX4_init_10 16 rfl rfl)
theorem dX4_init_256 : decode cX4_init 256 = .ok (.aload_n 0, 1) := dk_42 (dk_at dksX4_init_10 19 rfl rfl)
theorem dX4_init_257 : decode cX4_init 257 = .ok (.sipush 240, 3) := dk_17 0 240 (dk_at dksX4_init_10 20 rfl rfl)
theorem dX4_init_260 : decode cX4_init 260 = .ok (.newarray .int, 2) := dk_188_10 (dk_at dksX4_init_11 0 rfl rfl)
theorem dX4_init_262 : decode cX4_init 262 = .ok (.putfield 103, 3) := dk_181 0 103 (dk_at dksX4_init_11 2 rfl rfl)
theorem dX4_init_265 : decode cX4_init 265 = .ok (.aload_n 0, 1) := dk_42 (dk_at dksX4_init_11 5 rfl rfl)
theorem dX4_init_266 : decode cX4_init 266 = .ok (.iconst 4, 1) := dk_7 (dk_at dksX4_init_11 6 rfl rfl)
theorem dX4_init_267 : decode cX4_init 267 = .ok (.newarray .int, 2) := dk_188_10 (dk_at dksX4_init_11 7 rfl rfl)
theorem dX4_init_269 : decode cX4_init 269 = .ok (.dup, 1) := dk_89 (dk_at dksX4_init_11 9 rfl rfl)
theorem dX4_init_270 : decode cX4_init 270 = .ok (.iconst 0, 1) := dk_3 (dk_at dksX4_init_11 10 rfl rfl)
theorem dX4_init_271 : decode cX4_init 271 = .ok (.iconst 2, 1) := dk_5 (dk_at dksX4_init_11 11 rfl rfl)
theorem dX4_init_272 : decode cX4_init 272 = .ok (.iastore, 1) := dk_79 (dk_at dksX4_init_11 12 rfl rfl)
theorem dX4_init_273 : decode cX4_init 273 = .ok (.dup, 1) := dk_89 (dk_at dksX4_init_11 13 rfl rfl)
theorem dX4_init_274 : decode cX4_init 274 = .ok (.iconst 1, 1) := dk_4 (dk_at dksX4_init_11 14 rfl rfl)
theorem dX4_init_275 : decode cX4_init 275 = .ok (.iconst 2, 1) := dk_5 (dk_at dksX4_init_11 15 rfl rfl)
theorem dX4_init_276 : decode cX4_init 276 = .ok (.iastore, 1) := dk_79 (dk_at dksX4_init_11 16 rfl rfl)
theorem dX4_init_277 : decode cX4_init 277 = .ok (.dup, 1) := dk_89 (dk_at dksX4_init_11 17 rfl rfl)
theorem dX4_init_278 : decode cX4_init 278 = .ok (.iconst 2, 1) := dk_5 (dk_at dksX4_init_11 18 rfl rfl)
theorem dX4_init_279 : decode cX4_init 279 = .ok (.iconst 2, 1) := dk_5 (dk_at dksX4_init_11 19 rfl rfl)
theorem dX4_init_280 : decode cX4_init 280 = .ok (.iastore, 1) := dk_79 (dk_at dksX4_init_11 20 rfl rfl)
theorem dX4_init_281 : decode cX4_init 281 = .ok (.dup, 1) := dk_89 (dk_at dksX4_init_11 21 rfl rfl)
theorem dX4_init_282 : decode cX4_init 282 = .ok (.iconst 3, 1) := dk_6 (dk_at dksX4_init_11 22 rfl rfl)
theorem dX4_init_283 : decode cX4_init 283 = .ok (.iconst 2, 1) := dk_5 (dk_at dksX4_init_11 23 rfl rfl)
theorem dX4_init_284 : decode cX4_init 284 = .ok (.iastore, 1) := dk_79 (dk_at dksX4_init_12 0 rfl rfl)
theorem dX4_init_285 : decode cX4_init 285 = .ok (.putfield 106, 3) := dk_181 0 106 (dk_at dksX4_init_12 1 rfl rfl)
theorem dX4_init_288 : decode cX4_init 288 = .ok (.aload_n 0, 1) := dk_42 (dk_at dksX4_init_12 4 rfl rfl)
theorem dX4_init_289 : decode cX4_init 289 = .ok (.iconst 4, 1) := dk_7 (dk_at dksX4_init_12 5 rfl rfl)
theorem dX4_init_290 : decode cX4_init 290 = .ok (.newarray .int, 2) := dk_188_10 (dk_at dksX4_init_12 6 rfl rfl)
theorem dX4_init_292 : decode cX4_init 292 = .ok (.putfield 109, 3) := dk_181 0 109 (dk_at dksX4_init_12 8 rfl rfl)
theorem dX4_init_295 : decode cX4_init 295 = .ok (.aload_n 0, 1) := dk_42 (dk_at dksX4_init_12 11 rfl rfl)
theorem dX4_init_296 : decode cX4_init 296 = .ok (.iconst 4, 1) := dk_7 (dk_at dksX4_init_12 12 rfl rfl)
theorem dX4_init_297 : decode cX4_init 297 = .ok (.newarray .int, 2) := dk_188_10 (dk_at dksX4_init_12 13 rfl rfl)
theorem dX4_init_299 : decode cX4_init 299 = .ok (.putfield 112, 3) := dk_181 0 112 (dk_at dksX4_init_12 15 rfl rfl)
theorem dX4_init_302 : decode cX4_init 302 = .ok (.aload_n 0, 1) := dk_42 (dk_at dksX4_init_12 18 rfl rfl)
theorem dX4_init_303 : decode cX4_init 303 = .ok (.iconst 4, 1) := dk_7 (dk_at dksX4_init_12 19 rfl rfl)
theorem dX4_init_304 : decode cX4_init 304 = .ok (.newarray .int, 2) := dk_188_10 (dk_at dksX4_init_12 20 rfl rfl)
theorem dX4_init_306 : decode cX4_init 306 = .ok (.putfield 115, 3) := dk_181 0 115 (dk_at dksX4_init_13 0 rfl rfl)
theorem dX4_init_309 : decode cX4_init 309 = .ok (.return_, 1) := dk_177 (dk_at dksX4_init_13 3 rfl rfl)
abbrev cX4_point : ByteArray := prog_32_method_12_code
def yX4_point : MethodName := ⟨RX4, "point", "(II)I"⟩
def dkwX4_point_1 : List UInt8 := [180, 0, 122, 16, 12, 160, 0, 6, 16, 252, 172, 42, 27, 28, 182, 0, 141, 42, 180, 0, 122, 4, 100, 172]
abbrev dktX4_point_1 : List UInt8 := dkwX4_point_1 ++ []
def dkwX4_point_0 : List UInt8 := [27, 3, 8, 184, 0, 125, 153, 0, 13, 28, 4, 16, 9, 184, 0, 125, 154, 0, 6, 16, 254, 172, 42]
abbrev dktX4_point_0 : List UInt8 := dkwX4_point_0 ++ dktX4_point_1
theorem dksX4_point_0 : cX4_point.data.toList.drop 0 = dktX4_point_0 := by decide +kernel
theorem dksX4_point_1 : cX4_point.data.toList.drop 23 = dktX4_point_1 := dk_seg dksX4_point_0 23 rfl rfl
theorem dX4_point_0 : decode cX4_point 0 = .ok (.iload_n 1, 1) := dk_27 (dk_at dksX4_point_0 0 rfl rfl)
theorem dX4_point_1 : decode cX4_point 1 = .ok (.iconst 0, 1) := dk_3 (dk_at dksX4_point_0 1 rfl rfl)
theorem dX4_point_2 : decode cX4_point 2 = .ok (.iconst 5, 1) := dk_8 (dk_at dksX4_point_0 2 rfl rfl)
theorem dX4_point_3 : decode cX4_point 3 = .ok (.invokestatic 125, 3) := dk_184 0 125 (dk_at dksX4_point_0 3 rfl rfl)
theorem dX4_point_6 : decode cX4_point 6 = .ok (.ifCond .eq 13, 3) := dk_153 0 13 (dk_at dksX4_point_0 6 rfl rfl)
theorem dX4_point_9 : decode cX4_point 9 = .ok (.iload_n 2, 1) := dk_28 (dk_at dksX4_point_0 9 rfl rfl)
theorem dX4_point_10 : decode cX4_point 10 = .ok (.iconst 1, 1) := dk_4 (dk_at dksX4_point_0 10 rfl rfl)
theorem dX4_point_11 : decode cX4_point 11 = .ok (.bipush 9, 2) := dk_16 9 (dk_at dksX4_point_0 11 rfl rfl)
theorem dX4_point_13 : decode cX4_point 13 = .ok (.invokestatic 125, 3) := dk_184 0 125 (dk_at dksX4_point_0 13 rfl rfl)
theorem dX4_point_16 : decode cX4_point 16 = .ok (.ifCond .ne 6, 3) := dk_154 0 6 (dk_at dksX4_point_0 16 rfl rfl)
theorem dX4_point_19 : decode cX4_point 19 = .ok (.bipush (-2), 2) := dk_16 254 (dk_at dksX4_point_0 19 rfl rfl)
theorem dX4_point_21 : decode cX4_point 21 = .ok (.ireturn, 1) := dk_172 (dk_at dksX4_point_0 21 rfl rfl)
theorem dX4_point_22 : decode cX4_point 22 = .ok (.aload_n 0, 1) := dk_42 (dk_at dksX4_point_0 22 rfl rfl)
theorem dX4_point_23 : decode cX4_point 23 = .ok (.getfield 122, 3) := dk_180 0 122 (dk_at dksX4_point_1 0 rfl rfl)
theorem dX4_point_26 : decode cX4_point 26 = .ok (.bipush 12, 2) := dk_16 12 (dk_at dksX4_point_1 3 rfl rfl)
theorem dX4_point_28 : decode cX4_point 28 = .ok (.if_icmp .ne 6, 3) := dk_160 0 6 (dk_at dksX4_point_1 5 rfl rfl)
theorem dX4_point_31 : decode cX4_point 31 = .ok (.bipush (-4), 2) := dk_16 252 (dk_at dksX4_point_1 8 rfl rfl)
theorem dX4_point_33 : decode cX4_point 33 = .ok (.ireturn, 1) := dk_172 (dk_at dksX4_point_1 10 rfl rfl)
theorem dX4_point_34 : decode cX4_point 34 = .ok (.aload_n 0, 1) := dk_42 (dk_at dksX4_point_1 11 rfl rfl)
theorem dX4_point_35 : decode cX4_point 35 = .ok (.iload_n 1, 1) := dk_27 (dk_at dksX4_point_1 12 rfl rfl)
theorem dX4_point_36 : decode cX4_point 36 = .ok (.iload_n 2, 1) := dk_28 (dk_at dksX4_point_1 13 rfl rfl)
theorem dX4_point_37 : decode cX4_point 37 = .ok (.invokevirtual 141, 3) := dk_182 0 141 (dk_at dksX4_point_1 14 rfl rfl)
theorem dX4_point_40 : decode cX4_point 40 = .ok (.aload_n 0, 1) := dk_42 (dk_at dksX4_point_1 17 rfl rfl)
theorem dX4_point_41 : decode cX4_point 41 = .ok (.getfield 122, 3) := dk_180 0 122 (dk_at dksX4_point_1 18 rfl rfl)
theorem dX4_point_44 : decode cX4_point 44 = .ok (.iconst 1, 1) := dk_4 (dk_at dksX4_point_1 21 rfl rfl)
theorem dX4_point_45 : decode cX4_point 45 = .ok (.isub, 1) := dk_100 (dk_at dksX4_point_1 22 rfl rfl)
theorem dX4_point_46 : decode cX4_point 46 = .ok (.ireturn, 1) := dk_172 (dk_at dksX4_point_1 23 rfl rfl)
abbrev cX4_in : ByteArray := prog_32_method_2_code
def yX4_in : MethodName := ⟨RX4, "in", "(III)Z"⟩
def dkwX4_in_0 : List UInt8 := [26, 27, 161, 0, 12, 26, 28, 163, 0, 7, 4, 167, 0, 4, 3, 172]
abbrev dktX4_in_0 : List UInt8 := dkwX4_in_0 ++ []
theorem dksX4_in_0 : cX4_in.data.toList.drop 0 = dktX4_in_0 := by decide +kernel
theorem dX4_in_0 : decode cX4_in 0 = .ok (.iload_n 0, 1) := dk_26 (dk_at dksX4_in_0 0 rfl rfl)
theorem dX4_in_1 : decode cX4_in 1 = .ok (.iload_n 1, 1) := dk_27 (dk_at dksX4_in_0 1 rfl rfl)
theorem dX4_in_2 : decode cX4_in 2 = .ok (.if_icmp .lt 12, 3) := dk_161 0 12 (dk_at dksX4_in_0 2 rfl rfl)
theorem dX4_in_5 : decode cX4_in 5 = .ok (.iload_n 0, 1) := dk_26 (dk_at dksX4_in_0 5 rfl rfl)
theorem dX4_in_6 : decode cX4_in 6 = .ok (.iload_n 2, 1) := dk_28 (dk_at dksX4_in_0 6 rfl rfl)
theorem dX4_in_7 : decode cX4_in 7 = .ok (.if_icmp .gt 7, 3) := dk_163 0 7 (dk_at dksX4_in_0 7 rfl rfl)
theorem dX4_in_10 : decode cX4_in 10 = .ok (.iconst 1, 1) := dk_4 (dk_at dksX4_in_0 10 rfl rfl)
theorem dX4_in_11 : decode cX4_in 11 = .ok (.goto 4, 3) := dk_167 0 4 (dk_at dksX4_in_0 11 rfl rfl)
theorem dX4_in_14 : decode cX4_in 14 = .ok (.iconst 0, 1) := dk_3 (dk_at dksX4_in_0 14 rfl rfl)
theorem dX4_in_15 : decode cX4_in 15 = .ok (.ireturn, 1) := dk_172 (dk_at dksX4_in_0 15 rfl rfl)
abbrev cX4_comes : ByteArray := prog_32_method_11_code
def yX4_comes : MethodName := ⟨RX4, "comes", "(II)V"⟩
def dkwX4_comes_1 : List UInt8 := [42, 180, 0, 122, 3, 79, 42, 89, 180, 0, 122, 4, 96, 181, 0, 122, 177]
abbrev dktX4_comes_1 : List UInt8 := dkwX4_comes_1 ++ []
def dkwX4_comes_0 : List UInt8 := [42, 180, 0, 13, 42, 180, 0, 122, 27, 79, 42, 180, 0, 17, 42, 180, 0, 122, 28, 79, 42, 180, 0, 20]
abbrev dktX4_comes_0 : List UInt8 := dkwX4_comes_0 ++ dktX4_comes_1
theorem dksX4_comes_0 : cX4_comes.data.toList.drop 0 = dktX4_comes_0 := by decide +kernel
theorem dksX4_comes_1 : cX4_comes.data.toList.drop 24 = dktX4_comes_1 := dk_seg dksX4_comes_0 24 rfl rfl
theorem dX4_comes_0 : decode cX4_comes 0 = .ok (.aload_n 0, 1) := dk_42 (dk_at dksX4_comes_0 0 rfl rfl)
theorem dX4_comes_1 : decode cX4_comes 1 = .ok (.getfield 13, 3) := dk_180 0 13 (dk_at dksX4_comes_0 1 rfl rfl)
theorem dX4_comes_4 : decode cX4_comes 4 = .ok (.aload_n 0, 1) := dk_42 (dk_at dksX4_comes_0 4 rfl rfl)
theorem dX4_comes_5 : decode cX4_comes 5 = .ok (.getfield 122, 3) := dk_180 0 122 (dk_at dksX4_comes_0 5 rfl rfl)
theorem dX4_comes_8 : decode cX4_comes 8 = .ok (.iload_n 1, 1) := dk_27 (dk_at dksX4_comes_0 8 rfl rfl)
theorem dX4_comes_9 : decode cX4_comes 9 = .ok (.iastore, 1) := dk_79 (dk_at dksX4_comes_0 9 rfl rfl)
theorem dX4_comes_10 : decode cX4_comes 10 = .ok (.aload_n 0, 1) := dk_42 (dk_at dksX4_comes_0 10 rfl rfl)
theorem dX4_comes_11 : decode cX4_comes 11 = .ok (.getfield 17, 3) := dk_180 0 17 (dk_at dksX4_comes_0 11 rfl rfl)
theorem dX4_comes_14 : decode cX4_comes 14 = .ok (.aload_n 0, 1) := dk_42 (dk_at dksX4_comes_0 14 rfl rfl)
theorem dX4_comes_15 : decode cX4_comes 15 = .ok (.getfield 122, 3) := dk_180 0 122 (dk_at dksX4_comes_0 15 rfl rfl)
theorem dX4_comes_18 : decode cX4_comes 18 = .ok (.iload_n 2, 1) := dk_28 (dk_at dksX4_comes_0 18 rfl rfl)
theorem dX4_comes_19 : decode cX4_comes 19 = .ok (.iastore, 1) := dk_79 (dk_at dksX4_comes_0 19 rfl rfl)
theorem dX4_comes_20 : decode cX4_comes 20 = .ok (.aload_n 0, 1) := dk_42 (dk_at dksX4_comes_0 20 rfl rfl)
theorem dX4_comes_21 : decode cX4_comes 21 = .ok (.getfield 20, 3) := dk_180 0 20 (dk_at dksX4_comes_0 21 rfl rfl)
theorem dX4_comes_24 : decode cX4_comes 24 = .ok (.aload_n 0, 1) := dk_42 (dk_at dksX4_comes_1 0 rfl rfl)
theorem dX4_comes_25 : decode cX4_comes 25 = .ok (.getfield 122, 3) := dk_180 0 122 (dk_at dksX4_comes_1 1 rfl rfl)
theorem dX4_comes_28 : decode cX4_comes 28 = .ok (.iconst 0, 1) := dk_3 (dk_at dksX4_comes_1 4 rfl rfl)
theorem dX4_comes_29 : decode cX4_comes 29 = .ok (.iastore, 1) := dk_79 (dk_at dksX4_comes_1 5 rfl rfl)
theorem dX4_comes_30 : decode cX4_comes 30 = .ok (.aload_n 0, 1) := dk_42 (dk_at dksX4_comes_1 6 rfl rfl)
theorem dX4_comes_31 : decode cX4_comes 31 = .ok (.dup, 1) := dk_89 (dk_at dksX4_comes_1 7 rfl rfl)
theorem dX4_comes_32 : decode cX4_comes 32 = .ok (.getfield 122, 3) := dk_180 0 122 (dk_at dksX4_comes_1 8 rfl rfl)
theorem dX4_comes_35 : decode cX4_comes 35 = .ok (.iconst 1, 1) := dk_4 (dk_at dksX4_comes_1 11 rfl rfl)
theorem dX4_comes_36 : decode cX4_comes 36 = .ok (.iadd, 1) := dk_96 (dk_at dksX4_comes_1 12 rfl rfl)
theorem dX4_comes_37 : decode cX4_comes 37 = .ok (.putfield 122, 3) := dk_181 0 122 (dk_at dksX4_comes_1 13 rfl rfl)
theorem dX4_comes_40 : decode cX4_comes 40 = .ok (.return_, 1) := dk_177 (dk_at dksX4_comes_1 16 rfl rfl)
abbrev cX4_line : ByteArray := prog_32_method_15_code
def yX4_line : MethodName := ⟨RX4, "line", "(III)I"⟩
def dkwX4_line_1 : List UInt8 := [180, 0, 20, 27, 46, 28, 122, 4, 126, 54, 4, 42, 27, 28, 29, 182, 0, 152, 21, 4, 172]
abbrev dktX4_line_1 : List UInt8 := dkwX4_line_1 ++ []
def dkwX4_line_0 : List UInt8 := [42, 27, 28, 182, 0, 149, 153, 0, 12, 29, 3, 4, 184, 0, 125, 154, 0, 6, 16, 254, 172, 42]
abbrev dktX4_line_0 : List UInt8 := dkwX4_line_0 ++ dktX4_line_1
theorem dksX4_line_0 : cX4_line.data.toList.drop 0 = dktX4_line_0 := by decide +kernel
theorem dksX4_line_1 : cX4_line.data.toList.drop 22 = dktX4_line_1 := dk_seg dksX4_line_0 22 rfl rfl
theorem dX4_line_0 : decode cX4_line 0 = .ok (.aload_n 0, 1) := dk_42 (dk_at dksX4_line_0 0 rfl rfl)
theorem dX4_line_1 : decode cX4_line 1 = .ok (.iload_n 1, 1) := dk_27 (dk_at dksX4_line_0 1 rfl rfl)
theorem dX4_line_2 : decode cX4_line 2 = .ok (.iload_n 2, 1) := dk_28 (dk_at dksX4_line_0 2 rfl rfl)
theorem dX4_line_3 : decode cX4_line 3 = .ok (.invokevirtual 149, 3) := dk_182 0 149 (dk_at dksX4_line_0 3 rfl rfl)
theorem dX4_line_6 : decode cX4_line 6 = .ok (.ifCond .eq 12, 3) := dk_153 0 12 (dk_at dksX4_line_0 6 rfl rfl)
theorem dX4_line_9 : decode cX4_line 9 = .ok (.iload_n 3, 1) := dk_29 (dk_at dksX4_line_0 9 rfl rfl)
theorem dX4_line_10 : decode cX4_line 10 = .ok (.iconst 0, 1) := dk_3 (dk_at dksX4_line_0 10 rfl rfl)
theorem dX4_line_11 : decode cX4_line 11 = .ok (.iconst 1, 1) := dk_4 (dk_at dksX4_line_0 11 rfl rfl)
theorem dX4_line_12 : decode cX4_line 12 = .ok (.invokestatic 125, 3) := dk_184 0 125 (dk_at dksX4_line_0 12 rfl rfl)
theorem dX4_line_15 : decode cX4_line 15 = .ok (.ifCond .ne 6, 3) := dk_154 0 6 (dk_at dksX4_line_0 15 rfl rfl)
theorem dX4_line_18 : decode cX4_line 18 = .ok (.bipush (-2), 2) := dk_16 254 (dk_at dksX4_line_0 18 rfl rfl)
theorem dX4_line_20 : decode cX4_line 20 = .ok (.ireturn, 1) := dk_172 (dk_at dksX4_line_0 20 rfl rfl)
theorem dX4_line_21 : decode cX4_line 21 = .ok (.aload_n 0, 1) := dk_42 (dk_at dksX4_line_0 21 rfl rfl)
theorem dX4_line_22 : decode cX4_line 22 = .ok (.getfield 20, 3) := dk_180 0 20 (dk_at dksX4_line_1 0 rfl rfl)
theorem dX4_line_25 : decode cX4_line 25 = .ok (.iload_n 1, 1) := dk_27 (dk_at dksX4_line_1 3 rfl rfl)
theorem dX4_line_26 : decode cX4_line 26 = .ok (.iaload, 1) := dk_46 (dk_at dksX4_line_1 4 rfl rfl)
theorem dX4_line_27 : decode cX4_line 27 = .ok (.iload_n 2, 1) := dk_28 (dk_at dksX4_line_1 5 rfl rfl)
theorem dX4_line_28 : decode cX4_line 28 = .ok (.ishr, 1) := dk_122 (dk_at dksX4_line_1 6 rfl rfl)
theorem dX4_line_29 : decode cX4_line 29 = .ok (.iconst 1, 1) := dk_4 (dk_at dksX4_line_1 7 rfl rfl)
theorem dX4_line_30 : decode cX4_line 30 = .ok (.iand, 1) := dk_126 (dk_at dksX4_line_1 8 rfl rfl)
theorem dX4_line_31 : decode cX4_line 31 = .ok (.istore 4, 2) := dk_54 4 (dk_at dksX4_line_1 9 rfl rfl)
theorem dX4_line_33 : decode cX4_line 33 = .ok (.aload_n 0, 1) := dk_42 (dk_at dksX4_line_1 11 rfl rfl)
theorem dX4_line_34 : decode cX4_line 34 = .ok (.iload_n 1, 1) := dk_27 (dk_at dksX4_line_1 12 rfl rfl)
theorem dX4_line_35 : decode cX4_line 35 = .ok (.iload_n 2, 1) := dk_28 (dk_at dksX4_line_1 13 rfl rfl)
theorem dX4_line_36 : decode cX4_line 36 = .ok (.iload_n 3, 1) := dk_29 (dk_at dksX4_line_1 14 rfl rfl)
theorem dX4_line_37 : decode cX4_line 37 = .ok (.invokevirtual 152, 3) := dk_182 0 152 (dk_at dksX4_line_1 15 rfl rfl)
theorem dX4_line_40 : decode cX4_line 40 = .ok (.iload 4, 2) := dk_21 4 (dk_at dksX4_line_1 18 rfl rfl)
theorem dX4_line_42 : decode cX4_line 42 = .ok (.ireturn, 1) := dk_172 (dk_at dksX4_line_1 20 rfl rfl)
abbrev cX4_areTwo : ByteArray := prog_32_method_14_code
def yX4_areTwo : MethodName := ⟨RX4, "areTwo", "(II)Z"⟩
def dkwX4_areTwo_1 : List UInt8 := [167, 0, 4, 3, 172]
abbrev dktX4_areTwo_1 : List UInt8 := dkwX4_areTwo_1 ++ []
def dkwX4_areTwo_0 : List UInt8 := [42, 27, 182, 0, 145, 153, 0, 20, 42, 28, 182, 0, 145, 153, 0, 12, 27, 28, 159, 0, 7, 4]
abbrev dktX4_areTwo_0 : List UInt8 := dkwX4_areTwo_0 ++ dktX4_areTwo_1
theorem dksX4_areTwo_0 : cX4_areTwo.data.toList.drop 0 = dktX4_areTwo_0 := by decide +kernel
theorem dksX4_areTwo_1 : cX4_areTwo.data.toList.drop 22 = dktX4_areTwo_1 := dk_seg dksX4_areTwo_0 22 rfl rfl
theorem dX4_areTwo_0 : decode cX4_areTwo 0 = .ok (.aload_n 0, 1) := dk_42 (dk_at dksX4_areTwo_0 0 rfl rfl)
theorem dX4_areTwo_1 : decode cX4_areTwo 1 = .ok (.iload_n 1, 1) := dk_27 (dk_at dksX4_areTwo_0 1 rfl rfl)
theorem dX4_areTwo_2 : decode cX4_areTwo 2 = .ok (.invokevirtual 145, 3) := dk_182 0 145 (dk_at dksX4_areTwo_0 2 rfl rfl)
theorem dX4_areTwo_5 : decode cX4_areTwo 5 = .ok (.ifCond .eq 20, 3) := dk_153 0 20 (dk_at dksX4_areTwo_0 5 rfl rfl)
theorem dX4_areTwo_8 : decode cX4_areTwo 8 = .ok (.aload_n 0, 1) := dk_42 (dk_at dksX4_areTwo_0 8 rfl rfl)
theorem dX4_areTwo_9 : decode cX4_areTwo 9 = .ok (.iload_n 2, 1) := dk_28 (dk_at dksX4_areTwo_0 9 rfl rfl)
theorem dX4_areTwo_10 : decode cX4_areTwo 10 = .ok (.invokevirtual 145, 3) := dk_182 0 145 (dk_at dksX4_areTwo_0 10 rfl rfl)
theorem dX4_areTwo_13 : decode cX4_areTwo 13 = .ok (.ifCond .eq 12, 3) := dk_153 0 12 (dk_at dksX4_areTwo_0 13 rfl rfl)
theorem dX4_areTwo_16 : decode cX4_areTwo 16 = .ok (.iload_n 1, 1) := dk_27 (dk_at dksX4_areTwo_0 16 rfl rfl)
theorem dX4_areTwo_17 : decode cX4_areTwo 17 = .ok (.iload_n 2, 1) := dk_28 (dk_at dksX4_areTwo_0 17 rfl rfl)
theorem dX4_areTwo_18 : decode cX4_areTwo 18 = .ok (.if_icmp .eq 7, 3) := dk_159 0 7 (dk_at dksX4_areTwo_0 18 rfl rfl)
theorem dX4_areTwo_21 : decode cX4_areTwo 21 = .ok (.iconst 1, 1) := dk_4 (dk_at dksX4_areTwo_0 21 rfl rfl)
theorem dX4_areTwo_22 : decode cX4_areTwo 22 = .ok (.goto 4, 3) := dk_167 0 4 (dk_at dksX4_areTwo_1 0 rfl rfl)
theorem dX4_areTwo_25 : decode cX4_areTwo 25 = .ok (.iconst 0, 1) := dk_3 (dk_at dksX4_areTwo_1 3 rfl rfl)
theorem dX4_areTwo_26 : decode cX4_areTwo 26 = .ok (.ireturn, 1) := dk_172 (dk_at dksX4_areTwo_1 4 rfl rfl)
abbrev cX4_isPoint : ByteArray := prog_32_method_7_code
def yX4_isPoint : MethodName := ⟨RX4, "isPoint", "(I)Z"⟩
def dkwX4_isPoint_0 : List UInt8 := [27, 3, 42, 180, 0, 122, 4, 100, 184, 0, 125, 172]
abbrev dktX4_isPoint_0 : List UInt8 := dkwX4_isPoint_0 ++ []
theorem dksX4_isPoint_0 : cX4_isPoint.data.toList.drop 0 = dktX4_isPoint_0 := by decide +kernel
theorem dX4_isPoint_0 : decode cX4_isPoint 0 = .ok (.iload_n 1, 1) := dk_27 (dk_at dksX4_isPoint_0 0 rfl rfl)
theorem dX4_isPoint_1 : decode cX4_isPoint 1 = .ok (.iconst 0, 1) := dk_3 (dk_at dksX4_isPoint_0 1 rfl rfl)
theorem dX4_isPoint_2 : decode cX4_isPoint 2 = .ok (.aload_n 0, 1) := dk_42 (dk_at dksX4_isPoint_0 2 rfl rfl)
theorem dX4_isPoint_3 : decode cX4_isPoint 3 = .ok (.getfield 122, 3) := dk_180 0 122 (dk_at dksX4_isPoint_0 3 rfl rfl)
theorem dX4_isPoint_6 : decode cX4_isPoint 6 = .ok (.iconst 1, 1) := dk_4 (dk_at dksX4_isPoint_0 6 rfl rfl)
theorem dX4_isPoint_7 : decode cX4_isPoint 7 = .ok (.isub, 1) := dk_100 (dk_at dksX4_isPoint_0 7 rfl rfl)
theorem dX4_isPoint_8 : decode cX4_isPoint 8 = .ok (.invokestatic 125, 3) := dk_184 0 125 (dk_at dksX4_isPoint_0 8 rfl rfl)
theorem dX4_isPoint_11 : decode cX4_isPoint 11 = .ok (.ireturn, 1) := dk_172 (dk_at dksX4_isPoint_0 11 rfl rfl)
abbrev cX4_lays : ByteArray := prog_32_method_13_code
def yX4_lays : MethodName := ⟨RX4, "lays", "(III)V"⟩
def dkwX4_lays_1 : List UInt8 := [180, 0, 20, 28, 42, 180, 0, 20, 28, 46, 4, 27, 120, 2, 130, 126, 29, 27, 120, 128, 79, 177]
abbrev dktX4_lays_1 : List UInt8 := dkwX4_lays_1 ++ []
def dkwX4_lays_0 : List UInt8 := [42, 180, 0, 20, 27, 42, 180, 0, 20, 27, 46, 4, 28, 120, 2, 130, 126, 29, 28, 120, 128, 79, 42]
abbrev dktX4_lays_0 : List UInt8 := dkwX4_lays_0 ++ dktX4_lays_1
theorem dksX4_lays_0 : cX4_lays.data.toList.drop 0 = dktX4_lays_0 := by decide +kernel
theorem dksX4_lays_1 : cX4_lays.data.toList.drop 23 = dktX4_lays_1 := dk_seg dksX4_lays_0 23 rfl rfl
theorem dX4_lays_0 : decode cX4_lays 0 = .ok (.aload_n 0, 1) := dk_42 (dk_at dksX4_lays_0 0 rfl rfl)
theorem dX4_lays_1 : decode cX4_lays 1 = .ok (.getfield 20, 3) := dk_180 0 20 (dk_at dksX4_lays_0 1 rfl rfl)
theorem dX4_lays_4 : decode cX4_lays 4 = .ok (.iload_n 1, 1) := dk_27 (dk_at dksX4_lays_0 4 rfl rfl)
theorem dX4_lays_5 : decode cX4_lays 5 = .ok (.aload_n 0, 1) := dk_42 (dk_at dksX4_lays_0 5 rfl rfl)
theorem dX4_lays_6 : decode cX4_lays 6 = .ok (.getfield 20, 3) := dk_180 0 20 (dk_at dksX4_lays_0 6 rfl rfl)
theorem dX4_lays_9 : decode cX4_lays 9 = .ok (.iload_n 1, 1) := dk_27 (dk_at dksX4_lays_0 9 rfl rfl)
theorem dX4_lays_10 : decode cX4_lays 10 = .ok (.iaload, 1) := dk_46 (dk_at dksX4_lays_0 10 rfl rfl)
theorem dX4_lays_11 : decode cX4_lays 11 = .ok (.iconst 1, 1) := dk_4 (dk_at dksX4_lays_0 11 rfl rfl)
theorem dX4_lays_12 : decode cX4_lays 12 = .ok (.iload_n 2, 1) := dk_28 (dk_at dksX4_lays_0 12 rfl rfl)
theorem dX4_lays_13 : decode cX4_lays 13 = .ok (.ishl, 1) := dk_120 (dk_at dksX4_lays_0 13 rfl rfl)
theorem dX4_lays_14 : decode cX4_lays 14 = .ok (.iconst (-1), 1) := dk_2 (dk_at dksX4_lays_0 14 rfl rfl)
theorem dX4_lays_15 : decode cX4_lays 15 = .ok (.ixor, 1) := dk_130 (dk_at dksX4_lays_0 15 rfl rfl)
theorem dX4_lays_16 : decode cX4_lays 16 = .ok (.iand, 1) := dk_126 (dk_at dksX4_lays_0 16 rfl rfl)
theorem dX4_lays_17 : decode cX4_lays 17 = .ok (.iload_n 3, 1) := dk_29 (dk_at dksX4_lays_0 17 rfl rfl)
theorem dX4_lays_18 : decode cX4_lays 18 = .ok (.iload_n 2, 1) := dk_28 (dk_at dksX4_lays_0 18 rfl rfl)
theorem dX4_lays_19 : decode cX4_lays 19 = .ok (.ishl, 1) := dk_120 (dk_at dksX4_lays_0 19 rfl rfl)
theorem dX4_lays_20 : decode cX4_lays 20 = .ok (.ior, 1) := dk_128 (dk_at dksX4_lays_0 20 rfl rfl)
theorem dX4_lays_21 : decode cX4_lays 21 = .ok (.iastore, 1) := dk_79 (dk_at dksX4_lays_0 21 rfl rfl)
theorem dX4_lays_22 : decode cX4_lays 22 = .ok (.aload_n 0, 1) := dk_42 (dk_at dksX4_lays_0 22 rfl rfl)
theorem dX4_lays_23 : decode cX4_lays 23 = .ok (.getfield 20, 3) := dk_180 0 20 (dk_at dksX4_lays_1 0 rfl rfl)
theorem dX4_lays_26 : decode cX4_lays 26 = .ok (.iload_n 2, 1) := dk_28 (dk_at dksX4_lays_1 3 rfl rfl)
theorem dX4_lays_27 : decode cX4_lays 27 = .ok (.aload_n 0, 1) := dk_42 (dk_at dksX4_lays_1 4 rfl rfl)
theorem dX4_lays_28 : decode cX4_lays 28 = .ok (.getfield 20, 3) := dk_180 0 20 (dk_at dksX4_lays_1 5 rfl rfl)
theorem dX4_lays_31 : decode cX4_lays 31 = .ok (.iload_n 2, 1) := dk_28 (dk_at dksX4_lays_1 8 rfl rfl)
theorem dX4_lays_32 : decode cX4_lays 32 = .ok (.iaload, 1) := dk_46 (dk_at dksX4_lays_1 9 rfl rfl)
theorem dX4_lays_33 : decode cX4_lays 33 = .ok (.iconst 1, 1) := dk_4 (dk_at dksX4_lays_1 10 rfl rfl)
theorem dX4_lays_34 : decode cX4_lays 34 = .ok (.iload_n 1, 1) := dk_27 (dk_at dksX4_lays_1 11 rfl rfl)
theorem dX4_lays_35 : decode cX4_lays 35 = .ok (.ishl, 1) := dk_120 (dk_at dksX4_lays_1 12 rfl rfl)
theorem dX4_lays_36 : decode cX4_lays 36 = .ok (.iconst (-1), 1) := dk_2 (dk_at dksX4_lays_1 13 rfl rfl)
theorem dX4_lays_37 : decode cX4_lays 37 = .ok (.ixor, 1) := dk_130 (dk_at dksX4_lays_1 14 rfl rfl)
theorem dX4_lays_38 : decode cX4_lays 38 = .ok (.iand, 1) := dk_126 (dk_at dksX4_lays_1 15 rfl rfl)
theorem dX4_lays_39 : decode cX4_lays 39 = .ok (.iload_n 3, 1) := dk_29 (dk_at dksX4_lays_1 16 rfl rfl)
theorem dX4_lays_40 : decode cX4_lays 40 = .ok (.iload_n 1, 1) := dk_27 (dk_at dksX4_lays_1 17 rfl rfl)
theorem dX4_lays_41 : decode cX4_lays 41 = .ok (.ishl, 1) := dk_120 (dk_at dksX4_lays_1 18 rfl rfl)
theorem dX4_lays_42 : decode cX4_lays 42 = .ok (.ior, 1) := dk_128 (dk_at dksX4_lays_1 19 rfl rfl)
theorem dX4_lays_43 : decode cX4_lays 43 = .ok (.iastore, 1) := dk_79 (dk_at dksX4_lays_1 20 rfl rfl)
theorem dX4_lays_44 : decode cX4_lays 44 = .ok (.return_, 1) := dk_177 (dk_at dksX4_lays_1 21 rfl rfl)
abbrev cX4_pointOf : ByteArray := prog_32_method_16_code
def yX4_pointOf : MethodName := ⟨RX4, "pointOf", "(II)I"⟩
def dkwX4_pointOf_3 : List UInt8 := [27, 46, 172, 42, 180, 0, 20, 27, 46, 184, 0, 133, 172, 16, 254, 172]
abbrev dktX4_pointOf_3 : List UInt8 := dkwX4_pointOf_3 ++ []
def dkwX4_pointOf_2 : List UInt8 := [42, 180, 0, 13, 27, 46, 172, 42, 180, 0, 17, 27, 46, 172, 42, 27, 182, 0, 156, 172, 42, 180, 0, 20]
abbrev dktX4_pointOf_2 : List UInt8 := dkwX4_pointOf_2 ++ dktX4_pointOf_3
def dkwX4_pointOf_1 : List UInt8 := [170, 0, 0, 0, 0, 0, 0, 73, 0, 0, 0, 0, 0, 0, 0, 4, 0, 0, 0, 36, 0, 0, 0, 43, 0, 0, 0, 50, 0, 0, 0, 56, 0, 0, 0, 63]
abbrev dktX4_pointOf_1 : List UInt8 := dkwX4_pointOf_1 ++ dktX4_pointOf_2
def dkwX4_pointOf_0 : List UInt8 := [42, 27, 182, 0, 145, 154, 0, 6, 16, 254, 172, 28]
abbrev dktX4_pointOf_0 : List UInt8 := dkwX4_pointOf_0 ++ dktX4_pointOf_1
theorem dksX4_pointOf_0 : cX4_pointOf.data.toList.drop 0 = dktX4_pointOf_0 := by decide +kernel
theorem dksX4_pointOf_1 : cX4_pointOf.data.toList.drop 12 = dktX4_pointOf_1 := dk_seg dksX4_pointOf_0 12 rfl rfl
theorem dksX4_pointOf_2 : cX4_pointOf.data.toList.drop 48 = dktX4_pointOf_2 := dk_seg dksX4_pointOf_1 36 rfl rfl
theorem dksX4_pointOf_3 : cX4_pointOf.data.toList.drop 72 = dktX4_pointOf_3 := dk_seg dksX4_pointOf_2 24 rfl rfl
theorem dX4_pointOf_0 : decode cX4_pointOf 0 = .ok (.aload_n 0, 1) := dk_42 (dk_at dksX4_pointOf_0 0 rfl rfl)
theorem dX4_pointOf_1 : decode cX4_pointOf 1 = .ok (.iload_n 1, 1) := dk_27 (dk_at dksX4_pointOf_0 1 rfl rfl)
theorem dX4_pointOf_2 : decode cX4_pointOf 2 = .ok (.invokevirtual 145, 3) := dk_182 0 145 (dk_at dksX4_pointOf_0 2 rfl rfl)
theorem dX4_pointOf_5 : decode cX4_pointOf 5 = .ok (.ifCond .ne 6, 3) := dk_154 0 6 (dk_at dksX4_pointOf_0 5 rfl rfl)
theorem dX4_pointOf_8 : decode cX4_pointOf 8 = .ok (.bipush (-2), 2) := dk_16 254 (dk_at dksX4_pointOf_0 8 rfl rfl)
theorem dX4_pointOf_10 : decode cX4_pointOf 10 = .ok (.ireturn, 1) := dk_172 (dk_at dksX4_pointOf_0 10 rfl rfl)
theorem dX4_pointOf_11 : decode cX4_pointOf 11 = .ok (.iload_n 2, 1) := dk_28 (dk_at dksX4_pointOf_0 11 rfl rfl)
theorem dX4_pointOf_12 : decode cX4_pointOf 12 = .ok (.tableswitch 73 0 4 #[36, 43, 50, 56, 63], 36) := by decide +kernel
theorem dX4_pointOf_48 : decode cX4_pointOf 48 = .ok (.aload_n 0, 1) := dk_42 (dk_at dksX4_pointOf_2 0 rfl rfl)
theorem dX4_pointOf_49 : decode cX4_pointOf 49 = .ok (.getfield 13, 3) := dk_180 0 13 (dk_at dksX4_pointOf_2 1 rfl rfl)
theorem dX4_pointOf_52 : decode cX4_pointOf 52 = .ok (.iload_n 1, 1) := dk_27 (dk_at dksX4_pointOf_2 4 rfl rfl)
theorem dX4_pointOf_53 : decode cX4_pointOf 53 = .ok (.iaload, 1) := dk_46 (dk_at dksX4_pointOf_2 5 rfl rfl)
theorem dX4_pointOf_54 : decode cX4_pointOf 54 = .ok (.ireturn, 1) := dk_172 (dk_at dksX4_pointOf_2 6 rfl rfl)
theorem dX4_pointOf_55 : decode cX4_pointOf 55 = .ok (.aload_n 0, 1) := dk_42 (dk_at dksX4_pointOf_2 7 rfl rfl)
theorem dX4_pointOf_56 : decode cX4_pointOf 56 = .ok (.getfield 17, 3) := dk_180 0 17 (dk_at dksX4_pointOf_2 8 rfl rfl)
theorem dX4_pointOf_59 : decode cX4_pointOf 59 = .ok (.iload_n 1, 1) := dk_27 (dk_at dksX4_pointOf_2 11 rfl rfl)
theorem dX4_pointOf_60 : decode cX4_pointOf 60 = .ok (.iaload, 1) := dk_46 (dk_at dksX4_pointOf_2 12 rfl rfl)
theorem dX4_pointOf_61 : decode cX4_pointOf 61 = .ok (.ireturn, 1) := dk_172 (dk_at dksX4_pointOf_2 13 rfl rfl)
theorem dX4_pointOf_62 : decode cX4_pointOf 62 = .ok (.aload_n 0, 1) := dk_42 (dk_at dksX4_pointOf_2 14 rfl rfl)
theorem dX4_pointOf_63 : decode cX4_pointOf 63 = .ok (.iload_n 1, 1) := dk_27 (dk_at dksX4_pointOf_2 15 rfl rfl)
theorem dX4_pointOf_64 : decode cX4_pointOf 64 = .ok (.invokevirtual 156, 3) := dk_182 0 156 (dk_at dksX4_pointOf_2 16 rfl rfl)
theorem dX4_pointOf_67 : decode cX4_pointOf 67 = .ok (.ireturn, 1) := dk_172 (dk_at dksX4_pointOf_2 19 rfl rfl)
theorem dX4_pointOf_68 : decode cX4_pointOf 68 = .ok (.aload_n 0, 1) := dk_42 (dk_at dksX4_pointOf_2 20 rfl rfl)
theorem dX4_pointOf_69 : decode cX4_pointOf 69 = .ok (.getfield 20, 3) := dk_180 0 20 (dk_at dksX4_pointOf_2 21 rfl rfl)
theorem dX4_pointOf_72 : decode cX4_pointOf 72 = .ok (.iload_n 1, 1) := dk_27 (dk_at dksX4_pointOf_3 0 rfl rfl)
theorem dX4_pointOf_73 : decode cX4_pointOf 73 = .ok (.iaload, 1) := dk_46 (dk_at dksX4_pointOf_3 1 rfl rfl)
theorem dX4_pointOf_74 : decode cX4_pointOf 74 = .ok (.ireturn, 1) := dk_172 (dk_at dksX4_pointOf_3 2 rfl rfl)
theorem dX4_pointOf_75 : decode cX4_pointOf 75 = .ok (.aload_n 0, 1) := dk_42 (dk_at dksX4_pointOf_3 3 rfl rfl)
theorem dX4_pointOf_76 : decode cX4_pointOf 76 = .ok (.getfield 20, 3) := dk_180 0 20 (dk_at dksX4_pointOf_3 4 rfl rfl)
theorem dX4_pointOf_79 : decode cX4_pointOf 79 = .ok (.iload_n 1, 1) := dk_27 (dk_at dksX4_pointOf_3 7 rfl rfl)
theorem dX4_pointOf_80 : decode cX4_pointOf 80 = .ok (.iaload, 1) := dk_46 (dk_at dksX4_pointOf_3 8 rfl rfl)
theorem dX4_pointOf_81 : decode cX4_pointOf 81 = .ok (.invokestatic 133, 3) := dk_184 0 133 (dk_at dksX4_pointOf_3 9 rfl rfl)
theorem dX4_pointOf_84 : decode cX4_pointOf 84 = .ok (.ireturn, 1) := dk_172 (dk_at dksX4_pointOf_3 12 rfl rfl)
theorem dX4_pointOf_85 : decode cX4_pointOf 85 = .ok (.bipush (-2), 2) := dk_16 254 (dk_at dksX4_pointOf_3 13 rfl rfl)
theorem dX4_pointOf_87 : decode cX4_pointOf 87 = .ok (.ireturn, 1) := dk_172 (dk_at dksX4_pointOf_3 15 rfl rfl)
abbrev cX4_costAt : ByteArray := prog_32_method_10_code
def yX4_costAt : MethodName := ⟨RX4, "costAt", "(I)I"⟩
def dkwX4_costAt_1 : List UInt8 := [184, 0, 137, 172]
abbrev dktX4_costAt_1 : List UInt8 := dkwX4_costAt_1 ++ []
def dkwX4_costAt_0 : List UInt8 := [42, 180, 0, 13, 27, 46, 42, 180, 0, 17, 27, 46, 42, 180, 0, 20, 27, 46, 184, 0, 133, 27]
abbrev dktX4_costAt_0 : List UInt8 := dkwX4_costAt_0 ++ dktX4_costAt_1
theorem dksX4_costAt_0 : cX4_costAt.data.toList.drop 0 = dktX4_costAt_0 := by decide +kernel
theorem dksX4_costAt_1 : cX4_costAt.data.toList.drop 22 = dktX4_costAt_1 := dk_seg dksX4_costAt_0 22 rfl rfl
theorem dX4_costAt_0 : decode cX4_costAt 0 = .ok (.aload_n 0, 1) := dk_42 (dk_at dksX4_costAt_0 0 rfl rfl)
theorem dX4_costAt_1 : decode cX4_costAt 1 = .ok (.getfield 13, 3) := dk_180 0 13 (dk_at dksX4_costAt_0 1 rfl rfl)
theorem dX4_costAt_4 : decode cX4_costAt 4 = .ok (.iload_n 1, 1) := dk_27 (dk_at dksX4_costAt_0 4 rfl rfl)
theorem dX4_costAt_5 : decode cX4_costAt 5 = .ok (.iaload, 1) := dk_46 (dk_at dksX4_costAt_0 5 rfl rfl)
theorem dX4_costAt_6 : decode cX4_costAt 6 = .ok (.aload_n 0, 1) := dk_42 (dk_at dksX4_costAt_0 6 rfl rfl)
theorem dX4_costAt_7 : decode cX4_costAt 7 = .ok (.getfield 17, 3) := dk_180 0 17 (dk_at dksX4_costAt_0 7 rfl rfl)
theorem dX4_costAt_10 : decode cX4_costAt 10 = .ok (.iload_n 1, 1) := dk_27 (dk_at dksX4_costAt_0 10 rfl rfl)
theorem dX4_costAt_11 : decode cX4_costAt 11 = .ok (.iaload, 1) := dk_46 (dk_at dksX4_costAt_0 11 rfl rfl)
theorem dX4_costAt_12 : decode cX4_costAt 12 = .ok (.aload_n 0, 1) := dk_42 (dk_at dksX4_costAt_0 12 rfl rfl)
theorem dX4_costAt_13 : decode cX4_costAt 13 = .ok (.getfield 20, 3) := dk_180 0 20 (dk_at dksX4_costAt_0 13 rfl rfl)
theorem dX4_costAt_16 : decode cX4_costAt 16 = .ok (.iload_n 1, 1) := dk_27 (dk_at dksX4_costAt_0 16 rfl rfl)
theorem dX4_costAt_17 : decode cX4_costAt 17 = .ok (.iaload, 1) := dk_46 (dk_at dksX4_costAt_0 17 rfl rfl)
theorem dX4_costAt_18 : decode cX4_costAt 18 = .ok (.invokestatic 133, 3) := dk_184 0 133 (dk_at dksX4_costAt_0 18 rfl rfl)
theorem dX4_costAt_21 : decode cX4_costAt 21 = .ok (.iload_n 1, 1) := dk_27 (dk_at dksX4_costAt_0 21 rfl rfl)
theorem dX4_costAt_22 : decode cX4_costAt 22 = .ok (.invokestatic 137, 3) := dk_184 0 137 (dk_at dksX4_costAt_1 0 rfl rfl)
theorem dX4_costAt_25 : decode cX4_costAt 25 = .ok (.ireturn, 1) := dk_172 (dk_at dksX4_costAt_1 3 rfl rfl)
abbrev cX4_bits : ByteArray := prog_32_method_4_code
def yX4_bits : MethodName := ⟨RX4, "bits", "(I)I"⟩
def dkwX4_bits_0 : List UInt8 := [3, 60, 26, 61, 28, 153, 0, 15, 132, 1, 1, 28, 28, 4, 100, 126, 61, 167, 255, 243, 27, 172]
abbrev dktX4_bits_0 : List UInt8 := dkwX4_bits_0 ++ []
theorem dksX4_bits_0 : cX4_bits.data.toList.drop 0 = dktX4_bits_0 := by decide +kernel
theorem dX4_bits_0 : decode cX4_bits 0 = .ok (.iconst 0, 1) := dk_3 (dk_at dksX4_bits_0 0 rfl rfl)
theorem dX4_bits_1 : decode cX4_bits 1 = .ok (.istore_n 1, 1) := dk_60 (dk_at dksX4_bits_0 1 rfl rfl)
theorem dX4_bits_2 : decode cX4_bits 2 = .ok (.iload_n 0, 1) := dk_26 (dk_at dksX4_bits_0 2 rfl rfl)
theorem dX4_bits_3 : decode cX4_bits 3 = .ok (.istore_n 2, 1) := dk_61 (dk_at dksX4_bits_0 3 rfl rfl)
theorem dX4_bits_4 : decode cX4_bits 4 = .ok (.iload_n 2, 1) := dk_28 (dk_at dksX4_bits_0 4 rfl rfl)
theorem dX4_bits_5 : decode cX4_bits 5 = .ok (.ifCond .eq 15, 3) := dk_153 0 15 (dk_at dksX4_bits_0 5 rfl rfl)
theorem dX4_bits_8 : decode cX4_bits 8 = .ok (.iinc 1 1, 3) := dk_132 1 1 (dk_at dksX4_bits_0 8 rfl rfl)
theorem dX4_bits_11 : decode cX4_bits 11 = .ok (.iload_n 2, 1) := dk_28 (dk_at dksX4_bits_0 11 rfl rfl)
theorem dX4_bits_12 : decode cX4_bits 12 = .ok (.iload_n 2, 1) := dk_28 (dk_at dksX4_bits_0 12 rfl rfl)
theorem dX4_bits_13 : decode cX4_bits 13 = .ok (.iconst 1, 1) := dk_4 (dk_at dksX4_bits_0 13 rfl rfl)
theorem dX4_bits_14 : decode cX4_bits 14 = .ok (.isub, 1) := dk_100 (dk_at dksX4_bits_0 14 rfl rfl)
theorem dX4_bits_15 : decode cX4_bits 15 = .ok (.iand, 1) := dk_126 (dk_at dksX4_bits_0 15 rfl rfl)
theorem dX4_bits_16 : decode cX4_bits 16 = .ok (.istore_n 2, 1) := dk_61 (dk_at dksX4_bits_0 16 rfl rfl)
theorem dX4_bits_17 : decode cX4_bits 17 = .ok (.goto (-13), 3) := dk_167 255 243 (dk_at dksX4_bits_0 17 rfl rfl)
theorem dX4_bits_20 : decode cX4_bits 20 = .ok (.iload_n 1, 1) := dk_27 (dk_at dksX4_bits_0 20 rfl rfl)
theorem dX4_bits_21 : decode cX4_bits 21 = .ok (.ireturn, 1) := dk_172 (dk_at dksX4_bits_0 21 rfl rfl)
abbrev cX4_cost : ByteArray := prog_32_method_9_code
def yX4_cost : MethodName := ⟨RX4, "cost", "(IIII)I"⟩
def dkwX4_cost_3 : List UInt8 := [27, 172]
abbrev dktX4_cost_3 : List UInt8 := dkwX4_cost_3 ++ []
def dkwX4_cost_2 : List UInt8 := [27, 28, 96, 172, 5, 27, 104, 172, 21, 4, 172, 5, 27, 104, 29, 96, 172, 21, 4, 5, 108, 4, 96, 172]
abbrev dktX4_cost_2 : List UInt8 := dkwX4_cost_2 ++ dktX4_cost_3
def dkwX4_cost_1 : List UInt8 := [170, 0, 0, 0, 0, 0, 59, 0, 0, 0, 1, 0, 0, 0, 5, 0, 0, 0, 35, 0, 0, 0, 39, 0, 0, 0, 43, 0, 0, 0, 46, 0, 0, 0, 52]
abbrev dktX4_cost_1 : List UInt8 := dkwX4_cost_1 ++ dktX4_cost_2
def dkwX4_cost_0 : List UInt8 := [27, 28, 96, 5, 100, 4, 162, 0, 7, 4, 167, 0, 8, 27, 28, 96, 5, 100, 54, 4, 26]
abbrev dktX4_cost_0 : List UInt8 := dkwX4_cost_0 ++ dktX4_cost_1
theorem dksX4_cost_0 : cX4_cost.data.toList.drop 0 = dktX4_cost_0 := by decide +kernel
theorem dksX4_cost_1 : cX4_cost.data.toList.drop 21 = dktX4_cost_1 := dk_seg dksX4_cost_0 21 rfl rfl
theorem dksX4_cost_2 : cX4_cost.data.toList.drop 56 = dktX4_cost_2 := dk_seg dksX4_cost_1 35 rfl rfl
theorem dksX4_cost_3 : cX4_cost.data.toList.drop 80 = dktX4_cost_3 := dk_seg dksX4_cost_2 24 rfl rfl
theorem dX4_cost_0 : decode cX4_cost 0 = .ok (.iload_n 1, 1) := dk_27 (dk_at dksX4_cost_0 0 rfl rfl)
theorem dX4_cost_1 : decode cX4_cost 1 = .ok (.iload_n 2, 1) := dk_28 (dk_at dksX4_cost_0 1 rfl rfl)
theorem dX4_cost_2 : decode cX4_cost 2 = .ok (.iadd, 1) := dk_96 (dk_at dksX4_cost_0 2 rfl rfl)
theorem dX4_cost_3 : decode cX4_cost 3 = .ok (.iconst 2, 1) := dk_5 (dk_at dksX4_cost_0 3 rfl rfl)
theorem dX4_cost_4 : decode cX4_cost 4 = .ok (.isub, 1) := dk_100 (dk_at dksX4_cost_0 4 rfl rfl)
theorem dX4_cost_5 : decode cX4_cost 5 = .ok (.iconst 1, 1) := dk_4 (dk_at dksX4_cost_0 5 rfl rfl)
theorem dX4_cost_6 : decode cX4_cost 6 = .ok (.if_icmp .ge 7, 3) := dk_162 0 7 (dk_at dksX4_cost_0 6 rfl rfl)
theorem dX4_cost_9 : decode cX4_cost 9 = .ok (.iconst 1, 1) := dk_4 (dk_at dksX4_cost_0 9 rfl rfl)
theorem dX4_cost_10 : decode cX4_cost 10 = .ok (.goto 8, 3) := dk_167 0 8 (dk_at dksX4_cost_0 10 rfl rfl)
theorem dX4_cost_13 : decode cX4_cost 13 = .ok (.iload_n 1, 1) := dk_27 (dk_at dksX4_cost_0 13 rfl rfl)
theorem dX4_cost_14 : decode cX4_cost 14 = .ok (.iload_n 2, 1) := dk_28 (dk_at dksX4_cost_0 14 rfl rfl)
theorem dX4_cost_15 : decode cX4_cost 15 = .ok (.iadd, 1) := dk_96 (dk_at dksX4_cost_0 15 rfl rfl)
theorem dX4_cost_16 : decode cX4_cost 16 = .ok (.iconst 2, 1) := dk_5 (dk_at dksX4_cost_0 16 rfl rfl)
theorem dX4_cost_17 : decode cX4_cost 17 = .ok (.isub, 1) := dk_100 (dk_at dksX4_cost_0 17 rfl rfl)
theorem dX4_cost_18 : decode cX4_cost 18 = .ok (.istore 4, 2) := dk_54 4 (dk_at dksX4_cost_0 18 rfl rfl)
theorem dX4_cost_20 : decode cX4_cost 20 = .ok (.iload_n 0, 1) := dk_26 (dk_at dksX4_cost_0 20 rfl rfl)
theorem dX4_cost_21 : decode cX4_cost 21 = .ok (.tableswitch 59 1 5 #[35, 39, 43, 46, 52], 35) := by decide +kernel
theorem dX4_cost_56 : decode cX4_cost 56 = .ok (.iload_n 1, 1) := dk_27 (dk_at dksX4_cost_2 0 rfl rfl)
theorem dX4_cost_57 : decode cX4_cost 57 = .ok (.iload_n 2, 1) := dk_28 (dk_at dksX4_cost_2 1 rfl rfl)
theorem dX4_cost_58 : decode cX4_cost 58 = .ok (.iadd, 1) := dk_96 (dk_at dksX4_cost_2 2 rfl rfl)
theorem dX4_cost_59 : decode cX4_cost 59 = .ok (.ireturn, 1) := dk_172 (dk_at dksX4_cost_2 3 rfl rfl)
theorem dX4_cost_60 : decode cX4_cost 60 = .ok (.iconst 2, 1) := dk_5 (dk_at dksX4_cost_2 4 rfl rfl)
theorem dX4_cost_61 : decode cX4_cost 61 = .ok (.iload_n 1, 1) := dk_27 (dk_at dksX4_cost_2 5 rfl rfl)
theorem dX4_cost_62 : decode cX4_cost 62 = .ok (.imul, 1) := dk_104 (dk_at dksX4_cost_2 6 rfl rfl)
theorem dX4_cost_63 : decode cX4_cost 63 = .ok (.ireturn, 1) := dk_172 (dk_at dksX4_cost_2 7 rfl rfl)
theorem dX4_cost_64 : decode cX4_cost 64 = .ok (.iload 4, 2) := dk_21 4 (dk_at dksX4_cost_2 8 rfl rfl)
theorem dX4_cost_66 : decode cX4_cost 66 = .ok (.ireturn, 1) := dk_172 (dk_at dksX4_cost_2 10 rfl rfl)
theorem dX4_cost_67 : decode cX4_cost 67 = .ok (.iconst 2, 1) := dk_5 (dk_at dksX4_cost_2 11 rfl rfl)
theorem dX4_cost_68 : decode cX4_cost 68 = .ok (.iload_n 1, 1) := dk_27 (dk_at dksX4_cost_2 12 rfl rfl)
theorem dX4_cost_69 : decode cX4_cost 69 = .ok (.imul, 1) := dk_104 (dk_at dksX4_cost_2 13 rfl rfl)
theorem dX4_cost_70 : decode cX4_cost 70 = .ok (.iload_n 3, 1) := dk_29 (dk_at dksX4_cost_2 14 rfl rfl)
theorem dX4_cost_71 : decode cX4_cost 71 = .ok (.iadd, 1) := dk_96 (dk_at dksX4_cost_2 15 rfl rfl)
theorem dX4_cost_72 : decode cX4_cost 72 = .ok (.ireturn, 1) := dk_172 (dk_at dksX4_cost_2 16 rfl rfl)
theorem dX4_cost_73 : decode cX4_cost 73 = .ok (.iload 4, 2) := dk_21 4 (dk_at dksX4_cost_2 17 rfl rfl)
theorem dX4_cost_75 : decode cX4_cost 75 = .ok (.iconst 2, 1) := dk_5 (dk_at dksX4_cost_2 19 rfl rfl)
theorem dX4_cost_76 : decode cX4_cost 76 = .ok (.idiv, 1) := dk_108 (dk_at dksX4_cost_2 20 rfl rfl)
theorem dX4_cost_77 : decode cX4_cost 77 = .ok (.iconst 1, 1) := dk_4 (dk_at dksX4_cost_2 21 rfl rfl)
theorem dX4_cost_78 : decode cX4_cost 78 = .ok (.iadd, 1) := dk_96 (dk_at dksX4_cost_2 22 rfl rfl)
theorem dX4_cost_79 : decode cX4_cost 79 = .ok (.ireturn, 1) := dk_172 (dk_at dksX4_cost_2 23 rfl rfl)
theorem dX4_cost_80 : decode cX4_cost 80 = .ok (.iload_n 1, 1) := dk_27 (dk_at dksX4_cost_3 0 rfl rfl)
theorem dX4_cost_81 : decode cX4_cost 81 = .ok (.ireturn, 1) := dk_172 (dk_at dksX4_cost_3 1 rfl rfl)
abbrev cX4_change : ByteArray := prog_32_method_17_code
def yX4_change : MethodName := ⟨RX4, "change", "(III)I"⟩
def dkwX4_change_3 : List UInt8 := [167, 0, 10, 42, 180, 0, 17, 27, 29, 79, 21, 4, 172]
abbrev dktX4_change_3 : List UInt8 := dkwX4_change_3 ++ []
def dkwX4_change_2 : List UInt8 := [167, 0, 9, 42, 180, 0, 17, 27, 46, 54, 4, 28, 154, 0, 13, 42, 180, 0, 13, 27, 29, 79]
abbrev dktX4_change_2 : List UInt8 := dkwX4_change_2 ++ dktX4_change_3
def dkwX4_change_1 : List UInt8 := [167, 0, 5, 16, 9, 184, 0, 125, 154, 0, 6, 16, 254, 172, 28, 154, 0, 12, 42, 180, 0, 13, 27, 46]
abbrev dktX4_change_1 : List UInt8 := dkwX4_change_1 ++ dktX4_change_2
def dkwX4_change_0 : List UInt8 := [42, 27, 182, 0, 145, 153, 0, 30, 28, 3, 4, 184, 0, 125, 153, 0, 21, 29, 28, 28, 154, 0, 7, 8]
abbrev dktX4_change_0 : List UInt8 := dkwX4_change_0 ++ dktX4_change_1
theorem dksX4_change_0 : cX4_change.data.toList.drop 0 = dktX4_change_0 := by decide +kernel
theorem dksX4_change_1 : cX4_change.data.toList.drop 24 = dktX4_change_1 := dk_seg dksX4_change_0 24 rfl rfl
theorem dksX4_change_2 : cX4_change.data.toList.drop 48 = dktX4_change_2 := dk_seg dksX4_change_1 24 rfl rfl
theorem dksX4_change_3 : cX4_change.data.toList.drop 70 = dktX4_change_3 := dk_seg dksX4_change_2 22 rfl rfl
theorem dX4_change_0 : decode cX4_change 0 = .ok (.aload_n 0, 1) := dk_42 (dk_at dksX4_change_0 0 rfl rfl)
theorem dX4_change_1 : decode cX4_change 1 = .ok (.iload_n 1, 1) := dk_27 (dk_at dksX4_change_0 1 rfl rfl)
theorem dX4_change_2 : decode cX4_change 2 = .ok (.invokevirtual 145, 3) := dk_182 0 145 (dk_at dksX4_change_0 2 rfl rfl)
theorem dX4_change_5 : decode cX4_change 5 = .ok (.ifCond .eq 30, 3) := dk_153 0 30 (dk_at dksX4_change_0 5 rfl rfl)
theorem dX4_change_8 : decode cX4_change 8 = .ok (.iload_n 2, 1) := dk_28 (dk_at dksX4_change_0 8 rfl rfl)
theorem dX4_change_9 : decode cX4_change 9 = .ok (.iconst 0, 1) := dk_3 (dk_at dksX4_change_0 9 rfl rfl)
theorem dX4_change_10 : decode cX4_change 10 = .ok (.iconst 1, 1) := dk_4 (dk_at dksX4_change_0 10 rfl rfl)
theorem dX4_change_11 : decode cX4_change 11 = .ok (.invokestatic 125, 3) := dk_184 0 125 (dk_at dksX4_change_0 11 rfl rfl)
theorem dX4_change_14 : decode cX4_change 14 = .ok (.ifCond .eq 21, 3) := dk_153 0 21 (dk_at dksX4_change_0 14 rfl rfl)
theorem dX4_change_17 : decode cX4_change 17 = .ok (.iload_n 3, 1) := dk_29 (dk_at dksX4_change_0 17 rfl rfl)
theorem dX4_change_18 : decode cX4_change 18 = .ok (.iload_n 2, 1) := dk_28 (dk_at dksX4_change_0 18 rfl rfl)
theorem dX4_change_19 : decode cX4_change 19 = .ok (.iload_n 2, 1) := dk_28 (dk_at dksX4_change_0 19 rfl rfl)
theorem dX4_change_20 : decode cX4_change 20 = .ok (.ifCond .ne 7, 3) := dk_154 0 7 (dk_at dksX4_change_0 20 rfl rfl)
theorem dX4_change_23 : decode cX4_change 23 = .ok (.iconst 5, 1) := dk_8 (dk_at dksX4_change_0 23 rfl rfl)
theorem dX4_change_24 : decode cX4_change 24 = .ok (.goto 5, 3) := dk_167 0 5 (dk_at dksX4_change_1 0 rfl rfl)
theorem dX4_change_27 : decode cX4_change 27 = .ok (.bipush 9, 2) := dk_16 9 (dk_at dksX4_change_1 3 rfl rfl)
theorem dX4_change_29 : decode cX4_change 29 = .ok (.invokestatic 125, 3) := dk_184 0 125 (dk_at dksX4_change_1 5 rfl rfl)
theorem dX4_change_32 : decode cX4_change 32 = .ok (.ifCond .ne 6, 3) := dk_154 0 6 (dk_at dksX4_change_1 8 rfl rfl)
theorem dX4_change_35 : decode cX4_change 35 = .ok (.bipush (-2), 2) := dk_16 254 (dk_at dksX4_change_1 11 rfl rfl)
theorem dX4_change_37 : decode cX4_change 37 = .ok (.ireturn, 1) := dk_172 (dk_at dksX4_change_1 13 rfl rfl)
theorem dX4_change_38 : decode cX4_change 38 = .ok (.iload_n 2, 1) := dk_28 (dk_at dksX4_change_1 14 rfl rfl)
theorem dX4_change_39 : decode cX4_change 39 = .ok (.ifCond .ne 12, 3) := dk_154 0 12 (dk_at dksX4_change_1 15 rfl rfl)
theorem dX4_change_42 : decode cX4_change 42 = .ok (.aload_n 0, 1) := dk_42 (dk_at dksX4_change_1 18 rfl rfl)
theorem dX4_change_43 : decode cX4_change 43 = .ok (.getfield 13, 3) := dk_180 0 13 (dk_at dksX4_change_1 19 rfl rfl)
theorem dX4_change_46 : decode cX4_change 46 = .ok (.iload_n 1, 1) := dk_27 (dk_at dksX4_change_1 22 rfl rfl)
theorem dX4_change_47 : decode cX4_change 47 = .ok (.iaload, 1) := dk_46 (dk_at dksX4_change_1 23 rfl rfl)
theorem dX4_change_48 : decode cX4_change 48 = .ok (.goto 9, 3) := dk_167 0 9 (dk_at dksX4_change_2 0 rfl rfl)
theorem dX4_change_51 : decode cX4_change 51 = .ok (.aload_n 0, 1) := dk_42 (dk_at dksX4_change_2 3 rfl rfl)
theorem dX4_change_52 : decode cX4_change 52 = .ok (.getfield 17, 3) := dk_180 0 17 (dk_at dksX4_change_2 4 rfl rfl)
theorem dX4_change_55 : decode cX4_change 55 = .ok (.iload_n 1, 1) := dk_27 (dk_at dksX4_change_2 7 rfl rfl)
theorem dX4_change_56 : decode cX4_change 56 = .ok (.iaload, 1) := dk_46 (dk_at dksX4_change_2 8 rfl rfl)
theorem dX4_change_57 : decode cX4_change 57 = .ok (.istore 4, 2) := dk_54 4 (dk_at dksX4_change_2 9 rfl rfl)
theorem dX4_change_59 : decode cX4_change 59 = .ok (.iload_n 2, 1) := dk_28 (dk_at dksX4_change_2 11 rfl rfl)
theorem dX4_change_60 : decode cX4_change 60 = .ok (.ifCond .ne 13, 3) := dk_154 0 13 (dk_at dksX4_change_2 12 rfl rfl)
theorem dX4_change_63 : decode cX4_change 63 = .ok (.aload_n 0, 1) := dk_42 (dk_at dksX4_change_2 15 rfl rfl)
theorem dX4_change_64 : decode cX4_change 64 = .ok (.getfield 13, 3) := dk_180 0 13 (dk_at dksX4_change_2 16 rfl rfl)
theorem dX4_change_67 : decode cX4_change 67 = .ok (.iload_n 1, 1) := dk_27 (dk_at dksX4_change_2 19 rfl rfl)
theorem dX4_change_68 : decode cX4_change 68 = .ok (.iload_n 3, 1) := dk_29 (dk_at dksX4_change_2 20 rfl rfl)
theorem dX4_change_69 : decode cX4_change 69 = .ok (.iastore, 1) := dk_79 (dk_at dksX4_change_2 21 rfl rfl)
theorem dX4_change_70 : decode cX4_change 70 = .ok (.goto 10, 3) := dk_167 0 10 (dk_at dksX4_change_3 0 rfl rfl)
theorem dX4_change_73 : decode cX4_change 73 = .ok (.aload_n 0, 1) := dk_42 (dk_at dksX4_change_3 3 rfl rfl)
theorem dX4_change_74 : decode cX4_change 74 = .ok (.getfield 17, 3) := dk_180 0 17 (dk_at dksX4_change_3 4 rfl rfl)
theorem dX4_change_77 : decode cX4_change 77 = .ok (.iload_n 1, 1) := dk_27 (dk_at dksX4_change_3 7 rfl rfl)
theorem dX4_change_78 : decode cX4_change 78 = .ok (.iload_n 3, 1) := dk_29 (dk_at dksX4_change_3 8 rfl rfl)
theorem dX4_change_79 : decode cX4_change 79 = .ok (.iastore, 1) := dk_79 (dk_at dksX4_change_3 9 rfl rfl)
theorem dX4_change_80 : decode cX4_change 80 = .ok (.iload 4, 2) := dk_21 4 (dk_at dksX4_change_3 10 rfl rfl)
theorem dX4_change_82 : decode cX4_change 82 = .ok (.ireturn, 1) := dk_172 (dk_at dksX4_change_3 12 rfl rfl)
abbrev cX4_count : ByteArray := prog_32_method_19_code
def yX4_count : MethodName := ⟨RX4, "count", "(I)I"⟩
def dkwX4_count_4 : List UInt8 := [180, 0, 165, 172, 16, 254, 172]
abbrev dktX4_count_4 : List UInt8 := dkwX4_count_4 ++ []
def dkwX4_count_3 : List UInt8 := [42, 180, 0, 122, 172, 42, 182, 0, 159, 172, 28, 172, 42, 180, 0, 162, 172, 42, 180, 0, 7, 172, 42]
abbrev dktX4_count_3 : List UInt8 := dkwX4_count_3 ++ dktX4_count_4
def dkwX4_count_2 : List UInt8 := [170, 0, 0, 0, 0, 0, 0, 67, 0, 0, 0, 0, 0, 0, 0, 5, 0, 0, 0, 40, 0, 0, 0, 45, 0, 0, 0, 50, 0, 0, 0, 52, 0, 0, 0, 57, 0, 0, 0, 62]
abbrev dktX4_count_2 : List UInt8 := dkwX4_count_2 ++ dktX4_count_3
def dkwX4_count_1 : List UInt8 := [167, 0, 4, 3, 96, 61, 132, 3, 1, 167, 255, 228, 27]
abbrev dktX4_count_1 : List UInt8 := dkwX4_count_1 ++ dktX4_count_2
def dkwX4_count_0 : List UInt8 := [3, 61, 3, 62, 29, 42, 180, 0, 122, 162, 0, 26, 28, 42, 180, 0, 20, 29, 46, 154, 0, 7, 4]
abbrev dktX4_count_0 : List UInt8 := dkwX4_count_0 ++ dktX4_count_1
theorem dksX4_count_0 : cX4_count.data.toList.drop 0 = dktX4_count_0 := by decide +kernel
theorem dksX4_count_1 : cX4_count.data.toList.drop 23 = dktX4_count_1 := dk_seg dksX4_count_0 23 rfl rfl
theorem dksX4_count_2 : cX4_count.data.toList.drop 36 = dktX4_count_2 := dk_seg dksX4_count_1 13 rfl rfl
theorem dksX4_count_3 : cX4_count.data.toList.drop 76 = dktX4_count_3 := dk_seg dksX4_count_2 40 rfl rfl
theorem dksX4_count_4 : cX4_count.data.toList.drop 99 = dktX4_count_4 := dk_seg dksX4_count_3 23 rfl rfl
theorem dX4_count_0 : decode cX4_count 0 = .ok (.iconst 0, 1) := dk_3 (dk_at dksX4_count_0 0 rfl rfl)
theorem dX4_count_1 : decode cX4_count 1 = .ok (.istore_n 2, 1) := dk_61 (dk_at dksX4_count_0 1 rfl rfl)
theorem dX4_count_2 : decode cX4_count 2 = .ok (.iconst 0, 1) := dk_3 (dk_at dksX4_count_0 2 rfl rfl)
theorem dX4_count_3 : decode cX4_count 3 = .ok (.istore_n 3, 1) := dk_62 (dk_at dksX4_count_0 3 rfl rfl)
theorem dX4_count_4 : decode cX4_count 4 = .ok (.iload_n 3, 1) := dk_29 (dk_at dksX4_count_0 4 rfl rfl)
theorem dX4_count_5 : decode cX4_count 5 = .ok (.aload_n 0, 1) := dk_42 (dk_at dksX4_count_0 5 rfl rfl)
theorem dX4_count_6 : decode cX4_count 6 = .ok (.getfield 122, 3) := dk_180 0 122 (dk_at dksX4_count_0 6 rfl rfl)
theorem dX4_count_9 : decode cX4_count 9 = .ok (.if_icmp .ge 26, 3) := dk_162 0 26 (dk_at dksX4_count_0 9 rfl rfl)
theorem dX4_count_12 : decode cX4_count 12 = .ok (.iload_n 2, 1) := dk_28 (dk_at dksX4_count_0 12 rfl rfl)
theorem dX4_count_13 : decode cX4_count 13 = .ok (.aload_n 0, 1) := dk_42 (dk_at dksX4_count_0 13 rfl rfl)
theorem dX4_count_14 : decode cX4_count 14 = .ok (.getfield 20, 3) := dk_180 0 20 (dk_at dksX4_count_0 14 rfl rfl)
theorem dX4_count_17 : decode cX4_count 17 = .ok (.iload_n 3, 1) := dk_29 (dk_at dksX4_count_0 17 rfl rfl)
theorem dX4_count_18 : decode cX4_count 18 = .ok (.iaload, 1) := dk_46 (dk_at dksX4_count_0 18 rfl rfl)
theorem dX4_count_19 : decode cX4_count 19 = .ok (.ifCond .ne 7, 3) := dk_154 0 7 (dk_at dksX4_count_0 19 rfl rfl)
theorem dX4_count_22 : decode cX4_count 22 = .ok (.iconst 1, 1) := dk_4 (dk_at dksX4_count_0 22 rfl rfl)
theorem dX4_count_23 : decode cX4_count 23 = .ok (.goto 4, 3) := dk_167 0 4 (dk_at dksX4_count_1 0 rfl rfl)
theorem dX4_count_26 : decode cX4_count 26 = .ok (.iconst 0, 1) := dk_3 (dk_at dksX4_count_1 3 rfl rfl)
theorem dX4_count_27 : decode cX4_count 27 = .ok (.iadd, 1) := dk_96 (dk_at dksX4_count_1 4 rfl rfl)
theorem dX4_count_28 : decode cX4_count 28 = .ok (.istore_n 2, 1) := dk_61 (dk_at dksX4_count_1 5 rfl rfl)
theorem dX4_count_29 : decode cX4_count 29 = .ok (.iinc 3 1, 3) := dk_132 3 1 (dk_at dksX4_count_1 6 rfl rfl)
theorem dX4_count_32 : decode cX4_count 32 = .ok (.goto (-28), 3) := dk_167 255 228 (dk_at dksX4_count_1 9 rfl rfl)
theorem dX4_count_35 : decode cX4_count 35 = .ok (.iload_n 1, 1) := dk_27 (dk_at dksX4_count_1 12 rfl rfl)
theorem dX4_count_36 : decode cX4_count 36 = .ok (.tableswitch 67 0 5 #[40, 45, 50, 52, 57, 62], 40) := by decide +kernel
theorem dX4_count_76 : decode cX4_count 76 = .ok (.aload_n 0, 1) := dk_42 (dk_at dksX4_count_3 0 rfl rfl)
theorem dX4_count_77 : decode cX4_count 77 = .ok (.getfield 122, 3) := dk_180 0 122 (dk_at dksX4_count_3 1 rfl rfl)
theorem dX4_count_80 : decode cX4_count 80 = .ok (.ireturn, 1) := dk_172 (dk_at dksX4_count_3 4 rfl rfl)
theorem dX4_count_81 : decode cX4_count 81 = .ok (.aload_n 0, 1) := dk_42 (dk_at dksX4_count_3 5 rfl rfl)
theorem dX4_count_82 : decode cX4_count 82 = .ok (.invokevirtual 159, 3) := dk_182 0 159 (dk_at dksX4_count_3 6 rfl rfl)
theorem dX4_count_85 : decode cX4_count 85 = .ok (.ireturn, 1) := dk_172 (dk_at dksX4_count_3 9 rfl rfl)
theorem dX4_count_86 : decode cX4_count 86 = .ok (.iload_n 2, 1) := dk_28 (dk_at dksX4_count_3 10 rfl rfl)
theorem dX4_count_87 : decode cX4_count 87 = .ok (.ireturn, 1) := dk_172 (dk_at dksX4_count_3 11 rfl rfl)
theorem dX4_count_88 : decode cX4_count 88 = .ok (.aload_n 0, 1) := dk_42 (dk_at dksX4_count_3 12 rfl rfl)
theorem dX4_count_89 : decode cX4_count 89 = .ok (.getfield 162, 3) := dk_180 0 162 (dk_at dksX4_count_3 13 rfl rfl)
theorem dX4_count_92 : decode cX4_count 92 = .ok (.ireturn, 1) := dk_172 (dk_at dksX4_count_3 16 rfl rfl)
theorem dX4_count_93 : decode cX4_count 93 = .ok (.aload_n 0, 1) := dk_42 (dk_at dksX4_count_3 17 rfl rfl)
theorem dX4_count_94 : decode cX4_count 94 = .ok (.getfield 7, 3) := dk_180 0 7 (dk_at dksX4_count_3 18 rfl rfl)
theorem dX4_count_97 : decode cX4_count 97 = .ok (.ireturn, 1) := dk_172 (dk_at dksX4_count_3 21 rfl rfl)
theorem dX4_count_98 : decode cX4_count 98 = .ok (.aload_n 0, 1) := dk_42 (dk_at dksX4_count_3 22 rfl rfl)
theorem dX4_count_99 : decode cX4_count 99 = .ok (.getfield 165, 3) := dk_180 0 165 (dk_at dksX4_count_4 0 rfl rfl)
theorem dX4_count_102 : decode cX4_count 102 = .ok (.ireturn, 1) := dk_172 (dk_at dksX4_count_4 3 rfl rfl)
theorem dX4_count_103 : decode cX4_count 103 = .ok (.bipush (-2), 2) := dk_16 254 (dk_at dksX4_count_4 4 rfl rfl)
theorem dX4_count_105 : decode cX4_count 105 = .ok (.ireturn, 1) := dk_172 (dk_at dksX4_count_4 6 rfl rfl)
abbrev cX4_lineMany : ByteArray := prog_32_method_18_code
def yX4_lineMany : MethodName := ⟨RX4, "lineMany", "()I"⟩
def dkwX4_lineMany_1 : List UInt8 := [132, 2, 1, 167, 255, 233, 27, 5, 108, 172]
abbrev dktX4_lineMany_1 : List UInt8 := dkwX4_lineMany_1 ++ []
def dkwX4_lineMany_0 : List UInt8 := [3, 60, 3, 61, 28, 42, 180, 0, 122, 162, 0, 21, 27, 42, 180, 0, 20, 28, 46, 184, 0, 133, 96, 60]
abbrev dktX4_lineMany_0 : List UInt8 := dkwX4_lineMany_0 ++ dktX4_lineMany_1
theorem dksX4_lineMany_0 : cX4_lineMany.data.toList.drop 0 = dktX4_lineMany_0 := by decide +kernel
theorem dksX4_lineMany_1 : cX4_lineMany.data.toList.drop 24 = dktX4_lineMany_1 := dk_seg dksX4_lineMany_0 24 rfl rfl
theorem dX4_lineMany_0 : decode cX4_lineMany 0 = .ok (.iconst 0, 1) := dk_3 (dk_at dksX4_lineMany_0 0 rfl rfl)
theorem dX4_lineMany_1 : decode cX4_lineMany 1 = .ok (.istore_n 1, 1) := dk_60 (dk_at dksX4_lineMany_0 1 rfl rfl)
theorem dX4_lineMany_2 : decode cX4_lineMany 2 = .ok (.iconst 0, 1) := dk_3 (dk_at dksX4_lineMany_0 2 rfl rfl)
theorem dX4_lineMany_3 : decode cX4_lineMany 3 = .ok (.istore_n 2, 1) := dk_61 (dk_at dksX4_lineMany_0 3 rfl rfl)
theorem dX4_lineMany_4 : decode cX4_lineMany 4 = .ok (.iload_n 2, 1) := dk_28 (dk_at dksX4_lineMany_0 4 rfl rfl)
theorem dX4_lineMany_5 : decode cX4_lineMany 5 = .ok (.aload_n 0, 1) := dk_42 (dk_at dksX4_lineMany_0 5 rfl rfl)
theorem dX4_lineMany_6 : decode cX4_lineMany 6 = .ok (.getfield 122, 3) := dk_180 0 122 (dk_at dksX4_lineMany_0 6 rfl rfl)
theorem dX4_lineMany_9 : decode cX4_lineMany 9 = .ok (.if_icmp .ge 21, 3) := dk_162 0 21 (dk_at dksX4_lineMany_0 9 rfl rfl)
theorem dX4_lineMany_12 : decode cX4_lineMany 12 = .ok (.iload_n 1, 1) := dk_27 (dk_at dksX4_lineMany_0 12 rfl rfl)
theorem dX4_lineMany_13 : decode cX4_lineMany 13 = .ok (.aload_n 0, 1) := dk_42 (dk_at dksX4_lineMany_0 13 rfl rfl)
theorem dX4_lineMany_14 : decode cX4_lineMany 14 = .ok (.getfield 20, 3) := dk_180 0 20 (dk_at dksX4_lineMany_0 14 rfl rfl)
theorem dX4_lineMany_17 : decode cX4_lineMany 17 = .ok (.iload_n 2, 1) := dk_28 (dk_at dksX4_lineMany_0 17 rfl rfl)
theorem dX4_lineMany_18 : decode cX4_lineMany 18 = .ok (.iaload, 1) := dk_46 (dk_at dksX4_lineMany_0 18 rfl rfl)
theorem dX4_lineMany_19 : decode cX4_lineMany 19 = .ok (.invokestatic 133, 3) := dk_184 0 133 (dk_at dksX4_lineMany_0 19 rfl rfl)
theorem dX4_lineMany_22 : decode cX4_lineMany 22 = .ok (.iadd, 1) := dk_96 (dk_at dksX4_lineMany_0 22 rfl rfl)
theorem dX4_lineMany_23 : decode cX4_lineMany 23 = .ok (.istore_n 1, 1) := dk_60 (dk_at dksX4_lineMany_0 23 rfl rfl)
theorem dX4_lineMany_24 : decode cX4_lineMany 24 = .ok (.iinc 2 1, 3) := dk_132 2 1 (dk_at dksX4_lineMany_1 0 rfl rfl)
theorem dX4_lineMany_27 : decode cX4_lineMany 27 = .ok (.goto (-23), 3) := dk_167 255 233 (dk_at dksX4_lineMany_1 3 rfl rfl)
theorem dX4_lineMany_30 : decode cX4_lineMany 30 = .ok (.iload_n 1, 1) := dk_27 (dk_at dksX4_lineMany_1 6 rfl rfl)
theorem dX4_lineMany_31 : decode cX4_lineMany 31 = .ok (.iconst 2, 1) := dk_5 (dk_at dksX4_lineMany_1 7 rfl rfl)
theorem dX4_lineMany_32 : decode cX4_lineMany 32 = .ok (.idiv, 1) := dk_108 (dk_at dksX4_lineMany_1 8 rfl rfl)
theorem dX4_lineMany_33 : decode cX4_lineMany 33 = .ok (.ireturn, 1) := dk_172 (dk_at dksX4_lineMany_1 9 rfl rfl)
abbrev cX4_isCover : ByteArray := prog_32_method_22_code
def yX4_isCover : MethodName := ⟨RX4, "isCover", "(I)I"⟩
def dkwX4_isCover_1 : List UInt8 := [167, 0, 16, 42, 27, 182, 0, 168, 153, 0, 7, 4, 167, 0, 4, 3, 172]
abbrev dktX4_isCover_1 : List UInt8 := dkwX4_isCover_1 ++ []
def dkwX4_isCover_0 : List UInt8 := [42, 27, 182, 0, 171, 154, 0, 8, 16, 254, 167, 0, 28, 42, 27, 182, 0, 174, 153, 0, 7, 5]
abbrev dktX4_isCover_0 : List UInt8 := dkwX4_isCover_0 ++ dktX4_isCover_1
theorem dksX4_isCover_0 : cX4_isCover.data.toList.drop 0 = dktX4_isCover_0 := by decide +kernel
theorem dksX4_isCover_1 : cX4_isCover.data.toList.drop 22 = dktX4_isCover_1 := dk_seg dksX4_isCover_0 22 rfl rfl
theorem dX4_isCover_0 : decode cX4_isCover 0 = .ok (.aload_n 0, 1) := dk_42 (dk_at dksX4_isCover_0 0 rfl rfl)
theorem dX4_isCover_1 : decode cX4_isCover 1 = .ok (.iload_n 1, 1) := dk_27 (dk_at dksX4_isCover_0 1 rfl rfl)
theorem dX4_isCover_2 : decode cX4_isCover 2 = .ok (.invokevirtual 171, 3) := dk_182 0 171 (dk_at dksX4_isCover_0 2 rfl rfl)
theorem dX4_isCover_5 : decode cX4_isCover 5 = .ok (.ifCond .ne 8, 3) := dk_154 0 8 (dk_at dksX4_isCover_0 5 rfl rfl)
theorem dX4_isCover_8 : decode cX4_isCover 8 = .ok (.bipush (-2), 2) := dk_16 254 (dk_at dksX4_isCover_0 8 rfl rfl)
theorem dX4_isCover_10 : decode cX4_isCover 10 = .ok (.goto 28, 3) := dk_167 0 28 (dk_at dksX4_isCover_0 10 rfl rfl)
theorem dX4_isCover_13 : decode cX4_isCover 13 = .ok (.aload_n 0, 1) := dk_42 (dk_at dksX4_isCover_0 13 rfl rfl)
theorem dX4_isCover_14 : decode cX4_isCover 14 = .ok (.iload_n 1, 1) := dk_27 (dk_at dksX4_isCover_0 14 rfl rfl)
theorem dX4_isCover_15 : decode cX4_isCover 15 = .ok (.invokevirtual 174, 3) := dk_182 0 174 (dk_at dksX4_isCover_0 15 rfl rfl)
theorem dX4_isCover_18 : decode cX4_isCover 18 = .ok (.ifCond .eq 7, 3) := dk_153 0 7 (dk_at dksX4_isCover_0 18 rfl rfl)
theorem dX4_isCover_21 : decode cX4_isCover 21 = .ok (.iconst 2, 1) := dk_5 (dk_at dksX4_isCover_0 21 rfl rfl)
theorem dX4_isCover_22 : decode cX4_isCover 22 = .ok (.goto 16, 3) := dk_167 0 16 (dk_at dksX4_isCover_1 0 rfl rfl)
theorem dX4_isCover_25 : decode cX4_isCover 25 = .ok (.aload_n 0, 1) := dk_42 (dk_at dksX4_isCover_1 3 rfl rfl)
theorem dX4_isCover_26 : decode cX4_isCover 26 = .ok (.iload_n 1, 1) := dk_27 (dk_at dksX4_isCover_1 4 rfl rfl)
theorem dX4_isCover_27 : decode cX4_isCover 27 = .ok (.invokevirtual 168, 3) := dk_182 0 168 (dk_at dksX4_isCover_1 5 rfl rfl)
theorem dX4_isCover_30 : decode cX4_isCover 30 = .ok (.ifCond .eq 7, 3) := dk_153 0 7 (dk_at dksX4_isCover_1 8 rfl rfl)
theorem dX4_isCover_33 : decode cX4_isCover 33 = .ok (.iconst 1, 1) := dk_4 (dk_at dksX4_isCover_1 11 rfl rfl)
theorem dX4_isCover_34 : decode cX4_isCover 34 = .ok (.goto 4, 3) := dk_167 0 4 (dk_at dksX4_isCover_1 12 rfl rfl)
theorem dX4_isCover_37 : decode cX4_isCover 37 = .ok (.iconst 0, 1) := dk_3 (dk_at dksX4_isCover_1 15 rfl rfl)
theorem dX4_isCover_38 : decode cX4_isCover 38 = .ok (.ireturn, 1) := dk_172 (dk_at dksX4_isCover_1 16 rfl rfl)
abbrev cX4_isSet : ByteArray := prog_32_method_8_code
def yX4_isSet : MethodName := ⟨RX4, "isSet", "(I)Z"⟩
def dkwX4_isSet_0 : List UInt8 := [27, 42, 182, 0, 129, 2, 130, 126, 154, 0, 7, 4, 167, 0, 4, 3, 172]
abbrev dktX4_isSet_0 : List UInt8 := dkwX4_isSet_0 ++ []
theorem dksX4_isSet_0 : cX4_isSet.data.toList.drop 0 = dktX4_isSet_0 := by decide +kernel
theorem dX4_isSet_0 : decode cX4_isSet 0 = .ok (.iload_n 1, 1) := dk_27 (dk_at dksX4_isSet_0 0 rfl rfl)
theorem dX4_isSet_1 : decode cX4_isSet 1 = .ok (.aload_n 0, 1) := dk_42 (dk_at dksX4_isSet_0 1 rfl rfl)
theorem dX4_isSet_2 : decode cX4_isSet 2 = .ok (.invokevirtual 129, 3) := dk_182 0 129 (dk_at dksX4_isSet_0 2 rfl rfl)
theorem dX4_isSet_5 : decode cX4_isSet 5 = .ok (.iconst (-1), 1) := dk_2 (dk_at dksX4_isSet_0 5 rfl rfl)
theorem dX4_isSet_6 : decode cX4_isSet 6 = .ok (.ixor, 1) := dk_130 (dk_at dksX4_isSet_0 6 rfl rfl)
theorem dX4_isSet_7 : decode cX4_isSet 7 = .ok (.iand, 1) := dk_126 (dk_at dksX4_isSet_0 7 rfl rfl)
theorem dX4_isSet_8 : decode cX4_isSet 8 = .ok (.ifCond .ne 7, 3) := dk_154 0 7 (dk_at dksX4_isSet_0 8 rfl rfl)
theorem dX4_isSet_11 : decode cX4_isSet 11 = .ok (.iconst 1, 1) := dk_4 (dk_at dksX4_isSet_0 11 rfl rfl)
theorem dX4_isSet_12 : decode cX4_isSet 12 = .ok (.goto 4, 3) := dk_167 0 4 (dk_at dksX4_isSet_0 12 rfl rfl)
theorem dX4_isSet_15 : decode cX4_isSet 15 = .ok (.iconst 0, 1) := dk_3 (dk_at dksX4_isSet_0 15 rfl rfl)
theorem dX4_isSet_16 : decode cX4_isSet 16 = .ok (.ireturn, 1) := dk_172 (dk_at dksX4_isSet_0 16 rfl rfl)
abbrev cX4_all : ByteArray := prog_32_method_6_code
def yX4_all : MethodName := ⟨RX4, "all", "()I"⟩
def dkwX4_all_0 : List UInt8 := [4, 42, 180, 0, 122, 120, 4, 100, 172]
abbrev dktX4_all_0 : List UInt8 := dkwX4_all_0 ++ []
theorem dksX4_all_0 : cX4_all.data.toList.drop 0 = dktX4_all_0 := by decide +kernel
theorem dX4_all_0 : decode cX4_all 0 = .ok (.iconst 1, 1) := dk_4 (dk_at dksX4_all_0 0 rfl rfl)
theorem dX4_all_1 : decode cX4_all 1 = .ok (.aload_n 0, 1) := dk_42 (dk_at dksX4_all_0 1 rfl rfl)
theorem dX4_all_2 : decode cX4_all 2 = .ok (.getfield 122, 3) := dk_180 0 122 (dk_at dksX4_all_0 2 rfl rfl)
theorem dX4_all_5 : decode cX4_all 5 = .ok (.ishl, 1) := dk_120 (dk_at dksX4_all_0 5 rfl rfl)
theorem dX4_all_6 : decode cX4_all 6 = .ok (.iconst 1, 1) := dk_4 (dk_at dksX4_all_0 6 rfl rfl)
theorem dX4_all_7 : decode cX4_all 7 = .ok (.isub, 1) := dk_100 (dk_at dksX4_all_0 7 rfl rfl)
theorem dX4_all_8 : decode cX4_all 8 = .ok (.ireturn, 1) := dk_172 (dk_at dksX4_all_0 8 rfl rfl)
abbrev cX4_isBare : ByteArray := prog_32_method_21_code
def yX4_isBare : MethodName := ⟨RX4, "isBare", "(I)Z"⟩
def dkwX4_isBare_2 : List UInt8 := [61, 132, 3, 1, 167, 255, 214, 28, 172]
abbrev dktX4_isBare_2 : List UInt8 := dkwX4_isBare_2 ++ []
def dkwX4_isBare_1 : List UInt8 := [184, 0, 118, 153, 0, 16, 42, 180, 0, 20, 29, 46, 27, 2, 130, 126, 153, 0, 7, 4, 167, 0, 4, 3]
abbrev dktX4_isBare_1 : List UInt8 := dkwX4_isBare_1 ++ dktX4_isBare_2
def dkwX4_isBare_0 : List UInt8 := [42, 27, 182, 0, 168, 61, 3, 62, 29, 42, 180, 0, 122, 162, 0, 40, 28, 153, 0, 28, 27, 29]
abbrev dktX4_isBare_0 : List UInt8 := dkwX4_isBare_0 ++ dktX4_isBare_1
theorem dksX4_isBare_0 : cX4_isBare.data.toList.drop 0 = dktX4_isBare_0 := by decide +kernel
theorem dksX4_isBare_1 : cX4_isBare.data.toList.drop 22 = dktX4_isBare_1 := dk_seg dksX4_isBare_0 22 rfl rfl
theorem dksX4_isBare_2 : cX4_isBare.data.toList.drop 46 = dktX4_isBare_2 := dk_seg dksX4_isBare_1 24 rfl rfl
theorem dX4_isBare_0 : decode cX4_isBare 0 = .ok (.aload_n 0, 1) := dk_42 (dk_at dksX4_isBare_0 0 rfl rfl)
theorem dX4_isBare_1 : decode cX4_isBare 1 = .ok (.iload_n 1, 1) := dk_27 (dk_at dksX4_isBare_0 1 rfl rfl)
theorem dX4_isBare_2 : decode cX4_isBare 2 = .ok (.invokevirtual 168, 3) := dk_182 0 168 (dk_at dksX4_isBare_0 2 rfl rfl)
theorem dX4_isBare_5 : decode cX4_isBare 5 = .ok (.istore_n 2, 1) := dk_61 (dk_at dksX4_isBare_0 5 rfl rfl)
theorem dX4_isBare_6 : decode cX4_isBare 6 = .ok (.iconst 0, 1) := dk_3 (dk_at dksX4_isBare_0 6 rfl rfl)
theorem dX4_isBare_7 : decode cX4_isBare 7 = .ok (.istore_n 3, 1) := dk_62 (dk_at dksX4_isBare_0 7 rfl rfl)
theorem dX4_isBare_8 : decode cX4_isBare 8 = .ok (.iload_n 3, 1) := dk_29 (dk_at dksX4_isBare_0 8 rfl rfl)
theorem dX4_isBare_9 : decode cX4_isBare 9 = .ok (.aload_n 0, 1) := dk_42 (dk_at dksX4_isBare_0 9 rfl rfl)
theorem dX4_isBare_10 : decode cX4_isBare 10 = .ok (.getfield 122, 3) := dk_180 0 122 (dk_at dksX4_isBare_0 10 rfl rfl)
theorem dX4_isBare_13 : decode cX4_isBare 13 = .ok (.if_icmp .ge 40, 3) := dk_162 0 40 (dk_at dksX4_isBare_0 13 rfl rfl)
theorem dX4_isBare_16 : decode cX4_isBare 16 = .ok (.iload_n 2, 1) := dk_28 (dk_at dksX4_isBare_0 16 rfl rfl)
theorem dX4_isBare_17 : decode cX4_isBare 17 = .ok (.ifCond .eq 28, 3) := dk_153 0 28 (dk_at dksX4_isBare_0 17 rfl rfl)
theorem dX4_isBare_20 : decode cX4_isBare 20 = .ok (.iload_n 1, 1) := dk_27 (dk_at dksX4_isBare_0 20 rfl rfl)
theorem dX4_isBare_21 : decode cX4_isBare 21 = .ok (.iload_n 3, 1) := dk_29 (dk_at dksX4_isBare_0 21 rfl rfl)
theorem dX4_isBare_22 : decode cX4_isBare 22 = .ok (.invokestatic 118, 3) := dk_184 0 118 (dk_at dksX4_isBare_1 0 rfl rfl)
theorem dX4_isBare_25 : decode cX4_isBare 25 = .ok (.ifCond .eq 16, 3) := dk_153 0 16 (dk_at dksX4_isBare_1 3 rfl rfl)
theorem dX4_isBare_28 : decode cX4_isBare 28 = .ok (.aload_n 0, 1) := dk_42 (dk_at dksX4_isBare_1 6 rfl rfl)
theorem dX4_isBare_29 : decode cX4_isBare 29 = .ok (.getfield 20, 3) := dk_180 0 20 (dk_at dksX4_isBare_1 7 rfl rfl)
theorem dX4_isBare_32 : decode cX4_isBare 32 = .ok (.iload_n 3, 1) := dk_29 (dk_at dksX4_isBare_1 10 rfl rfl)
theorem dX4_isBare_33 : decode cX4_isBare 33 = .ok (.iaload, 1) := dk_46 (dk_at dksX4_isBare_1 11 rfl rfl)
theorem dX4_isBare_34 : decode cX4_isBare 34 = .ok (.iload_n 1, 1) := dk_27 (dk_at dksX4_isBare_1 12 rfl rfl)
theorem dX4_isBare_35 : decode cX4_isBare 35 = .ok (.iconst (-1), 1) := dk_2 (dk_at dksX4_isBare_1 13 rfl rfl)
theorem dX4_isBare_36 : decode cX4_isBare 36 = .ok (.ixor, 1) := dk_130 (dk_at dksX4_isBare_1 14 rfl rfl)
theorem dX4_isBare_37 : decode cX4_isBare 37 = .ok (.iand, 1) := dk_126 (dk_at dksX4_isBare_1 15 rfl rfl)
theorem dX4_isBare_38 : decode cX4_isBare 38 = .ok (.ifCond .eq 7, 3) := dk_153 0 7 (dk_at dksX4_isBare_1 16 rfl rfl)
theorem dX4_isBare_41 : decode cX4_isBare 41 = .ok (.iconst 1, 1) := dk_4 (dk_at dksX4_isBare_1 19 rfl rfl)
theorem dX4_isBare_42 : decode cX4_isBare 42 = .ok (.goto 4, 3) := dk_167 0 4 (dk_at dksX4_isBare_1 20 rfl rfl)
theorem dX4_isBare_45 : decode cX4_isBare 45 = .ok (.iconst 0, 1) := dk_3 (dk_at dksX4_isBare_1 23 rfl rfl)
theorem dX4_isBare_46 : decode cX4_isBare 46 = .ok (.istore_n 2, 1) := dk_61 (dk_at dksX4_isBare_2 0 rfl rfl)
theorem dX4_isBare_47 : decode cX4_isBare 47 = .ok (.iinc 3 1, 3) := dk_132 3 1 (dk_at dksX4_isBare_2 1 rfl rfl)
theorem dX4_isBare_50 : decode cX4_isBare 50 = .ok (.goto (-42), 3) := dk_167 255 214 (dk_at dksX4_isBare_2 4 rfl rfl)
theorem dX4_isBare_53 : decode cX4_isBare 53 = .ok (.iload_n 2, 1) := dk_28 (dk_at dksX4_isBare_2 7 rfl rfl)
theorem dX4_isBare_54 : decode cX4_isBare 54 = .ok (.ireturn, 1) := dk_172 (dk_at dksX4_isBare_2 8 rfl rfl)
abbrev cX4_covers : ByteArray := prog_32_method_20_code
def yX4_covers : MethodName := ⟨RX4, "covers", "(I)Z"⟩
def dkwX4_covers_2 : List UInt8 := [167, 255, 214, 28, 172]
abbrev dktX4_covers_2 : List UInt8 := dkwX4_covers_2 ++ []
def dkwX4_covers_1 : List UInt8 := [42, 180, 0, 20, 29, 46, 27, 2, 130, 126, 154, 0, 7, 4, 167, 0, 4, 3, 61, 132, 3, 1]
abbrev dktX4_covers_1 : List UInt8 := dkwX4_covers_1 ++ dktX4_covers_2
def dkwX4_covers_0 : List UInt8 := [4, 61, 3, 62, 29, 42, 180, 0, 122, 162, 0, 40, 28, 153, 0, 28, 27, 29, 184, 0, 118, 154, 0, 16]
abbrev dktX4_covers_0 : List UInt8 := dkwX4_covers_0 ++ dktX4_covers_1
theorem dksX4_covers_0 : cX4_covers.data.toList.drop 0 = dktX4_covers_0 := by decide +kernel
theorem dksX4_covers_1 : cX4_covers.data.toList.drop 24 = dktX4_covers_1 := dk_seg dksX4_covers_0 24 rfl rfl
theorem dksX4_covers_2 : cX4_covers.data.toList.drop 46 = dktX4_covers_2 := dk_seg dksX4_covers_1 22 rfl rfl
theorem dX4_covers_0 : decode cX4_covers 0 = .ok (.iconst 1, 1) := dk_4 (dk_at dksX4_covers_0 0 rfl rfl)
theorem dX4_covers_1 : decode cX4_covers 1 = .ok (.istore_n 2, 1) := dk_61 (dk_at dksX4_covers_0 1 rfl rfl)
theorem dX4_covers_2 : decode cX4_covers 2 = .ok (.iconst 0, 1) := dk_3 (dk_at dksX4_covers_0 2 rfl rfl)
theorem dX4_covers_3 : decode cX4_covers 3 = .ok (.istore_n 3, 1) := dk_62 (dk_at dksX4_covers_0 3 rfl rfl)
theorem dX4_covers_4 : decode cX4_covers 4 = .ok (.iload_n 3, 1) := dk_29 (dk_at dksX4_covers_0 4 rfl rfl)
theorem dX4_covers_5 : decode cX4_covers 5 = .ok (.aload_n 0, 1) := dk_42 (dk_at dksX4_covers_0 5 rfl rfl)
theorem dX4_covers_6 : decode cX4_covers 6 = .ok (.getfield 122, 3) := dk_180 0 122 (dk_at dksX4_covers_0 6 rfl rfl)
theorem dX4_covers_9 : decode cX4_covers 9 = .ok (.if_icmp .ge 40, 3) := dk_162 0 40 (dk_at dksX4_covers_0 9 rfl rfl)
theorem dX4_covers_12 : decode cX4_covers 12 = .ok (.iload_n 2, 1) := dk_28 (dk_at dksX4_covers_0 12 rfl rfl)
theorem dX4_covers_13 : decode cX4_covers 13 = .ok (.ifCond .eq 28, 3) := dk_153 0 28 (dk_at dksX4_covers_0 13 rfl rfl)
theorem dX4_covers_16 : decode cX4_covers 16 = .ok (.iload_n 1, 1) := dk_27 (dk_at dksX4_covers_0 16 rfl rfl)
theorem dX4_covers_17 : decode cX4_covers 17 = .ok (.iload_n 3, 1) := dk_29 (dk_at dksX4_covers_0 17 rfl rfl)
theorem dX4_covers_18 : decode cX4_covers 18 = .ok (.invokestatic 118, 3) := dk_184 0 118 (dk_at dksX4_covers_0 18 rfl rfl)
theorem dX4_covers_21 : decode cX4_covers 21 = .ok (.ifCond .ne 16, 3) := dk_154 0 16 (dk_at dksX4_covers_0 21 rfl rfl)
theorem dX4_covers_24 : decode cX4_covers 24 = .ok (.aload_n 0, 1) := dk_42 (dk_at dksX4_covers_1 0 rfl rfl)
theorem dX4_covers_25 : decode cX4_covers 25 = .ok (.getfield 20, 3) := dk_180 0 20 (dk_at dksX4_covers_1 1 rfl rfl)
theorem dX4_covers_28 : decode cX4_covers 28 = .ok (.iload_n 3, 1) := dk_29 (dk_at dksX4_covers_1 4 rfl rfl)
theorem dX4_covers_29 : decode cX4_covers 29 = .ok (.iaload, 1) := dk_46 (dk_at dksX4_covers_1 5 rfl rfl)
theorem dX4_covers_30 : decode cX4_covers 30 = .ok (.iload_n 1, 1) := dk_27 (dk_at dksX4_covers_1 6 rfl rfl)
theorem dX4_covers_31 : decode cX4_covers 31 = .ok (.iconst (-1), 1) := dk_2 (dk_at dksX4_covers_1 7 rfl rfl)
theorem dX4_covers_32 : decode cX4_covers 32 = .ok (.ixor, 1) := dk_130 (dk_at dksX4_covers_1 8 rfl rfl)
theorem dX4_covers_33 : decode cX4_covers 33 = .ok (.iand, 1) := dk_126 (dk_at dksX4_covers_1 9 rfl rfl)
theorem dX4_covers_34 : decode cX4_covers 34 = .ok (.ifCond .ne 7, 3) := dk_154 0 7 (dk_at dksX4_covers_1 10 rfl rfl)
theorem dX4_covers_37 : decode cX4_covers 37 = .ok (.iconst 1, 1) := dk_4 (dk_at dksX4_covers_1 13 rfl rfl)
theorem dX4_covers_38 : decode cX4_covers 38 = .ok (.goto 4, 3) := dk_167 0 4 (dk_at dksX4_covers_1 14 rfl rfl)
theorem dX4_covers_41 : decode cX4_covers 41 = .ok (.iconst 0, 1) := dk_3 (dk_at dksX4_covers_1 17 rfl rfl)
theorem dX4_covers_42 : decode cX4_covers 42 = .ok (.istore_n 2, 1) := dk_61 (dk_at dksX4_covers_1 18 rfl rfl)
theorem dX4_covers_43 : decode cX4_covers 43 = .ok (.iinc 3 1, 3) := dk_132 3 1 (dk_at dksX4_covers_1 19 rfl rfl)
theorem dX4_covers_46 : decode cX4_covers 46 = .ok (.goto (-42), 3) := dk_167 255 214 (dk_at dksX4_covers_2 0 rfl rfl)
theorem dX4_covers_49 : decode cX4_covers 49 = .ok (.iload_n 2, 1) := dk_28 (dk_at dksX4_covers_2 3 rfl rfl)
theorem dX4_covers_50 : decode cX4_covers 50 = .ok (.ireturn, 1) := dk_172 (dk_at dksX4_covers_2 4 rfl rfl)
abbrev cX4_has : ByteArray := prog_32_method_3_code
def yX4_has : MethodName := ⟨RX4, "has", "(II)Z"⟩
def dkwX4_has_0 : List UInt8 := [26, 27, 122, 4, 126, 4, 160, 0, 7, 4, 167, 0, 4, 3, 172]
abbrev dktX4_has_0 : List UInt8 := dkwX4_has_0 ++ []
theorem dksX4_has_0 : cX4_has.data.toList.drop 0 = dktX4_has_0 := by decide +kernel
theorem dX4_has_0 : decode cX4_has 0 = .ok (.iload_n 0, 1) := dk_26 (dk_at dksX4_has_0 0 rfl rfl)
theorem dX4_has_1 : decode cX4_has 1 = .ok (.iload_n 1, 1) := dk_27 (dk_at dksX4_has_0 1 rfl rfl)
theorem dX4_has_2 : decode cX4_has 2 = .ok (.ishr, 1) := dk_122 (dk_at dksX4_has_0 2 rfl rfl)
theorem dX4_has_3 : decode cX4_has 3 = .ok (.iconst 1, 1) := dk_4 (dk_at dksX4_has_0 3 rfl rfl)
theorem dX4_has_4 : decode cX4_has 4 = .ok (.iand, 1) := dk_126 (dk_at dksX4_has_0 4 rfl rfl)
theorem dX4_has_5 : decode cX4_has 5 = .ok (.iconst 1, 1) := dk_4 (dk_at dksX4_has_0 5 rfl rfl)
theorem dX4_has_6 : decode cX4_has 6 = .ok (.if_icmp .ne 7, 3) := dk_160 0 7 (dk_at dksX4_has_0 6 rfl rfl)
theorem dX4_has_9 : decode cX4_has 9 = .ok (.iconst 1, 1) := dk_4 (dk_at dksX4_has_0 9 rfl rfl)
theorem dX4_has_10 : decode cX4_has 10 = .ok (.goto 4, 3) := dk_167 0 4 (dk_at dksX4_has_0 10 rfl rfl)
theorem dX4_has_13 : decode cX4_has 13 = .ok (.iconst 0, 1) := dk_3 (dk_at dksX4_has_0 13 rfl rfl)
theorem dX4_has_14 : decode cX4_has 14 = .ok (.ireturn, 1) := dk_172 (dk_at dksX4_has_0 14 rfl rfl)
abbrev cX4_costOf : ByteArray := prog_32_method_24_code
def yX4_costOf : MethodName := ⟨RX4, "costOf", "(I)I"⟩
def dkwX4_costOf_0 : List UInt8 := [42, 27, 182, 0, 171, 153, 0, 11, 42, 27, 182, 0, 177, 167, 0, 5, 16, 254, 172]
abbrev dktX4_costOf_0 : List UInt8 := dkwX4_costOf_0 ++ []
theorem dksX4_costOf_0 : cX4_costOf.data.toList.drop 0 = dktX4_costOf_0 := by decide +kernel
theorem dX4_costOf_0 : decode cX4_costOf 0 = .ok (.aload_n 0, 1) := dk_42 (dk_at dksX4_costOf_0 0 rfl rfl)
theorem dX4_costOf_1 : decode cX4_costOf 1 = .ok (.iload_n 1, 1) := dk_27 (dk_at dksX4_costOf_0 1 rfl rfl)
theorem dX4_costOf_2 : decode cX4_costOf 2 = .ok (.invokevirtual 171, 3) := dk_182 0 171 (dk_at dksX4_costOf_0 2 rfl rfl)
theorem dX4_costOf_5 : decode cX4_costOf 5 = .ok (.ifCond .eq 11, 3) := dk_153 0 11 (dk_at dksX4_costOf_0 5 rfl rfl)
theorem dX4_costOf_8 : decode cX4_costOf 8 = .ok (.aload_n 0, 1) := dk_42 (dk_at dksX4_costOf_0 8 rfl rfl)
theorem dX4_costOf_9 : decode cX4_costOf 9 = .ok (.iload_n 1, 1) := dk_27 (dk_at dksX4_costOf_0 9 rfl rfl)
theorem dX4_costOf_10 : decode cX4_costOf 10 = .ok (.invokevirtual 177, 3) := dk_182 0 177 (dk_at dksX4_costOf_0 10 rfl rfl)
theorem dX4_costOf_13 : decode cX4_costOf 13 = .ok (.goto 5, 3) := dk_167 0 5 (dk_at dksX4_costOf_0 13 rfl rfl)
theorem dX4_costOf_16 : decode cX4_costOf 16 = .ok (.bipush (-2), 2) := dk_16 254 (dk_at dksX4_costOf_0 16 rfl rfl)
theorem dX4_costOf_18 : decode cX4_costOf 18 = .ok (.ireturn, 1) := dk_172 (dk_at dksX4_costOf_0 18 rfl rfl)
abbrev cX4_costs : ByteArray := prog_32_method_23_code
def yX4_costs : MethodName := ⟨RX4, "costs", "(I)I"⟩
def dkwX4_costs_1 : List UInt8 := [182, 0, 156, 167, 0, 4, 3, 96, 61, 132, 3, 1, 167, 255, 225, 28, 172]
abbrev dktX4_costs_1 : List UInt8 := dkwX4_costs_1 ++ []
def dkwX4_costs_0 : List UInt8 := [3, 61, 3, 62, 29, 42, 180, 0, 122, 162, 0, 29, 28, 27, 29, 184, 0, 118, 153, 0, 11, 42, 29]
abbrev dktX4_costs_0 : List UInt8 := dkwX4_costs_0 ++ dktX4_costs_1
theorem dksX4_costs_0 : cX4_costs.data.toList.drop 0 = dktX4_costs_0 := by decide +kernel
theorem dksX4_costs_1 : cX4_costs.data.toList.drop 23 = dktX4_costs_1 := dk_seg dksX4_costs_0 23 rfl rfl
theorem dX4_costs_0 : decode cX4_costs 0 = .ok (.iconst 0, 1) := dk_3 (dk_at dksX4_costs_0 0 rfl rfl)
theorem dX4_costs_1 : decode cX4_costs 1 = .ok (.istore_n 2, 1) := dk_61 (dk_at dksX4_costs_0 1 rfl rfl)
theorem dX4_costs_2 : decode cX4_costs 2 = .ok (.iconst 0, 1) := dk_3 (dk_at dksX4_costs_0 2 rfl rfl)
theorem dX4_costs_3 : decode cX4_costs 3 = .ok (.istore_n 3, 1) := dk_62 (dk_at dksX4_costs_0 3 rfl rfl)
theorem dX4_costs_4 : decode cX4_costs 4 = .ok (.iload_n 3, 1) := dk_29 (dk_at dksX4_costs_0 4 rfl rfl)
theorem dX4_costs_5 : decode cX4_costs 5 = .ok (.aload_n 0, 1) := dk_42 (dk_at dksX4_costs_0 5 rfl rfl)
theorem dX4_costs_6 : decode cX4_costs 6 = .ok (.getfield 122, 3) := dk_180 0 122 (dk_at dksX4_costs_0 6 rfl rfl)
theorem dX4_costs_9 : decode cX4_costs 9 = .ok (.if_icmp .ge 29, 3) := dk_162 0 29 (dk_at dksX4_costs_0 9 rfl rfl)
theorem dX4_costs_12 : decode cX4_costs 12 = .ok (.iload_n 2, 1) := dk_28 (dk_at dksX4_costs_0 12 rfl rfl)
theorem dX4_costs_13 : decode cX4_costs 13 = .ok (.iload_n 1, 1) := dk_27 (dk_at dksX4_costs_0 13 rfl rfl)
theorem dX4_costs_14 : decode cX4_costs 14 = .ok (.iload_n 3, 1) := dk_29 (dk_at dksX4_costs_0 14 rfl rfl)
theorem dX4_costs_15 : decode cX4_costs 15 = .ok (.invokestatic 118, 3) := dk_184 0 118 (dk_at dksX4_costs_0 15 rfl rfl)
theorem dX4_costs_18 : decode cX4_costs 18 = .ok (.ifCond .eq 11, 3) := dk_153 0 11 (dk_at dksX4_costs_0 18 rfl rfl)
theorem dX4_costs_21 : decode cX4_costs 21 = .ok (.aload_n 0, 1) := dk_42 (dk_at dksX4_costs_0 21 rfl rfl)
theorem dX4_costs_22 : decode cX4_costs 22 = .ok (.iload_n 3, 1) := dk_29 (dk_at dksX4_costs_0 22 rfl rfl)
theorem dX4_costs_23 : decode cX4_costs 23 = .ok (.invokevirtual 156, 3) := dk_182 0 156 (dk_at dksX4_costs_1 0 rfl rfl)
theorem dX4_costs_26 : decode cX4_costs 26 = .ok (.goto 4, 3) := dk_167 0 4 (dk_at dksX4_costs_1 3 rfl rfl)
theorem dX4_costs_29 : decode cX4_costs 29 = .ok (.iconst 0, 1) := dk_3 (dk_at dksX4_costs_1 6 rfl rfl)
theorem dX4_costs_30 : decode cX4_costs 30 = .ok (.iadd, 1) := dk_96 (dk_at dksX4_costs_1 7 rfl rfl)
theorem dX4_costs_31 : decode cX4_costs 31 = .ok (.istore_n 2, 1) := dk_61 (dk_at dksX4_costs_1 8 rfl rfl)
theorem dX4_costs_32 : decode cX4_costs 32 = .ok (.iinc 3 1, 3) := dk_132 3 1 (dk_at dksX4_costs_1 9 rfl rfl)
theorem dX4_costs_35 : decode cX4_costs 35 = .ok (.goto (-31), 3) := dk_167 255 225 (dk_at dksX4_costs_1 12 rfl rfl)
theorem dX4_costs_38 : decode cX4_costs 38 = .ok (.iload_n 2, 1) := dk_28 (dk_at dksX4_costs_1 15 rfl rfl)
theorem dX4_costs_39 : decode cX4_costs 39 = .ok (.ireturn, 1) := dk_172 (dk_at dksX4_costs_1 16 rfl rfl)
abbrev cX4_fewest : ByteArray := prog_32_method_26_code
def yX4_fewest : MethodName := ⟨RX4, "fewest", "(I)I"⟩
def dkwX4_fewest_6 : List UInt8 := [28, 172, 29, 172, 21, 4, 172, 21, 5, 172, 42, 182, 0, 129, 21, 6, 2, 130, 126, 172]
abbrev dktX4_fewest_6 : List UInt8 := dkwX4_fewest_6 ++ []
def dkwX4_fewest_5 : List UInt8 := [170, 0, 0, 0, 0, 0, 0, 42, 0, 0, 0, 0, 0, 0, 0, 3, 0, 0, 0, 32, 0, 0, 0, 34, 0, 0, 0, 36, 0, 0, 0, 39]
abbrev dktX4_fewest_5 : List UInt8 := dkwX4_fewest_5 ++ dktX4_fewest_6
def dkwX4_fewest_4 : List UInt8 := [132, 7, 1, 167, 255, 194, 27]
abbrev dktX4_fewest_4 : List UInt8 := dkwX4_fewest_4 ++ dktX4_fewest_5
def dkwX4_fewest_3 : List UInt8 := [21, 7, 167, 0, 4, 29, 62, 132, 4, 1, 21, 5, 21, 7, 126, 54, 5, 21, 6, 21, 7, 128, 54, 6]
abbrev dktX4_fewest_3 : List UInt8 := dkwX4_fewest_3 ++ dktX4_fewest_4
def dkwX4_fewest_2 : List UInt8 := [184, 0, 133, 28, 160, 0, 44, 42, 21, 7, 182, 0, 168, 154, 0, 6, 167, 0, 32, 29, 2, 160, 0, 8]
abbrev dktX4_fewest_2 : List UInt8 := dkwX4_fewest_2 ++ dktX4_fewest_3
def dkwX4_fewest_1 : List UInt8 := [182, 0, 129, 54, 5, 3, 54, 6, 3, 54, 7, 21, 7, 42, 182, 0, 129, 163, 0, 59, 21, 7]
abbrev dktX4_fewest_1 : List UInt8 := dkwX4_fewest_1 ++ dktX4_fewest_2
def dkwX4_fewest_0 : List UInt8 := [27, 3, 7, 184, 0, 125, 154, 0, 6, 16, 254, 172, 42, 182, 0, 180, 61, 2, 62, 3, 54, 4, 42]
abbrev dktX4_fewest_0 : List UInt8 := dkwX4_fewest_0 ++ dktX4_fewest_1
theorem dksX4_fewest_0 : cX4_fewest.data.toList.drop 0 = dktX4_fewest_0 := by decide +kernel
theorem dksX4_fewest_1 : cX4_fewest.data.toList.drop 23 = dktX4_fewest_1 := dk_seg dksX4_fewest_0 23 rfl rfl
theorem dksX4_fewest_2 : cX4_fewest.data.toList.drop 45 = dktX4_fewest_2 := dk_seg dksX4_fewest_1 22 rfl rfl
theorem dksX4_fewest_3 : cX4_fewest.data.toList.drop 69 = dktX4_fewest_3 := dk_seg dksX4_fewest_2 24 rfl rfl
theorem dksX4_fewest_4 : cX4_fewest.data.toList.drop 93 = dktX4_fewest_4 := dk_seg dksX4_fewest_3 24 rfl rfl
theorem dksX4_fewest_5 : cX4_fewest.data.toList.drop 100 = dktX4_fewest_5 := dk_seg dksX4_fewest_4 7 rfl rfl
theorem dksX4_fewest_6 : cX4_fewest.data.toList.drop 132 = dktX4_fewest_6 := dk_seg dksX4_fewest_5 32 rfl rfl
theorem dX4_fewest_0 : decode cX4_fewest 0 = .ok (.iload_n 1, 1) := dk_27 (dk_at dksX4_fewest_0 0 rfl rfl)
theorem dX4_fewest_1 : decode cX4_fewest 1 = .ok (.iconst 0, 1) := dk_3 (dk_at dksX4_fewest_0 1 rfl rfl)
theorem dX4_fewest_2 : decode cX4_fewest 2 = .ok (.iconst 4, 1) := dk_7 (dk_at dksX4_fewest_0 2 rfl rfl)
theorem dX4_fewest_3 : decode cX4_fewest 3 = .ok (.invokestatic 125, 3) := dk_184 0 125 (dk_at dksX4_fewest_0 3 rfl rfl)
theorem dX4_fewest_6 : decode cX4_fewest 6 = .ok (.ifCond .ne 6, 3) := dk_154 0 6 (dk_at dksX4_fewest_0 6 rfl rfl)
theorem dX4_fewest_9 : decode cX4_fewest 9 = .ok (.bipush (-2), 2) := dk_16 254 (dk_at dksX4_fewest_0 9 rfl rfl)
theorem dX4_fewest_11 : decode cX4_fewest 11 = .ok (.ireturn, 1) := dk_172 (dk_at dksX4_fewest_0 11 rfl rfl)
theorem dX4_fewest_12 : decode cX4_fewest 12 = .ok (.aload_n 0, 1) := dk_42 (dk_at dksX4_fewest_0 12 rfl rfl)
theorem dX4_fewest_13 : decode cX4_fewest 13 = .ok (.invokevirtual 180, 3) := dk_182 0 180 (dk_at dksX4_fewest_0 13 rfl rfl)
theorem dX4_fewest_16 : decode cX4_fewest 16 = .ok (.istore_n 2, 1) := dk_61 (dk_at dksX4_fewest_0 16 rfl rfl)
theorem dX4_fewest_17 : decode cX4_fewest 17 = .ok (.iconst (-1), 1) := dk_2 (dk_at dksX4_fewest_0 17 rfl rfl)
theorem dX4_fewest_18 : decode cX4_fewest 18 = .ok (.istore_n 3, 1) := dk_62 (dk_at dksX4_fewest_0 18 rfl rfl)
theorem dX4_fewest_19 : decode cX4_fewest 19 = .ok (.iconst 0, 1) := dk_3 (dk_at dksX4_fewest_0 19 rfl rfl)
theorem dX4_fewest_20 : decode cX4_fewest 20 = .ok (.istore 4, 2) := dk_54 4 (dk_at dksX4_fewest_0 20 rfl rfl)
theorem dX4_fewest_22 : decode cX4_fewest 22 = .ok (.aload_n 0, 1) := dk_42 (dk_at dksX4_fewest_0 22 rfl rfl)
theorem dX4_fewest_23 : decode cX4_fewest 23 = .ok (.invokevirtual 129, 3) := dk_182 0 129 (dk_at dksX4_fewest_1 0 rfl rfl)
theorem dX4_fewest_26 : decode cX4_fewest 26 = .ok (.istore 5, 2) := dk_54 5 (dk_at dksX4_fewest_1 3 rfl rfl)
theorem dX4_fewest_28 : decode cX4_fewest 28 = .ok (.iconst 0, 1) := dk_3 (dk_at dksX4_fewest_1 5 rfl rfl)
theorem dX4_fewest_29 : decode cX4_fewest 29 = .ok (.istore 6, 2) := dk_54 6 (dk_at dksX4_fewest_1 6 rfl rfl)
theorem dX4_fewest_31 : decode cX4_fewest 31 = .ok (.iconst 0, 1) := dk_3 (dk_at dksX4_fewest_1 8 rfl rfl)
theorem dX4_fewest_32 : decode cX4_fewest 32 = .ok (.istore 7, 2) := dk_54 7 (dk_at dksX4_fewest_1 9 rfl rfl)
theorem dX4_fewest_34 : decode cX4_fewest 34 = .ok (.iload 7, 2) := dk_21 7 (dk_at dksX4_fewest_1 11 rfl rfl)
theorem dX4_fewest_36 : decode cX4_fewest 36 = .ok (.aload_n 0, 1) := dk_42 (dk_at dksX4_fewest_1 13 rfl rfl)
theorem dX4_fewest_37 : decode cX4_fewest 37 = .ok (.invokevirtual 129, 3) := dk_182 0 129 (dk_at dksX4_fewest_1 14 rfl rfl)
theorem dX4_fewest_40 : decode cX4_fewest 40 = .ok (.if_icmp .gt 59, 3) := dk_163 0 59 (dk_at dksX4_fewest_1 17 rfl rfl)
theorem dX4_fewest_43 : decode cX4_fewest 43 = .ok (.iload 7, 2) := dk_21 7 (dk_at dksX4_fewest_1 20 rfl rfl)
theorem dX4_fewest_45 : decode cX4_fewest 45 = .ok (.invokestatic 133, 3) := dk_184 0 133 (dk_at dksX4_fewest_2 0 rfl rfl)
theorem dX4_fewest_48 : decode cX4_fewest 48 = .ok (.iload_n 2, 1) := dk_28 (dk_at dksX4_fewest_2 3 rfl rfl)
theorem dX4_fewest_49 : decode cX4_fewest 49 = .ok (.if_icmp .ne 44, 3) := dk_160 0 44 (dk_at dksX4_fewest_2 4 rfl rfl)
theorem dX4_fewest_52 : decode cX4_fewest 52 = .ok (.aload_n 0, 1) := dk_42 (dk_at dksX4_fewest_2 7 rfl rfl)
theorem dX4_fewest_53 : decode cX4_fewest 53 = .ok (.iload 7, 2) := dk_21 7 (dk_at dksX4_fewest_2 8 rfl rfl)
theorem dX4_fewest_55 : decode cX4_fewest 55 = .ok (.invokevirtual 168, 3) := dk_182 0 168 (dk_at dksX4_fewest_2 10 rfl rfl)
theorem dX4_fewest_58 : decode cX4_fewest 58 = .ok (.ifCond .ne 6, 3) := dk_154 0 6 (dk_at dksX4_fewest_2 13 rfl rfl)
theorem dX4_fewest_61 : decode cX4_fewest 61 = .ok (.goto 32, 3) := dk_167 0 32 (dk_at dksX4_fewest_2 16 rfl rfl)
theorem dX4_fewest_64 : decode cX4_fewest 64 = .ok (.iload_n 3, 1) := dk_29 (dk_at dksX4_fewest_2 19 rfl rfl)
theorem dX4_fewest_65 : decode cX4_fewest 65 = .ok (.iconst (-1), 1) := dk_2 (dk_at dksX4_fewest_2 20 rfl rfl)
theorem dX4_fewest_66 : decode cX4_fewest 66 = .ok (.if_icmp .ne 8, 3) := dk_160 0 8 (dk_at dksX4_fewest_2 21 rfl rfl)
theorem dX4_fewest_69 : decode cX4_fewest 69 = .ok (.iload 7, 2) := dk_21 7 (dk_at dksX4_fewest_3 0 rfl rfl)
theorem dX4_fewest_71 : decode cX4_fewest 71 = .ok (.goto 4, 3) := dk_167 0 4 (dk_at dksX4_fewest_3 2 rfl rfl)
theorem dX4_fewest_74 : decode cX4_fewest 74 = .ok (.iload_n 3, 1) := dk_29 (dk_at dksX4_fewest_3 5 rfl rfl)
theorem dX4_fewest_75 : decode cX4_fewest 75 = .ok (.istore_n 3, 1) := dk_62 (dk_at dksX4_fewest_3 6 rfl rfl)
theorem dX4_fewest_76 : decode cX4_fewest 76 = .ok (.iinc 4 1, 3) := dk_132 4 1 (dk_at dksX4_fewest_3 7 rfl rfl)
theorem dX4_fewest_79 : decode cX4_fewest 79 = .ok (.iload 5, 2) := dk_21 5 (dk_at dksX4_fewest_3 10 rfl rfl)
theorem dX4_fewest_81 : decode cX4_fewest 81 = .ok (.iload 7, 2) := dk_21 7 (dk_at dksX4_fewest_3 12 rfl rfl)
theorem dX4_fewest_83 : decode cX4_fewest 83 = .ok (.iand, 1) := dk_126 (dk_at dksX4_fewest_3 14 rfl rfl)
theorem dX4_fewest_84 : decode cX4_fewest 84 = .ok (.istore 5, 2) := dk_54 5 (dk_at dksX4_fewest_3 15 rfl rfl)
theorem dX4_fewest_86 : decode cX4_fewest 86 = .ok (.iload 6, 2) := dk_21 6 (dk_at dksX4_fewest_3 17 rfl rfl)
theorem dX4_fewest_88 : decode cX4_fewest 88 = .ok (.iload 7, 2) := dk_21 7 (dk_at dksX4_fewest_3 19 rfl rfl)
theorem dX4_fewest_90 : decode cX4_fewest 90 = .ok (.ior, 1) := dk_128 (dk_at dksX4_fewest_3 21 rfl rfl)
theorem dX4_fewest_91 : decode cX4_fewest 91 = .ok (.istore 6, 2) := dk_54 6 (dk_at dksX4_fewest_3 22 rfl rfl)
theorem dX4_fewest_93 : decode cX4_fewest 93 = .ok (.iinc 7 1, 3) := dk_132 7 1 (dk_at dksX4_fewest_4 0 rfl rfl)
theorem dX4_fewest_96 : decode cX4_fewest 96 = .ok (.goto (-62), 3) := dk_167 255 194 (dk_at dksX4_fewest_4 3 rfl rfl)
theorem dX4_fewest_99 : decode cX4_fewest 99 = .ok (.iload_n 1, 1) := dk_27 (dk_at dksX4_fewest_4 6 rfl rfl)
theorem dX4_fewest_100 : decode cX4_fewest 100 = .ok (.tableswitch 42 0 3 #[32, 34, 36, 39], 32) := by decide +kernel
theorem dX4_fewest_132 : decode cX4_fewest 132 = .ok (.iload_n 2, 1) := dk_28 (dk_at dksX4_fewest_6 0 rfl rfl)
theorem dX4_fewest_133 : decode cX4_fewest 133 = .ok (.ireturn, 1) := dk_172 (dk_at dksX4_fewest_6 1 rfl rfl)
theorem dX4_fewest_134 : decode cX4_fewest 134 = .ok (.iload_n 3, 1) := dk_29 (dk_at dksX4_fewest_6 2 rfl rfl)
theorem dX4_fewest_135 : decode cX4_fewest 135 = .ok (.ireturn, 1) := dk_172 (dk_at dksX4_fewest_6 3 rfl rfl)
theorem dX4_fewest_136 : decode cX4_fewest 136 = .ok (.iload 4, 2) := dk_21 4 (dk_at dksX4_fewest_6 4 rfl rfl)
theorem dX4_fewest_138 : decode cX4_fewest 138 = .ok (.ireturn, 1) := dk_172 (dk_at dksX4_fewest_6 6 rfl rfl)
theorem dX4_fewest_139 : decode cX4_fewest 139 = .ok (.iload 5, 2) := dk_21 5 (dk_at dksX4_fewest_6 7 rfl rfl)
theorem dX4_fewest_141 : decode cX4_fewest 141 = .ok (.ireturn, 1) := dk_172 (dk_at dksX4_fewest_6 9 rfl rfl)
theorem dX4_fewest_142 : decode cX4_fewest 142 = .ok (.aload_n 0, 1) := dk_42 (dk_at dksX4_fewest_6 10 rfl rfl)
theorem dX4_fewest_143 : decode cX4_fewest 143 = .ok (.invokevirtual 129, 3) := dk_182 0 129 (dk_at dksX4_fewest_6 11 rfl rfl)
theorem dX4_fewest_146 : decode cX4_fewest 146 = .ok (.iload 6, 2) := dk_21 6 (dk_at dksX4_fewest_6 14 rfl rfl)
theorem dX4_fewest_148 : decode cX4_fewest 148 = .ok (.iconst (-1), 1) := dk_2 (dk_at dksX4_fewest_6 16 rfl rfl)
theorem dX4_fewest_149 : decode cX4_fewest 149 = .ok (.ixor, 1) := dk_130 (dk_at dksX4_fewest_6 17 rfl rfl)
theorem dX4_fewest_150 : decode cX4_fewest 150 = .ok (.iand, 1) := dk_126 (dk_at dksX4_fewest_6 18 rfl rfl)
theorem dX4_fewest_151 : decode cX4_fewest 151 = .ok (.ireturn, 1) := dk_172 (dk_at dksX4_fewest_6 19 rfl rfl)
abbrev cX4_least : ByteArray := prog_32_method_25_code
def yX4_least : MethodName := ⟨RX4, "least", "()I"⟩
def dkwX4_least_1 : List UInt8 := [28, 182, 0, 168, 153, 0, 10, 28, 184, 0, 133, 167, 0, 4, 27, 60, 132, 2, 1, 167, 255, 220, 27, 172]
abbrev dktX4_least_1 : List UInt8 := dkwX4_least_1 ++ []
def dkwX4_least_0 : List UInt8 := [42, 180, 0, 122, 60, 3, 61, 28, 42, 182, 0, 129, 163, 0, 34, 28, 184, 0, 133, 27, 162, 0, 18, 42]
abbrev dktX4_least_0 : List UInt8 := dkwX4_least_0 ++ dktX4_least_1
theorem dksX4_least_0 : cX4_least.data.toList.drop 0 = dktX4_least_0 := by decide +kernel
theorem dksX4_least_1 : cX4_least.data.toList.drop 24 = dktX4_least_1 := dk_seg dksX4_least_0 24 rfl rfl
theorem dX4_least_0 : decode cX4_least 0 = .ok (.aload_n 0, 1) := dk_42 (dk_at dksX4_least_0 0 rfl rfl)
theorem dX4_least_1 : decode cX4_least 1 = .ok (.getfield 122, 3) := dk_180 0 122 (dk_at dksX4_least_0 1 rfl rfl)
theorem dX4_least_4 : decode cX4_least 4 = .ok (.istore_n 1, 1) := dk_60 (dk_at dksX4_least_0 4 rfl rfl)
theorem dX4_least_5 : decode cX4_least 5 = .ok (.iconst 0, 1) := dk_3 (dk_at dksX4_least_0 5 rfl rfl)
theorem dX4_least_6 : decode cX4_least 6 = .ok (.istore_n 2, 1) := dk_61 (dk_at dksX4_least_0 6 rfl rfl)
theorem dX4_least_7 : decode cX4_least 7 = .ok (.iload_n 2, 1) := dk_28 (dk_at dksX4_least_0 7 rfl rfl)
theorem dX4_least_8 : decode cX4_least 8 = .ok (.aload_n 0, 1) := dk_42 (dk_at dksX4_least_0 8 rfl rfl)
theorem dX4_least_9 : decode cX4_least 9 = .ok (.invokevirtual 129, 3) := dk_182 0 129 (dk_at dksX4_least_0 9 rfl rfl)
theorem dX4_least_12 : decode cX4_least 12 = .ok (.if_icmp .gt 34, 3) := dk_163 0 34 (dk_at dksX4_least_0 12 rfl rfl)
theorem dX4_least_15 : decode cX4_least 15 = .ok (.iload_n 2, 1) := dk_28 (dk_at dksX4_least_0 15 rfl rfl)
theorem dX4_least_16 : decode cX4_least 16 = .ok (.invokestatic 133, 3) := dk_184 0 133 (dk_at dksX4_least_0 16 rfl rfl)
theorem dX4_least_19 : decode cX4_least 19 = .ok (.iload_n 1, 1) := dk_27 (dk_at dksX4_least_0 19 rfl rfl)
theorem dX4_least_20 : decode cX4_least 20 = .ok (.if_icmp .ge 18, 3) := dk_162 0 18 (dk_at dksX4_least_0 20 rfl rfl)
theorem dX4_least_23 : decode cX4_least 23 = .ok (.aload_n 0, 1) := dk_42 (dk_at dksX4_least_0 23 rfl rfl)
theorem dX4_least_24 : decode cX4_least 24 = .ok (.iload_n 2, 1) := dk_28 (dk_at dksX4_least_1 0 rfl rfl)
theorem dX4_least_25 : decode cX4_least 25 = .ok (.invokevirtual 168, 3) := dk_182 0 168 (dk_at dksX4_least_1 1 rfl rfl)
theorem dX4_least_28 : decode cX4_least 28 = .ok (.ifCond .eq 10, 3) := dk_153 0 10 (dk_at dksX4_least_1 4 rfl rfl)
theorem dX4_least_31 : decode cX4_least 31 = .ok (.iload_n 2, 1) := dk_28 (dk_at dksX4_least_1 7 rfl rfl)
theorem dX4_least_32 : decode cX4_least 32 = .ok (.invokestatic 133, 3) := dk_184 0 133 (dk_at dksX4_least_1 8 rfl rfl)
theorem dX4_least_35 : decode cX4_least 35 = .ok (.goto 4, 3) := dk_167 0 4 (dk_at dksX4_least_1 11 rfl rfl)
theorem dX4_least_38 : decode cX4_least 38 = .ok (.iload_n 1, 1) := dk_27 (dk_at dksX4_least_1 14 rfl rfl)
theorem dX4_least_39 : decode cX4_least 39 = .ok (.istore_n 1, 1) := dk_60 (dk_at dksX4_least_1 15 rfl rfl)
theorem dX4_least_40 : decode cX4_least 40 = .ok (.iinc 2 1, 3) := dk_132 2 1 (dk_at dksX4_least_1 16 rfl rfl)
theorem dX4_least_43 : decode cX4_least 43 = .ok (.goto (-36), 3) := dk_167 255 220 (dk_at dksX4_least_1 19 rfl rfl)
theorem dX4_least_46 : decode cX4_least 46 = .ok (.iload_n 1, 1) := dk_27 (dk_at dksX4_least_1 22 rfl rfl)
theorem dX4_least_47 : decode cX4_least 47 = .ok (.ireturn, 1) := dk_172 (dk_at dksX4_least_1 23 rfl rfl)
abbrev cX4_dear : ByteArray := prog_32_method_27_code
def yX4_dear : MethodName := ⟨RX4, "dear", "(I)I"⟩
def dkwX4_dear_5 : List UInt8 := [167, 0, 5, 21, 4, 172]
abbrev dktX4_dear_5 : List UInt8 := dkwX4_dear_5 ++ []
def dkwX4_dear_4 : List UInt8 := [182, 0, 177, 61, 132, 5, 1, 167, 255, 178, 27, 154, 0, 7, 28, 167, 0, 14, 27, 4, 160, 0, 7, 29]
abbrev dktX4_dear_4 : List UInt8 := dkwX4_dear_4 ++ dktX4_dear_5
def dkwX4_dear_3 : List UInt8 := [96, 54, 4, 42, 21, 5, 182, 0, 177, 28, 162, 0, 8, 21, 5, 167, 0, 4, 29, 62, 42, 21, 5]
abbrev dktX4_dear_3 : List UInt8 := dkwX4_dear_3 ++ dktX4_dear_4
def dkwX4_dear_2 : List UInt8 := [28, 164, 0, 6, 167, 0, 47, 42, 21, 5, 182, 0, 177, 28, 162, 0, 7, 4, 167, 0, 7, 21, 4, 4]
abbrev dktX4_dear_2 : List UInt8 := dkwX4_dear_2 ++ dktX4_dear_3
def dkwX4_dear_1 : List UInt8 := [21, 5, 42, 182, 0, 129, 163, 0, 75, 42, 21, 5, 182, 0, 168, 153, 0, 60, 42, 21, 5, 182, 0, 177]
abbrev dktX4_dear_1 : List UInt8 := dkwX4_dear_1 ++ dktX4_dear_2
def dkwX4_dear_0 : List UInt8 := [27, 3, 5, 184, 0, 125, 154, 0, 6, 16, 254, 172, 18, 183, 61, 2, 62, 3, 54, 4, 3, 54, 5]
abbrev dktX4_dear_0 : List UInt8 := dkwX4_dear_0 ++ dktX4_dear_1
theorem dksX4_dear_0 : cX4_dear.data.toList.drop 0 = dktX4_dear_0 := by decide +kernel
theorem dksX4_dear_1 : cX4_dear.data.toList.drop 23 = dktX4_dear_1 := dk_seg dksX4_dear_0 23 rfl rfl
theorem dksX4_dear_2 : cX4_dear.data.toList.drop 47 = dktX4_dear_2 := dk_seg dksX4_dear_1 24 rfl rfl
theorem dksX4_dear_3 : cX4_dear.data.toList.drop 71 = dktX4_dear_3 := dk_seg dksX4_dear_2 24 rfl rfl
theorem dksX4_dear_4 : cX4_dear.data.toList.drop 94 = dktX4_dear_4 := dk_seg dksX4_dear_3 23 rfl rfl
theorem dksX4_dear_5 : cX4_dear.data.toList.drop 118 = dktX4_dear_5 := dk_seg dksX4_dear_4 24 rfl rfl
theorem dX4_dear_0 : decode cX4_dear 0 = .ok (.iload_n 1, 1) := dk_27 (dk_at dksX4_dear_0 0 rfl rfl)
theorem dX4_dear_1 : decode cX4_dear 1 = .ok (.iconst 0, 1) := dk_3 (dk_at dksX4_dear_0 1 rfl rfl)
theorem dX4_dear_2 : decode cX4_dear 2 = .ok (.iconst 2, 1) := dk_5 (dk_at dksX4_dear_0 2 rfl rfl)
theorem dX4_dear_3 : decode cX4_dear 3 = .ok (.invokestatic 125, 3) := dk_184 0 125 (dk_at dksX4_dear_0 3 rfl rfl)
theorem dX4_dear_6 : decode cX4_dear 6 = .ok (.ifCond .ne 6, 3) := dk_154 0 6 (dk_at dksX4_dear_0 6 rfl rfl)
theorem dX4_dear_9 : decode cX4_dear 9 = .ok (.bipush (-2), 2) := dk_16 254 (dk_at dksX4_dear_0 9 rfl rfl)
theorem dX4_dear_11 : decode cX4_dear 11 = .ok (.ireturn, 1) := dk_172 (dk_at dksX4_dear_0 11 rfl rfl)
theorem dX4_dear_12 : decode cX4_dear 12 = .ok (.ldc 183, 2) := dk_18 183 (dk_at dksX4_dear_0 12 rfl rfl)
theorem dX4_dear_14 : decode cX4_dear 14 = .ok (.istore_n 2, 1) := dk_61 (dk_at dksX4_dear_0 14 rfl rfl)
theorem dX4_dear_15 : decode cX4_dear 15 = .ok (.iconst (-1), 1) := dk_2 (dk_at dksX4_dear_0 15 rfl rfl)
theorem dX4_dear_16 : decode cX4_dear 16 = .ok (.istore_n 3, 1) := dk_62 (dk_at dksX4_dear_0 16 rfl rfl)
theorem dX4_dear_17 : decode cX4_dear 17 = .ok (.iconst 0, 1) := dk_3 (dk_at dksX4_dear_0 17 rfl rfl)
theorem dX4_dear_18 : decode cX4_dear 18 = .ok (.istore 4, 2) := dk_54 4 (dk_at dksX4_dear_0 18 rfl rfl)
theorem dX4_dear_20 : decode cX4_dear 20 = .ok (.iconst 0, 1) := dk_3 (dk_at dksX4_dear_0 20 rfl rfl)
theorem dX4_dear_21 : decode cX4_dear 21 = .ok (.istore 5, 2) := dk_54 5 (dk_at dksX4_dear_0 21 rfl rfl)
theorem dX4_dear_23 : decode cX4_dear 23 = .ok (.iload 5, 2) := dk_21 5 (dk_at dksX4_dear_1 0 rfl rfl)
theorem dX4_dear_25 : decode cX4_dear 25 = .ok (.aload_n 0, 1) := dk_42 (dk_at dksX4_dear_1 2 rfl rfl)
theorem dX4_dear_26 : decode cX4_dear 26 = .ok (.invokevirtual 129, 3) := dk_182 0 129 (dk_at dksX4_dear_1 3 rfl rfl)
theorem dX4_dear_29 : decode cX4_dear 29 = .ok (.if_icmp .gt 75, 3) := dk_163 0 75 (dk_at dksX4_dear_1 6 rfl rfl)
theorem dX4_dear_32 : decode cX4_dear 32 = .ok (.aload_n 0, 1) := dk_42 (dk_at dksX4_dear_1 9 rfl rfl)
theorem dX4_dear_33 : decode cX4_dear 33 = .ok (.iload 5, 2) := dk_21 5 (dk_at dksX4_dear_1 10 rfl rfl)
theorem dX4_dear_35 : decode cX4_dear 35 = .ok (.invokevirtual 168, 3) := dk_182 0 168 (dk_at dksX4_dear_1 12 rfl rfl)
theorem dX4_dear_38 : decode cX4_dear 38 = .ok (.ifCond .eq 60, 3) := dk_153 0 60 (dk_at dksX4_dear_1 15 rfl rfl)
theorem dX4_dear_41 : decode cX4_dear 41 = .ok (.aload_n 0, 1) := dk_42 (dk_at dksX4_dear_1 18 rfl rfl)
theorem dX4_dear_42 : decode cX4_dear 42 = .ok (.iload 5, 2) := dk_21 5 (dk_at dksX4_dear_1 19 rfl rfl)
theorem dX4_dear_44 : decode cX4_dear 44 = .ok (.invokevirtual 177, 3) := dk_182 0 177 (dk_at dksX4_dear_1 21 rfl rfl)
theorem dX4_dear_47 : decode cX4_dear 47 = .ok (.iload_n 2, 1) := dk_28 (dk_at dksX4_dear_2 0 rfl rfl)
theorem dX4_dear_48 : decode cX4_dear 48 = .ok (.if_icmp .le 6, 3) := dk_164 0 6 (dk_at dksX4_dear_2 1 rfl rfl)
theorem dX4_dear_51 : decode cX4_dear 51 = .ok (.goto 47, 3) := dk_167 0 47 (dk_at dksX4_dear_2 4 rfl rfl)
theorem dX4_dear_54 : decode cX4_dear 54 = .ok (.aload_n 0, 1) := dk_42 (dk_at dksX4_dear_2 7 rfl rfl)
theorem dX4_dear_55 : decode cX4_dear 55 = .ok (.iload 5, 2) := dk_21 5 (dk_at dksX4_dear_2 8 rfl rfl)
theorem dX4_dear_57 : decode cX4_dear 57 = .ok (.invokevirtual 177, 3) := dk_182 0 177 (dk_at dksX4_dear_2 10 rfl rfl)
theorem dX4_dear_60 : decode cX4_dear 60 = .ok (.iload_n 2, 1) := dk_28 (dk_at dksX4_dear_2 13 rfl rfl)
theorem dX4_dear_61 : decode cX4_dear 61 = .ok (.if_icmp .ge 7, 3) := dk_162 0 7 (dk_at dksX4_dear_2 14 rfl rfl)
theorem dX4_dear_64 : decode cX4_dear 64 = .ok (.iconst 1, 1) := dk_4 (dk_at dksX4_dear_2 17 rfl rfl)
theorem dX4_dear_65 : decode cX4_dear 65 = .ok (.goto 7, 3) := dk_167 0 7 (dk_at dksX4_dear_2 18 rfl rfl)
theorem dX4_dear_68 : decode cX4_dear 68 = .ok (.iload 4, 2) := dk_21 4 (dk_at dksX4_dear_2 21 rfl rfl)
theorem dX4_dear_70 : decode cX4_dear 70 = .ok (.iconst 1, 1) := dk_4 (dk_at dksX4_dear_2 23 rfl rfl)
theorem dX4_dear_71 : decode cX4_dear 71 = .ok (.iadd, 1) := dk_96 (dk_at dksX4_dear_3 0 rfl rfl)
theorem dX4_dear_72 : decode cX4_dear 72 = .ok (.istore 4, 2) := dk_54 4 (dk_at dksX4_dear_3 1 rfl rfl)
theorem dX4_dear_74 : decode cX4_dear 74 = .ok (.aload_n 0, 1) := dk_42 (dk_at dksX4_dear_3 3 rfl rfl)
theorem dX4_dear_75 : decode cX4_dear 75 = .ok (.iload 5, 2) := dk_21 5 (dk_at dksX4_dear_3 4 rfl rfl)
theorem dX4_dear_77 : decode cX4_dear 77 = .ok (.invokevirtual 177, 3) := dk_182 0 177 (dk_at dksX4_dear_3 6 rfl rfl)
theorem dX4_dear_80 : decode cX4_dear 80 = .ok (.iload_n 2, 1) := dk_28 (dk_at dksX4_dear_3 9 rfl rfl)
theorem dX4_dear_81 : decode cX4_dear 81 = .ok (.if_icmp .ge 8, 3) := dk_162 0 8 (dk_at dksX4_dear_3 10 rfl rfl)
theorem dX4_dear_84 : decode cX4_dear 84 = .ok (.iload 5, 2) := dk_21 5 (dk_at dksX4_dear_3 13 rfl rfl)
theorem dX4_dear_86 : decode cX4_dear 86 = .ok (.goto 4, 3) := dk_167 0 4 (dk_at dksX4_dear_3 15 rfl rfl)
theorem dX4_dear_89 : decode cX4_dear 89 = .ok (.iload_n 3, 1) := dk_29 (dk_at dksX4_dear_3 18 rfl rfl)
theorem dX4_dear_90 : decode cX4_dear 90 = .ok (.istore_n 3, 1) := dk_62 (dk_at dksX4_dear_3 19 rfl rfl)
theorem dX4_dear_91 : decode cX4_dear 91 = .ok (.aload_n 0, 1) := dk_42 (dk_at dksX4_dear_3 20 rfl rfl)
theorem dX4_dear_92 : decode cX4_dear 92 = .ok (.iload 5, 2) := dk_21 5 (dk_at dksX4_dear_3 21 rfl rfl)
theorem dX4_dear_94 : decode cX4_dear 94 = .ok (.invokevirtual 177, 3) := dk_182 0 177 (dk_at dksX4_dear_4 0 rfl rfl)
theorem dX4_dear_97 : decode cX4_dear 97 = .ok (.istore_n 2, 1) := dk_61 (dk_at dksX4_dear_4 3 rfl rfl)
theorem dX4_dear_98 : decode cX4_dear 98 = .ok (.iinc 5 1, 3) := dk_132 5 1 (dk_at dksX4_dear_4 4 rfl rfl)
theorem dX4_dear_101 : decode cX4_dear 101 = .ok (.goto (-78), 3) := dk_167 255 178 (dk_at dksX4_dear_4 7 rfl rfl)
theorem dX4_dear_104 : decode cX4_dear 104 = .ok (.iload_n 1, 1) := dk_27 (dk_at dksX4_dear_4 10 rfl rfl)
theorem dX4_dear_105 : decode cX4_dear 105 = .ok (.ifCond .ne 7, 3) := dk_154 0 7 (dk_at dksX4_dear_4 11 rfl rfl)
theorem dX4_dear_108 : decode cX4_dear 108 = .ok (.iload_n 2, 1) := dk_28 (dk_at dksX4_dear_4 14 rfl rfl)
theorem dX4_dear_109 : decode cX4_dear 109 = .ok (.goto 14, 3) := dk_167 0 14 (dk_at dksX4_dear_4 15 rfl rfl)
theorem dX4_dear_112 : decode cX4_dear 112 = .ok (.iload_n 1, 1) := dk_27 (dk_at dksX4_dear_4 18 rfl rfl)
theorem dX4_dear_113 : decode cX4_dear 113 = .ok (.iconst 1, 1) := dk_4 (dk_at dksX4_dear_4 19 rfl rfl)
theorem dX4_dear_114 : decode cX4_dear 114 = .ok (.if_icmp .ne 7, 3) := dk_160 0 7 (dk_at dksX4_dear_4 20 rfl rfl)
theorem dX4_dear_117 : decode cX4_dear 117 = .ok (.iload_n 3, 1) := dk_29 (dk_at dksX4_dear_4 23 rfl rfl)
theorem dX4_dear_118 : decode cX4_dear 118 = .ok (.goto 5, 3) := dk_167 0 5 (dk_at dksX4_dear_5 0 rfl rfl)
theorem dX4_dear_121 : decode cX4_dear 121 = .ok (.iload 4, 2) := dk_21 4 (dk_at dksX4_dear_5 3 rfl rfl)
theorem dX4_dear_123 : decode cX4_dear 123 = .ok (.ireturn, 1) := dk_172 (dk_at dksX4_dear_5 5 rfl rfl)
abbrev cX4_sized : ByteArray := prog_32_method_28_code
def yX4_sized : MethodName := ⟨RX4, "sized", "(I)I"⟩
def dkwX4_sized_2 : List UInt8 := [3, 96, 61, 132, 3, 1, 167, 255, 221, 28, 172]
abbrev dktX4_sized_2 : List UInt8 := dkwX4_sized_2 ++ []
def dkwX4_sized_1 : List UInt8 := [163, 0, 33, 28, 29, 184, 0, 133, 27, 160, 0, 15, 42, 29, 182, 0, 168, 153, 0, 7, 4, 167, 0, 4]
abbrev dktX4_sized_1 : List UInt8 := dkwX4_sized_1 ++ dktX4_sized_2
def dkwX4_sized_0 : List UInt8 := [27, 3, 16, 12, 184, 0, 125, 154, 0, 6, 16, 254, 172, 3, 61, 3, 62, 29, 42, 182, 0, 129]
abbrev dktX4_sized_0 : List UInt8 := dkwX4_sized_0 ++ dktX4_sized_1
theorem dksX4_sized_0 : cX4_sized.data.toList.drop 0 = dktX4_sized_0 := by decide +kernel
theorem dksX4_sized_1 : cX4_sized.data.toList.drop 22 = dktX4_sized_1 := dk_seg dksX4_sized_0 22 rfl rfl
theorem dksX4_sized_2 : cX4_sized.data.toList.drop 46 = dktX4_sized_2 := dk_seg dksX4_sized_1 24 rfl rfl
theorem dX4_sized_0 : decode cX4_sized 0 = .ok (.iload_n 1, 1) := dk_27 (dk_at dksX4_sized_0 0 rfl rfl)
theorem dX4_sized_1 : decode cX4_sized 1 = .ok (.iconst 0, 1) := dk_3 (dk_at dksX4_sized_0 1 rfl rfl)
theorem dX4_sized_2 : decode cX4_sized 2 = .ok (.bipush 12, 2) := dk_16 12 (dk_at dksX4_sized_0 2 rfl rfl)
theorem dX4_sized_4 : decode cX4_sized 4 = .ok (.invokestatic 125, 3) := dk_184 0 125 (dk_at dksX4_sized_0 4 rfl rfl)
theorem dX4_sized_7 : decode cX4_sized 7 = .ok (.ifCond .ne 6, 3) := dk_154 0 6 (dk_at dksX4_sized_0 7 rfl rfl)
theorem dX4_sized_10 : decode cX4_sized 10 = .ok (.bipush (-2), 2) := dk_16 254 (dk_at dksX4_sized_0 10 rfl rfl)
theorem dX4_sized_12 : decode cX4_sized 12 = .ok (.ireturn, 1) := dk_172 (dk_at dksX4_sized_0 12 rfl rfl)
theorem dX4_sized_13 : decode cX4_sized 13 = .ok (.iconst 0, 1) := dk_3 (dk_at dksX4_sized_0 13 rfl rfl)
theorem dX4_sized_14 : decode cX4_sized 14 = .ok (.istore_n 2, 1) := dk_61 (dk_at dksX4_sized_0 14 rfl rfl)
theorem dX4_sized_15 : decode cX4_sized 15 = .ok (.iconst 0, 1) := dk_3 (dk_at dksX4_sized_0 15 rfl rfl)
theorem dX4_sized_16 : decode cX4_sized 16 = .ok (.istore_n 3, 1) := dk_62 (dk_at dksX4_sized_0 16 rfl rfl)
theorem dX4_sized_17 : decode cX4_sized 17 = .ok (.iload_n 3, 1) := dk_29 (dk_at dksX4_sized_0 17 rfl rfl)
theorem dX4_sized_18 : decode cX4_sized 18 = .ok (.aload_n 0, 1) := dk_42 (dk_at dksX4_sized_0 18 rfl rfl)
theorem dX4_sized_19 : decode cX4_sized 19 = .ok (.invokevirtual 129, 3) := dk_182 0 129 (dk_at dksX4_sized_0 19 rfl rfl)
theorem dX4_sized_22 : decode cX4_sized 22 = .ok (.if_icmp .gt 33, 3) := dk_163 0 33 (dk_at dksX4_sized_1 0 rfl rfl)
theorem dX4_sized_25 : decode cX4_sized 25 = .ok (.iload_n 2, 1) := dk_28 (dk_at dksX4_sized_1 3 rfl rfl)
theorem dX4_sized_26 : decode cX4_sized 26 = .ok (.iload_n 3, 1) := dk_29 (dk_at dksX4_sized_1 4 rfl rfl)
theorem dX4_sized_27 : decode cX4_sized 27 = .ok (.invokestatic 133, 3) := dk_184 0 133 (dk_at dksX4_sized_1 5 rfl rfl)
theorem dX4_sized_30 : decode cX4_sized 30 = .ok (.iload_n 1, 1) := dk_27 (dk_at dksX4_sized_1 8 rfl rfl)
theorem dX4_sized_31 : decode cX4_sized 31 = .ok (.if_icmp .ne 15, 3) := dk_160 0 15 (dk_at dksX4_sized_1 9 rfl rfl)
theorem dX4_sized_34 : decode cX4_sized 34 = .ok (.aload_n 0, 1) := dk_42 (dk_at dksX4_sized_1 12 rfl rfl)
theorem dX4_sized_35 : decode cX4_sized 35 = .ok (.iload_n 3, 1) := dk_29 (dk_at dksX4_sized_1 13 rfl rfl)
theorem dX4_sized_36 : decode cX4_sized 36 = .ok (.invokevirtual 168, 3) := dk_182 0 168 (dk_at dksX4_sized_1 14 rfl rfl)
theorem dX4_sized_39 : decode cX4_sized 39 = .ok (.ifCond .eq 7, 3) := dk_153 0 7 (dk_at dksX4_sized_1 17 rfl rfl)
theorem dX4_sized_42 : decode cX4_sized 42 = .ok (.iconst 1, 1) := dk_4 (dk_at dksX4_sized_1 20 rfl rfl)
theorem dX4_sized_43 : decode cX4_sized 43 = .ok (.goto 4, 3) := dk_167 0 4 (dk_at dksX4_sized_1 21 rfl rfl)
theorem dX4_sized_46 : decode cX4_sized 46 = .ok (.iconst 0, 1) := dk_3 (dk_at dksX4_sized_2 0 rfl rfl)
theorem dX4_sized_47 : decode cX4_sized 47 = .ok (.iadd, 1) := dk_96 (dk_at dksX4_sized_2 1 rfl rfl)
theorem dX4_sized_48 : decode cX4_sized 48 = .ok (.istore_n 2, 1) := dk_61 (dk_at dksX4_sized_2 2 rfl rfl)
theorem dX4_sized_49 : decode cX4_sized 49 = .ok (.iinc 3 1, 3) := dk_132 3 1 (dk_at dksX4_sized_2 3 rfl rfl)
theorem dX4_sized_52 : decode cX4_sized 52 = .ok (.goto (-35), 3) := dk_167 255 221 (dk_at dksX4_sized_2 6 rfl rfl)
theorem dX4_sized_55 : decode cX4_sized 55 = .ok (.iload_n 2, 1) := dk_28 (dk_at dksX4_sized_2 9 rfl rfl)
theorem dX4_sized_56 : decode cX4_sized 56 = .ok (.ireturn, 1) := dk_172 (dk_at dksX4_sized_2 10 rfl rfl)
abbrev cX4_bare : ByteArray := prog_32_method_29_code
def yX4_bare : MethodName := ⟨RX4, "bare", "(I)I"⟩
def dkwX4_bare_4 : List UInt8 := [167, 0, 14, 27, 4, 160, 0, 7, 29, 167, 0, 5, 21, 4, 172]
abbrev dktX4_bare_4 : List UInt8 := dkwX4_bare_4 ++ []
def dkwX4_bare_3 : List UInt8 := [164, 0, 11, 21, 5, 184, 0, 133, 167, 0, 4, 29, 62, 132, 5, 1, 167, 255, 192, 27, 154, 0, 7, 28]
abbrev dktX4_bare_3 : List UInt8 := dkwX4_bare_3 ++ dktX4_bare_4
def dkwX4_bare_2 : List UInt8 := [184, 0, 133, 29, 164, 0, 8, 21, 5, 167, 0, 5, 21, 4, 54, 4, 21, 5, 184, 0, 133, 29]
abbrev dktX4_bare_2 : List UInt8 := dkwX4_bare_2 ++ dktX4_bare_3
def dkwX4_bare_1 : List UInt8 := [42, 182, 0, 129, 163, 0, 61, 42, 21, 5, 182, 0, 174, 154, 0, 6, 167, 0, 43, 132, 2, 1, 21, 5]
abbrev dktX4_bare_1 : List UInt8 := dkwX4_bare_1 ++ dktX4_bare_2
def dkwX4_bare_0 : List UInt8 := [27, 3, 5, 184, 0, 125, 154, 0, 6, 16, 254, 172, 3, 61, 2, 62, 2, 54, 4, 3, 54, 5, 21, 5]
abbrev dktX4_bare_0 : List UInt8 := dkwX4_bare_0 ++ dktX4_bare_1
theorem dksX4_bare_0 : cX4_bare.data.toList.drop 0 = dktX4_bare_0 := by decide +kernel
theorem dksX4_bare_1 : cX4_bare.data.toList.drop 24 = dktX4_bare_1 := dk_seg dksX4_bare_0 24 rfl rfl
theorem dksX4_bare_2 : cX4_bare.data.toList.drop 48 = dktX4_bare_2 := dk_seg dksX4_bare_1 24 rfl rfl
theorem dksX4_bare_3 : cX4_bare.data.toList.drop 70 = dktX4_bare_3 := dk_seg dksX4_bare_2 22 rfl rfl
theorem dksX4_bare_4 : cX4_bare.data.toList.drop 94 = dktX4_bare_4 := dk_seg dksX4_bare_3 24 rfl rfl
theorem dX4_bare_0 : decode cX4_bare 0 = .ok (.iload_n 1, 1) := dk_27 (dk_at dksX4_bare_0 0 rfl rfl)
theorem dX4_bare_1 : decode cX4_bare 1 = .ok (.iconst 0, 1) := dk_3 (dk_at dksX4_bare_0 1 rfl rfl)
theorem dX4_bare_2 : decode cX4_bare 2 = .ok (.iconst 2, 1) := dk_5 (dk_at dksX4_bare_0 2 rfl rfl)
theorem dX4_bare_3 : decode cX4_bare 3 = .ok (.invokestatic 125, 3) := dk_184 0 125 (dk_at dksX4_bare_0 3 rfl rfl)
theorem dX4_bare_6 : decode cX4_bare 6 = .ok (.ifCond .ne 6, 3) := dk_154 0 6 (dk_at dksX4_bare_0 6 rfl rfl)
theorem dX4_bare_9 : decode cX4_bare 9 = .ok (.bipush (-2), 2) := dk_16 254 (dk_at dksX4_bare_0 9 rfl rfl)
theorem dX4_bare_11 : decode cX4_bare 11 = .ok (.ireturn, 1) := dk_172 (dk_at dksX4_bare_0 11 rfl rfl)
theorem dX4_bare_12 : decode cX4_bare 12 = .ok (.iconst 0, 1) := dk_3 (dk_at dksX4_bare_0 12 rfl rfl)
theorem dX4_bare_13 : decode cX4_bare 13 = .ok (.istore_n 2, 1) := dk_61 (dk_at dksX4_bare_0 13 rfl rfl)
theorem dX4_bare_14 : decode cX4_bare 14 = .ok (.iconst (-1), 1) := dk_2 (dk_at dksX4_bare_0 14 rfl rfl)
theorem dX4_bare_15 : decode cX4_bare 15 = .ok (.istore_n 3, 1) := dk_62 (dk_at dksX4_bare_0 15 rfl rfl)
theorem dX4_bare_16 : decode cX4_bare 16 = .ok (.iconst (-1), 1) := dk_2 (dk_at dksX4_bare_0 16 rfl rfl)
theorem dX4_bare_17 : decode cX4_bare 17 = .ok (.istore 4, 2) := dk_54 4 (dk_at dksX4_bare_0 17 rfl rfl)
theorem dX4_bare_19 : decode cX4_bare 19 = .ok (.iconst 0, 1) := dk_3 (dk_at dksX4_bare_0 19 rfl rfl)
theorem dX4_bare_20 : decode cX4_bare 20 = .ok (.istore 5, 2) := dk_54 5 (dk_at dksX4_bare_0 20 rfl rfl)
theorem dX4_bare_22 : decode cX4_bare 22 = .ok (.iload 5, 2) := dk_21 5 (dk_at dksX4_bare_0 22 rfl rfl)
theorem dX4_bare_24 : decode cX4_bare 24 = .ok (.aload_n 0, 1) := dk_42 (dk_at dksX4_bare_1 0 rfl rfl)
theorem dX4_bare_25 : decode cX4_bare 25 = .ok (.invokevirtual 129, 3) := dk_182 0 129 (dk_at dksX4_bare_1 1 rfl rfl)
theorem dX4_bare_28 : decode cX4_bare 28 = .ok (.if_icmp .gt 61, 3) := dk_163 0 61 (dk_at dksX4_bare_1 4 rfl rfl)
theorem dX4_bare_31 : decode cX4_bare 31 = .ok (.aload_n 0, 1) := dk_42 (dk_at dksX4_bare_1 7 rfl rfl)
theorem dX4_bare_32 : decode cX4_bare 32 = .ok (.iload 5, 2) := dk_21 5 (dk_at dksX4_bare_1 8 rfl rfl)
theorem dX4_bare_34 : decode cX4_bare 34 = .ok (.invokevirtual 174, 3) := dk_182 0 174 (dk_at dksX4_bare_1 10 rfl rfl)
theorem dX4_bare_37 : decode cX4_bare 37 = .ok (.ifCond .ne 6, 3) := dk_154 0 6 (dk_at dksX4_bare_1 13 rfl rfl)
theorem dX4_bare_40 : decode cX4_bare 40 = .ok (.goto 43, 3) := dk_167 0 43 (dk_at dksX4_bare_1 16 rfl rfl)
theorem dX4_bare_43 : decode cX4_bare 43 = .ok (.iinc 2 1, 3) := dk_132 2 1 (dk_at dksX4_bare_1 19 rfl rfl)
theorem dX4_bare_46 : decode cX4_bare 46 = .ok (.iload 5, 2) := dk_21 5 (dk_at dksX4_bare_1 22 rfl rfl)
theorem dX4_bare_48 : decode cX4_bare 48 = .ok (.invokestatic 133, 3) := dk_184 0 133 (dk_at dksX4_bare_2 0 rfl rfl)
theorem dX4_bare_51 : decode cX4_bare 51 = .ok (.iload_n 3, 1) := dk_29 (dk_at dksX4_bare_2 3 rfl rfl)
theorem dX4_bare_52 : decode cX4_bare 52 = .ok (.if_icmp .le 8, 3) := dk_164 0 8 (dk_at dksX4_bare_2 4 rfl rfl)
theorem dX4_bare_55 : decode cX4_bare 55 = .ok (.iload 5, 2) := dk_21 5 (dk_at dksX4_bare_2 7 rfl rfl)
theorem dX4_bare_57 : decode cX4_bare 57 = .ok (.goto 5, 3) := dk_167 0 5 (dk_at dksX4_bare_2 9 rfl rfl)
theorem dX4_bare_60 : decode cX4_bare 60 = .ok (.iload 4, 2) := dk_21 4 (dk_at dksX4_bare_2 12 rfl rfl)
theorem dX4_bare_62 : decode cX4_bare 62 = .ok (.istore 4, 2) := dk_54 4 (dk_at dksX4_bare_2 14 rfl rfl)
theorem dX4_bare_64 : decode cX4_bare 64 = .ok (.iload 5, 2) := dk_21 5 (dk_at dksX4_bare_2 16 rfl rfl)
theorem dX4_bare_66 : decode cX4_bare 66 = .ok (.invokestatic 133, 3) := dk_184 0 133 (dk_at dksX4_bare_2 18 rfl rfl)
theorem dX4_bare_69 : decode cX4_bare 69 = .ok (.iload_n 3, 1) := dk_29 (dk_at dksX4_bare_2 21 rfl rfl)
theorem dX4_bare_70 : decode cX4_bare 70 = .ok (.if_icmp .le 11, 3) := dk_164 0 11 (dk_at dksX4_bare_3 0 rfl rfl)
theorem dX4_bare_73 : decode cX4_bare 73 = .ok (.iload 5, 2) := dk_21 5 (dk_at dksX4_bare_3 3 rfl rfl)
theorem dX4_bare_75 : decode cX4_bare 75 = .ok (.invokestatic 133, 3) := dk_184 0 133 (dk_at dksX4_bare_3 5 rfl rfl)
theorem dX4_bare_78 : decode cX4_bare 78 = .ok (.goto 4, 3) := dk_167 0 4 (dk_at dksX4_bare_3 8 rfl rfl)
theorem dX4_bare_81 : decode cX4_bare 81 = .ok (.iload_n 3, 1) := dk_29 (dk_at dksX4_bare_3 11 rfl rfl)
theorem dX4_bare_82 : decode cX4_bare 82 = .ok (.istore_n 3, 1) := dk_62 (dk_at dksX4_bare_3 12 rfl rfl)
theorem dX4_bare_83 : decode cX4_bare 83 = .ok (.iinc 5 1, 3) := dk_132 5 1 (dk_at dksX4_bare_3 13 rfl rfl)
theorem dX4_bare_86 : decode cX4_bare 86 = .ok (.goto (-64), 3) := dk_167 255 192 (dk_at dksX4_bare_3 16 rfl rfl)
theorem dX4_bare_89 : decode cX4_bare 89 = .ok (.iload_n 1, 1) := dk_27 (dk_at dksX4_bare_3 19 rfl rfl)
theorem dX4_bare_90 : decode cX4_bare 90 = .ok (.ifCond .ne 7, 3) := dk_154 0 7 (dk_at dksX4_bare_3 20 rfl rfl)
theorem dX4_bare_93 : decode cX4_bare 93 = .ok (.iload_n 2, 1) := dk_28 (dk_at dksX4_bare_3 23 rfl rfl)
theorem dX4_bare_94 : decode cX4_bare 94 = .ok (.goto 14, 3) := dk_167 0 14 (dk_at dksX4_bare_4 0 rfl rfl)
theorem dX4_bare_97 : decode cX4_bare 97 = .ok (.iload_n 1, 1) := dk_27 (dk_at dksX4_bare_4 3 rfl rfl)
theorem dX4_bare_98 : decode cX4_bare 98 = .ok (.iconst 1, 1) := dk_4 (dk_at dksX4_bare_4 4 rfl rfl)
theorem dX4_bare_99 : decode cX4_bare 99 = .ok (.if_icmp .ne 7, 3) := dk_160 0 7 (dk_at dksX4_bare_4 5 rfl rfl)
theorem dX4_bare_102 : decode cX4_bare 102 = .ok (.iload_n 3, 1) := dk_29 (dk_at dksX4_bare_4 8 rfl rfl)
theorem dX4_bare_103 : decode cX4_bare 103 = .ok (.goto 5, 3) := dk_167 0 5 (dk_at dksX4_bare_4 9 rfl rfl)
theorem dX4_bare_106 : decode cX4_bare 106 = .ok (.iload 4, 2) := dk_21 4 (dk_at dksX4_bare_4 12 rfl rfl)
theorem dX4_bare_108 : decode cX4_bare 108 = .ok (.ireturn, 1) := dk_172 (dk_at dksX4_bare_4 14 rfl rfl)
abbrev cX4_share : ByteArray := prog_32_method_31_code
def yX4_share : MethodName := ⟨RX4, "share", "(I)J"⟩
def dkwX4_share_3 : List UInt8 := [22, 4, 184, 0, 186, 109, 173]
abbrev dktX4_share_3 : List UInt8 := dkwX4_share_3 ++ []
def dkwX4_share_2 : List UInt8 := [167, 0, 4, 9, 97, 65, 132, 6, 1, 167, 255, 227, 27, 154, 0, 7, 32, 167, 0, 5, 22, 4, 32]
abbrev dktX4_share_2 : List UInt8 := dkwX4_share_2 ++ dktX4_share_3
def dkwX4_share_1 : List UInt8 := [3, 54, 6, 21, 6, 42, 182, 0, 129, 163, 0, 26, 32, 42, 21, 6, 182, 0, 168, 153, 0, 7, 10]
abbrev dktX4_share_1 : List UInt8 := dkwX4_share_1 ++ dktX4_share_2
def dkwX4_share_0 : List UInt8 := [27, 3, 4, 184, 0, 125, 154, 0, 7, 20, 0, 184, 173, 9, 65, 42, 182, 0, 129, 133, 10, 97, 55, 4]
abbrev dktX4_share_0 : List UInt8 := dkwX4_share_0 ++ dktX4_share_1
theorem dksX4_share_0 : cX4_share.data.toList.drop 0 = dktX4_share_0 := by decide +kernel
theorem dksX4_share_1 : cX4_share.data.toList.drop 24 = dktX4_share_1 := dk_seg dksX4_share_0 24 rfl rfl
theorem dksX4_share_2 : cX4_share.data.toList.drop 47 = dktX4_share_2 := dk_seg dksX4_share_1 23 rfl rfl
theorem dksX4_share_3 : cX4_share.data.toList.drop 70 = dktX4_share_3 := dk_seg dksX4_share_2 23 rfl rfl
theorem dX4_share_0 : decode cX4_share 0 = .ok (.iload_n 1, 1) := dk_27 (dk_at dksX4_share_0 0 rfl rfl)
theorem dX4_share_1 : decode cX4_share 1 = .ok (.iconst 0, 1) := dk_3 (dk_at dksX4_share_0 1 rfl rfl)
theorem dX4_share_2 : decode cX4_share 2 = .ok (.iconst 1, 1) := dk_4 (dk_at dksX4_share_0 2 rfl rfl)
theorem dX4_share_3 : decode cX4_share 3 = .ok (.invokestatic 125, 3) := dk_184 0 125 (dk_at dksX4_share_0 3 rfl rfl)
theorem dX4_share_6 : decode cX4_share 6 = .ok (.ifCond .ne 7, 3) := dk_154 0 7 (dk_at dksX4_share_0 6 rfl rfl)
theorem dX4_share_9 : decode cX4_share 9 = .ok (.ldc2_w 184, 3) := dk_20 0 184 (dk_at dksX4_share_0 9 rfl rfl)
theorem dX4_share_12 : decode cX4_share 12 = .ok (.lreturn, 1) := dk_173 (dk_at dksX4_share_0 12 rfl rfl)
theorem dX4_share_13 : decode cX4_share 13 = .ok (.lconst 0, 1) := dk_9 (dk_at dksX4_share_0 13 rfl rfl)
theorem dX4_share_14 : decode cX4_share 14 = .ok (.lstore_n 2, 1) := dk_65 (dk_at dksX4_share_0 14 rfl rfl)
theorem dX4_share_15 : decode cX4_share 15 = .ok (.aload_n 0, 1) := dk_42 (dk_at dksX4_share_0 15 rfl rfl)
theorem dX4_share_16 : decode cX4_share 16 = .ok (.invokevirtual 129, 3) := dk_182 0 129 (dk_at dksX4_share_0 16 rfl rfl)
theorem dX4_share_19 : decode cX4_share 19 = .ok (.i2l, 1) := dk_133 (dk_at dksX4_share_0 19 rfl rfl)
theorem dX4_share_20 : decode cX4_share 20 = .ok (.lconst 1, 1) := dk_10 (dk_at dksX4_share_0 20 rfl rfl)
theorem dX4_share_21 : decode cX4_share 21 = .ok (.ladd, 1) := dk_97 (dk_at dksX4_share_0 21 rfl rfl)
theorem dX4_share_22 : decode cX4_share 22 = .ok (.lstore 4, 2) := dk_55 4 (dk_at dksX4_share_0 22 rfl rfl)
theorem dX4_share_24 : decode cX4_share 24 = .ok (.iconst 0, 1) := dk_3 (dk_at dksX4_share_1 0 rfl rfl)
theorem dX4_share_25 : decode cX4_share 25 = .ok (.istore 6, 2) := dk_54 6 (dk_at dksX4_share_1 1 rfl rfl)
theorem dX4_share_27 : decode cX4_share 27 = .ok (.iload 6, 2) := dk_21 6 (dk_at dksX4_share_1 3 rfl rfl)
theorem dX4_share_29 : decode cX4_share 29 = .ok (.aload_n 0, 1) := dk_42 (dk_at dksX4_share_1 5 rfl rfl)
theorem dX4_share_30 : decode cX4_share 30 = .ok (.invokevirtual 129, 3) := dk_182 0 129 (dk_at dksX4_share_1 6 rfl rfl)
theorem dX4_share_33 : decode cX4_share 33 = .ok (.if_icmp .gt 26, 3) := dk_163 0 26 (dk_at dksX4_share_1 9 rfl rfl)
theorem dX4_share_36 : decode cX4_share 36 = .ok (.lload_n 2, 1) := dk_32 (dk_at dksX4_share_1 12 rfl rfl)
theorem dX4_share_37 : decode cX4_share 37 = .ok (.aload_n 0, 1) := dk_42 (dk_at dksX4_share_1 13 rfl rfl)
theorem dX4_share_38 : decode cX4_share 38 = .ok (.iload 6, 2) := dk_21 6 (dk_at dksX4_share_1 14 rfl rfl)
theorem dX4_share_40 : decode cX4_share 40 = .ok (.invokevirtual 168, 3) := dk_182 0 168 (dk_at dksX4_share_1 16 rfl rfl)
theorem dX4_share_43 : decode cX4_share 43 = .ok (.ifCond .eq 7, 3) := dk_153 0 7 (dk_at dksX4_share_1 19 rfl rfl)
theorem dX4_share_46 : decode cX4_share 46 = .ok (.lconst 1, 1) := dk_10 (dk_at dksX4_share_1 22 rfl rfl)
theorem dX4_share_47 : decode cX4_share 47 = .ok (.goto 4, 3) := dk_167 0 4 (dk_at dksX4_share_2 0 rfl rfl)
theorem dX4_share_50 : decode cX4_share 50 = .ok (.lconst 0, 1) := dk_9 (dk_at dksX4_share_2 3 rfl rfl)
theorem dX4_share_51 : decode cX4_share 51 = .ok (.ladd, 1) := dk_97 (dk_at dksX4_share_2 4 rfl rfl)
theorem dX4_share_52 : decode cX4_share 52 = .ok (.lstore_n 2, 1) := dk_65 (dk_at dksX4_share_2 5 rfl rfl)
theorem dX4_share_53 : decode cX4_share 53 = .ok (.iinc 6 1, 3) := dk_132 6 1 (dk_at dksX4_share_2 6 rfl rfl)
theorem dX4_share_56 : decode cX4_share 56 = .ok (.goto (-29), 3) := dk_167 255 227 (dk_at dksX4_share_2 9 rfl rfl)
theorem dX4_share_59 : decode cX4_share 59 = .ok (.iload_n 1, 1) := dk_27 (dk_at dksX4_share_2 12 rfl rfl)
theorem dX4_share_60 : decode cX4_share 60 = .ok (.ifCond .ne 7, 3) := dk_154 0 7 (dk_at dksX4_share_2 13 rfl rfl)
theorem dX4_share_63 : decode cX4_share 63 = .ok (.lload_n 2, 1) := dk_32 (dk_at dksX4_share_2 16 rfl rfl)
theorem dX4_share_64 : decode cX4_share 64 = .ok (.goto 5, 3) := dk_167 0 5 (dk_at dksX4_share_2 17 rfl rfl)
theorem dX4_share_67 : decode cX4_share 67 = .ok (.lload 4, 2) := dk_22 4 (dk_at dksX4_share_2 20 rfl rfl)
theorem dX4_share_69 : decode cX4_share 69 = .ok (.lload_n 2, 1) := dk_32 (dk_at dksX4_share_2 22 rfl rfl)
theorem dX4_share_70 : decode cX4_share 70 = .ok (.lload 4, 2) := dk_22 4 (dk_at dksX4_share_3 0 rfl rfl)
theorem dX4_share_72 : decode cX4_share 72 = .ok (.invokestatic 186, 3) := dk_184 0 186 (dk_at dksX4_share_3 2 rfl rfl)
theorem dX4_share_75 : decode cX4_share 75 = .ok (.ldiv, 1) := dk_109 (dk_at dksX4_share_3 5 rfl rfl)
theorem dX4_share_76 : decode cX4_share 76 = .ok (.lreturn, 1) := dk_173 (dk_at dksX4_share_3 6 rfl rfl)
abbrev cX4_gcd : ByteArray := prog_32_method_30_code
def yX4_gcd : MethodName := ⟨RX4, "gcd", "(JJ)J"⟩
def dkwX4_gcd_1 : List UInt8 := [22, 8, 55, 6, 167, 255, 234, 22, 4, 173]
abbrev dktX4_gcd_1 : List UInt8 := dkwX4_gcd_1 ++ []
def dkwX4_gcd_0 : List UInt8 := [30, 55, 4, 32, 55, 6, 22, 6, 9, 148, 153, 0, 21, 22, 4, 22, 6, 113, 55, 8, 22, 6, 55, 4]
abbrev dktX4_gcd_0 : List UInt8 := dkwX4_gcd_0 ++ dktX4_gcd_1
theorem dksX4_gcd_0 : cX4_gcd.data.toList.drop 0 = dktX4_gcd_0 := by decide +kernel
theorem dksX4_gcd_1 : cX4_gcd.data.toList.drop 24 = dktX4_gcd_1 := dk_seg dksX4_gcd_0 24 rfl rfl
theorem dX4_gcd_0 : decode cX4_gcd 0 = .ok (.lload_n 0, 1) := dk_30 (dk_at dksX4_gcd_0 0 rfl rfl)
theorem dX4_gcd_1 : decode cX4_gcd 1 = .ok (.lstore 4, 2) := dk_55 4 (dk_at dksX4_gcd_0 1 rfl rfl)
theorem dX4_gcd_3 : decode cX4_gcd 3 = .ok (.lload_n 2, 1) := dk_32 (dk_at dksX4_gcd_0 3 rfl rfl)
theorem dX4_gcd_4 : decode cX4_gcd 4 = .ok (.lstore 6, 2) := dk_55 6 (dk_at dksX4_gcd_0 4 rfl rfl)
theorem dX4_gcd_6 : decode cX4_gcd 6 = .ok (.lload 6, 2) := dk_22 6 (dk_at dksX4_gcd_0 6 rfl rfl)
theorem dX4_gcd_8 : decode cX4_gcd 8 = .ok (.lconst 0, 1) := dk_9 (dk_at dksX4_gcd_0 8 rfl rfl)
theorem dX4_gcd_9 : decode cX4_gcd 9 = .ok (.lcmp, 1) := dk_148 (dk_at dksX4_gcd_0 9 rfl rfl)
theorem dX4_gcd_10 : decode cX4_gcd 10 = .ok (.ifCond .eq 21, 3) := dk_153 0 21 (dk_at dksX4_gcd_0 10 rfl rfl)
theorem dX4_gcd_13 : decode cX4_gcd 13 = .ok (.lload 4, 2) := dk_22 4 (dk_at dksX4_gcd_0 13 rfl rfl)
theorem dX4_gcd_15 : decode cX4_gcd 15 = .ok (.lload 6, 2) := dk_22 6 (dk_at dksX4_gcd_0 15 rfl rfl)
theorem dX4_gcd_17 : decode cX4_gcd 17 = .ok (.lrem, 1) := dk_113 (dk_at dksX4_gcd_0 17 rfl rfl)
theorem dX4_gcd_18 : decode cX4_gcd 18 = .ok (.lstore 8, 2) := dk_55 8 (dk_at dksX4_gcd_0 18 rfl rfl)
theorem dX4_gcd_20 : decode cX4_gcd 20 = .ok (.lload 6, 2) := dk_22 6 (dk_at dksX4_gcd_0 20 rfl rfl)
theorem dX4_gcd_22 : decode cX4_gcd 22 = .ok (.lstore 4, 2) := dk_55 4 (dk_at dksX4_gcd_0 22 rfl rfl)
theorem dX4_gcd_24 : decode cX4_gcd 24 = .ok (.lload 8, 2) := dk_22 8 (dk_at dksX4_gcd_1 0 rfl rfl)
theorem dX4_gcd_26 : decode cX4_gcd 26 = .ok (.lstore 6, 2) := dk_55 6 (dk_at dksX4_gcd_1 2 rfl rfl)
theorem dX4_gcd_28 : decode cX4_gcd 28 = .ok (.goto (-22), 3) := dk_167 255 234 (dk_at dksX4_gcd_1 4 rfl rfl)
theorem dX4_gcd_31 : decode cX4_gcd 31 = .ok (.lload 4, 2) := dk_22 4 (dk_at dksX4_gcd_1 7 rfl rfl)
theorem dX4_gcd_33 : decode cX4_gcd 33 = .ok (.lreturn, 1) := dk_173 (dk_at dksX4_gcd_1 9 rfl rfl)
abbrev cX4_halves : ByteArray := prog_32_method_38_code
def yX4_halves : MethodName := ⟨RX4, "halves", "(I)I"⟩
def dkwX4_halves_1 : List UInt8 := [154, 0, 7, 28, 167, 0, 14, 42, 27, 4, 100, 42, 182, 0, 129, 182, 0, 209, 172]
abbrev dktX4_halves_1 : List UInt8 := dkwX4_halves_1 ++ []
def dkwX4_halves_0 : List UInt8 := [27, 3, 6, 184, 0, 125, 154, 0, 6, 16, 254, 172, 42, 42, 182, 0, 129, 182, 0, 206, 61, 27]
abbrev dktX4_halves_0 : List UInt8 := dkwX4_halves_0 ++ dktX4_halves_1
theorem dksX4_halves_0 : cX4_halves.data.toList.drop 0 = dktX4_halves_0 := by decide +kernel
theorem dksX4_halves_1 : cX4_halves.data.toList.drop 22 = dktX4_halves_1 := dk_seg dksX4_halves_0 22 rfl rfl
theorem dX4_halves_0 : decode cX4_halves 0 = .ok (.iload_n 1, 1) := dk_27 (dk_at dksX4_halves_0 0 rfl rfl)
theorem dX4_halves_1 : decode cX4_halves 1 = .ok (.iconst 0, 1) := dk_3 (dk_at dksX4_halves_0 1 rfl rfl)
theorem dX4_halves_2 : decode cX4_halves 2 = .ok (.iconst 3, 1) := dk_6 (dk_at dksX4_halves_0 2 rfl rfl)
theorem dX4_halves_3 : decode cX4_halves 3 = .ok (.invokestatic 125, 3) := dk_184 0 125 (dk_at dksX4_halves_0 3 rfl rfl)
theorem dX4_halves_6 : decode cX4_halves 6 = .ok (.ifCond .ne 6, 3) := dk_154 0 6 (dk_at dksX4_halves_0 6 rfl rfl)
theorem dX4_halves_9 : decode cX4_halves 9 = .ok (.bipush (-2), 2) := dk_16 254 (dk_at dksX4_halves_0 9 rfl rfl)
theorem dX4_halves_11 : decode cX4_halves 11 = .ok (.ireturn, 1) := dk_172 (dk_at dksX4_halves_0 11 rfl rfl)
theorem dX4_halves_12 : decode cX4_halves 12 = .ok (.aload_n 0, 1) := dk_42 (dk_at dksX4_halves_0 12 rfl rfl)
theorem dX4_halves_13 : decode cX4_halves 13 = .ok (.aload_n 0, 1) := dk_42 (dk_at dksX4_halves_0 13 rfl rfl)
theorem dX4_halves_14 : decode cX4_halves 14 = .ok (.invokevirtual 129, 3) := dk_182 0 129 (dk_at dksX4_halves_0 14 rfl rfl)
theorem dX4_halves_17 : decode cX4_halves 17 = .ok (.invokevirtual 206, 3) := dk_182 0 206 (dk_at dksX4_halves_0 17 rfl rfl)
theorem dX4_halves_20 : decode cX4_halves 20 = .ok (.istore_n 2, 1) := dk_61 (dk_at dksX4_halves_0 20 rfl rfl)
theorem dX4_halves_21 : decode cX4_halves 21 = .ok (.iload_n 1, 1) := dk_27 (dk_at dksX4_halves_0 21 rfl rfl)
theorem dX4_halves_22 : decode cX4_halves 22 = .ok (.ifCond .ne 7, 3) := dk_154 0 7 (dk_at dksX4_halves_1 0 rfl rfl)
theorem dX4_halves_25 : decode cX4_halves 25 = .ok (.iload_n 2, 1) := dk_28 (dk_at dksX4_halves_1 3 rfl rfl)
theorem dX4_halves_26 : decode cX4_halves 26 = .ok (.goto 14, 3) := dk_167 0 14 (dk_at dksX4_halves_1 4 rfl rfl)
theorem dX4_halves_29 : decode cX4_halves 29 = .ok (.aload_n 0, 1) := dk_42 (dk_at dksX4_halves_1 7 rfl rfl)
theorem dX4_halves_30 : decode cX4_halves 30 = .ok (.iload_n 1, 1) := dk_27 (dk_at dksX4_halves_1 8 rfl rfl)
theorem dX4_halves_31 : decode cX4_halves 31 = .ok (.iconst 1, 1) := dk_4 (dk_at dksX4_halves_1 9 rfl rfl)
theorem dX4_halves_32 : decode cX4_halves 32 = .ok (.isub, 1) := dk_100 (dk_at dksX4_halves_1 10 rfl rfl)
theorem dX4_halves_33 : decode cX4_halves 33 = .ok (.aload_n 0, 1) := dk_42 (dk_at dksX4_halves_1 11 rfl rfl)
theorem dX4_halves_34 : decode cX4_halves 34 = .ok (.invokevirtual 129, 3) := dk_182 0 129 (dk_at dksX4_halves_1 12 rfl rfl)
theorem dX4_halves_37 : decode cX4_halves 37 = .ok (.invokevirtual 209, 3) := dk_182 0 209 (dk_at dksX4_halves_1 15 rfl rfl)
theorem dX4_halves_40 : decode cX4_halves 40 = .ok (.ireturn, 1) := dk_172 (dk_at dksX4_halves_1 18 rfl rfl)
abbrev cX4_laysHalves : ByteArray := prog_32_method_36_code
def yX4_laysHalves : MethodName := ⟨RX4, "laysHalves", "(I)I"⟩
def dkwX4_laysHalves_0 : List UInt8 := [42, 27, 182, 0, 203, 61, 42, 3, 28, 27, 2, 3, 182, 0, 196, 62, 28, 172]
abbrev dktX4_laysHalves_0 : List UInt8 := dkwX4_laysHalves_0 ++ []
theorem dksX4_laysHalves_0 : cX4_laysHalves.data.toList.drop 0 = dktX4_laysHalves_0 := by decide +kernel
theorem dX4_laysHalves_0 : decode cX4_laysHalves 0 = .ok (.aload_n 0, 1) := dk_42 (dk_at dksX4_laysHalves_0 0 rfl rfl)
theorem dX4_laysHalves_1 : decode cX4_laysHalves 1 = .ok (.iload_n 1, 1) := dk_27 (dk_at dksX4_laysHalves_0 1 rfl rfl)
theorem dX4_laysHalves_2 : decode cX4_laysHalves 2 = .ok (.invokevirtual 203, 3) := dk_182 0 203 (dk_at dksX4_laysHalves_0 2 rfl rfl)
theorem dX4_laysHalves_5 : decode cX4_laysHalves 5 = .ok (.istore_n 2, 1) := dk_61 (dk_at dksX4_laysHalves_0 5 rfl rfl)
theorem dX4_laysHalves_6 : decode cX4_laysHalves 6 = .ok (.aload_n 0, 1) := dk_42 (dk_at dksX4_laysHalves_0 6 rfl rfl)
theorem dX4_laysHalves_7 : decode cX4_laysHalves 7 = .ok (.iconst 0, 1) := dk_3 (dk_at dksX4_laysHalves_0 7 rfl rfl)
theorem dX4_laysHalves_8 : decode cX4_laysHalves 8 = .ok (.iload_n 2, 1) := dk_28 (dk_at dksX4_laysHalves_0 8 rfl rfl)
theorem dX4_laysHalves_9 : decode cX4_laysHalves 9 = .ok (.iload_n 1, 1) := dk_27 (dk_at dksX4_laysHalves_0 9 rfl rfl)
theorem dX4_laysHalves_10 : decode cX4_laysHalves 10 = .ok (.iconst (-1), 1) := dk_2 (dk_at dksX4_laysHalves_0 10 rfl rfl)
theorem dX4_laysHalves_11 : decode cX4_laysHalves 11 = .ok (.iconst 0, 1) := dk_3 (dk_at dksX4_laysHalves_0 11 rfl rfl)
theorem dX4_laysHalves_12 : decode cX4_laysHalves 12 = .ok (.invokevirtual 196, 3) := dk_182 0 196 (dk_at dksX4_laysHalves_0 12 rfl rfl)
theorem dX4_laysHalves_15 : decode cX4_laysHalves 15 = .ok (.istore_n 3, 1) := dk_62 (dk_at dksX4_laysHalves_0 15 rfl rfl)
theorem dX4_laysHalves_16 : decode cX4_laysHalves 16 = .ok (.iload_n 2, 1) := dk_28 (dk_at dksX4_laysHalves_0 16 rfl rfl)
theorem dX4_laysHalves_17 : decode cX4_laysHalves 17 = .ok (.ireturn, 1) := dk_172 (dk_at dksX4_laysHalves_0 17 rfl rfl)
abbrev cX4_leastHalves : ByteArray := prog_32_method_33_code
def yX4_leastHalves : MethodName := ⟨RX4, "leastHalves", "(I)I"⟩
def dkwX4_leastHalves_2 : List UInt8 := [29, 27, 182, 0, 193, 153, 0, 7, 4, 167, 0, 4, 3, 96, 61, 132, 3, 1, 167, 255, 215, 28, 172]
abbrev dktX4_leastHalves_2 : List UInt8 := dkwX4_leastHalves_2 ++ []
def dkwX4_leastHalves_1 : List UInt8 := [62, 29, 42, 180, 0, 122, 162, 0, 39, 42, 3, 181, 0, 190, 28, 27, 29, 184, 0, 118, 153, 0, 16, 42]
abbrev dktX4_leastHalves_1 : List UInt8 := dkwX4_leastHalves_1 ++ dktX4_leastHalves_2
def dkwX4_leastHalves_0 : List UInt8 := [3, 61, 28, 16, 12, 162, 0, 16, 42, 180, 0, 23, 28, 2, 79, 132, 2, 1, 167, 255, 240, 3, 61, 3]
abbrev dktX4_leastHalves_0 : List UInt8 := dkwX4_leastHalves_0 ++ dktX4_leastHalves_1
theorem dksX4_leastHalves_0 : cX4_leastHalves.data.toList.drop 0 = dktX4_leastHalves_0 := by decide +kernel
theorem dksX4_leastHalves_1 : cX4_leastHalves.data.toList.drop 24 = dktX4_leastHalves_1 := dk_seg dksX4_leastHalves_0 24 rfl rfl
theorem dksX4_leastHalves_2 : cX4_leastHalves.data.toList.drop 48 = dktX4_leastHalves_2 := dk_seg dksX4_leastHalves_1 24 rfl rfl
theorem dX4_leastHalves_0 : decode cX4_leastHalves 0 = .ok (.iconst 0, 1) := dk_3 (dk_at dksX4_leastHalves_0 0 rfl rfl)
theorem dX4_leastHalves_1 : decode cX4_leastHalves 1 = .ok (.istore_n 2, 1) := dk_61 (dk_at dksX4_leastHalves_0 1 rfl rfl)
theorem dX4_leastHalves_2 : decode cX4_leastHalves 2 = .ok (.iload_n 2, 1) := dk_28 (dk_at dksX4_leastHalves_0 2 rfl rfl)
theorem dX4_leastHalves_3 : decode cX4_leastHalves 3 = .ok (.bipush 12, 2) := dk_16 12 (dk_at dksX4_leastHalves_0 3 rfl rfl)
theorem dX4_leastHalves_5 : decode cX4_leastHalves 5 = .ok (.if_icmp .ge 16, 3) := dk_162 0 16 (dk_at dksX4_leastHalves_0 5 rfl rfl)
theorem dX4_leastHalves_8 : decode cX4_leastHalves 8 = .ok (.aload_n 0, 1) := dk_42 (dk_at dksX4_leastHalves_0 8 rfl rfl)
theorem dX4_leastHalves_9 : decode cX4_leastHalves 9 = .ok (.getfield 23, 3) := dk_180 0 23 (dk_at dksX4_leastHalves_0 9 rfl rfl)
theorem dX4_leastHalves_12 : decode cX4_leastHalves 12 = .ok (.iload_n 2, 1) := dk_28 (dk_at dksX4_leastHalves_0 12 rfl rfl)
theorem dX4_leastHalves_13 : decode cX4_leastHalves 13 = .ok (.iconst (-1), 1) := dk_2 (dk_at dksX4_leastHalves_0 13 rfl rfl)
theorem dX4_leastHalves_14 : decode cX4_leastHalves 14 = .ok (.iastore, 1) := dk_79 (dk_at dksX4_leastHalves_0 14 rfl rfl)
theorem dX4_leastHalves_15 : decode cX4_leastHalves 15 = .ok (.iinc 2 1, 3) := dk_132 2 1 (dk_at dksX4_leastHalves_0 15 rfl rfl)
theorem dX4_leastHalves_18 : decode cX4_leastHalves 18 = .ok (.goto (-16), 3) := dk_167 255 240 (dk_at dksX4_leastHalves_0 18 rfl rfl)
theorem dX4_leastHalves_21 : decode cX4_leastHalves 21 = .ok (.iconst 0, 1) := dk_3 (dk_at dksX4_leastHalves_0 21 rfl rfl)
theorem dX4_leastHalves_22 : decode cX4_leastHalves 22 = .ok (.istore_n 2, 1) := dk_61 (dk_at dksX4_leastHalves_0 22 rfl rfl)
theorem dX4_leastHalves_23 : decode cX4_leastHalves 23 = .ok (.iconst 0, 1) := dk_3 (dk_at dksX4_leastHalves_0 23 rfl rfl)
theorem dX4_leastHalves_24 : decode cX4_leastHalves 24 = .ok (.istore_n 3, 1) := dk_62 (dk_at dksX4_leastHalves_1 0 rfl rfl)
theorem dX4_leastHalves_25 : decode cX4_leastHalves 25 = .ok (.iload_n 3, 1) := dk_29 (dk_at dksX4_leastHalves_1 1 rfl rfl)
theorem dX4_leastHalves_26 : decode cX4_leastHalves 26 = .ok (.aload_n 0, 1) := dk_42 (dk_at dksX4_leastHalves_1 2 rfl rfl)
theorem dX4_leastHalves_27 : decode cX4_leastHalves 27 = .ok (.getfield 122, 3) := dk_180 0 122 (dk_at dksX4_leastHalves_1 3 rfl rfl)
theorem dX4_leastHalves_30 : decode cX4_leastHalves 30 = .ok (.if_icmp .ge 39, 3) := dk_162 0 39 (dk_at dksX4_leastHalves_1 6 rfl rfl)
theorem dX4_leastHalves_33 : decode cX4_leastHalves 33 = .ok (.aload_n 0, 1) := dk_42 (dk_at dksX4_leastHalves_1 9 rfl rfl)
theorem dX4_leastHalves_34 : decode cX4_leastHalves 34 = .ok (.iconst 0, 1) := dk_3 (dk_at dksX4_leastHalves_1 10 rfl rfl)
theorem dX4_leastHalves_35 : decode cX4_leastHalves 35 = .ok (.putfield 190, 3) := dk_181 0 190 (dk_at dksX4_leastHalves_1 11 rfl rfl)
theorem dX4_leastHalves_38 : decode cX4_leastHalves 38 = .ok (.iload_n 2, 1) := dk_28 (dk_at dksX4_leastHalves_1 14 rfl rfl)
theorem dX4_leastHalves_39 : decode cX4_leastHalves 39 = .ok (.iload_n 1, 1) := dk_27 (dk_at dksX4_leastHalves_1 15 rfl rfl)
theorem dX4_leastHalves_40 : decode cX4_leastHalves 40 = .ok (.iload_n 3, 1) := dk_29 (dk_at dksX4_leastHalves_1 16 rfl rfl)
theorem dX4_leastHalves_41 : decode cX4_leastHalves 41 = .ok (.invokestatic 118, 3) := dk_184 0 118 (dk_at dksX4_leastHalves_1 17 rfl rfl)
theorem dX4_leastHalves_44 : decode cX4_leastHalves 44 = .ok (.ifCond .eq 16, 3) := dk_153 0 16 (dk_at dksX4_leastHalves_1 20 rfl rfl)
theorem dX4_leastHalves_47 : decode cX4_leastHalves 47 = .ok (.aload_n 0, 1) := dk_42 (dk_at dksX4_leastHalves_1 23 rfl rfl)
theorem dX4_leastHalves_48 : decode cX4_leastHalves 48 = .ok (.iload_n 3, 1) := dk_29 (dk_at dksX4_leastHalves_2 0 rfl rfl)
theorem dX4_leastHalves_49 : decode cX4_leastHalves 49 = .ok (.iload_n 1, 1) := dk_27 (dk_at dksX4_leastHalves_2 1 rfl rfl)
theorem dX4_leastHalves_50 : decode cX4_leastHalves 50 = .ok (.invokevirtual 193, 3) := dk_182 0 193 (dk_at dksX4_leastHalves_2 2 rfl rfl)
theorem dX4_leastHalves_53 : decode cX4_leastHalves 53 = .ok (.ifCond .eq 7, 3) := dk_153 0 7 (dk_at dksX4_leastHalves_2 5 rfl rfl)
theorem dX4_leastHalves_56 : decode cX4_leastHalves 56 = .ok (.iconst 1, 1) := dk_4 (dk_at dksX4_leastHalves_2 8 rfl rfl)
theorem dX4_leastHalves_57 : decode cX4_leastHalves 57 = .ok (.goto 4, 3) := dk_167 0 4 (dk_at dksX4_leastHalves_2 9 rfl rfl)
theorem dX4_leastHalves_60 : decode cX4_leastHalves 60 = .ok (.iconst 0, 1) := dk_3 (dk_at dksX4_leastHalves_2 12 rfl rfl)
theorem dX4_leastHalves_61 : decode cX4_leastHalves 61 = .ok (.iadd, 1) := dk_96 (dk_at dksX4_leastHalves_2 13 rfl rfl)
theorem dX4_leastHalves_62 : decode cX4_leastHalves 62 = .ok (.istore_n 2, 1) := dk_61 (dk_at dksX4_leastHalves_2 14 rfl rfl)
theorem dX4_leastHalves_63 : decode cX4_leastHalves 63 = .ok (.iinc 3 1, 3) := dk_132 3 1 (dk_at dksX4_leastHalves_2 15 rfl rfl)
theorem dX4_leastHalves_66 : decode cX4_leastHalves 66 = .ok (.goto (-41), 3) := dk_167 255 215 (dk_at dksX4_leastHalves_2 18 rfl rfl)
theorem dX4_leastHalves_69 : decode cX4_leastHalves 69 = .ok (.iload_n 2, 1) := dk_28 (dk_at dksX4_leastHalves_2 21 rfl rfl)
theorem dX4_leastHalves_70 : decode cX4_leastHalves 70 = .ok (.ireturn, 1) := dk_172 (dk_at dksX4_leastHalves_2 22 rfl rfl)
abbrev cX4_pairs : ByteArray := prog_32_method_32_code
def yX4_pairs : MethodName := ⟨RX4, "pairs", "(II)Z"⟩
def dkwX4_pairs_3 : List UInt8 := [180, 0, 23, 29, 27, 79, 4, 172, 132, 3, 1, 167, 255, 175, 3, 172]
abbrev dktX4_pairs_3 : List UInt8 := dkwX4_pairs_3 ++ []
def dkwX4_pairs_2 : List UInt8 := [180, 0, 23, 29, 46, 2, 159, 0, 17, 42, 42, 180, 0, 23, 29, 46, 28, 182, 0, 193, 153, 0, 12, 42]
abbrev dktX4_pairs_2 : List UInt8 := dkwX4_pairs_2 ++ dktX4_pairs_3
def dkwX4_pairs_1 : List UInt8 := [126, 29, 184, 0, 118, 154, 0, 6, 167, 0, 48, 42, 89, 180, 0, 190, 4, 29, 120, 128, 181, 0, 190, 42]
abbrev dktX4_pairs_1 : List UInt8 := dkwX4_pairs_1 ++ dktX4_pairs_2
def dkwX4_pairs_0 : List UInt8 := [3, 62, 29, 42, 180, 0, 122, 162, 0, 79, 42, 180, 0, 20, 27, 46, 28, 126, 42, 180, 0, 190, 2, 130]
abbrev dktX4_pairs_0 : List UInt8 := dkwX4_pairs_0 ++ dktX4_pairs_1
theorem dksX4_pairs_0 : cX4_pairs.data.toList.drop 0 = dktX4_pairs_0 := by decide +kernel
theorem dksX4_pairs_1 : cX4_pairs.data.toList.drop 24 = dktX4_pairs_1 := dk_seg dksX4_pairs_0 24 rfl rfl
theorem dksX4_pairs_2 : cX4_pairs.data.toList.drop 48 = dktX4_pairs_2 := dk_seg dksX4_pairs_1 24 rfl rfl
theorem dksX4_pairs_3 : cX4_pairs.data.toList.drop 72 = dktX4_pairs_3 := dk_seg dksX4_pairs_2 24 rfl rfl
theorem dX4_pairs_0 : decode cX4_pairs 0 = .ok (.iconst 0, 1) := dk_3 (dk_at dksX4_pairs_0 0 rfl rfl)
theorem dX4_pairs_1 : decode cX4_pairs 1 = .ok (.istore_n 3, 1) := dk_62 (dk_at dksX4_pairs_0 1 rfl rfl)
theorem dX4_pairs_2 : decode cX4_pairs 2 = .ok (.iload_n 3, 1) := dk_29 (dk_at dksX4_pairs_0 2 rfl rfl)
theorem dX4_pairs_3 : decode cX4_pairs 3 = .ok (.aload_n 0, 1) := dk_42 (dk_at dksX4_pairs_0 3 rfl rfl)
theorem dX4_pairs_4 : decode cX4_pairs 4 = .ok (.getfield 122, 3) := dk_180 0 122 (dk_at dksX4_pairs_0 4 rfl rfl)
theorem dX4_pairs_7 : decode cX4_pairs 7 = .ok (.if_icmp .ge 79, 3) := dk_162 0 79 (dk_at dksX4_pairs_0 7 rfl rfl)
theorem dX4_pairs_10 : decode cX4_pairs 10 = .ok (.aload_n 0, 1) := dk_42 (dk_at dksX4_pairs_0 10 rfl rfl)
theorem dX4_pairs_11 : decode cX4_pairs 11 = .ok (.getfield 20, 3) := dk_180 0 20 (dk_at dksX4_pairs_0 11 rfl rfl)
theorem dX4_pairs_14 : decode cX4_pairs 14 = .ok (.iload_n 1, 1) := dk_27 (dk_at dksX4_pairs_0 14 rfl rfl)
theorem dX4_pairs_15 : decode cX4_pairs 15 = .ok (.iaload, 1) := dk_46 (dk_at dksX4_pairs_0 15 rfl rfl)
theorem dX4_pairs_16 : decode cX4_pairs 16 = .ok (.iload_n 2, 1) := dk_28 (dk_at dksX4_pairs_0 16 rfl rfl)
theorem dX4_pairs_17 : decode cX4_pairs 17 = .ok (.iand, 1) := dk_126 (dk_at dksX4_pairs_0 17 rfl rfl)
theorem dX4_pairs_18 : decode cX4_pairs 18 = .ok (.aload_n 0, 1) := dk_42 (dk_at dksX4_pairs_0 18 rfl rfl)
theorem dX4_pairs_19 : decode cX4_pairs 19 = .ok (.getfield 190, 3) := dk_180 0 190 (dk_at dksX4_pairs_0 19 rfl rfl)
theorem dX4_pairs_22 : decode cX4_pairs 22 = .ok (.iconst (-1), 1) := dk_2 (dk_at dksX4_pairs_0 22 rfl rfl)
theorem dX4_pairs_23 : decode cX4_pairs 23 = .ok (.ixor, 1) := dk_130 (dk_at dksX4_pairs_0 23 rfl rfl)
theorem dX4_pairs_24 : decode cX4_pairs 24 = .ok (.iand, 1) := dk_126 (dk_at dksX4_pairs_1 0 rfl rfl)
theorem dX4_pairs_25 : decode cX4_pairs 25 = .ok (.iload_n 3, 1) := dk_29 (dk_at dksX4_pairs_1 1 rfl rfl)
theorem dX4_pairs_26 : decode cX4_pairs 26 = .ok (.invokestatic 118, 3) := dk_184 0 118 (dk_at dksX4_pairs_1 2 rfl rfl)
theorem dX4_pairs_29 : decode cX4_pairs 29 = .ok (.ifCond .ne 6, 3) := dk_154 0 6 (dk_at dksX4_pairs_1 5 rfl rfl)
theorem dX4_pairs_32 : decode cX4_pairs 32 = .ok (.goto 48, 3) := dk_167 0 48 (dk_at dksX4_pairs_1 8 rfl rfl)
theorem dX4_pairs_35 : decode cX4_pairs 35 = .ok (.aload_n 0, 1) := dk_42 (dk_at dksX4_pairs_1 11 rfl rfl)
theorem dX4_pairs_36 : decode cX4_pairs 36 = .ok (.dup, 1) := dk_89 (dk_at dksX4_pairs_1 12 rfl rfl)
theorem dX4_pairs_37 : decode cX4_pairs 37 = .ok (.getfield 190, 3) := dk_180 0 190 (dk_at dksX4_pairs_1 13 rfl rfl)
theorem dX4_pairs_40 : decode cX4_pairs 40 = .ok (.iconst 1, 1) := dk_4 (dk_at dksX4_pairs_1 16 rfl rfl)
theorem dX4_pairs_41 : decode cX4_pairs 41 = .ok (.iload_n 3, 1) := dk_29 (dk_at dksX4_pairs_1 17 rfl rfl)
theorem dX4_pairs_42 : decode cX4_pairs 42 = .ok (.ishl, 1) := dk_120 (dk_at dksX4_pairs_1 18 rfl rfl)
theorem dX4_pairs_43 : decode cX4_pairs 43 = .ok (.ior, 1) := dk_128 (dk_at dksX4_pairs_1 19 rfl rfl)
theorem dX4_pairs_44 : decode cX4_pairs 44 = .ok (.putfield 190, 3) := dk_181 0 190 (dk_at dksX4_pairs_1 20 rfl rfl)
theorem dX4_pairs_47 : decode cX4_pairs 47 = .ok (.aload_n 0, 1) := dk_42 (dk_at dksX4_pairs_1 23 rfl rfl)
theorem dX4_pairs_48 : decode cX4_pairs 48 = .ok (.getfield 23, 3) := dk_180 0 23 (dk_at dksX4_pairs_2 0 rfl rfl)
theorem dX4_pairs_51 : decode cX4_pairs 51 = .ok (.iload_n 3, 1) := dk_29 (dk_at dksX4_pairs_2 3 rfl rfl)
theorem dX4_pairs_52 : decode cX4_pairs 52 = .ok (.iaload, 1) := dk_46 (dk_at dksX4_pairs_2 4 rfl rfl)
theorem dX4_pairs_53 : decode cX4_pairs 53 = .ok (.iconst (-1), 1) := dk_2 (dk_at dksX4_pairs_2 5 rfl rfl)
theorem dX4_pairs_54 : decode cX4_pairs 54 = .ok (.if_icmp .eq 17, 3) := dk_159 0 17 (dk_at dksX4_pairs_2 6 rfl rfl)
theorem dX4_pairs_57 : decode cX4_pairs 57 = .ok (.aload_n 0, 1) := dk_42 (dk_at dksX4_pairs_2 9 rfl rfl)
theorem dX4_pairs_58 : decode cX4_pairs 58 = .ok (.aload_n 0, 1) := dk_42 (dk_at dksX4_pairs_2 10 rfl rfl)
theorem dX4_pairs_59 : decode cX4_pairs 59 = .ok (.getfield 23, 3) := dk_180 0 23 (dk_at dksX4_pairs_2 11 rfl rfl)
theorem dX4_pairs_62 : decode cX4_pairs 62 = .ok (.iload_n 3, 1) := dk_29 (dk_at dksX4_pairs_2 14 rfl rfl)
theorem dX4_pairs_63 : decode cX4_pairs 63 = .ok (.iaload, 1) := dk_46 (dk_at dksX4_pairs_2 15 rfl rfl)
theorem dX4_pairs_64 : decode cX4_pairs 64 = .ok (.iload_n 2, 1) := dk_28 (dk_at dksX4_pairs_2 16 rfl rfl)
theorem dX4_pairs_65 : decode cX4_pairs 65 = .ok (.invokevirtual 193, 3) := dk_182 0 193 (dk_at dksX4_pairs_2 17 rfl rfl)
theorem dX4_pairs_68 : decode cX4_pairs 68 = .ok (.ifCond .eq 12, 3) := dk_153 0 12 (dk_at dksX4_pairs_2 20 rfl rfl)
theorem dX4_pairs_71 : decode cX4_pairs 71 = .ok (.aload_n 0, 1) := dk_42 (dk_at dksX4_pairs_2 23 rfl rfl)
theorem dX4_pairs_72 : decode cX4_pairs 72 = .ok (.getfield 23, 3) := dk_180 0 23 (dk_at dksX4_pairs_3 0 rfl rfl)
theorem dX4_pairs_75 : decode cX4_pairs 75 = .ok (.iload_n 3, 1) := dk_29 (dk_at dksX4_pairs_3 3 rfl rfl)
theorem dX4_pairs_76 : decode cX4_pairs 76 = .ok (.iload_n 1, 1) := dk_27 (dk_at dksX4_pairs_3 4 rfl rfl)
theorem dX4_pairs_77 : decode cX4_pairs 77 = .ok (.iastore, 1) := dk_79 (dk_at dksX4_pairs_3 5 rfl rfl)
theorem dX4_pairs_78 : decode cX4_pairs 78 = .ok (.iconst 1, 1) := dk_4 (dk_at dksX4_pairs_3 6 rfl rfl)
theorem dX4_pairs_79 : decode cX4_pairs 79 = .ok (.ireturn, 1) := dk_172 (dk_at dksX4_pairs_3 7 rfl rfl)
theorem dX4_pairs_80 : decode cX4_pairs 80 = .ok (.iinc 3 1, 3) := dk_132 3 1 (dk_at dksX4_pairs_3 8 rfl rfl)
theorem dX4_pairs_83 : decode cX4_pairs 83 = .ok (.goto (-81), 3) := dk_167 255 175 (dk_at dksX4_pairs_3 11 rfl rfl)
theorem dX4_pairs_86 : decode cX4_pairs 86 = .ok (.iconst 0, 1) := dk_3 (dk_at dksX4_pairs_3 14 rfl rfl)
theorem dX4_pairs_87 : decode cX4_pairs 87 = .ok (.ireturn, 1) := dk_172 (dk_at dksX4_pairs_3 15 rfl rfl)
abbrev cX4_gives : ByteArray := prog_32_method_35_code
def yX4_gives : MethodName := ⟨RX4, "gives", "(IIIII)Z"⟩
def dkwX4_gives_6 : List UInt8 := [182, 0, 196, 153, 0, 5, 4, 172, 132, 7, 1, 167, 255, 157, 3, 172]
abbrev dktX4_gives_6 : List UInt8 := dkwX4_gives_6 ++ []
def dkwX4_gives_5 : List UInt8 := [167, 0, 32, 42, 180, 0, 26, 27, 21, 8, 79, 42, 27, 4, 96, 28, 21, 8, 100, 29, 21, 4, 21, 5]
abbrev dktX4_gives_5 : List UInt8 := dkwX4_gives_5 ++ dktX4_gives_6
def dkwX4_gives_4 : List UInt8 := [42, 27, 21, 8, 29, 182, 0, 200, 153, 0, 48, 42, 21, 6, 182, 0, 203, 28, 21, 8, 100, 164, 0, 6]
abbrev dktX4_gives_4 : List UInt8 := dkwX4_gives_4 ++ dktX4_gives_5
def dkwX4_gives_3 : List UInt8 := [21, 7, 100, 54, 8, 27, 21, 4, 160, 0, 10, 21, 8, 21, 5, 160, 0, 65, 21, 8, 28, 163, 0, 59]
abbrev dktX4_gives_3 : List UInt8 := dkwX4_gives_3 ++ dktX4_gives_4
def dkwX4_gives_2 : List UInt8 := [182, 0, 196, 172, 3, 54, 7, 21, 7, 6, 162, 0, 99, 21, 7, 154, 0, 7, 3, 167, 0, 7, 6]
abbrev dktX4_gives_2 : List UInt8 := dkwX4_gives_2 ++ dktX4_gives_3
def dkwX4_gives_1 : List UInt8 := [184, 0, 118, 154, 0, 24, 42, 180, 0, 26, 27, 2, 79, 42, 27, 4, 96, 28, 29, 21, 4, 21, 5]
abbrev dktX4_gives_1 : List UInt8 := dkwX4_gives_1 ++ dktX4_gives_2
def dkwX4_gives_0 : List UInt8 := [27, 42, 180, 0, 122, 160, 0, 5, 4, 172, 29, 5, 27, 120, 4, 100, 2, 130, 126, 54, 6, 29, 27]
abbrev dktX4_gives_0 : List UInt8 := dkwX4_gives_0 ++ dktX4_gives_1
theorem dksX4_gives_0 : cX4_gives.data.toList.drop 0 = dktX4_gives_0 := by decide +kernel
theorem dksX4_gives_1 : cX4_gives.data.toList.drop 23 = dktX4_gives_1 := dk_seg dksX4_gives_0 23 rfl rfl
theorem dksX4_gives_2 : cX4_gives.data.toList.drop 46 = dktX4_gives_2 := dk_seg dksX4_gives_1 23 rfl rfl
theorem dksX4_gives_3 : cX4_gives.data.toList.drop 69 = dktX4_gives_3 := dk_seg dksX4_gives_2 23 rfl rfl
theorem dksX4_gives_4 : cX4_gives.data.toList.drop 93 = dktX4_gives_4 := dk_seg dksX4_gives_3 24 rfl rfl
theorem dksX4_gives_5 : cX4_gives.data.toList.drop 117 = dktX4_gives_5 := dk_seg dksX4_gives_4 24 rfl rfl
theorem dksX4_gives_6 : cX4_gives.data.toList.drop 141 = dktX4_gives_6 := dk_seg dksX4_gives_5 24 rfl rfl
theorem dX4_gives_0 : decode cX4_gives 0 = .ok (.iload_n 1, 1) := dk_27 (dk_at dksX4_gives_0 0 rfl rfl)
theorem dX4_gives_1 : decode cX4_gives 1 = .ok (.aload_n 0, 1) := dk_42 (dk_at dksX4_gives_0 1 rfl rfl)
theorem dX4_gives_2 : decode cX4_gives 2 = .ok (.getfield 122, 3) := dk_180 0 122 (dk_at dksX4_gives_0 2 rfl rfl)
theorem dX4_gives_5 : decode cX4_gives 5 = .ok (.if_icmp .ne 5, 3) := dk_160 0 5 (dk_at dksX4_gives_0 5 rfl rfl)
theorem dX4_gives_8 : decode cX4_gives 8 = .ok (.iconst 1, 1) := dk_4 (dk_at dksX4_gives_0 8 rfl rfl)
theorem dX4_gives_9 : decode cX4_gives 9 = .ok (.ireturn, 1) := dk_172 (dk_at dksX4_gives_0 9 rfl rfl)
theorem dX4_gives_10 : decode cX4_gives 10 = .ok (.iload_n 3, 1) := dk_29 (dk_at dksX4_gives_0 10 rfl rfl)
theorem dX4_gives_11 : decode cX4_gives 11 = .ok (.iconst 2, 1) := dk_5 (dk_at dksX4_gives_0 11 rfl rfl)
theorem dX4_gives_12 : decode cX4_gives 12 = .ok (.iload_n 1, 1) := dk_27 (dk_at dksX4_gives_0 12 rfl rfl)
theorem dX4_gives_13 : decode cX4_gives 13 = .ok (.ishl, 1) := dk_120 (dk_at dksX4_gives_0 13 rfl rfl)
theorem dX4_gives_14 : decode cX4_gives 14 = .ok (.iconst 1, 1) := dk_4 (dk_at dksX4_gives_0 14 rfl rfl)
theorem dX4_gives_15 : decode cX4_gives 15 = .ok (.isub, 1) := dk_100 (dk_at dksX4_gives_0 15 rfl rfl)
theorem dX4_gives_16 : decode cX4_gives 16 = .ok (.iconst (-1), 1) := dk_2 (dk_at dksX4_gives_0 16 rfl rfl)
theorem dX4_gives_17 : decode cX4_gives 17 = .ok (.ixor, 1) := dk_130 (dk_at dksX4_gives_0 17 rfl rfl)
theorem dX4_gives_18 : decode cX4_gives 18 = .ok (.iand, 1) := dk_126 (dk_at dksX4_gives_0 18 rfl rfl)
theorem dX4_gives_19 : decode cX4_gives 19 = .ok (.istore 6, 2) := dk_54 6 (dk_at dksX4_gives_0 19 rfl rfl)
theorem dX4_gives_21 : decode cX4_gives 21 = .ok (.iload_n 3, 1) := dk_29 (dk_at dksX4_gives_0 21 rfl rfl)
theorem dX4_gives_22 : decode cX4_gives 22 = .ok (.iload_n 1, 1) := dk_27 (dk_at dksX4_gives_0 22 rfl rfl)
theorem dX4_gives_23 : decode cX4_gives 23 = .ok (.invokestatic 118, 3) := dk_184 0 118 (dk_at dksX4_gives_1 0 rfl rfl)
theorem dX4_gives_26 : decode cX4_gives 26 = .ok (.ifCond .ne 24, 3) := dk_154 0 24 (dk_at dksX4_gives_1 3 rfl rfl)
theorem dX4_gives_29 : decode cX4_gives 29 = .ok (.aload_n 0, 1) := dk_42 (dk_at dksX4_gives_1 6 rfl rfl)
theorem dX4_gives_30 : decode cX4_gives 30 = .ok (.getfield 26, 3) := dk_180 0 26 (dk_at dksX4_gives_1 7 rfl rfl)
theorem dX4_gives_33 : decode cX4_gives 33 = .ok (.iload_n 1, 1) := dk_27 (dk_at dksX4_gives_1 10 rfl rfl)
theorem dX4_gives_34 : decode cX4_gives 34 = .ok (.iconst (-1), 1) := dk_2 (dk_at dksX4_gives_1 11 rfl rfl)
theorem dX4_gives_35 : decode cX4_gives 35 = .ok (.iastore, 1) := dk_79 (dk_at dksX4_gives_1 12 rfl rfl)
theorem dX4_gives_36 : decode cX4_gives 36 = .ok (.aload_n 0, 1) := dk_42 (dk_at dksX4_gives_1 13 rfl rfl)
theorem dX4_gives_37 : decode cX4_gives 37 = .ok (.iload_n 1, 1) := dk_27 (dk_at dksX4_gives_1 14 rfl rfl)
theorem dX4_gives_38 : decode cX4_gives 38 = .ok (.iconst 1, 1) := dk_4 (dk_at dksX4_gives_1 15 rfl rfl)
theorem dX4_gives_39 : decode cX4_gives 39 = .ok (.iadd, 1) := dk_96 (dk_at dksX4_gives_1 16 rfl rfl)
theorem dX4_gives_40 : decode cX4_gives 40 = .ok (.iload_n 2, 1) := dk_28 (dk_at dksX4_gives_1 17 rfl rfl)
theorem dX4_gives_41 : decode cX4_gives 41 = .ok (.iload_n 3, 1) := dk_29 (dk_at dksX4_gives_1 18 rfl rfl)
theorem dX4_gives_42 : decode cX4_gives 42 = .ok (.iload 4, 2) := dk_21 4 (dk_at dksX4_gives_1 19 rfl rfl)
theorem dX4_gives_44 : decode cX4_gives 44 = .ok (.iload 5, 2) := dk_21 5 (dk_at dksX4_gives_1 21 rfl rfl)
theorem dX4_gives_46 : decode cX4_gives 46 = .ok (.invokevirtual 196, 3) := dk_182 0 196 (dk_at dksX4_gives_2 0 rfl rfl)
theorem dX4_gives_49 : decode cX4_gives 49 = .ok (.ireturn, 1) := dk_172 (dk_at dksX4_gives_2 3 rfl rfl)
theorem dX4_gives_50 : decode cX4_gives 50 = .ok (.iconst 0, 1) := dk_3 (dk_at dksX4_gives_2 4 rfl rfl)
theorem dX4_gives_51 : decode cX4_gives 51 = .ok (.istore 7, 2) := dk_54 7 (dk_at dksX4_gives_2 5 rfl rfl)
theorem dX4_gives_53 : decode cX4_gives 53 = .ok (.iload 7, 2) := dk_21 7 (dk_at dksX4_gives_2 7 rfl rfl)
theorem dX4_gives_55 : decode cX4_gives 55 = .ok (.iconst 3, 1) := dk_6 (dk_at dksX4_gives_2 9 rfl rfl)
theorem dX4_gives_56 : decode cX4_gives 56 = .ok (.if_icmp .ge 99, 3) := dk_162 0 99 (dk_at dksX4_gives_2 10 rfl rfl)
theorem dX4_gives_59 : decode cX4_gives 59 = .ok (.iload 7, 2) := dk_21 7 (dk_at dksX4_gives_2 13 rfl rfl)
theorem dX4_gives_61 : decode cX4_gives 61 = .ok (.ifCond .ne 7, 3) := dk_154 0 7 (dk_at dksX4_gives_2 15 rfl rfl)
theorem dX4_gives_64 : decode cX4_gives 64 = .ok (.iconst 0, 1) := dk_3 (dk_at dksX4_gives_2 18 rfl rfl)
theorem dX4_gives_65 : decode cX4_gives 65 = .ok (.goto 7, 3) := dk_167 0 7 (dk_at dksX4_gives_2 19 rfl rfl)
theorem dX4_gives_68 : decode cX4_gives 68 = .ok (.iconst 3, 1) := dk_6 (dk_at dksX4_gives_2 22 rfl rfl)
theorem dX4_gives_69 : decode cX4_gives 69 = .ok (.iload 7, 2) := dk_21 7 (dk_at dksX4_gives_3 0 rfl rfl)
theorem dX4_gives_71 : decode cX4_gives 71 = .ok (.isub, 1) := dk_100 (dk_at dksX4_gives_3 2 rfl rfl)
theorem dX4_gives_72 : decode cX4_gives 72 = .ok (.istore 8, 2) := dk_54 8 (dk_at dksX4_gives_3 3 rfl rfl)
theorem dX4_gives_74 : decode cX4_gives 74 = .ok (.iload_n 1, 1) := dk_27 (dk_at dksX4_gives_3 5 rfl rfl)
theorem dX4_gives_75 : decode cX4_gives 75 = .ok (.iload 4, 2) := dk_21 4 (dk_at dksX4_gives_3 6 rfl rfl)
theorem dX4_gives_77 : decode cX4_gives 77 = .ok (.if_icmp .ne 10, 3) := dk_160 0 10 (dk_at dksX4_gives_3 8 rfl rfl)
theorem dX4_gives_80 : decode cX4_gives 80 = .ok (.iload 8, 2) := dk_21 8 (dk_at dksX4_gives_3 11 rfl rfl)
theorem dX4_gives_82 : decode cX4_gives 82 = .ok (.iload 5, 2) := dk_21 5 (dk_at dksX4_gives_3 13 rfl rfl)
theorem dX4_gives_84 : decode cX4_gives 84 = .ok (.if_icmp .ne 65, 3) := dk_160 0 65 (dk_at dksX4_gives_3 15 rfl rfl)
theorem dX4_gives_87 : decode cX4_gives 87 = .ok (.iload 8, 2) := dk_21 8 (dk_at dksX4_gives_3 18 rfl rfl)
theorem dX4_gives_89 : decode cX4_gives 89 = .ok (.iload_n 2, 1) := dk_28 (dk_at dksX4_gives_3 20 rfl rfl)
theorem dX4_gives_90 : decode cX4_gives 90 = .ok (.if_icmp .gt 59, 3) := dk_163 0 59 (dk_at dksX4_gives_3 21 rfl rfl)
theorem dX4_gives_93 : decode cX4_gives 93 = .ok (.aload_n 0, 1) := dk_42 (dk_at dksX4_gives_4 0 rfl rfl)
theorem dX4_gives_94 : decode cX4_gives 94 = .ok (.iload_n 1, 1) := dk_27 (dk_at dksX4_gives_4 1 rfl rfl)
theorem dX4_gives_95 : decode cX4_gives 95 = .ok (.iload 8, 2) := dk_21 8 (dk_at dksX4_gives_4 2 rfl rfl)
theorem dX4_gives_97 : decode cX4_gives 97 = .ok (.iload_n 3, 1) := dk_29 (dk_at dksX4_gives_4 4 rfl rfl)
theorem dX4_gives_98 : decode cX4_gives 98 = .ok (.invokevirtual 200, 3) := dk_182 0 200 (dk_at dksX4_gives_4 5 rfl rfl)
theorem dX4_gives_101 : decode cX4_gives 101 = .ok (.ifCond .eq 48, 3) := dk_153 0 48 (dk_at dksX4_gives_4 8 rfl rfl)
theorem dX4_gives_104 : decode cX4_gives 104 = .ok (.aload_n 0, 1) := dk_42 (dk_at dksX4_gives_4 11 rfl rfl)
theorem dX4_gives_105 : decode cX4_gives 105 = .ok (.iload 6, 2) := dk_21 6 (dk_at dksX4_gives_4 12 rfl rfl)
theorem dX4_gives_107 : decode cX4_gives 107 = .ok (.invokevirtual 203, 3) := dk_182 0 203 (dk_at dksX4_gives_4 14 rfl rfl)
theorem dX4_gives_110 : decode cX4_gives 110 = .ok (.iload_n 2, 1) := dk_28 (dk_at dksX4_gives_4 17 rfl rfl)
theorem dX4_gives_111 : decode cX4_gives 111 = .ok (.iload 8, 2) := dk_21 8 (dk_at dksX4_gives_4 18 rfl rfl)
theorem dX4_gives_113 : decode cX4_gives 113 = .ok (.isub, 1) := dk_100 (dk_at dksX4_gives_4 20 rfl rfl)
theorem dX4_gives_114 : decode cX4_gives 114 = .ok (.if_icmp .le 6, 3) := dk_164 0 6 (dk_at dksX4_gives_4 21 rfl rfl)
theorem dX4_gives_117 : decode cX4_gives 117 = .ok (.goto 32, 3) := dk_167 0 32 (dk_at dksX4_gives_5 0 rfl rfl)
theorem dX4_gives_120 : decode cX4_gives 120 = .ok (.aload_n 0, 1) := dk_42 (dk_at dksX4_gives_5 3 rfl rfl)
theorem dX4_gives_121 : decode cX4_gives 121 = .ok (.getfield 26, 3) := dk_180 0 26 (dk_at dksX4_gives_5 4 rfl rfl)
theorem dX4_gives_124 : decode cX4_gives 124 = .ok (.iload_n 1, 1) := dk_27 (dk_at dksX4_gives_5 7 rfl rfl)
theorem dX4_gives_125 : decode cX4_gives 125 = .ok (.iload 8, 2) := dk_21 8 (dk_at dksX4_gives_5 8 rfl rfl)
theorem dX4_gives_127 : decode cX4_gives 127 = .ok (.iastore, 1) := dk_79 (dk_at dksX4_gives_5 10 rfl rfl)
theorem dX4_gives_128 : decode cX4_gives 128 = .ok (.aload_n 0, 1) := dk_42 (dk_at dksX4_gives_5 11 rfl rfl)
theorem dX4_gives_129 : decode cX4_gives 129 = .ok (.iload_n 1, 1) := dk_27 (dk_at dksX4_gives_5 12 rfl rfl)
theorem dX4_gives_130 : decode cX4_gives 130 = .ok (.iconst 1, 1) := dk_4 (dk_at dksX4_gives_5 13 rfl rfl)
theorem dX4_gives_131 : decode cX4_gives 131 = .ok (.iadd, 1) := dk_96 (dk_at dksX4_gives_5 14 rfl rfl)
theorem dX4_gives_132 : decode cX4_gives 132 = .ok (.iload_n 2, 1) := dk_28 (dk_at dksX4_gives_5 15 rfl rfl)
theorem dX4_gives_133 : decode cX4_gives 133 = .ok (.iload 8, 2) := dk_21 8 (dk_at dksX4_gives_5 16 rfl rfl)
theorem dX4_gives_135 : decode cX4_gives 135 = .ok (.isub, 1) := dk_100 (dk_at dksX4_gives_5 18 rfl rfl)
theorem dX4_gives_136 : decode cX4_gives 136 = .ok (.iload_n 3, 1) := dk_29 (dk_at dksX4_gives_5 19 rfl rfl)
theorem dX4_gives_137 : decode cX4_gives 137 = .ok (.iload 4, 2) := dk_21 4 (dk_at dksX4_gives_5 20 rfl rfl)
theorem dX4_gives_139 : decode cX4_gives 139 = .ok (.iload 5, 2) := dk_21 5 (dk_at dksX4_gives_5 22 rfl rfl)
theorem dX4_gives_141 : decode cX4_gives 141 = .ok (.invokevirtual 196, 3) := dk_182 0 196 (dk_at dksX4_gives_6 0 rfl rfl)
theorem dX4_gives_144 : decode cX4_gives 144 = .ok (.ifCond .eq 5, 3) := dk_153 0 5 (dk_at dksX4_gives_6 3 rfl rfl)
theorem dX4_gives_147 : decode cX4_gives 147 = .ok (.iconst 1, 1) := dk_4 (dk_at dksX4_gives_6 6 rfl rfl)
theorem dX4_gives_148 : decode cX4_gives 148 = .ok (.ireturn, 1) := dk_172 (dk_at dksX4_gives_6 7 rfl rfl)
theorem dX4_gives_149 : decode cX4_gives 149 = .ok (.iinc 7 1, 3) := dk_132 7 1 (dk_at dksX4_gives_6 8 rfl rfl)
theorem dX4_gives_152 : decode cX4_gives 152 = .ok (.goto (-99), 3) := dk_167 255 157 (dk_at dksX4_gives_6 11 rfl rfl)
theorem dX4_gives_155 : decode cX4_gives 155 = .ok (.iconst 0, 1) := dk_3 (dk_at dksX4_gives_6 14 rfl rfl)
theorem dX4_gives_156 : decode cX4_gives 156 = .ok (.ireturn, 1) := dk_172 (dk_at dksX4_gives_6 15 rfl rfl)
abbrev cX4_mayGet : ByteArray := prog_32_method_34_code
def yX4_mayGet : MethodName := ⟨RX4, "mayGet", "(III)Z"⟩
def dkwX4_mayGet_2 : List UInt8 := [167, 0, 4, 3, 54, 4, 132, 5, 1, 167, 255, 206, 21, 4, 172]
abbrev dktX4_mayGet_2 : List UInt8 := dkwX4_mayGet_2 ++ []
def dkwX4_mayGet_1 : List UInt8 := [126, 21, 5, 184, 0, 118, 153, 0, 16, 42, 180, 0, 26, 21, 5, 46, 28, 96, 5, 161, 0, 7, 4]
abbrev dktX4_mayGet_1 : List UInt8 := dkwX4_mayGet_1 ++ dktX4_mayGet_2
def dkwX4_mayGet_0 : List UInt8 := [4, 54, 4, 3, 54, 5, 21, 5, 27, 162, 0, 50, 21, 4, 153, 0, 36, 42, 180, 0, 20, 27, 46, 29]
abbrev dktX4_mayGet_0 : List UInt8 := dkwX4_mayGet_0 ++ dktX4_mayGet_1
theorem dksX4_mayGet_0 : cX4_mayGet.data.toList.drop 0 = dktX4_mayGet_0 := by decide +kernel
theorem dksX4_mayGet_1 : cX4_mayGet.data.toList.drop 24 = dktX4_mayGet_1 := dk_seg dksX4_mayGet_0 24 rfl rfl
theorem dksX4_mayGet_2 : cX4_mayGet.data.toList.drop 47 = dktX4_mayGet_2 := dk_seg dksX4_mayGet_1 23 rfl rfl
theorem dX4_mayGet_0 : decode cX4_mayGet 0 = .ok (.iconst 1, 1) := dk_4 (dk_at dksX4_mayGet_0 0 rfl rfl)
theorem dX4_mayGet_1 : decode cX4_mayGet 1 = .ok (.istore 4, 2) := dk_54 4 (dk_at dksX4_mayGet_0 1 rfl rfl)
theorem dX4_mayGet_3 : decode cX4_mayGet 3 = .ok (.iconst 0, 1) := dk_3 (dk_at dksX4_mayGet_0 3 rfl rfl)
theorem dX4_mayGet_4 : decode cX4_mayGet 4 = .ok (.istore 5, 2) := dk_54 5 (dk_at dksX4_mayGet_0 4 rfl rfl)
theorem dX4_mayGet_6 : decode cX4_mayGet 6 = .ok (.iload 5, 2) := dk_21 5 (dk_at dksX4_mayGet_0 6 rfl rfl)
theorem dX4_mayGet_8 : decode cX4_mayGet 8 = .ok (.iload_n 1, 1) := dk_27 (dk_at dksX4_mayGet_0 8 rfl rfl)
theorem dX4_mayGet_9 : decode cX4_mayGet 9 = .ok (.if_icmp .ge 50, 3) := dk_162 0 50 (dk_at dksX4_mayGet_0 9 rfl rfl)
theorem dX4_mayGet_12 : decode cX4_mayGet 12 = .ok (.iload 4, 2) := dk_21 4 (dk_at dksX4_mayGet_0 12 rfl rfl)
theorem dX4_mayGet_14 : decode cX4_mayGet 14 = .ok (.ifCond .eq 36, 3) := dk_153 0 36 (dk_at dksX4_mayGet_0 14 rfl rfl)
theorem dX4_mayGet_17 : decode cX4_mayGet 17 = .ok (.aload_n 0, 1) := dk_42 (dk_at dksX4_mayGet_0 17 rfl rfl)
theorem dX4_mayGet_18 : decode cX4_mayGet 18 = .ok (.getfield 20, 3) := dk_180 0 20 (dk_at dksX4_mayGet_0 18 rfl rfl)
theorem dX4_mayGet_21 : decode cX4_mayGet 21 = .ok (.iload_n 1, 1) := dk_27 (dk_at dksX4_mayGet_0 21 rfl rfl)
theorem dX4_mayGet_22 : decode cX4_mayGet 22 = .ok (.iaload, 1) := dk_46 (dk_at dksX4_mayGet_0 22 rfl rfl)
theorem dX4_mayGet_23 : decode cX4_mayGet 23 = .ok (.iload_n 3, 1) := dk_29 (dk_at dksX4_mayGet_0 23 rfl rfl)
theorem dX4_mayGet_24 : decode cX4_mayGet 24 = .ok (.iand, 1) := dk_126 (dk_at dksX4_mayGet_1 0 rfl rfl)
theorem dX4_mayGet_25 : decode cX4_mayGet 25 = .ok (.iload 5, 2) := dk_21 5 (dk_at dksX4_mayGet_1 1 rfl rfl)
theorem dX4_mayGet_27 : decode cX4_mayGet 27 = .ok (.invokestatic 118, 3) := dk_184 0 118 (dk_at dksX4_mayGet_1 3 rfl rfl)
theorem dX4_mayGet_30 : decode cX4_mayGet 30 = .ok (.ifCond .eq 16, 3) := dk_153 0 16 (dk_at dksX4_mayGet_1 6 rfl rfl)
theorem dX4_mayGet_33 : decode cX4_mayGet 33 = .ok (.aload_n 0, 1) := dk_42 (dk_at dksX4_mayGet_1 9 rfl rfl)
theorem dX4_mayGet_34 : decode cX4_mayGet 34 = .ok (.getfield 26, 3) := dk_180 0 26 (dk_at dksX4_mayGet_1 10 rfl rfl)
theorem dX4_mayGet_37 : decode cX4_mayGet 37 = .ok (.iload 5, 2) := dk_21 5 (dk_at dksX4_mayGet_1 13 rfl rfl)
theorem dX4_mayGet_39 : decode cX4_mayGet 39 = .ok (.iaload, 1) := dk_46 (dk_at dksX4_mayGet_1 15 rfl rfl)
theorem dX4_mayGet_40 : decode cX4_mayGet 40 = .ok (.iload_n 2, 1) := dk_28 (dk_at dksX4_mayGet_1 16 rfl rfl)
theorem dX4_mayGet_41 : decode cX4_mayGet 41 = .ok (.iadd, 1) := dk_96 (dk_at dksX4_mayGet_1 17 rfl rfl)
theorem dX4_mayGet_42 : decode cX4_mayGet 42 = .ok (.iconst 2, 1) := dk_5 (dk_at dksX4_mayGet_1 18 rfl rfl)
theorem dX4_mayGet_43 : decode cX4_mayGet 43 = .ok (.if_icmp .lt 7, 3) := dk_161 0 7 (dk_at dksX4_mayGet_1 19 rfl rfl)
theorem dX4_mayGet_46 : decode cX4_mayGet 46 = .ok (.iconst 1, 1) := dk_4 (dk_at dksX4_mayGet_1 22 rfl rfl)
theorem dX4_mayGet_47 : decode cX4_mayGet 47 = .ok (.goto 4, 3) := dk_167 0 4 (dk_at dksX4_mayGet_2 0 rfl rfl)
theorem dX4_mayGet_50 : decode cX4_mayGet 50 = .ok (.iconst 0, 1) := dk_3 (dk_at dksX4_mayGet_2 3 rfl rfl)
theorem dX4_mayGet_51 : decode cX4_mayGet 51 = .ok (.istore 4, 2) := dk_54 4 (dk_at dksX4_mayGet_2 4 rfl rfl)
theorem dX4_mayGet_53 : decode cX4_mayGet 53 = .ok (.iinc 5 1, 3) := dk_132 5 1 (dk_at dksX4_mayGet_2 6 rfl rfl)
theorem dX4_mayGet_56 : decode cX4_mayGet 56 = .ok (.goto (-50), 3) := dk_167 255 206 (dk_at dksX4_mayGet_2 9 rfl rfl)
theorem dX4_mayGet_59 : decode cX4_mayGet 59 = .ok (.iload 4, 2) := dk_21 4 (dk_at dksX4_mayGet_2 12 rfl rfl)
theorem dX4_mayGet_61 : decode cX4_mayGet 61 = .ok (.ireturn, 1) := dk_172 (dk_at dksX4_mayGet_2 14 rfl rfl)
abbrev cX4_halvesWith : ByteArray := prog_32_method_37_code
def yX4_halvesWith : MethodName := ⟨RX4, "halvesWith", "(II)I"⟩
def dkwX4_halvesWith_2 : List UInt8 := [167, 255, 213, 29, 172]
abbrev dktX4_halvesWith_2 : List UInt8 := dkwX4_halvesWith_2 ++ []
def dkwX4_halvesWith_1 : List UInt8 := [42, 180, 0, 26, 21, 4, 46, 27, 160, 0, 10, 4, 21, 4, 120, 167, 0, 4, 3, 128, 62, 132, 4, 1]
abbrev dktX4_halvesWith_1 : List UInt8 := dkwX4_halvesWith_1 ++ dktX4_halvesWith_2
def dkwX4_halvesWith_0 : List UInt8 := [3, 62, 3, 54, 4, 21, 4, 42, 180, 0, 122, 162, 0, 40, 29, 28, 21, 4, 184, 0, 118, 153, 0, 21]
abbrev dktX4_halvesWith_0 : List UInt8 := dkwX4_halvesWith_0 ++ dktX4_halvesWith_1
theorem dksX4_halvesWith_0 : cX4_halvesWith.data.toList.drop 0 = dktX4_halvesWith_0 := by decide +kernel
theorem dksX4_halvesWith_1 : cX4_halvesWith.data.toList.drop 24 = dktX4_halvesWith_1 := dk_seg dksX4_halvesWith_0 24 rfl rfl
theorem dksX4_halvesWith_2 : cX4_halvesWith.data.toList.drop 48 = dktX4_halvesWith_2 := dk_seg dksX4_halvesWith_1 24 rfl rfl
theorem dX4_halvesWith_0 : decode cX4_halvesWith 0 = .ok (.iconst 0, 1) := dk_3 (dk_at dksX4_halvesWith_0 0 rfl rfl)
theorem dX4_halvesWith_1 : decode cX4_halvesWith 1 = .ok (.istore_n 3, 1) := dk_62 (dk_at dksX4_halvesWith_0 1 rfl rfl)
theorem dX4_halvesWith_2 : decode cX4_halvesWith 2 = .ok (.iconst 0, 1) := dk_3 (dk_at dksX4_halvesWith_0 2 rfl rfl)
theorem dX4_halvesWith_3 : decode cX4_halvesWith 3 = .ok (.istore 4, 2) := dk_54 4 (dk_at dksX4_halvesWith_0 3 rfl rfl)
theorem dX4_halvesWith_5 : decode cX4_halvesWith 5 = .ok (.iload 4, 2) := dk_21 4 (dk_at dksX4_halvesWith_0 5 rfl rfl)
theorem dX4_halvesWith_7 : decode cX4_halvesWith 7 = .ok (.aload_n 0, 1) := dk_42 (dk_at dksX4_halvesWith_0 7 rfl rfl)
theorem dX4_halvesWith_8 : decode cX4_halvesWith 8 = .ok (.getfield 122, 3) := dk_180 0 122 (dk_at dksX4_halvesWith_0 8 rfl rfl)
theorem dX4_halvesWith_11 : decode cX4_halvesWith 11 = .ok (.if_icmp .ge 40, 3) := dk_162 0 40 (dk_at dksX4_halvesWith_0 11 rfl rfl)
theorem dX4_halvesWith_14 : decode cX4_halvesWith 14 = .ok (.iload_n 3, 1) := dk_29 (dk_at dksX4_halvesWith_0 14 rfl rfl)
theorem dX4_halvesWith_15 : decode cX4_halvesWith 15 = .ok (.iload_n 2, 1) := dk_28 (dk_at dksX4_halvesWith_0 15 rfl rfl)
theorem dX4_halvesWith_16 : decode cX4_halvesWith 16 = .ok (.iload 4, 2) := dk_21 4 (dk_at dksX4_halvesWith_0 16 rfl rfl)
theorem dX4_halvesWith_18 : decode cX4_halvesWith 18 = .ok (.invokestatic 118, 3) := dk_184 0 118 (dk_at dksX4_halvesWith_0 18 rfl rfl)
theorem dX4_halvesWith_21 : decode cX4_halvesWith 21 = .ok (.ifCond .eq 21, 3) := dk_153 0 21 (dk_at dksX4_halvesWith_0 21 rfl rfl)
theorem dX4_halvesWith_24 : decode cX4_halvesWith 24 = .ok (.aload_n 0, 1) := dk_42 (dk_at dksX4_halvesWith_1 0 rfl rfl)
theorem dX4_halvesWith_25 : decode cX4_halvesWith 25 = .ok (.getfield 26, 3) := dk_180 0 26 (dk_at dksX4_halvesWith_1 1 rfl rfl)
theorem dX4_halvesWith_28 : decode cX4_halvesWith 28 = .ok (.iload 4, 2) := dk_21 4 (dk_at dksX4_halvesWith_1 4 rfl rfl)
theorem dX4_halvesWith_30 : decode cX4_halvesWith 30 = .ok (.iaload, 1) := dk_46 (dk_at dksX4_halvesWith_1 6 rfl rfl)
theorem dX4_halvesWith_31 : decode cX4_halvesWith 31 = .ok (.iload_n 1, 1) := dk_27 (dk_at dksX4_halvesWith_1 7 rfl rfl)
theorem dX4_halvesWith_32 : decode cX4_halvesWith 32 = .ok (.if_icmp .ne 10, 3) := dk_160 0 10 (dk_at dksX4_halvesWith_1 8 rfl rfl)
theorem dX4_halvesWith_35 : decode cX4_halvesWith 35 = .ok (.iconst 1, 1) := dk_4 (dk_at dksX4_halvesWith_1 11 rfl rfl)
theorem dX4_halvesWith_36 : decode cX4_halvesWith 36 = .ok (.iload 4, 2) := dk_21 4 (dk_at dksX4_halvesWith_1 12 rfl rfl)
theorem dX4_halvesWith_38 : decode cX4_halvesWith 38 = .ok (.ishl, 1) := dk_120 (dk_at dksX4_halvesWith_1 14 rfl rfl)
theorem dX4_halvesWith_39 : decode cX4_halvesWith 39 = .ok (.goto 4, 3) := dk_167 0 4 (dk_at dksX4_halvesWith_1 15 rfl rfl)
theorem dX4_halvesWith_42 : decode cX4_halvesWith 42 = .ok (.iconst 0, 1) := dk_3 (dk_at dksX4_halvesWith_1 18 rfl rfl)
theorem dX4_halvesWith_43 : decode cX4_halvesWith 43 = .ok (.ior, 1) := dk_128 (dk_at dksX4_halvesWith_1 19 rfl rfl)
theorem dX4_halvesWith_44 : decode cX4_halvesWith 44 = .ok (.istore_n 3, 1) := dk_62 (dk_at dksX4_halvesWith_1 20 rfl rfl)
theorem dX4_halvesWith_45 : decode cX4_halvesWith 45 = .ok (.iinc 4 1, 3) := dk_132 4 1 (dk_at dksX4_halvesWith_1 21 rfl rfl)
theorem dX4_halvesWith_48 : decode cX4_halvesWith 48 = .ok (.goto (-43), 3) := dk_167 255 213 (dk_at dksX4_halvesWith_2 0 rfl rfl)
theorem dX4_halvesWith_51 : decode cX4_halvesWith 51 = .ok (.iload_n 3, 1) := dk_29 (dk_at dksX4_halvesWith_2 3 rfl rfl)
theorem dX4_halvesWith_52 : decode cX4_halvesWith 52 = .ok (.ireturn, 1) := dk_172 (dk_at dksX4_halvesWith_2 4 rfl rfl)
abbrev cX4_half : ByteArray := prog_32_method_39_code
def yX4_half : MethodName := ⟨RX4, "half", "(I)I"⟩
def dkwX4_half_1 : List UInt8 := [27, 46, 172]
abbrev dktX4_half_1 : List UInt8 := dkwX4_half_1 ++ []
def dkwX4_half_0 : List UInt8 := [42, 27, 182, 0, 145, 154, 0, 6, 16, 254, 172, 42, 42, 182, 0, 129, 182, 0, 206, 61, 42, 180, 0, 26]
abbrev dktX4_half_0 : List UInt8 := dkwX4_half_0 ++ dktX4_half_1
theorem dksX4_half_0 : cX4_half.data.toList.drop 0 = dktX4_half_0 := by decide +kernel
theorem dksX4_half_1 : cX4_half.data.toList.drop 24 = dktX4_half_1 := dk_seg dksX4_half_0 24 rfl rfl
theorem dX4_half_0 : decode cX4_half 0 = .ok (.aload_n 0, 1) := dk_42 (dk_at dksX4_half_0 0 rfl rfl)
theorem dX4_half_1 : decode cX4_half 1 = .ok (.iload_n 1, 1) := dk_27 (dk_at dksX4_half_0 1 rfl rfl)
theorem dX4_half_2 : decode cX4_half 2 = .ok (.invokevirtual 145, 3) := dk_182 0 145 (dk_at dksX4_half_0 2 rfl rfl)
theorem dX4_half_5 : decode cX4_half 5 = .ok (.ifCond .ne 6, 3) := dk_154 0 6 (dk_at dksX4_half_0 5 rfl rfl)
theorem dX4_half_8 : decode cX4_half 8 = .ok (.bipush (-2), 2) := dk_16 254 (dk_at dksX4_half_0 8 rfl rfl)
theorem dX4_half_10 : decode cX4_half 10 = .ok (.ireturn, 1) := dk_172 (dk_at dksX4_half_0 10 rfl rfl)
theorem dX4_half_11 : decode cX4_half 11 = .ok (.aload_n 0, 1) := dk_42 (dk_at dksX4_half_0 11 rfl rfl)
theorem dX4_half_12 : decode cX4_half 12 = .ok (.aload_n 0, 1) := dk_42 (dk_at dksX4_half_0 12 rfl rfl)
theorem dX4_half_13 : decode cX4_half 13 = .ok (.invokevirtual 129, 3) := dk_182 0 129 (dk_at dksX4_half_0 13 rfl rfl)
theorem dX4_half_16 : decode cX4_half 16 = .ok (.invokevirtual 206, 3) := dk_182 0 206 (dk_at dksX4_half_0 16 rfl rfl)
theorem dX4_half_19 : decode cX4_half 19 = .ok (.istore_n 2, 1) := dk_61 (dk_at dksX4_half_0 19 rfl rfl)
theorem dX4_half_20 : decode cX4_half 20 = .ok (.aload_n 0, 1) := dk_42 (dk_at dksX4_half_0 20 rfl rfl)
theorem dX4_half_21 : decode cX4_half 21 = .ok (.getfield 26, 3) := dk_180 0 26 (dk_at dksX4_half_0 21 rfl rfl)
theorem dX4_half_24 : decode cX4_half 24 = .ok (.iload_n 1, 1) := dk_27 (dk_at dksX4_half_1 0 rfl rfl)
theorem dX4_half_25 : decode cX4_half 25 = .ok (.iaload, 1) := dk_46 (dk_at dksX4_half_1 1 rfl rfl)
theorem dX4_half_26 : decode cX4_half 26 = .ok (.ireturn, 1) := dk_172 (dk_at dksX4_half_1 2 rfl rfl)
abbrev cX4_mayHave : ByteArray := prog_32_method_40_code
def yX4_mayHave : MethodName := ⟨RX4, "mayHave", "(I)I"⟩
def dkwX4_mayHave_2 : List UInt8 := [153, 0, 10, 4, 21, 4, 120, 167, 0, 4, 3, 128, 62, 132, 4, 1, 167, 255, 220, 29, 172]
abbrev dktX4_mayHave_2 : List UInt8 := dkwX4_mayHave_2 ++ []
def dkwX4_mayHave_1 : List UInt8 := [54, 4, 21, 4, 6, 162, 0, 36, 29, 42, 3, 28, 42, 182, 0, 129, 27, 21, 4, 182, 0, 196]
abbrev dktX4_mayHave_1 : List UInt8 := dkwX4_mayHave_1 ++ dktX4_mayHave_2
def dkwX4_mayHave_0 : List UInt8 := [42, 27, 182, 0, 145, 154, 0, 6, 16, 254, 172, 42, 42, 182, 0, 129, 182, 0, 203, 61, 3, 62, 3]
abbrev dktX4_mayHave_0 : List UInt8 := dkwX4_mayHave_0 ++ dktX4_mayHave_1
theorem dksX4_mayHave_0 : cX4_mayHave.data.toList.drop 0 = dktX4_mayHave_0 := by decide +kernel
theorem dksX4_mayHave_1 : cX4_mayHave.data.toList.drop 23 = dktX4_mayHave_1 := dk_seg dksX4_mayHave_0 23 rfl rfl
theorem dksX4_mayHave_2 : cX4_mayHave.data.toList.drop 45 = dktX4_mayHave_2 := dk_seg dksX4_mayHave_1 22 rfl rfl
theorem dX4_mayHave_0 : decode cX4_mayHave 0 = .ok (.aload_n 0, 1) := dk_42 (dk_at dksX4_mayHave_0 0 rfl rfl)
theorem dX4_mayHave_1 : decode cX4_mayHave 1 = .ok (.iload_n 1, 1) := dk_27 (dk_at dksX4_mayHave_0 1 rfl rfl)
theorem dX4_mayHave_2 : decode cX4_mayHave 2 = .ok (.invokevirtual 145, 3) := dk_182 0 145 (dk_at dksX4_mayHave_0 2 rfl rfl)
theorem dX4_mayHave_5 : decode cX4_mayHave 5 = .ok (.ifCond .ne 6, 3) := dk_154 0 6 (dk_at dksX4_mayHave_0 5 rfl rfl)
theorem dX4_mayHave_8 : decode cX4_mayHave 8 = .ok (.bipush (-2), 2) := dk_16 254 (dk_at dksX4_mayHave_0 8 rfl rfl)
theorem dX4_mayHave_10 : decode cX4_mayHave 10 = .ok (.ireturn, 1) := dk_172 (dk_at dksX4_mayHave_0 10 rfl rfl)
theorem dX4_mayHave_11 : decode cX4_mayHave 11 = .ok (.aload_n 0, 1) := dk_42 (dk_at dksX4_mayHave_0 11 rfl rfl)
theorem dX4_mayHave_12 : decode cX4_mayHave 12 = .ok (.aload_n 0, 1) := dk_42 (dk_at dksX4_mayHave_0 12 rfl rfl)
theorem dX4_mayHave_13 : decode cX4_mayHave 13 = .ok (.invokevirtual 129, 3) := dk_182 0 129 (dk_at dksX4_mayHave_0 13 rfl rfl)
theorem dX4_mayHave_16 : decode cX4_mayHave 16 = .ok (.invokevirtual 203, 3) := dk_182 0 203 (dk_at dksX4_mayHave_0 16 rfl rfl)
theorem dX4_mayHave_19 : decode cX4_mayHave 19 = .ok (.istore_n 2, 1) := dk_61 (dk_at dksX4_mayHave_0 19 rfl rfl)
theorem dX4_mayHave_20 : decode cX4_mayHave 20 = .ok (.iconst 0, 1) := dk_3 (dk_at dksX4_mayHave_0 20 rfl rfl)
theorem dX4_mayHave_21 : decode cX4_mayHave 21 = .ok (.istore_n 3, 1) := dk_62 (dk_at dksX4_mayHave_0 21 rfl rfl)
theorem dX4_mayHave_22 : decode cX4_mayHave 22 = .ok (.iconst 0, 1) := dk_3 (dk_at dksX4_mayHave_0 22 rfl rfl)
theorem dX4_mayHave_23 : decode cX4_mayHave 23 = .ok (.istore 4, 2) := dk_54 4 (dk_at dksX4_mayHave_1 0 rfl rfl)
theorem dX4_mayHave_25 : decode cX4_mayHave 25 = .ok (.iload 4, 2) := dk_21 4 (dk_at dksX4_mayHave_1 2 rfl rfl)
theorem dX4_mayHave_27 : decode cX4_mayHave 27 = .ok (.iconst 3, 1) := dk_6 (dk_at dksX4_mayHave_1 4 rfl rfl)
theorem dX4_mayHave_28 : decode cX4_mayHave 28 = .ok (.if_icmp .ge 36, 3) := dk_162 0 36 (dk_at dksX4_mayHave_1 5 rfl rfl)
theorem dX4_mayHave_31 : decode cX4_mayHave 31 = .ok (.iload_n 3, 1) := dk_29 (dk_at dksX4_mayHave_1 8 rfl rfl)
theorem dX4_mayHave_32 : decode cX4_mayHave 32 = .ok (.aload_n 0, 1) := dk_42 (dk_at dksX4_mayHave_1 9 rfl rfl)
theorem dX4_mayHave_33 : decode cX4_mayHave 33 = .ok (.iconst 0, 1) := dk_3 (dk_at dksX4_mayHave_1 10 rfl rfl)
theorem dX4_mayHave_34 : decode cX4_mayHave 34 = .ok (.iload_n 2, 1) := dk_28 (dk_at dksX4_mayHave_1 11 rfl rfl)
theorem dX4_mayHave_35 : decode cX4_mayHave 35 = .ok (.aload_n 0, 1) := dk_42 (dk_at dksX4_mayHave_1 12 rfl rfl)
theorem dX4_mayHave_36 : decode cX4_mayHave 36 = .ok (.invokevirtual 129, 3) := dk_182 0 129 (dk_at dksX4_mayHave_1 13 rfl rfl)
theorem dX4_mayHave_39 : decode cX4_mayHave 39 = .ok (.iload_n 1, 1) := dk_27 (dk_at dksX4_mayHave_1 16 rfl rfl)
theorem dX4_mayHave_40 : decode cX4_mayHave 40 = .ok (.iload 4, 2) := dk_21 4 (dk_at dksX4_mayHave_1 17 rfl rfl)
theorem dX4_mayHave_42 : decode cX4_mayHave 42 = .ok (.invokevirtual 196, 3) := dk_182 0 196 (dk_at dksX4_mayHave_1 19 rfl rfl)
theorem dX4_mayHave_45 : decode cX4_mayHave 45 = .ok (.ifCond .eq 10, 3) := dk_153 0 10 (dk_at dksX4_mayHave_2 0 rfl rfl)
theorem dX4_mayHave_48 : decode cX4_mayHave 48 = .ok (.iconst 1, 1) := dk_4 (dk_at dksX4_mayHave_2 3 rfl rfl)
theorem dX4_mayHave_49 : decode cX4_mayHave 49 = .ok (.iload 4, 2) := dk_21 4 (dk_at dksX4_mayHave_2 4 rfl rfl)
theorem dX4_mayHave_51 : decode cX4_mayHave 51 = .ok (.ishl, 1) := dk_120 (dk_at dksX4_mayHave_2 6 rfl rfl)
theorem dX4_mayHave_52 : decode cX4_mayHave 52 = .ok (.goto 4, 3) := dk_167 0 4 (dk_at dksX4_mayHave_2 7 rfl rfl)
theorem dX4_mayHave_55 : decode cX4_mayHave 55 = .ok (.iconst 0, 1) := dk_3 (dk_at dksX4_mayHave_2 10 rfl rfl)
theorem dX4_mayHave_56 : decode cX4_mayHave 56 = .ok (.ior, 1) := dk_128 (dk_at dksX4_mayHave_2 11 rfl rfl)
theorem dX4_mayHave_57 : decode cX4_mayHave 57 = .ok (.istore_n 3, 1) := dk_62 (dk_at dksX4_mayHave_2 12 rfl rfl)
theorem dX4_mayHave_58 : decode cX4_mayHave 58 = .ok (.iinc 4 1, 3) := dk_132 4 1 (dk_at dksX4_mayHave_2 13 rfl rfl)
theorem dX4_mayHave_61 : decode cX4_mayHave 61 = .ok (.goto (-36), 3) := dk_167 255 220 (dk_at dksX4_mayHave_2 16 rfl rfl)
theorem dX4_mayHave_64 : decode cX4_mayHave 64 = .ok (.iload_n 3, 1) := dk_29 (dk_at dksX4_mayHave_2 19 rfl rfl)
theorem dX4_mayHave_65 : decode cX4_mayHave 65 = .ok (.ireturn, 1) := dk_172 (dk_at dksX4_mayHave_2 20 rfl rfl)
abbrev cX4_mate : ByteArray := prog_32_method_42_code
def yX4_mate : MethodName := ⟨RX4, "mate", "(I)I"⟩
def dkwX4_mate_3 : List UInt8 := [46, 172]
abbrev dktX4_mate_3 : List UInt8 := dkwX4_mate_3 ++ []
def dkwX4_mate_2 : List UInt8 := [182, 0, 129, 182, 0, 209, 42, 3, 42, 182, 0, 129, 182, 0, 209, 182, 0, 216, 62, 42, 180, 0, 29, 27]
abbrev dktX4_mate_2 : List UInt8 := dkwX4_mate_2 ++ dktX4_mate_3
def dkwX4_mate_1 : List UInt8 := [16, 12, 162, 0, 16, 42, 180, 0, 29, 29, 2, 79, 132, 3, 1, 167, 255, 240, 42, 42, 5, 42]
abbrev dktX4_mate_1 : List UInt8 := dkwX4_mate_1 ++ dktX4_mate_2
def dkwX4_mate_0 : List UInt8 := [42, 27, 182, 0, 145, 154, 0, 6, 16, 254, 172, 42, 42, 182, 0, 129, 182, 0, 206, 61, 3, 62, 29]
abbrev dktX4_mate_0 : List UInt8 := dkwX4_mate_0 ++ dktX4_mate_1
theorem dksX4_mate_0 : cX4_mate.data.toList.drop 0 = dktX4_mate_0 := by decide +kernel
theorem dksX4_mate_1 : cX4_mate.data.toList.drop 23 = dktX4_mate_1 := dk_seg dksX4_mate_0 23 rfl rfl
theorem dksX4_mate_2 : cX4_mate.data.toList.drop 45 = dktX4_mate_2 := dk_seg dksX4_mate_1 22 rfl rfl
theorem dksX4_mate_3 : cX4_mate.data.toList.drop 69 = dktX4_mate_3 := dk_seg dksX4_mate_2 24 rfl rfl
theorem dX4_mate_0 : decode cX4_mate 0 = .ok (.aload_n 0, 1) := dk_42 (dk_at dksX4_mate_0 0 rfl rfl)
theorem dX4_mate_1 : decode cX4_mate 1 = .ok (.iload_n 1, 1) := dk_27 (dk_at dksX4_mate_0 1 rfl rfl)
theorem dX4_mate_2 : decode cX4_mate 2 = .ok (.invokevirtual 145, 3) := dk_182 0 145 (dk_at dksX4_mate_0 2 rfl rfl)
theorem dX4_mate_5 : decode cX4_mate 5 = .ok (.ifCond .ne 6, 3) := dk_154 0 6 (dk_at dksX4_mate_0 5 rfl rfl)
theorem dX4_mate_8 : decode cX4_mate 8 = .ok (.bipush (-2), 2) := dk_16 254 (dk_at dksX4_mate_0 8 rfl rfl)
theorem dX4_mate_10 : decode cX4_mate 10 = .ok (.ireturn, 1) := dk_172 (dk_at dksX4_mate_0 10 rfl rfl)
theorem dX4_mate_11 : decode cX4_mate 11 = .ok (.aload_n 0, 1) := dk_42 (dk_at dksX4_mate_0 11 rfl rfl)
theorem dX4_mate_12 : decode cX4_mate 12 = .ok (.aload_n 0, 1) := dk_42 (dk_at dksX4_mate_0 12 rfl rfl)
theorem dX4_mate_13 : decode cX4_mate 13 = .ok (.invokevirtual 129, 3) := dk_182 0 129 (dk_at dksX4_mate_0 13 rfl rfl)
theorem dX4_mate_16 : decode cX4_mate 16 = .ok (.invokevirtual 206, 3) := dk_182 0 206 (dk_at dksX4_mate_0 16 rfl rfl)
theorem dX4_mate_19 : decode cX4_mate 19 = .ok (.istore_n 2, 1) := dk_61 (dk_at dksX4_mate_0 19 rfl rfl)
theorem dX4_mate_20 : decode cX4_mate 20 = .ok (.iconst 0, 1) := dk_3 (dk_at dksX4_mate_0 20 rfl rfl)
theorem dX4_mate_21 : decode cX4_mate 21 = .ok (.istore_n 3, 1) := dk_62 (dk_at dksX4_mate_0 21 rfl rfl)
theorem dX4_mate_22 : decode cX4_mate 22 = .ok (.iload_n 3, 1) := dk_29 (dk_at dksX4_mate_0 22 rfl rfl)
theorem dX4_mate_23 : decode cX4_mate 23 = .ok (.bipush 12, 2) := dk_16 12 (dk_at dksX4_mate_1 0 rfl rfl)
theorem dX4_mate_25 : decode cX4_mate 25 = .ok (.if_icmp .ge 16, 3) := dk_162 0 16 (dk_at dksX4_mate_1 2 rfl rfl)
theorem dX4_mate_28 : decode cX4_mate 28 = .ok (.aload_n 0, 1) := dk_42 (dk_at dksX4_mate_1 5 rfl rfl)
theorem dX4_mate_29 : decode cX4_mate 29 = .ok (.getfield 29, 3) := dk_180 0 29 (dk_at dksX4_mate_1 6 rfl rfl)
theorem dX4_mate_32 : decode cX4_mate 32 = .ok (.iload_n 3, 1) := dk_29 (dk_at dksX4_mate_1 9 rfl rfl)
theorem dX4_mate_33 : decode cX4_mate 33 = .ok (.iconst (-1), 1) := dk_2 (dk_at dksX4_mate_1 10 rfl rfl)
theorem dX4_mate_34 : decode cX4_mate 34 = .ok (.iastore, 1) := dk_79 (dk_at dksX4_mate_1 11 rfl rfl)
theorem dX4_mate_35 : decode cX4_mate 35 = .ok (.iinc 3 1, 3) := dk_132 3 1 (dk_at dksX4_mate_1 12 rfl rfl)
theorem dX4_mate_38 : decode cX4_mate 38 = .ok (.goto (-16), 3) := dk_167 255 240 (dk_at dksX4_mate_1 15 rfl rfl)
theorem dX4_mate_41 : decode cX4_mate 41 = .ok (.aload_n 0, 1) := dk_42 (dk_at dksX4_mate_1 18 rfl rfl)
theorem dX4_mate_42 : decode cX4_mate 42 = .ok (.aload_n 0, 1) := dk_42 (dk_at dksX4_mate_1 19 rfl rfl)
theorem dX4_mate_43 : decode cX4_mate 43 = .ok (.iconst 2, 1) := dk_5 (dk_at dksX4_mate_1 20 rfl rfl)
theorem dX4_mate_44 : decode cX4_mate 44 = .ok (.aload_n 0, 1) := dk_42 (dk_at dksX4_mate_1 21 rfl rfl)
theorem dX4_mate_45 : decode cX4_mate 45 = .ok (.invokevirtual 129, 3) := dk_182 0 129 (dk_at dksX4_mate_2 0 rfl rfl)
theorem dX4_mate_48 : decode cX4_mate 48 = .ok (.invokevirtual 209, 3) := dk_182 0 209 (dk_at dksX4_mate_2 3 rfl rfl)
theorem dX4_mate_51 : decode cX4_mate 51 = .ok (.aload_n 0, 1) := dk_42 (dk_at dksX4_mate_2 6 rfl rfl)
theorem dX4_mate_52 : decode cX4_mate 52 = .ok (.iconst 0, 1) := dk_3 (dk_at dksX4_mate_2 7 rfl rfl)
theorem dX4_mate_53 : decode cX4_mate 53 = .ok (.aload_n 0, 1) := dk_42 (dk_at dksX4_mate_2 8 rfl rfl)
theorem dX4_mate_54 : decode cX4_mate 54 = .ok (.invokevirtual 129, 3) := dk_182 0 129 (dk_at dksX4_mate_2 9 rfl rfl)
theorem dX4_mate_57 : decode cX4_mate 57 = .ok (.invokevirtual 209, 3) := dk_182 0 209 (dk_at dksX4_mate_2 12 rfl rfl)
theorem dX4_mate_60 : decode cX4_mate 60 = .ok (.invokevirtual 216, 3) := dk_182 0 216 (dk_at dksX4_mate_2 15 rfl rfl)
theorem dX4_mate_63 : decode cX4_mate 63 = .ok (.istore_n 3, 1) := dk_62 (dk_at dksX4_mate_2 18 rfl rfl)
theorem dX4_mate_64 : decode cX4_mate 64 = .ok (.aload_n 0, 1) := dk_42 (dk_at dksX4_mate_2 19 rfl rfl)
theorem dX4_mate_65 : decode cX4_mate 65 = .ok (.getfield 29, 3) := dk_180 0 29 (dk_at dksX4_mate_2 20 rfl rfl)
theorem dX4_mate_68 : decode cX4_mate 68 = .ok (.iload_n 1, 1) := dk_27 (dk_at dksX4_mate_2 23 rfl rfl)
theorem dX4_mate_69 : decode cX4_mate 69 = .ok (.iaload, 1) := dk_46 (dk_at dksX4_mate_3 0 rfl rfl)
theorem dX4_mate_70 : decode cX4_mate 70 = .ok (.ireturn, 1) := dk_172 (dk_at dksX4_mate_3 1 rfl rfl)
abbrev cX4_pairsAll : ByteArray := prog_32_method_41_code
def yX4_pairsAll : MethodName := ⟨RX4, "pairsAll", "(II)Z"⟩
def dkwX4_pairsAll_4 : List UInt8 := [180, 0, 29, 29, 2, 79, 3, 172]
abbrev dktX4_pairsAll_4 : List UInt8 := dkwX4_pairsAll_4 ++ []
def dkwX4_pairsAll_3 : List UInt8 := [126, 182, 0, 216, 153, 0, 5, 4, 172, 42, 180, 0, 29, 21, 4, 2, 79, 132, 4, 1, 167, 255, 179, 42]
abbrev dktX4_pairsAll_3 : List UInt8 := dkwX4_pairsAll_3 ++ dktX4_pairsAll_4
def dkwX4_pairsAll_2 : List UInt8 := [21, 4, 79, 42, 180, 0, 29, 21, 4, 29, 79, 42, 27, 27, 4, 100, 126, 28, 4, 21, 4, 120, 2, 130]
abbrev dktX4_pairsAll_2 : List UInt8 := dkwX4_pairsAll_2 ++ dktX4_pairsAll_3
def dkwX4_pairsAll_1 : List UInt8 := [42, 180, 0, 20, 29, 46, 126, 21, 4, 184, 0, 118, 154, 0, 6, 167, 0, 49, 42, 180, 0, 29, 29]
abbrev dktX4_pairsAll_1 : List UInt8 := dkwX4_pairsAll_1 ++ dktX4_pairsAll_2
def dkwX4_pairsAll_0 : List UInt8 := [27, 154, 0, 5, 4, 172, 27, 184, 0, 213, 62, 3, 54, 4, 21, 4, 42, 180, 0, 122, 162, 0, 74, 28]
abbrev dktX4_pairsAll_0 : List UInt8 := dkwX4_pairsAll_0 ++ dktX4_pairsAll_1
theorem dksX4_pairsAll_0 : cX4_pairsAll.data.toList.drop 0 = dktX4_pairsAll_0 := by decide +kernel
theorem dksX4_pairsAll_1 : cX4_pairsAll.data.toList.drop 24 = dktX4_pairsAll_1 := dk_seg dksX4_pairsAll_0 24 rfl rfl
theorem dksX4_pairsAll_2 : cX4_pairsAll.data.toList.drop 47 = dktX4_pairsAll_2 := dk_seg dksX4_pairsAll_1 23 rfl rfl
theorem dksX4_pairsAll_3 : cX4_pairsAll.data.toList.drop 71 = dktX4_pairsAll_3 := dk_seg dksX4_pairsAll_2 24 rfl rfl
theorem dksX4_pairsAll_4 : cX4_pairsAll.data.toList.drop 95 = dktX4_pairsAll_4 := dk_seg dksX4_pairsAll_3 24 rfl rfl
theorem dX4_pairsAll_0 : decode cX4_pairsAll 0 = .ok (.iload_n 1, 1) := dk_27 (dk_at dksX4_pairsAll_0 0 rfl rfl)
theorem dX4_pairsAll_1 : decode cX4_pairsAll 1 = .ok (.ifCond .ne 5, 3) := dk_154 0 5 (dk_at dksX4_pairsAll_0 1 rfl rfl)
theorem dX4_pairsAll_4 : decode cX4_pairsAll 4 = .ok (.iconst 1, 1) := dk_4 (dk_at dksX4_pairsAll_0 4 rfl rfl)
theorem dX4_pairsAll_5 : decode cX4_pairsAll 5 = .ok (.ireturn, 1) := dk_172 (dk_at dksX4_pairsAll_0 5 rfl rfl)
theorem dX4_pairsAll_6 : decode cX4_pairsAll 6 = .ok (.iload_n 1, 1) := dk_27 (dk_at dksX4_pairsAll_0 6 rfl rfl)
theorem dX4_pairsAll_7 : decode cX4_pairsAll 7 = .ok (.invokestatic 213, 3) := dk_184 0 213 (dk_at dksX4_pairsAll_0 7 rfl rfl)
theorem dX4_pairsAll_10 : decode cX4_pairsAll 10 = .ok (.istore_n 3, 1) := dk_62 (dk_at dksX4_pairsAll_0 10 rfl rfl)
theorem dX4_pairsAll_11 : decode cX4_pairsAll 11 = .ok (.iconst 0, 1) := dk_3 (dk_at dksX4_pairsAll_0 11 rfl rfl)
theorem dX4_pairsAll_12 : decode cX4_pairsAll 12 = .ok (.istore 4, 2) := dk_54 4 (dk_at dksX4_pairsAll_0 12 rfl rfl)
theorem dX4_pairsAll_14 : decode cX4_pairsAll 14 = .ok (.iload 4, 2) := dk_21 4 (dk_at dksX4_pairsAll_0 14 rfl rfl)
theorem dX4_pairsAll_16 : decode cX4_pairsAll 16 = .ok (.aload_n 0, 1) := dk_42 (dk_at dksX4_pairsAll_0 16 rfl rfl)
theorem dX4_pairsAll_17 : decode cX4_pairsAll 17 = .ok (.getfield 122, 3) := dk_180 0 122 (dk_at dksX4_pairsAll_0 17 rfl rfl)
theorem dX4_pairsAll_20 : decode cX4_pairsAll 20 = .ok (.if_icmp .ge 74, 3) := dk_162 0 74 (dk_at dksX4_pairsAll_0 20 rfl rfl)
theorem dX4_pairsAll_23 : decode cX4_pairsAll 23 = .ok (.iload_n 2, 1) := dk_28 (dk_at dksX4_pairsAll_0 23 rfl rfl)
theorem dX4_pairsAll_24 : decode cX4_pairsAll 24 = .ok (.aload_n 0, 1) := dk_42 (dk_at dksX4_pairsAll_1 0 rfl rfl)
theorem dX4_pairsAll_25 : decode cX4_pairsAll 25 = .ok (.getfield 20, 3) := dk_180 0 20 (dk_at dksX4_pairsAll_1 1 rfl rfl)
theorem dX4_pairsAll_28 : decode cX4_pairsAll 28 = .ok (.iload_n 3, 1) := dk_29 (dk_at dksX4_pairsAll_1 4 rfl rfl)
theorem dX4_pairsAll_29 : decode cX4_pairsAll 29 = .ok (.iaload, 1) := dk_46 (dk_at dksX4_pairsAll_1 5 rfl rfl)
theorem dX4_pairsAll_30 : decode cX4_pairsAll 30 = .ok (.iand, 1) := dk_126 (dk_at dksX4_pairsAll_1 6 rfl rfl)
theorem dX4_pairsAll_31 : decode cX4_pairsAll 31 = .ok (.iload 4, 2) := dk_21 4 (dk_at dksX4_pairsAll_1 7 rfl rfl)
theorem dX4_pairsAll_33 : decode cX4_pairsAll 33 = .ok (.invokestatic 118, 3) := dk_184 0 118 (dk_at dksX4_pairsAll_1 9 rfl rfl)
theorem dX4_pairsAll_36 : decode cX4_pairsAll 36 = .ok (.ifCond .ne 6, 3) := dk_154 0 6 (dk_at dksX4_pairsAll_1 12 rfl rfl)
theorem dX4_pairsAll_39 : decode cX4_pairsAll 39 = .ok (.goto 49, 3) := dk_167 0 49 (dk_at dksX4_pairsAll_1 15 rfl rfl)
theorem dX4_pairsAll_42 : decode cX4_pairsAll 42 = .ok (.aload_n 0, 1) := dk_42 (dk_at dksX4_pairsAll_1 18 rfl rfl)
theorem dX4_pairsAll_43 : decode cX4_pairsAll 43 = .ok (.getfield 29, 3) := dk_180 0 29 (dk_at dksX4_pairsAll_1 19 rfl rfl)
theorem dX4_pairsAll_46 : decode cX4_pairsAll 46 = .ok (.iload_n 3, 1) := dk_29 (dk_at dksX4_pairsAll_1 22 rfl rfl)
theorem dX4_pairsAll_47 : decode cX4_pairsAll 47 = .ok (.iload 4, 2) := dk_21 4 (dk_at dksX4_pairsAll_2 0 rfl rfl)
theorem dX4_pairsAll_49 : decode cX4_pairsAll 49 = .ok (.iastore, 1) := dk_79 (dk_at dksX4_pairsAll_2 2 rfl rfl)
theorem dX4_pairsAll_50 : decode cX4_pairsAll 50 = .ok (.aload_n 0, 1) := dk_42 (dk_at dksX4_pairsAll_2 3 rfl rfl)
theorem dX4_pairsAll_51 : decode cX4_pairsAll 51 = .ok (.getfield 29, 3) := dk_180 0 29 (dk_at dksX4_pairsAll_2 4 rfl rfl)
theorem dX4_pairsAll_54 : decode cX4_pairsAll 54 = .ok (.iload 4, 2) := dk_21 4 (dk_at dksX4_pairsAll_2 7 rfl rfl)
theorem dX4_pairsAll_56 : decode cX4_pairsAll 56 = .ok (.iload_n 3, 1) := dk_29 (dk_at dksX4_pairsAll_2 9 rfl rfl)
theorem dX4_pairsAll_57 : decode cX4_pairsAll 57 = .ok (.iastore, 1) := dk_79 (dk_at dksX4_pairsAll_2 10 rfl rfl)
theorem dX4_pairsAll_58 : decode cX4_pairsAll 58 = .ok (.aload_n 0, 1) := dk_42 (dk_at dksX4_pairsAll_2 11 rfl rfl)
theorem dX4_pairsAll_59 : decode cX4_pairsAll 59 = .ok (.iload_n 1, 1) := dk_27 (dk_at dksX4_pairsAll_2 12 rfl rfl)
theorem dX4_pairsAll_60 : decode cX4_pairsAll 60 = .ok (.iload_n 1, 1) := dk_27 (dk_at dksX4_pairsAll_2 13 rfl rfl)
theorem dX4_pairsAll_61 : decode cX4_pairsAll 61 = .ok (.iconst 1, 1) := dk_4 (dk_at dksX4_pairsAll_2 14 rfl rfl)
theorem dX4_pairsAll_62 : decode cX4_pairsAll 62 = .ok (.isub, 1) := dk_100 (dk_at dksX4_pairsAll_2 15 rfl rfl)
theorem dX4_pairsAll_63 : decode cX4_pairsAll 63 = .ok (.iand, 1) := dk_126 (dk_at dksX4_pairsAll_2 16 rfl rfl)
theorem dX4_pairsAll_64 : decode cX4_pairsAll 64 = .ok (.iload_n 2, 1) := dk_28 (dk_at dksX4_pairsAll_2 17 rfl rfl)
theorem dX4_pairsAll_65 : decode cX4_pairsAll 65 = .ok (.iconst 1, 1) := dk_4 (dk_at dksX4_pairsAll_2 18 rfl rfl)
theorem dX4_pairsAll_66 : decode cX4_pairsAll 66 = .ok (.iload 4, 2) := dk_21 4 (dk_at dksX4_pairsAll_2 19 rfl rfl)
theorem dX4_pairsAll_68 : decode cX4_pairsAll 68 = .ok (.ishl, 1) := dk_120 (dk_at dksX4_pairsAll_2 21 rfl rfl)
theorem dX4_pairsAll_69 : decode cX4_pairsAll 69 = .ok (.iconst (-1), 1) := dk_2 (dk_at dksX4_pairsAll_2 22 rfl rfl)
theorem dX4_pairsAll_70 : decode cX4_pairsAll 70 = .ok (.ixor, 1) := dk_130 (dk_at dksX4_pairsAll_2 23 rfl rfl)
theorem dX4_pairsAll_71 : decode cX4_pairsAll 71 = .ok (.iand, 1) := dk_126 (dk_at dksX4_pairsAll_3 0 rfl rfl)
theorem dX4_pairsAll_72 : decode cX4_pairsAll 72 = .ok (.invokevirtual 216, 3) := dk_182 0 216 (dk_at dksX4_pairsAll_3 1 rfl rfl)
theorem dX4_pairsAll_75 : decode cX4_pairsAll 75 = .ok (.ifCond .eq 5, 3) := dk_153 0 5 (dk_at dksX4_pairsAll_3 4 rfl rfl)
theorem dX4_pairsAll_78 : decode cX4_pairsAll 78 = .ok (.iconst 1, 1) := dk_4 (dk_at dksX4_pairsAll_3 7 rfl rfl)
theorem dX4_pairsAll_79 : decode cX4_pairsAll 79 = .ok (.ireturn, 1) := dk_172 (dk_at dksX4_pairsAll_3 8 rfl rfl)
theorem dX4_pairsAll_80 : decode cX4_pairsAll 80 = .ok (.aload_n 0, 1) := dk_42 (dk_at dksX4_pairsAll_3 9 rfl rfl)
theorem dX4_pairsAll_81 : decode cX4_pairsAll 81 = .ok (.getfield 29, 3) := dk_180 0 29 (dk_at dksX4_pairsAll_3 10 rfl rfl)
theorem dX4_pairsAll_84 : decode cX4_pairsAll 84 = .ok (.iload 4, 2) := dk_21 4 (dk_at dksX4_pairsAll_3 13 rfl rfl)
theorem dX4_pairsAll_86 : decode cX4_pairsAll 86 = .ok (.iconst (-1), 1) := dk_2 (dk_at dksX4_pairsAll_3 15 rfl rfl)
theorem dX4_pairsAll_87 : decode cX4_pairsAll 87 = .ok (.iastore, 1) := dk_79 (dk_at dksX4_pairsAll_3 16 rfl rfl)
theorem dX4_pairsAll_88 : decode cX4_pairsAll 88 = .ok (.iinc 4 1, 3) := dk_132 4 1 (dk_at dksX4_pairsAll_3 17 rfl rfl)
theorem dX4_pairsAll_91 : decode cX4_pairsAll 91 = .ok (.goto (-77), 3) := dk_167 255 179 (dk_at dksX4_pairsAll_3 20 rfl rfl)
theorem dX4_pairsAll_94 : decode cX4_pairsAll 94 = .ok (.aload_n 0, 1) := dk_42 (dk_at dksX4_pairsAll_3 23 rfl rfl)
theorem dX4_pairsAll_95 : decode cX4_pairsAll 95 = .ok (.getfield 29, 3) := dk_180 0 29 (dk_at dksX4_pairsAll_4 0 rfl rfl)
theorem dX4_pairsAll_98 : decode cX4_pairsAll 98 = .ok (.iload_n 3, 1) := dk_29 (dk_at dksX4_pairsAll_4 3 rfl rfl)
theorem dX4_pairsAll_99 : decode cX4_pairsAll 99 = .ok (.iconst (-1), 1) := dk_2 (dk_at dksX4_pairsAll_4 4 rfl rfl)
theorem dX4_pairsAll_100 : decode cX4_pairsAll 100 = .ok (.iastore, 1) := dk_79 (dk_at dksX4_pairsAll_4 5 rfl rfl)
theorem dX4_pairsAll_101 : decode cX4_pairsAll 101 = .ok (.iconst 0, 1) := dk_3 (dk_at dksX4_pairsAll_4 6 rfl rfl)
theorem dX4_pairsAll_102 : decode cX4_pairsAll 102 = .ok (.ireturn, 1) := dk_172 (dk_at dksX4_pairsAll_4 7 rfl rfl)
abbrev cX4_first : ByteArray := prog_32_method_5_code
def yX4_first : MethodName := ⟨RX4, "first", "(I)I"⟩
def dkwX4_first_0 : List UInt8 := [3, 60, 26, 27, 184, 0, 118, 154, 0, 9, 132, 1, 1, 167, 255, 245, 27, 172]
abbrev dktX4_first_0 : List UInt8 := dkwX4_first_0 ++ []
theorem dksX4_first_0 : cX4_first.data.toList.drop 0 = dktX4_first_0 := by decide +kernel
theorem dX4_first_0 : decode cX4_first 0 = .ok (.iconst 0, 1) := dk_3 (dk_at dksX4_first_0 0 rfl rfl)
theorem dX4_first_1 : decode cX4_first 1 = .ok (.istore_n 1, 1) := dk_60 (dk_at dksX4_first_0 1 rfl rfl)
theorem dX4_first_2 : decode cX4_first 2 = .ok (.iload_n 0, 1) := dk_26 (dk_at dksX4_first_0 2 rfl rfl)
theorem dX4_first_3 : decode cX4_first 3 = .ok (.iload_n 1, 1) := dk_27 (dk_at dksX4_first_0 3 rfl rfl)
theorem dX4_first_4 : decode cX4_first 4 = .ok (.invokestatic 118, 3) := dk_184 0 118 (dk_at dksX4_first_0 4 rfl rfl)
theorem dX4_first_7 : decode cX4_first 7 = .ok (.ifCond .ne 9, 3) := dk_154 0 9 (dk_at dksX4_first_0 7 rfl rfl)
theorem dX4_first_10 : decode cX4_first 10 = .ok (.iinc 1 1, 3) := dk_132 1 1 (dk_at dksX4_first_0 10 rfl rfl)
theorem dX4_first_13 : decode cX4_first 13 = .ok (.goto (-11), 3) := dk_167 255 245 (dk_at dksX4_first_0 13 rfl rfl)
theorem dX4_first_16 : decode cX4_first 16 = .ok (.iload_n 1, 1) := dk_27 (dk_at dksX4_first_0 16 rfl rfl)
theorem dX4_first_17 : decode cX4_first 17 = .ok (.ireturn, 1) := dk_172 (dk_at dksX4_first_0 17 rfl rfl)
abbrev cX4_persists : ByteArray := prog_32_method_43_code
def yX4_persists : MethodName := ⟨RX4, "persists", "()I"⟩
def dkwX4_persists_4 : List UInt8 := [167, 0, 4, 3, 96, 54, 5, 132, 6, 1, 167, 255, 199, 21, 5, 172]
abbrev dktX4_persists_4 : List UInt8 := dkwX4_persists_4 ++ []
def dkwX4_persists_3 : List UInt8 := [154, 0, 25, 29, 21, 6, 2, 130, 126, 154, 0, 16, 42, 21, 6, 182, 0, 168, 153, 0, 7, 4]
abbrev dktX4_persists_3 : List UInt8 := dkwX4_persists_3 ++ dktX4_persists_4
def dkwX4_persists_2 : List UInt8 := [182, 0, 129, 163, 0, 54, 21, 5, 21, 6, 184, 0, 133, 21, 4, 160, 0, 32, 21, 6, 28, 126]
abbrev dktX4_persists_2 : List UInt8 := dkwX4_persists_2 ++ dktX4_persists_3
def dkwX4_persists_1 : List UInt8 := [182, 0, 129, 182, 0, 209, 62, 42, 182, 0, 180, 54, 4, 3, 54, 5, 3, 54, 6, 21, 6, 42]
abbrev dktX4_persists_1 : List UInt8 := dkwX4_persists_1 ++ dktX4_persists_2
def dkwX4_persists_0 : List UInt8 := [42, 42, 182, 0, 129, 182, 0, 206, 60, 42, 3, 42, 182, 0, 129, 182, 0, 209, 61, 42, 5, 42]
abbrev dktX4_persists_0 : List UInt8 := dkwX4_persists_0 ++ dktX4_persists_1
theorem dksX4_persists_0 : cX4_persists.data.toList.drop 0 = dktX4_persists_0 := by decide +kernel
theorem dksX4_persists_1 : cX4_persists.data.toList.drop 22 = dktX4_persists_1 := dk_seg dksX4_persists_0 22 rfl rfl
theorem dksX4_persists_2 : cX4_persists.data.toList.drop 44 = dktX4_persists_2 := dk_seg dksX4_persists_1 22 rfl rfl
theorem dksX4_persists_3 : cX4_persists.data.toList.drop 66 = dktX4_persists_3 := dk_seg dksX4_persists_2 22 rfl rfl
theorem dksX4_persists_4 : cX4_persists.data.toList.drop 88 = dktX4_persists_4 := dk_seg dksX4_persists_3 22 rfl rfl
theorem dX4_persists_0 : decode cX4_persists 0 = .ok (.aload_n 0, 1) := dk_42 (dk_at dksX4_persists_0 0 rfl rfl)
theorem dX4_persists_1 : decode cX4_persists 1 = .ok (.aload_n 0, 1) := dk_42 (dk_at dksX4_persists_0 1 rfl rfl)
theorem dX4_persists_2 : decode cX4_persists 2 = .ok (.invokevirtual 129, 3) := dk_182 0 129 (dk_at dksX4_persists_0 2 rfl rfl)
theorem dX4_persists_5 : decode cX4_persists 5 = .ok (.invokevirtual 206, 3) := dk_182 0 206 (dk_at dksX4_persists_0 5 rfl rfl)
theorem dX4_persists_8 : decode cX4_persists 8 = .ok (.istore_n 1, 1) := dk_60 (dk_at dksX4_persists_0 8 rfl rfl)
theorem dX4_persists_9 : decode cX4_persists 9 = .ok (.aload_n 0, 1) := dk_42 (dk_at dksX4_persists_0 9 rfl rfl)
theorem dX4_persists_10 : decode cX4_persists 10 = .ok (.iconst 0, 1) := dk_3 (dk_at dksX4_persists_0 10 rfl rfl)
theorem dX4_persists_11 : decode cX4_persists 11 = .ok (.aload_n 0, 1) := dk_42 (dk_at dksX4_persists_0 11 rfl rfl)
theorem dX4_persists_12 : decode cX4_persists 12 = .ok (.invokevirtual 129, 3) := dk_182 0 129 (dk_at dksX4_persists_0 12 rfl rfl)
theorem dX4_persists_15 : decode cX4_persists 15 = .ok (.invokevirtual 209, 3) := dk_182 0 209 (dk_at dksX4_persists_0 15 rfl rfl)
theorem dX4_persists_18 : decode cX4_persists 18 = .ok (.istore_n 2, 1) := dk_61 (dk_at dksX4_persists_0 18 rfl rfl)
theorem dX4_persists_19 : decode cX4_persists 19 = .ok (.aload_n 0, 1) := dk_42 (dk_at dksX4_persists_0 19 rfl rfl)
theorem dX4_persists_20 : decode cX4_persists 20 = .ok (.iconst 2, 1) := dk_5 (dk_at dksX4_persists_0 20 rfl rfl)
theorem dX4_persists_21 : decode cX4_persists 21 = .ok (.aload_n 0, 1) := dk_42 (dk_at dksX4_persists_0 21 rfl rfl)
theorem dX4_persists_22 : decode cX4_persists 22 = .ok (.invokevirtual 129, 3) := dk_182 0 129 (dk_at dksX4_persists_1 0 rfl rfl)
theorem dX4_persists_25 : decode cX4_persists 25 = .ok (.invokevirtual 209, 3) := dk_182 0 209 (dk_at dksX4_persists_1 3 rfl rfl)
theorem dX4_persists_28 : decode cX4_persists 28 = .ok (.istore_n 3, 1) := dk_62 (dk_at dksX4_persists_1 6 rfl rfl)
theorem dX4_persists_29 : decode cX4_persists 29 = .ok (.aload_n 0, 1) := dk_42 (dk_at dksX4_persists_1 7 rfl rfl)
theorem dX4_persists_30 : decode cX4_persists 30 = .ok (.invokevirtual 180, 3) := dk_182 0 180 (dk_at dksX4_persists_1 8 rfl rfl)
theorem dX4_persists_33 : decode cX4_persists 33 = .ok (.istore 4, 2) := dk_54 4 (dk_at dksX4_persists_1 11 rfl rfl)
theorem dX4_persists_35 : decode cX4_persists 35 = .ok (.iconst 0, 1) := dk_3 (dk_at dksX4_persists_1 13 rfl rfl)
theorem dX4_persists_36 : decode cX4_persists 36 = .ok (.istore 5, 2) := dk_54 5 (dk_at dksX4_persists_1 14 rfl rfl)
theorem dX4_persists_38 : decode cX4_persists 38 = .ok (.iconst 0, 1) := dk_3 (dk_at dksX4_persists_1 16 rfl rfl)
theorem dX4_persists_39 : decode cX4_persists 39 = .ok (.istore 6, 2) := dk_54 6 (dk_at dksX4_persists_1 17 rfl rfl)
theorem dX4_persists_41 : decode cX4_persists 41 = .ok (.iload 6, 2) := dk_21 6 (dk_at dksX4_persists_1 19 rfl rfl)
theorem dX4_persists_43 : decode cX4_persists 43 = .ok (.aload_n 0, 1) := dk_42 (dk_at dksX4_persists_1 21 rfl rfl)
theorem dX4_persists_44 : decode cX4_persists 44 = .ok (.invokevirtual 129, 3) := dk_182 0 129 (dk_at dksX4_persists_2 0 rfl rfl)
theorem dX4_persists_47 : decode cX4_persists 47 = .ok (.if_icmp .gt 54, 3) := dk_163 0 54 (dk_at dksX4_persists_2 3 rfl rfl)
theorem dX4_persists_50 : decode cX4_persists 50 = .ok (.iload 5, 2) := dk_21 5 (dk_at dksX4_persists_2 6 rfl rfl)
theorem dX4_persists_52 : decode cX4_persists 52 = .ok (.iload 6, 2) := dk_21 6 (dk_at dksX4_persists_2 8 rfl rfl)
theorem dX4_persists_54 : decode cX4_persists 54 = .ok (.invokestatic 133, 3) := dk_184 0 133 (dk_at dksX4_persists_2 10 rfl rfl)
theorem dX4_persists_57 : decode cX4_persists 57 = .ok (.iload 4, 2) := dk_21 4 (dk_at dksX4_persists_2 13 rfl rfl)
theorem dX4_persists_59 : decode cX4_persists 59 = .ok (.if_icmp .ne 32, 3) := dk_160 0 32 (dk_at dksX4_persists_2 15 rfl rfl)
theorem dX4_persists_62 : decode cX4_persists 62 = .ok (.iload 6, 2) := dk_21 6 (dk_at dksX4_persists_2 18 rfl rfl)
theorem dX4_persists_64 : decode cX4_persists 64 = .ok (.iload_n 2, 1) := dk_28 (dk_at dksX4_persists_2 20 rfl rfl)
theorem dX4_persists_65 : decode cX4_persists 65 = .ok (.iand, 1) := dk_126 (dk_at dksX4_persists_2 21 rfl rfl)
theorem dX4_persists_66 : decode cX4_persists 66 = .ok (.ifCond .ne 25, 3) := dk_154 0 25 (dk_at dksX4_persists_3 0 rfl rfl)
theorem dX4_persists_69 : decode cX4_persists 69 = .ok (.iload_n 3, 1) := dk_29 (dk_at dksX4_persists_3 3 rfl rfl)
theorem dX4_persists_70 : decode cX4_persists 70 = .ok (.iload 6, 2) := dk_21 6 (dk_at dksX4_persists_3 4 rfl rfl)
theorem dX4_persists_72 : decode cX4_persists 72 = .ok (.iconst (-1), 1) := dk_2 (dk_at dksX4_persists_3 6 rfl rfl)
theorem dX4_persists_73 : decode cX4_persists 73 = .ok (.ixor, 1) := dk_130 (dk_at dksX4_persists_3 7 rfl rfl)
theorem dX4_persists_74 : decode cX4_persists 74 = .ok (.iand, 1) := dk_126 (dk_at dksX4_persists_3 8 rfl rfl)
theorem dX4_persists_75 : decode cX4_persists 75 = .ok (.ifCond .ne 16, 3) := dk_154 0 16 (dk_at dksX4_persists_3 9 rfl rfl)
theorem dX4_persists_78 : decode cX4_persists 78 = .ok (.aload_n 0, 1) := dk_42 (dk_at dksX4_persists_3 12 rfl rfl)
theorem dX4_persists_79 : decode cX4_persists 79 = .ok (.iload 6, 2) := dk_21 6 (dk_at dksX4_persists_3 13 rfl rfl)
theorem dX4_persists_81 : decode cX4_persists 81 = .ok (.invokevirtual 168, 3) := dk_182 0 168 (dk_at dksX4_persists_3 15 rfl rfl)
theorem dX4_persists_84 : decode cX4_persists 84 = .ok (.ifCond .eq 7, 3) := dk_153 0 7 (dk_at dksX4_persists_3 18 rfl rfl)
theorem dX4_persists_87 : decode cX4_persists 87 = .ok (.iconst 1, 1) := dk_4 (dk_at dksX4_persists_3 21 rfl rfl)
theorem dX4_persists_88 : decode cX4_persists 88 = .ok (.goto 4, 3) := dk_167 0 4 (dk_at dksX4_persists_4 0 rfl rfl)
theorem dX4_persists_91 : decode cX4_persists 91 = .ok (.iconst 0, 1) := dk_3 (dk_at dksX4_persists_4 3 rfl rfl)
theorem dX4_persists_92 : decode cX4_persists 92 = .ok (.iadd, 1) := dk_96 (dk_at dksX4_persists_4 4 rfl rfl)
theorem dX4_persists_93 : decode cX4_persists 93 = .ok (.istore 5, 2) := dk_54 5 (dk_at dksX4_persists_4 5 rfl rfl)
theorem dX4_persists_95 : decode cX4_persists 95 = .ok (.iinc 6 1, 3) := dk_132 6 1 (dk_at dksX4_persists_4 7 rfl rfl)
theorem dX4_persists_98 : decode cX4_persists 98 = .ok (.goto (-57), 3) := dk_167 255 199 (dk_at dksX4_persists_4 10 rfl rfl)
theorem dX4_persists_101 : decode cX4_persists 101 = .ok (.iload 5, 2) := dk_21 5 (dk_at dksX4_persists_4 13 rfl rfl)
theorem dX4_persists_103 : decode cX4_persists 103 = .ok (.ireturn, 1) := dk_172 (dk_at dksX4_persists_4 15 rfl rfl)
abbrev cX4_isCrown : ByteArray := prog_32_method_46_code
def yX4_isCrown : MethodName := ⟨RX4, "isCrown", "(I)I"⟩
def dkwX4_isCrown_1 : List UInt8 := [153, 0, 7, 4, 167, 0, 4, 3, 172]
abbrev dktX4_isCrown_1 : List UInt8 := dkwX4_isCrown_1 ++ []
def dkwX4_isCrown_0 : List UInt8 := [42, 27, 182, 0, 171, 154, 0, 8, 16, 254, 167, 0, 21, 42, 27, 42, 27, 182, 0, 219, 182, 0, 222]
abbrev dktX4_isCrown_0 : List UInt8 := dkwX4_isCrown_0 ++ dktX4_isCrown_1
theorem dksX4_isCrown_0 : cX4_isCrown.data.toList.drop 0 = dktX4_isCrown_0 := by decide +kernel
theorem dksX4_isCrown_1 : cX4_isCrown.data.toList.drop 23 = dktX4_isCrown_1 := dk_seg dksX4_isCrown_0 23 rfl rfl
theorem dX4_isCrown_0 : decode cX4_isCrown 0 = .ok (.aload_n 0, 1) := dk_42 (dk_at dksX4_isCrown_0 0 rfl rfl)
theorem dX4_isCrown_1 : decode cX4_isCrown 1 = .ok (.iload_n 1, 1) := dk_27 (dk_at dksX4_isCrown_0 1 rfl rfl)
theorem dX4_isCrown_2 : decode cX4_isCrown 2 = .ok (.invokevirtual 171, 3) := dk_182 0 171 (dk_at dksX4_isCrown_0 2 rfl rfl)
theorem dX4_isCrown_5 : decode cX4_isCrown 5 = .ok (.ifCond .ne 8, 3) := dk_154 0 8 (dk_at dksX4_isCrown_0 5 rfl rfl)
theorem dX4_isCrown_8 : decode cX4_isCrown 8 = .ok (.bipush (-2), 2) := dk_16 254 (dk_at dksX4_isCrown_0 8 rfl rfl)
theorem dX4_isCrown_10 : decode cX4_isCrown 10 = .ok (.goto 21, 3) := dk_167 0 21 (dk_at dksX4_isCrown_0 10 rfl rfl)
theorem dX4_isCrown_13 : decode cX4_isCrown 13 = .ok (.aload_n 0, 1) := dk_42 (dk_at dksX4_isCrown_0 13 rfl rfl)
theorem dX4_isCrown_14 : decode cX4_isCrown 14 = .ok (.iload_n 1, 1) := dk_27 (dk_at dksX4_isCrown_0 14 rfl rfl)
theorem dX4_isCrown_15 : decode cX4_isCrown 15 = .ok (.aload_n 0, 1) := dk_42 (dk_at dksX4_isCrown_0 15 rfl rfl)
theorem dX4_isCrown_16 : decode cX4_isCrown 16 = .ok (.iload_n 1, 1) := dk_27 (dk_at dksX4_isCrown_0 16 rfl rfl)
theorem dX4_isCrown_17 : decode cX4_isCrown 17 = .ok (.invokevirtual 219, 3) := dk_182 0 219 (dk_at dksX4_isCrown_0 17 rfl rfl)
theorem dX4_isCrown_20 : decode cX4_isCrown 20 = .ok (.invokevirtual 222, 3) := dk_182 0 222 (dk_at dksX4_isCrown_0 20 rfl rfl)
theorem dX4_isCrown_23 : decode cX4_isCrown 23 = .ok (.ifCond .eq 7, 3) := dk_153 0 7 (dk_at dksX4_isCrown_1 0 rfl rfl)
theorem dX4_isCrown_26 : decode cX4_isCrown 26 = .ok (.iconst 1, 1) := dk_4 (dk_at dksX4_isCrown_1 3 rfl rfl)
theorem dX4_isCrown_27 : decode cX4_isCrown 27 = .ok (.goto 4, 3) := dk_167 0 4 (dk_at dksX4_isCrown_1 4 rfl rfl)
theorem dX4_isCrown_30 : decode cX4_isCrown 30 = .ok (.iconst 0, 1) := dk_3 (dk_at dksX4_isCrown_1 7 rfl rfl)
theorem dX4_isCrown_31 : decode cX4_isCrown 31 = .ok (.ireturn, 1) := dk_172 (dk_at dksX4_isCrown_1 8 rfl rfl)
abbrev cX4_nextTo : ByteArray := prog_32_method_44_code
def yX4_nextTo : MethodName := ⟨RX4, "nextTo", "(I)I"⟩
def dkwX4_nextTo_1 : List UInt8 := [180, 0, 20, 29, 46, 167, 0, 4, 3, 128, 61, 132, 3, 1, 167, 255, 224, 28, 172]
abbrev dktX4_nextTo_1 : List UInt8 := dkwX4_nextTo_1 ++ []
def dkwX4_nextTo_0 : List UInt8 := [3, 61, 3, 62, 29, 42, 180, 0, 122, 162, 0, 30, 28, 27, 29, 184, 0, 118, 153, 0, 12, 42]
abbrev dktX4_nextTo_0 : List UInt8 := dkwX4_nextTo_0 ++ dktX4_nextTo_1
theorem dksX4_nextTo_0 : cX4_nextTo.data.toList.drop 0 = dktX4_nextTo_0 := by decide +kernel
theorem dksX4_nextTo_1 : cX4_nextTo.data.toList.drop 22 = dktX4_nextTo_1 := dk_seg dksX4_nextTo_0 22 rfl rfl
theorem dX4_nextTo_0 : decode cX4_nextTo 0 = .ok (.iconst 0, 1) := dk_3 (dk_at dksX4_nextTo_0 0 rfl rfl)
theorem dX4_nextTo_1 : decode cX4_nextTo 1 = .ok (.istore_n 2, 1) := dk_61 (dk_at dksX4_nextTo_0 1 rfl rfl)
theorem dX4_nextTo_2 : decode cX4_nextTo 2 = .ok (.iconst 0, 1) := dk_3 (dk_at dksX4_nextTo_0 2 rfl rfl)
theorem dX4_nextTo_3 : decode cX4_nextTo 3 = .ok (.istore_n 3, 1) := dk_62 (dk_at dksX4_nextTo_0 3 rfl rfl)
theorem dX4_nextTo_4 : decode cX4_nextTo 4 = .ok (.iload_n 3, 1) := dk_29 (dk_at dksX4_nextTo_0 4 rfl rfl)
theorem dX4_nextTo_5 : decode cX4_nextTo 5 = .ok (.aload_n 0, 1) := dk_42 (dk_at dksX4_nextTo_0 5 rfl rfl)
theorem dX4_nextTo_6 : decode cX4_nextTo 6 = .ok (.getfield 122, 3) := dk_180 0 122 (dk_at dksX4_nextTo_0 6 rfl rfl)
theorem dX4_nextTo_9 : decode cX4_nextTo 9 = .ok (.if_icmp .ge 30, 3) := dk_162 0 30 (dk_at dksX4_nextTo_0 9 rfl rfl)
theorem dX4_nextTo_12 : decode cX4_nextTo 12 = .ok (.iload_n 2, 1) := dk_28 (dk_at dksX4_nextTo_0 12 rfl rfl)
theorem dX4_nextTo_13 : decode cX4_nextTo 13 = .ok (.iload_n 1, 1) := dk_27 (dk_at dksX4_nextTo_0 13 rfl rfl)
theorem dX4_nextTo_14 : decode cX4_nextTo 14 = .ok (.iload_n 3, 1) := dk_29 (dk_at dksX4_nextTo_0 14 rfl rfl)
theorem dX4_nextTo_15 : decode cX4_nextTo 15 = .ok (.invokestatic 118, 3) := dk_184 0 118 (dk_at dksX4_nextTo_0 15 rfl rfl)
theorem dX4_nextTo_18 : decode cX4_nextTo 18 = .ok (.ifCond .eq 12, 3) := dk_153 0 12 (dk_at dksX4_nextTo_0 18 rfl rfl)
theorem dX4_nextTo_21 : decode cX4_nextTo 21 = .ok (.aload_n 0, 1) := dk_42 (dk_at dksX4_nextTo_0 21 rfl rfl)
theorem dX4_nextTo_22 : decode cX4_nextTo 22 = .ok (.getfield 20, 3) := dk_180 0 20 (dk_at dksX4_nextTo_1 0 rfl rfl)
theorem dX4_nextTo_25 : decode cX4_nextTo 25 = .ok (.iload_n 3, 1) := dk_29 (dk_at dksX4_nextTo_1 3 rfl rfl)
theorem dX4_nextTo_26 : decode cX4_nextTo 26 = .ok (.iaload, 1) := dk_46 (dk_at dksX4_nextTo_1 4 rfl rfl)
theorem dX4_nextTo_27 : decode cX4_nextTo 27 = .ok (.goto 4, 3) := dk_167 0 4 (dk_at dksX4_nextTo_1 5 rfl rfl)
theorem dX4_nextTo_30 : decode cX4_nextTo 30 = .ok (.iconst 0, 1) := dk_3 (dk_at dksX4_nextTo_1 8 rfl rfl)
theorem dX4_nextTo_31 : decode cX4_nextTo 31 = .ok (.ior, 1) := dk_128 (dk_at dksX4_nextTo_1 9 rfl rfl)
theorem dX4_nextTo_32 : decode cX4_nextTo 32 = .ok (.istore_n 2, 1) := dk_61 (dk_at dksX4_nextTo_1 10 rfl rfl)
theorem dX4_nextTo_33 : decode cX4_nextTo 33 = .ok (.iinc 3 1, 3) := dk_132 3 1 (dk_at dksX4_nextTo_1 11 rfl rfl)
theorem dX4_nextTo_36 : decode cX4_nextTo 36 = .ok (.goto (-32), 3) := dk_167 255 224 (dk_at dksX4_nextTo_1 14 rfl rfl)
theorem dX4_nextTo_39 : decode cX4_nextTo 39 = .ok (.iload_n 2, 1) := dk_28 (dk_at dksX4_nextTo_1 17 rfl rfl)
theorem dX4_nextTo_40 : decode cX4_nextTo 40 = .ok (.ireturn, 1) := dk_172 (dk_at dksX4_nextTo_1 18 rfl rfl)
abbrev cX4_isHeaded : ByteArray := prog_32_method_45_code
def yX4_isHeaded : MethodName := ⟨RX4, "isHeaded", "(II)Z"⟩
def dkwX4_isHeaded_1 : List UInt8 := [172]
abbrev dktX4_isHeaded_1 : List UInt8 := dkwX4_isHeaded_1 ++ []
def dkwX4_isHeaded_0 : List UInt8 := [27, 153, 0, 22, 27, 28, 126, 154, 0, 16, 42, 28, 27, 182, 0, 216, 153, 0, 7, 4, 167, 0, 4, 3]
abbrev dktX4_isHeaded_0 : List UInt8 := dkwX4_isHeaded_0 ++ dktX4_isHeaded_1
theorem dksX4_isHeaded_0 : cX4_isHeaded.data.toList.drop 0 = dktX4_isHeaded_0 := by decide +kernel
theorem dksX4_isHeaded_1 : cX4_isHeaded.data.toList.drop 24 = dktX4_isHeaded_1 := dk_seg dksX4_isHeaded_0 24 rfl rfl
theorem dX4_isHeaded_0 : decode cX4_isHeaded 0 = .ok (.iload_n 1, 1) := dk_27 (dk_at dksX4_isHeaded_0 0 rfl rfl)
theorem dX4_isHeaded_1 : decode cX4_isHeaded 1 = .ok (.ifCond .eq 22, 3) := dk_153 0 22 (dk_at dksX4_isHeaded_0 1 rfl rfl)
theorem dX4_isHeaded_4 : decode cX4_isHeaded 4 = .ok (.iload_n 1, 1) := dk_27 (dk_at dksX4_isHeaded_0 4 rfl rfl)
theorem dX4_isHeaded_5 : decode cX4_isHeaded 5 = .ok (.iload_n 2, 1) := dk_28 (dk_at dksX4_isHeaded_0 5 rfl rfl)
theorem dX4_isHeaded_6 : decode cX4_isHeaded 6 = .ok (.iand, 1) := dk_126 (dk_at dksX4_isHeaded_0 6 rfl rfl)
theorem dX4_isHeaded_7 : decode cX4_isHeaded 7 = .ok (.ifCond .ne 16, 3) := dk_154 0 16 (dk_at dksX4_isHeaded_0 7 rfl rfl)
theorem dX4_isHeaded_10 : decode cX4_isHeaded 10 = .ok (.aload_n 0, 1) := dk_42 (dk_at dksX4_isHeaded_0 10 rfl rfl)
theorem dX4_isHeaded_11 : decode cX4_isHeaded 11 = .ok (.iload_n 2, 1) := dk_28 (dk_at dksX4_isHeaded_0 11 rfl rfl)
theorem dX4_isHeaded_12 : decode cX4_isHeaded 12 = .ok (.iload_n 1, 1) := dk_27 (dk_at dksX4_isHeaded_0 12 rfl rfl)
theorem dX4_isHeaded_13 : decode cX4_isHeaded 13 = .ok (.invokevirtual 216, 3) := dk_182 0 216 (dk_at dksX4_isHeaded_0 13 rfl rfl)
theorem dX4_isHeaded_16 : decode cX4_isHeaded 16 = .ok (.ifCond .eq 7, 3) := dk_153 0 7 (dk_at dksX4_isHeaded_0 16 rfl rfl)
theorem dX4_isHeaded_19 : decode cX4_isHeaded 19 = .ok (.iconst 1, 1) := dk_4 (dk_at dksX4_isHeaded_0 19 rfl rfl)
theorem dX4_isHeaded_20 : decode cX4_isHeaded 20 = .ok (.goto 4, 3) := dk_167 0 4 (dk_at dksX4_isHeaded_0 20 rfl rfl)
theorem dX4_isHeaded_23 : decode cX4_isHeaded 23 = .ok (.iconst 0, 1) := dk_3 (dk_at dksX4_isHeaded_0 23 rfl rfl)
theorem dX4_isHeaded_24 : decode cX4_isHeaded 24 = .ok (.ireturn, 1) := dk_172 (dk_at dksX4_isHeaded_1 0 rfl rfl)
abbrev cX4_crowns : ByteArray := prog_32_method_47_code
def yX4_crowns : MethodName := ⟨RX4, "crowns", "(I)I"⟩
def dkwX4_crowns_4 : List UInt8 := [160, 0, 7, 29, 167, 0, 8, 42, 29, 182, 0, 219, 172]
abbrev dktX4_crowns_4 : List UInt8 := dkwX4_crowns_4 ++ []
def dkwX4_crowns_3 : List UInt8 := [132, 4, 1, 167, 255, 204, 27, 154, 0, 7, 28, 167, 0, 25, 28, 154, 0, 7, 2, 167, 0, 17, 27, 4]
abbrev dktX4_crowns_3 : List UInt8 := dkwX4_crowns_3 ++ dktX4_crowns_4
def dkwX4_crowns_2 : List UInt8 := [132, 2, 1, 21, 4, 184, 0, 133, 29, 184, 0, 133, 164, 0, 8, 21, 4, 167, 0, 4, 29, 62]
abbrev dktX4_crowns_2 : List UInt8 := dkwX4_crowns_2 ++ dktX4_crowns_3
def dkwX4_crowns_1 : List UInt8 := [182, 0, 129, 163, 0, 49, 42, 21, 4, 42, 21, 4, 182, 0, 219, 182, 0, 222, 154, 0, 6, 167, 0, 25]
abbrev dktX4_crowns_1 : List UInt8 := dkwX4_crowns_1 ++ dktX4_crowns_2
def dkwX4_crowns_0 : List UInt8 := [27, 3, 5, 184, 0, 125, 154, 0, 6, 16, 254, 172, 3, 61, 3, 62, 4, 54, 4, 21, 4, 42]
abbrev dktX4_crowns_0 : List UInt8 := dkwX4_crowns_0 ++ dktX4_crowns_1
theorem dksX4_crowns_0 : cX4_crowns.data.toList.drop 0 = dktX4_crowns_0 := by decide +kernel
theorem dksX4_crowns_1 : cX4_crowns.data.toList.drop 22 = dktX4_crowns_1 := dk_seg dksX4_crowns_0 22 rfl rfl
theorem dksX4_crowns_2 : cX4_crowns.data.toList.drop 46 = dktX4_crowns_2 := dk_seg dksX4_crowns_1 24 rfl rfl
theorem dksX4_crowns_3 : cX4_crowns.data.toList.drop 68 = dktX4_crowns_3 := dk_seg dksX4_crowns_2 22 rfl rfl
theorem dksX4_crowns_4 : cX4_crowns.data.toList.drop 92 = dktX4_crowns_4 := dk_seg dksX4_crowns_3 24 rfl rfl
theorem dX4_crowns_0 : decode cX4_crowns 0 = .ok (.iload_n 1, 1) := dk_27 (dk_at dksX4_crowns_0 0 rfl rfl)
theorem dX4_crowns_1 : decode cX4_crowns 1 = .ok (.iconst 0, 1) := dk_3 (dk_at dksX4_crowns_0 1 rfl rfl)
theorem dX4_crowns_2 : decode cX4_crowns 2 = .ok (.iconst 2, 1) := dk_5 (dk_at dksX4_crowns_0 2 rfl rfl)
theorem dX4_crowns_3 : decode cX4_crowns 3 = .ok (.invokestatic 125, 3) := dk_184 0 125 (dk_at dksX4_crowns_0 3 rfl rfl)
theorem dX4_crowns_6 : decode cX4_crowns 6 = .ok (.ifCond .ne 6, 3) := dk_154 0 6 (dk_at dksX4_crowns_0 6 rfl rfl)
theorem dX4_crowns_9 : decode cX4_crowns 9 = .ok (.bipush (-2), 2) := dk_16 254 (dk_at dksX4_crowns_0 9 rfl rfl)
theorem dX4_crowns_11 : decode cX4_crowns 11 = .ok (.ireturn, 1) := dk_172 (dk_at dksX4_crowns_0 11 rfl rfl)
theorem dX4_crowns_12 : decode cX4_crowns 12 = .ok (.iconst 0, 1) := dk_3 (dk_at dksX4_crowns_0 12 rfl rfl)
theorem dX4_crowns_13 : decode cX4_crowns 13 = .ok (.istore_n 2, 1) := dk_61 (dk_at dksX4_crowns_0 13 rfl rfl)
theorem dX4_crowns_14 : decode cX4_crowns 14 = .ok (.iconst 0, 1) := dk_3 (dk_at dksX4_crowns_0 14 rfl rfl)
theorem dX4_crowns_15 : decode cX4_crowns 15 = .ok (.istore_n 3, 1) := dk_62 (dk_at dksX4_crowns_0 15 rfl rfl)
theorem dX4_crowns_16 : decode cX4_crowns 16 = .ok (.iconst 1, 1) := dk_4 (dk_at dksX4_crowns_0 16 rfl rfl)
theorem dX4_crowns_17 : decode cX4_crowns 17 = .ok (.istore 4, 2) := dk_54 4 (dk_at dksX4_crowns_0 17 rfl rfl)
theorem dX4_crowns_19 : decode cX4_crowns 19 = .ok (.iload 4, 2) := dk_21 4 (dk_at dksX4_crowns_0 19 rfl rfl)
theorem dX4_crowns_21 : decode cX4_crowns 21 = .ok (.aload_n 0, 1) := dk_42 (dk_at dksX4_crowns_0 21 rfl rfl)
theorem dX4_crowns_22 : decode cX4_crowns 22 = .ok (.invokevirtual 129, 3) := dk_182 0 129 (dk_at dksX4_crowns_1 0 rfl rfl)
theorem dX4_crowns_25 : decode cX4_crowns 25 = .ok (.if_icmp .gt 49, 3) := dk_163 0 49 (dk_at dksX4_crowns_1 3 rfl rfl)
theorem dX4_crowns_28 : decode cX4_crowns 28 = .ok (.aload_n 0, 1) := dk_42 (dk_at dksX4_crowns_1 6 rfl rfl)
theorem dX4_crowns_29 : decode cX4_crowns 29 = .ok (.iload 4, 2) := dk_21 4 (dk_at dksX4_crowns_1 7 rfl rfl)
theorem dX4_crowns_31 : decode cX4_crowns 31 = .ok (.aload_n 0, 1) := dk_42 (dk_at dksX4_crowns_1 9 rfl rfl)
theorem dX4_crowns_32 : decode cX4_crowns 32 = .ok (.iload 4, 2) := dk_21 4 (dk_at dksX4_crowns_1 10 rfl rfl)
theorem dX4_crowns_34 : decode cX4_crowns 34 = .ok (.invokevirtual 219, 3) := dk_182 0 219 (dk_at dksX4_crowns_1 12 rfl rfl)
theorem dX4_crowns_37 : decode cX4_crowns 37 = .ok (.invokevirtual 222, 3) := dk_182 0 222 (dk_at dksX4_crowns_1 15 rfl rfl)
theorem dX4_crowns_40 : decode cX4_crowns 40 = .ok (.ifCond .ne 6, 3) := dk_154 0 6 (dk_at dksX4_crowns_1 18 rfl rfl)
theorem dX4_crowns_43 : decode cX4_crowns 43 = .ok (.goto 25, 3) := dk_167 0 25 (dk_at dksX4_crowns_1 21 rfl rfl)
theorem dX4_crowns_46 : decode cX4_crowns 46 = .ok (.iinc 2 1, 3) := dk_132 2 1 (dk_at dksX4_crowns_2 0 rfl rfl)
theorem dX4_crowns_49 : decode cX4_crowns 49 = .ok (.iload 4, 2) := dk_21 4 (dk_at dksX4_crowns_2 3 rfl rfl)
theorem dX4_crowns_51 : decode cX4_crowns 51 = .ok (.invokestatic 133, 3) := dk_184 0 133 (dk_at dksX4_crowns_2 5 rfl rfl)
theorem dX4_crowns_54 : decode cX4_crowns 54 = .ok (.iload_n 3, 1) := dk_29 (dk_at dksX4_crowns_2 8 rfl rfl)
theorem dX4_crowns_55 : decode cX4_crowns 55 = .ok (.invokestatic 133, 3) := dk_184 0 133 (dk_at dksX4_crowns_2 9 rfl rfl)
theorem dX4_crowns_58 : decode cX4_crowns 58 = .ok (.if_icmp .le 8, 3) := dk_164 0 8 (dk_at dksX4_crowns_2 12 rfl rfl)
theorem dX4_crowns_61 : decode cX4_crowns 61 = .ok (.iload 4, 2) := dk_21 4 (dk_at dksX4_crowns_2 15 rfl rfl)
theorem dX4_crowns_63 : decode cX4_crowns 63 = .ok (.goto 4, 3) := dk_167 0 4 (dk_at dksX4_crowns_2 17 rfl rfl)
theorem dX4_crowns_66 : decode cX4_crowns 66 = .ok (.iload_n 3, 1) := dk_29 (dk_at dksX4_crowns_2 20 rfl rfl)
theorem dX4_crowns_67 : decode cX4_crowns 67 = .ok (.istore_n 3, 1) := dk_62 (dk_at dksX4_crowns_2 21 rfl rfl)
theorem dX4_crowns_68 : decode cX4_crowns 68 = .ok (.iinc 4 1, 3) := dk_132 4 1 (dk_at dksX4_crowns_3 0 rfl rfl)
theorem dX4_crowns_71 : decode cX4_crowns 71 = .ok (.goto (-52), 3) := dk_167 255 204 (dk_at dksX4_crowns_3 3 rfl rfl)
theorem dX4_crowns_74 : decode cX4_crowns 74 = .ok (.iload_n 1, 1) := dk_27 (dk_at dksX4_crowns_3 6 rfl rfl)
theorem dX4_crowns_75 : decode cX4_crowns 75 = .ok (.ifCond .ne 7, 3) := dk_154 0 7 (dk_at dksX4_crowns_3 7 rfl rfl)
theorem dX4_crowns_78 : decode cX4_crowns 78 = .ok (.iload_n 2, 1) := dk_28 (dk_at dksX4_crowns_3 10 rfl rfl)
theorem dX4_crowns_79 : decode cX4_crowns 79 = .ok (.goto 25, 3) := dk_167 0 25 (dk_at dksX4_crowns_3 11 rfl rfl)
theorem dX4_crowns_82 : decode cX4_crowns 82 = .ok (.iload_n 2, 1) := dk_28 (dk_at dksX4_crowns_3 14 rfl rfl)
theorem dX4_crowns_83 : decode cX4_crowns 83 = .ok (.ifCond .ne 7, 3) := dk_154 0 7 (dk_at dksX4_crowns_3 15 rfl rfl)
theorem dX4_crowns_86 : decode cX4_crowns 86 = .ok (.iconst (-1), 1) := dk_2 (dk_at dksX4_crowns_3 18 rfl rfl)
theorem dX4_crowns_87 : decode cX4_crowns 87 = .ok (.goto 17, 3) := dk_167 0 17 (dk_at dksX4_crowns_3 19 rfl rfl)
theorem dX4_crowns_90 : decode cX4_crowns 90 = .ok (.iload_n 1, 1) := dk_27 (dk_at dksX4_crowns_3 22 rfl rfl)
theorem dX4_crowns_91 : decode cX4_crowns 91 = .ok (.iconst 1, 1) := dk_4 (dk_at dksX4_crowns_3 23 rfl rfl)
theorem dX4_crowns_92 : decode cX4_crowns 92 = .ok (.if_icmp .ne 7, 3) := dk_160 0 7 (dk_at dksX4_crowns_4 0 rfl rfl)
theorem dX4_crowns_95 : decode cX4_crowns 95 = .ok (.iload_n 3, 1) := dk_29 (dk_at dksX4_crowns_4 3 rfl rfl)
theorem dX4_crowns_96 : decode cX4_crowns 96 = .ok (.goto 8, 3) := dk_167 0 8 (dk_at dksX4_crowns_4 4 rfl rfl)
theorem dX4_crowns_99 : decode cX4_crowns 99 = .ok (.aload_n 0, 1) := dk_42 (dk_at dksX4_crowns_4 7 rfl rfl)
theorem dX4_crowns_100 : decode cX4_crowns 100 = .ok (.iload_n 3, 1) := dk_29 (dk_at dksX4_crowns_4 8 rfl rfl)
theorem dX4_crowns_101 : decode cX4_crowns 101 = .ok (.invokevirtual 219, 3) := dk_182 0 219 (dk_at dksX4_crowns_4 9 rfl rfl)
theorem dX4_crowns_104 : decode cX4_crowns 104 = .ok (.ireturn, 1) := dk_172 (dk_at dksX4_crowns_4 12 rfl rfl)
abbrev cX4_kernel : ByteArray := prog_32_method_52_code
def yX4_kernel : MethodName := ⟨RX4, "kernel", "(II)I"⟩
def dkwX4_kernel_5 : List UInt8 := [167, 0, 4, 3, 172]
abbrev dktX4_kernel_5 : List UInt8 := dkwX4_kernel_5 ++ []
def dkwX4_kernel_4 : List UInt8 := [180, 0, 231, 155, 0, 19, 42, 180, 0, 225, 184, 0, 133, 5, 42, 180, 0, 231, 104, 164, 0, 7, 4]
abbrev dktX4_kernel_4 : List UInt8 := dkwX4_kernel_4 ++ dktX4_kernel_5
def dkwX4_kernel_3 : List UInt8 := [42, 180, 0, 225, 172, 42, 180, 0, 237, 172, 42, 180, 0, 231, 16, 20, 96, 172, 42, 180, 0, 240, 172, 42]
abbrev dktX4_kernel_3 : List UInt8 := dkwX4_kernel_3 ++ dktX4_kernel_4
def dkwX4_kernel_2 : List UInt8 := [170, 0, 0, 0, 0, 53, 0, 0, 0, 0, 0, 0, 0, 3, 0, 0, 0, 30, 0, 0, 0, 35, 0, 0, 0, 40, 0, 0, 0, 48]
abbrev dktX4_kernel_2 : List UInt8 := dkwX4_kernel_2 ++ dktX4_kernel_3
def dkwX4_kernel_1 : List UInt8 := [18, 183, 182, 0, 247, 28]
abbrev dktX4_kernel_1 : List UInt8 := dkwX4_kernel_1 ++ dktX4_kernel_2
def dkwX4_kernel_0 : List UInt8 := [27, 3, 16, 12, 184, 0, 125, 153, 0, 12, 28, 3, 7, 184, 0, 125, 154, 0, 6, 16, 254, 172, 42, 27]
abbrev dktX4_kernel_0 : List UInt8 := dkwX4_kernel_0 ++ dktX4_kernel_1
theorem dksX4_kernel_0 : cX4_kernel.data.toList.drop 0 = dktX4_kernel_0 := by decide +kernel
theorem dksX4_kernel_1 : cX4_kernel.data.toList.drop 24 = dktX4_kernel_1 := dk_seg dksX4_kernel_0 24 rfl rfl
theorem dksX4_kernel_2 : cX4_kernel.data.toList.drop 30 = dktX4_kernel_2 := dk_seg dksX4_kernel_1 6 rfl rfl
theorem dksX4_kernel_3 : cX4_kernel.data.toList.drop 60 = dktX4_kernel_3 := dk_seg dksX4_kernel_2 30 rfl rfl
theorem dksX4_kernel_4 : cX4_kernel.data.toList.drop 84 = dktX4_kernel_4 := dk_seg dksX4_kernel_3 24 rfl rfl
theorem dksX4_kernel_5 : cX4_kernel.data.toList.drop 107 = dktX4_kernel_5 := dk_seg dksX4_kernel_4 23 rfl rfl
theorem dX4_kernel_0 : decode cX4_kernel 0 = .ok (.iload_n 1, 1) := dk_27 (dk_at dksX4_kernel_0 0 rfl rfl)
theorem dX4_kernel_1 : decode cX4_kernel 1 = .ok (.iconst 0, 1) := dk_3 (dk_at dksX4_kernel_0 1 rfl rfl)
theorem dX4_kernel_2 : decode cX4_kernel 2 = .ok (.bipush 12, 2) := dk_16 12 (dk_at dksX4_kernel_0 2 rfl rfl)
theorem dX4_kernel_4 : decode cX4_kernel 4 = .ok (.invokestatic 125, 3) := dk_184 0 125 (dk_at dksX4_kernel_0 4 rfl rfl)
theorem dX4_kernel_7 : decode cX4_kernel 7 = .ok (.ifCond .eq 12, 3) := dk_153 0 12 (dk_at dksX4_kernel_0 7 rfl rfl)
theorem dX4_kernel_10 : decode cX4_kernel 10 = .ok (.iload_n 2, 1) := dk_28 (dk_at dksX4_kernel_0 10 rfl rfl)
theorem dX4_kernel_11 : decode cX4_kernel 11 = .ok (.iconst 0, 1) := dk_3 (dk_at dksX4_kernel_0 11 rfl rfl)
theorem dX4_kernel_12 : decode cX4_kernel 12 = .ok (.iconst 4, 1) := dk_7 (dk_at dksX4_kernel_0 12 rfl rfl)
theorem dX4_kernel_13 : decode cX4_kernel 13 = .ok (.invokestatic 125, 3) := dk_184 0 125 (dk_at dksX4_kernel_0 13 rfl rfl)
theorem dX4_kernel_16 : decode cX4_kernel 16 = .ok (.ifCond .ne 6, 3) := dk_154 0 6 (dk_at dksX4_kernel_0 16 rfl rfl)
theorem dX4_kernel_19 : decode cX4_kernel 19 = .ok (.bipush (-2), 2) := dk_16 254 (dk_at dksX4_kernel_0 19 rfl rfl)
theorem dX4_kernel_21 : decode cX4_kernel 21 = .ok (.ireturn, 1) := dk_172 (dk_at dksX4_kernel_0 21 rfl rfl)
theorem dX4_kernel_22 : decode cX4_kernel 22 = .ok (.aload_n 0, 1) := dk_42 (dk_at dksX4_kernel_0 22 rfl rfl)
theorem dX4_kernel_23 : decode cX4_kernel 23 = .ok (.iload_n 1, 1) := dk_27 (dk_at dksX4_kernel_0 23 rfl rfl)
theorem dX4_kernel_24 : decode cX4_kernel 24 = .ok (.ldc 183, 2) := dk_18 183 (dk_at dksX4_kernel_1 0 rfl rfl)
theorem dX4_kernel_26 : decode cX4_kernel 26 = .ok (.invokevirtual 247, 3) := dk_182 0 247 (dk_at dksX4_kernel_1 2 rfl rfl)
theorem dX4_kernel_29 : decode cX4_kernel 29 = .ok (.iload_n 2, 1) := dk_28 (dk_at dksX4_kernel_1 5 rfl rfl)
theorem dX4_kernel_30 : decode cX4_kernel 30 = .ok (.tableswitch 53 0 3 #[30, 35, 40, 48], 30) := by decide +kernel
theorem dX4_kernel_60 : decode cX4_kernel 60 = .ok (.aload_n 0, 1) := dk_42 (dk_at dksX4_kernel_3 0 rfl rfl)
theorem dX4_kernel_61 : decode cX4_kernel 61 = .ok (.getfield 225, 3) := dk_180 0 225 (dk_at dksX4_kernel_3 1 rfl rfl)
theorem dX4_kernel_64 : decode cX4_kernel 64 = .ok (.ireturn, 1) := dk_172 (dk_at dksX4_kernel_3 4 rfl rfl)
theorem dX4_kernel_65 : decode cX4_kernel 65 = .ok (.aload_n 0, 1) := dk_42 (dk_at dksX4_kernel_3 5 rfl rfl)
theorem dX4_kernel_66 : decode cX4_kernel 66 = .ok (.getfield 237, 3) := dk_180 0 237 (dk_at dksX4_kernel_3 6 rfl rfl)
theorem dX4_kernel_69 : decode cX4_kernel 69 = .ok (.ireturn, 1) := dk_172 (dk_at dksX4_kernel_3 9 rfl rfl)
theorem dX4_kernel_70 : decode cX4_kernel 70 = .ok (.aload_n 0, 1) := dk_42 (dk_at dksX4_kernel_3 10 rfl rfl)
theorem dX4_kernel_71 : decode cX4_kernel 71 = .ok (.getfield 231, 3) := dk_180 0 231 (dk_at dksX4_kernel_3 11 rfl rfl)
theorem dX4_kernel_74 : decode cX4_kernel 74 = .ok (.bipush 20, 2) := dk_16 20 (dk_at dksX4_kernel_3 14 rfl rfl)
theorem dX4_kernel_76 : decode cX4_kernel 76 = .ok (.iadd, 1) := dk_96 (dk_at dksX4_kernel_3 16 rfl rfl)
theorem dX4_kernel_77 : decode cX4_kernel 77 = .ok (.ireturn, 1) := dk_172 (dk_at dksX4_kernel_3 17 rfl rfl)
theorem dX4_kernel_78 : decode cX4_kernel 78 = .ok (.aload_n 0, 1) := dk_42 (dk_at dksX4_kernel_3 18 rfl rfl)
theorem dX4_kernel_79 : decode cX4_kernel 79 = .ok (.getfield 240, 3) := dk_180 0 240 (dk_at dksX4_kernel_3 19 rfl rfl)
theorem dX4_kernel_82 : decode cX4_kernel 82 = .ok (.ireturn, 1) := dk_172 (dk_at dksX4_kernel_3 22 rfl rfl)
theorem dX4_kernel_83 : decode cX4_kernel 83 = .ok (.aload_n 0, 1) := dk_42 (dk_at dksX4_kernel_3 23 rfl rfl)
theorem dX4_kernel_84 : decode cX4_kernel 84 = .ok (.getfield 231, 3) := dk_180 0 231 (dk_at dksX4_kernel_4 0 rfl rfl)
theorem dX4_kernel_87 : decode cX4_kernel 87 = .ok (.ifCond .lt 19, 3) := dk_155 0 19 (dk_at dksX4_kernel_4 3 rfl rfl)
theorem dX4_kernel_90 : decode cX4_kernel 90 = .ok (.aload_n 0, 1) := dk_42 (dk_at dksX4_kernel_4 6 rfl rfl)
theorem dX4_kernel_91 : decode cX4_kernel 91 = .ok (.getfield 225, 3) := dk_180 0 225 (dk_at dksX4_kernel_4 7 rfl rfl)
theorem dX4_kernel_94 : decode cX4_kernel 94 = .ok (.invokestatic 133, 3) := dk_184 0 133 (dk_at dksX4_kernel_4 10 rfl rfl)
theorem dX4_kernel_97 : decode cX4_kernel 97 = .ok (.iconst 2, 1) := dk_5 (dk_at dksX4_kernel_4 13 rfl rfl)
theorem dX4_kernel_98 : decode cX4_kernel 98 = .ok (.aload_n 0, 1) := dk_42 (dk_at dksX4_kernel_4 14 rfl rfl)
theorem dX4_kernel_99 : decode cX4_kernel 99 = .ok (.getfield 231, 3) := dk_180 0 231 (dk_at dksX4_kernel_4 15 rfl rfl)
theorem dX4_kernel_102 : decode cX4_kernel 102 = .ok (.imul, 1) := dk_104 (dk_at dksX4_kernel_4 18 rfl rfl)
theorem dX4_kernel_103 : decode cX4_kernel 103 = .ok (.if_icmp .le 7, 3) := dk_164 0 7 (dk_at dksX4_kernel_4 19 rfl rfl)
theorem dX4_kernel_106 : decode cX4_kernel 106 = .ok (.iconst 1, 1) := dk_4 (dk_at dksX4_kernel_4 22 rfl rfl)
theorem dX4_kernel_107 : decode cX4_kernel 107 = .ok (.goto 4, 3) := dk_167 0 4 (dk_at dksX4_kernel_5 0 rfl rfl)
theorem dX4_kernel_110 : decode cX4_kernel 110 = .ok (.iconst 0, 1) := dk_3 (dk_at dksX4_kernel_5 3 rfl rfl)
theorem dX4_kernel_111 : decode cX4_kernel 111 = .ok (.ireturn, 1) := dk_172 (dk_at dksX4_kernel_5 4 rfl rfl)
abbrev cX4_kernels : ByteArray := prog_32_method_51_code
def yX4_kernels : MethodName := ⟨RX4, "kernels", "(II)V"⟩
def dkwX4_kernels_4 : List UInt8 := [42, 89, 180, 0, 240, 4, 96, 181, 0, 240, 167, 255, 174, 177]
abbrev dktX4_kernels_4 : List UInt8 := dkwX4_kernels_4 ++ []
def dkwX4_kernels_3 : List UInt8 := [5, 46, 128, 181, 0, 237, 42, 89, 180, 0, 231, 42, 180, 0, 32, 5, 46, 184, 0, 133, 100, 181, 0, 231]
abbrev dktX4_kernels_3 : List UInt8 := dkwX4_kernels_3 ++ dktX4_kernels_4
def dkwX4_kernels_2 : List UInt8 := [180, 0, 225, 42, 180, 0, 32, 4, 46, 2, 130, 126, 181, 0, 225, 42, 89, 180, 0, 237, 42, 180, 0, 32]
abbrev dktX4_kernels_2 : List UInt8 := dkwX4_kernels_2 ++ dktX4_kernels_3
def dkwX4_kernels_1 : List UInt8 := [180, 0, 231, 155, 0, 81, 42, 180, 0, 240, 28, 162, 0, 73, 42, 182, 0, 243, 153, 0, 66, 42, 89]
abbrev dktX4_kernels_1 : List UInt8 := dkwX4_kernels_1 ++ dktX4_kernels_2
def dkwX4_kernels_0 : List UInt8 := [42, 42, 182, 0, 129, 181, 0, 225, 42, 3, 181, 0, 237, 42, 27, 181, 0, 231, 42, 3, 181, 0, 240, 42]
abbrev dktX4_kernels_0 : List UInt8 := dkwX4_kernels_0 ++ dktX4_kernels_1
theorem dksX4_kernels_0 : cX4_kernels.data.toList.drop 0 = dktX4_kernels_0 := by decide +kernel
theorem dksX4_kernels_1 : cX4_kernels.data.toList.drop 24 = dktX4_kernels_1 := dk_seg dksX4_kernels_0 24 rfl rfl
theorem dksX4_kernels_2 : cX4_kernels.data.toList.drop 47 = dktX4_kernels_2 := dk_seg dksX4_kernels_1 23 rfl rfl
theorem dksX4_kernels_3 : cX4_kernels.data.toList.drop 71 = dktX4_kernels_3 := dk_seg dksX4_kernels_2 24 rfl rfl
theorem dksX4_kernels_4 : cX4_kernels.data.toList.drop 95 = dktX4_kernels_4 := dk_seg dksX4_kernels_3 24 rfl rfl
theorem dX4_kernels_0 : decode cX4_kernels 0 = .ok (.aload_n 0, 1) := dk_42 (dk_at dksX4_kernels_0 0 rfl rfl)
theorem dX4_kernels_1 : decode cX4_kernels 1 = .ok (.aload_n 0, 1) := dk_42 (dk_at dksX4_kernels_0 1 rfl rfl)
theorem dX4_kernels_2 : decode cX4_kernels 2 = .ok (.invokevirtual 129, 3) := dk_182 0 129 (dk_at dksX4_kernels_0 2 rfl rfl)
theorem dX4_kernels_5 : decode cX4_kernels 5 = .ok (.putfield 225, 3) := dk_181 0 225 (dk_at dksX4_kernels_0 5 rfl rfl)
theorem dX4_kernels_8 : decode cX4_kernels 8 = .ok (.aload_n 0, 1) := dk_42 (dk_at dksX4_kernels_0 8 rfl rfl)
theorem dX4_kernels_9 : decode cX4_kernels 9 = .ok (.iconst 0, 1) := dk_3 (dk_at dksX4_kernels_0 9 rfl rfl)
theorem dX4_kernels_10 : decode cX4_kernels 10 = .ok (.putfield 237, 3) := dk_181 0 237 (dk_at dksX4_kernels_0 10 rfl rfl)
theorem dX4_kernels_13 : decode cX4_kernels 13 = .ok (.aload_n 0, 1) := dk_42 (dk_at dksX4_kernels_0 13 rfl rfl)
theorem dX4_kernels_14 : decode cX4_kernels 14 = .ok (.iload_n 1, 1) := dk_27 (dk_at dksX4_kernels_0 14 rfl rfl)
theorem dX4_kernels_15 : decode cX4_kernels 15 = .ok (.putfield 231, 3) := dk_181 0 231 (dk_at dksX4_kernels_0 15 rfl rfl)
theorem dX4_kernels_18 : decode cX4_kernels 18 = .ok (.aload_n 0, 1) := dk_42 (dk_at dksX4_kernels_0 18 rfl rfl)
theorem dX4_kernels_19 : decode cX4_kernels 19 = .ok (.iconst 0, 1) := dk_3 (dk_at dksX4_kernels_0 19 rfl rfl)
theorem dX4_kernels_20 : decode cX4_kernels 20 = .ok (.putfield 240, 3) := dk_181 0 240 (dk_at dksX4_kernels_0 20 rfl rfl)
theorem dX4_kernels_23 : decode cX4_kernels 23 = .ok (.aload_n 0, 1) := dk_42 (dk_at dksX4_kernels_0 23 rfl rfl)
theorem dX4_kernels_24 : decode cX4_kernels 24 = .ok (.getfield 231, 3) := dk_180 0 231 (dk_at dksX4_kernels_1 0 rfl rfl)
theorem dX4_kernels_27 : decode cX4_kernels 27 = .ok (.ifCond .lt 81, 3) := dk_155 0 81 (dk_at dksX4_kernels_1 3 rfl rfl)
theorem dX4_kernels_30 : decode cX4_kernels 30 = .ok (.aload_n 0, 1) := dk_42 (dk_at dksX4_kernels_1 6 rfl rfl)
theorem dX4_kernels_31 : decode cX4_kernels 31 = .ok (.getfield 240, 3) := dk_180 0 240 (dk_at dksX4_kernels_1 7 rfl rfl)
theorem dX4_kernels_34 : decode cX4_kernels 34 = .ok (.iload_n 2, 1) := dk_28 (dk_at dksX4_kernels_1 10 rfl rfl)
theorem dX4_kernels_35 : decode cX4_kernels 35 = .ok (.if_icmp .ge 73, 3) := dk_162 0 73 (dk_at dksX4_kernels_1 11 rfl rfl)
theorem dX4_kernels_38 : decode cX4_kernels 38 = .ok (.aload_n 0, 1) := dk_42 (dk_at dksX4_kernels_1 14 rfl rfl)
theorem dX4_kernels_39 : decode cX4_kernels 39 = .ok (.invokevirtual 243, 3) := dk_182 0 243 (dk_at dksX4_kernels_1 15 rfl rfl)
theorem dX4_kernels_42 : decode cX4_kernels 42 = .ok (.ifCond .eq 66, 3) := dk_153 0 66 (dk_at dksX4_kernels_1 18 rfl rfl)
theorem dX4_kernels_45 : decode cX4_kernels 45 = .ok (.aload_n 0, 1) := dk_42 (dk_at dksX4_kernels_1 21 rfl rfl)
theorem dX4_kernels_46 : decode cX4_kernels 46 = .ok (.dup, 1) := dk_89 (dk_at dksX4_kernels_1 22 rfl rfl)
theorem dX4_kernels_47 : decode cX4_kernels 47 = .ok (.getfield 225, 3) := dk_180 0 225 (dk_at dksX4_kernels_2 0 rfl rfl)
theorem dX4_kernels_50 : decode cX4_kernels 50 = .ok (.aload_n 0, 1) := dk_42 (dk_at dksX4_kernels_2 3 rfl rfl)
theorem dX4_kernels_51 : decode cX4_kernels 51 = .ok (.getfield 32, 3) := dk_180 0 32 (dk_at dksX4_kernels_2 4 rfl rfl)
theorem dX4_kernels_54 : decode cX4_kernels 54 = .ok (.iconst 1, 1) := dk_4 (dk_at dksX4_kernels_2 7 rfl rfl)
theorem dX4_kernels_55 : decode cX4_kernels 55 = .ok (.iaload, 1) := dk_46 (dk_at dksX4_kernels_2 8 rfl rfl)
theorem dX4_kernels_56 : decode cX4_kernels 56 = .ok (.iconst (-1), 1) := dk_2 (dk_at dksX4_kernels_2 9 rfl rfl)
theorem dX4_kernels_57 : decode cX4_kernels 57 = .ok (.ixor, 1) := dk_130 (dk_at dksX4_kernels_2 10 rfl rfl)
theorem dX4_kernels_58 : decode cX4_kernels 58 = .ok (.iand, 1) := dk_126 (dk_at dksX4_kernels_2 11 rfl rfl)
theorem dX4_kernels_59 : decode cX4_kernels 59 = .ok (.putfield 225, 3) := dk_181 0 225 (dk_at dksX4_kernels_2 12 rfl rfl)
theorem dX4_kernels_62 : decode cX4_kernels 62 = .ok (.aload_n 0, 1) := dk_42 (dk_at dksX4_kernels_2 15 rfl rfl)
theorem dX4_kernels_63 : decode cX4_kernels 63 = .ok (.dup, 1) := dk_89 (dk_at dksX4_kernels_2 16 rfl rfl)
theorem dX4_kernels_64 : decode cX4_kernels 64 = .ok (.getfield 237, 3) := dk_180 0 237 (dk_at dksX4_kernels_2 17 rfl rfl)
theorem dX4_kernels_67 : decode cX4_kernels 67 = .ok (.aload_n 0, 1) := dk_42 (dk_at dksX4_kernels_2 20 rfl rfl)
theorem dX4_kernels_68 : decode cX4_kernels 68 = .ok (.getfield 32, 3) := dk_180 0 32 (dk_at dksX4_kernels_2 21 rfl rfl)
theorem dX4_kernels_71 : decode cX4_kernels 71 = .ok (.iconst 2, 1) := dk_5 (dk_at dksX4_kernels_3 0 rfl rfl)
theorem dX4_kernels_72 : decode cX4_kernels 72 = .ok (.iaload, 1) := dk_46 (dk_at dksX4_kernels_3 1 rfl rfl)
theorem dX4_kernels_73 : decode cX4_kernels 73 = .ok (.ior, 1) := dk_128 (dk_at dksX4_kernels_3 2 rfl rfl)
theorem dX4_kernels_74 : decode cX4_kernels 74 = .ok (.putfield 237, 3) := dk_181 0 237 (dk_at dksX4_kernels_3 3 rfl rfl)
theorem dX4_kernels_77 : decode cX4_kernels 77 = .ok (.aload_n 0, 1) := dk_42 (dk_at dksX4_kernels_3 6 rfl rfl)
theorem dX4_kernels_78 : decode cX4_kernels 78 = .ok (.dup, 1) := dk_89 (dk_at dksX4_kernels_3 7 rfl rfl)
theorem dX4_kernels_79 : decode cX4_kernels 79 = .ok (.getfield 231, 3) := dk_180 0 231 (dk_at dksX4_kernels_3 8 rfl rfl)
theorem dX4_kernels_82 : decode cX4_kernels 82 = .ok (.aload_n 0, 1) := dk_42 (dk_at dksX4_kernels_3 11 rfl rfl)
theorem dX4_kernels_83 : decode cX4_kernels 83 = .ok (.getfield 32, 3) := dk_180 0 32 (dk_at dksX4_kernels_3 12 rfl rfl)
theorem dX4_kernels_86 : decode cX4_kernels 86 = .ok (.iconst 2, 1) := dk_5 (dk_at dksX4_kernels_3 15 rfl rfl)
theorem dX4_kernels_87 : decode cX4_kernels 87 = .ok (.iaload, 1) := dk_46 (dk_at dksX4_kernels_3 16 rfl rfl)
theorem dX4_kernels_88 : decode cX4_kernels 88 = .ok (.invokestatic 133, 3) := dk_184 0 133 (dk_at dksX4_kernels_3 17 rfl rfl)
theorem dX4_kernels_91 : decode cX4_kernels 91 = .ok (.isub, 1) := dk_100 (dk_at dksX4_kernels_3 20 rfl rfl)
theorem dX4_kernels_92 : decode cX4_kernels 92 = .ok (.putfield 231, 3) := dk_181 0 231 (dk_at dksX4_kernels_3 21 rfl rfl)
theorem dX4_kernels_95 : decode cX4_kernels 95 = .ok (.aload_n 0, 1) := dk_42 (dk_at dksX4_kernels_4 0 rfl rfl)
theorem dX4_kernels_96 : decode cX4_kernels 96 = .ok (.dup, 1) := dk_89 (dk_at dksX4_kernels_4 1 rfl rfl)
theorem dX4_kernels_97 : decode cX4_kernels 97 = .ok (.getfield 240, 3) := dk_180 0 240 (dk_at dksX4_kernels_4 2 rfl rfl)
theorem dX4_kernels_100 : decode cX4_kernels 100 = .ok (.iconst 1, 1) := dk_4 (dk_at dksX4_kernels_4 5 rfl rfl)
theorem dX4_kernels_101 : decode cX4_kernels 101 = .ok (.iadd, 1) := dk_96 (dk_at dksX4_kernels_4 6 rfl rfl)
theorem dX4_kernels_102 : decode cX4_kernels 102 = .ok (.putfield 240, 3) := dk_181 0 240 (dk_at dksX4_kernels_4 7 rfl rfl)
theorem dX4_kernels_105 : decode cX4_kernels 105 = .ok (.goto (-82), 3) := dk_167 255 174 (dk_at dksX4_kernels_4 10 rfl rfl)
theorem dX4_kernels_108 : decode cX4_kernels 108 = .ok (.return_, 1) := dk_177 (dk_at dksX4_kernels_4 13 rfl rfl)
abbrev cX4_rules : ByteArray := prog_32_method_49_code
def yX4_rules : MethodName := ⟨RX4, "rules", "()Z"⟩
def dkwX4_rules_9 : List UInt8 := [182, 0, 234, 153, 0, 7, 4, 167, 0, 4, 3, 172]
abbrev dktX4_rules_9 : List UInt8 := dkwX4_rules_9 ++ []
def dkwX4_rules_8 : List UInt8 := [180, 0, 225, 182, 0, 209, 54, 6, 21, 5, 153, 0, 22, 42, 6, 21, 5, 21, 6, 128, 21, 6]
abbrev dktX4_rules_8 : List UInt8 := dkwX4_rules_8 ++ dktX4_rules_9
def dkwX4_rules_7 : List UInt8 := [180, 0, 225, 182, 0, 206, 54, 4, 42, 3, 42, 180, 0, 225, 182, 0, 209, 54, 5, 42, 5, 42]
abbrev dktX4_rules_7 : List UInt8 := dkwX4_rules_7 ++ dktX4_rules_8
def dkwX4_rules_6 : List UInt8 := [42, 180, 0, 225, 126, 128, 42, 180, 0, 20, 29, 46, 42, 180, 0, 225, 126, 182, 0, 234, 172, 42, 42]
abbrev dktX4_rules_6 : List UInt8 := dkwX4_rules_6 ++ dktX4_rules_7
def dkwX4_rules_5 : List UInt8 := [120, 4, 28, 120, 182, 0, 234, 172, 29, 2, 159, 0, 35, 42, 5, 4, 29, 120, 42, 180, 0, 20, 29, 46]
abbrev dktX4_rules_5 : List UInt8 := dkwX4_rules_5 ++ dktX4_rules_6
def dkwX4_rules_4 : List UInt8 := [27, 2, 159, 0, 13, 42, 3, 4, 27, 120, 3, 182, 0, 234, 172, 28, 2, 159, 0, 15, 42, 4, 4, 28]
abbrev dktX4_rules_4 : List UInt8 := dkwX4_rules_4 ++ dktX4_rules_5
def dkwX4_rules_3 : List UInt8 := [167, 0, 4, 28, 61, 21, 5, 4, 160, 0, 8, 21, 4, 167, 0, 4, 29, 62, 132, 4, 255, 167, 255, 180]
abbrev dktX4_rules_3 : List UInt8 := dkwX4_rules_3 ++ dktX4_rules_4
def dkwX4_rules_2 : List UInt8 := [21, 5, 154, 0, 8, 21, 4, 167, 0, 4, 27, 60, 21, 5, 42, 180, 0, 231, 164, 0, 8, 21, 4]
abbrev dktX4_rules_2 : List UInt8 := dkwX4_rules_2 ++ dktX4_rules_3
def dkwX4_rules_1 : List UInt8 := [21, 4, 184, 0, 118, 154, 0, 6, 167, 0, 56, 42, 21, 4, 42, 180, 0, 225, 182, 0, 228, 54, 5]
abbrev dktX4_rules_1 : List UInt8 := dkwX4_rules_1 ++ dktX4_rules_2
def dkwX4_rules_0 : List UInt8 := [2, 60, 2, 61, 2, 62, 42, 180, 0, 122, 4, 100, 54, 4, 21, 4, 155, 0, 77, 42, 180, 0, 225]
abbrev dktX4_rules_0 : List UInt8 := dkwX4_rules_0 ++ dktX4_rules_1
theorem dksX4_rules_0 : cX4_rules.data.toList.drop 0 = dktX4_rules_0 := by decide +kernel
theorem dksX4_rules_1 : cX4_rules.data.toList.drop 23 = dktX4_rules_1 := dk_seg dksX4_rules_0 23 rfl rfl
theorem dksX4_rules_2 : cX4_rules.data.toList.drop 46 = dktX4_rules_2 := dk_seg dksX4_rules_1 23 rfl rfl
theorem dksX4_rules_3 : cX4_rules.data.toList.drop 69 = dktX4_rules_3 := dk_seg dksX4_rules_2 23 rfl rfl
theorem dksX4_rules_4 : cX4_rules.data.toList.drop 93 = dktX4_rules_4 := dk_seg dksX4_rules_3 24 rfl rfl
theorem dksX4_rules_5 : cX4_rules.data.toList.drop 117 = dktX4_rules_5 := dk_seg dksX4_rules_4 24 rfl rfl
theorem dksX4_rules_6 : cX4_rules.data.toList.drop 141 = dktX4_rules_6 := dk_seg dksX4_rules_5 24 rfl rfl
theorem dksX4_rules_7 : cX4_rules.data.toList.drop 164 = dktX4_rules_7 := dk_seg dksX4_rules_6 23 rfl rfl
theorem dksX4_rules_8 : cX4_rules.data.toList.drop 186 = dktX4_rules_8 := dk_seg dksX4_rules_7 22 rfl rfl
theorem dksX4_rules_9 : cX4_rules.data.toList.drop 208 = dktX4_rules_9 := dk_seg dksX4_rules_8 22 rfl rfl
theorem dX4_rules_0 : decode cX4_rules 0 = .ok (.iconst (-1), 1) := dk_2 (dk_at dksX4_rules_0 0 rfl rfl)
theorem dX4_rules_1 : decode cX4_rules 1 = .ok (.istore_n 1, 1) := dk_60 (dk_at dksX4_rules_0 1 rfl rfl)
theorem dX4_rules_2 : decode cX4_rules 2 = .ok (.iconst (-1), 1) := dk_2 (dk_at dksX4_rules_0 2 rfl rfl)
theorem dX4_rules_3 : decode cX4_rules 3 = .ok (.istore_n 2, 1) := dk_61 (dk_at dksX4_rules_0 3 rfl rfl)
theorem dX4_rules_4 : decode cX4_rules 4 = .ok (.iconst (-1), 1) := dk_2 (dk_at dksX4_rules_0 4 rfl rfl)
theorem dX4_rules_5 : decode cX4_rules 5 = .ok (.istore_n 3, 1) := dk_62 (dk_at dksX4_rules_0 5 rfl rfl)
theorem dX4_rules_6 : decode cX4_rules 6 = .ok (.aload_n 0, 1) := dk_42 (dk_at dksX4_rules_0 6 rfl rfl)
theorem dX4_rules_7 : decode cX4_rules 7 = .ok (.getfield 122, 3) := dk_180 0 122 (dk_at dksX4_rules_0 7 rfl rfl)
theorem dX4_rules_10 : decode cX4_rules 10 = .ok (.iconst 1, 1) := dk_4 (dk_at dksX4_rules_0 10 rfl rfl)
theorem dX4_rules_11 : decode cX4_rules 11 = .ok (.isub, 1) := dk_100 (dk_at dksX4_rules_0 11 rfl rfl)
theorem dX4_rules_12 : decode cX4_rules 12 = .ok (.istore 4, 2) := dk_54 4 (dk_at dksX4_rules_0 12 rfl rfl)
theorem dX4_rules_14 : decode cX4_rules 14 = .ok (.iload 4, 2) := dk_21 4 (dk_at dksX4_rules_0 14 rfl rfl)
theorem dX4_rules_16 : decode cX4_rules 16 = .ok (.ifCond .lt 77, 3) := dk_155 0 77 (dk_at dksX4_rules_0 16 rfl rfl)
theorem dX4_rules_19 : decode cX4_rules 19 = .ok (.aload_n 0, 1) := dk_42 (dk_at dksX4_rules_0 19 rfl rfl)
theorem dX4_rules_20 : decode cX4_rules 20 = .ok (.getfield 225, 3) := dk_180 0 225 (dk_at dksX4_rules_0 20 rfl rfl)
theorem dX4_rules_23 : decode cX4_rules 23 = .ok (.iload 4, 2) := dk_21 4 (dk_at dksX4_rules_1 0 rfl rfl)
theorem dX4_rules_25 : decode cX4_rules 25 = .ok (.invokestatic 118, 3) := dk_184 0 118 (dk_at dksX4_rules_1 2 rfl rfl)
theorem dX4_rules_28 : decode cX4_rules 28 = .ok (.ifCond .ne 6, 3) := dk_154 0 6 (dk_at dksX4_rules_1 5 rfl rfl)
theorem dX4_rules_31 : decode cX4_rules 31 = .ok (.goto 56, 3) := dk_167 0 56 (dk_at dksX4_rules_1 8 rfl rfl)
theorem dX4_rules_34 : decode cX4_rules 34 = .ok (.aload_n 0, 1) := dk_42 (dk_at dksX4_rules_1 11 rfl rfl)
theorem dX4_rules_35 : decode cX4_rules 35 = .ok (.iload 4, 2) := dk_21 4 (dk_at dksX4_rules_1 12 rfl rfl)
theorem dX4_rules_37 : decode cX4_rules 37 = .ok (.aload_n 0, 1) := dk_42 (dk_at dksX4_rules_1 14 rfl rfl)
theorem dX4_rules_38 : decode cX4_rules 38 = .ok (.getfield 225, 3) := dk_180 0 225 (dk_at dksX4_rules_1 15 rfl rfl)
theorem dX4_rules_41 : decode cX4_rules 41 = .ok (.invokevirtual 228, 3) := dk_182 0 228 (dk_at dksX4_rules_1 18 rfl rfl)
theorem dX4_rules_44 : decode cX4_rules 44 = .ok (.istore 5, 2) := dk_54 5 (dk_at dksX4_rules_1 21 rfl rfl)
theorem dX4_rules_46 : decode cX4_rules 46 = .ok (.iload 5, 2) := dk_21 5 (dk_at dksX4_rules_2 0 rfl rfl)
theorem dX4_rules_48 : decode cX4_rules 48 = .ok (.ifCond .ne 8, 3) := dk_154 0 8 (dk_at dksX4_rules_2 2 rfl rfl)
theorem dX4_rules_51 : decode cX4_rules 51 = .ok (.iload 4, 2) := dk_21 4 (dk_at dksX4_rules_2 5 rfl rfl)
theorem dX4_rules_53 : decode cX4_rules 53 = .ok (.goto 4, 3) := dk_167 0 4 (dk_at dksX4_rules_2 7 rfl rfl)
theorem dX4_rules_56 : decode cX4_rules 56 = .ok (.iload_n 1, 1) := dk_27 (dk_at dksX4_rules_2 10 rfl rfl)
theorem dX4_rules_57 : decode cX4_rules 57 = .ok (.istore_n 1, 1) := dk_60 (dk_at dksX4_rules_2 11 rfl rfl)
theorem dX4_rules_58 : decode cX4_rules 58 = .ok (.iload 5, 2) := dk_21 5 (dk_at dksX4_rules_2 12 rfl rfl)
theorem dX4_rules_60 : decode cX4_rules 60 = .ok (.aload_n 0, 1) := dk_42 (dk_at dksX4_rules_2 14 rfl rfl)
theorem dX4_rules_61 : decode cX4_rules 61 = .ok (.getfield 231, 3) := dk_180 0 231 (dk_at dksX4_rules_2 15 rfl rfl)
theorem dX4_rules_64 : decode cX4_rules 64 = .ok (.if_icmp .le 8, 3) := dk_164 0 8 (dk_at dksX4_rules_2 18 rfl rfl)
theorem dX4_rules_67 : decode cX4_rules 67 = .ok (.iload 4, 2) := dk_21 4 (dk_at dksX4_rules_2 21 rfl rfl)
theorem dX4_rules_69 : decode cX4_rules 69 = .ok (.goto 4, 3) := dk_167 0 4 (dk_at dksX4_rules_3 0 rfl rfl)
theorem dX4_rules_72 : decode cX4_rules 72 = .ok (.iload_n 2, 1) := dk_28 (dk_at dksX4_rules_3 3 rfl rfl)
theorem dX4_rules_73 : decode cX4_rules 73 = .ok (.istore_n 2, 1) := dk_61 (dk_at dksX4_rules_3 4 rfl rfl)
theorem dX4_rules_74 : decode cX4_rules 74 = .ok (.iload 5, 2) := dk_21 5 (dk_at dksX4_rules_3 5 rfl rfl)
theorem dX4_rules_76 : decode cX4_rules 76 = .ok (.iconst 1, 1) := dk_4 (dk_at dksX4_rules_3 7 rfl rfl)
theorem dX4_rules_77 : decode cX4_rules 77 = .ok (.if_icmp .ne 8, 3) := dk_160 0 8 (dk_at dksX4_rules_3 8 rfl rfl)
theorem dX4_rules_80 : decode cX4_rules 80 = .ok (.iload 4, 2) := dk_21 4 (dk_at dksX4_rules_3 11 rfl rfl)
theorem dX4_rules_82 : decode cX4_rules 82 = .ok (.goto 4, 3) := dk_167 0 4 (dk_at dksX4_rules_3 13 rfl rfl)
theorem dX4_rules_85 : decode cX4_rules 85 = .ok (.iload_n 3, 1) := dk_29 (dk_at dksX4_rules_3 16 rfl rfl)
theorem dX4_rules_86 : decode cX4_rules 86 = .ok (.istore_n 3, 1) := dk_62 (dk_at dksX4_rules_3 17 rfl rfl)
theorem dX4_rules_87 : decode cX4_rules 87 = .ok (.iinc 4 (-1), 3) := dk_132 4 255 (dk_at dksX4_rules_3 18 rfl rfl)
theorem dX4_rules_90 : decode cX4_rules 90 = .ok (.goto (-76), 3) := dk_167 255 180 (dk_at dksX4_rules_3 21 rfl rfl)
theorem dX4_rules_93 : decode cX4_rules 93 = .ok (.iload_n 1, 1) := dk_27 (dk_at dksX4_rules_4 0 rfl rfl)
theorem dX4_rules_94 : decode cX4_rules 94 = .ok (.iconst (-1), 1) := dk_2 (dk_at dksX4_rules_4 1 rfl rfl)
theorem dX4_rules_95 : decode cX4_rules 95 = .ok (.if_icmp .eq 13, 3) := dk_159 0 13 (dk_at dksX4_rules_4 2 rfl rfl)
theorem dX4_rules_98 : decode cX4_rules 98 = .ok (.aload_n 0, 1) := dk_42 (dk_at dksX4_rules_4 5 rfl rfl)
theorem dX4_rules_99 : decode cX4_rules 99 = .ok (.iconst 0, 1) := dk_3 (dk_at dksX4_rules_4 6 rfl rfl)
theorem dX4_rules_100 : decode cX4_rules 100 = .ok (.iconst 1, 1) := dk_4 (dk_at dksX4_rules_4 7 rfl rfl)
theorem dX4_rules_101 : decode cX4_rules 101 = .ok (.iload_n 1, 1) := dk_27 (dk_at dksX4_rules_4 8 rfl rfl)
theorem dX4_rules_102 : decode cX4_rules 102 = .ok (.ishl, 1) := dk_120 (dk_at dksX4_rules_4 9 rfl rfl)
theorem dX4_rules_103 : decode cX4_rules 103 = .ok (.iconst 0, 1) := dk_3 (dk_at dksX4_rules_4 10 rfl rfl)
theorem dX4_rules_104 : decode cX4_rules 104 = .ok (.invokevirtual 234, 3) := dk_182 0 234 (dk_at dksX4_rules_4 11 rfl rfl)
theorem dX4_rules_107 : decode cX4_rules 107 = .ok (.ireturn, 1) := dk_172 (dk_at dksX4_rules_4 14 rfl rfl)
theorem dX4_rules_108 : decode cX4_rules 108 = .ok (.iload_n 2, 1) := dk_28 (dk_at dksX4_rules_4 15 rfl rfl)
theorem dX4_rules_109 : decode cX4_rules 109 = .ok (.iconst (-1), 1) := dk_2 (dk_at dksX4_rules_4 16 rfl rfl)
theorem dX4_rules_110 : decode cX4_rules 110 = .ok (.if_icmp .eq 15, 3) := dk_159 0 15 (dk_at dksX4_rules_4 17 rfl rfl)
theorem dX4_rules_113 : decode cX4_rules 113 = .ok (.aload_n 0, 1) := dk_42 (dk_at dksX4_rules_4 20 rfl rfl)
theorem dX4_rules_114 : decode cX4_rules 114 = .ok (.iconst 1, 1) := dk_4 (dk_at dksX4_rules_4 21 rfl rfl)
theorem dX4_rules_115 : decode cX4_rules 115 = .ok (.iconst 1, 1) := dk_4 (dk_at dksX4_rules_4 22 rfl rfl)
theorem dX4_rules_116 : decode cX4_rules 116 = .ok (.iload_n 2, 1) := dk_28 (dk_at dksX4_rules_4 23 rfl rfl)
theorem dX4_rules_117 : decode cX4_rules 117 = .ok (.ishl, 1) := dk_120 (dk_at dksX4_rules_5 0 rfl rfl)
theorem dX4_rules_118 : decode cX4_rules 118 = .ok (.iconst 1, 1) := dk_4 (dk_at dksX4_rules_5 1 rfl rfl)
theorem dX4_rules_119 : decode cX4_rules 119 = .ok (.iload_n 2, 1) := dk_28 (dk_at dksX4_rules_5 2 rfl rfl)
theorem dX4_rules_120 : decode cX4_rules 120 = .ok (.ishl, 1) := dk_120 (dk_at dksX4_rules_5 3 rfl rfl)
theorem dX4_rules_121 : decode cX4_rules 121 = .ok (.invokevirtual 234, 3) := dk_182 0 234 (dk_at dksX4_rules_5 4 rfl rfl)
theorem dX4_rules_124 : decode cX4_rules 124 = .ok (.ireturn, 1) := dk_172 (dk_at dksX4_rules_5 7 rfl rfl)
theorem dX4_rules_125 : decode cX4_rules 125 = .ok (.iload_n 3, 1) := dk_29 (dk_at dksX4_rules_5 8 rfl rfl)
theorem dX4_rules_126 : decode cX4_rules 126 = .ok (.iconst (-1), 1) := dk_2 (dk_at dksX4_rules_5 9 rfl rfl)
theorem dX4_rules_127 : decode cX4_rules 127 = .ok (.if_icmp .eq 35, 3) := dk_159 0 35 (dk_at dksX4_rules_5 10 rfl rfl)
theorem dX4_rules_130 : decode cX4_rules 130 = .ok (.aload_n 0, 1) := dk_42 (dk_at dksX4_rules_5 13 rfl rfl)
theorem dX4_rules_131 : decode cX4_rules 131 = .ok (.iconst 2, 1) := dk_5 (dk_at dksX4_rules_5 14 rfl rfl)
theorem dX4_rules_132 : decode cX4_rules 132 = .ok (.iconst 1, 1) := dk_4 (dk_at dksX4_rules_5 15 rfl rfl)
theorem dX4_rules_133 : decode cX4_rules 133 = .ok (.iload_n 3, 1) := dk_29 (dk_at dksX4_rules_5 16 rfl rfl)
theorem dX4_rules_134 : decode cX4_rules 134 = .ok (.ishl, 1) := dk_120 (dk_at dksX4_rules_5 17 rfl rfl)
theorem dX4_rules_135 : decode cX4_rules 135 = .ok (.aload_n 0, 1) := dk_42 (dk_at dksX4_rules_5 18 rfl rfl)
theorem dX4_rules_136 : decode cX4_rules 136 = .ok (.getfield 20, 3) := dk_180 0 20 (dk_at dksX4_rules_5 19 rfl rfl)
theorem dX4_rules_139 : decode cX4_rules 139 = .ok (.iload_n 3, 1) := dk_29 (dk_at dksX4_rules_5 22 rfl rfl)
theorem dX4_rules_140 : decode cX4_rules 140 = .ok (.iaload, 1) := dk_46 (dk_at dksX4_rules_5 23 rfl rfl)
theorem dX4_rules_141 : decode cX4_rules 141 = .ok (.aload_n 0, 1) := dk_42 (dk_at dksX4_rules_6 0 rfl rfl)
theorem dX4_rules_142 : decode cX4_rules 142 = .ok (.getfield 225, 3) := dk_180 0 225 (dk_at dksX4_rules_6 1 rfl rfl)
theorem dX4_rules_145 : decode cX4_rules 145 = .ok (.iand, 1) := dk_126 (dk_at dksX4_rules_6 4 rfl rfl)
theorem dX4_rules_146 : decode cX4_rules 146 = .ok (.ior, 1) := dk_128 (dk_at dksX4_rules_6 5 rfl rfl)
theorem dX4_rules_147 : decode cX4_rules 147 = .ok (.aload_n 0, 1) := dk_42 (dk_at dksX4_rules_6 6 rfl rfl)
theorem dX4_rules_148 : decode cX4_rules 148 = .ok (.getfield 20, 3) := dk_180 0 20 (dk_at dksX4_rules_6 7 rfl rfl)
theorem dX4_rules_151 : decode cX4_rules 151 = .ok (.iload_n 3, 1) := dk_29 (dk_at dksX4_rules_6 10 rfl rfl)
theorem dX4_rules_152 : decode cX4_rules 152 = .ok (.iaload, 1) := dk_46 (dk_at dksX4_rules_6 11 rfl rfl)
theorem dX4_rules_153 : decode cX4_rules 153 = .ok (.aload_n 0, 1) := dk_42 (dk_at dksX4_rules_6 12 rfl rfl)
theorem dX4_rules_154 : decode cX4_rules 154 = .ok (.getfield 225, 3) := dk_180 0 225 (dk_at dksX4_rules_6 13 rfl rfl)
theorem dX4_rules_157 : decode cX4_rules 157 = .ok (.iand, 1) := dk_126 (dk_at dksX4_rules_6 16 rfl rfl)
theorem dX4_rules_158 : decode cX4_rules 158 = .ok (.invokevirtual 234, 3) := dk_182 0 234 (dk_at dksX4_rules_6 17 rfl rfl)
theorem dX4_rules_161 : decode cX4_rules 161 = .ok (.ireturn, 1) := dk_172 (dk_at dksX4_rules_6 20 rfl rfl)
theorem dX4_rules_162 : decode cX4_rules 162 = .ok (.aload_n 0, 1) := dk_42 (dk_at dksX4_rules_6 21 rfl rfl)
theorem dX4_rules_163 : decode cX4_rules 163 = .ok (.aload_n 0, 1) := dk_42 (dk_at dksX4_rules_6 22 rfl rfl)
theorem dX4_rules_164 : decode cX4_rules 164 = .ok (.getfield 225, 3) := dk_180 0 225 (dk_at dksX4_rules_7 0 rfl rfl)
theorem dX4_rules_167 : decode cX4_rules 167 = .ok (.invokevirtual 206, 3) := dk_182 0 206 (dk_at dksX4_rules_7 3 rfl rfl)
theorem dX4_rules_170 : decode cX4_rules 170 = .ok (.istore 4, 2) := dk_54 4 (dk_at dksX4_rules_7 6 rfl rfl)
theorem dX4_rules_172 : decode cX4_rules 172 = .ok (.aload_n 0, 1) := dk_42 (dk_at dksX4_rules_7 8 rfl rfl)
theorem dX4_rules_173 : decode cX4_rules 173 = .ok (.iconst 0, 1) := dk_3 (dk_at dksX4_rules_7 9 rfl rfl)
theorem dX4_rules_174 : decode cX4_rules 174 = .ok (.aload_n 0, 1) := dk_42 (dk_at dksX4_rules_7 10 rfl rfl)
theorem dX4_rules_175 : decode cX4_rules 175 = .ok (.getfield 225, 3) := dk_180 0 225 (dk_at dksX4_rules_7 11 rfl rfl)
theorem dX4_rules_178 : decode cX4_rules 178 = .ok (.invokevirtual 209, 3) := dk_182 0 209 (dk_at dksX4_rules_7 14 rfl rfl)
theorem dX4_rules_181 : decode cX4_rules 181 = .ok (.istore 5, 2) := dk_54 5 (dk_at dksX4_rules_7 17 rfl rfl)
theorem dX4_rules_183 : decode cX4_rules 183 = .ok (.aload_n 0, 1) := dk_42 (dk_at dksX4_rules_7 19 rfl rfl)
theorem dX4_rules_184 : decode cX4_rules 184 = .ok (.iconst 2, 1) := dk_5 (dk_at dksX4_rules_7 20 rfl rfl)
theorem dX4_rules_185 : decode cX4_rules 185 = .ok (.aload_n 0, 1) := dk_42 (dk_at dksX4_rules_7 21 rfl rfl)
theorem dX4_rules_186 : decode cX4_rules 186 = .ok (.getfield 225, 3) := dk_180 0 225 (dk_at dksX4_rules_8 0 rfl rfl)
theorem dX4_rules_189 : decode cX4_rules 189 = .ok (.invokevirtual 209, 3) := dk_182 0 209 (dk_at dksX4_rules_8 3 rfl rfl)
theorem dX4_rules_192 : decode cX4_rules 192 = .ok (.istore 6, 2) := dk_54 6 (dk_at dksX4_rules_8 6 rfl rfl)
theorem dX4_rules_194 : decode cX4_rules 194 = .ok (.iload 5, 2) := dk_21 5 (dk_at dksX4_rules_8 8 rfl rfl)
theorem dX4_rules_196 : decode cX4_rules 196 = .ok (.ifCond .eq 22, 3) := dk_153 0 22 (dk_at dksX4_rules_8 10 rfl rfl)
theorem dX4_rules_199 : decode cX4_rules 199 = .ok (.aload_n 0, 1) := dk_42 (dk_at dksX4_rules_8 13 rfl rfl)
theorem dX4_rules_200 : decode cX4_rules 200 = .ok (.iconst 3, 1) := dk_6 (dk_at dksX4_rules_8 14 rfl rfl)
theorem dX4_rules_201 : decode cX4_rules 201 = .ok (.iload 5, 2) := dk_21 5 (dk_at dksX4_rules_8 15 rfl rfl)
theorem dX4_rules_203 : decode cX4_rules 203 = .ok (.iload 6, 2) := dk_21 6 (dk_at dksX4_rules_8 17 rfl rfl)
theorem dX4_rules_205 : decode cX4_rules 205 = .ok (.ior, 1) := dk_128 (dk_at dksX4_rules_8 19 rfl rfl)
theorem dX4_rules_206 : decode cX4_rules 206 = .ok (.iload 6, 2) := dk_21 6 (dk_at dksX4_rules_8 20 rfl rfl)
theorem dX4_rules_208 : decode cX4_rules 208 = .ok (.invokevirtual 234, 3) := dk_182 0 234 (dk_at dksX4_rules_9 0 rfl rfl)
theorem dX4_rules_211 : decode cX4_rules 211 = .ok (.ifCond .eq 7, 3) := dk_153 0 7 (dk_at dksX4_rules_9 3 rfl rfl)
theorem dX4_rules_214 : decode cX4_rules 214 = .ok (.iconst 1, 1) := dk_4 (dk_at dksX4_rules_9 6 rfl rfl)
theorem dX4_rules_215 : decode cX4_rules 215 = .ok (.goto 4, 3) := dk_167 0 4 (dk_at dksX4_rules_9 7 rfl rfl)
theorem dX4_rules_218 : decode cX4_rules 218 = .ok (.iconst 0, 1) := dk_3 (dk_at dksX4_rules_9 10 rfl rfl)
theorem dX4_rules_219 : decode cX4_rules 219 = .ok (.ireturn, 1) := dk_172 (dk_at dksX4_rules_9 11 rfl rfl)
abbrev cX4_degree : ByteArray := prog_32_method_48_code
def yX4_degree : MethodName := ⟨RX4, "degree", "(II)I"⟩
def dkwX4_degree_0 : List UInt8 := [42, 180, 0, 20, 27, 46, 28, 126, 184, 0, 133, 172]
abbrev dktX4_degree_0 : List UInt8 := dkwX4_degree_0 ++ []
theorem dksX4_degree_0 : cX4_degree.data.toList.drop 0 = dktX4_degree_0 := by decide +kernel
theorem dX4_degree_0 : decode cX4_degree 0 = .ok (.aload_n 0, 1) := dk_42 (dk_at dksX4_degree_0 0 rfl rfl)
theorem dX4_degree_1 : decode cX4_degree 1 = .ok (.getfield 20, 3) := dk_180 0 20 (dk_at dksX4_degree_0 1 rfl rfl)
theorem dX4_degree_4 : decode cX4_degree 4 = .ok (.iload_n 1, 1) := dk_27 (dk_at dksX4_degree_0 4 rfl rfl)
theorem dX4_degree_5 : decode cX4_degree 5 = .ok (.iaload, 1) := dk_46 (dk_at dksX4_degree_0 5 rfl rfl)
theorem dX4_degree_6 : decode cX4_degree 6 = .ok (.iload_n 2, 1) := dk_28 (dk_at dksX4_degree_0 6 rfl rfl)
theorem dX4_degree_7 : decode cX4_degree 7 = .ok (.iand, 1) := dk_126 (dk_at dksX4_degree_0 7 rfl rfl)
theorem dX4_degree_8 : decode cX4_degree 8 = .ok (.invokestatic 133, 3) := dk_184 0 133 (dk_at dksX4_degree_0 8 rfl rfl)
theorem dX4_degree_11 : decode cX4_degree 11 = .ok (.ireturn, 1) := dk_172 (dk_at dksX4_degree_0 11 rfl rfl)
abbrev cX4_rule : ByteArray := prog_32_method_50_code
def yX4_rule : MethodName := ⟨RX4, "rule", "(III)Z"⟩
def dkwX4_rule_0 : List UInt8 := [42, 180, 0, 32, 3, 27, 79, 42, 180, 0, 32, 4, 28, 79, 42, 180, 0, 32, 5, 29, 79, 4, 172]
abbrev dktX4_rule_0 : List UInt8 := dkwX4_rule_0 ++ []
theorem dksX4_rule_0 : cX4_rule.data.toList.drop 0 = dktX4_rule_0 := by decide +kernel
theorem dX4_rule_0 : decode cX4_rule 0 = .ok (.aload_n 0, 1) := dk_42 (dk_at dksX4_rule_0 0 rfl rfl)
theorem dX4_rule_1 : decode cX4_rule 1 = .ok (.getfield 32, 3) := dk_180 0 32 (dk_at dksX4_rule_0 1 rfl rfl)
theorem dX4_rule_4 : decode cX4_rule 4 = .ok (.iconst 0, 1) := dk_3 (dk_at dksX4_rule_0 4 rfl rfl)
theorem dX4_rule_5 : decode cX4_rule 5 = .ok (.iload_n 1, 1) := dk_27 (dk_at dksX4_rule_0 5 rfl rfl)
theorem dX4_rule_6 : decode cX4_rule 6 = .ok (.iastore, 1) := dk_79 (dk_at dksX4_rule_0 6 rfl rfl)
theorem dX4_rule_7 : decode cX4_rule 7 = .ok (.aload_n 0, 1) := dk_42 (dk_at dksX4_rule_0 7 rfl rfl)
theorem dX4_rule_8 : decode cX4_rule 8 = .ok (.getfield 32, 3) := dk_180 0 32 (dk_at dksX4_rule_0 8 rfl rfl)
theorem dX4_rule_11 : decode cX4_rule 11 = .ok (.iconst 1, 1) := dk_4 (dk_at dksX4_rule_0 11 rfl rfl)
theorem dX4_rule_12 : decode cX4_rule 12 = .ok (.iload_n 2, 1) := dk_28 (dk_at dksX4_rule_0 12 rfl rfl)
theorem dX4_rule_13 : decode cX4_rule 13 = .ok (.iastore, 1) := dk_79 (dk_at dksX4_rule_0 13 rfl rfl)
theorem dX4_rule_14 : decode cX4_rule 14 = .ok (.aload_n 0, 1) := dk_42 (dk_at dksX4_rule_0 14 rfl rfl)
theorem dX4_rule_15 : decode cX4_rule 15 = .ok (.getfield 32, 3) := dk_180 0 32 (dk_at dksX4_rule_0 15 rfl rfl)
theorem dX4_rule_18 : decode cX4_rule 18 = .ok (.iconst 2, 1) := dk_5 (dk_at dksX4_rule_0 18 rfl rfl)
theorem dX4_rule_19 : decode cX4_rule 19 = .ok (.iload_n 3, 1) := dk_29 (dk_at dksX4_rule_0 19 rfl rfl)
theorem dX4_rule_20 : decode cX4_rule 20 = .ok (.iastore, 1) := dk_79 (dk_at dksX4_rule_0 20 rfl rfl)
theorem dX4_rule_21 : decode cX4_rule 21 = .ok (.iconst 1, 1) := dk_4 (dk_at dksX4_rule_0 21 rfl rfl)
theorem dX4_rule_22 : decode cX4_rule 22 = .ok (.ireturn, 1) := dk_172 (dk_at dksX4_rule_0 22 rfl rfl)
abbrev cX4_round : ByteArray := prog_32_method_53_code
def yX4_round : MethodName := ⟨RX4, "round", "(III)I"⟩
def dkwX4_round_2 : List UInt8 := [180, 0, 240, 28, 4, 96, 160, 0, 12, 42, 180, 0, 32, 29, 46, 167, 0, 5, 16, 254, 172]
abbrev dktX4_round_2 : List UInt8 := dkwX4_round_2 ++ []
def dkwX4_round_1 : List UInt8 := [16, 254, 172, 42, 27, 28, 16, 12, 164, 0, 8, 18, 183, 167, 0, 6, 28, 4, 96, 182, 0, 247, 42]
abbrev dktX4_round_1 : List UInt8 := dkwX4_round_1 ++ dktX4_round_2
def dkwX4_round_0 : List UInt8 := [27, 3, 16, 12, 184, 0, 125, 153, 0, 16, 28, 155, 0, 12, 29, 3, 5, 184, 0, 125, 154, 0, 6]
abbrev dktX4_round_0 : List UInt8 := dkwX4_round_0 ++ dktX4_round_1
theorem dksX4_round_0 : cX4_round.data.toList.drop 0 = dktX4_round_0 := by decide +kernel
theorem dksX4_round_1 : cX4_round.data.toList.drop 23 = dktX4_round_1 := dk_seg dksX4_round_0 23 rfl rfl
theorem dksX4_round_2 : cX4_round.data.toList.drop 46 = dktX4_round_2 := dk_seg dksX4_round_1 23 rfl rfl
theorem dX4_round_0 : decode cX4_round 0 = .ok (.iload_n 1, 1) := dk_27 (dk_at dksX4_round_0 0 rfl rfl)
theorem dX4_round_1 : decode cX4_round 1 = .ok (.iconst 0, 1) := dk_3 (dk_at dksX4_round_0 1 rfl rfl)
theorem dX4_round_2 : decode cX4_round 2 = .ok (.bipush 12, 2) := dk_16 12 (dk_at dksX4_round_0 2 rfl rfl)
theorem dX4_round_4 : decode cX4_round 4 = .ok (.invokestatic 125, 3) := dk_184 0 125 (dk_at dksX4_round_0 4 rfl rfl)
theorem dX4_round_7 : decode cX4_round 7 = .ok (.ifCond .eq 16, 3) := dk_153 0 16 (dk_at dksX4_round_0 7 rfl rfl)
theorem dX4_round_10 : decode cX4_round 10 = .ok (.iload_n 2, 1) := dk_28 (dk_at dksX4_round_0 10 rfl rfl)
theorem dX4_round_11 : decode cX4_round 11 = .ok (.ifCond .lt 12, 3) := dk_155 0 12 (dk_at dksX4_round_0 11 rfl rfl)
theorem dX4_round_14 : decode cX4_round 14 = .ok (.iload_n 3, 1) := dk_29 (dk_at dksX4_round_0 14 rfl rfl)
theorem dX4_round_15 : decode cX4_round 15 = .ok (.iconst 0, 1) := dk_3 (dk_at dksX4_round_0 15 rfl rfl)
theorem dX4_round_16 : decode cX4_round 16 = .ok (.iconst 2, 1) := dk_5 (dk_at dksX4_round_0 16 rfl rfl)
theorem dX4_round_17 : decode cX4_round 17 = .ok (.invokestatic 125, 3) := dk_184 0 125 (dk_at dksX4_round_0 17 rfl rfl)
theorem dX4_round_20 : decode cX4_round 20 = .ok (.ifCond .ne 6, 3) := dk_154 0 6 (dk_at dksX4_round_0 20 rfl rfl)
theorem dX4_round_23 : decode cX4_round 23 = .ok (.bipush (-2), 2) := dk_16 254 (dk_at dksX4_round_1 0 rfl rfl)
theorem dX4_round_25 : decode cX4_round 25 = .ok (.ireturn, 1) := dk_172 (dk_at dksX4_round_1 2 rfl rfl)
theorem dX4_round_26 : decode cX4_round 26 = .ok (.aload_n 0, 1) := dk_42 (dk_at dksX4_round_1 3 rfl rfl)
theorem dX4_round_27 : decode cX4_round 27 = .ok (.iload_n 1, 1) := dk_27 (dk_at dksX4_round_1 4 rfl rfl)
theorem dX4_round_28 : decode cX4_round 28 = .ok (.iload_n 2, 1) := dk_28 (dk_at dksX4_round_1 5 rfl rfl)
theorem dX4_round_29 : decode cX4_round 29 = .ok (.bipush 12, 2) := dk_16 12 (dk_at dksX4_round_1 6 rfl rfl)
theorem dX4_round_31 : decode cX4_round 31 = .ok (.if_icmp .le 8, 3) := dk_164 0 8 (dk_at dksX4_round_1 8 rfl rfl)
theorem dX4_round_34 : decode cX4_round 34 = .ok (.ldc 183, 2) := dk_18 183 (dk_at dksX4_round_1 11 rfl rfl)
theorem dX4_round_36 : decode cX4_round 36 = .ok (.goto 6, 3) := dk_167 0 6 (dk_at dksX4_round_1 13 rfl rfl)
theorem dX4_round_39 : decode cX4_round 39 = .ok (.iload_n 2, 1) := dk_28 (dk_at dksX4_round_1 16 rfl rfl)
theorem dX4_round_40 : decode cX4_round 40 = .ok (.iconst 1, 1) := dk_4 (dk_at dksX4_round_1 17 rfl rfl)
theorem dX4_round_41 : decode cX4_round 41 = .ok (.iadd, 1) := dk_96 (dk_at dksX4_round_1 18 rfl rfl)
theorem dX4_round_42 : decode cX4_round 42 = .ok (.invokevirtual 247, 3) := dk_182 0 247 (dk_at dksX4_round_1 19 rfl rfl)
theorem dX4_round_45 : decode cX4_round 45 = .ok (.aload_n 0, 1) := dk_42 (dk_at dksX4_round_1 22 rfl rfl)
theorem dX4_round_46 : decode cX4_round 46 = .ok (.getfield 240, 3) := dk_180 0 240 (dk_at dksX4_round_2 0 rfl rfl)
theorem dX4_round_49 : decode cX4_round 49 = .ok (.iload_n 2, 1) := dk_28 (dk_at dksX4_round_2 3 rfl rfl)
theorem dX4_round_50 : decode cX4_round 50 = .ok (.iconst 1, 1) := dk_4 (dk_at dksX4_round_2 4 rfl rfl)
theorem dX4_round_51 : decode cX4_round 51 = .ok (.iadd, 1) := dk_96 (dk_at dksX4_round_2 5 rfl rfl)
theorem dX4_round_52 : decode cX4_round 52 = .ok (.if_icmp .ne 12, 3) := dk_160 0 12 (dk_at dksX4_round_2 6 rfl rfl)
theorem dX4_round_55 : decode cX4_round 55 = .ok (.aload_n 0, 1) := dk_42 (dk_at dksX4_round_2 9 rfl rfl)
theorem dX4_round_56 : decode cX4_round 56 = .ok (.getfield 32, 3) := dk_180 0 32 (dk_at dksX4_round_2 10 rfl rfl)
theorem dX4_round_59 : decode cX4_round 59 = .ok (.iload_n 3, 1) := dk_29 (dk_at dksX4_round_2 13 rfl rfl)
theorem dX4_round_60 : decode cX4_round 60 = .ok (.iaload, 1) := dk_46 (dk_at dksX4_round_2 14 rfl rfl)
theorem dX4_round_61 : decode cX4_round 61 = .ok (.goto 5, 3) := dk_167 0 5 (dk_at dksX4_round_2 15 rfl rfl)
theorem dX4_round_64 : decode cX4_round 64 = .ok (.bipush (-2), 2) := dk_16 254 (dk_at dksX4_round_2 18 rfl rfl)
theorem dX4_round_66 : decode cX4_round 66 = .ok (.ireturn, 1) := dk_172 (dk_at dksX4_round_2 20 rfl rfl)
abbrev cX4_pack : ByteArray := prog_32_method_55_code
def yX4_pack : MethodName := ⟨RX4, "pack", "(I)I"⟩
def dkwX4_pack_9 : List UInt8 := [46, 172]
abbrev dktX4_pack_9 : List UInt8 := dkwX4_pack_9 ++ []
def dkwX4_pack_8 : List UInt8 := [27, 154, 0, 15, 42, 180, 0, 35, 42, 182, 0, 129, 46, 167, 0, 12, 42, 180, 0, 38, 42, 182, 0, 129]
abbrev dktX4_pack_8 : List UInt8 := dkwX4_pack_8 ++ dktX4_pack_9
def dkwX4_pack_7 : List UInt8 := [130, 126, 5, 182, 0, 250, 132, 6, 1, 167, 255, 199, 132, 5, 1, 167, 255, 143, 132, 2, 1, 167, 255, 97]
abbrev dktX4_pack_7 : List UInt8 := dkwX4_pack_7 ++ dktX4_pack_8
def dkwX4_pack_6 : List UInt8 := [46, 126, 21, 6, 184, 0, 118, 153, 0, 23, 42, 28, 21, 4, 4, 21, 5, 120, 4, 21, 6, 120, 128, 2]
abbrev dktX4_pack_6 : List UInt8 := dkwX4_pack_6 ++ dktX4_pack_7
def dkwX4_pack_5 : List UInt8 := [21, 6, 42, 180, 0, 122, 162, 0, 54, 21, 4, 42, 180, 0, 20, 29, 46, 126, 42, 180, 0, 20, 21, 5]
abbrev dktX4_pack_5 : List UInt8 := dkwX4_pack_5 ++ dktX4_pack_6
def dkwX4_pack_4 : List UInt8 := [167, 0, 84, 42, 28, 21, 4, 4, 21, 5, 120, 2, 130, 126, 4, 182, 0, 250, 21, 5, 4, 96, 54, 6]
abbrev dktX4_pack_4 : List UInt8 := dkwX4_pack_4 ++ dktX4_pack_5
def dkwX4_pack_3 : List UInt8 := [180, 0, 122, 162, 0, 110, 21, 4, 42, 180, 0, 20, 29, 46, 126, 21, 5, 184, 0, 118, 154, 0, 6]
abbrev dktX4_pack_3 : List UInt8 := dkwX4_pack_3 ++ dktX4_pack_4
def dkwX4_pack_2 : List UInt8 := [42, 180, 0, 35, 28, 2, 79, 42, 28, 21, 4, 3, 182, 0, 250, 29, 4, 96, 54, 5, 21, 5, 42]
abbrev dktX4_pack_2 : List UInt8 := dkwX4_pack_2 ++ dktX4_pack_3
def dkwX4_pack_1 : List UInt8 := [3, 79, 4, 61, 28, 42, 182, 0, 129, 163, 0, 157, 28, 184, 0, 213, 62, 28, 28, 4, 100, 126, 54, 4]
abbrev dktX4_pack_1 : List UInt8 := dkwX4_pack_1 ++ dktX4_pack_2
def dkwX4_pack_0 : List UInt8 := [27, 3, 4, 184, 0, 125, 154, 0, 6, 16, 254, 172, 42, 180, 0, 35, 3, 3, 79, 42, 180, 0, 38, 3]
abbrev dktX4_pack_0 : List UInt8 := dkwX4_pack_0 ++ dktX4_pack_1
theorem dksX4_pack_0 : cX4_pack.data.toList.drop 0 = dktX4_pack_0 := by decide +kernel
theorem dksX4_pack_1 : cX4_pack.data.toList.drop 24 = dktX4_pack_1 := dk_seg dksX4_pack_0 24 rfl rfl
theorem dksX4_pack_2 : cX4_pack.data.toList.drop 48 = dktX4_pack_2 := dk_seg dksX4_pack_1 24 rfl rfl
theorem dksX4_pack_3 : cX4_pack.data.toList.drop 71 = dktX4_pack_3 := dk_seg dksX4_pack_2 23 rfl rfl
theorem dksX4_pack_4 : cX4_pack.data.toList.drop 94 = dktX4_pack_4 := dk_seg dksX4_pack_3 23 rfl rfl
theorem dksX4_pack_5 : cX4_pack.data.toList.drop 118 = dktX4_pack_5 := dk_seg dksX4_pack_4 24 rfl rfl
theorem dksX4_pack_6 : cX4_pack.data.toList.drop 142 = dktX4_pack_6 := dk_seg dksX4_pack_5 24 rfl rfl
theorem dksX4_pack_7 : cX4_pack.data.toList.drop 166 = dktX4_pack_7 := dk_seg dksX4_pack_6 24 rfl rfl
theorem dksX4_pack_8 : cX4_pack.data.toList.drop 190 = dktX4_pack_8 := dk_seg dksX4_pack_7 24 rfl rfl
theorem dksX4_pack_9 : cX4_pack.data.toList.drop 214 = dktX4_pack_9 := dk_seg dksX4_pack_8 24 rfl rfl
theorem dX4_pack_0 : decode cX4_pack 0 = .ok (.iload_n 1, 1) := dk_27 (dk_at dksX4_pack_0 0 rfl rfl)
theorem dX4_pack_1 : decode cX4_pack 1 = .ok (.iconst 0, 1) := dk_3 (dk_at dksX4_pack_0 1 rfl rfl)
theorem dX4_pack_2 : decode cX4_pack 2 = .ok (.iconst 1, 1) := dk_4 (dk_at dksX4_pack_0 2 rfl rfl)
theorem dX4_pack_3 : decode cX4_pack 3 = .ok (.invokestatic 125, 3) := dk_184 0 125 (dk_at dksX4_pack_0 3 rfl rfl)
theorem dX4_pack_6 : decode cX4_pack 6 = .ok (.ifCond .ne 6, 3) := dk_154 0 6 (dk_at dksX4_pack_0 6 rfl rfl)
theorem dX4_pack_9 : decode cX4_pack 9 = .ok (.bipush (-2), 2) := dk_16 254 (dk_at dksX4_pack_0 9 rfl rfl)
theorem dX4_pack_11 : decode cX4_pack 11 = .ok (.ireturn, 1) := dk_172 (dk_at dksX4_pack_0 11 rfl rfl)
theorem dX4_pack_12 : decode cX4_pack 12 = .ok (.aload_n 0, 1) := dk_42 (dk_at dksX4_pack_0 12 rfl rfl)
theorem dX4_pack_13 : decode cX4_pack 13 = .ok (.getfield 35, 3) := dk_180 0 35 (dk_at dksX4_pack_0 13 rfl rfl)
theorem dX4_pack_16 : decode cX4_pack 16 = .ok (.iconst 0, 1) := dk_3 (dk_at dksX4_pack_0 16 rfl rfl)
theorem dX4_pack_17 : decode cX4_pack 17 = .ok (.iconst 0, 1) := dk_3 (dk_at dksX4_pack_0 17 rfl rfl)
theorem dX4_pack_18 : decode cX4_pack 18 = .ok (.iastore, 1) := dk_79 (dk_at dksX4_pack_0 18 rfl rfl)
theorem dX4_pack_19 : decode cX4_pack 19 = .ok (.aload_n 0, 1) := dk_42 (dk_at dksX4_pack_0 19 rfl rfl)
theorem dX4_pack_20 : decode cX4_pack 20 = .ok (.getfield 38, 3) := dk_180 0 38 (dk_at dksX4_pack_0 20 rfl rfl)
theorem dX4_pack_23 : decode cX4_pack 23 = .ok (.iconst 0, 1) := dk_3 (dk_at dksX4_pack_0 23 rfl rfl)
theorem dX4_pack_24 : decode cX4_pack 24 = .ok (.iconst 0, 1) := dk_3 (dk_at dksX4_pack_1 0 rfl rfl)
theorem dX4_pack_25 : decode cX4_pack 25 = .ok (.iastore, 1) := dk_79 (dk_at dksX4_pack_1 1 rfl rfl)
theorem dX4_pack_26 : decode cX4_pack 26 = .ok (.iconst 1, 1) := dk_4 (dk_at dksX4_pack_1 2 rfl rfl)
theorem dX4_pack_27 : decode cX4_pack 27 = .ok (.istore_n 2, 1) := dk_61 (dk_at dksX4_pack_1 3 rfl rfl)
theorem dX4_pack_28 : decode cX4_pack 28 = .ok (.iload_n 2, 1) := dk_28 (dk_at dksX4_pack_1 4 rfl rfl)
theorem dX4_pack_29 : decode cX4_pack 29 = .ok (.aload_n 0, 1) := dk_42 (dk_at dksX4_pack_1 5 rfl rfl)
theorem dX4_pack_30 : decode cX4_pack 30 = .ok (.invokevirtual 129, 3) := dk_182 0 129 (dk_at dksX4_pack_1 6 rfl rfl)
theorem dX4_pack_33 : decode cX4_pack 33 = .ok (.if_icmp .gt 157, 3) := dk_163 0 157 (dk_at dksX4_pack_1 9 rfl rfl)
theorem dX4_pack_36 : decode cX4_pack 36 = .ok (.iload_n 2, 1) := dk_28 (dk_at dksX4_pack_1 12 rfl rfl)
theorem dX4_pack_37 : decode cX4_pack 37 = .ok (.invokestatic 213, 3) := dk_184 0 213 (dk_at dksX4_pack_1 13 rfl rfl)
theorem dX4_pack_40 : decode cX4_pack 40 = .ok (.istore_n 3, 1) := dk_62 (dk_at dksX4_pack_1 16 rfl rfl)
theorem dX4_pack_41 : decode cX4_pack 41 = .ok (.iload_n 2, 1) := dk_28 (dk_at dksX4_pack_1 17 rfl rfl)
theorem dX4_pack_42 : decode cX4_pack 42 = .ok (.iload_n 2, 1) := dk_28 (dk_at dksX4_pack_1 18 rfl rfl)
theorem dX4_pack_43 : decode cX4_pack 43 = .ok (.iconst 1, 1) := dk_4 (dk_at dksX4_pack_1 19 rfl rfl)
theorem dX4_pack_44 : decode cX4_pack 44 = .ok (.isub, 1) := dk_100 (dk_at dksX4_pack_1 20 rfl rfl)
theorem dX4_pack_45 : decode cX4_pack 45 = .ok (.iand, 1) := dk_126 (dk_at dksX4_pack_1 21 rfl rfl)
theorem dX4_pack_46 : decode cX4_pack 46 = .ok (.istore 4, 2) := dk_54 4 (dk_at dksX4_pack_1 22 rfl rfl)
theorem dX4_pack_48 : decode cX4_pack 48 = .ok (.aload_n 0, 1) := dk_42 (dk_at dksX4_pack_2 0 rfl rfl)
theorem dX4_pack_49 : decode cX4_pack 49 = .ok (.getfield 35, 3) := dk_180 0 35 (dk_at dksX4_pack_2 1 rfl rfl)
theorem dX4_pack_52 : decode cX4_pack 52 = .ok (.iload_n 2, 1) := dk_28 (dk_at dksX4_pack_2 4 rfl rfl)
theorem dX4_pack_53 : decode cX4_pack 53 = .ok (.iconst (-1), 1) := dk_2 (dk_at dksX4_pack_2 5 rfl rfl)
theorem dX4_pack_54 : decode cX4_pack 54 = .ok (.iastore, 1) := dk_79 (dk_at dksX4_pack_2 6 rfl rfl)
theorem dX4_pack_55 : decode cX4_pack 55 = .ok (.aload_n 0, 1) := dk_42 (dk_at dksX4_pack_2 7 rfl rfl)
theorem dX4_pack_56 : decode cX4_pack 56 = .ok (.iload_n 2, 1) := dk_28 (dk_at dksX4_pack_2 8 rfl rfl)
theorem dX4_pack_57 : decode cX4_pack 57 = .ok (.iload 4, 2) := dk_21 4 (dk_at dksX4_pack_2 9 rfl rfl)
theorem dX4_pack_59 : decode cX4_pack 59 = .ok (.iconst 0, 1) := dk_3 (dk_at dksX4_pack_2 11 rfl rfl)
theorem dX4_pack_60 : decode cX4_pack 60 = .ok (.invokevirtual 250, 3) := dk_182 0 250 (dk_at dksX4_pack_2 12 rfl rfl)
theorem dX4_pack_63 : decode cX4_pack 63 = .ok (.iload_n 3, 1) := dk_29 (dk_at dksX4_pack_2 15 rfl rfl)
theorem dX4_pack_64 : decode cX4_pack 64 = .ok (.iconst 1, 1) := dk_4 (dk_at dksX4_pack_2 16 rfl rfl)
theorem dX4_pack_65 : decode cX4_pack 65 = .ok (.iadd, 1) := dk_96 (dk_at dksX4_pack_2 17 rfl rfl)
theorem dX4_pack_66 : decode cX4_pack 66 = .ok (.istore 5, 2) := dk_54 5 (dk_at dksX4_pack_2 18 rfl rfl)
theorem dX4_pack_68 : decode cX4_pack 68 = .ok (.iload 5, 2) := dk_21 5 (dk_at dksX4_pack_2 20 rfl rfl)
theorem dX4_pack_70 : decode cX4_pack 70 = .ok (.aload_n 0, 1) := dk_42 (dk_at dksX4_pack_2 22 rfl rfl)
theorem dX4_pack_71 : decode cX4_pack 71 = .ok (.getfield 122, 3) := dk_180 0 122 (dk_at dksX4_pack_3 0 rfl rfl)
theorem dX4_pack_74 : decode cX4_pack 74 = .ok (.if_icmp .ge 110, 3) := dk_162 0 110 (dk_at dksX4_pack_3 3 rfl rfl)
theorem dX4_pack_77 : decode cX4_pack 77 = .ok (.iload 4, 2) := dk_21 4 (dk_at dksX4_pack_3 6 rfl rfl)
theorem dX4_pack_79 : decode cX4_pack 79 = .ok (.aload_n 0, 1) := dk_42 (dk_at dksX4_pack_3 8 rfl rfl)
theorem dX4_pack_80 : decode cX4_pack 80 = .ok (.getfield 20, 3) := dk_180 0 20 (dk_at dksX4_pack_3 9 rfl rfl)
theorem dX4_pack_83 : decode cX4_pack 83 = .ok (.iload_n 3, 1) := dk_29 (dk_at dksX4_pack_3 12 rfl rfl)
theorem dX4_pack_84 : decode cX4_pack 84 = .ok (.iaload, 1) := dk_46 (dk_at dksX4_pack_3 13 rfl rfl)
theorem dX4_pack_85 : decode cX4_pack 85 = .ok (.iand, 1) := dk_126 (dk_at dksX4_pack_3 14 rfl rfl)
theorem dX4_pack_86 : decode cX4_pack 86 = .ok (.iload 5, 2) := dk_21 5 (dk_at dksX4_pack_3 15 rfl rfl)
theorem dX4_pack_88 : decode cX4_pack 88 = .ok (.invokestatic 118, 3) := dk_184 0 118 (dk_at dksX4_pack_3 17 rfl rfl)
theorem dX4_pack_91 : decode cX4_pack 91 = .ok (.ifCond .ne 6, 3) := dk_154 0 6 (dk_at dksX4_pack_3 20 rfl rfl)
theorem dX4_pack_94 : decode cX4_pack 94 = .ok (.goto 84, 3) := dk_167 0 84 (dk_at dksX4_pack_4 0 rfl rfl)
theorem dX4_pack_97 : decode cX4_pack 97 = .ok (.aload_n 0, 1) := dk_42 (dk_at dksX4_pack_4 3 rfl rfl)
theorem dX4_pack_98 : decode cX4_pack 98 = .ok (.iload_n 2, 1) := dk_28 (dk_at dksX4_pack_4 4 rfl rfl)
theorem dX4_pack_99 : decode cX4_pack 99 = .ok (.iload 4, 2) := dk_21 4 (dk_at dksX4_pack_4 5 rfl rfl)
theorem dX4_pack_101 : decode cX4_pack 101 = .ok (.iconst 1, 1) := dk_4 (dk_at dksX4_pack_4 7 rfl rfl)
theorem dX4_pack_102 : decode cX4_pack 102 = .ok (.iload 5, 2) := dk_21 5 (dk_at dksX4_pack_4 8 rfl rfl)
theorem dX4_pack_104 : decode cX4_pack 104 = .ok (.ishl, 1) := dk_120 (dk_at dksX4_pack_4 10 rfl rfl)
theorem dX4_pack_105 : decode cX4_pack 105 = .ok (.iconst (-1), 1) := dk_2 (dk_at dksX4_pack_4 11 rfl rfl)
theorem dX4_pack_106 : decode cX4_pack 106 = .ok (.ixor, 1) := dk_130 (dk_at dksX4_pack_4 12 rfl rfl)
theorem dX4_pack_107 : decode cX4_pack 107 = .ok (.iand, 1) := dk_126 (dk_at dksX4_pack_4 13 rfl rfl)
theorem dX4_pack_108 : decode cX4_pack 108 = .ok (.iconst 1, 1) := dk_4 (dk_at dksX4_pack_4 14 rfl rfl)
theorem dX4_pack_109 : decode cX4_pack 109 = .ok (.invokevirtual 250, 3) := dk_182 0 250 (dk_at dksX4_pack_4 15 rfl rfl)
theorem dX4_pack_112 : decode cX4_pack 112 = .ok (.iload 5, 2) := dk_21 5 (dk_at dksX4_pack_4 18 rfl rfl)
theorem dX4_pack_114 : decode cX4_pack 114 = .ok (.iconst 1, 1) := dk_4 (dk_at dksX4_pack_4 20 rfl rfl)
theorem dX4_pack_115 : decode cX4_pack 115 = .ok (.iadd, 1) := dk_96 (dk_at dksX4_pack_4 21 rfl rfl)
theorem dX4_pack_116 : decode cX4_pack 116 = .ok (.istore 6, 2) := dk_54 6 (dk_at dksX4_pack_4 22 rfl rfl)
theorem dX4_pack_118 : decode cX4_pack 118 = .ok (.iload 6, 2) := dk_21 6 (dk_at dksX4_pack_5 0 rfl rfl)
theorem dX4_pack_120 : decode cX4_pack 120 = .ok (.aload_n 0, 1) := dk_42 (dk_at dksX4_pack_5 2 rfl rfl)
theorem dX4_pack_121 : decode cX4_pack 121 = .ok (.getfield 122, 3) := dk_180 0 122 (dk_at dksX4_pack_5 3 rfl rfl)
theorem dX4_pack_124 : decode cX4_pack 124 = .ok (.if_icmp .ge 54, 3) := dk_162 0 54 (dk_at dksX4_pack_5 6 rfl rfl)
theorem dX4_pack_127 : decode cX4_pack 127 = .ok (.iload 4, 2) := dk_21 4 (dk_at dksX4_pack_5 9 rfl rfl)
theorem dX4_pack_129 : decode cX4_pack 129 = .ok (.aload_n 0, 1) := dk_42 (dk_at dksX4_pack_5 11 rfl rfl)
theorem dX4_pack_130 : decode cX4_pack 130 = .ok (.getfield 20, 3) := dk_180 0 20 (dk_at dksX4_pack_5 12 rfl rfl)
theorem dX4_pack_133 : decode cX4_pack 133 = .ok (.iload_n 3, 1) := dk_29 (dk_at dksX4_pack_5 15 rfl rfl)
theorem dX4_pack_134 : decode cX4_pack 134 = .ok (.iaload, 1) := dk_46 (dk_at dksX4_pack_5 16 rfl rfl)
theorem dX4_pack_135 : decode cX4_pack 135 = .ok (.iand, 1) := dk_126 (dk_at dksX4_pack_5 17 rfl rfl)
theorem dX4_pack_136 : decode cX4_pack 136 = .ok (.aload_n 0, 1) := dk_42 (dk_at dksX4_pack_5 18 rfl rfl)
theorem dX4_pack_137 : decode cX4_pack 137 = .ok (.getfield 20, 3) := dk_180 0 20 (dk_at dksX4_pack_5 19 rfl rfl)
theorem dX4_pack_140 : decode cX4_pack 140 = .ok (.iload 5, 2) := dk_21 5 (dk_at dksX4_pack_5 22 rfl rfl)
theorem dX4_pack_142 : decode cX4_pack 142 = .ok (.iaload, 1) := dk_46 (dk_at dksX4_pack_6 0 rfl rfl)
theorem dX4_pack_143 : decode cX4_pack 143 = .ok (.iand, 1) := dk_126 (dk_at dksX4_pack_6 1 rfl rfl)
theorem dX4_pack_144 : decode cX4_pack 144 = .ok (.iload 6, 2) := dk_21 6 (dk_at dksX4_pack_6 2 rfl rfl)
theorem dX4_pack_146 : decode cX4_pack 146 = .ok (.invokestatic 118, 3) := dk_184 0 118 (dk_at dksX4_pack_6 4 rfl rfl)
theorem dX4_pack_149 : decode cX4_pack 149 = .ok (.ifCond .eq 23, 3) := dk_153 0 23 (dk_at dksX4_pack_6 7 rfl rfl)
theorem dX4_pack_152 : decode cX4_pack 152 = .ok (.aload_n 0, 1) := dk_42 (dk_at dksX4_pack_6 10 rfl rfl)
theorem dX4_pack_153 : decode cX4_pack 153 = .ok (.iload_n 2, 1) := dk_28 (dk_at dksX4_pack_6 11 rfl rfl)
theorem dX4_pack_154 : decode cX4_pack 154 = .ok (.iload 4, 2) := dk_21 4 (dk_at dksX4_pack_6 12 rfl rfl)
theorem dX4_pack_156 : decode cX4_pack 156 = .ok (.iconst 1, 1) := dk_4 (dk_at dksX4_pack_6 14 rfl rfl)
theorem dX4_pack_157 : decode cX4_pack 157 = .ok (.iload 5, 2) := dk_21 5 (dk_at dksX4_pack_6 15 rfl rfl)
theorem dX4_pack_159 : decode cX4_pack 159 = .ok (.ishl, 1) := dk_120 (dk_at dksX4_pack_6 17 rfl rfl)
theorem dX4_pack_160 : decode cX4_pack 160 = .ok (.iconst 1, 1) := dk_4 (dk_at dksX4_pack_6 18 rfl rfl)
theorem dX4_pack_161 : decode cX4_pack 161 = .ok (.iload 6, 2) := dk_21 6 (dk_at dksX4_pack_6 19 rfl rfl)
theorem dX4_pack_163 : decode cX4_pack 163 = .ok (.ishl, 1) := dk_120 (dk_at dksX4_pack_6 21 rfl rfl)
theorem dX4_pack_164 : decode cX4_pack 164 = .ok (.ior, 1) := dk_128 (dk_at dksX4_pack_6 22 rfl rfl)
theorem dX4_pack_165 : decode cX4_pack 165 = .ok (.iconst (-1), 1) := dk_2 (dk_at dksX4_pack_6 23 rfl rfl)
theorem dX4_pack_166 : decode cX4_pack 166 = .ok (.ixor, 1) := dk_130 (dk_at dksX4_pack_7 0 rfl rfl)
theorem dX4_pack_167 : decode cX4_pack 167 = .ok (.iand, 1) := dk_126 (dk_at dksX4_pack_7 1 rfl rfl)
theorem dX4_pack_168 : decode cX4_pack 168 = .ok (.iconst 2, 1) := dk_5 (dk_at dksX4_pack_7 2 rfl rfl)
theorem dX4_pack_169 : decode cX4_pack 169 = .ok (.invokevirtual 250, 3) := dk_182 0 250 (dk_at dksX4_pack_7 3 rfl rfl)
theorem dX4_pack_172 : decode cX4_pack 172 = .ok (.iinc 6 1, 3) := dk_132 6 1 (dk_at dksX4_pack_7 6 rfl rfl)
theorem dX4_pack_175 : decode cX4_pack 175 = .ok (.goto (-57), 3) := dk_167 255 199 (dk_at dksX4_pack_7 9 rfl rfl)
theorem dX4_pack_178 : decode cX4_pack 178 = .ok (.iinc 5 1, 3) := dk_132 5 1 (dk_at dksX4_pack_7 12 rfl rfl)
theorem dX4_pack_181 : decode cX4_pack 181 = .ok (.goto (-113), 3) := dk_167 255 143 (dk_at dksX4_pack_7 15 rfl rfl)
theorem dX4_pack_184 : decode cX4_pack 184 = .ok (.iinc 2 1, 3) := dk_132 2 1 (dk_at dksX4_pack_7 18 rfl rfl)
theorem dX4_pack_187 : decode cX4_pack 187 = .ok (.goto (-159), 3) := dk_167 255 97 (dk_at dksX4_pack_7 21 rfl rfl)
theorem dX4_pack_190 : decode cX4_pack 190 = .ok (.iload_n 1, 1) := dk_27 (dk_at dksX4_pack_8 0 rfl rfl)
theorem dX4_pack_191 : decode cX4_pack 191 = .ok (.ifCond .ne 15, 3) := dk_154 0 15 (dk_at dksX4_pack_8 1 rfl rfl)
theorem dX4_pack_194 : decode cX4_pack 194 = .ok (.aload_n 0, 1) := dk_42 (dk_at dksX4_pack_8 4 rfl rfl)
theorem dX4_pack_195 : decode cX4_pack 195 = .ok (.getfield 35, 3) := dk_180 0 35 (dk_at dksX4_pack_8 5 rfl rfl)
theorem dX4_pack_198 : decode cX4_pack 198 = .ok (.aload_n 0, 1) := dk_42 (dk_at dksX4_pack_8 8 rfl rfl)
theorem dX4_pack_199 : decode cX4_pack 199 = .ok (.invokevirtual 129, 3) := dk_182 0 129 (dk_at dksX4_pack_8 9 rfl rfl)
theorem dX4_pack_202 : decode cX4_pack 202 = .ok (.iaload, 1) := dk_46 (dk_at dksX4_pack_8 12 rfl rfl)
theorem dX4_pack_203 : decode cX4_pack 203 = .ok (.goto 12, 3) := dk_167 0 12 (dk_at dksX4_pack_8 13 rfl rfl)
theorem dX4_pack_206 : decode cX4_pack 206 = .ok (.aload_n 0, 1) := dk_42 (dk_at dksX4_pack_8 16 rfl rfl)
theorem dX4_pack_207 : decode cX4_pack 207 = .ok (.getfield 38, 3) := dk_180 0 38 (dk_at dksX4_pack_8 17 rfl rfl)
theorem dX4_pack_210 : decode cX4_pack 210 = .ok (.aload_n 0, 1) := dk_42 (dk_at dksX4_pack_8 20 rfl rfl)
theorem dX4_pack_211 : decode cX4_pack 211 = .ok (.invokevirtual 129, 3) := dk_182 0 129 (dk_at dksX4_pack_8 21 rfl rfl)
theorem dX4_pack_214 : decode cX4_pack 214 = .ok (.iaload, 1) := dk_46 (dk_at dksX4_pack_9 0 rfl rfl)
theorem dX4_pack_215 : decode cX4_pack 215 = .ok (.ireturn, 1) := dk_172 (dk_at dksX4_pack_9 1 rfl rfl)
abbrev cX4_packsTo : ByteArray := prog_32_method_54_code
def yX4_packsTo : MethodName := ⟨RX4, "packsTo", "(III)V"⟩
def dkwX4_packsTo_3 : List UInt8 := [180, 0, 38, 27, 21, 5, 79, 177]
abbrev dktX4_packsTo_3 : List UInt8 := dkwX4_packsTo_3 ++ []
def dkwX4_packsTo_2 : List UInt8 := [160, 0, 15, 21, 5, 42, 180, 0, 38, 27, 46, 161, 0, 4, 177, 42, 180, 0, 35, 27, 21, 4, 79, 42]
abbrev dktX4_packsTo_2 : List UInt8 := dkwX4_packsTo_2 ++ dktX4_packsTo_3
def dkwX4_packsTo_1 : List UInt8 := [4, 96, 54, 5, 21, 4, 42, 180, 0, 35, 27, 46, 161, 0, 25, 21, 4, 42, 180, 0, 35, 27, 46]
abbrev dktX4_packsTo_1 : List UInt8 := dkwX4_packsTo_1 ++ dktX4_packsTo_2
def dkwX4_packsTo_0 : List UInt8 := [42, 180, 0, 35, 28, 46, 29, 96, 54, 4, 42, 180, 0, 38, 28, 46, 29, 154, 0, 7, 3, 167, 0, 4]
abbrev dktX4_packsTo_0 : List UInt8 := dkwX4_packsTo_0 ++ dktX4_packsTo_1
theorem dksX4_packsTo_0 : cX4_packsTo.data.toList.drop 0 = dktX4_packsTo_0 := by decide +kernel
theorem dksX4_packsTo_1 : cX4_packsTo.data.toList.drop 24 = dktX4_packsTo_1 := dk_seg dksX4_packsTo_0 24 rfl rfl
theorem dksX4_packsTo_2 : cX4_packsTo.data.toList.drop 47 = dktX4_packsTo_2 := dk_seg dksX4_packsTo_1 23 rfl rfl
theorem dksX4_packsTo_3 : cX4_packsTo.data.toList.drop 71 = dktX4_packsTo_3 := dk_seg dksX4_packsTo_2 24 rfl rfl
theorem dX4_packsTo_0 : decode cX4_packsTo 0 = .ok (.aload_n 0, 1) := dk_42 (dk_at dksX4_packsTo_0 0 rfl rfl)
theorem dX4_packsTo_1 : decode cX4_packsTo 1 = .ok (.getfield 35, 3) := dk_180 0 35 (dk_at dksX4_packsTo_0 1 rfl rfl)
theorem dX4_packsTo_4 : decode cX4_packsTo 4 = .ok (.iload_n 2, 1) := dk_28 (dk_at dksX4_packsTo_0 4 rfl rfl)
theorem dX4_packsTo_5 : decode cX4_packsTo 5 = .ok (.iaload, 1) := dk_46 (dk_at dksX4_packsTo_0 5 rfl rfl)
theorem dX4_packsTo_6 : decode cX4_packsTo 6 = .ok (.iload_n 3, 1) := dk_29 (dk_at dksX4_packsTo_0 6 rfl rfl)
theorem dX4_packsTo_7 : decode cX4_packsTo 7 = .ok (.iadd, 1) := dk_96 (dk_at dksX4_packsTo_0 7 rfl rfl)
theorem dX4_packsTo_8 : decode cX4_packsTo 8 = .ok (.istore 4, 2) := dk_54 4 (dk_at dksX4_packsTo_0 8 rfl rfl)
theorem dX4_packsTo_10 : decode cX4_packsTo 10 = .ok (.aload_n 0, 1) := dk_42 (dk_at dksX4_packsTo_0 10 rfl rfl)
theorem dX4_packsTo_11 : decode cX4_packsTo 11 = .ok (.getfield 38, 3) := dk_180 0 38 (dk_at dksX4_packsTo_0 11 rfl rfl)
theorem dX4_packsTo_14 : decode cX4_packsTo 14 = .ok (.iload_n 2, 1) := dk_28 (dk_at dksX4_packsTo_0 14 rfl rfl)
theorem dX4_packsTo_15 : decode cX4_packsTo 15 = .ok (.iaload, 1) := dk_46 (dk_at dksX4_packsTo_0 15 rfl rfl)
theorem dX4_packsTo_16 : decode cX4_packsTo 16 = .ok (.iload_n 3, 1) := dk_29 (dk_at dksX4_packsTo_0 16 rfl rfl)
theorem dX4_packsTo_17 : decode cX4_packsTo 17 = .ok (.ifCond .ne 7, 3) := dk_154 0 7 (dk_at dksX4_packsTo_0 17 rfl rfl)
theorem dX4_packsTo_20 : decode cX4_packsTo 20 = .ok (.iconst 0, 1) := dk_3 (dk_at dksX4_packsTo_0 20 rfl rfl)
theorem dX4_packsTo_21 : decode cX4_packsTo 21 = .ok (.goto 4, 3) := dk_167 0 4 (dk_at dksX4_packsTo_0 21 rfl rfl)
theorem dX4_packsTo_24 : decode cX4_packsTo 24 = .ok (.iconst 1, 1) := dk_4 (dk_at dksX4_packsTo_1 0 rfl rfl)
theorem dX4_packsTo_25 : decode cX4_packsTo 25 = .ok (.iadd, 1) := dk_96 (dk_at dksX4_packsTo_1 1 rfl rfl)
theorem dX4_packsTo_26 : decode cX4_packsTo 26 = .ok (.istore 5, 2) := dk_54 5 (dk_at dksX4_packsTo_1 2 rfl rfl)
theorem dX4_packsTo_28 : decode cX4_packsTo 28 = .ok (.iload 4, 2) := dk_21 4 (dk_at dksX4_packsTo_1 4 rfl rfl)
theorem dX4_packsTo_30 : decode cX4_packsTo 30 = .ok (.aload_n 0, 1) := dk_42 (dk_at dksX4_packsTo_1 6 rfl rfl)
theorem dX4_packsTo_31 : decode cX4_packsTo 31 = .ok (.getfield 35, 3) := dk_180 0 35 (dk_at dksX4_packsTo_1 7 rfl rfl)
theorem dX4_packsTo_34 : decode cX4_packsTo 34 = .ok (.iload_n 1, 1) := dk_27 (dk_at dksX4_packsTo_1 10 rfl rfl)
theorem dX4_packsTo_35 : decode cX4_packsTo 35 = .ok (.iaload, 1) := dk_46 (dk_at dksX4_packsTo_1 11 rfl rfl)
theorem dX4_packsTo_36 : decode cX4_packsTo 36 = .ok (.if_icmp .lt 25, 3) := dk_161 0 25 (dk_at dksX4_packsTo_1 12 rfl rfl)
theorem dX4_packsTo_39 : decode cX4_packsTo 39 = .ok (.iload 4, 2) := dk_21 4 (dk_at dksX4_packsTo_1 15 rfl rfl)
theorem dX4_packsTo_41 : decode cX4_packsTo 41 = .ok (.aload_n 0, 1) := dk_42 (dk_at dksX4_packsTo_1 17 rfl rfl)
theorem dX4_packsTo_42 : decode cX4_packsTo 42 = .ok (.getfield 35, 3) := dk_180 0 35 (dk_at dksX4_packsTo_1 18 rfl rfl)
theorem dX4_packsTo_45 : decode cX4_packsTo 45 = .ok (.iload_n 1, 1) := dk_27 (dk_at dksX4_packsTo_1 21 rfl rfl)
theorem dX4_packsTo_46 : decode cX4_packsTo 46 = .ok (.iaload, 1) := dk_46 (dk_at dksX4_packsTo_1 22 rfl rfl)
theorem dX4_packsTo_47 : decode cX4_packsTo 47 = .ok (.if_icmp .ne 15, 3) := dk_160 0 15 (dk_at dksX4_packsTo_2 0 rfl rfl)
theorem dX4_packsTo_50 : decode cX4_packsTo 50 = .ok (.iload 5, 2) := dk_21 5 (dk_at dksX4_packsTo_2 3 rfl rfl)
theorem dX4_packsTo_52 : decode cX4_packsTo 52 = .ok (.aload_n 0, 1) := dk_42 (dk_at dksX4_packsTo_2 5 rfl rfl)
theorem dX4_packsTo_53 : decode cX4_packsTo 53 = .ok (.getfield 38, 3) := dk_180 0 38 (dk_at dksX4_packsTo_2 6 rfl rfl)
theorem dX4_packsTo_56 : decode cX4_packsTo 56 = .ok (.iload_n 1, 1) := dk_27 (dk_at dksX4_packsTo_2 9 rfl rfl)
theorem dX4_packsTo_57 : decode cX4_packsTo 57 = .ok (.iaload, 1) := dk_46 (dk_at dksX4_packsTo_2 10 rfl rfl)
theorem dX4_packsTo_58 : decode cX4_packsTo 58 = .ok (.if_icmp .lt 4, 3) := dk_161 0 4 (dk_at dksX4_packsTo_2 11 rfl rfl)
theorem dX4_packsTo_61 : decode cX4_packsTo 61 = .ok (.return_, 1) := dk_177 (dk_at dksX4_packsTo_2 14 rfl rfl)
theorem dX4_packsTo_62 : decode cX4_packsTo 62 = .ok (.aload_n 0, 1) := dk_42 (dk_at dksX4_packsTo_2 15 rfl rfl)
theorem dX4_packsTo_63 : decode cX4_packsTo 63 = .ok (.getfield 35, 3) := dk_180 0 35 (dk_at dksX4_packsTo_2 16 rfl rfl)
theorem dX4_packsTo_66 : decode cX4_packsTo 66 = .ok (.iload_n 1, 1) := dk_27 (dk_at dksX4_packsTo_2 19 rfl rfl)
theorem dX4_packsTo_67 : decode cX4_packsTo 67 = .ok (.iload 4, 2) := dk_21 4 (dk_at dksX4_packsTo_2 20 rfl rfl)
theorem dX4_packsTo_69 : decode cX4_packsTo 69 = .ok (.iastore, 1) := dk_79 (dk_at dksX4_packsTo_2 22 rfl rfl)
theorem dX4_packsTo_70 : decode cX4_packsTo 70 = .ok (.aload_n 0, 1) := dk_42 (dk_at dksX4_packsTo_2 23 rfl rfl)
theorem dX4_packsTo_71 : decode cX4_packsTo 71 = .ok (.getfield 38, 3) := dk_180 0 38 (dk_at dksX4_packsTo_3 0 rfl rfl)
theorem dX4_packsTo_74 : decode cX4_packsTo 74 = .ok (.iload_n 1, 1) := dk_27 (dk_at dksX4_packsTo_3 3 rfl rfl)
theorem dX4_packsTo_75 : decode cX4_packsTo 75 = .ok (.iload 5, 2) := dk_21 5 (dk_at dksX4_packsTo_3 4 rfl rfl)
theorem dX4_packsTo_77 : decode cX4_packsTo 77 = .ok (.iastore, 1) := dk_79 (dk_at dksX4_packsTo_3 6 rfl rfl)
theorem dX4_packsTo_78 : decode cX4_packsTo 78 = .ok (.return_, 1) := dk_177 (dk_at dksX4_packsTo_3 7 rfl rfl)
abbrev cX4_packs : ByteArray := prog_32_method_57_code
def yX4_packs : MethodName := ⟨RX4, "packs", "(I)I"⟩
def dkwX4_packs_4 : List UInt8 := [167, 255, 191, 29, 172]
abbrev dktX4_packs_4 : List UInt8 := dkwX4_packs_4 ++ []
def dkwX4_packs_3 : List UInt8 := [16, 156, 21, 4, 100, 172, 28, 21, 5, 128, 61, 29, 21, 5, 184, 0, 133, 4, 100, 96, 62, 132, 4, 1]
abbrev dktX4_packs_3 : List UInt8 := dkwX4_packs_3 ++ dktX4_packs_4
def dkwX4_packs_2 : List UInt8 := [104, 21, 4, 96, 46, 54, 5, 42, 21, 5, 182, 1, 0, 153, 0, 10, 21, 5, 28, 126, 153, 0, 9]
abbrev dktX4_packs_2 : List UInt8 := dkwX4_packs_2 ++ dktX4_packs_3
def dkwX4_packs_1 : List UInt8 := [61, 3, 62, 3, 54, 4, 21, 4, 42, 180, 0, 100, 27, 46, 162, 0, 60, 42, 180, 0, 103, 16, 60, 27]
abbrev dktX4_packs_1 : List UInt8 := dkwX4_packs_1 ++ dktX4_packs_2
def dkwX4_packs_0 : List UInt8 := [27, 184, 0, 253, 154, 0, 6, 16, 254, 172, 42, 180, 0, 97, 27, 46, 2, 160, 0, 6, 16, 245, 172, 3]
abbrev dktX4_packs_0 : List UInt8 := dkwX4_packs_0 ++ dktX4_packs_1
theorem dksX4_packs_0 : cX4_packs.data.toList.drop 0 = dktX4_packs_0 := by decide +kernel
theorem dksX4_packs_1 : cX4_packs.data.toList.drop 24 = dktX4_packs_1 := dk_seg dksX4_packs_0 24 rfl rfl
theorem dksX4_packs_2 : cX4_packs.data.toList.drop 48 = dktX4_packs_2 := dk_seg dksX4_packs_1 24 rfl rfl
theorem dksX4_packs_3 : cX4_packs.data.toList.drop 71 = dktX4_packs_3 := dk_seg dksX4_packs_2 23 rfl rfl
theorem dksX4_packs_4 : cX4_packs.data.toList.drop 95 = dktX4_packs_4 := dk_seg dksX4_packs_3 24 rfl rfl
theorem dX4_packs_0 : decode cX4_packs 0 = .ok (.iload_n 1, 1) := dk_27 (dk_at dksX4_packs_0 0 rfl rfl)
theorem dX4_packs_1 : decode cX4_packs 1 = .ok (.invokestatic 253, 3) := dk_184 0 253 (dk_at dksX4_packs_0 1 rfl rfl)
theorem dX4_packs_4 : decode cX4_packs 4 = .ok (.ifCond .ne 6, 3) := dk_154 0 6 (dk_at dksX4_packs_0 4 rfl rfl)
theorem dX4_packs_7 : decode cX4_packs 7 = .ok (.bipush (-2), 2) := dk_16 254 (dk_at dksX4_packs_0 7 rfl rfl)
theorem dX4_packs_9 : decode cX4_packs 9 = .ok (.ireturn, 1) := dk_172 (dk_at dksX4_packs_0 9 rfl rfl)
theorem dX4_packs_10 : decode cX4_packs 10 = .ok (.aload_n 0, 1) := dk_42 (dk_at dksX4_packs_0 10 rfl rfl)
theorem dX4_packs_11 : decode cX4_packs 11 = .ok (.getfield 97, 3) := dk_180 0 97 (dk_at dksX4_packs_0 11 rfl rfl)
theorem dX4_packs_14 : decode cX4_packs 14 = .ok (.iload_n 1, 1) := dk_27 (dk_at dksX4_packs_0 14 rfl rfl)
theorem dX4_packs_15 : decode cX4_packs 15 = .ok (.iaload, 1) := dk_46 (dk_at dksX4_packs_0 15 rfl rfl)
theorem dX4_packs_16 : decode cX4_packs 16 = .ok (.iconst (-1), 1) := dk_2 (dk_at dksX4_packs_0 16 rfl rfl)
theorem dX4_packs_17 : decode cX4_packs 17 = .ok (.if_icmp .ne 6, 3) := dk_160 0 6 (dk_at dksX4_packs_0 17 rfl rfl)
theorem dX4_packs_20 : decode cX4_packs 20 = .ok (.bipush (-11), 2) := dk_16 245 (dk_at dksX4_packs_0 20 rfl rfl)
theorem dX4_packs_22 : decode cX4_packs 22 = .ok (.ireturn, 1) := dk_172 (dk_at dksX4_packs_0 22 rfl rfl)
theorem dX4_packs_23 : decode cX4_packs 23 = .ok (.iconst 0, 1) := dk_3 (dk_at dksX4_packs_0 23 rfl rfl)
theorem dX4_packs_24 : decode cX4_packs 24 = .ok (.istore_n 2, 1) := dk_61 (dk_at dksX4_packs_1 0 rfl rfl)
theorem dX4_packs_25 : decode cX4_packs 25 = .ok (.iconst 0, 1) := dk_3 (dk_at dksX4_packs_1 1 rfl rfl)
theorem dX4_packs_26 : decode cX4_packs 26 = .ok (.istore_n 3, 1) := dk_62 (dk_at dksX4_packs_1 2 rfl rfl)
theorem dX4_packs_27 : decode cX4_packs 27 = .ok (.iconst 0, 1) := dk_3 (dk_at dksX4_packs_1 3 rfl rfl)
theorem dX4_packs_28 : decode cX4_packs 28 = .ok (.istore 4, 2) := dk_54 4 (dk_at dksX4_packs_1 4 rfl rfl)
theorem dX4_packs_30 : decode cX4_packs 30 = .ok (.iload 4, 2) := dk_21 4 (dk_at dksX4_packs_1 6 rfl rfl)
theorem dX4_packs_32 : decode cX4_packs 32 = .ok (.aload_n 0, 1) := dk_42 (dk_at dksX4_packs_1 8 rfl rfl)
theorem dX4_packs_33 : decode cX4_packs 33 = .ok (.getfield 100, 3) := dk_180 0 100 (dk_at dksX4_packs_1 9 rfl rfl)
theorem dX4_packs_36 : decode cX4_packs 36 = .ok (.iload_n 1, 1) := dk_27 (dk_at dksX4_packs_1 12 rfl rfl)
theorem dX4_packs_37 : decode cX4_packs 37 = .ok (.iaload, 1) := dk_46 (dk_at dksX4_packs_1 13 rfl rfl)
theorem dX4_packs_38 : decode cX4_packs 38 = .ok (.if_icmp .ge 60, 3) := dk_162 0 60 (dk_at dksX4_packs_1 14 rfl rfl)
theorem dX4_packs_41 : decode cX4_packs 41 = .ok (.aload_n 0, 1) := dk_42 (dk_at dksX4_packs_1 17 rfl rfl)
theorem dX4_packs_42 : decode cX4_packs 42 = .ok (.getfield 103, 3) := dk_180 0 103 (dk_at dksX4_packs_1 18 rfl rfl)
theorem dX4_packs_45 : decode cX4_packs 45 = .ok (.bipush 60, 2) := dk_16 60 (dk_at dksX4_packs_1 21 rfl rfl)
theorem dX4_packs_47 : decode cX4_packs 47 = .ok (.iload_n 1, 1) := dk_27 (dk_at dksX4_packs_1 23 rfl rfl)
theorem dX4_packs_48 : decode cX4_packs 48 = .ok (.imul, 1) := dk_104 (dk_at dksX4_packs_2 0 rfl rfl)
theorem dX4_packs_49 : decode cX4_packs 49 = .ok (.iload 4, 2) := dk_21 4 (dk_at dksX4_packs_2 1 rfl rfl)
theorem dX4_packs_51 : decode cX4_packs 51 = .ok (.iadd, 1) := dk_96 (dk_at dksX4_packs_2 3 rfl rfl)
theorem dX4_packs_52 : decode cX4_packs 52 = .ok (.iaload, 1) := dk_46 (dk_at dksX4_packs_2 4 rfl rfl)
theorem dX4_packs_53 : decode cX4_packs 53 = .ok (.istore 5, 2) := dk_54 5 (dk_at dksX4_packs_2 5 rfl rfl)
theorem dX4_packs_55 : decode cX4_packs 55 = .ok (.aload_n 0, 1) := dk_42 (dk_at dksX4_packs_2 7 rfl rfl)
theorem dX4_packs_56 : decode cX4_packs 56 = .ok (.iload 5, 2) := dk_21 5 (dk_at dksX4_packs_2 8 rfl rfl)
theorem dX4_packs_58 : decode cX4_packs 58 = .ok (.invokevirtual 256, 3) := dk_182 1 0 (dk_at dksX4_packs_2 10 rfl rfl)
theorem dX4_packs_61 : decode cX4_packs 61 = .ok (.ifCond .eq 10, 3) := dk_153 0 10 (dk_at dksX4_packs_2 13 rfl rfl)
theorem dX4_packs_64 : decode cX4_packs 64 = .ok (.iload 5, 2) := dk_21 5 (dk_at dksX4_packs_2 16 rfl rfl)
theorem dX4_packs_66 : decode cX4_packs 66 = .ok (.iload_n 2, 1) := dk_28 (dk_at dksX4_packs_2 18 rfl rfl)
theorem dX4_packs_67 : decode cX4_packs 67 = .ok (.iand, 1) := dk_126 (dk_at dksX4_packs_2 19 rfl rfl)
theorem dX4_packs_68 : decode cX4_packs 68 = .ok (.ifCond .eq 9, 3) := dk_153 0 9 (dk_at dksX4_packs_2 20 rfl rfl)
theorem dX4_packs_71 : decode cX4_packs 71 = .ok (.bipush (-100), 2) := dk_16 156 (dk_at dksX4_packs_3 0 rfl rfl)
theorem dX4_packs_73 : decode cX4_packs 73 = .ok (.iload 4, 2) := dk_21 4 (dk_at dksX4_packs_3 2 rfl rfl)
theorem dX4_packs_75 : decode cX4_packs 75 = .ok (.isub, 1) := dk_100 (dk_at dksX4_packs_3 4 rfl rfl)
theorem dX4_packs_76 : decode cX4_packs 76 = .ok (.ireturn, 1) := dk_172 (dk_at dksX4_packs_3 5 rfl rfl)
theorem dX4_packs_77 : decode cX4_packs 77 = .ok (.iload_n 2, 1) := dk_28 (dk_at dksX4_packs_3 6 rfl rfl)
theorem dX4_packs_78 : decode cX4_packs 78 = .ok (.iload 5, 2) := dk_21 5 (dk_at dksX4_packs_3 7 rfl rfl)
theorem dX4_packs_80 : decode cX4_packs 80 = .ok (.ior, 1) := dk_128 (dk_at dksX4_packs_3 9 rfl rfl)
theorem dX4_packs_81 : decode cX4_packs 81 = .ok (.istore_n 2, 1) := dk_61 (dk_at dksX4_packs_3 10 rfl rfl)
theorem dX4_packs_82 : decode cX4_packs 82 = .ok (.iload_n 3, 1) := dk_29 (dk_at dksX4_packs_3 11 rfl rfl)
theorem dX4_packs_83 : decode cX4_packs 83 = .ok (.iload 5, 2) := dk_21 5 (dk_at dksX4_packs_3 12 rfl rfl)
theorem dX4_packs_85 : decode cX4_packs 85 = .ok (.invokestatic 133, 3) := dk_184 0 133 (dk_at dksX4_packs_3 14 rfl rfl)
theorem dX4_packs_88 : decode cX4_packs 88 = .ok (.iconst 1, 1) := dk_4 (dk_at dksX4_packs_3 17 rfl rfl)
theorem dX4_packs_89 : decode cX4_packs 89 = .ok (.isub, 1) := dk_100 (dk_at dksX4_packs_3 18 rfl rfl)
theorem dX4_packs_90 : decode cX4_packs 90 = .ok (.iadd, 1) := dk_96 (dk_at dksX4_packs_3 19 rfl rfl)
theorem dX4_packs_91 : decode cX4_packs 91 = .ok (.istore_n 3, 1) := dk_62 (dk_at dksX4_packs_3 20 rfl rfl)
theorem dX4_packs_92 : decode cX4_packs 92 = .ok (.iinc 4 1, 3) := dk_132 4 1 (dk_at dksX4_packs_3 21 rfl rfl)
theorem dX4_packs_95 : decode cX4_packs 95 = .ok (.goto (-65), 3) := dk_167 255 191 (dk_at dksX4_packs_4 0 rfl rfl)
theorem dX4_packs_98 : decode cX4_packs 98 = .ok (.iload_n 3, 1) := dk_29 (dk_at dksX4_packs_4 3 rfl rfl)
theorem dX4_packs_99 : decode cX4_packs 99 = .ok (.ireturn, 1) := dk_172 (dk_at dksX4_packs_4 4 rfl rfl)
abbrev cX4_isSheet : ByteArray := prog_32_method_96_code
def yX4_isSheet : MethodName := ⟨RX4, "isSheet", "(I)Z"⟩
def dkwX4_isSheet_0 : List UInt8 := [26, 3, 6, 184, 0, 125, 172]
abbrev dktX4_isSheet_0 : List UInt8 := dkwX4_isSheet_0 ++ []
theorem dksX4_isSheet_0 : cX4_isSheet.data.toList.drop 0 = dktX4_isSheet_0 := by decide +kernel
theorem dX4_isSheet_0 : decode cX4_isSheet 0 = .ok (.iload_n 0, 1) := dk_26 (dk_at dksX4_isSheet_0 0 rfl rfl)
theorem dX4_isSheet_1 : decode cX4_isSheet 1 = .ok (.iconst 0, 1) := dk_3 (dk_at dksX4_isSheet_0 1 rfl rfl)
theorem dX4_isSheet_2 : decode cX4_isSheet 2 = .ok (.iconst 3, 1) := dk_6 (dk_at dksX4_isSheet_0 2 rfl rfl)
theorem dX4_isSheet_3 : decode cX4_isSheet 3 = .ok (.invokestatic 125, 3) := dk_184 0 125 (dk_at dksX4_isSheet_0 3 rfl rfl)
theorem dX4_isSheet_6 : decode cX4_isSheet 6 = .ok (.ireturn, 1) := dk_172 (dk_at dksX4_isSheet_0 6 rfl rfl)
abbrev cX4_isPacked : ByteArray := prog_32_method_56_code
def yX4_isPacked : MethodName := ⟨RX4, "isPacked", "(I)Z"⟩
def dkwX4_isPacked_3 : List UInt8 := [132, 3, 1, 167, 255, 211, 28, 172]
abbrev dktX4_isPacked_3 : List UInt8 := dkwX4_isPacked_3 ++ []
def dkwX4_isPacked_2 : List UInt8 := [27, 42, 180, 0, 20, 29, 46, 2, 130, 126, 4, 29, 120, 160, 0, 7, 4, 167, 0, 4, 3, 61]
abbrev dktX4_isPacked_2 : List UInt8 := dkwX4_isPacked_2 ++ dktX4_isPacked_3
def dkwX4_isPacked_1 : List UInt8 := [3, 61, 3, 62, 29, 42, 180, 0, 122, 162, 0, 43, 28, 153, 0, 39, 27, 29, 184, 0, 118, 153, 0, 19]
abbrev dktX4_isPacked_1 : List UInt8 := dkwX4_isPacked_1 ++ dktX4_isPacked_2
def dkwX4_isPacked_0 : List UInt8 := [42, 27, 182, 0, 171, 153, 0, 19, 27, 184, 0, 133, 5, 6, 184, 0, 125, 153, 0, 7, 4, 167, 0, 4]
abbrev dktX4_isPacked_0 : List UInt8 := dkwX4_isPacked_0 ++ dktX4_isPacked_1
theorem dksX4_isPacked_0 : cX4_isPacked.data.toList.drop 0 = dktX4_isPacked_0 := by decide +kernel
theorem dksX4_isPacked_1 : cX4_isPacked.data.toList.drop 24 = dktX4_isPacked_1 := dk_seg dksX4_isPacked_0 24 rfl rfl
theorem dksX4_isPacked_2 : cX4_isPacked.data.toList.drop 48 = dktX4_isPacked_2 := dk_seg dksX4_isPacked_1 24 rfl rfl
theorem dksX4_isPacked_3 : cX4_isPacked.data.toList.drop 70 = dktX4_isPacked_3 := dk_seg dksX4_isPacked_2 22 rfl rfl
theorem dX4_isPacked_0 : decode cX4_isPacked 0 = .ok (.aload_n 0, 1) := dk_42 (dk_at dksX4_isPacked_0 0 rfl rfl)
theorem dX4_isPacked_1 : decode cX4_isPacked 1 = .ok (.iload_n 1, 1) := dk_27 (dk_at dksX4_isPacked_0 1 rfl rfl)
theorem dX4_isPacked_2 : decode cX4_isPacked 2 = .ok (.invokevirtual 171, 3) := dk_182 0 171 (dk_at dksX4_isPacked_0 2 rfl rfl)
theorem dX4_isPacked_5 : decode cX4_isPacked 5 = .ok (.ifCond .eq 19, 3) := dk_153 0 19 (dk_at dksX4_isPacked_0 5 rfl rfl)
theorem dX4_isPacked_8 : decode cX4_isPacked 8 = .ok (.iload_n 1, 1) := dk_27 (dk_at dksX4_isPacked_0 8 rfl rfl)
theorem dX4_isPacked_9 : decode cX4_isPacked 9 = .ok (.invokestatic 133, 3) := dk_184 0 133 (dk_at dksX4_isPacked_0 9 rfl rfl)
theorem dX4_isPacked_12 : decode cX4_isPacked 12 = .ok (.iconst 2, 1) := dk_5 (dk_at dksX4_isPacked_0 12 rfl rfl)
theorem dX4_isPacked_13 : decode cX4_isPacked 13 = .ok (.iconst 3, 1) := dk_6 (dk_at dksX4_isPacked_0 13 rfl rfl)
theorem dX4_isPacked_14 : decode cX4_isPacked 14 = .ok (.invokestatic 125, 3) := dk_184 0 125 (dk_at dksX4_isPacked_0 14 rfl rfl)
theorem dX4_isPacked_17 : decode cX4_isPacked 17 = .ok (.ifCond .eq 7, 3) := dk_153 0 7 (dk_at dksX4_isPacked_0 17 rfl rfl)
theorem dX4_isPacked_20 : decode cX4_isPacked 20 = .ok (.iconst 1, 1) := dk_4 (dk_at dksX4_isPacked_0 20 rfl rfl)
theorem dX4_isPacked_21 : decode cX4_isPacked 21 = .ok (.goto 4, 3) := dk_167 0 4 (dk_at dksX4_isPacked_0 21 rfl rfl)
theorem dX4_isPacked_24 : decode cX4_isPacked 24 = .ok (.iconst 0, 1) := dk_3 (dk_at dksX4_isPacked_1 0 rfl rfl)
theorem dX4_isPacked_25 : decode cX4_isPacked 25 = .ok (.istore_n 2, 1) := dk_61 (dk_at dksX4_isPacked_1 1 rfl rfl)
theorem dX4_isPacked_26 : decode cX4_isPacked 26 = .ok (.iconst 0, 1) := dk_3 (dk_at dksX4_isPacked_1 2 rfl rfl)
theorem dX4_isPacked_27 : decode cX4_isPacked 27 = .ok (.istore_n 3, 1) := dk_62 (dk_at dksX4_isPacked_1 3 rfl rfl)
theorem dX4_isPacked_28 : decode cX4_isPacked 28 = .ok (.iload_n 3, 1) := dk_29 (dk_at dksX4_isPacked_1 4 rfl rfl)
theorem dX4_isPacked_29 : decode cX4_isPacked 29 = .ok (.aload_n 0, 1) := dk_42 (dk_at dksX4_isPacked_1 5 rfl rfl)
theorem dX4_isPacked_30 : decode cX4_isPacked 30 = .ok (.getfield 122, 3) := dk_180 0 122 (dk_at dksX4_isPacked_1 6 rfl rfl)
theorem dX4_isPacked_33 : decode cX4_isPacked 33 = .ok (.if_icmp .ge 43, 3) := dk_162 0 43 (dk_at dksX4_isPacked_1 9 rfl rfl)
theorem dX4_isPacked_36 : decode cX4_isPacked 36 = .ok (.iload_n 2, 1) := dk_28 (dk_at dksX4_isPacked_1 12 rfl rfl)
theorem dX4_isPacked_37 : decode cX4_isPacked 37 = .ok (.ifCond .eq 39, 3) := dk_153 0 39 (dk_at dksX4_isPacked_1 13 rfl rfl)
theorem dX4_isPacked_40 : decode cX4_isPacked 40 = .ok (.iload_n 1, 1) := dk_27 (dk_at dksX4_isPacked_1 16 rfl rfl)
theorem dX4_isPacked_41 : decode cX4_isPacked 41 = .ok (.iload_n 3, 1) := dk_29 (dk_at dksX4_isPacked_1 17 rfl rfl)
theorem dX4_isPacked_42 : decode cX4_isPacked 42 = .ok (.invokestatic 118, 3) := dk_184 0 118 (dk_at dksX4_isPacked_1 18 rfl rfl)
theorem dX4_isPacked_45 : decode cX4_isPacked 45 = .ok (.ifCond .eq 19, 3) := dk_153 0 19 (dk_at dksX4_isPacked_1 21 rfl rfl)
theorem dX4_isPacked_48 : decode cX4_isPacked 48 = .ok (.iload_n 1, 1) := dk_27 (dk_at dksX4_isPacked_2 0 rfl rfl)
theorem dX4_isPacked_49 : decode cX4_isPacked 49 = .ok (.aload_n 0, 1) := dk_42 (dk_at dksX4_isPacked_2 1 rfl rfl)
theorem dX4_isPacked_50 : decode cX4_isPacked 50 = .ok (.getfield 20, 3) := dk_180 0 20 (dk_at dksX4_isPacked_2 2 rfl rfl)
theorem dX4_isPacked_53 : decode cX4_isPacked 53 = .ok (.iload_n 3, 1) := dk_29 (dk_at dksX4_isPacked_2 5 rfl rfl)
theorem dX4_isPacked_54 : decode cX4_isPacked 54 = .ok (.iaload, 1) := dk_46 (dk_at dksX4_isPacked_2 6 rfl rfl)
theorem dX4_isPacked_55 : decode cX4_isPacked 55 = .ok (.iconst (-1), 1) := dk_2 (dk_at dksX4_isPacked_2 7 rfl rfl)
theorem dX4_isPacked_56 : decode cX4_isPacked 56 = .ok (.ixor, 1) := dk_130 (dk_at dksX4_isPacked_2 8 rfl rfl)
theorem dX4_isPacked_57 : decode cX4_isPacked 57 = .ok (.iand, 1) := dk_126 (dk_at dksX4_isPacked_2 9 rfl rfl)
theorem dX4_isPacked_58 : decode cX4_isPacked 58 = .ok (.iconst 1, 1) := dk_4 (dk_at dksX4_isPacked_2 10 rfl rfl)
theorem dX4_isPacked_59 : decode cX4_isPacked 59 = .ok (.iload_n 3, 1) := dk_29 (dk_at dksX4_isPacked_2 11 rfl rfl)
theorem dX4_isPacked_60 : decode cX4_isPacked 60 = .ok (.ishl, 1) := dk_120 (dk_at dksX4_isPacked_2 12 rfl rfl)
theorem dX4_isPacked_61 : decode cX4_isPacked 61 = .ok (.if_icmp .ne 7, 3) := dk_160 0 7 (dk_at dksX4_isPacked_2 13 rfl rfl)
theorem dX4_isPacked_64 : decode cX4_isPacked 64 = .ok (.iconst 1, 1) := dk_4 (dk_at dksX4_isPacked_2 16 rfl rfl)
theorem dX4_isPacked_65 : decode cX4_isPacked 65 = .ok (.goto 4, 3) := dk_167 0 4 (dk_at dksX4_isPacked_2 17 rfl rfl)
theorem dX4_isPacked_68 : decode cX4_isPacked 68 = .ok (.iconst 0, 1) := dk_3 (dk_at dksX4_isPacked_2 20 rfl rfl)
theorem dX4_isPacked_69 : decode cX4_isPacked 69 = .ok (.istore_n 2, 1) := dk_61 (dk_at dksX4_isPacked_2 21 rfl rfl)
theorem dX4_isPacked_70 : decode cX4_isPacked 70 = .ok (.iinc 3 1, 3) := dk_132 3 1 (dk_at dksX4_isPacked_3 0 rfl rfl)
theorem dX4_isPacked_73 : decode cX4_isPacked 73 = .ok (.goto (-45), 3) := dk_167 255 211 (dk_at dksX4_isPacked_3 3 rfl rfl)
theorem dX4_isPacked_76 : decode cX4_isPacked 76 = .ok (.iload_n 2, 1) := dk_28 (dk_at dksX4_isPacked_3 6 rfl rfl)
theorem dX4_isPacked_77 : decode cX4_isPacked 77 = .ok (.ireturn, 1) := dk_172 (dk_at dksX4_isPacked_3 7 rfl rfl)
abbrev cX4_search : ByteArray := prog_32_method_61_code
def yX4_search : MethodName := ⟨RX4, "search", "(II)I"⟩
def dkwX4_search_4 : List UInt8 := [180, 1, 6, 172]
abbrev dktX4_search_4 : List UInt8 := dkwX4_search_4 ++ []
def dkwX4_search_3 : List UInt8 := [29, 2, 160, 0, 7, 3, 167, 0, 4, 4, 172, 42, 180, 1, 3, 172, 29, 172, 42, 180, 1, 15, 172, 42]
abbrev dktX4_search_3 : List UInt8 := dkwX4_search_3 ++ dktX4_search_4
def dkwX4_search_2 : List UInt8 := [170, 0, 0, 0, 0, 53, 0, 0, 0, 0, 0, 0, 0, 3, 0, 0, 0, 30, 0, 0, 0, 41, 0, 0, 0, 46, 0, 0, 0, 48]
abbrev dktX4_search_2 : List UInt8 := dkwX4_search_2 ++ dktX4_search_3
def dkwX4_search_1 : List UInt8 := [2, 182, 1, 21, 62, 28]
abbrev dktX4_search_1 : List UInt8 := dkwX4_search_1 ++ dktX4_search_2
def dkwX4_search_0 : List UInt8 := [27, 3, 16, 12, 184, 0, 125, 153, 0, 12, 28, 3, 7, 184, 0, 125, 154, 0, 6, 16, 254, 172, 42, 27]
abbrev dktX4_search_0 : List UInt8 := dkwX4_search_0 ++ dktX4_search_1
theorem dksX4_search_0 : cX4_search.data.toList.drop 0 = dktX4_search_0 := by decide +kernel
theorem dksX4_search_1 : cX4_search.data.toList.drop 24 = dktX4_search_1 := dk_seg dksX4_search_0 24 rfl rfl
theorem dksX4_search_2 : cX4_search.data.toList.drop 30 = dktX4_search_2 := dk_seg dksX4_search_1 6 rfl rfl
theorem dksX4_search_3 : cX4_search.data.toList.drop 60 = dktX4_search_3 := dk_seg dksX4_search_2 30 rfl rfl
theorem dksX4_search_4 : cX4_search.data.toList.drop 84 = dktX4_search_4 := dk_seg dksX4_search_3 24 rfl rfl
theorem dX4_search_0 : decode cX4_search 0 = .ok (.iload_n 1, 1) := dk_27 (dk_at dksX4_search_0 0 rfl rfl)
theorem dX4_search_1 : decode cX4_search 1 = .ok (.iconst 0, 1) := dk_3 (dk_at dksX4_search_0 1 rfl rfl)
theorem dX4_search_2 : decode cX4_search 2 = .ok (.bipush 12, 2) := dk_16 12 (dk_at dksX4_search_0 2 rfl rfl)
theorem dX4_search_4 : decode cX4_search 4 = .ok (.invokestatic 125, 3) := dk_184 0 125 (dk_at dksX4_search_0 4 rfl rfl)
theorem dX4_search_7 : decode cX4_search 7 = .ok (.ifCond .eq 12, 3) := dk_153 0 12 (dk_at dksX4_search_0 7 rfl rfl)
theorem dX4_search_10 : decode cX4_search 10 = .ok (.iload_n 2, 1) := dk_28 (dk_at dksX4_search_0 10 rfl rfl)
theorem dX4_search_11 : decode cX4_search 11 = .ok (.iconst 0, 1) := dk_3 (dk_at dksX4_search_0 11 rfl rfl)
theorem dX4_search_12 : decode cX4_search 12 = .ok (.iconst 4, 1) := dk_7 (dk_at dksX4_search_0 12 rfl rfl)
theorem dX4_search_13 : decode cX4_search 13 = .ok (.invokestatic 125, 3) := dk_184 0 125 (dk_at dksX4_search_0 13 rfl rfl)
theorem dX4_search_16 : decode cX4_search 16 = .ok (.ifCond .ne 6, 3) := dk_154 0 6 (dk_at dksX4_search_0 16 rfl rfl)
theorem dX4_search_19 : decode cX4_search 19 = .ok (.bipush (-2), 2) := dk_16 254 (dk_at dksX4_search_0 19 rfl rfl)
theorem dX4_search_21 : decode cX4_search 21 = .ok (.ireturn, 1) := dk_172 (dk_at dksX4_search_0 21 rfl rfl)
theorem dX4_search_22 : decode cX4_search 22 = .ok (.aload_n 0, 1) := dk_42 (dk_at dksX4_search_0 22 rfl rfl)
theorem dX4_search_23 : decode cX4_search 23 = .ok (.iload_n 1, 1) := dk_27 (dk_at dksX4_search_0 23 rfl rfl)
theorem dX4_search_24 : decode cX4_search 24 = .ok (.iconst (-1), 1) := dk_2 (dk_at dksX4_search_1 0 rfl rfl)
theorem dX4_search_25 : decode cX4_search 25 = .ok (.invokevirtual 277, 3) := dk_182 1 21 (dk_at dksX4_search_1 1 rfl rfl)
theorem dX4_search_28 : decode cX4_search 28 = .ok (.istore_n 3, 1) := dk_62 (dk_at dksX4_search_1 4 rfl rfl)
theorem dX4_search_29 : decode cX4_search 29 = .ok (.iload_n 2, 1) := dk_28 (dk_at dksX4_search_1 5 rfl rfl)
theorem dX4_search_30 : decode cX4_search 30 = .ok (.tableswitch 53 0 3 #[30, 41, 46, 48], 30) := by decide +kernel
theorem dX4_search_60 : decode cX4_search 60 = .ok (.iload_n 3, 1) := dk_29 (dk_at dksX4_search_3 0 rfl rfl)
theorem dX4_search_61 : decode cX4_search 61 = .ok (.iconst (-1), 1) := dk_2 (dk_at dksX4_search_3 1 rfl rfl)
theorem dX4_search_62 : decode cX4_search 62 = .ok (.if_icmp .ne 7, 3) := dk_160 0 7 (dk_at dksX4_search_3 2 rfl rfl)
theorem dX4_search_65 : decode cX4_search 65 = .ok (.iconst 0, 1) := dk_3 (dk_at dksX4_search_3 5 rfl rfl)
theorem dX4_search_66 : decode cX4_search 66 = .ok (.goto 4, 3) := dk_167 0 4 (dk_at dksX4_search_3 6 rfl rfl)
theorem dX4_search_69 : decode cX4_search 69 = .ok (.iconst 1, 1) := dk_4 (dk_at dksX4_search_3 9 rfl rfl)
theorem dX4_search_70 : decode cX4_search 70 = .ok (.ireturn, 1) := dk_172 (dk_at dksX4_search_3 10 rfl rfl)
theorem dX4_search_71 : decode cX4_search 71 = .ok (.aload_n 0, 1) := dk_42 (dk_at dksX4_search_3 11 rfl rfl)
theorem dX4_search_72 : decode cX4_search 72 = .ok (.getfield 259, 3) := dk_180 1 3 (dk_at dksX4_search_3 12 rfl rfl)
theorem dX4_search_75 : decode cX4_search 75 = .ok (.ireturn, 1) := dk_172 (dk_at dksX4_search_3 15 rfl rfl)
theorem dX4_search_76 : decode cX4_search 76 = .ok (.iload_n 3, 1) := dk_29 (dk_at dksX4_search_3 16 rfl rfl)
theorem dX4_search_77 : decode cX4_search 77 = .ok (.ireturn, 1) := dk_172 (dk_at dksX4_search_3 17 rfl rfl)
theorem dX4_search_78 : decode cX4_search 78 = .ok (.aload_n 0, 1) := dk_42 (dk_at dksX4_search_3 18 rfl rfl)
theorem dX4_search_79 : decode cX4_search 79 = .ok (.getfield 271, 3) := dk_180 1 15 (dk_at dksX4_search_3 19 rfl rfl)
theorem dX4_search_82 : decode cX4_search 82 = .ok (.ireturn, 1) := dk_172 (dk_at dksX4_search_3 22 rfl rfl)
theorem dX4_search_83 : decode cX4_search 83 = .ok (.aload_n 0, 1) := dk_42 (dk_at dksX4_search_3 23 rfl rfl)
theorem dX4_search_84 : decode cX4_search 84 = .ok (.getfield 262, 3) := dk_180 1 6 (dk_at dksX4_search_4 0 rfl rfl)
theorem dX4_search_87 : decode cX4_search 87 = .ok (.ireturn, 1) := dk_172 (dk_at dksX4_search_4 3 rfl rfl)
abbrev cX4_searchFor : ByteArray := prog_32_method_60_code
def yX4_searchFor : MethodName := ⟨RX4, "searchFor", "(II)I"⟩
def dkwX4_searchFor_1 : List UInt8 := [182, 0, 129, 3, 27, 3, 182, 1, 18, 172]
abbrev dktX4_searchFor_1 : List UInt8 := dkwX4_searchFor_1 ++ []
def dkwX4_searchFor_0 : List UInt8 := [42, 3, 181, 1, 3, 42, 3, 181, 1, 15, 42, 3, 181, 1, 6, 42, 28, 181, 1, 12, 42, 42]
abbrev dktX4_searchFor_0 : List UInt8 := dkwX4_searchFor_0 ++ dktX4_searchFor_1
theorem dksX4_searchFor_0 : cX4_searchFor.data.toList.drop 0 = dktX4_searchFor_0 := by decide +kernel
theorem dksX4_searchFor_1 : cX4_searchFor.data.toList.drop 22 = dktX4_searchFor_1 := dk_seg dksX4_searchFor_0 22 rfl rfl
theorem dX4_searchFor_0 : decode cX4_searchFor 0 = .ok (.aload_n 0, 1) := dk_42 (dk_at dksX4_searchFor_0 0 rfl rfl)
theorem dX4_searchFor_1 : decode cX4_searchFor 1 = .ok (.iconst 0, 1) := dk_3 (dk_at dksX4_searchFor_0 1 rfl rfl)
theorem dX4_searchFor_2 : decode cX4_searchFor 2 = .ok (.putfield 259, 3) := dk_181 1 3 (dk_at dksX4_searchFor_0 2 rfl rfl)
theorem dX4_searchFor_5 : decode cX4_searchFor 5 = .ok (.aload_n 0, 1) := dk_42 (dk_at dksX4_searchFor_0 5 rfl rfl)
theorem dX4_searchFor_6 : decode cX4_searchFor 6 = .ok (.iconst 0, 1) := dk_3 (dk_at dksX4_searchFor_0 6 rfl rfl)
theorem dX4_searchFor_7 : decode cX4_searchFor 7 = .ok (.putfield 271, 3) := dk_181 1 15 (dk_at dksX4_searchFor_0 7 rfl rfl)
theorem dX4_searchFor_10 : decode cX4_searchFor 10 = .ok (.aload_n 0, 1) := dk_42 (dk_at dksX4_searchFor_0 10 rfl rfl)
theorem dX4_searchFor_11 : decode cX4_searchFor 11 = .ok (.iconst 0, 1) := dk_3 (dk_at dksX4_searchFor_0 11 rfl rfl)
theorem dX4_searchFor_12 : decode cX4_searchFor 12 = .ok (.putfield 262, 3) := dk_181 1 6 (dk_at dksX4_searchFor_0 12 rfl rfl)
theorem dX4_searchFor_15 : decode cX4_searchFor 15 = .ok (.aload_n 0, 1) := dk_42 (dk_at dksX4_searchFor_0 15 rfl rfl)
theorem dX4_searchFor_16 : decode cX4_searchFor 16 = .ok (.iload_n 2, 1) := dk_28 (dk_at dksX4_searchFor_0 16 rfl rfl)
theorem dX4_searchFor_17 : decode cX4_searchFor 17 = .ok (.putfield 268, 3) := dk_181 1 12 (dk_at dksX4_searchFor_0 17 rfl rfl)
theorem dX4_searchFor_20 : decode cX4_searchFor 20 = .ok (.aload_n 0, 1) := dk_42 (dk_at dksX4_searchFor_0 20 rfl rfl)
theorem dX4_searchFor_21 : decode cX4_searchFor 21 = .ok (.aload_n 0, 1) := dk_42 (dk_at dksX4_searchFor_0 21 rfl rfl)
theorem dX4_searchFor_22 : decode cX4_searchFor 22 = .ok (.invokevirtual 129, 3) := dk_182 0 129 (dk_at dksX4_searchFor_1 0 rfl rfl)
theorem dX4_searchFor_25 : decode cX4_searchFor 25 = .ok (.iconst 0, 1) := dk_3 (dk_at dksX4_searchFor_1 3 rfl rfl)
theorem dX4_searchFor_26 : decode cX4_searchFor 26 = .ok (.iload_n 1, 1) := dk_27 (dk_at dksX4_searchFor_1 4 rfl rfl)
theorem dX4_searchFor_27 : decode cX4_searchFor 27 = .ok (.iconst 0, 1) := dk_3 (dk_at dksX4_searchFor_1 5 rfl rfl)
theorem dX4_searchFor_28 : decode cX4_searchFor 28 = .ok (.invokevirtual 274, 3) := dk_182 1 18 (dk_at dksX4_searchFor_1 6 rfl rfl)
theorem dX4_searchFor_31 : decode cX4_searchFor 31 = .ok (.ireturn, 1) := dk_172 (dk_at dksX4_searchFor_1 9 rfl rfl)
abbrev cX4_searches : ByteArray := prog_32_method_59_code
def yX4_searches : MethodName := ⟨RX4, "searches", "(IIII)I"⟩
def dkwX4_searches_10 : List UInt8 := [54, 10, 21, 10, 2, 159, 0, 6, 21, 10, 172, 132, 8, 1, 167, 255, 179, 2, 172]
abbrev dktX4_searches_10 : List UInt8 := dkwX4_searches_10 ++ []
def dkwX4_searches_9 : List UInt8 := [120, 128, 2, 130, 126, 28, 21, 9, 128, 29, 21, 9, 184, 0, 133, 100, 21, 4, 4, 96, 182, 1, 18]
abbrev dktX4_searches_9 : List UInt8 := dkwX4_searches_9 ++ dktX4_searches_10
def dkwX4_searches_8 : List UInt8 := [21, 7, 120, 167, 0, 12, 42, 180, 0, 20, 21, 7, 46, 27, 126, 54, 9, 42, 27, 21, 9, 4, 21, 7]
abbrev dktX4_searches_8 : List UInt8 := dkwX4_searches_8 ++ dktX4_searches_9
def dkwX4_searches_7 : List UInt8 := [167, 0, 4, 28, 172, 3, 54, 8, 21, 8, 5, 162, 0, 77, 21, 8, 21, 4, 5, 112, 160, 0, 10, 4]
abbrev dktX4_searches_7 : List UInt8 := dkwX4_searches_7 ++ dktX4_searches_8
def dkwX4_searches_6 : List UInt8 := [42, 89, 180, 1, 15, 4, 96, 181, 1, 15, 21, 7, 2, 160, 0, 14, 21, 6, 153, 0, 7, 2]
abbrev dktX4_searches_6 : List UInt8 := dkwX4_searches_6 ++ dktX4_searches_7
def dkwX4_searches_5 : List UInt8 := [79, 42, 180, 0, 41, 6, 29, 16, 20, 96, 79, 42, 180, 0, 41, 7, 21, 4, 79, 21, 6, 153, 0, 13]
abbrev dktX4_searches_5 : List UInt8 := dkwX4_searches_5 ++ dktX4_searches_6
def dkwX4_searches_4 : List UInt8 := [160, 0, 43, 42, 180, 0, 41, 3, 21, 7, 79, 42, 180, 0, 41, 4, 27, 79, 42, 180, 0, 41, 5, 28]
abbrev dktX4_searches_4 : List UInt8 := dkwX4_searches_4 ++ dktX4_searches_5
def dkwX4_searches_3 : List UInt8 := [54, 7, 21, 5, 16, 60, 162, 0, 12, 42, 180, 0, 44, 21, 5, 21, 7, 79, 21, 5, 42, 180, 1, 12]
abbrev dktX4_searches_3 : List UInt8 := dkwX4_searches_3 ++ dktX4_searches_4
def dkwX4_searches_2 : List UInt8 := [164, 0, 7, 4, 167, 0, 4, 3, 54, 6, 21, 6, 153, 0, 7, 2, 167, 0, 8, 42, 27, 182, 1, 9]
abbrev dktX4_searches_2 : List UInt8 := dkwX4_searches_2 ++ dktX4_searches_3
def dkwX4_searches_1 : List UInt8 := [164, 0, 8, 21, 4, 167, 0, 7, 42, 180, 1, 6, 181, 1, 6, 42, 27, 182, 0, 203, 5, 29, 104]
abbrev dktX4_searches_1 : List UInt8 := dkwX4_searches_1 ++ dktX4_searches_2
def dkwX4_searches_0 : List UInt8 := [42, 180, 1, 3, 54, 5, 42, 89, 180, 1, 3, 4, 96, 181, 1, 3, 42, 21, 4, 42, 180, 1, 6]
abbrev dktX4_searches_0 : List UInt8 := dkwX4_searches_0 ++ dktX4_searches_1
theorem dksX4_searches_0 : cX4_searches.data.toList.drop 0 = dktX4_searches_0 := by decide +kernel
theorem dksX4_searches_1 : cX4_searches.data.toList.drop 23 = dktX4_searches_1 := dk_seg dksX4_searches_0 23 rfl rfl
theorem dksX4_searches_2 : cX4_searches.data.toList.drop 46 = dktX4_searches_2 := dk_seg dksX4_searches_1 23 rfl rfl
theorem dksX4_searches_3 : cX4_searches.data.toList.drop 70 = dktX4_searches_3 := dk_seg dksX4_searches_2 24 rfl rfl
theorem dksX4_searches_4 : cX4_searches.data.toList.drop 94 = dktX4_searches_4 := dk_seg dksX4_searches_3 24 rfl rfl
theorem dksX4_searches_5 : cX4_searches.data.toList.drop 118 = dktX4_searches_5 := dk_seg dksX4_searches_4 24 rfl rfl
theorem dksX4_searches_6 : cX4_searches.data.toList.drop 142 = dktX4_searches_6 := dk_seg dksX4_searches_5 24 rfl rfl
theorem dksX4_searches_7 : cX4_searches.data.toList.drop 164 = dktX4_searches_7 := dk_seg dksX4_searches_6 22 rfl rfl
theorem dksX4_searches_8 : cX4_searches.data.toList.drop 188 = dktX4_searches_8 := dk_seg dksX4_searches_7 24 rfl rfl
theorem dksX4_searches_9 : cX4_searches.data.toList.drop 212 = dktX4_searches_9 := dk_seg dksX4_searches_8 24 rfl rfl
theorem dksX4_searches_10 : cX4_searches.data.toList.drop 235 = dktX4_searches_10 := dk_seg dksX4_searches_9 23 rfl rfl
theorem dX4_searches_0 : decode cX4_searches 0 = .ok (.aload_n 0, 1) := dk_42 (dk_at dksX4_searches_0 0 rfl rfl)
theorem dX4_searches_1 : decode cX4_searches 1 = .ok (.getfield 259, 3) := dk_180 1 3 (dk_at dksX4_searches_0 1 rfl rfl)
theorem dX4_searches_4 : decode cX4_searches 4 = .ok (.istore 5, 2) := dk_54 5 (dk_at dksX4_searches_0 4 rfl rfl)
theorem dX4_searches_6 : decode cX4_searches 6 = .ok (.aload_n 0, 1) := dk_42 (dk_at dksX4_searches_0 6 rfl rfl)
theorem dX4_searches_7 : decode cX4_searches 7 = .ok (.dup, 1) := dk_89 (dk_at dksX4_searches_0 7 rfl rfl)
theorem dX4_searches_8 : decode cX4_searches 8 = .ok (.getfield 259, 3) := dk_180 1 3 (dk_at dksX4_searches_0 8 rfl rfl)
theorem dX4_searches_11 : decode cX4_searches 11 = .ok (.iconst 1, 1) := dk_4 (dk_at dksX4_searches_0 11 rfl rfl)
theorem dX4_searches_12 : decode cX4_searches 12 = .ok (.iadd, 1) := dk_96 (dk_at dksX4_searches_0 12 rfl rfl)
theorem dX4_searches_13 : decode cX4_searches 13 = .ok (.putfield 259, 3) := dk_181 1 3 (dk_at dksX4_searches_0 13 rfl rfl)
theorem dX4_searches_16 : decode cX4_searches 16 = .ok (.aload_n 0, 1) := dk_42 (dk_at dksX4_searches_0 16 rfl rfl)
theorem dX4_searches_17 : decode cX4_searches 17 = .ok (.iload 4, 2) := dk_21 4 (dk_at dksX4_searches_0 17 rfl rfl)
theorem dX4_searches_19 : decode cX4_searches 19 = .ok (.aload_n 0, 1) := dk_42 (dk_at dksX4_searches_0 19 rfl rfl)
theorem dX4_searches_20 : decode cX4_searches 20 = .ok (.getfield 262, 3) := dk_180 1 6 (dk_at dksX4_searches_0 20 rfl rfl)
theorem dX4_searches_23 : decode cX4_searches 23 = .ok (.if_icmp .le 8, 3) := dk_164 0 8 (dk_at dksX4_searches_1 0 rfl rfl)
theorem dX4_searches_26 : decode cX4_searches 26 = .ok (.iload 4, 2) := dk_21 4 (dk_at dksX4_searches_1 3 rfl rfl)
theorem dX4_searches_28 : decode cX4_searches 28 = .ok (.goto 7, 3) := dk_167 0 7 (dk_at dksX4_searches_1 5 rfl rfl)
theorem dX4_searches_31 : decode cX4_searches 31 = .ok (.aload_n 0, 1) := dk_42 (dk_at dksX4_searches_1 8 rfl rfl)
theorem dX4_searches_32 : decode cX4_searches 32 = .ok (.getfield 262, 3) := dk_180 1 6 (dk_at dksX4_searches_1 9 rfl rfl)
theorem dX4_searches_35 : decode cX4_searches 35 = .ok (.putfield 262, 3) := dk_181 1 6 (dk_at dksX4_searches_1 12 rfl rfl)
theorem dX4_searches_38 : decode cX4_searches 38 = .ok (.aload_n 0, 1) := dk_42 (dk_at dksX4_searches_1 15 rfl rfl)
theorem dX4_searches_39 : decode cX4_searches 39 = .ok (.iload_n 1, 1) := dk_27 (dk_at dksX4_searches_1 16 rfl rfl)
theorem dX4_searches_40 : decode cX4_searches 40 = .ok (.invokevirtual 203, 3) := dk_182 0 203 (dk_at dksX4_searches_1 17 rfl rfl)
theorem dX4_searches_43 : decode cX4_searches 43 = .ok (.iconst 2, 1) := dk_5 (dk_at dksX4_searches_1 20 rfl rfl)
theorem dX4_searches_44 : decode cX4_searches 44 = .ok (.iload_n 3, 1) := dk_29 (dk_at dksX4_searches_1 21 rfl rfl)
theorem dX4_searches_45 : decode cX4_searches 45 = .ok (.imul, 1) := dk_104 (dk_at dksX4_searches_1 22 rfl rfl)
theorem dX4_searches_46 : decode cX4_searches 46 = .ok (.if_icmp .le 7, 3) := dk_164 0 7 (dk_at dksX4_searches_2 0 rfl rfl)
theorem dX4_searches_49 : decode cX4_searches 49 = .ok (.iconst 1, 1) := dk_4 (dk_at dksX4_searches_2 3 rfl rfl)
theorem dX4_searches_50 : decode cX4_searches 50 = .ok (.goto 4, 3) := dk_167 0 4 (dk_at dksX4_searches_2 4 rfl rfl)
theorem dX4_searches_53 : decode cX4_searches 53 = .ok (.iconst 0, 1) := dk_3 (dk_at dksX4_searches_2 7 rfl rfl)
theorem dX4_searches_54 : decode cX4_searches 54 = .ok (.istore 6, 2) := dk_54 6 (dk_at dksX4_searches_2 8 rfl rfl)
theorem dX4_searches_56 : decode cX4_searches 56 = .ok (.iload 6, 2) := dk_21 6 (dk_at dksX4_searches_2 10 rfl rfl)
theorem dX4_searches_58 : decode cX4_searches 58 = .ok (.ifCond .eq 7, 3) := dk_153 0 7 (dk_at dksX4_searches_2 12 rfl rfl)
theorem dX4_searches_61 : decode cX4_searches 61 = .ok (.iconst (-1), 1) := dk_2 (dk_at dksX4_searches_2 15 rfl rfl)
theorem dX4_searches_62 : decode cX4_searches 62 = .ok (.goto 8, 3) := dk_167 0 8 (dk_at dksX4_searches_2 16 rfl rfl)
theorem dX4_searches_65 : decode cX4_searches 65 = .ok (.aload_n 0, 1) := dk_42 (dk_at dksX4_searches_2 19 rfl rfl)
theorem dX4_searches_66 : decode cX4_searches 66 = .ok (.iload_n 1, 1) := dk_27 (dk_at dksX4_searches_2 20 rfl rfl)
theorem dX4_searches_67 : decode cX4_searches 67 = .ok (.invokevirtual 265, 3) := dk_182 1 9 (dk_at dksX4_searches_2 21 rfl rfl)
theorem dX4_searches_70 : decode cX4_searches 70 = .ok (.istore 7, 2) := dk_54 7 (dk_at dksX4_searches_3 0 rfl rfl)
theorem dX4_searches_72 : decode cX4_searches 72 = .ok (.iload 5, 2) := dk_21 5 (dk_at dksX4_searches_3 2 rfl rfl)
theorem dX4_searches_74 : decode cX4_searches 74 = .ok (.bipush 60, 2) := dk_16 60 (dk_at dksX4_searches_3 4 rfl rfl)
theorem dX4_searches_76 : decode cX4_searches 76 = .ok (.if_icmp .ge 12, 3) := dk_162 0 12 (dk_at dksX4_searches_3 6 rfl rfl)
theorem dX4_searches_79 : decode cX4_searches 79 = .ok (.aload_n 0, 1) := dk_42 (dk_at dksX4_searches_3 9 rfl rfl)
theorem dX4_searches_80 : decode cX4_searches 80 = .ok (.getfield 44, 3) := dk_180 0 44 (dk_at dksX4_searches_3 10 rfl rfl)
theorem dX4_searches_83 : decode cX4_searches 83 = .ok (.iload 5, 2) := dk_21 5 (dk_at dksX4_searches_3 13 rfl rfl)
theorem dX4_searches_85 : decode cX4_searches 85 = .ok (.iload 7, 2) := dk_21 7 (dk_at dksX4_searches_3 15 rfl rfl)
theorem dX4_searches_87 : decode cX4_searches 87 = .ok (.iastore, 1) := dk_79 (dk_at dksX4_searches_3 17 rfl rfl)
theorem dX4_searches_88 : decode cX4_searches 88 = .ok (.iload 5, 2) := dk_21 5 (dk_at dksX4_searches_3 18 rfl rfl)
theorem dX4_searches_90 : decode cX4_searches 90 = .ok (.aload_n 0, 1) := dk_42 (dk_at dksX4_searches_3 20 rfl rfl)
theorem dX4_searches_91 : decode cX4_searches 91 = .ok (.getfield 268, 3) := dk_180 1 12 (dk_at dksX4_searches_3 21 rfl rfl)
theorem dX4_searches_94 : decode cX4_searches 94 = .ok (.if_icmp .ne 43, 3) := dk_160 0 43 (dk_at dksX4_searches_4 0 rfl rfl)
theorem dX4_searches_97 : decode cX4_searches 97 = .ok (.aload_n 0, 1) := dk_42 (dk_at dksX4_searches_4 3 rfl rfl)
theorem dX4_searches_98 : decode cX4_searches 98 = .ok (.getfield 41, 3) := dk_180 0 41 (dk_at dksX4_searches_4 4 rfl rfl)
theorem dX4_searches_101 : decode cX4_searches 101 = .ok (.iconst 0, 1) := dk_3 (dk_at dksX4_searches_4 7 rfl rfl)
theorem dX4_searches_102 : decode cX4_searches 102 = .ok (.iload 7, 2) := dk_21 7 (dk_at dksX4_searches_4 8 rfl rfl)
theorem dX4_searches_104 : decode cX4_searches 104 = .ok (.iastore, 1) := dk_79 (dk_at dksX4_searches_4 10 rfl rfl)
theorem dX4_searches_105 : decode cX4_searches 105 = .ok (.aload_n 0, 1) := dk_42 (dk_at dksX4_searches_4 11 rfl rfl)
theorem dX4_searches_106 : decode cX4_searches 106 = .ok (.getfield 41, 3) := dk_180 0 41 (dk_at dksX4_searches_4 12 rfl rfl)
theorem dX4_searches_109 : decode cX4_searches 109 = .ok (.iconst 1, 1) := dk_4 (dk_at dksX4_searches_4 15 rfl rfl)
theorem dX4_searches_110 : decode cX4_searches 110 = .ok (.iload_n 1, 1) := dk_27 (dk_at dksX4_searches_4 16 rfl rfl)
theorem dX4_searches_111 : decode cX4_searches 111 = .ok (.iastore, 1) := dk_79 (dk_at dksX4_searches_4 17 rfl rfl)
theorem dX4_searches_112 : decode cX4_searches 112 = .ok (.aload_n 0, 1) := dk_42 (dk_at dksX4_searches_4 18 rfl rfl)
theorem dX4_searches_113 : decode cX4_searches 113 = .ok (.getfield 41, 3) := dk_180 0 41 (dk_at dksX4_searches_4 19 rfl rfl)
theorem dX4_searches_116 : decode cX4_searches 116 = .ok (.iconst 2, 1) := dk_5 (dk_at dksX4_searches_4 22 rfl rfl)
theorem dX4_searches_117 : decode cX4_searches 117 = .ok (.iload_n 2, 1) := dk_28 (dk_at dksX4_searches_4 23 rfl rfl)
theorem dX4_searches_118 : decode cX4_searches 118 = .ok (.iastore, 1) := dk_79 (dk_at dksX4_searches_5 0 rfl rfl)
theorem dX4_searches_119 : decode cX4_searches 119 = .ok (.aload_n 0, 1) := dk_42 (dk_at dksX4_searches_5 1 rfl rfl)
theorem dX4_searches_120 : decode cX4_searches 120 = .ok (.getfield 41, 3) := dk_180 0 41 (dk_at dksX4_searches_5 2 rfl rfl)
theorem dX4_searches_123 : decode cX4_searches 123 = .ok (.iconst 3, 1) := dk_6 (dk_at dksX4_searches_5 5 rfl rfl)
theorem dX4_searches_124 : decode cX4_searches 124 = .ok (.iload_n 3, 1) := dk_29 (dk_at dksX4_searches_5 6 rfl rfl)
theorem dX4_searches_125 : decode cX4_searches 125 = .ok (.bipush 20, 2) := dk_16 20 (dk_at dksX4_searches_5 7 rfl rfl)
theorem dX4_searches_127 : decode cX4_searches 127 = .ok (.iadd, 1) := dk_96 (dk_at dksX4_searches_5 9 rfl rfl)
theorem dX4_searches_128 : decode cX4_searches 128 = .ok (.iastore, 1) := dk_79 (dk_at dksX4_searches_5 10 rfl rfl)
theorem dX4_searches_129 : decode cX4_searches 129 = .ok (.aload_n 0, 1) := dk_42 (dk_at dksX4_searches_5 11 rfl rfl)
theorem dX4_searches_130 : decode cX4_searches 130 = .ok (.getfield 41, 3) := dk_180 0 41 (dk_at dksX4_searches_5 12 rfl rfl)
theorem dX4_searches_133 : decode cX4_searches 133 = .ok (.iconst 4, 1) := dk_7 (dk_at dksX4_searches_5 15 rfl rfl)
theorem dX4_searches_134 : decode cX4_searches 134 = .ok (.iload 4, 2) := dk_21 4 (dk_at dksX4_searches_5 16 rfl rfl)
theorem dX4_searches_136 : decode cX4_searches 136 = .ok (.iastore, 1) := dk_79 (dk_at dksX4_searches_5 18 rfl rfl)
theorem dX4_searches_137 : decode cX4_searches 137 = .ok (.iload 6, 2) := dk_21 6 (dk_at dksX4_searches_5 19 rfl rfl)
theorem dX4_searches_139 : decode cX4_searches 139 = .ok (.ifCond .eq 13, 3) := dk_153 0 13 (dk_at dksX4_searches_5 21 rfl rfl)
theorem dX4_searches_142 : decode cX4_searches 142 = .ok (.aload_n 0, 1) := dk_42 (dk_at dksX4_searches_6 0 rfl rfl)
theorem dX4_searches_143 : decode cX4_searches 143 = .ok (.dup, 1) := dk_89 (dk_at dksX4_searches_6 1 rfl rfl)
theorem dX4_searches_144 : decode cX4_searches 144 = .ok (.getfield 271, 3) := dk_180 1 15 (dk_at dksX4_searches_6 2 rfl rfl)
theorem dX4_searches_147 : decode cX4_searches 147 = .ok (.iconst 1, 1) := dk_4 (dk_at dksX4_searches_6 5 rfl rfl)
theorem dX4_searches_148 : decode cX4_searches 148 = .ok (.iadd, 1) := dk_96 (dk_at dksX4_searches_6 6 rfl rfl)
theorem dX4_searches_149 : decode cX4_searches 149 = .ok (.putfield 271, 3) := dk_181 1 15 (dk_at dksX4_searches_6 7 rfl rfl)
theorem dX4_searches_152 : decode cX4_searches 152 = .ok (.iload 7, 2) := dk_21 7 (dk_at dksX4_searches_6 10 rfl rfl)
theorem dX4_searches_154 : decode cX4_searches 154 = .ok (.iconst (-1), 1) := dk_2 (dk_at dksX4_searches_6 12 rfl rfl)
theorem dX4_searches_155 : decode cX4_searches 155 = .ok (.if_icmp .ne 14, 3) := dk_160 0 14 (dk_at dksX4_searches_6 13 rfl rfl)
theorem dX4_searches_158 : decode cX4_searches 158 = .ok (.iload 6, 2) := dk_21 6 (dk_at dksX4_searches_6 16 rfl rfl)
theorem dX4_searches_160 : decode cX4_searches 160 = .ok (.ifCond .eq 7, 3) := dk_153 0 7 (dk_at dksX4_searches_6 18 rfl rfl)
theorem dX4_searches_163 : decode cX4_searches 163 = .ok (.iconst (-1), 1) := dk_2 (dk_at dksX4_searches_6 21 rfl rfl)
theorem dX4_searches_164 : decode cX4_searches 164 = .ok (.goto 4, 3) := dk_167 0 4 (dk_at dksX4_searches_7 0 rfl rfl)
theorem dX4_searches_167 : decode cX4_searches 167 = .ok (.iload_n 2, 1) := dk_28 (dk_at dksX4_searches_7 3 rfl rfl)
theorem dX4_searches_168 : decode cX4_searches 168 = .ok (.ireturn, 1) := dk_172 (dk_at dksX4_searches_7 4 rfl rfl)
theorem dX4_searches_169 : decode cX4_searches 169 = .ok (.iconst 0, 1) := dk_3 (dk_at dksX4_searches_7 5 rfl rfl)
theorem dX4_searches_170 : decode cX4_searches 170 = .ok (.istore 8, 2) := dk_54 8 (dk_at dksX4_searches_7 6 rfl rfl)
theorem dX4_searches_172 : decode cX4_searches 172 = .ok (.iload 8, 2) := dk_21 8 (dk_at dksX4_searches_7 8 rfl rfl)
theorem dX4_searches_174 : decode cX4_searches 174 = .ok (.iconst 2, 1) := dk_5 (dk_at dksX4_searches_7 10 rfl rfl)
theorem dX4_searches_175 : decode cX4_searches 175 = .ok (.if_icmp .ge 77, 3) := dk_162 0 77 (dk_at dksX4_searches_7 11 rfl rfl)
theorem dX4_searches_178 : decode cX4_searches 178 = .ok (.iload 8, 2) := dk_21 8 (dk_at dksX4_searches_7 14 rfl rfl)
theorem dX4_searches_180 : decode cX4_searches 180 = .ok (.iload 4, 2) := dk_21 4 (dk_at dksX4_searches_7 16 rfl rfl)
theorem dX4_searches_182 : decode cX4_searches 182 = .ok (.iconst 2, 1) := dk_5 (dk_at dksX4_searches_7 18 rfl rfl)
theorem dX4_searches_183 : decode cX4_searches 183 = .ok (.irem, 1) := dk_112 (dk_at dksX4_searches_7 19 rfl rfl)
theorem dX4_searches_184 : decode cX4_searches 184 = .ok (.if_icmp .ne 10, 3) := dk_160 0 10 (dk_at dksX4_searches_7 20 rfl rfl)
theorem dX4_searches_187 : decode cX4_searches 187 = .ok (.iconst 1, 1) := dk_4 (dk_at dksX4_searches_7 23 rfl rfl)
theorem dX4_searches_188 : decode cX4_searches 188 = .ok (.iload 7, 2) := dk_21 7 (dk_at dksX4_searches_8 0 rfl rfl)
theorem dX4_searches_190 : decode cX4_searches 190 = .ok (.ishl, 1) := dk_120 (dk_at dksX4_searches_8 2 rfl rfl)
theorem dX4_searches_191 : decode cX4_searches 191 = .ok (.goto 12, 3) := dk_167 0 12 (dk_at dksX4_searches_8 3 rfl rfl)
theorem dX4_searches_194 : decode cX4_searches 194 = .ok (.aload_n 0, 1) := dk_42 (dk_at dksX4_searches_8 6 rfl rfl)
theorem dX4_searches_195 : decode cX4_searches 195 = .ok (.getfield 20, 3) := dk_180 0 20 (dk_at dksX4_searches_8 7 rfl rfl)
theorem dX4_searches_198 : decode cX4_searches 198 = .ok (.iload 7, 2) := dk_21 7 (dk_at dksX4_searches_8 10 rfl rfl)
theorem dX4_searches_200 : decode cX4_searches 200 = .ok (.iaload, 1) := dk_46 (dk_at dksX4_searches_8 12 rfl rfl)
theorem dX4_searches_201 : decode cX4_searches 201 = .ok (.iload_n 1, 1) := dk_27 (dk_at dksX4_searches_8 13 rfl rfl)
theorem dX4_searches_202 : decode cX4_searches 202 = .ok (.iand, 1) := dk_126 (dk_at dksX4_searches_8 14 rfl rfl)
theorem dX4_searches_203 : decode cX4_searches 203 = .ok (.istore 9, 2) := dk_54 9 (dk_at dksX4_searches_8 15 rfl rfl)
theorem dX4_searches_205 : decode cX4_searches 205 = .ok (.aload_n 0, 1) := dk_42 (dk_at dksX4_searches_8 17 rfl rfl)
theorem dX4_searches_206 : decode cX4_searches 206 = .ok (.iload_n 1, 1) := dk_27 (dk_at dksX4_searches_8 18 rfl rfl)
theorem dX4_searches_207 : decode cX4_searches 207 = .ok (.iload 9, 2) := dk_21 9 (dk_at dksX4_searches_8 19 rfl rfl)
theorem dX4_searches_209 : decode cX4_searches 209 = .ok (.iconst 1, 1) := dk_4 (dk_at dksX4_searches_8 21 rfl rfl)
theorem dX4_searches_210 : decode cX4_searches 210 = .ok (.iload 7, 2) := dk_21 7 (dk_at dksX4_searches_8 22 rfl rfl)
theorem dX4_searches_212 : decode cX4_searches 212 = .ok (.ishl, 1) := dk_120 (dk_at dksX4_searches_9 0 rfl rfl)
theorem dX4_searches_213 : decode cX4_searches 213 = .ok (.ior, 1) := dk_128 (dk_at dksX4_searches_9 1 rfl rfl)
theorem dX4_searches_214 : decode cX4_searches 214 = .ok (.iconst (-1), 1) := dk_2 (dk_at dksX4_searches_9 2 rfl rfl)
theorem dX4_searches_215 : decode cX4_searches 215 = .ok (.ixor, 1) := dk_130 (dk_at dksX4_searches_9 3 rfl rfl)
theorem dX4_searches_216 : decode cX4_searches 216 = .ok (.iand, 1) := dk_126 (dk_at dksX4_searches_9 4 rfl rfl)
theorem dX4_searches_217 : decode cX4_searches 217 = .ok (.iload_n 2, 1) := dk_28 (dk_at dksX4_searches_9 5 rfl rfl)
theorem dX4_searches_218 : decode cX4_searches 218 = .ok (.iload 9, 2) := dk_21 9 (dk_at dksX4_searches_9 6 rfl rfl)
theorem dX4_searches_220 : decode cX4_searches 220 = .ok (.ior, 1) := dk_128 (dk_at dksX4_searches_9 8 rfl rfl)
theorem dX4_searches_221 : decode cX4_searches 221 = .ok (.iload_n 3, 1) := dk_29 (dk_at dksX4_searches_9 9 rfl rfl)
theorem dX4_searches_222 : decode cX4_searches 222 = .ok (.iload 9, 2) := dk_21 9 (dk_at dksX4_searches_9 10 rfl rfl)
theorem dX4_searches_224 : decode cX4_searches 224 = .ok (.invokestatic 133, 3) := dk_184 0 133 (dk_at dksX4_searches_9 12 rfl rfl)
theorem dX4_searches_227 : decode cX4_searches 227 = .ok (.isub, 1) := dk_100 (dk_at dksX4_searches_9 15 rfl rfl)
theorem dX4_searches_228 : decode cX4_searches 228 = .ok (.iload 4, 2) := dk_21 4 (dk_at dksX4_searches_9 16 rfl rfl)
theorem dX4_searches_230 : decode cX4_searches 230 = .ok (.iconst 1, 1) := dk_4 (dk_at dksX4_searches_9 18 rfl rfl)
theorem dX4_searches_231 : decode cX4_searches 231 = .ok (.iadd, 1) := dk_96 (dk_at dksX4_searches_9 19 rfl rfl)
theorem dX4_searches_232 : decode cX4_searches 232 = .ok (.invokevirtual 274, 3) := dk_182 1 18 (dk_at dksX4_searches_9 20 rfl rfl)
theorem dX4_searches_235 : decode cX4_searches 235 = .ok (.istore 10, 2) := dk_54 10 (dk_at dksX4_searches_10 0 rfl rfl)
theorem dX4_searches_237 : decode cX4_searches 237 = .ok (.iload 10, 2) := dk_21 10 (dk_at dksX4_searches_10 2 rfl rfl)
theorem dX4_searches_239 : decode cX4_searches 239 = .ok (.iconst (-1), 1) := dk_2 (dk_at dksX4_searches_10 4 rfl rfl)
theorem dX4_searches_240 : decode cX4_searches 240 = .ok (.if_icmp .eq 6, 3) := dk_159 0 6 (dk_at dksX4_searches_10 5 rfl rfl)
theorem dX4_searches_243 : decode cX4_searches 243 = .ok (.iload 10, 2) := dk_21 10 (dk_at dksX4_searches_10 8 rfl rfl)
theorem dX4_searches_245 : decode cX4_searches 245 = .ok (.ireturn, 1) := dk_172 (dk_at dksX4_searches_10 10 rfl rfl)
theorem dX4_searches_246 : decode cX4_searches 246 = .ok (.iinc 8 1, 3) := dk_132 8 1 (dk_at dksX4_searches_10 11 rfl rfl)
theorem dX4_searches_249 : decode cX4_searches 249 = .ok (.goto (-77), 3) := dk_167 255 179 (dk_at dksX4_searches_10 14 rfl rfl)
theorem dX4_searches_252 : decode cX4_searches 252 = .ok (.iconst (-1), 1) := dk_2 (dk_at dksX4_searches_10 17 rfl rfl)
theorem dX4_searches_253 : decode cX4_searches 253 = .ok (.ireturn, 1) := dk_172 (dk_at dksX4_searches_10 18 rfl rfl)
abbrev cX4_branch : ByteArray := prog_32_method_58_code
def yX4_branch : MethodName := ⟨RX4, "branch", "(I)I"⟩
def dkwX4_branch_2 : List UInt8 := [132, 3, 1, 167, 255, 211, 28, 172]
abbrev dktX4_branch_2 : List UInt8 := dkwX4_branch_2 ++ []
def dkwX4_branch_1 : List UInt8 := [182, 0, 228, 28, 2, 160, 0, 7, 3, 167, 0, 9, 42, 28, 27, 182, 0, 228, 164, 0, 5, 29, 61]
abbrev dktX4_branch_1 : List UInt8 := dkwX4_branch_1 ++ dktX4_branch_2
def dkwX4_branch_0 : List UInt8 := [2, 61, 3, 62, 29, 42, 180, 0, 122, 162, 0, 43, 27, 29, 184, 0, 118, 153, 0, 29, 42, 29, 27]
abbrev dktX4_branch_0 : List UInt8 := dkwX4_branch_0 ++ dktX4_branch_1
theorem dksX4_branch_0 : cX4_branch.data.toList.drop 0 = dktX4_branch_0 := by decide +kernel
theorem dksX4_branch_1 : cX4_branch.data.toList.drop 23 = dktX4_branch_1 := dk_seg dksX4_branch_0 23 rfl rfl
theorem dksX4_branch_2 : cX4_branch.data.toList.drop 46 = dktX4_branch_2 := dk_seg dksX4_branch_1 23 rfl rfl
theorem dX4_branch_0 : decode cX4_branch 0 = .ok (.iconst (-1), 1) := dk_2 (dk_at dksX4_branch_0 0 rfl rfl)
theorem dX4_branch_1 : decode cX4_branch 1 = .ok (.istore_n 2, 1) := dk_61 (dk_at dksX4_branch_0 1 rfl rfl)
theorem dX4_branch_2 : decode cX4_branch 2 = .ok (.iconst 0, 1) := dk_3 (dk_at dksX4_branch_0 2 rfl rfl)
theorem dX4_branch_3 : decode cX4_branch 3 = .ok (.istore_n 3, 1) := dk_62 (dk_at dksX4_branch_0 3 rfl rfl)
theorem dX4_branch_4 : decode cX4_branch 4 = .ok (.iload_n 3, 1) := dk_29 (dk_at dksX4_branch_0 4 rfl rfl)
theorem dX4_branch_5 : decode cX4_branch 5 = .ok (.aload_n 0, 1) := dk_42 (dk_at dksX4_branch_0 5 rfl rfl)
theorem dX4_branch_6 : decode cX4_branch 6 = .ok (.getfield 122, 3) := dk_180 0 122 (dk_at dksX4_branch_0 6 rfl rfl)
theorem dX4_branch_9 : decode cX4_branch 9 = .ok (.if_icmp .ge 43, 3) := dk_162 0 43 (dk_at dksX4_branch_0 9 rfl rfl)
theorem dX4_branch_12 : decode cX4_branch 12 = .ok (.iload_n 1, 1) := dk_27 (dk_at dksX4_branch_0 12 rfl rfl)
theorem dX4_branch_13 : decode cX4_branch 13 = .ok (.iload_n 3, 1) := dk_29 (dk_at dksX4_branch_0 13 rfl rfl)
theorem dX4_branch_14 : decode cX4_branch 14 = .ok (.invokestatic 118, 3) := dk_184 0 118 (dk_at dksX4_branch_0 14 rfl rfl)
theorem dX4_branch_17 : decode cX4_branch 17 = .ok (.ifCond .eq 29, 3) := dk_153 0 29 (dk_at dksX4_branch_0 17 rfl rfl)
theorem dX4_branch_20 : decode cX4_branch 20 = .ok (.aload_n 0, 1) := dk_42 (dk_at dksX4_branch_0 20 rfl rfl)
theorem dX4_branch_21 : decode cX4_branch 21 = .ok (.iload_n 3, 1) := dk_29 (dk_at dksX4_branch_0 21 rfl rfl)
theorem dX4_branch_22 : decode cX4_branch 22 = .ok (.iload_n 1, 1) := dk_27 (dk_at dksX4_branch_0 22 rfl rfl)
theorem dX4_branch_23 : decode cX4_branch 23 = .ok (.invokevirtual 228, 3) := dk_182 0 228 (dk_at dksX4_branch_1 0 rfl rfl)
theorem dX4_branch_26 : decode cX4_branch 26 = .ok (.iload_n 2, 1) := dk_28 (dk_at dksX4_branch_1 3 rfl rfl)
theorem dX4_branch_27 : decode cX4_branch 27 = .ok (.iconst (-1), 1) := dk_2 (dk_at dksX4_branch_1 4 rfl rfl)
theorem dX4_branch_28 : decode cX4_branch 28 = .ok (.if_icmp .ne 7, 3) := dk_160 0 7 (dk_at dksX4_branch_1 5 rfl rfl)
theorem dX4_branch_31 : decode cX4_branch 31 = .ok (.iconst 0, 1) := dk_3 (dk_at dksX4_branch_1 8 rfl rfl)
theorem dX4_branch_32 : decode cX4_branch 32 = .ok (.goto 9, 3) := dk_167 0 9 (dk_at dksX4_branch_1 9 rfl rfl)
theorem dX4_branch_35 : decode cX4_branch 35 = .ok (.aload_n 0, 1) := dk_42 (dk_at dksX4_branch_1 12 rfl rfl)
theorem dX4_branch_36 : decode cX4_branch 36 = .ok (.iload_n 2, 1) := dk_28 (dk_at dksX4_branch_1 13 rfl rfl)
theorem dX4_branch_37 : decode cX4_branch 37 = .ok (.iload_n 1, 1) := dk_27 (dk_at dksX4_branch_1 14 rfl rfl)
theorem dX4_branch_38 : decode cX4_branch 38 = .ok (.invokevirtual 228, 3) := dk_182 0 228 (dk_at dksX4_branch_1 15 rfl rfl)
theorem dX4_branch_41 : decode cX4_branch 41 = .ok (.if_icmp .le 5, 3) := dk_164 0 5 (dk_at dksX4_branch_1 18 rfl rfl)
theorem dX4_branch_44 : decode cX4_branch 44 = .ok (.iload_n 3, 1) := dk_29 (dk_at dksX4_branch_1 21 rfl rfl)
theorem dX4_branch_45 : decode cX4_branch 45 = .ok (.istore_n 2, 1) := dk_61 (dk_at dksX4_branch_1 22 rfl rfl)
theorem dX4_branch_46 : decode cX4_branch 46 = .ok (.iinc 3 1, 3) := dk_132 3 1 (dk_at dksX4_branch_2 0 rfl rfl)
theorem dX4_branch_49 : decode cX4_branch 49 = .ok (.goto (-45), 3) := dk_167 255 211 (dk_at dksX4_branch_2 3 rfl rfl)
theorem dX4_branch_52 : decode cX4_branch 52 = .ok (.iload_n 2, 1) := dk_28 (dk_at dksX4_branch_2 6 rfl rfl)
theorem dX4_branch_53 : decode cX4_branch 53 = .ok (.ireturn, 1) := dk_172 (dk_at dksX4_branch_2 7 rfl rfl)
abbrev cX4_node : ByteArray := prog_32_method_62_code
def yX4_node : MethodName := ⟨RX4, "node", "(III)I"⟩
def dkwX4_node_2 : List UInt8 := [46, 167, 0, 5, 16, 254, 172]
abbrev dktX4_node_2 : List UInt8 := dkwX4_node_2 ++ []
def dkwX4_node_1 : List UInt8 := [16, 254, 172, 42, 27, 28, 182, 1, 21, 54, 4, 28, 42, 180, 1, 3, 162, 0, 12, 42, 180, 0, 41, 29]
abbrev dktX4_node_1 : List UInt8 := dkwX4_node_1 ++ dktX4_node_2
def dkwX4_node_0 : List UInt8 := [27, 3, 16, 12, 184, 0, 125, 153, 0, 16, 28, 155, 0, 12, 29, 3, 7, 184, 0, 125, 154, 0, 6]
abbrev dktX4_node_0 : List UInt8 := dkwX4_node_0 ++ dktX4_node_1
theorem dksX4_node_0 : cX4_node.data.toList.drop 0 = dktX4_node_0 := by decide +kernel
theorem dksX4_node_1 : cX4_node.data.toList.drop 23 = dktX4_node_1 := dk_seg dksX4_node_0 23 rfl rfl
theorem dksX4_node_2 : cX4_node.data.toList.drop 47 = dktX4_node_2 := dk_seg dksX4_node_1 24 rfl rfl
theorem dX4_node_0 : decode cX4_node 0 = .ok (.iload_n 1, 1) := dk_27 (dk_at dksX4_node_0 0 rfl rfl)
theorem dX4_node_1 : decode cX4_node 1 = .ok (.iconst 0, 1) := dk_3 (dk_at dksX4_node_0 1 rfl rfl)
theorem dX4_node_2 : decode cX4_node 2 = .ok (.bipush 12, 2) := dk_16 12 (dk_at dksX4_node_0 2 rfl rfl)
theorem dX4_node_4 : decode cX4_node 4 = .ok (.invokestatic 125, 3) := dk_184 0 125 (dk_at dksX4_node_0 4 rfl rfl)
theorem dX4_node_7 : decode cX4_node 7 = .ok (.ifCond .eq 16, 3) := dk_153 0 16 (dk_at dksX4_node_0 7 rfl rfl)
theorem dX4_node_10 : decode cX4_node 10 = .ok (.iload_n 2, 1) := dk_28 (dk_at dksX4_node_0 10 rfl rfl)
theorem dX4_node_11 : decode cX4_node 11 = .ok (.ifCond .lt 12, 3) := dk_155 0 12 (dk_at dksX4_node_0 11 rfl rfl)
theorem dX4_node_14 : decode cX4_node 14 = .ok (.iload_n 3, 1) := dk_29 (dk_at dksX4_node_0 14 rfl rfl)
theorem dX4_node_15 : decode cX4_node 15 = .ok (.iconst 0, 1) := dk_3 (dk_at dksX4_node_0 15 rfl rfl)
theorem dX4_node_16 : decode cX4_node 16 = .ok (.iconst 4, 1) := dk_7 (dk_at dksX4_node_0 16 rfl rfl)
theorem dX4_node_17 : decode cX4_node 17 = .ok (.invokestatic 125, 3) := dk_184 0 125 (dk_at dksX4_node_0 17 rfl rfl)
theorem dX4_node_20 : decode cX4_node 20 = .ok (.ifCond .ne 6, 3) := dk_154 0 6 (dk_at dksX4_node_0 20 rfl rfl)
theorem dX4_node_23 : decode cX4_node 23 = .ok (.bipush (-2), 2) := dk_16 254 (dk_at dksX4_node_1 0 rfl rfl)
theorem dX4_node_25 : decode cX4_node 25 = .ok (.ireturn, 1) := dk_172 (dk_at dksX4_node_1 2 rfl rfl)
theorem dX4_node_26 : decode cX4_node 26 = .ok (.aload_n 0, 1) := dk_42 (dk_at dksX4_node_1 3 rfl rfl)
theorem dX4_node_27 : decode cX4_node 27 = .ok (.iload_n 1, 1) := dk_27 (dk_at dksX4_node_1 4 rfl rfl)
theorem dX4_node_28 : decode cX4_node 28 = .ok (.iload_n 2, 1) := dk_28 (dk_at dksX4_node_1 5 rfl rfl)
theorem dX4_node_29 : decode cX4_node 29 = .ok (.invokevirtual 277, 3) := dk_182 1 21 (dk_at dksX4_node_1 6 rfl rfl)
theorem dX4_node_32 : decode cX4_node 32 = .ok (.istore 4, 2) := dk_54 4 (dk_at dksX4_node_1 9 rfl rfl)
theorem dX4_node_34 : decode cX4_node 34 = .ok (.iload_n 2, 1) := dk_28 (dk_at dksX4_node_1 11 rfl rfl)
theorem dX4_node_35 : decode cX4_node 35 = .ok (.aload_n 0, 1) := dk_42 (dk_at dksX4_node_1 12 rfl rfl)
theorem dX4_node_36 : decode cX4_node 36 = .ok (.getfield 259, 3) := dk_180 1 3 (dk_at dksX4_node_1 13 rfl rfl)
theorem dX4_node_39 : decode cX4_node 39 = .ok (.if_icmp .ge 12, 3) := dk_162 0 12 (dk_at dksX4_node_1 16 rfl rfl)
theorem dX4_node_42 : decode cX4_node 42 = .ok (.aload_n 0, 1) := dk_42 (dk_at dksX4_node_1 19 rfl rfl)
theorem dX4_node_43 : decode cX4_node 43 = .ok (.getfield 41, 3) := dk_180 0 41 (dk_at dksX4_node_1 20 rfl rfl)
theorem dX4_node_46 : decode cX4_node 46 = .ok (.iload_n 3, 1) := dk_29 (dk_at dksX4_node_1 23 rfl rfl)
theorem dX4_node_47 : decode cX4_node 47 = .ok (.iaload, 1) := dk_46 (dk_at dksX4_node_2 0 rfl rfl)
theorem dX4_node_48 : decode cX4_node 48 = .ok (.goto 5, 3) := dk_167 0 5 (dk_at dksX4_node_2 1 rfl rfl)
theorem dX4_node_51 : decode cX4_node 51 = .ok (.bipush (-2), 2) := dk_16 254 (dk_at dksX4_node_2 4 rfl rfl)
theorem dX4_node_53 : decode cX4_node 53 = .ok (.ireturn, 1) := dk_172 (dk_at dksX4_node_2 6 rfl rfl)
abbrev cX4_prove : ByteArray := prog_32_method_63_code
def yX4_prove : MethodName := ⟨RX4, "prove", "(II)I"⟩
def dkwX4_prove_4 : List UInt8 := [167, 0, 4, 3, 79, 132, 3, 1, 167, 255, 218, 42, 180, 1, 3, 172]
abbrev dktX4_prove_4 : List UInt8 := dkwX4_prove_4 ++ []
def dkwX4_prove_3 : List UInt8 := [42, 180, 0, 103, 16, 60, 27, 104, 29, 96, 29, 42, 180, 1, 3, 162, 0, 12, 42, 180, 0, 44, 29, 46]
abbrev dktX4_prove_3 : List UInt8 := dkwX4_prove_3 ++ dktX4_prove_4
def dkwX4_prove_2 : List UInt8 := [180, 0, 97, 27, 4, 79, 42, 180, 0, 100, 27, 42, 180, 1, 3, 79, 3, 62, 29, 16, 60, 162, 0, 38]
abbrev dktX4_prove_2 : List UInt8 := dkwX4_prove_2 ++ dktX4_prove_3
def dkwX4_prove_1 : List UInt8 := [182, 1, 21, 2, 159, 0, 5, 2, 172, 42, 180, 1, 3, 16, 60, 164, 0, 6, 16, 252, 172, 42]
abbrev dktX4_prove_1 : List UInt8 := dkwX4_prove_1 ++ dktX4_prove_2
def dkwX4_prove_0 : List UInt8 := [27, 184, 0, 253, 153, 0, 13, 28, 3, 16, 12, 184, 0, 125, 154, 0, 6, 16, 254, 172, 42, 28, 2]
abbrev dktX4_prove_0 : List UInt8 := dkwX4_prove_0 ++ dktX4_prove_1
theorem dksX4_prove_0 : cX4_prove.data.toList.drop 0 = dktX4_prove_0 := by decide +kernel
theorem dksX4_prove_1 : cX4_prove.data.toList.drop 23 = dktX4_prove_1 := dk_seg dksX4_prove_0 23 rfl rfl
theorem dksX4_prove_2 : cX4_prove.data.toList.drop 45 = dktX4_prove_2 := dk_seg dksX4_prove_1 22 rfl rfl
theorem dksX4_prove_3 : cX4_prove.data.toList.drop 69 = dktX4_prove_3 := dk_seg dksX4_prove_2 24 rfl rfl
theorem dksX4_prove_4 : cX4_prove.data.toList.drop 93 = dktX4_prove_4 := dk_seg dksX4_prove_3 24 rfl rfl
theorem dX4_prove_0 : decode cX4_prove 0 = .ok (.iload_n 1, 1) := dk_27 (dk_at dksX4_prove_0 0 rfl rfl)
theorem dX4_prove_1 : decode cX4_prove 1 = .ok (.invokestatic 253, 3) := dk_184 0 253 (dk_at dksX4_prove_0 1 rfl rfl)
theorem dX4_prove_4 : decode cX4_prove 4 = .ok (.ifCond .eq 13, 3) := dk_153 0 13 (dk_at dksX4_prove_0 4 rfl rfl)
theorem dX4_prove_7 : decode cX4_prove 7 = .ok (.iload_n 2, 1) := dk_28 (dk_at dksX4_prove_0 7 rfl rfl)
theorem dX4_prove_8 : decode cX4_prove 8 = .ok (.iconst 0, 1) := dk_3 (dk_at dksX4_prove_0 8 rfl rfl)
theorem dX4_prove_9 : decode cX4_prove 9 = .ok (.bipush 12, 2) := dk_16 12 (dk_at dksX4_prove_0 9 rfl rfl)
theorem dX4_prove_11 : decode cX4_prove 11 = .ok (.invokestatic 125, 3) := dk_184 0 125 (dk_at dksX4_prove_0 11 rfl rfl)
theorem dX4_prove_14 : decode cX4_prove 14 = .ok (.ifCond .ne 6, 3) := dk_154 0 6 (dk_at dksX4_prove_0 14 rfl rfl)
theorem dX4_prove_17 : decode cX4_prove 17 = .ok (.bipush (-2), 2) := dk_16 254 (dk_at dksX4_prove_0 17 rfl rfl)
theorem dX4_prove_19 : decode cX4_prove 19 = .ok (.ireturn, 1) := dk_172 (dk_at dksX4_prove_0 19 rfl rfl)
theorem dX4_prove_20 : decode cX4_prove 20 = .ok (.aload_n 0, 1) := dk_42 (dk_at dksX4_prove_0 20 rfl rfl)
theorem dX4_prove_21 : decode cX4_prove 21 = .ok (.iload_n 2, 1) := dk_28 (dk_at dksX4_prove_0 21 rfl rfl)
theorem dX4_prove_22 : decode cX4_prove 22 = .ok (.iconst (-1), 1) := dk_2 (dk_at dksX4_prove_0 22 rfl rfl)
theorem dX4_prove_23 : decode cX4_prove 23 = .ok (.invokevirtual 277, 3) := dk_182 1 21 (dk_at dksX4_prove_1 0 rfl rfl)
theorem dX4_prove_26 : decode cX4_prove 26 = .ok (.iconst (-1), 1) := dk_2 (dk_at dksX4_prove_1 3 rfl rfl)
theorem dX4_prove_27 : decode cX4_prove 27 = .ok (.if_icmp .eq 5, 3) := dk_159 0 5 (dk_at dksX4_prove_1 4 rfl rfl)
theorem dX4_prove_30 : decode cX4_prove 30 = .ok (.iconst (-1), 1) := dk_2 (dk_at dksX4_prove_1 7 rfl rfl)
theorem dX4_prove_31 : decode cX4_prove 31 = .ok (.ireturn, 1) := dk_172 (dk_at dksX4_prove_1 8 rfl rfl)
theorem dX4_prove_32 : decode cX4_prove 32 = .ok (.aload_n 0, 1) := dk_42 (dk_at dksX4_prove_1 9 rfl rfl)
theorem dX4_prove_33 : decode cX4_prove 33 = .ok (.getfield 259, 3) := dk_180 1 3 (dk_at dksX4_prove_1 10 rfl rfl)
theorem dX4_prove_36 : decode cX4_prove 36 = .ok (.bipush 60, 2) := dk_16 60 (dk_at dksX4_prove_1 13 rfl rfl)
theorem dX4_prove_38 : decode cX4_prove 38 = .ok (.if_icmp .le 6, 3) := dk_164 0 6 (dk_at dksX4_prove_1 15 rfl rfl)
theorem dX4_prove_41 : decode cX4_prove 41 = .ok (.bipush (-4), 2) := dk_16 252 (dk_at dksX4_prove_1 18 rfl rfl)
theorem dX4_prove_43 : decode cX4_prove 43 = .ok (.ireturn, 1) := dk_172 (dk_at dksX4_prove_1 20 rfl rfl)
theorem dX4_prove_44 : decode cX4_prove 44 = .ok (.aload_n 0, 1) := dk_42 (dk_at dksX4_prove_1 21 rfl rfl)
theorem dX4_prove_45 : decode cX4_prove 45 = .ok (.getfield 97, 3) := dk_180 0 97 (dk_at dksX4_prove_2 0 rfl rfl)
theorem dX4_prove_48 : decode cX4_prove 48 = .ok (.iload_n 1, 1) := dk_27 (dk_at dksX4_prove_2 3 rfl rfl)
theorem dX4_prove_49 : decode cX4_prove 49 = .ok (.iconst 1, 1) := dk_4 (dk_at dksX4_prove_2 4 rfl rfl)
theorem dX4_prove_50 : decode cX4_prove 50 = .ok (.iastore, 1) := dk_79 (dk_at dksX4_prove_2 5 rfl rfl)
theorem dX4_prove_51 : decode cX4_prove 51 = .ok (.aload_n 0, 1) := dk_42 (dk_at dksX4_prove_2 6 rfl rfl)
theorem dX4_prove_52 : decode cX4_prove 52 = .ok (.getfield 100, 3) := dk_180 0 100 (dk_at dksX4_prove_2 7 rfl rfl)
theorem dX4_prove_55 : decode cX4_prove 55 = .ok (.iload_n 1, 1) := dk_27 (dk_at dksX4_prove_2 10 rfl rfl)
theorem dX4_prove_56 : decode cX4_prove 56 = .ok (.aload_n 0, 1) := dk_42 (dk_at dksX4_prove_2 11 rfl rfl)
theorem dX4_prove_57 : decode cX4_prove 57 = .ok (.getfield 259, 3) := dk_180 1 3 (dk_at dksX4_prove_2 12 rfl rfl)
theorem dX4_prove_60 : decode cX4_prove 60 = .ok (.iastore, 1) := dk_79 (dk_at dksX4_prove_2 15 rfl rfl)
theorem dX4_prove_61 : decode cX4_prove 61 = .ok (.iconst 0, 1) := dk_3 (dk_at dksX4_prove_2 16 rfl rfl)
theorem dX4_prove_62 : decode cX4_prove 62 = .ok (.istore_n 3, 1) := dk_62 (dk_at dksX4_prove_2 17 rfl rfl)
theorem dX4_prove_63 : decode cX4_prove 63 = .ok (.iload_n 3, 1) := dk_29 (dk_at dksX4_prove_2 18 rfl rfl)
theorem dX4_prove_64 : decode cX4_prove 64 = .ok (.bipush 60, 2) := dk_16 60 (dk_at dksX4_prove_2 19 rfl rfl)
theorem dX4_prove_66 : decode cX4_prove 66 = .ok (.if_icmp .ge 38, 3) := dk_162 0 38 (dk_at dksX4_prove_2 21 rfl rfl)
theorem dX4_prove_69 : decode cX4_prove 69 = .ok (.aload_n 0, 1) := dk_42 (dk_at dksX4_prove_3 0 rfl rfl)
theorem dX4_prove_70 : decode cX4_prove 70 = .ok (.getfield 103, 3) := dk_180 0 103 (dk_at dksX4_prove_3 1 rfl rfl)
theorem dX4_prove_73 : decode cX4_prove 73 = .ok (.bipush 60, 2) := dk_16 60 (dk_at dksX4_prove_3 4 rfl rfl)
theorem dX4_prove_75 : decode cX4_prove 75 = .ok (.iload_n 1, 1) := dk_27 (dk_at dksX4_prove_3 6 rfl rfl)
theorem dX4_prove_76 : decode cX4_prove 76 = .ok (.imul, 1) := dk_104 (dk_at dksX4_prove_3 7 rfl rfl)
theorem dX4_prove_77 : decode cX4_prove 77 = .ok (.iload_n 3, 1) := dk_29 (dk_at dksX4_prove_3 8 rfl rfl)
theorem dX4_prove_78 : decode cX4_prove 78 = .ok (.iadd, 1) := dk_96 (dk_at dksX4_prove_3 9 rfl rfl)
theorem dX4_prove_79 : decode cX4_prove 79 = .ok (.iload_n 3, 1) := dk_29 (dk_at dksX4_prove_3 10 rfl rfl)
theorem dX4_prove_80 : decode cX4_prove 80 = .ok (.aload_n 0, 1) := dk_42 (dk_at dksX4_prove_3 11 rfl rfl)
theorem dX4_prove_81 : decode cX4_prove 81 = .ok (.getfield 259, 3) := dk_180 1 3 (dk_at dksX4_prove_3 12 rfl rfl)
theorem dX4_prove_84 : decode cX4_prove 84 = .ok (.if_icmp .ge 12, 3) := dk_162 0 12 (dk_at dksX4_prove_3 15 rfl rfl)
theorem dX4_prove_87 : decode cX4_prove 87 = .ok (.aload_n 0, 1) := dk_42 (dk_at dksX4_prove_3 18 rfl rfl)
theorem dX4_prove_88 : decode cX4_prove 88 = .ok (.getfield 44, 3) := dk_180 0 44 (dk_at dksX4_prove_3 19 rfl rfl)
theorem dX4_prove_91 : decode cX4_prove 91 = .ok (.iload_n 3, 1) := dk_29 (dk_at dksX4_prove_3 22 rfl rfl)
theorem dX4_prove_92 : decode cX4_prove 92 = .ok (.iaload, 1) := dk_46 (dk_at dksX4_prove_3 23 rfl rfl)
theorem dX4_prove_93 : decode cX4_prove 93 = .ok (.goto 4, 3) := dk_167 0 4 (dk_at dksX4_prove_4 0 rfl rfl)
theorem dX4_prove_96 : decode cX4_prove 96 = .ok (.iconst 0, 1) := dk_3 (dk_at dksX4_prove_4 3 rfl rfl)
theorem dX4_prove_97 : decode cX4_prove 97 = .ok (.iastore, 1) := dk_79 (dk_at dksX4_prove_4 4 rfl rfl)
theorem dX4_prove_98 : decode cX4_prove 98 = .ok (.iinc 3 1, 3) := dk_132 3 1 (dk_at dksX4_prove_4 5 rfl rfl)
theorem dX4_prove_101 : decode cX4_prove 101 = .ok (.goto (-38), 3) := dk_167 255 218 (dk_at dksX4_prove_4 8 rfl rfl)
theorem dX4_prove_104 : decode cX4_prove 104 = .ok (.aload_n 0, 1) := dk_42 (dk_at dksX4_prove_4 11 rfl rfl)
theorem dX4_prove_105 : decode cX4_prove 105 = .ok (.getfield 259, 3) := dk_180 1 3 (dk_at dksX4_prove_4 12 rfl rfl)
theorem dX4_prove_108 : decode cX4_prove 108 = .ok (.ireturn, 1) := dk_172 (dk_at dksX4_prove_4 15 rfl rfl)
abbrev cX4_proves : ByteArray := prog_32_method_65_code
def yX4_proves : MethodName := ⟨RX4, "proves", "(II)I"⟩
def dkwX4_proves_3 : List UInt8 := [42, 180, 1, 24, 96, 172]
abbrev dktX4_proves_3 : List UInt8 := dkwX4_proves_3 ++ []
def dkwX4_proves_2 : List UInt8 := [182, 1, 27, 153, 0, 20, 42, 180, 1, 24, 42, 180, 0, 100, 27, 46, 160, 0, 7, 3, 167, 0, 9, 4]
abbrev dktX4_proves_2 : List UInt8 := dkwX4_proves_2 ++ dktX4_proves_3
def dkwX4_proves_1 : List UInt8 := [27, 46, 2, 160, 0, 6, 16, 245, 172, 42, 3, 181, 1, 24, 42, 27, 42, 182, 0, 129, 28, 3]
abbrev dktX4_proves_1 : List UInt8 := dkwX4_proves_1 ++ dktX4_proves_2
def dkwX4_proves_0 : List UInt8 := [27, 184, 0, 253, 153, 0, 13, 28, 3, 16, 12, 184, 0, 125, 154, 0, 6, 16, 254, 172, 42, 180, 0, 97]
abbrev dktX4_proves_0 : List UInt8 := dkwX4_proves_0 ++ dktX4_proves_1
theorem dksX4_proves_0 : cX4_proves.data.toList.drop 0 = dktX4_proves_0 := by decide +kernel
theorem dksX4_proves_1 : cX4_proves.data.toList.drop 24 = dktX4_proves_1 := dk_seg dksX4_proves_0 24 rfl rfl
theorem dksX4_proves_2 : cX4_proves.data.toList.drop 46 = dktX4_proves_2 := dk_seg dksX4_proves_1 22 rfl rfl
theorem dksX4_proves_3 : cX4_proves.data.toList.drop 70 = dktX4_proves_3 := dk_seg dksX4_proves_2 24 rfl rfl
theorem dX4_proves_0 : decode cX4_proves 0 = .ok (.iload_n 1, 1) := dk_27 (dk_at dksX4_proves_0 0 rfl rfl)
theorem dX4_proves_1 : decode cX4_proves 1 = .ok (.invokestatic 253, 3) := dk_184 0 253 (dk_at dksX4_proves_0 1 rfl rfl)
theorem dX4_proves_4 : decode cX4_proves 4 = .ok (.ifCond .eq 13, 3) := dk_153 0 13 (dk_at dksX4_proves_0 4 rfl rfl)
theorem dX4_proves_7 : decode cX4_proves 7 = .ok (.iload_n 2, 1) := dk_28 (dk_at dksX4_proves_0 7 rfl rfl)
theorem dX4_proves_8 : decode cX4_proves 8 = .ok (.iconst 0, 1) := dk_3 (dk_at dksX4_proves_0 8 rfl rfl)
theorem dX4_proves_9 : decode cX4_proves 9 = .ok (.bipush 12, 2) := dk_16 12 (dk_at dksX4_proves_0 9 rfl rfl)
theorem dX4_proves_11 : decode cX4_proves 11 = .ok (.invokestatic 125, 3) := dk_184 0 125 (dk_at dksX4_proves_0 11 rfl rfl)
theorem dX4_proves_14 : decode cX4_proves 14 = .ok (.ifCond .ne 6, 3) := dk_154 0 6 (dk_at dksX4_proves_0 14 rfl rfl)
theorem dX4_proves_17 : decode cX4_proves 17 = .ok (.bipush (-2), 2) := dk_16 254 (dk_at dksX4_proves_0 17 rfl rfl)
theorem dX4_proves_19 : decode cX4_proves 19 = .ok (.ireturn, 1) := dk_172 (dk_at dksX4_proves_0 19 rfl rfl)
theorem dX4_proves_20 : decode cX4_proves 20 = .ok (.aload_n 0, 1) := dk_42 (dk_at dksX4_proves_0 20 rfl rfl)
theorem dX4_proves_21 : decode cX4_proves 21 = .ok (.getfield 97, 3) := dk_180 0 97 (dk_at dksX4_proves_0 21 rfl rfl)
theorem dX4_proves_24 : decode cX4_proves 24 = .ok (.iload_n 1, 1) := dk_27 (dk_at dksX4_proves_1 0 rfl rfl)
theorem dX4_proves_25 : decode cX4_proves 25 = .ok (.iaload, 1) := dk_46 (dk_at dksX4_proves_1 1 rfl rfl)
theorem dX4_proves_26 : decode cX4_proves 26 = .ok (.iconst (-1), 1) := dk_2 (dk_at dksX4_proves_1 2 rfl rfl)
theorem dX4_proves_27 : decode cX4_proves 27 = .ok (.if_icmp .ne 6, 3) := dk_160 0 6 (dk_at dksX4_proves_1 3 rfl rfl)
theorem dX4_proves_30 : decode cX4_proves 30 = .ok (.bipush (-11), 2) := dk_16 245 (dk_at dksX4_proves_1 6 rfl rfl)
theorem dX4_proves_32 : decode cX4_proves 32 = .ok (.ireturn, 1) := dk_172 (dk_at dksX4_proves_1 8 rfl rfl)
theorem dX4_proves_33 : decode cX4_proves 33 = .ok (.aload_n 0, 1) := dk_42 (dk_at dksX4_proves_1 9 rfl rfl)
theorem dX4_proves_34 : decode cX4_proves 34 = .ok (.iconst 0, 1) := dk_3 (dk_at dksX4_proves_1 10 rfl rfl)
theorem dX4_proves_35 : decode cX4_proves 35 = .ok (.putfield 280, 3) := dk_181 1 24 (dk_at dksX4_proves_1 11 rfl rfl)
theorem dX4_proves_38 : decode cX4_proves 38 = .ok (.aload_n 0, 1) := dk_42 (dk_at dksX4_proves_1 14 rfl rfl)
theorem dX4_proves_39 : decode cX4_proves 39 = .ok (.iload_n 1, 1) := dk_27 (dk_at dksX4_proves_1 15 rfl rfl)
theorem dX4_proves_40 : decode cX4_proves 40 = .ok (.aload_n 0, 1) := dk_42 (dk_at dksX4_proves_1 16 rfl rfl)
theorem dX4_proves_41 : decode cX4_proves 41 = .ok (.invokevirtual 129, 3) := dk_182 0 129 (dk_at dksX4_proves_1 17 rfl rfl)
theorem dX4_proves_44 : decode cX4_proves 44 = .ok (.iload_n 2, 1) := dk_28 (dk_at dksX4_proves_1 20 rfl rfl)
theorem dX4_proves_45 : decode cX4_proves 45 = .ok (.iconst 0, 1) := dk_3 (dk_at dksX4_proves_1 21 rfl rfl)
theorem dX4_proves_46 : decode cX4_proves 46 = .ok (.invokevirtual 283, 3) := dk_182 1 27 (dk_at dksX4_proves_2 0 rfl rfl)
theorem dX4_proves_49 : decode cX4_proves 49 = .ok (.ifCond .eq 20, 3) := dk_153 0 20 (dk_at dksX4_proves_2 3 rfl rfl)
theorem dX4_proves_52 : decode cX4_proves 52 = .ok (.aload_n 0, 1) := dk_42 (dk_at dksX4_proves_2 6 rfl rfl)
theorem dX4_proves_53 : decode cX4_proves 53 = .ok (.getfield 280, 3) := dk_180 1 24 (dk_at dksX4_proves_2 7 rfl rfl)
theorem dX4_proves_56 : decode cX4_proves 56 = .ok (.aload_n 0, 1) := dk_42 (dk_at dksX4_proves_2 10 rfl rfl)
theorem dX4_proves_57 : decode cX4_proves 57 = .ok (.getfield 100, 3) := dk_180 0 100 (dk_at dksX4_proves_2 11 rfl rfl)
theorem dX4_proves_60 : decode cX4_proves 60 = .ok (.iload_n 1, 1) := dk_27 (dk_at dksX4_proves_2 14 rfl rfl)
theorem dX4_proves_61 : decode cX4_proves 61 = .ok (.iaload, 1) := dk_46 (dk_at dksX4_proves_2 15 rfl rfl)
theorem dX4_proves_62 : decode cX4_proves 62 = .ok (.if_icmp .ne 7, 3) := dk_160 0 7 (dk_at dksX4_proves_2 16 rfl rfl)
theorem dX4_proves_65 : decode cX4_proves 65 = .ok (.iconst 0, 1) := dk_3 (dk_at dksX4_proves_2 19 rfl rfl)
theorem dX4_proves_66 : decode cX4_proves 66 = .ok (.goto 9, 3) := dk_167 0 9 (dk_at dksX4_proves_2 20 rfl rfl)
theorem dX4_proves_69 : decode cX4_proves 69 = .ok (.iconst 1, 1) := dk_4 (dk_at dksX4_proves_2 23 rfl rfl)
theorem dX4_proves_70 : decode cX4_proves 70 = .ok (.aload_n 0, 1) := dk_42 (dk_at dksX4_proves_3 0 rfl rfl)
theorem dX4_proves_71 : decode cX4_proves 71 = .ok (.getfield 280, 3) := dk_180 1 24 (dk_at dksX4_proves_3 1 rfl rfl)
theorem dX4_proves_74 : decode cX4_proves 74 = .ok (.iadd, 1) := dk_96 (dk_at dksX4_proves_3 4 rfl rfl)
theorem dX4_proves_75 : decode cX4_proves 75 = .ok (.ireturn, 1) := dk_172 (dk_at dksX4_proves_3 5 rfl rfl)
abbrev cX4_isTold : ByteArray := prog_32_method_64_code
def yX4_isTold : MethodName := ⟨RX4, "isTold", "(IIII)Z"⟩
def dkwX4_isTold_7 : List UInt8 := [132, 6, 1, 167, 255, 182, 4, 172]
abbrev dktX4_isTold_7 : List UInt8 := dkwX4_isTold_7 ++ []
def dkwX4_isTold_6 : List UInt8 := [2, 130, 126, 29, 21, 7, 184, 0, 133, 100, 21, 4, 4, 96, 182, 1, 27, 154, 0, 5, 3, 172]
abbrev dktX4_isTold_6 : List UInt8 := dkwX4_isTold_6 ++ dktX4_isTold_7
def dkwX4_isTold_5 : List UInt8 := [167, 0, 12, 42, 180, 0, 20, 21, 5, 46, 28, 126, 54, 7, 42, 27, 28, 21, 7, 4, 21, 5, 120, 128]
abbrev dktX4_isTold_5 : List UInt8 := dkwX4_isTold_5 ++ dktX4_isTold_6
def dkwX4_isTold_4 : List UInt8 := [2, 159, 0, 74, 21, 6, 5, 162, 0, 68, 21, 6, 21, 4, 5, 112, 160, 0, 10, 4, 21, 5, 120]
abbrev dktX4_isTold_4 : List UInt8 := dkwX4_isTold_4 ++ dktX4_isTold_5
def dkwX4_isTold_3 : List UInt8 := [28, 182, 0, 228, 154, 0, 5, 3, 172, 42, 89, 180, 1, 24, 4, 96, 181, 1, 24, 3, 54, 6, 21, 5]
abbrev dktX4_isTold_3 : List UInt8 := dkwX4_isTold_3 ++ dktX4_isTold_4
def dkwX4_isTold_2 : List UInt8 := [167, 0, 31, 42, 21, 5, 182, 0, 145, 153, 0, 22, 28, 21, 5, 184, 0, 118, 153, 0, 13, 42, 21, 5]
abbrev dktX4_isTold_2 : List UInt8 := dkwX4_isTold_2 ++ dktX4_isTold_3
def dkwX4_isTold_1 : List UInt8 := [180, 1, 24, 96, 46, 54, 5, 21, 5, 2, 160, 0, 17, 42, 28, 182, 0, 203, 5, 29, 104, 163, 0, 36]
abbrev dktX4_isTold_1 : List UInt8 := dkwX4_isTold_1 ++ dktX4_isTold_2
def dkwX4_isTold_0 : List UInt8 := [42, 180, 1, 24, 42, 180, 0, 100, 27, 46, 161, 0, 5, 3, 172, 42, 180, 0, 103, 16, 60, 27, 104, 42]
abbrev dktX4_isTold_0 : List UInt8 := dkwX4_isTold_0 ++ dktX4_isTold_1
theorem dksX4_isTold_0 : cX4_isTold.data.toList.drop 0 = dktX4_isTold_0 := by decide +kernel
theorem dksX4_isTold_1 : cX4_isTold.data.toList.drop 24 = dktX4_isTold_1 := dk_seg dksX4_isTold_0 24 rfl rfl
theorem dksX4_isTold_2 : cX4_isTold.data.toList.drop 48 = dktX4_isTold_2 := dk_seg dksX4_isTold_1 24 rfl rfl
theorem dksX4_isTold_3 : cX4_isTold.data.toList.drop 72 = dktX4_isTold_3 := dk_seg dksX4_isTold_2 24 rfl rfl
theorem dksX4_isTold_4 : cX4_isTold.data.toList.drop 96 = dktX4_isTold_4 := dk_seg dksX4_isTold_3 24 rfl rfl
theorem dksX4_isTold_5 : cX4_isTold.data.toList.drop 119 = dktX4_isTold_5 := dk_seg dksX4_isTold_4 23 rfl rfl
theorem dksX4_isTold_6 : cX4_isTold.data.toList.drop 143 = dktX4_isTold_6 := dk_seg dksX4_isTold_5 24 rfl rfl
theorem dksX4_isTold_7 : cX4_isTold.data.toList.drop 165 = dktX4_isTold_7 := dk_seg dksX4_isTold_6 22 rfl rfl
theorem dX4_isTold_0 : decode cX4_isTold 0 = .ok (.aload_n 0, 1) := dk_42 (dk_at dksX4_isTold_0 0 rfl rfl)
theorem dX4_isTold_1 : decode cX4_isTold 1 = .ok (.getfield 280, 3) := dk_180 1 24 (dk_at dksX4_isTold_0 1 rfl rfl)
theorem dX4_isTold_4 : decode cX4_isTold 4 = .ok (.aload_n 0, 1) := dk_42 (dk_at dksX4_isTold_0 4 rfl rfl)
theorem dX4_isTold_5 : decode cX4_isTold 5 = .ok (.getfield 100, 3) := dk_180 0 100 (dk_at dksX4_isTold_0 5 rfl rfl)
theorem dX4_isTold_8 : decode cX4_isTold 8 = .ok (.iload_n 1, 1) := dk_27 (dk_at dksX4_isTold_0 8 rfl rfl)
theorem dX4_isTold_9 : decode cX4_isTold 9 = .ok (.iaload, 1) := dk_46 (dk_at dksX4_isTold_0 9 rfl rfl)
theorem dX4_isTold_10 : decode cX4_isTold 10 = .ok (.if_icmp .lt 5, 3) := dk_161 0 5 (dk_at dksX4_isTold_0 10 rfl rfl)
theorem dX4_isTold_13 : decode cX4_isTold 13 = .ok (.iconst 0, 1) := dk_3 (dk_at dksX4_isTold_0 13 rfl rfl)
theorem dX4_isTold_14 : decode cX4_isTold 14 = .ok (.ireturn, 1) := dk_172 (dk_at dksX4_isTold_0 14 rfl rfl)
theorem dX4_isTold_15 : decode cX4_isTold 15 = .ok (.aload_n 0, 1) := dk_42 (dk_at dksX4_isTold_0 15 rfl rfl)
theorem dX4_isTold_16 : decode cX4_isTold 16 = .ok (.getfield 103, 3) := dk_180 0 103 (dk_at dksX4_isTold_0 16 rfl rfl)
theorem dX4_isTold_19 : decode cX4_isTold 19 = .ok (.bipush 60, 2) := dk_16 60 (dk_at dksX4_isTold_0 19 rfl rfl)
theorem dX4_isTold_21 : decode cX4_isTold 21 = .ok (.iload_n 1, 1) := dk_27 (dk_at dksX4_isTold_0 21 rfl rfl)
theorem dX4_isTold_22 : decode cX4_isTold 22 = .ok (.imul, 1) := dk_104 (dk_at dksX4_isTold_0 22 rfl rfl)
theorem dX4_isTold_23 : decode cX4_isTold 23 = .ok (.aload_n 0, 1) := dk_42 (dk_at dksX4_isTold_0 23 rfl rfl)
theorem dX4_isTold_24 : decode cX4_isTold 24 = .ok (.getfield 280, 3) := dk_180 1 24 (dk_at dksX4_isTold_1 0 rfl rfl)
theorem dX4_isTold_27 : decode cX4_isTold 27 = .ok (.iadd, 1) := dk_96 (dk_at dksX4_isTold_1 3 rfl rfl)
theorem dX4_isTold_28 : decode cX4_isTold 28 = .ok (.iaload, 1) := dk_46 (dk_at dksX4_isTold_1 4 rfl rfl)
theorem dX4_isTold_29 : decode cX4_isTold 29 = .ok (.istore 5, 2) := dk_54 5 (dk_at dksX4_isTold_1 5 rfl rfl)
theorem dX4_isTold_31 : decode cX4_isTold 31 = .ok (.iload 5, 2) := dk_21 5 (dk_at dksX4_isTold_1 7 rfl rfl)
theorem dX4_isTold_33 : decode cX4_isTold 33 = .ok (.iconst (-1), 1) := dk_2 (dk_at dksX4_isTold_1 9 rfl rfl)
theorem dX4_isTold_34 : decode cX4_isTold 34 = .ok (.if_icmp .ne 17, 3) := dk_160 0 17 (dk_at dksX4_isTold_1 10 rfl rfl)
theorem dX4_isTold_37 : decode cX4_isTold 37 = .ok (.aload_n 0, 1) := dk_42 (dk_at dksX4_isTold_1 13 rfl rfl)
theorem dX4_isTold_38 : decode cX4_isTold 38 = .ok (.iload_n 2, 1) := dk_28 (dk_at dksX4_isTold_1 14 rfl rfl)
theorem dX4_isTold_39 : decode cX4_isTold 39 = .ok (.invokevirtual 203, 3) := dk_182 0 203 (dk_at dksX4_isTold_1 15 rfl rfl)
theorem dX4_isTold_42 : decode cX4_isTold 42 = .ok (.iconst 2, 1) := dk_5 (dk_at dksX4_isTold_1 18 rfl rfl)
theorem dX4_isTold_43 : decode cX4_isTold 43 = .ok (.iload_n 3, 1) := dk_29 (dk_at dksX4_isTold_1 19 rfl rfl)
theorem dX4_isTold_44 : decode cX4_isTold 44 = .ok (.imul, 1) := dk_104 (dk_at dksX4_isTold_1 20 rfl rfl)
theorem dX4_isTold_45 : decode cX4_isTold 45 = .ok (.if_icmp .gt 36, 3) := dk_163 0 36 (dk_at dksX4_isTold_1 21 rfl rfl)
theorem dX4_isTold_48 : decode cX4_isTold 48 = .ok (.goto 31, 3) := dk_167 0 31 (dk_at dksX4_isTold_2 0 rfl rfl)
theorem dX4_isTold_51 : decode cX4_isTold 51 = .ok (.aload_n 0, 1) := dk_42 (dk_at dksX4_isTold_2 3 rfl rfl)
theorem dX4_isTold_52 : decode cX4_isTold 52 = .ok (.iload 5, 2) := dk_21 5 (dk_at dksX4_isTold_2 4 rfl rfl)
theorem dX4_isTold_54 : decode cX4_isTold 54 = .ok (.invokevirtual 145, 3) := dk_182 0 145 (dk_at dksX4_isTold_2 6 rfl rfl)
theorem dX4_isTold_57 : decode cX4_isTold 57 = .ok (.ifCond .eq 22, 3) := dk_153 0 22 (dk_at dksX4_isTold_2 9 rfl rfl)
theorem dX4_isTold_60 : decode cX4_isTold 60 = .ok (.iload_n 2, 1) := dk_28 (dk_at dksX4_isTold_2 12 rfl rfl)
theorem dX4_isTold_61 : decode cX4_isTold 61 = .ok (.iload 5, 2) := dk_21 5 (dk_at dksX4_isTold_2 13 rfl rfl)
theorem dX4_isTold_63 : decode cX4_isTold 63 = .ok (.invokestatic 118, 3) := dk_184 0 118 (dk_at dksX4_isTold_2 15 rfl rfl)
theorem dX4_isTold_66 : decode cX4_isTold 66 = .ok (.ifCond .eq 13, 3) := dk_153 0 13 (dk_at dksX4_isTold_2 18 rfl rfl)
theorem dX4_isTold_69 : decode cX4_isTold 69 = .ok (.aload_n 0, 1) := dk_42 (dk_at dksX4_isTold_2 21 rfl rfl)
theorem dX4_isTold_70 : decode cX4_isTold 70 = .ok (.iload 5, 2) := dk_21 5 (dk_at dksX4_isTold_2 22 rfl rfl)
theorem dX4_isTold_72 : decode cX4_isTold 72 = .ok (.iload_n 2, 1) := dk_28 (dk_at dksX4_isTold_3 0 rfl rfl)
theorem dX4_isTold_73 : decode cX4_isTold 73 = .ok (.invokevirtual 228, 3) := dk_182 0 228 (dk_at dksX4_isTold_3 1 rfl rfl)
theorem dX4_isTold_76 : decode cX4_isTold 76 = .ok (.ifCond .ne 5, 3) := dk_154 0 5 (dk_at dksX4_isTold_3 4 rfl rfl)
theorem dX4_isTold_79 : decode cX4_isTold 79 = .ok (.iconst 0, 1) := dk_3 (dk_at dksX4_isTold_3 7 rfl rfl)
theorem dX4_isTold_80 : decode cX4_isTold 80 = .ok (.ireturn, 1) := dk_172 (dk_at dksX4_isTold_3 8 rfl rfl)
theorem dX4_isTold_81 : decode cX4_isTold 81 = .ok (.aload_n 0, 1) := dk_42 (dk_at dksX4_isTold_3 9 rfl rfl)
theorem dX4_isTold_82 : decode cX4_isTold 82 = .ok (.dup, 1) := dk_89 (dk_at dksX4_isTold_3 10 rfl rfl)
theorem dX4_isTold_83 : decode cX4_isTold 83 = .ok (.getfield 280, 3) := dk_180 1 24 (dk_at dksX4_isTold_3 11 rfl rfl)
theorem dX4_isTold_86 : decode cX4_isTold 86 = .ok (.iconst 1, 1) := dk_4 (dk_at dksX4_isTold_3 14 rfl rfl)
theorem dX4_isTold_87 : decode cX4_isTold 87 = .ok (.iadd, 1) := dk_96 (dk_at dksX4_isTold_3 15 rfl rfl)
theorem dX4_isTold_88 : decode cX4_isTold 88 = .ok (.putfield 280, 3) := dk_181 1 24 (dk_at dksX4_isTold_3 16 rfl rfl)
theorem dX4_isTold_91 : decode cX4_isTold 91 = .ok (.iconst 0, 1) := dk_3 (dk_at dksX4_isTold_3 19 rfl rfl)
theorem dX4_isTold_92 : decode cX4_isTold 92 = .ok (.istore 6, 2) := dk_54 6 (dk_at dksX4_isTold_3 20 rfl rfl)
theorem dX4_isTold_94 : decode cX4_isTold 94 = .ok (.iload 5, 2) := dk_21 5 (dk_at dksX4_isTold_3 22 rfl rfl)
theorem dX4_isTold_96 : decode cX4_isTold 96 = .ok (.iconst (-1), 1) := dk_2 (dk_at dksX4_isTold_4 0 rfl rfl)
theorem dX4_isTold_97 : decode cX4_isTold 97 = .ok (.if_icmp .eq 74, 3) := dk_159 0 74 (dk_at dksX4_isTold_4 1 rfl rfl)
theorem dX4_isTold_100 : decode cX4_isTold 100 = .ok (.iload 6, 2) := dk_21 6 (dk_at dksX4_isTold_4 4 rfl rfl)
theorem dX4_isTold_102 : decode cX4_isTold 102 = .ok (.iconst 2, 1) := dk_5 (dk_at dksX4_isTold_4 6 rfl rfl)
theorem dX4_isTold_103 : decode cX4_isTold 103 = .ok (.if_icmp .ge 68, 3) := dk_162 0 68 (dk_at dksX4_isTold_4 7 rfl rfl)
theorem dX4_isTold_106 : decode cX4_isTold 106 = .ok (.iload 6, 2) := dk_21 6 (dk_at dksX4_isTold_4 10 rfl rfl)
theorem dX4_isTold_108 : decode cX4_isTold 108 = .ok (.iload 4, 2) := dk_21 4 (dk_at dksX4_isTold_4 12 rfl rfl)
theorem dX4_isTold_110 : decode cX4_isTold 110 = .ok (.iconst 2, 1) := dk_5 (dk_at dksX4_isTold_4 14 rfl rfl)
theorem dX4_isTold_111 : decode cX4_isTold 111 = .ok (.irem, 1) := dk_112 (dk_at dksX4_isTold_4 15 rfl rfl)
theorem dX4_isTold_112 : decode cX4_isTold 112 = .ok (.if_icmp .ne 10, 3) := dk_160 0 10 (dk_at dksX4_isTold_4 16 rfl rfl)
theorem dX4_isTold_115 : decode cX4_isTold 115 = .ok (.iconst 1, 1) := dk_4 (dk_at dksX4_isTold_4 19 rfl rfl)
theorem dX4_isTold_116 : decode cX4_isTold 116 = .ok (.iload 5, 2) := dk_21 5 (dk_at dksX4_isTold_4 20 rfl rfl)
theorem dX4_isTold_118 : decode cX4_isTold 118 = .ok (.ishl, 1) := dk_120 (dk_at dksX4_isTold_4 22 rfl rfl)
theorem dX4_isTold_119 : decode cX4_isTold 119 = .ok (.goto 12, 3) := dk_167 0 12 (dk_at dksX4_isTold_5 0 rfl rfl)
theorem dX4_isTold_122 : decode cX4_isTold 122 = .ok (.aload_n 0, 1) := dk_42 (dk_at dksX4_isTold_5 3 rfl rfl)
theorem dX4_isTold_123 : decode cX4_isTold 123 = .ok (.getfield 20, 3) := dk_180 0 20 (dk_at dksX4_isTold_5 4 rfl rfl)
theorem dX4_isTold_126 : decode cX4_isTold 126 = .ok (.iload 5, 2) := dk_21 5 (dk_at dksX4_isTold_5 7 rfl rfl)
theorem dX4_isTold_128 : decode cX4_isTold 128 = .ok (.iaload, 1) := dk_46 (dk_at dksX4_isTold_5 9 rfl rfl)
theorem dX4_isTold_129 : decode cX4_isTold 129 = .ok (.iload_n 2, 1) := dk_28 (dk_at dksX4_isTold_5 10 rfl rfl)
theorem dX4_isTold_130 : decode cX4_isTold 130 = .ok (.iand, 1) := dk_126 (dk_at dksX4_isTold_5 11 rfl rfl)
theorem dX4_isTold_131 : decode cX4_isTold 131 = .ok (.istore 7, 2) := dk_54 7 (dk_at dksX4_isTold_5 12 rfl rfl)
theorem dX4_isTold_133 : decode cX4_isTold 133 = .ok (.aload_n 0, 1) := dk_42 (dk_at dksX4_isTold_5 14 rfl rfl)
theorem dX4_isTold_134 : decode cX4_isTold 134 = .ok (.iload_n 1, 1) := dk_27 (dk_at dksX4_isTold_5 15 rfl rfl)
theorem dX4_isTold_135 : decode cX4_isTold 135 = .ok (.iload_n 2, 1) := dk_28 (dk_at dksX4_isTold_5 16 rfl rfl)
theorem dX4_isTold_136 : decode cX4_isTold 136 = .ok (.iload 7, 2) := dk_21 7 (dk_at dksX4_isTold_5 17 rfl rfl)
theorem dX4_isTold_138 : decode cX4_isTold 138 = .ok (.iconst 1, 1) := dk_4 (dk_at dksX4_isTold_5 19 rfl rfl)
theorem dX4_isTold_139 : decode cX4_isTold 139 = .ok (.iload 5, 2) := dk_21 5 (dk_at dksX4_isTold_5 20 rfl rfl)
theorem dX4_isTold_141 : decode cX4_isTold 141 = .ok (.ishl, 1) := dk_120 (dk_at dksX4_isTold_5 22 rfl rfl)
theorem dX4_isTold_142 : decode cX4_isTold 142 = .ok (.ior, 1) := dk_128 (dk_at dksX4_isTold_5 23 rfl rfl)
theorem dX4_isTold_143 : decode cX4_isTold 143 = .ok (.iconst (-1), 1) := dk_2 (dk_at dksX4_isTold_6 0 rfl rfl)
theorem dX4_isTold_144 : decode cX4_isTold 144 = .ok (.ixor, 1) := dk_130 (dk_at dksX4_isTold_6 1 rfl rfl)
theorem dX4_isTold_145 : decode cX4_isTold 145 = .ok (.iand, 1) := dk_126 (dk_at dksX4_isTold_6 2 rfl rfl)
theorem dX4_isTold_146 : decode cX4_isTold 146 = .ok (.iload_n 3, 1) := dk_29 (dk_at dksX4_isTold_6 3 rfl rfl)
theorem dX4_isTold_147 : decode cX4_isTold 147 = .ok (.iload 7, 2) := dk_21 7 (dk_at dksX4_isTold_6 4 rfl rfl)
theorem dX4_isTold_149 : decode cX4_isTold 149 = .ok (.invokestatic 133, 3) := dk_184 0 133 (dk_at dksX4_isTold_6 6 rfl rfl)
theorem dX4_isTold_152 : decode cX4_isTold 152 = .ok (.isub, 1) := dk_100 (dk_at dksX4_isTold_6 9 rfl rfl)
theorem dX4_isTold_153 : decode cX4_isTold 153 = .ok (.iload 4, 2) := dk_21 4 (dk_at dksX4_isTold_6 10 rfl rfl)
theorem dX4_isTold_155 : decode cX4_isTold 155 = .ok (.iconst 1, 1) := dk_4 (dk_at dksX4_isTold_6 12 rfl rfl)
theorem dX4_isTold_156 : decode cX4_isTold 156 = .ok (.iadd, 1) := dk_96 (dk_at dksX4_isTold_6 13 rfl rfl)
theorem dX4_isTold_157 : decode cX4_isTold 157 = .ok (.invokevirtual 283, 3) := dk_182 1 27 (dk_at dksX4_isTold_6 14 rfl rfl)
theorem dX4_isTold_160 : decode cX4_isTold 160 = .ok (.ifCond .ne 5, 3) := dk_154 0 5 (dk_at dksX4_isTold_6 17 rfl rfl)
theorem dX4_isTold_163 : decode cX4_isTold 163 = .ok (.iconst 0, 1) := dk_3 (dk_at dksX4_isTold_6 20 rfl rfl)
theorem dX4_isTold_164 : decode cX4_isTold 164 = .ok (.ireturn, 1) := dk_172 (dk_at dksX4_isTold_6 21 rfl rfl)
theorem dX4_isTold_165 : decode cX4_isTold 165 = .ok (.iinc 6 1, 3) := dk_132 6 1 (dk_at dksX4_isTold_7 0 rfl rfl)
theorem dX4_isTold_168 : decode cX4_isTold 168 = .ok (.goto (-74), 3) := dk_167 255 182 (dk_at dksX4_isTold_7 3 rfl rfl)
theorem dX4_isTold_171 : decode cX4_isTold 171 = .ok (.iconst 1, 1) := dk_4 (dk_at dksX4_isTold_7 6 rfl rfl)
theorem dX4_isTold_172 : decode cX4_isTold 172 = .ok (.ireturn, 1) := dk_172 (dk_at dksX4_isTold_7 7 rfl rfl)
abbrev cX4_without : ByteArray := prog_32_method_66_code
def yX4_without : MethodName := ⟨RX4, "without", "(I)I"⟩
def dkwX4_without_3 : List UInt8 := [184, 0, 118, 153, 0, 11, 42, 27, 21, 4, 4, 182, 0, 152, 132, 4, 1, 167, 255, 227, 29, 172]
abbrev dktX4_without_3 : List UInt8 := dkwX4_without_3 ++ []
def dkwX4_without_2 : List UInt8 := [167, 255, 230, 42, 182, 0, 180, 62, 3, 54, 4, 21, 4, 42, 180, 0, 122, 162, 0, 26, 28, 21, 4]
abbrev dktX4_without_2 : List UInt8 := dkwX4_without_2 ++ dktX4_without_3
def dkwX4_without_1 : List UInt8 := [180, 0, 122, 162, 0, 24, 28, 29, 184, 0, 118, 153, 0, 10, 42, 27, 29, 3, 182, 0, 152, 132, 3, 1]
abbrev dktX4_without_1 : List UInt8 := dkwX4_without_1 ++ dktX4_without_2
def dkwX4_without_0 : List UInt8 := [42, 27, 182, 0, 145, 154, 0, 6, 16, 254, 172, 42, 180, 0, 20, 27, 46, 61, 3, 62, 29, 42]
abbrev dktX4_without_0 : List UInt8 := dkwX4_without_0 ++ dktX4_without_1
theorem dksX4_without_0 : cX4_without.data.toList.drop 0 = dktX4_without_0 := by decide +kernel
theorem dksX4_without_1 : cX4_without.data.toList.drop 22 = dktX4_without_1 := dk_seg dksX4_without_0 22 rfl rfl
theorem dksX4_without_2 : cX4_without.data.toList.drop 46 = dktX4_without_2 := dk_seg dksX4_without_1 24 rfl rfl
theorem dksX4_without_3 : cX4_without.data.toList.drop 69 = dktX4_without_3 := dk_seg dksX4_without_2 23 rfl rfl
theorem dX4_without_0 : decode cX4_without 0 = .ok (.aload_n 0, 1) := dk_42 (dk_at dksX4_without_0 0 rfl rfl)
theorem dX4_without_1 : decode cX4_without 1 = .ok (.iload_n 1, 1) := dk_27 (dk_at dksX4_without_0 1 rfl rfl)
theorem dX4_without_2 : decode cX4_without 2 = .ok (.invokevirtual 145, 3) := dk_182 0 145 (dk_at dksX4_without_0 2 rfl rfl)
theorem dX4_without_5 : decode cX4_without 5 = .ok (.ifCond .ne 6, 3) := dk_154 0 6 (dk_at dksX4_without_0 5 rfl rfl)
theorem dX4_without_8 : decode cX4_without 8 = .ok (.bipush (-2), 2) := dk_16 254 (dk_at dksX4_without_0 8 rfl rfl)
theorem dX4_without_10 : decode cX4_without 10 = .ok (.ireturn, 1) := dk_172 (dk_at dksX4_without_0 10 rfl rfl)
theorem dX4_without_11 : decode cX4_without 11 = .ok (.aload_n 0, 1) := dk_42 (dk_at dksX4_without_0 11 rfl rfl)
theorem dX4_without_12 : decode cX4_without 12 = .ok (.getfield 20, 3) := dk_180 0 20 (dk_at dksX4_without_0 12 rfl rfl)
theorem dX4_without_15 : decode cX4_without 15 = .ok (.iload_n 1, 1) := dk_27 (dk_at dksX4_without_0 15 rfl rfl)
theorem dX4_without_16 : decode cX4_without 16 = .ok (.iaload, 1) := dk_46 (dk_at dksX4_without_0 16 rfl rfl)
theorem dX4_without_17 : decode cX4_without 17 = .ok (.istore_n 2, 1) := dk_61 (dk_at dksX4_without_0 17 rfl rfl)
theorem dX4_without_18 : decode cX4_without 18 = .ok (.iconst 0, 1) := dk_3 (dk_at dksX4_without_0 18 rfl rfl)
theorem dX4_without_19 : decode cX4_without 19 = .ok (.istore_n 3, 1) := dk_62 (dk_at dksX4_without_0 19 rfl rfl)
theorem dX4_without_20 : decode cX4_without 20 = .ok (.iload_n 3, 1) := dk_29 (dk_at dksX4_without_0 20 rfl rfl)
theorem dX4_without_21 : decode cX4_without 21 = .ok (.aload_n 0, 1) := dk_42 (dk_at dksX4_without_0 21 rfl rfl)
theorem dX4_without_22 : decode cX4_without 22 = .ok (.getfield 122, 3) := dk_180 0 122 (dk_at dksX4_without_1 0 rfl rfl)
theorem dX4_without_25 : decode cX4_without 25 = .ok (.if_icmp .ge 24, 3) := dk_162 0 24 (dk_at dksX4_without_1 3 rfl rfl)
theorem dX4_without_28 : decode cX4_without 28 = .ok (.iload_n 2, 1) := dk_28 (dk_at dksX4_without_1 6 rfl rfl)
theorem dX4_without_29 : decode cX4_without 29 = .ok (.iload_n 3, 1) := dk_29 (dk_at dksX4_without_1 7 rfl rfl)
theorem dX4_without_30 : decode cX4_without 30 = .ok (.invokestatic 118, 3) := dk_184 0 118 (dk_at dksX4_without_1 8 rfl rfl)
theorem dX4_without_33 : decode cX4_without 33 = .ok (.ifCond .eq 10, 3) := dk_153 0 10 (dk_at dksX4_without_1 11 rfl rfl)
theorem dX4_without_36 : decode cX4_without 36 = .ok (.aload_n 0, 1) := dk_42 (dk_at dksX4_without_1 14 rfl rfl)
theorem dX4_without_37 : decode cX4_without 37 = .ok (.iload_n 1, 1) := dk_27 (dk_at dksX4_without_1 15 rfl rfl)
theorem dX4_without_38 : decode cX4_without 38 = .ok (.iload_n 3, 1) := dk_29 (dk_at dksX4_without_1 16 rfl rfl)
theorem dX4_without_39 : decode cX4_without 39 = .ok (.iconst 0, 1) := dk_3 (dk_at dksX4_without_1 17 rfl rfl)
theorem dX4_without_40 : decode cX4_without 40 = .ok (.invokevirtual 152, 3) := dk_182 0 152 (dk_at dksX4_without_1 18 rfl rfl)
theorem dX4_without_43 : decode cX4_without 43 = .ok (.iinc 3 1, 3) := dk_132 3 1 (dk_at dksX4_without_1 21 rfl rfl)
theorem dX4_without_46 : decode cX4_without 46 = .ok (.goto (-26), 3) := dk_167 255 230 (dk_at dksX4_without_2 0 rfl rfl)
theorem dX4_without_49 : decode cX4_without 49 = .ok (.aload_n 0, 1) := dk_42 (dk_at dksX4_without_2 3 rfl rfl)
theorem dX4_without_50 : decode cX4_without 50 = .ok (.invokevirtual 180, 3) := dk_182 0 180 (dk_at dksX4_without_2 4 rfl rfl)
theorem dX4_without_53 : decode cX4_without 53 = .ok (.istore_n 3, 1) := dk_62 (dk_at dksX4_without_2 7 rfl rfl)
theorem dX4_without_54 : decode cX4_without 54 = .ok (.iconst 0, 1) := dk_3 (dk_at dksX4_without_2 8 rfl rfl)
theorem dX4_without_55 : decode cX4_without 55 = .ok (.istore 4, 2) := dk_54 4 (dk_at dksX4_without_2 9 rfl rfl)
theorem dX4_without_57 : decode cX4_without 57 = .ok (.iload 4, 2) := dk_21 4 (dk_at dksX4_without_2 11 rfl rfl)
theorem dX4_without_59 : decode cX4_without 59 = .ok (.aload_n 0, 1) := dk_42 (dk_at dksX4_without_2 13 rfl rfl)
theorem dX4_without_60 : decode cX4_without 60 = .ok (.getfield 122, 3) := dk_180 0 122 (dk_at dksX4_without_2 14 rfl rfl)
theorem dX4_without_63 : decode cX4_without 63 = .ok (.if_icmp .ge 26, 3) := dk_162 0 26 (dk_at dksX4_without_2 17 rfl rfl)
theorem dX4_without_66 : decode cX4_without 66 = .ok (.iload_n 2, 1) := dk_28 (dk_at dksX4_without_2 20 rfl rfl)
theorem dX4_without_67 : decode cX4_without 67 = .ok (.iload 4, 2) := dk_21 4 (dk_at dksX4_without_2 21 rfl rfl)
theorem dX4_without_69 : decode cX4_without 69 = .ok (.invokestatic 118, 3) := dk_184 0 118 (dk_at dksX4_without_3 0 rfl rfl)
theorem dX4_without_72 : decode cX4_without 72 = .ok (.ifCond .eq 11, 3) := dk_153 0 11 (dk_at dksX4_without_3 3 rfl rfl)
theorem dX4_without_75 : decode cX4_without 75 = .ok (.aload_n 0, 1) := dk_42 (dk_at dksX4_without_3 6 rfl rfl)
theorem dX4_without_76 : decode cX4_without 76 = .ok (.iload_n 1, 1) := dk_27 (dk_at dksX4_without_3 7 rfl rfl)
theorem dX4_without_77 : decode cX4_without 77 = .ok (.iload 4, 2) := dk_21 4 (dk_at dksX4_without_3 8 rfl rfl)
theorem dX4_without_79 : decode cX4_without 79 = .ok (.iconst 1, 1) := dk_4 (dk_at dksX4_without_3 10 rfl rfl)
theorem dX4_without_80 : decode cX4_without 80 = .ok (.invokevirtual 152, 3) := dk_182 0 152 (dk_at dksX4_without_3 11 rfl rfl)
theorem dX4_without_83 : decode cX4_without 83 = .ok (.iinc 4 1, 3) := dk_132 4 1 (dk_at dksX4_without_3 14 rfl rfl)
theorem dX4_without_86 : decode cX4_without 86 = .ok (.goto (-29), 3) := dk_167 255 227 (dk_at dksX4_without_3 17 rfl rfl)
theorem dX4_without_89 : decode cX4_without 89 = .ok (.iload_n 3, 1) := dk_29 (dk_at dksX4_without_3 20 rfl rfl)
theorem dX4_without_90 : decode cX4_without 90 = .ok (.ireturn, 1) := dk_172 (dk_at dksX4_without_3 21 rfl rfl)
abbrev cX4_cut : ByteArray := prog_32_method_68_code
def yX4_cut : MethodName := ⟨RX4, "cut", "(I)I"⟩
def dkwX4_cut_0 : List UInt8 := [27, 3, 4, 184, 0, 125, 153, 0, 13, 42, 4, 2, 27, 182, 1, 31, 167, 0, 5, 16, 254, 172]
abbrev dktX4_cut_0 : List UInt8 := dkwX4_cut_0 ++ []
theorem dksX4_cut_0 : cX4_cut.data.toList.drop 0 = dktX4_cut_0 := by decide +kernel
theorem dX4_cut_0 : decode cX4_cut 0 = .ok (.iload_n 1, 1) := dk_27 (dk_at dksX4_cut_0 0 rfl rfl)
theorem dX4_cut_1 : decode cX4_cut 1 = .ok (.iconst 0, 1) := dk_3 (dk_at dksX4_cut_0 1 rfl rfl)
theorem dX4_cut_2 : decode cX4_cut 2 = .ok (.iconst 1, 1) := dk_4 (dk_at dksX4_cut_0 2 rfl rfl)
theorem dX4_cut_3 : decode cX4_cut 3 = .ok (.invokestatic 125, 3) := dk_184 0 125 (dk_at dksX4_cut_0 3 rfl rfl)
theorem dX4_cut_6 : decode cX4_cut 6 = .ok (.ifCond .eq 13, 3) := dk_153 0 13 (dk_at dksX4_cut_0 6 rfl rfl)
theorem dX4_cut_9 : decode cX4_cut 9 = .ok (.aload_n 0, 1) := dk_42 (dk_at dksX4_cut_0 9 rfl rfl)
theorem dX4_cut_10 : decode cX4_cut 10 = .ok (.iconst 1, 1) := dk_4 (dk_at dksX4_cut_0 10 rfl rfl)
theorem dX4_cut_11 : decode cX4_cut 11 = .ok (.iconst (-1), 1) := dk_2 (dk_at dksX4_cut_0 11 rfl rfl)
theorem dX4_cut_12 : decode cX4_cut 12 = .ok (.iload_n 1, 1) := dk_27 (dk_at dksX4_cut_0 12 rfl rfl)
theorem dX4_cut_13 : decode cX4_cut 13 = .ok (.invokevirtual 287, 3) := dk_182 1 31 (dk_at dksX4_cut_0 13 rfl rfl)
theorem dX4_cut_16 : decode cX4_cut 16 = .ok (.goto 5, 3) := dk_167 0 5 (dk_at dksX4_cut_0 16 rfl rfl)
theorem dX4_cut_19 : decode cX4_cut 19 = .ok (.bipush (-2), 2) := dk_16 254 (dk_at dksX4_cut_0 19 rfl rfl)
theorem dX4_cut_21 : decode cX4_cut 21 = .ok (.ireturn, 1) := dk_172 (dk_at dksX4_cut_0 21 rfl rfl)
abbrev cX4_turning : ByteArray := prog_32_method_67_code
def yX4_turning : MethodName := ⟨RX4, "turning", "(III)I"⟩
def dkwX4_turning_6 : List UInt8 := [21, 6, 172]
abbrev dktX4_turning_6 : List UInt8 := dkwX4_turning_6 ++ []
def dkwX4_turning_5 : List UInt8 := [132, 6, 1, 132, 8, 1, 167, 255, 163, 132, 7, 1, 167, 255, 142, 29, 154, 0, 8, 21, 5, 167, 0, 5]
abbrev dktX4_turning_5 : List UInt8 := dkwX4_turning_5 ++ dktX4_turning_6
def dkwX4_turning_4 : List UInt8 := [167, 0, 27, 21, 5, 2, 160, 0, 14, 16, 12, 21, 7, 104, 21, 8, 96, 167, 0, 5, 21, 5, 54, 5]
abbrev dktX4_turning_4 : List UInt8 := dkwX4_turning_4 ++ dktX4_turning_5
def dkwX4_turning_3 : List UInt8 := [182, 0, 180, 54, 9, 42, 21, 7, 21, 8, 27, 182, 0, 152, 21, 9, 21, 4, 28, 96, 159, 0, 6]
abbrev dktX4_turning_3 : List UInt8 := dkwX4_turning_3 ++ dktX4_turning_4
def dkwX4_turning_2 : List UInt8 := [122, 4, 126, 27, 159, 0, 6, 167, 0, 65, 42, 21, 7, 21, 8, 4, 27, 100, 182, 0, 152, 42]
abbrev dktX4_turning_2 : List UInt8 := dkwX4_turning_2 ++ dktX4_turning_3
def dkwX4_turning_1 : List UInt8 := [21, 7, 4, 96, 54, 8, 21, 8, 42, 180, 0, 122, 162, 0, 90, 42, 180, 0, 20, 21, 7, 46, 21, 8]
abbrev dktX4_turning_1 : List UInt8 := dkwX4_turning_1 ++ dktX4_turning_2
def dkwX4_turning_0 : List UInt8 := [42, 182, 0, 180, 54, 4, 2, 54, 5, 3, 54, 6, 3, 54, 7, 21, 7, 42, 180, 0, 122, 162, 0, 111]
abbrev dktX4_turning_0 : List UInt8 := dkwX4_turning_0 ++ dktX4_turning_1
theorem dksX4_turning_0 : cX4_turning.data.toList.drop 0 = dktX4_turning_0 := by decide +kernel
theorem dksX4_turning_1 : cX4_turning.data.toList.drop 24 = dktX4_turning_1 := dk_seg dksX4_turning_0 24 rfl rfl
theorem dksX4_turning_2 : cX4_turning.data.toList.drop 48 = dktX4_turning_2 := dk_seg dksX4_turning_1 24 rfl rfl
theorem dksX4_turning_3 : cX4_turning.data.toList.drop 70 = dktX4_turning_3 := dk_seg dksX4_turning_2 22 rfl rfl
theorem dksX4_turning_4 : cX4_turning.data.toList.drop 93 = dktX4_turning_4 := dk_seg dksX4_turning_3 23 rfl rfl
theorem dksX4_turning_5 : cX4_turning.data.toList.drop 117 = dktX4_turning_5 := dk_seg dksX4_turning_4 24 rfl rfl
theorem dksX4_turning_6 : cX4_turning.data.toList.drop 141 = dktX4_turning_6 := dk_seg dksX4_turning_5 24 rfl rfl
theorem dX4_turning_0 : decode cX4_turning 0 = .ok (.aload_n 0, 1) := dk_42 (dk_at dksX4_turning_0 0 rfl rfl)
theorem dX4_turning_1 : decode cX4_turning 1 = .ok (.invokevirtual 180, 3) := dk_182 0 180 (dk_at dksX4_turning_0 1 rfl rfl)
theorem dX4_turning_4 : decode cX4_turning 4 = .ok (.istore 4, 2) := dk_54 4 (dk_at dksX4_turning_0 4 rfl rfl)
theorem dX4_turning_6 : decode cX4_turning 6 = .ok (.iconst (-1), 1) := dk_2 (dk_at dksX4_turning_0 6 rfl rfl)
theorem dX4_turning_7 : decode cX4_turning 7 = .ok (.istore 5, 2) := dk_54 5 (dk_at dksX4_turning_0 7 rfl rfl)
theorem dX4_turning_9 : decode cX4_turning 9 = .ok (.iconst 0, 1) := dk_3 (dk_at dksX4_turning_0 9 rfl rfl)
theorem dX4_turning_10 : decode cX4_turning 10 = .ok (.istore 6, 2) := dk_54 6 (dk_at dksX4_turning_0 10 rfl rfl)
theorem dX4_turning_12 : decode cX4_turning 12 = .ok (.iconst 0, 1) := dk_3 (dk_at dksX4_turning_0 12 rfl rfl)
theorem dX4_turning_13 : decode cX4_turning 13 = .ok (.istore 7, 2) := dk_54 7 (dk_at dksX4_turning_0 13 rfl rfl)
theorem dX4_turning_15 : decode cX4_turning 15 = .ok (.iload 7, 2) := dk_21 7 (dk_at dksX4_turning_0 15 rfl rfl)
theorem dX4_turning_17 : decode cX4_turning 17 = .ok (.aload_n 0, 1) := dk_42 (dk_at dksX4_turning_0 17 rfl rfl)
theorem dX4_turning_18 : decode cX4_turning 18 = .ok (.getfield 122, 3) := dk_180 0 122 (dk_at dksX4_turning_0 18 rfl rfl)
theorem dX4_turning_21 : decode cX4_turning 21 = .ok (.if_icmp .ge 111, 3) := dk_162 0 111 (dk_at dksX4_turning_0 21 rfl rfl)
theorem dX4_turning_24 : decode cX4_turning 24 = .ok (.iload 7, 2) := dk_21 7 (dk_at dksX4_turning_1 0 rfl rfl)
theorem dX4_turning_26 : decode cX4_turning 26 = .ok (.iconst 1, 1) := dk_4 (dk_at dksX4_turning_1 2 rfl rfl)
theorem dX4_turning_27 : decode cX4_turning 27 = .ok (.iadd, 1) := dk_96 (dk_at dksX4_turning_1 3 rfl rfl)
theorem dX4_turning_28 : decode cX4_turning 28 = .ok (.istore 8, 2) := dk_54 8 (dk_at dksX4_turning_1 4 rfl rfl)
theorem dX4_turning_30 : decode cX4_turning 30 = .ok (.iload 8, 2) := dk_21 8 (dk_at dksX4_turning_1 6 rfl rfl)
theorem dX4_turning_32 : decode cX4_turning 32 = .ok (.aload_n 0, 1) := dk_42 (dk_at dksX4_turning_1 8 rfl rfl)
theorem dX4_turning_33 : decode cX4_turning 33 = .ok (.getfield 122, 3) := dk_180 0 122 (dk_at dksX4_turning_1 9 rfl rfl)
theorem dX4_turning_36 : decode cX4_turning 36 = .ok (.if_icmp .ge 90, 3) := dk_162 0 90 (dk_at dksX4_turning_1 12 rfl rfl)
theorem dX4_turning_39 : decode cX4_turning 39 = .ok (.aload_n 0, 1) := dk_42 (dk_at dksX4_turning_1 15 rfl rfl)
theorem dX4_turning_40 : decode cX4_turning 40 = .ok (.getfield 20, 3) := dk_180 0 20 (dk_at dksX4_turning_1 16 rfl rfl)
theorem dX4_turning_43 : decode cX4_turning 43 = .ok (.iload 7, 2) := dk_21 7 (dk_at dksX4_turning_1 19 rfl rfl)
theorem dX4_turning_45 : decode cX4_turning 45 = .ok (.iaload, 1) := dk_46 (dk_at dksX4_turning_1 21 rfl rfl)
theorem dX4_turning_46 : decode cX4_turning 46 = .ok (.iload 8, 2) := dk_21 8 (dk_at dksX4_turning_1 22 rfl rfl)
theorem dX4_turning_48 : decode cX4_turning 48 = .ok (.ishr, 1) := dk_122 (dk_at dksX4_turning_2 0 rfl rfl)
theorem dX4_turning_49 : decode cX4_turning 49 = .ok (.iconst 1, 1) := dk_4 (dk_at dksX4_turning_2 1 rfl rfl)
theorem dX4_turning_50 : decode cX4_turning 50 = .ok (.iand, 1) := dk_126 (dk_at dksX4_turning_2 2 rfl rfl)
theorem dX4_turning_51 : decode cX4_turning 51 = .ok (.iload_n 1, 1) := dk_27 (dk_at dksX4_turning_2 3 rfl rfl)
theorem dX4_turning_52 : decode cX4_turning 52 = .ok (.if_icmp .eq 6, 3) := dk_159 0 6 (dk_at dksX4_turning_2 4 rfl rfl)
theorem dX4_turning_55 : decode cX4_turning 55 = .ok (.goto 65, 3) := dk_167 0 65 (dk_at dksX4_turning_2 7 rfl rfl)
theorem dX4_turning_58 : decode cX4_turning 58 = .ok (.aload_n 0, 1) := dk_42 (dk_at dksX4_turning_2 10 rfl rfl)
theorem dX4_turning_59 : decode cX4_turning 59 = .ok (.iload 7, 2) := dk_21 7 (dk_at dksX4_turning_2 11 rfl rfl)
theorem dX4_turning_61 : decode cX4_turning 61 = .ok (.iload 8, 2) := dk_21 8 (dk_at dksX4_turning_2 13 rfl rfl)
theorem dX4_turning_63 : decode cX4_turning 63 = .ok (.iconst 1, 1) := dk_4 (dk_at dksX4_turning_2 15 rfl rfl)
theorem dX4_turning_64 : decode cX4_turning 64 = .ok (.iload_n 1, 1) := dk_27 (dk_at dksX4_turning_2 16 rfl rfl)
theorem dX4_turning_65 : decode cX4_turning 65 = .ok (.isub, 1) := dk_100 (dk_at dksX4_turning_2 17 rfl rfl)
theorem dX4_turning_66 : decode cX4_turning 66 = .ok (.invokevirtual 152, 3) := dk_182 0 152 (dk_at dksX4_turning_2 18 rfl rfl)
theorem dX4_turning_69 : decode cX4_turning 69 = .ok (.aload_n 0, 1) := dk_42 (dk_at dksX4_turning_2 21 rfl rfl)
theorem dX4_turning_70 : decode cX4_turning 70 = .ok (.invokevirtual 180, 3) := dk_182 0 180 (dk_at dksX4_turning_3 0 rfl rfl)
theorem dX4_turning_73 : decode cX4_turning 73 = .ok (.istore 9, 2) := dk_54 9 (dk_at dksX4_turning_3 3 rfl rfl)
theorem dX4_turning_75 : decode cX4_turning 75 = .ok (.aload_n 0, 1) := dk_42 (dk_at dksX4_turning_3 5 rfl rfl)
theorem dX4_turning_76 : decode cX4_turning 76 = .ok (.iload 7, 2) := dk_21 7 (dk_at dksX4_turning_3 6 rfl rfl)
theorem dX4_turning_78 : decode cX4_turning 78 = .ok (.iload 8, 2) := dk_21 8 (dk_at dksX4_turning_3 8 rfl rfl)
theorem dX4_turning_80 : decode cX4_turning 80 = .ok (.iload_n 1, 1) := dk_27 (dk_at dksX4_turning_3 10 rfl rfl)
theorem dX4_turning_81 : decode cX4_turning 81 = .ok (.invokevirtual 152, 3) := dk_182 0 152 (dk_at dksX4_turning_3 11 rfl rfl)
theorem dX4_turning_84 : decode cX4_turning 84 = .ok (.iload 9, 2) := dk_21 9 (dk_at dksX4_turning_3 14 rfl rfl)
theorem dX4_turning_86 : decode cX4_turning 86 = .ok (.iload 4, 2) := dk_21 4 (dk_at dksX4_turning_3 16 rfl rfl)
theorem dX4_turning_88 : decode cX4_turning 88 = .ok (.iload_n 2, 1) := dk_28 (dk_at dksX4_turning_3 18 rfl rfl)
theorem dX4_turning_89 : decode cX4_turning 89 = .ok (.iadd, 1) := dk_96 (dk_at dksX4_turning_3 19 rfl rfl)
theorem dX4_turning_90 : decode cX4_turning 90 = .ok (.if_icmp .eq 6, 3) := dk_159 0 6 (dk_at dksX4_turning_3 20 rfl rfl)
theorem dX4_turning_93 : decode cX4_turning 93 = .ok (.goto 27, 3) := dk_167 0 27 (dk_at dksX4_turning_4 0 rfl rfl)
theorem dX4_turning_96 : decode cX4_turning 96 = .ok (.iload 5, 2) := dk_21 5 (dk_at dksX4_turning_4 3 rfl rfl)
theorem dX4_turning_98 : decode cX4_turning 98 = .ok (.iconst (-1), 1) := dk_2 (dk_at dksX4_turning_4 5 rfl rfl)
theorem dX4_turning_99 : decode cX4_turning 99 = .ok (.if_icmp .ne 14, 3) := dk_160 0 14 (dk_at dksX4_turning_4 6 rfl rfl)
theorem dX4_turning_102 : decode cX4_turning 102 = .ok (.bipush 12, 2) := dk_16 12 (dk_at dksX4_turning_4 9 rfl rfl)
theorem dX4_turning_104 : decode cX4_turning 104 = .ok (.iload 7, 2) := dk_21 7 (dk_at dksX4_turning_4 11 rfl rfl)
theorem dX4_turning_106 : decode cX4_turning 106 = .ok (.imul, 1) := dk_104 (dk_at dksX4_turning_4 13 rfl rfl)
theorem dX4_turning_107 : decode cX4_turning 107 = .ok (.iload 8, 2) := dk_21 8 (dk_at dksX4_turning_4 14 rfl rfl)
theorem dX4_turning_109 : decode cX4_turning 109 = .ok (.iadd, 1) := dk_96 (dk_at dksX4_turning_4 16 rfl rfl)
theorem dX4_turning_110 : decode cX4_turning 110 = .ok (.goto 5, 3) := dk_167 0 5 (dk_at dksX4_turning_4 17 rfl rfl)
theorem dX4_turning_113 : decode cX4_turning 113 = .ok (.iload 5, 2) := dk_21 5 (dk_at dksX4_turning_4 20 rfl rfl)
theorem dX4_turning_115 : decode cX4_turning 115 = .ok (.istore 5, 2) := dk_54 5 (dk_at dksX4_turning_4 22 rfl rfl)
theorem dX4_turning_117 : decode cX4_turning 117 = .ok (.iinc 6 1, 3) := dk_132 6 1 (dk_at dksX4_turning_5 0 rfl rfl)
theorem dX4_turning_120 : decode cX4_turning 120 = .ok (.iinc 8 1, 3) := dk_132 8 1 (dk_at dksX4_turning_5 3 rfl rfl)
theorem dX4_turning_123 : decode cX4_turning 123 = .ok (.goto (-93), 3) := dk_167 255 163 (dk_at dksX4_turning_5 6 rfl rfl)
theorem dX4_turning_126 : decode cX4_turning 126 = .ok (.iinc 7 1, 3) := dk_132 7 1 (dk_at dksX4_turning_5 9 rfl rfl)
theorem dX4_turning_129 : decode cX4_turning 129 = .ok (.goto (-114), 3) := dk_167 255 142 (dk_at dksX4_turning_5 12 rfl rfl)
theorem dX4_turning_132 : decode cX4_turning 132 = .ok (.iload_n 3, 1) := dk_29 (dk_at dksX4_turning_5 15 rfl rfl)
theorem dX4_turning_133 : decode cX4_turning 133 = .ok (.ifCond .ne 8, 3) := dk_154 0 8 (dk_at dksX4_turning_5 16 rfl rfl)
theorem dX4_turning_136 : decode cX4_turning 136 = .ok (.iload 5, 2) := dk_21 5 (dk_at dksX4_turning_5 19 rfl rfl)
theorem dX4_turning_138 : decode cX4_turning 138 = .ok (.goto 5, 3) := dk_167 0 5 (dk_at dksX4_turning_5 21 rfl rfl)
theorem dX4_turning_141 : decode cX4_turning 141 = .ok (.iload 6, 2) := dk_21 6 (dk_at dksX4_turning_6 0 rfl rfl)
theorem dX4_turning_143 : decode cX4_turning 143 = .ok (.ireturn, 1) := dk_172 (dk_at dksX4_turning_6 2 rfl rfl)
abbrev cX4_joins : ByteArray := prog_32_method_69_code
def yX4_joins : MethodName := ⟨RX4, "joins", "(I)I"⟩
def dkwX4_joins_0 : List UInt8 := [27, 3, 4, 184, 0, 125, 153, 0, 13, 42, 3, 4, 27, 182, 1, 31, 167, 0, 5, 16, 254, 172]
abbrev dktX4_joins_0 : List UInt8 := dkwX4_joins_0 ++ []
theorem dksX4_joins_0 : cX4_joins.data.toList.drop 0 = dktX4_joins_0 := by decide +kernel
theorem dX4_joins_0 : decode cX4_joins 0 = .ok (.iload_n 1, 1) := dk_27 (dk_at dksX4_joins_0 0 rfl rfl)
theorem dX4_joins_1 : decode cX4_joins 1 = .ok (.iconst 0, 1) := dk_3 (dk_at dksX4_joins_0 1 rfl rfl)
theorem dX4_joins_2 : decode cX4_joins 2 = .ok (.iconst 1, 1) := dk_4 (dk_at dksX4_joins_0 2 rfl rfl)
theorem dX4_joins_3 : decode cX4_joins 3 = .ok (.invokestatic 125, 3) := dk_184 0 125 (dk_at dksX4_joins_0 3 rfl rfl)
theorem dX4_joins_6 : decode cX4_joins 6 = .ok (.ifCond .eq 13, 3) := dk_153 0 13 (dk_at dksX4_joins_0 6 rfl rfl)
theorem dX4_joins_9 : decode cX4_joins 9 = .ok (.aload_n 0, 1) := dk_42 (dk_at dksX4_joins_0 9 rfl rfl)
theorem dX4_joins_10 : decode cX4_joins 10 = .ok (.iconst 0, 1) := dk_3 (dk_at dksX4_joins_0 10 rfl rfl)
theorem dX4_joins_11 : decode cX4_joins 11 = .ok (.iconst 1, 1) := dk_4 (dk_at dksX4_joins_0 11 rfl rfl)
theorem dX4_joins_12 : decode cX4_joins 12 = .ok (.iload_n 1, 1) := dk_27 (dk_at dksX4_joins_0 12 rfl rfl)
theorem dX4_joins_13 : decode cX4_joins 13 = .ok (.invokevirtual 287, 3) := dk_182 1 31 (dk_at dksX4_joins_0 13 rfl rfl)
theorem dX4_joins_16 : decode cX4_joins 16 = .ok (.goto 5, 3) := dk_167 0 5 (dk_at dksX4_joins_0 16 rfl rfl)
theorem dX4_joins_19 : decode cX4_joins 19 = .ok (.bipush (-2), 2) := dk_16 254 (dk_at dksX4_joins_0 19 rfl rfl)
theorem dX4_joins_21 : decode cX4_joins 21 = .ok (.ireturn, 1) := dk_172 (dk_at dksX4_joins_0 21 rfl rfl)
abbrev cX4_pays : ByteArray := prog_32_method_71_code
def yX4_pays : MethodName := ⟨RX4, "pays", "(I)I"⟩
def dkwX4_pays_3 : List UInt8 := [160, 0, 7, 29, 167, 0, 8, 42, 29, 182, 0, 177, 172]
abbrev dktX4_pays_3 : List UInt8 := dkwX4_pays_3 ++ []
def dkwX4_pays_2 : List UInt8 := [167, 0, 4, 3, 128, 62, 132, 4, 1, 167, 255, 223, 27, 154, 0, 7, 28, 167, 0, 17, 27, 4]
abbrev dktX4_pays_2 : List UInt8 := dkwX4_pays_2 ++ dktX4_pays_3
def dkwX4_pays_1 : List UInt8 := [21, 4, 42, 180, 0, 122, 162, 0, 30, 29, 42, 180, 0, 47, 21, 4, 46, 154, 0, 10, 4, 21, 4, 120]
abbrev dktX4_pays_1 : List UInt8 := dkwX4_pays_1 ++ dktX4_pays_2
def dkwX4_pays_0 : List UInt8 := [27, 3, 5, 184, 0, 125, 154, 0, 6, 16, 254, 172, 42, 2, 2, 182, 1, 35, 61, 3, 62, 3, 54, 4]
abbrev dktX4_pays_0 : List UInt8 := dkwX4_pays_0 ++ dktX4_pays_1
theorem dksX4_pays_0 : cX4_pays.data.toList.drop 0 = dktX4_pays_0 := by decide +kernel
theorem dksX4_pays_1 : cX4_pays.data.toList.drop 24 = dktX4_pays_1 := dk_seg dksX4_pays_0 24 rfl rfl
theorem dksX4_pays_2 : cX4_pays.data.toList.drop 48 = dktX4_pays_2 := dk_seg dksX4_pays_1 24 rfl rfl
theorem dksX4_pays_3 : cX4_pays.data.toList.drop 70 = dktX4_pays_3 := dk_seg dksX4_pays_2 22 rfl rfl
theorem dX4_pays_0 : decode cX4_pays 0 = .ok (.iload_n 1, 1) := dk_27 (dk_at dksX4_pays_0 0 rfl rfl)
theorem dX4_pays_1 : decode cX4_pays 1 = .ok (.iconst 0, 1) := dk_3 (dk_at dksX4_pays_0 1 rfl rfl)
theorem dX4_pays_2 : decode cX4_pays 2 = .ok (.iconst 2, 1) := dk_5 (dk_at dksX4_pays_0 2 rfl rfl)
theorem dX4_pays_3 : decode cX4_pays 3 = .ok (.invokestatic 125, 3) := dk_184 0 125 (dk_at dksX4_pays_0 3 rfl rfl)
theorem dX4_pays_6 : decode cX4_pays 6 = .ok (.ifCond .ne 6, 3) := dk_154 0 6 (dk_at dksX4_pays_0 6 rfl rfl)
theorem dX4_pays_9 : decode cX4_pays 9 = .ok (.bipush (-2), 2) := dk_16 254 (dk_at dksX4_pays_0 9 rfl rfl)
theorem dX4_pays_11 : decode cX4_pays 11 = .ok (.ireturn, 1) := dk_172 (dk_at dksX4_pays_0 11 rfl rfl)
theorem dX4_pays_12 : decode cX4_pays 12 = .ok (.aload_n 0, 1) := dk_42 (dk_at dksX4_pays_0 12 rfl rfl)
theorem dX4_pays_13 : decode cX4_pays 13 = .ok (.iconst (-1), 1) := dk_2 (dk_at dksX4_pays_0 13 rfl rfl)
theorem dX4_pays_14 : decode cX4_pays 14 = .ok (.iconst (-1), 1) := dk_2 (dk_at dksX4_pays_0 14 rfl rfl)
theorem dX4_pays_15 : decode cX4_pays 15 = .ok (.invokevirtual 291, 3) := dk_182 1 35 (dk_at dksX4_pays_0 15 rfl rfl)
theorem dX4_pays_18 : decode cX4_pays 18 = .ok (.istore_n 2, 1) := dk_61 (dk_at dksX4_pays_0 18 rfl rfl)
theorem dX4_pays_19 : decode cX4_pays 19 = .ok (.iconst 0, 1) := dk_3 (dk_at dksX4_pays_0 19 rfl rfl)
theorem dX4_pays_20 : decode cX4_pays 20 = .ok (.istore_n 3, 1) := dk_62 (dk_at dksX4_pays_0 20 rfl rfl)
theorem dX4_pays_21 : decode cX4_pays 21 = .ok (.iconst 0, 1) := dk_3 (dk_at dksX4_pays_0 21 rfl rfl)
theorem dX4_pays_22 : decode cX4_pays 22 = .ok (.istore 4, 2) := dk_54 4 (dk_at dksX4_pays_0 22 rfl rfl)
theorem dX4_pays_24 : decode cX4_pays 24 = .ok (.iload 4, 2) := dk_21 4 (dk_at dksX4_pays_1 0 rfl rfl)
theorem dX4_pays_26 : decode cX4_pays 26 = .ok (.aload_n 0, 1) := dk_42 (dk_at dksX4_pays_1 2 rfl rfl)
theorem dX4_pays_27 : decode cX4_pays 27 = .ok (.getfield 122, 3) := dk_180 0 122 (dk_at dksX4_pays_1 3 rfl rfl)
theorem dX4_pays_30 : decode cX4_pays 30 = .ok (.if_icmp .ge 30, 3) := dk_162 0 30 (dk_at dksX4_pays_1 6 rfl rfl)
theorem dX4_pays_33 : decode cX4_pays 33 = .ok (.iload_n 3, 1) := dk_29 (dk_at dksX4_pays_1 9 rfl rfl)
theorem dX4_pays_34 : decode cX4_pays 34 = .ok (.aload_n 0, 1) := dk_42 (dk_at dksX4_pays_1 10 rfl rfl)
theorem dX4_pays_35 : decode cX4_pays 35 = .ok (.getfield 47, 3) := dk_180 0 47 (dk_at dksX4_pays_1 11 rfl rfl)
theorem dX4_pays_38 : decode cX4_pays 38 = .ok (.iload 4, 2) := dk_21 4 (dk_at dksX4_pays_1 14 rfl rfl)
theorem dX4_pays_40 : decode cX4_pays 40 = .ok (.iaload, 1) := dk_46 (dk_at dksX4_pays_1 16 rfl rfl)
theorem dX4_pays_41 : decode cX4_pays 41 = .ok (.ifCond .ne 10, 3) := dk_154 0 10 (dk_at dksX4_pays_1 17 rfl rfl)
theorem dX4_pays_44 : decode cX4_pays 44 = .ok (.iconst 1, 1) := dk_4 (dk_at dksX4_pays_1 20 rfl rfl)
theorem dX4_pays_45 : decode cX4_pays 45 = .ok (.iload 4, 2) := dk_21 4 (dk_at dksX4_pays_1 21 rfl rfl)
theorem dX4_pays_47 : decode cX4_pays 47 = .ok (.ishl, 1) := dk_120 (dk_at dksX4_pays_1 23 rfl rfl)
theorem dX4_pays_48 : decode cX4_pays 48 = .ok (.goto 4, 3) := dk_167 0 4 (dk_at dksX4_pays_2 0 rfl rfl)
theorem dX4_pays_51 : decode cX4_pays 51 = .ok (.iconst 0, 1) := dk_3 (dk_at dksX4_pays_2 3 rfl rfl)
theorem dX4_pays_52 : decode cX4_pays 52 = .ok (.ior, 1) := dk_128 (dk_at dksX4_pays_2 4 rfl rfl)
theorem dX4_pays_53 : decode cX4_pays 53 = .ok (.istore_n 3, 1) := dk_62 (dk_at dksX4_pays_2 5 rfl rfl)
theorem dX4_pays_54 : decode cX4_pays 54 = .ok (.iinc 4 1, 3) := dk_132 4 1 (dk_at dksX4_pays_2 6 rfl rfl)
theorem dX4_pays_57 : decode cX4_pays 57 = .ok (.goto (-33), 3) := dk_167 255 223 (dk_at dksX4_pays_2 9 rfl rfl)
theorem dX4_pays_60 : decode cX4_pays 60 = .ok (.iload_n 1, 1) := dk_27 (dk_at dksX4_pays_2 12 rfl rfl)
theorem dX4_pays_61 : decode cX4_pays 61 = .ok (.ifCond .ne 7, 3) := dk_154 0 7 (dk_at dksX4_pays_2 13 rfl rfl)
theorem dX4_pays_64 : decode cX4_pays 64 = .ok (.iload_n 2, 1) := dk_28 (dk_at dksX4_pays_2 16 rfl rfl)
theorem dX4_pays_65 : decode cX4_pays 65 = .ok (.goto 17, 3) := dk_167 0 17 (dk_at dksX4_pays_2 17 rfl rfl)
theorem dX4_pays_68 : decode cX4_pays 68 = .ok (.iload_n 1, 1) := dk_27 (dk_at dksX4_pays_2 20 rfl rfl)
theorem dX4_pays_69 : decode cX4_pays 69 = .ok (.iconst 1, 1) := dk_4 (dk_at dksX4_pays_2 21 rfl rfl)
theorem dX4_pays_70 : decode cX4_pays 70 = .ok (.if_icmp .ne 7, 3) := dk_160 0 7 (dk_at dksX4_pays_3 0 rfl rfl)
theorem dX4_pays_73 : decode cX4_pays 73 = .ok (.iload_n 3, 1) := dk_29 (dk_at dksX4_pays_3 3 rfl rfl)
theorem dX4_pays_74 : decode cX4_pays 74 = .ok (.goto 8, 3) := dk_167 0 8 (dk_at dksX4_pays_3 4 rfl rfl)
theorem dX4_pays_77 : decode cX4_pays 77 = .ok (.aload_n 0, 1) := dk_42 (dk_at dksX4_pays_3 7 rfl rfl)
theorem dX4_pays_78 : decode cX4_pays 78 = .ok (.iload_n 3, 1) := dk_29 (dk_at dksX4_pays_3 8 rfl rfl)
theorem dX4_pays_79 : decode cX4_pays 79 = .ok (.invokevirtual 177, 3) := dk_182 0 177 (dk_at dksX4_pays_3 9 rfl rfl)
theorem dX4_pays_82 : decode cX4_pays 82 = .ok (.ireturn, 1) := dk_172 (dk_at dksX4_pays_3 12 rfl rfl)
abbrev cX4_payments : ByteArray := prog_32_method_70_code
def yX4_payments : MethodName := ⟨RX4, "payments", "(II)I"⟩
def dkwX4_payments_8 : List UInt8 := [167, 255, 107, 27, 2, 160, 0, 7, 29, 167, 0, 5, 21, 4, 172]
abbrev dktX4_payments_8 : List UInt8 := dkwX4_payments_8 ++ []
def dkwX4_payments_7 : List UInt8 := [27, 160, 0, 8, 21, 7, 167, 0, 5, 21, 4, 54, 4, 132, 6, 1, 167, 255, 128, 132, 5, 1]
abbrev dktX4_payments_7 : List UInt8 := dkwX4_payments_7 ++ dktX4_payments_8
def dkwX4_payments_6 : List UInt8 := [21, 7, 96, 62, 21, 5, 27, 160, 0, 9, 21, 6, 28, 159, 0, 15, 21, 5, 28, 160, 0, 14, 21, 6]
abbrev dktX4_payments_6 : List UInt8 := dkwX4_payments_6 ++ dktX4_payments_7
def dkwX4_payments_5 : List UInt8 := [180, 0, 47, 21, 5, 92, 46, 21, 7, 100, 79, 42, 180, 0, 47, 21, 6, 92, 46, 21, 7, 100, 79, 29]
abbrev dktX4_payments_5 : List UInt8 := dkwX4_payments_5 ++ dktX4_payments_6
def dkwX4_payments_4 : List UInt8 := [162, 0, 13, 42, 180, 0, 47, 21, 5, 46, 167, 0, 10, 42, 180, 0, 47, 21, 6, 46, 54, 7, 42]
abbrev dktX4_payments_4 : List UInt8 := dkwX4_payments_4 ++ dktX4_payments_5
def dkwX4_payments_3 : List UInt8 := [184, 0, 118, 154, 0, 6, 167, 0, 101, 42, 180, 0, 47, 21, 5, 46, 42, 180, 0, 47, 21, 6, 46]
abbrev dktX4_payments_3 : List UInt8 := dkwX4_payments_3 ++ dktX4_payments_4
def dkwX4_payments_2 : List UInt8 := [21, 5, 4, 96, 54, 6, 21, 6, 42, 180, 0, 122, 162, 0, 125, 42, 180, 0, 20, 21, 5, 46, 21, 6]
abbrev dktX4_payments_2 : List UInt8 := dkwX4_payments_2 ++ dktX4_payments_3
def dkwX4_payments_1 : List UInt8 := [21, 5, 182, 0, 156, 79, 132, 5, 1, 167, 255, 231, 3, 54, 5, 21, 5, 42, 180, 0, 122, 162, 0, 146]
abbrev dktX4_payments_1 : List UInt8 := dkwX4_payments_1 ++ dktX4_payments_2
def dkwX4_payments_0 : List UInt8 := [3, 62, 3, 54, 4, 3, 54, 5, 21, 5, 42, 180, 0, 122, 162, 0, 22, 42, 180, 0, 47, 21, 5, 42]
abbrev dktX4_payments_0 : List UInt8 := dkwX4_payments_0 ++ dktX4_payments_1
theorem dksX4_payments_0 : cX4_payments.data.toList.drop 0 = dktX4_payments_0 := by decide +kernel
theorem dksX4_payments_1 : cX4_payments.data.toList.drop 24 = dktX4_payments_1 := dk_seg dksX4_payments_0 24 rfl rfl
theorem dksX4_payments_2 : cX4_payments.data.toList.drop 48 = dktX4_payments_2 := dk_seg dksX4_payments_1 24 rfl rfl
theorem dksX4_payments_3 : cX4_payments.data.toList.drop 72 = dktX4_payments_3 := dk_seg dksX4_payments_2 24 rfl rfl
theorem dksX4_payments_4 : cX4_payments.data.toList.drop 95 = dktX4_payments_4 := dk_seg dksX4_payments_3 23 rfl rfl
theorem dksX4_payments_5 : cX4_payments.data.toList.drop 118 = dktX4_payments_5 := dk_seg dksX4_payments_4 23 rfl rfl
theorem dksX4_payments_6 : cX4_payments.data.toList.drop 142 = dktX4_payments_6 := dk_seg dksX4_payments_5 24 rfl rfl
theorem dksX4_payments_7 : cX4_payments.data.toList.drop 166 = dktX4_payments_7 := dk_seg dksX4_payments_6 24 rfl rfl
theorem dksX4_payments_8 : cX4_payments.data.toList.drop 188 = dktX4_payments_8 := dk_seg dksX4_payments_7 22 rfl rfl
theorem dX4_payments_0 : decode cX4_payments 0 = .ok (.iconst 0, 1) := dk_3 (dk_at dksX4_payments_0 0 rfl rfl)
theorem dX4_payments_1 : decode cX4_payments 1 = .ok (.istore_n 3, 1) := dk_62 (dk_at dksX4_payments_0 1 rfl rfl)
theorem dX4_payments_2 : decode cX4_payments 2 = .ok (.iconst 0, 1) := dk_3 (dk_at dksX4_payments_0 2 rfl rfl)
theorem dX4_payments_3 : decode cX4_payments 3 = .ok (.istore 4, 2) := dk_54 4 (dk_at dksX4_payments_0 3 rfl rfl)
theorem dX4_payments_5 : decode cX4_payments 5 = .ok (.iconst 0, 1) := dk_3 (dk_at dksX4_payments_0 5 rfl rfl)
theorem dX4_payments_6 : decode cX4_payments 6 = .ok (.istore 5, 2) := dk_54 5 (dk_at dksX4_payments_0 6 rfl rfl)
theorem dX4_payments_8 : decode cX4_payments 8 = .ok (.iload 5, 2) := dk_21 5 (dk_at dksX4_payments_0 8 rfl rfl)
theorem dX4_payments_10 : decode cX4_payments 10 = .ok (.aload_n 0, 1) := dk_42 (dk_at dksX4_payments_0 10 rfl rfl)
theorem dX4_payments_11 : decode cX4_payments 11 = .ok (.getfield 122, 3) := dk_180 0 122 (dk_at dksX4_payments_0 11 rfl rfl)
theorem dX4_payments_14 : decode cX4_payments 14 = .ok (.if_icmp .ge 22, 3) := dk_162 0 22 (dk_at dksX4_payments_0 14 rfl rfl)
theorem dX4_payments_17 : decode cX4_payments 17 = .ok (.aload_n 0, 1) := dk_42 (dk_at dksX4_payments_0 17 rfl rfl)
theorem dX4_payments_18 : decode cX4_payments 18 = .ok (.getfield 47, 3) := dk_180 0 47 (dk_at dksX4_payments_0 18 rfl rfl)
theorem dX4_payments_21 : decode cX4_payments 21 = .ok (.iload 5, 2) := dk_21 5 (dk_at dksX4_payments_0 21 rfl rfl)
theorem dX4_payments_23 : decode cX4_payments 23 = .ok (.aload_n 0, 1) := dk_42 (dk_at dksX4_payments_0 23 rfl rfl)
theorem dX4_payments_24 : decode cX4_payments 24 = .ok (.iload 5, 2) := dk_21 5 (dk_at dksX4_payments_1 0 rfl rfl)
theorem dX4_payments_26 : decode cX4_payments 26 = .ok (.invokevirtual 156, 3) := dk_182 0 156 (dk_at dksX4_payments_1 2 rfl rfl)
theorem dX4_payments_29 : decode cX4_payments 29 = .ok (.iastore, 1) := dk_79 (dk_at dksX4_payments_1 5 rfl rfl)
theorem dX4_payments_30 : decode cX4_payments 30 = .ok (.iinc 5 1, 3) := dk_132 5 1 (dk_at dksX4_payments_1 6 rfl rfl)
theorem dX4_payments_33 : decode cX4_payments 33 = .ok (.goto (-25), 3) := dk_167 255 231 (dk_at dksX4_payments_1 9 rfl rfl)
theorem dX4_payments_36 : decode cX4_payments 36 = .ok (.iconst 0, 1) := dk_3 (dk_at dksX4_payments_1 12 rfl rfl)
theorem dX4_payments_37 : decode cX4_payments 37 = .ok (.istore 5, 2) := dk_54 5 (dk_at dksX4_payments_1 13 rfl rfl)
theorem dX4_payments_39 : decode cX4_payments 39 = .ok (.iload 5, 2) := dk_21 5 (dk_at dksX4_payments_1 15 rfl rfl)
theorem dX4_payments_41 : decode cX4_payments 41 = .ok (.aload_n 0, 1) := dk_42 (dk_at dksX4_payments_1 17 rfl rfl)
theorem dX4_payments_42 : decode cX4_payments 42 = .ok (.getfield 122, 3) := dk_180 0 122 (dk_at dksX4_payments_1 18 rfl rfl)
theorem dX4_payments_45 : decode cX4_payments 45 = .ok (.if_icmp .ge 146, 3) := dk_162 0 146 (dk_at dksX4_payments_1 21 rfl rfl)
theorem dX4_payments_48 : decode cX4_payments 48 = .ok (.iload 5, 2) := dk_21 5 (dk_at dksX4_payments_2 0 rfl rfl)
theorem dX4_payments_50 : decode cX4_payments 50 = .ok (.iconst 1, 1) := dk_4 (dk_at dksX4_payments_2 2 rfl rfl)
theorem dX4_payments_51 : decode cX4_payments 51 = .ok (.iadd, 1) := dk_96 (dk_at dksX4_payments_2 3 rfl rfl)
theorem dX4_payments_52 : decode cX4_payments 52 = .ok (.istore 6, 2) := dk_54 6 (dk_at dksX4_payments_2 4 rfl rfl)
theorem dX4_payments_54 : decode cX4_payments 54 = .ok (.iload 6, 2) := dk_21 6 (dk_at dksX4_payments_2 6 rfl rfl)
theorem dX4_payments_56 : decode cX4_payments 56 = .ok (.aload_n 0, 1) := dk_42 (dk_at dksX4_payments_2 8 rfl rfl)
theorem dX4_payments_57 : decode cX4_payments 57 = .ok (.getfield 122, 3) := dk_180 0 122 (dk_at dksX4_payments_2 9 rfl rfl)
theorem dX4_payments_60 : decode cX4_payments 60 = .ok (.if_icmp .ge 125, 3) := dk_162 0 125 (dk_at dksX4_payments_2 12 rfl rfl)
theorem dX4_payments_63 : decode cX4_payments 63 = .ok (.aload_n 0, 1) := dk_42 (dk_at dksX4_payments_2 15 rfl rfl)
theorem dX4_payments_64 : decode cX4_payments 64 = .ok (.getfield 20, 3) := dk_180 0 20 (dk_at dksX4_payments_2 16 rfl rfl)
theorem dX4_payments_67 : decode cX4_payments 67 = .ok (.iload 5, 2) := dk_21 5 (dk_at dksX4_payments_2 19 rfl rfl)
theorem dX4_payments_69 : decode cX4_payments 69 = .ok (.iaload, 1) := dk_46 (dk_at dksX4_payments_2 21 rfl rfl)
theorem dX4_payments_70 : decode cX4_payments 70 = .ok (.iload 6, 2) := dk_21 6 (dk_at dksX4_payments_2 22 rfl rfl)
theorem dX4_payments_72 : decode cX4_payments 72 = .ok (.invokestatic 118, 3) := dk_184 0 118 (dk_at dksX4_payments_3 0 rfl rfl)
theorem dX4_payments_75 : decode cX4_payments 75 = .ok (.ifCond .ne 6, 3) := dk_154 0 6 (dk_at dksX4_payments_3 3 rfl rfl)
theorem dX4_payments_78 : decode cX4_payments 78 = .ok (.goto 101, 3) := dk_167 0 101 (dk_at dksX4_payments_3 6 rfl rfl)
theorem dX4_payments_81 : decode cX4_payments 81 = .ok (.aload_n 0, 1) := dk_42 (dk_at dksX4_payments_3 9 rfl rfl)
theorem dX4_payments_82 : decode cX4_payments 82 = .ok (.getfield 47, 3) := dk_180 0 47 (dk_at dksX4_payments_3 10 rfl rfl)
theorem dX4_payments_85 : decode cX4_payments 85 = .ok (.iload 5, 2) := dk_21 5 (dk_at dksX4_payments_3 13 rfl rfl)
theorem dX4_payments_87 : decode cX4_payments 87 = .ok (.iaload, 1) := dk_46 (dk_at dksX4_payments_3 15 rfl rfl)
theorem dX4_payments_88 : decode cX4_payments 88 = .ok (.aload_n 0, 1) := dk_42 (dk_at dksX4_payments_3 16 rfl rfl)
theorem dX4_payments_89 : decode cX4_payments 89 = .ok (.getfield 47, 3) := dk_180 0 47 (dk_at dksX4_payments_3 17 rfl rfl)
theorem dX4_payments_92 : decode cX4_payments 92 = .ok (.iload 6, 2) := dk_21 6 (dk_at dksX4_payments_3 20 rfl rfl)
theorem dX4_payments_94 : decode cX4_payments 94 = .ok (.iaload, 1) := dk_46 (dk_at dksX4_payments_3 22 rfl rfl)
theorem dX4_payments_95 : decode cX4_payments 95 = .ok (.if_icmp .ge 13, 3) := dk_162 0 13 (dk_at dksX4_payments_4 0 rfl rfl)
theorem dX4_payments_98 : decode cX4_payments 98 = .ok (.aload_n 0, 1) := dk_42 (dk_at dksX4_payments_4 3 rfl rfl)
theorem dX4_payments_99 : decode cX4_payments 99 = .ok (.getfield 47, 3) := dk_180 0 47 (dk_at dksX4_payments_4 4 rfl rfl)
theorem dX4_payments_102 : decode cX4_payments 102 = .ok (.iload 5, 2) := dk_21 5 (dk_at dksX4_payments_4 7 rfl rfl)
theorem dX4_payments_104 : decode cX4_payments 104 = .ok (.iaload, 1) := dk_46 (dk_at dksX4_payments_4 9 rfl rfl)
theorem dX4_payments_105 : decode cX4_payments 105 = .ok (.goto 10, 3) := dk_167 0 10 (dk_at dksX4_payments_4 10 rfl rfl)
theorem dX4_payments_108 : decode cX4_payments 108 = .ok (.aload_n 0, 1) := dk_42 (dk_at dksX4_payments_4 13 rfl rfl)
theorem dX4_payments_109 : decode cX4_payments 109 = .ok (.getfield 47, 3) := dk_180 0 47 (dk_at dksX4_payments_4 14 rfl rfl)
theorem dX4_payments_112 : decode cX4_payments 112 = .ok (.iload 6, 2) := dk_21 6 (dk_at dksX4_payments_4 17 rfl rfl)
theorem dX4_payments_114 : decode cX4_payments 114 = .ok (.iaload, 1) := dk_46 (dk_at dksX4_payments_4 19 rfl rfl)
theorem dX4_payments_115 : decode cX4_payments 115 = .ok (.istore 7, 2) := dk_54 7 (dk_at dksX4_payments_4 20 rfl rfl)
theorem dX4_payments_117 : decode cX4_payments 117 = .ok (.aload_n 0, 1) := dk_42 (dk_at dksX4_payments_4 22 rfl rfl)
theorem dX4_payments_118 : decode cX4_payments 118 = .ok (.getfield 47, 3) := dk_180 0 47 (dk_at dksX4_payments_5 0 rfl rfl)
theorem dX4_payments_121 : decode cX4_payments 121 = .ok (.iload 5, 2) := dk_21 5 (dk_at dksX4_payments_5 3 rfl rfl)
theorem dX4_payments_123 : decode cX4_payments 123 = .ok (.dup2, 1) := dk_92 (dk_at dksX4_payments_5 5 rfl rfl)
theorem dX4_payments_124 : decode cX4_payments 124 = .ok (.iaload, 1) := dk_46 (dk_at dksX4_payments_5 6 rfl rfl)
theorem dX4_payments_125 : decode cX4_payments 125 = .ok (.iload 7, 2) := dk_21 7 (dk_at dksX4_payments_5 7 rfl rfl)
theorem dX4_payments_127 : decode cX4_payments 127 = .ok (.isub, 1) := dk_100 (dk_at dksX4_payments_5 9 rfl rfl)
theorem dX4_payments_128 : decode cX4_payments 128 = .ok (.iastore, 1) := dk_79 (dk_at dksX4_payments_5 10 rfl rfl)
theorem dX4_payments_129 : decode cX4_payments 129 = .ok (.aload_n 0, 1) := dk_42 (dk_at dksX4_payments_5 11 rfl rfl)
theorem dX4_payments_130 : decode cX4_payments 130 = .ok (.getfield 47, 3) := dk_180 0 47 (dk_at dksX4_payments_5 12 rfl rfl)
theorem dX4_payments_133 : decode cX4_payments 133 = .ok (.iload 6, 2) := dk_21 6 (dk_at dksX4_payments_5 15 rfl rfl)
theorem dX4_payments_135 : decode cX4_payments 135 = .ok (.dup2, 1) := dk_92 (dk_at dksX4_payments_5 17 rfl rfl)
theorem dX4_payments_136 : decode cX4_payments 136 = .ok (.iaload, 1) := dk_46 (dk_at dksX4_payments_5 18 rfl rfl)
theorem dX4_payments_137 : decode cX4_payments 137 = .ok (.iload 7, 2) := dk_21 7 (dk_at dksX4_payments_5 19 rfl rfl)
theorem dX4_payments_139 : decode cX4_payments 139 = .ok (.isub, 1) := dk_100 (dk_at dksX4_payments_5 21 rfl rfl)
theorem dX4_payments_140 : decode cX4_payments 140 = .ok (.iastore, 1) := dk_79 (dk_at dksX4_payments_5 22 rfl rfl)
theorem dX4_payments_141 : decode cX4_payments 141 = .ok (.iload_n 3, 1) := dk_29 (dk_at dksX4_payments_5 23 rfl rfl)
theorem dX4_payments_142 : decode cX4_payments 142 = .ok (.iload 7, 2) := dk_21 7 (dk_at dksX4_payments_6 0 rfl rfl)
theorem dX4_payments_144 : decode cX4_payments 144 = .ok (.iadd, 1) := dk_96 (dk_at dksX4_payments_6 2 rfl rfl)
theorem dX4_payments_145 : decode cX4_payments 145 = .ok (.istore_n 3, 1) := dk_62 (dk_at dksX4_payments_6 3 rfl rfl)
theorem dX4_payments_146 : decode cX4_payments 146 = .ok (.iload 5, 2) := dk_21 5 (dk_at dksX4_payments_6 4 rfl rfl)
theorem dX4_payments_148 : decode cX4_payments 148 = .ok (.iload_n 1, 1) := dk_27 (dk_at dksX4_payments_6 6 rfl rfl)
theorem dX4_payments_149 : decode cX4_payments 149 = .ok (.if_icmp .ne 9, 3) := dk_160 0 9 (dk_at dksX4_payments_6 7 rfl rfl)
theorem dX4_payments_152 : decode cX4_payments 152 = .ok (.iload 6, 2) := dk_21 6 (dk_at dksX4_payments_6 10 rfl rfl)
theorem dX4_payments_154 : decode cX4_payments 154 = .ok (.iload_n 2, 1) := dk_28 (dk_at dksX4_payments_6 12 rfl rfl)
theorem dX4_payments_155 : decode cX4_payments 155 = .ok (.if_icmp .eq 15, 3) := dk_159 0 15 (dk_at dksX4_payments_6 13 rfl rfl)
theorem dX4_payments_158 : decode cX4_payments 158 = .ok (.iload 5, 2) := dk_21 5 (dk_at dksX4_payments_6 16 rfl rfl)
theorem dX4_payments_160 : decode cX4_payments 160 = .ok (.iload_n 2, 1) := dk_28 (dk_at dksX4_payments_6 18 rfl rfl)
theorem dX4_payments_161 : decode cX4_payments 161 = .ok (.if_icmp .ne 14, 3) := dk_160 0 14 (dk_at dksX4_payments_6 19 rfl rfl)
theorem dX4_payments_164 : decode cX4_payments 164 = .ok (.iload 6, 2) := dk_21 6 (dk_at dksX4_payments_6 22 rfl rfl)
theorem dX4_payments_166 : decode cX4_payments 166 = .ok (.iload_n 1, 1) := dk_27 (dk_at dksX4_payments_7 0 rfl rfl)
theorem dX4_payments_167 : decode cX4_payments 167 = .ok (.if_icmp .ne 8, 3) := dk_160 0 8 (dk_at dksX4_payments_7 1 rfl rfl)
theorem dX4_payments_170 : decode cX4_payments 170 = .ok (.iload 7, 2) := dk_21 7 (dk_at dksX4_payments_7 4 rfl rfl)
theorem dX4_payments_172 : decode cX4_payments 172 = .ok (.goto 5, 3) := dk_167 0 5 (dk_at dksX4_payments_7 6 rfl rfl)
theorem dX4_payments_175 : decode cX4_payments 175 = .ok (.iload 4, 2) := dk_21 4 (dk_at dksX4_payments_7 9 rfl rfl)
theorem dX4_payments_177 : decode cX4_payments 177 = .ok (.istore 4, 2) := dk_54 4 (dk_at dksX4_payments_7 11 rfl rfl)
theorem dX4_payments_179 : decode cX4_payments 179 = .ok (.iinc 6 1, 3) := dk_132 6 1 (dk_at dksX4_payments_7 13 rfl rfl)
theorem dX4_payments_182 : decode cX4_payments 182 = .ok (.goto (-128), 3) := dk_167 255 128 (dk_at dksX4_payments_7 16 rfl rfl)
theorem dX4_payments_185 : decode cX4_payments 185 = .ok (.iinc 5 1, 3) := dk_132 5 1 (dk_at dksX4_payments_7 19 rfl rfl)
theorem dX4_payments_188 : decode cX4_payments 188 = .ok (.goto (-149), 3) := dk_167 255 107 (dk_at dksX4_payments_8 0 rfl rfl)
theorem dX4_payments_191 : decode cX4_payments 191 = .ok (.iload_n 1, 1) := dk_27 (dk_at dksX4_payments_8 3 rfl rfl)
theorem dX4_payments_192 : decode cX4_payments 192 = .ok (.iconst (-1), 1) := dk_2 (dk_at dksX4_payments_8 4 rfl rfl)
theorem dX4_payments_193 : decode cX4_payments 193 = .ok (.if_icmp .ne 7, 3) := dk_160 0 7 (dk_at dksX4_payments_8 5 rfl rfl)
theorem dX4_payments_196 : decode cX4_payments 196 = .ok (.iload_n 3, 1) := dk_29 (dk_at dksX4_payments_8 8 rfl rfl)
theorem dX4_payments_197 : decode cX4_payments 197 = .ok (.goto 5, 3) := dk_167 0 5 (dk_at dksX4_payments_8 9 rfl rfl)
theorem dX4_payments_200 : decode cX4_payments 200 = .ok (.iload 4, 2) := dk_21 4 (dk_at dksX4_payments_8 12 rfl rfl)
theorem dX4_payments_202 : decode cX4_payments 202 = .ok (.ireturn, 1) := dk_172 (dk_at dksX4_payments_8 14 rfl rfl)
abbrev cX4_paid : ByteArray := prog_32_method_72_code
def yX4_paid : MethodName := ⟨RX4, "paid", "(II)I"⟩
def dkwX4_paid_1 : List UInt8 := [153, 0, 12, 42, 27, 28, 182, 1, 35, 167, 0, 4, 2, 172]
abbrev dktX4_paid_1 : List UInt8 := dkwX4_paid_1 ++ []
def dkwX4_paid_0 : List UInt8 := [42, 27, 28, 182, 0, 149, 154, 0, 8, 16, 254, 167, 0, 26, 42, 180, 0, 20, 27, 46, 28, 184, 0, 118]
abbrev dktX4_paid_0 : List UInt8 := dkwX4_paid_0 ++ dktX4_paid_1
theorem dksX4_paid_0 : cX4_paid.data.toList.drop 0 = dktX4_paid_0 := by decide +kernel
theorem dksX4_paid_1 : cX4_paid.data.toList.drop 24 = dktX4_paid_1 := dk_seg dksX4_paid_0 24 rfl rfl
theorem dX4_paid_0 : decode cX4_paid 0 = .ok (.aload_n 0, 1) := dk_42 (dk_at dksX4_paid_0 0 rfl rfl)
theorem dX4_paid_1 : decode cX4_paid 1 = .ok (.iload_n 1, 1) := dk_27 (dk_at dksX4_paid_0 1 rfl rfl)
theorem dX4_paid_2 : decode cX4_paid 2 = .ok (.iload_n 2, 1) := dk_28 (dk_at dksX4_paid_0 2 rfl rfl)
theorem dX4_paid_3 : decode cX4_paid 3 = .ok (.invokevirtual 149, 3) := dk_182 0 149 (dk_at dksX4_paid_0 3 rfl rfl)
theorem dX4_paid_6 : decode cX4_paid 6 = .ok (.ifCond .ne 8, 3) := dk_154 0 8 (dk_at dksX4_paid_0 6 rfl rfl)
theorem dX4_paid_9 : decode cX4_paid 9 = .ok (.bipush (-2), 2) := dk_16 254 (dk_at dksX4_paid_0 9 rfl rfl)
theorem dX4_paid_11 : decode cX4_paid 11 = .ok (.goto 26, 3) := dk_167 0 26 (dk_at dksX4_paid_0 11 rfl rfl)
theorem dX4_paid_14 : decode cX4_paid 14 = .ok (.aload_n 0, 1) := dk_42 (dk_at dksX4_paid_0 14 rfl rfl)
theorem dX4_paid_15 : decode cX4_paid 15 = .ok (.getfield 20, 3) := dk_180 0 20 (dk_at dksX4_paid_0 15 rfl rfl)
theorem dX4_paid_18 : decode cX4_paid 18 = .ok (.iload_n 1, 1) := dk_27 (dk_at dksX4_paid_0 18 rfl rfl)
theorem dX4_paid_19 : decode cX4_paid 19 = .ok (.iaload, 1) := dk_46 (dk_at dksX4_paid_0 19 rfl rfl)
theorem dX4_paid_20 : decode cX4_paid 20 = .ok (.iload_n 2, 1) := dk_28 (dk_at dksX4_paid_0 20 rfl rfl)
theorem dX4_paid_21 : decode cX4_paid 21 = .ok (.invokestatic 118, 3) := dk_184 0 118 (dk_at dksX4_paid_0 21 rfl rfl)
theorem dX4_paid_24 : decode cX4_paid 24 = .ok (.ifCond .eq 12, 3) := dk_153 0 12 (dk_at dksX4_paid_1 0 rfl rfl)
theorem dX4_paid_27 : decode cX4_paid 27 = .ok (.aload_n 0, 1) := dk_42 (dk_at dksX4_paid_1 3 rfl rfl)
theorem dX4_paid_28 : decode cX4_paid 28 = .ok (.iload_n 1, 1) := dk_27 (dk_at dksX4_paid_1 4 rfl rfl)
theorem dX4_paid_29 : decode cX4_paid 29 = .ok (.iload_n 2, 1) := dk_28 (dk_at dksX4_paid_1 5 rfl rfl)
theorem dX4_paid_30 : decode cX4_paid 30 = .ok (.invokevirtual 291, 3) := dk_182 1 35 (dk_at dksX4_paid_1 6 rfl rfl)
theorem dX4_paid_33 : decode cX4_paid 33 = .ok (.goto 4, 3) := dk_167 0 4 (dk_at dksX4_paid_1 9 rfl rfl)
theorem dX4_paid_36 : decode cX4_paid 36 = .ok (.iconst (-1), 1) := dk_2 (dk_at dksX4_paid_1 12 rfl rfl)
theorem dX4_paid_37 : decode cX4_paid 37 = .ok (.ireturn, 1) := dk_172 (dk_at dksX4_paid_1 13 rfl rfl)
abbrev cX4_feed : ByteArray := prog_32_method_73_code
def yX4_feed : MethodName := ⟨RX4, "feed", "(II)I"⟩
def dkwX4_feed_3 : List UInt8 := [180, 0, 162, 172]
abbrev dktX4_feed_3 : List UInt8 := dkwX4_feed_3 ++ []
def dkwX4_feed_2 : List UInt8 := [122, 17, 0, 255, 126, 79, 42, 89, 180, 0, 162, 4, 96, 181, 0, 162, 132, 3, 255, 167, 255, 220, 42]
abbrev dktX4_feed_2 : List UInt8 := dkwX4_feed_2 ++ dktX4_feed_3
def dkwX4_feed_1 : List UInt8 := [16, 252, 172, 28, 4, 100, 62, 29, 155, 0, 38, 42, 180, 0, 50, 42, 180, 0, 162, 27, 16, 8, 29, 104]
abbrev dktX4_feed_1 : List UInt8 := dkwX4_feed_1 ++ dktX4_feed_2
def dkwX4_feed_0 : List UInt8 := [28, 4, 7, 184, 0, 125, 154, 0, 6, 16, 254, 172, 42, 180, 0, 162, 28, 96, 17, 0, 200, 164, 0, 6]
abbrev dktX4_feed_0 : List UInt8 := dkwX4_feed_0 ++ dktX4_feed_1
theorem dksX4_feed_0 : cX4_feed.data.toList.drop 0 = dktX4_feed_0 := by decide +kernel
theorem dksX4_feed_1 : cX4_feed.data.toList.drop 24 = dktX4_feed_1 := dk_seg dksX4_feed_0 24 rfl rfl
theorem dksX4_feed_2 : cX4_feed.data.toList.drop 48 = dktX4_feed_2 := dk_seg dksX4_feed_1 24 rfl rfl
theorem dksX4_feed_3 : cX4_feed.data.toList.drop 71 = dktX4_feed_3 := dk_seg dksX4_feed_2 23 rfl rfl
theorem dX4_feed_0 : decode cX4_feed 0 = .ok (.iload_n 2, 1) := dk_28 (dk_at dksX4_feed_0 0 rfl rfl)
theorem dX4_feed_1 : decode cX4_feed 1 = .ok (.iconst 1, 1) := dk_4 (dk_at dksX4_feed_0 1 rfl rfl)
theorem dX4_feed_2 : decode cX4_feed 2 = .ok (.iconst 4, 1) := dk_7 (dk_at dksX4_feed_0 2 rfl rfl)
theorem dX4_feed_3 : decode cX4_feed 3 = .ok (.invokestatic 125, 3) := dk_184 0 125 (dk_at dksX4_feed_0 3 rfl rfl)
theorem dX4_feed_6 : decode cX4_feed 6 = .ok (.ifCond .ne 6, 3) := dk_154 0 6 (dk_at dksX4_feed_0 6 rfl rfl)
theorem dX4_feed_9 : decode cX4_feed 9 = .ok (.bipush (-2), 2) := dk_16 254 (dk_at dksX4_feed_0 9 rfl rfl)
theorem dX4_feed_11 : decode cX4_feed 11 = .ok (.ireturn, 1) := dk_172 (dk_at dksX4_feed_0 11 rfl rfl)
theorem dX4_feed_12 : decode cX4_feed 12 = .ok (.aload_n 0, 1) := dk_42 (dk_at dksX4_feed_0 12 rfl rfl)
theorem dX4_feed_13 : decode cX4_feed 13 = .ok (.getfield 162, 3) := dk_180 0 162 (dk_at dksX4_feed_0 13 rfl rfl)
theorem dX4_feed_16 : decode cX4_feed 16 = .ok (.iload_n 2, 1) := dk_28 (dk_at dksX4_feed_0 16 rfl rfl)
theorem dX4_feed_17 : decode cX4_feed 17 = .ok (.iadd, 1) := dk_96 (dk_at dksX4_feed_0 17 rfl rfl)
theorem dX4_feed_18 : decode cX4_feed 18 = .ok (.sipush 200, 3) := dk_17 0 200 (dk_at dksX4_feed_0 18 rfl rfl)
theorem dX4_feed_21 : decode cX4_feed 21 = .ok (.if_icmp .le 6, 3) := dk_164 0 6 (dk_at dksX4_feed_0 21 rfl rfl)
theorem dX4_feed_24 : decode cX4_feed 24 = .ok (.bipush (-4), 2) := dk_16 252 (dk_at dksX4_feed_1 0 rfl rfl)
theorem dX4_feed_26 : decode cX4_feed 26 = .ok (.ireturn, 1) := dk_172 (dk_at dksX4_feed_1 2 rfl rfl)
theorem dX4_feed_27 : decode cX4_feed 27 = .ok (.iload_n 2, 1) := dk_28 (dk_at dksX4_feed_1 3 rfl rfl)
theorem dX4_feed_28 : decode cX4_feed 28 = .ok (.iconst 1, 1) := dk_4 (dk_at dksX4_feed_1 4 rfl rfl)
theorem dX4_feed_29 : decode cX4_feed 29 = .ok (.isub, 1) := dk_100 (dk_at dksX4_feed_1 5 rfl rfl)
theorem dX4_feed_30 : decode cX4_feed 30 = .ok (.istore_n 3, 1) := dk_62 (dk_at dksX4_feed_1 6 rfl rfl)
theorem dX4_feed_31 : decode cX4_feed 31 = .ok (.iload_n 3, 1) := dk_29 (dk_at dksX4_feed_1 7 rfl rfl)
theorem dX4_feed_32 : decode cX4_feed 32 = .ok (.ifCond .lt 38, 3) := dk_155 0 38 (dk_at dksX4_feed_1 8 rfl rfl)
theorem dX4_feed_35 : decode cX4_feed 35 = .ok (.aload_n 0, 1) := dk_42 (dk_at dksX4_feed_1 11 rfl rfl)
theorem dX4_feed_36 : decode cX4_feed 36 = .ok (.getfield 50, 3) := dk_180 0 50 (dk_at dksX4_feed_1 12 rfl rfl)
theorem dX4_feed_39 : decode cX4_feed 39 = .ok (.aload_n 0, 1) := dk_42 (dk_at dksX4_feed_1 15 rfl rfl)
theorem dX4_feed_40 : decode cX4_feed 40 = .ok (.getfield 162, 3) := dk_180 0 162 (dk_at dksX4_feed_1 16 rfl rfl)
theorem dX4_feed_43 : decode cX4_feed 43 = .ok (.iload_n 1, 1) := dk_27 (dk_at dksX4_feed_1 19 rfl rfl)
theorem dX4_feed_44 : decode cX4_feed 44 = .ok (.bipush 8, 2) := dk_16 8 (dk_at dksX4_feed_1 20 rfl rfl)
theorem dX4_feed_46 : decode cX4_feed 46 = .ok (.iload_n 3, 1) := dk_29 (dk_at dksX4_feed_1 22 rfl rfl)
theorem dX4_feed_47 : decode cX4_feed 47 = .ok (.imul, 1) := dk_104 (dk_at dksX4_feed_1 23 rfl rfl)
theorem dX4_feed_48 : decode cX4_feed 48 = .ok (.ishr, 1) := dk_122 (dk_at dksX4_feed_2 0 rfl rfl)
theorem dX4_feed_49 : decode cX4_feed 49 = .ok (.sipush 255, 3) := dk_17 0 255 (dk_at dksX4_feed_2 1 rfl rfl)
theorem dX4_feed_52 : decode cX4_feed 52 = .ok (.iand, 1) := dk_126 (dk_at dksX4_feed_2 4 rfl rfl)
theorem dX4_feed_53 : decode cX4_feed 53 = .ok (.iastore, 1) := dk_79 (dk_at dksX4_feed_2 5 rfl rfl)
theorem dX4_feed_54 : decode cX4_feed 54 = .ok (.aload_n 0, 1) := dk_42 (dk_at dksX4_feed_2 6 rfl rfl)
theorem dX4_feed_55 : decode cX4_feed 55 = .ok (.dup, 1) := dk_89 (dk_at dksX4_feed_2 7 rfl rfl)
theorem dX4_feed_56 : decode cX4_feed 56 = .ok (.getfield 162, 3) := dk_180 0 162 (dk_at dksX4_feed_2 8 rfl rfl)
theorem dX4_feed_59 : decode cX4_feed 59 = .ok (.iconst 1, 1) := dk_4 (dk_at dksX4_feed_2 11 rfl rfl)
theorem dX4_feed_60 : decode cX4_feed 60 = .ok (.iadd, 1) := dk_96 (dk_at dksX4_feed_2 12 rfl rfl)
theorem dX4_feed_61 : decode cX4_feed 61 = .ok (.putfield 162, 3) := dk_181 0 162 (dk_at dksX4_feed_2 13 rfl rfl)
theorem dX4_feed_64 : decode cX4_feed 64 = .ok (.iinc 3 (-1), 3) := dk_132 3 255 (dk_at dksX4_feed_2 16 rfl rfl)
theorem dX4_feed_67 : decode cX4_feed 67 = .ok (.goto (-36), 3) := dk_167 255 220 (dk_at dksX4_feed_2 19 rfl rfl)
theorem dX4_feed_70 : decode cX4_feed 70 = .ok (.aload_n 0, 1) := dk_42 (dk_at dksX4_feed_2 22 rfl rfl)
theorem dX4_feed_71 : decode cX4_feed 71 = .ok (.getfield 162, 3) := dk_180 0 162 (dk_at dksX4_feed_3 0 rfl rfl)
theorem dX4_feed_74 : decode cX4_feed 74 = .ok (.ireturn, 1) := dk_172 (dk_at dksX4_feed_3 3 rfl rfl)
abbrev cX4_wipe : ByteArray := prog_32_method_74_code
def yX4_wipe : MethodName := ⟨RX4, "wipe", "()I"⟩
def dkwX4_wipe_0 : List UInt8 := [42, 180, 0, 162, 60, 42, 3, 181, 0, 162, 27, 172]
abbrev dktX4_wipe_0 : List UInt8 := dkwX4_wipe_0 ++ []
theorem dksX4_wipe_0 : cX4_wipe.data.toList.drop 0 = dktX4_wipe_0 := by decide +kernel
theorem dX4_wipe_0 : decode cX4_wipe 0 = .ok (.aload_n 0, 1) := dk_42 (dk_at dksX4_wipe_0 0 rfl rfl)
theorem dX4_wipe_1 : decode cX4_wipe 1 = .ok (.getfield 162, 3) := dk_180 0 162 (dk_at dksX4_wipe_0 1 rfl rfl)
theorem dX4_wipe_4 : decode cX4_wipe 4 = .ok (.istore_n 1, 1) := dk_60 (dk_at dksX4_wipe_0 4 rfl rfl)
theorem dX4_wipe_5 : decode cX4_wipe 5 = .ok (.aload_n 0, 1) := dk_42 (dk_at dksX4_wipe_0 5 rfl rfl)
theorem dX4_wipe_6 : decode cX4_wipe 6 = .ok (.iconst 0, 1) := dk_3 (dk_at dksX4_wipe_0 6 rfl rfl)
theorem dX4_wipe_7 : decode cX4_wipe 7 = .ok (.putfield 162, 3) := dk_181 0 162 (dk_at dksX4_wipe_0 7 rfl rfl)
theorem dX4_wipe_10 : decode cX4_wipe 10 = .ok (.iload_n 1, 1) := dk_27 (dk_at dksX4_wipe_0 10 rfl rfl)
theorem dX4_wipe_11 : decode cX4_wipe 11 = .ok (.ireturn, 1) := dk_172 (dk_at dksX4_wipe_0 11 rfl rfl)
abbrev cX4_text : ByteArray := prog_32_method_79_code
def yX4_text : MethodName := ⟨RX4, "text", "()I"⟩
def dkwX4_text_3 : List UInt8 := [180, 0, 68, 28, 46, 79, 132, 2, 1, 167, 255, 209, 42, 180, 0, 165, 172]
abbrev dktX4_text_3 : List UInt8 := dkwX4_text_3 ++ []
def dkwX4_text_2 : List UInt8 := [180, 0, 62, 28, 46, 79, 42, 180, 0, 56, 28, 42, 180, 0, 65, 28, 46, 79, 42, 180, 0, 59, 28, 42]
abbrev dktX4_text_2 : List UInt8 := dkwX4_text_2 ++ dktX4_text_3
def dkwX4_text_1 : List UInt8 := [180, 1, 42, 181, 0, 165, 3, 61, 28, 42, 180, 0, 165, 162, 0, 45, 42, 180, 0, 53, 28, 42]
abbrev dktX4_text_1 : List UInt8 := dkwX4_text_1 ++ dktX4_text_2
def dkwX4_text_0 : List UInt8 := [42, 182, 1, 51, 60, 42, 3, 181, 0, 162, 27, 2, 159, 0, 8, 16, 156, 27, 100, 172, 42, 42]
abbrev dktX4_text_0 : List UInt8 := dkwX4_text_0 ++ dktX4_text_1
theorem dksX4_text_0 : cX4_text.data.toList.drop 0 = dktX4_text_0 := by decide +kernel
theorem dksX4_text_1 : cX4_text.data.toList.drop 22 = dktX4_text_1 := dk_seg dksX4_text_0 22 rfl rfl
theorem dksX4_text_2 : cX4_text.data.toList.drop 44 = dktX4_text_2 := dk_seg dksX4_text_1 22 rfl rfl
theorem dksX4_text_3 : cX4_text.data.toList.drop 68 = dktX4_text_3 := dk_seg dksX4_text_2 24 rfl rfl
theorem dX4_text_0 : decode cX4_text 0 = .ok (.aload_n 0, 1) := dk_42 (dk_at dksX4_text_0 0 rfl rfl)
theorem dX4_text_1 : decode cX4_text 1 = .ok (.invokevirtual 307, 3) := dk_182 1 51 (dk_at dksX4_text_0 1 rfl rfl)
theorem dX4_text_4 : decode cX4_text 4 = .ok (.istore_n 1, 1) := dk_60 (dk_at dksX4_text_0 4 rfl rfl)
theorem dX4_text_5 : decode cX4_text 5 = .ok (.aload_n 0, 1) := dk_42 (dk_at dksX4_text_0 5 rfl rfl)
theorem dX4_text_6 : decode cX4_text 6 = .ok (.iconst 0, 1) := dk_3 (dk_at dksX4_text_0 6 rfl rfl)
theorem dX4_text_7 : decode cX4_text 7 = .ok (.putfield 162, 3) := dk_181 0 162 (dk_at dksX4_text_0 7 rfl rfl)
theorem dX4_text_10 : decode cX4_text 10 = .ok (.iload_n 1, 1) := dk_27 (dk_at dksX4_text_0 10 rfl rfl)
theorem dX4_text_11 : decode cX4_text 11 = .ok (.iconst (-1), 1) := dk_2 (dk_at dksX4_text_0 11 rfl rfl)
theorem dX4_text_12 : decode cX4_text 12 = .ok (.if_icmp .eq 8, 3) := dk_159 0 8 (dk_at dksX4_text_0 12 rfl rfl)
theorem dX4_text_15 : decode cX4_text 15 = .ok (.bipush (-100), 2) := dk_16 156 (dk_at dksX4_text_0 15 rfl rfl)
theorem dX4_text_17 : decode cX4_text 17 = .ok (.iload_n 1, 1) := dk_27 (dk_at dksX4_text_0 17 rfl rfl)
theorem dX4_text_18 : decode cX4_text 18 = .ok (.isub, 1) := dk_100 (dk_at dksX4_text_0 18 rfl rfl)
theorem dX4_text_19 : decode cX4_text 19 = .ok (.ireturn, 1) := dk_172 (dk_at dksX4_text_0 19 rfl rfl)
theorem dX4_text_20 : decode cX4_text 20 = .ok (.aload_n 0, 1) := dk_42 (dk_at dksX4_text_0 20 rfl rfl)
theorem dX4_text_21 : decode cX4_text 21 = .ok (.aload_n 0, 1) := dk_42 (dk_at dksX4_text_0 21 rfl rfl)
theorem dX4_text_22 : decode cX4_text 22 = .ok (.getfield 298, 3) := dk_180 1 42 (dk_at dksX4_text_1 0 rfl rfl)
theorem dX4_text_25 : decode cX4_text 25 = .ok (.putfield 165, 3) := dk_181 0 165 (dk_at dksX4_text_1 3 rfl rfl)
theorem dX4_text_28 : decode cX4_text 28 = .ok (.iconst 0, 1) := dk_3 (dk_at dksX4_text_1 6 rfl rfl)
theorem dX4_text_29 : decode cX4_text 29 = .ok (.istore_n 2, 1) := dk_61 (dk_at dksX4_text_1 7 rfl rfl)
theorem dX4_text_30 : decode cX4_text 30 = .ok (.iload_n 2, 1) := dk_28 (dk_at dksX4_text_1 8 rfl rfl)
theorem dX4_text_31 : decode cX4_text 31 = .ok (.aload_n 0, 1) := dk_42 (dk_at dksX4_text_1 9 rfl rfl)
theorem dX4_text_32 : decode cX4_text 32 = .ok (.getfield 165, 3) := dk_180 0 165 (dk_at dksX4_text_1 10 rfl rfl)
theorem dX4_text_35 : decode cX4_text 35 = .ok (.if_icmp .ge 45, 3) := dk_162 0 45 (dk_at dksX4_text_1 13 rfl rfl)
theorem dX4_text_38 : decode cX4_text 38 = .ok (.aload_n 0, 1) := dk_42 (dk_at dksX4_text_1 16 rfl rfl)
theorem dX4_text_39 : decode cX4_text 39 = .ok (.getfield 53, 3) := dk_180 0 53 (dk_at dksX4_text_1 17 rfl rfl)
theorem dX4_text_42 : decode cX4_text 42 = .ok (.iload_n 2, 1) := dk_28 (dk_at dksX4_text_1 20 rfl rfl)
theorem dX4_text_43 : decode cX4_text 43 = .ok (.aload_n 0, 1) := dk_42 (dk_at dksX4_text_1 21 rfl rfl)
theorem dX4_text_44 : decode cX4_text 44 = .ok (.getfield 62, 3) := dk_180 0 62 (dk_at dksX4_text_2 0 rfl rfl)
theorem dX4_text_47 : decode cX4_text 47 = .ok (.iload_n 2, 1) := dk_28 (dk_at dksX4_text_2 3 rfl rfl)
theorem dX4_text_48 : decode cX4_text 48 = .ok (.iaload, 1) := dk_46 (dk_at dksX4_text_2 4 rfl rfl)
theorem dX4_text_49 : decode cX4_text 49 = .ok (.iastore, 1) := dk_79 (dk_at dksX4_text_2 5 rfl rfl)
theorem dX4_text_50 : decode cX4_text 50 = .ok (.aload_n 0, 1) := dk_42 (dk_at dksX4_text_2 6 rfl rfl)
theorem dX4_text_51 : decode cX4_text 51 = .ok (.getfield 56, 3) := dk_180 0 56 (dk_at dksX4_text_2 7 rfl rfl)
theorem dX4_text_54 : decode cX4_text 54 = .ok (.iload_n 2, 1) := dk_28 (dk_at dksX4_text_2 10 rfl rfl)
theorem dX4_text_55 : decode cX4_text 55 = .ok (.aload_n 0, 1) := dk_42 (dk_at dksX4_text_2 11 rfl rfl)
theorem dX4_text_56 : decode cX4_text 56 = .ok (.getfield 65, 3) := dk_180 0 65 (dk_at dksX4_text_2 12 rfl rfl)
theorem dX4_text_59 : decode cX4_text 59 = .ok (.iload_n 2, 1) := dk_28 (dk_at dksX4_text_2 15 rfl rfl)
theorem dX4_text_60 : decode cX4_text 60 = .ok (.iaload, 1) := dk_46 (dk_at dksX4_text_2 16 rfl rfl)
theorem dX4_text_61 : decode cX4_text 61 = .ok (.iastore, 1) := dk_79 (dk_at dksX4_text_2 17 rfl rfl)
theorem dX4_text_62 : decode cX4_text 62 = .ok (.aload_n 0, 1) := dk_42 (dk_at dksX4_text_2 18 rfl rfl)
theorem dX4_text_63 : decode cX4_text 63 = .ok (.getfield 59, 3) := dk_180 0 59 (dk_at dksX4_text_2 19 rfl rfl)
theorem dX4_text_66 : decode cX4_text 66 = .ok (.iload_n 2, 1) := dk_28 (dk_at dksX4_text_2 22 rfl rfl)
theorem dX4_text_67 : decode cX4_text 67 = .ok (.aload_n 0, 1) := dk_42 (dk_at dksX4_text_2 23 rfl rfl)
theorem dX4_text_68 : decode cX4_text 68 = .ok (.getfield 68, 3) := dk_180 0 68 (dk_at dksX4_text_3 0 rfl rfl)
theorem dX4_text_71 : decode cX4_text 71 = .ok (.iload_n 2, 1) := dk_28 (dk_at dksX4_text_3 3 rfl rfl)
theorem dX4_text_72 : decode cX4_text 72 = .ok (.iaload, 1) := dk_46 (dk_at dksX4_text_3 4 rfl rfl)
theorem dX4_text_73 : decode cX4_text 73 = .ok (.iastore, 1) := dk_79 (dk_at dksX4_text_3 5 rfl rfl)
theorem dX4_text_74 : decode cX4_text 74 = .ok (.iinc 2 1, 3) := dk_132 2 1 (dk_at dksX4_text_3 6 rfl rfl)
theorem dX4_text_77 : decode cX4_text 77 = .ok (.goto (-47), 3) := dk_167 255 209 (dk_at dksX4_text_3 9 rfl rfl)
theorem dX4_text_80 : decode cX4_text 80 = .ok (.aload_n 0, 1) := dk_42 (dk_at dksX4_text_3 12 rfl rfl)
theorem dX4_text_81 : decode cX4_text 81 = .ok (.getfield 165, 3) := dk_180 0 165 (dk_at dksX4_text_3 13 rfl rfl)
theorem dX4_text_84 : decode cX4_text 84 = .ok (.ireturn, 1) := dk_172 (dk_at dksX4_text_3 16 rfl rfl)
abbrev cX4_faultOf : ByteArray := prog_32_method_78_code
def yX4_faultOf : MethodName := ⟨RX4, "faultOf", "()I"⟩
def dkwX4_faultOf_14 : List UInt8 := [132, 3, 255, 3, 54, 4, 132, 5, 1, 167, 0, 5, 27, 172, 21, 5, 60, 167, 254, 181]
abbrev dktX4_faultOf_14 : List UInt8 := dkwX4_faultOf_14 ++ []
def dkwX4_faultOf_13 : List UInt8 := [180, 0, 50, 27, 46, 16, 41, 160, 0, 28, 29, 154, 0, 5, 27, 172, 42, 180, 0, 68, 28, 46, 61]
abbrev dktX4_faultOf_13 : List UInt8 := dkwX4_faultOf_13 ++ dktX4_faultOf_14
def dkwX4_faultOf_12 : List UInt8 := [61, 42, 89, 180, 1, 42, 4, 96, 181, 1, 42, 132, 3, 1, 5, 54, 4, 132, 5, 1, 167, 0, 41, 42]
abbrev dktX4_faultOf_12 : List UInt8 := dkwX4_faultOf_12 ++ dktX4_faultOf_13
def dkwX4_faultOf_11 : List UInt8 := [42, 180, 0, 65, 42, 180, 1, 42, 4, 79, 42, 180, 0, 68, 42, 180, 1, 42, 28, 79, 42, 180, 1, 42]
abbrev dktX4_faultOf_11 : List UInt8 := dkwX4_faultOf_11 ++ dktX4_faultOf_12
def dkwX4_faultOf_10 : List UInt8 := [159, 0, 12, 42, 180, 1, 42, 16, 60, 160, 0, 5, 27, 172, 42, 180, 0, 62, 42, 180, 1, 42, 3, 79]
abbrev dktX4_faultOf_10 : List UInt8 := dkwX4_faultOf_10 ++ dktX4_faultOf_11
def dkwX4_faultOf_9 : List UInt8 := [180, 0, 50, 27, 46, 16, 40, 160, 0, 88, 29, 154, 0, 10, 42, 180, 1, 42, 157, 0, 18, 29, 16, 20]
abbrev dktX4_faultOf_9 : List UInt8 := dkwX4_faultOf_9 ++ dktX4_faultOf_10
def dkwX4_faultOf_8 : List UInt8 := [42, 180, 0, 65, 28, 42, 180, 0, 50, 27, 46, 16, 48, 100, 79, 3, 54, 4, 167, 0, 137, 42]
abbrev dktX4_faultOf_8 : List UInt8 := dkwX4_faultOf_8 ++ dktX4_faultOf_9
def dkwX4_faultOf_7 : List UInt8 := [161, 0, 22, 21, 5, 27, 100, 4, 163, 0, 14, 42, 180, 0, 50, 27, 46, 16, 48, 160, 0, 5, 27, 172]
abbrev dktX4_faultOf_7 : List UInt8 := dkwX4_faultOf_7 ++ dktX4_faultOf_8
def dkwX4_faultOf_6 : List UInt8 := [42, 21, 5, 16, 48, 16, 57, 182, 1, 45, 153, 0, 9, 132, 5, 1, 167, 255, 240, 21, 4, 4]
abbrev dktX4_faultOf_6 : List UInt8 := dkwX4_faultOf_6 ++ dktX4_faultOf_7
def dkwX4_faultOf_5 : List UInt8 := [21, 5, 182, 1, 48, 79, 4, 54, 4, 167, 0, 216, 42, 27, 16, 48, 16, 57, 182, 1, 45, 153, 0, 70]
abbrev dktX4_faultOf_5 : List UInt8 := dkwX4_faultOf_5 ++ dktX4_faultOf_6
def dkwX4_faultOf_4 : List UInt8 := [5, 161, 0, 14, 42, 27, 21, 5, 182, 1, 48, 2, 160, 0, 5, 27, 172, 42, 180, 0, 62, 28, 42, 27]
abbrev dktX4_faultOf_4 : List UInt8 := dkwX4_faultOf_4 ++ dktX4_faultOf_5
def dkwX4_faultOf_3 : List UInt8 := [153, 0, 60, 42, 21, 5, 16, 97, 16, 122, 182, 1, 45, 153, 0, 9, 132, 5, 1, 167, 255, 240, 21, 4]
abbrev dktX4_faultOf_3 : List UInt8 := dkwX4_faultOf_3 ++ dktX4_faultOf_4
def dkwX4_faultOf_2 : List UInt8 := [29, 154, 0, 7, 2, 167, 0, 4, 27, 172, 27, 54, 5, 42, 27, 16, 97, 16, 122, 182, 1, 45]
abbrev dktX4_faultOf_2 : List UInt8 := dkwX4_faultOf_2 ++ dktX4_faultOf_3
def dkwX4_faultOf_1 : List UInt8 := [153, 0, 9, 132, 1, 1, 167, 255, 241, 27, 42, 180, 0, 162, 160, 0, 20, 42, 180, 1, 42, 158, 0, 11]
abbrev dktX4_faultOf_1 : List UInt8 := dkwX4_faultOf_1 ++ dktX4_faultOf_2
def dkwX4_faultOf_0 : List UInt8 := [3, 60, 2, 61, 3, 62, 3, 54, 4, 42, 3, 181, 1, 42, 42, 27, 16, 32, 16, 32, 182, 1, 45]
abbrev dktX4_faultOf_0 : List UInt8 := dkwX4_faultOf_0 ++ dktX4_faultOf_1
theorem dksX4_faultOf_0 : cX4_faultOf.data.toList.drop 0 = dktX4_faultOf_0 := by decide +kernel
theorem dksX4_faultOf_1 : cX4_faultOf.data.toList.drop 23 = dktX4_faultOf_1 := dk_seg dksX4_faultOf_0 23 rfl rfl
theorem dksX4_faultOf_2 : cX4_faultOf.data.toList.drop 47 = dktX4_faultOf_2 := dk_seg dksX4_faultOf_1 24 rfl rfl
theorem dksX4_faultOf_3 : cX4_faultOf.data.toList.drop 69 = dktX4_faultOf_3 := dk_seg dksX4_faultOf_2 22 rfl rfl
theorem dksX4_faultOf_4 : cX4_faultOf.data.toList.drop 93 = dktX4_faultOf_4 := dk_seg dksX4_faultOf_3 24 rfl rfl
theorem dksX4_faultOf_5 : cX4_faultOf.data.toList.drop 117 = dktX4_faultOf_5 := dk_seg dksX4_faultOf_4 24 rfl rfl
theorem dksX4_faultOf_6 : cX4_faultOf.data.toList.drop 141 = dktX4_faultOf_6 := dk_seg dksX4_faultOf_5 24 rfl rfl
theorem dksX4_faultOf_7 : cX4_faultOf.data.toList.drop 163 = dktX4_faultOf_7 := dk_seg dksX4_faultOf_6 22 rfl rfl
theorem dksX4_faultOf_8 : cX4_faultOf.data.toList.drop 187 = dktX4_faultOf_8 := dk_seg dksX4_faultOf_7 24 rfl rfl
theorem dksX4_faultOf_9 : cX4_faultOf.data.toList.drop 209 = dktX4_faultOf_9 := dk_seg dksX4_faultOf_8 22 rfl rfl
theorem dksX4_faultOf_10 : cX4_faultOf.data.toList.drop 233 = dktX4_faultOf_10 := dk_seg dksX4_faultOf_9 24 rfl rfl
theorem dksX4_faultOf_11 : cX4_faultOf.data.toList.drop 257 = dktX4_faultOf_11 := dk_seg dksX4_faultOf_10 24 rfl rfl
theorem dksX4_faultOf_12 : cX4_faultOf.data.toList.drop 281 = dktX4_faultOf_12 := dk_seg dksX4_faultOf_11 24 rfl rfl
theorem dksX4_faultOf_13 : cX4_faultOf.data.toList.drop 305 = dktX4_faultOf_13 := dk_seg dksX4_faultOf_12 24 rfl rfl
theorem dksX4_faultOf_14 : cX4_faultOf.data.toList.drop 328 = dktX4_faultOf_14 := dk_seg dksX4_faultOf_13 23 rfl rfl
theorem dX4_faultOf_0 : decode cX4_faultOf 0 = .ok (.iconst 0, 1) := dk_3 (dk_at dksX4_faultOf_0 0 rfl rfl)
theorem dX4_faultOf_1 : decode cX4_faultOf 1 = .ok (.istore_n 1, 1) := dk_60 (dk_at dksX4_faultOf_0 1 rfl rfl)
theorem dX4_faultOf_2 : decode cX4_faultOf 2 = .ok (.iconst (-1), 1) := dk_2 (dk_at dksX4_faultOf_0 2 rfl rfl)
theorem dX4_faultOf_3 : decode cX4_faultOf 3 = .ok (.istore_n 2, 1) := dk_61 (dk_at dksX4_faultOf_0 3 rfl rfl)
theorem dX4_faultOf_4 : decode cX4_faultOf 4 = .ok (.iconst 0, 1) := dk_3 (dk_at dksX4_faultOf_0 4 rfl rfl)
theorem dX4_faultOf_5 : decode cX4_faultOf 5 = .ok (.istore_n 3, 1) := dk_62 (dk_at dksX4_faultOf_0 5 rfl rfl)
theorem dX4_faultOf_6 : decode cX4_faultOf 6 = .ok (.iconst 0, 1) := dk_3 (dk_at dksX4_faultOf_0 6 rfl rfl)
theorem dX4_faultOf_7 : decode cX4_faultOf 7 = .ok (.istore 4, 2) := dk_54 4 (dk_at dksX4_faultOf_0 7 rfl rfl)
theorem dX4_faultOf_9 : decode cX4_faultOf 9 = .ok (.aload_n 0, 1) := dk_42 (dk_at dksX4_faultOf_0 9 rfl rfl)
theorem dX4_faultOf_10 : decode cX4_faultOf 10 = .ok (.iconst 0, 1) := dk_3 (dk_at dksX4_faultOf_0 10 rfl rfl)
theorem dX4_faultOf_11 : decode cX4_faultOf 11 = .ok (.putfield 298, 3) := dk_181 1 42 (dk_at dksX4_faultOf_0 11 rfl rfl)
theorem dX4_faultOf_14 : decode cX4_faultOf 14 = .ok (.aload_n 0, 1) := dk_42 (dk_at dksX4_faultOf_0 14 rfl rfl)
theorem dX4_faultOf_15 : decode cX4_faultOf 15 = .ok (.iload_n 1, 1) := dk_27 (dk_at dksX4_faultOf_0 15 rfl rfl)
theorem dX4_faultOf_16 : decode cX4_faultOf 16 = .ok (.bipush 32, 2) := dk_16 32 (dk_at dksX4_faultOf_0 16 rfl rfl)
theorem dX4_faultOf_18 : decode cX4_faultOf 18 = .ok (.bipush 32, 2) := dk_16 32 (dk_at dksX4_faultOf_0 18 rfl rfl)
theorem dX4_faultOf_20 : decode cX4_faultOf 20 = .ok (.invokevirtual 301, 3) := dk_182 1 45 (dk_at dksX4_faultOf_0 20 rfl rfl)
theorem dX4_faultOf_23 : decode cX4_faultOf 23 = .ok (.ifCond .eq 9, 3) := dk_153 0 9 (dk_at dksX4_faultOf_1 0 rfl rfl)
theorem dX4_faultOf_26 : decode cX4_faultOf 26 = .ok (.iinc 1 1, 3) := dk_132 1 1 (dk_at dksX4_faultOf_1 3 rfl rfl)
theorem dX4_faultOf_29 : decode cX4_faultOf 29 = .ok (.goto (-15), 3) := dk_167 255 241 (dk_at dksX4_faultOf_1 6 rfl rfl)
theorem dX4_faultOf_32 : decode cX4_faultOf 32 = .ok (.iload_n 1, 1) := dk_27 (dk_at dksX4_faultOf_1 9 rfl rfl)
theorem dX4_faultOf_33 : decode cX4_faultOf 33 = .ok (.aload_n 0, 1) := dk_42 (dk_at dksX4_faultOf_1 10 rfl rfl)
theorem dX4_faultOf_34 : decode cX4_faultOf 34 = .ok (.getfield 162, 3) := dk_180 0 162 (dk_at dksX4_faultOf_1 11 rfl rfl)
theorem dX4_faultOf_37 : decode cX4_faultOf 37 = .ok (.if_icmp .ne 20, 3) := dk_160 0 20 (dk_at dksX4_faultOf_1 14 rfl rfl)
theorem dX4_faultOf_40 : decode cX4_faultOf 40 = .ok (.aload_n 0, 1) := dk_42 (dk_at dksX4_faultOf_1 17 rfl rfl)
theorem dX4_faultOf_41 : decode cX4_faultOf 41 = .ok (.getfield 298, 3) := dk_180 1 42 (dk_at dksX4_faultOf_1 18 rfl rfl)
theorem dX4_faultOf_44 : decode cX4_faultOf 44 = .ok (.ifCond .le 11, 3) := dk_158 0 11 (dk_at dksX4_faultOf_1 21 rfl rfl)
theorem dX4_faultOf_47 : decode cX4_faultOf 47 = .ok (.iload_n 3, 1) := dk_29 (dk_at dksX4_faultOf_2 0 rfl rfl)
theorem dX4_faultOf_48 : decode cX4_faultOf 48 = .ok (.ifCond .ne 7, 3) := dk_154 0 7 (dk_at dksX4_faultOf_2 1 rfl rfl)
theorem dX4_faultOf_51 : decode cX4_faultOf 51 = .ok (.iconst (-1), 1) := dk_2 (dk_at dksX4_faultOf_2 4 rfl rfl)
theorem dX4_faultOf_52 : decode cX4_faultOf 52 = .ok (.goto 4, 3) := dk_167 0 4 (dk_at dksX4_faultOf_2 5 rfl rfl)
theorem dX4_faultOf_55 : decode cX4_faultOf 55 = .ok (.iload_n 1, 1) := dk_27 (dk_at dksX4_faultOf_2 8 rfl rfl)
theorem dX4_faultOf_56 : decode cX4_faultOf 56 = .ok (.ireturn, 1) := dk_172 (dk_at dksX4_faultOf_2 9 rfl rfl)
theorem dX4_faultOf_57 : decode cX4_faultOf 57 = .ok (.iload_n 1, 1) := dk_27 (dk_at dksX4_faultOf_2 10 rfl rfl)
theorem dX4_faultOf_58 : decode cX4_faultOf 58 = .ok (.istore 5, 2) := dk_54 5 (dk_at dksX4_faultOf_2 11 rfl rfl)
theorem dX4_faultOf_60 : decode cX4_faultOf 60 = .ok (.aload_n 0, 1) := dk_42 (dk_at dksX4_faultOf_2 13 rfl rfl)
theorem dX4_faultOf_61 : decode cX4_faultOf 61 = .ok (.iload_n 1, 1) := dk_27 (dk_at dksX4_faultOf_2 14 rfl rfl)
theorem dX4_faultOf_62 : decode cX4_faultOf 62 = .ok (.bipush 97, 2) := dk_16 97 (dk_at dksX4_faultOf_2 15 rfl rfl)
theorem dX4_faultOf_64 : decode cX4_faultOf 64 = .ok (.bipush 122, 2) := dk_16 122 (dk_at dksX4_faultOf_2 17 rfl rfl)
theorem dX4_faultOf_66 : decode cX4_faultOf 66 = .ok (.invokevirtual 301, 3) := dk_182 1 45 (dk_at dksX4_faultOf_2 19 rfl rfl)
theorem dX4_faultOf_69 : decode cX4_faultOf 69 = .ok (.ifCond .eq 60, 3) := dk_153 0 60 (dk_at dksX4_faultOf_3 0 rfl rfl)
theorem dX4_faultOf_72 : decode cX4_faultOf 72 = .ok (.aload_n 0, 1) := dk_42 (dk_at dksX4_faultOf_3 3 rfl rfl)
theorem dX4_faultOf_73 : decode cX4_faultOf 73 = .ok (.iload 5, 2) := dk_21 5 (dk_at dksX4_faultOf_3 4 rfl rfl)
theorem dX4_faultOf_75 : decode cX4_faultOf 75 = .ok (.bipush 97, 2) := dk_16 97 (dk_at dksX4_faultOf_3 6 rfl rfl)
theorem dX4_faultOf_77 : decode cX4_faultOf 77 = .ok (.bipush 122, 2) := dk_16 122 (dk_at dksX4_faultOf_3 8 rfl rfl)
theorem dX4_faultOf_79 : decode cX4_faultOf 79 = .ok (.invokevirtual 301, 3) := dk_182 1 45 (dk_at dksX4_faultOf_3 10 rfl rfl)
theorem dX4_faultOf_82 : decode cX4_faultOf 82 = .ok (.ifCond .eq 9, 3) := dk_153 0 9 (dk_at dksX4_faultOf_3 13 rfl rfl)
theorem dX4_faultOf_85 : decode cX4_faultOf 85 = .ok (.iinc 5 1, 3) := dk_132 5 1 (dk_at dksX4_faultOf_3 16 rfl rfl)
theorem dX4_faultOf_88 : decode cX4_faultOf 88 = .ok (.goto (-16), 3) := dk_167 255 240 (dk_at dksX4_faultOf_3 19 rfl rfl)
theorem dX4_faultOf_91 : decode cX4_faultOf 91 = .ok (.iload 4, 2) := dk_21 4 (dk_at dksX4_faultOf_3 22 rfl rfl)
theorem dX4_faultOf_93 : decode cX4_faultOf 93 = .ok (.iconst 2, 1) := dk_5 (dk_at dksX4_faultOf_4 0 rfl rfl)
theorem dX4_faultOf_94 : decode cX4_faultOf 94 = .ok (.if_icmp .lt 14, 3) := dk_161 0 14 (dk_at dksX4_faultOf_4 1 rfl rfl)
theorem dX4_faultOf_97 : decode cX4_faultOf 97 = .ok (.aload_n 0, 1) := dk_42 (dk_at dksX4_faultOf_4 4 rfl rfl)
theorem dX4_faultOf_98 : decode cX4_faultOf 98 = .ok (.iload_n 1, 1) := dk_27 (dk_at dksX4_faultOf_4 5 rfl rfl)
theorem dX4_faultOf_99 : decode cX4_faultOf 99 = .ok (.iload 5, 2) := dk_21 5 (dk_at dksX4_faultOf_4 6 rfl rfl)
theorem dX4_faultOf_101 : decode cX4_faultOf 101 = .ok (.invokevirtual 304, 3) := dk_182 1 48 (dk_at dksX4_faultOf_4 8 rfl rfl)
theorem dX4_faultOf_104 : decode cX4_faultOf 104 = .ok (.iconst (-1), 1) := dk_2 (dk_at dksX4_faultOf_4 11 rfl rfl)
theorem dX4_faultOf_105 : decode cX4_faultOf 105 = .ok (.if_icmp .ne 5, 3) := dk_160 0 5 (dk_at dksX4_faultOf_4 12 rfl rfl)
theorem dX4_faultOf_108 : decode cX4_faultOf 108 = .ok (.iload_n 1, 1) := dk_27 (dk_at dksX4_faultOf_4 15 rfl rfl)
theorem dX4_faultOf_109 : decode cX4_faultOf 109 = .ok (.ireturn, 1) := dk_172 (dk_at dksX4_faultOf_4 16 rfl rfl)
theorem dX4_faultOf_110 : decode cX4_faultOf 110 = .ok (.aload_n 0, 1) := dk_42 (dk_at dksX4_faultOf_4 17 rfl rfl)
theorem dX4_faultOf_111 : decode cX4_faultOf 111 = .ok (.getfield 62, 3) := dk_180 0 62 (dk_at dksX4_faultOf_4 18 rfl rfl)
theorem dX4_faultOf_114 : decode cX4_faultOf 114 = .ok (.iload_n 2, 1) := dk_28 (dk_at dksX4_faultOf_4 21 rfl rfl)
theorem dX4_faultOf_115 : decode cX4_faultOf 115 = .ok (.aload_n 0, 1) := dk_42 (dk_at dksX4_faultOf_4 22 rfl rfl)
theorem dX4_faultOf_116 : decode cX4_faultOf 116 = .ok (.iload_n 1, 1) := dk_27 (dk_at dksX4_faultOf_4 23 rfl rfl)
theorem dX4_faultOf_117 : decode cX4_faultOf 117 = .ok (.iload 5, 2) := dk_21 5 (dk_at dksX4_faultOf_5 0 rfl rfl)
theorem dX4_faultOf_119 : decode cX4_faultOf 119 = .ok (.invokevirtual 304, 3) := dk_182 1 48 (dk_at dksX4_faultOf_5 2 rfl rfl)
theorem dX4_faultOf_122 : decode cX4_faultOf 122 = .ok (.iastore, 1) := dk_79 (dk_at dksX4_faultOf_5 5 rfl rfl)
theorem dX4_faultOf_123 : decode cX4_faultOf 123 = .ok (.iconst 1, 1) := dk_4 (dk_at dksX4_faultOf_5 6 rfl rfl)
theorem dX4_faultOf_124 : decode cX4_faultOf 124 = .ok (.istore 4, 2) := dk_54 4 (dk_at dksX4_faultOf_5 7 rfl rfl)
theorem dX4_faultOf_126 : decode cX4_faultOf 126 = .ok (.goto 216, 3) := dk_167 0 216 (dk_at dksX4_faultOf_5 9 rfl rfl)
theorem dX4_faultOf_129 : decode cX4_faultOf 129 = .ok (.aload_n 0, 1) := dk_42 (dk_at dksX4_faultOf_5 12 rfl rfl)
theorem dX4_faultOf_130 : decode cX4_faultOf 130 = .ok (.iload_n 1, 1) := dk_27 (dk_at dksX4_faultOf_5 13 rfl rfl)
theorem dX4_faultOf_131 : decode cX4_faultOf 131 = .ok (.bipush 48, 2) := dk_16 48 (dk_at dksX4_faultOf_5 14 rfl rfl)
theorem dX4_faultOf_133 : decode cX4_faultOf 133 = .ok (.bipush 57, 2) := dk_16 57 (dk_at dksX4_faultOf_5 16 rfl rfl)
theorem dX4_faultOf_135 : decode cX4_faultOf 135 = .ok (.invokevirtual 301, 3) := dk_182 1 45 (dk_at dksX4_faultOf_5 18 rfl rfl)
theorem dX4_faultOf_138 : decode cX4_faultOf 138 = .ok (.ifCond .eq 70, 3) := dk_153 0 70 (dk_at dksX4_faultOf_5 21 rfl rfl)
theorem dX4_faultOf_141 : decode cX4_faultOf 141 = .ok (.aload_n 0, 1) := dk_42 (dk_at dksX4_faultOf_6 0 rfl rfl)
theorem dX4_faultOf_142 : decode cX4_faultOf 142 = .ok (.iload 5, 2) := dk_21 5 (dk_at dksX4_faultOf_6 1 rfl rfl)
theorem dX4_faultOf_144 : decode cX4_faultOf 144 = .ok (.bipush 48, 2) := dk_16 48 (dk_at dksX4_faultOf_6 3 rfl rfl)
theorem dX4_faultOf_146 : decode cX4_faultOf 146 = .ok (.bipush 57, 2) := dk_16 57 (dk_at dksX4_faultOf_6 5 rfl rfl)
theorem dX4_faultOf_148 : decode cX4_faultOf 148 = .ok (.invokevirtual 301, 3) := dk_182 1 45 (dk_at dksX4_faultOf_6 7 rfl rfl)
theorem dX4_faultOf_151 : decode cX4_faultOf 151 = .ok (.ifCond .eq 9, 3) := dk_153 0 9 (dk_at dksX4_faultOf_6 10 rfl rfl)
theorem dX4_faultOf_154 : decode cX4_faultOf 154 = .ok (.iinc 5 1, 3) := dk_132 5 1 (dk_at dksX4_faultOf_6 13 rfl rfl)
theorem dX4_faultOf_157 : decode cX4_faultOf 157 = .ok (.goto (-16), 3) := dk_167 255 240 (dk_at dksX4_faultOf_6 16 rfl rfl)
theorem dX4_faultOf_160 : decode cX4_faultOf 160 = .ok (.iload 4, 2) := dk_21 4 (dk_at dksX4_faultOf_6 19 rfl rfl)
theorem dX4_faultOf_162 : decode cX4_faultOf 162 = .ok (.iconst 1, 1) := dk_4 (dk_at dksX4_faultOf_6 21 rfl rfl)
theorem dX4_faultOf_163 : decode cX4_faultOf 163 = .ok (.if_icmp .lt 22, 3) := dk_161 0 22 (dk_at dksX4_faultOf_7 0 rfl rfl)
theorem dX4_faultOf_166 : decode cX4_faultOf 166 = .ok (.iload 5, 2) := dk_21 5 (dk_at dksX4_faultOf_7 3 rfl rfl)
theorem dX4_faultOf_168 : decode cX4_faultOf 168 = .ok (.iload_n 1, 1) := dk_27 (dk_at dksX4_faultOf_7 5 rfl rfl)
theorem dX4_faultOf_169 : decode cX4_faultOf 169 = .ok (.isub, 1) := dk_100 (dk_at dksX4_faultOf_7 6 rfl rfl)
theorem dX4_faultOf_170 : decode cX4_faultOf 170 = .ok (.iconst 1, 1) := dk_4 (dk_at dksX4_faultOf_7 7 rfl rfl)
theorem dX4_faultOf_171 : decode cX4_faultOf 171 = .ok (.if_icmp .gt 14, 3) := dk_163 0 14 (dk_at dksX4_faultOf_7 8 rfl rfl)
theorem dX4_faultOf_174 : decode cX4_faultOf 174 = .ok (.aload_n 0, 1) := dk_42 (dk_at dksX4_faultOf_7 11 rfl rfl)
theorem dX4_faultOf_175 : decode cX4_faultOf 175 = .ok (.getfield 50, 3) := dk_180 0 50 (dk_at dksX4_faultOf_7 12 rfl rfl)
theorem dX4_faultOf_178 : decode cX4_faultOf 178 = .ok (.iload_n 1, 1) := dk_27 (dk_at dksX4_faultOf_7 15 rfl rfl)
theorem dX4_faultOf_179 : decode cX4_faultOf 179 = .ok (.iaload, 1) := dk_46 (dk_at dksX4_faultOf_7 16 rfl rfl)
theorem dX4_faultOf_180 : decode cX4_faultOf 180 = .ok (.bipush 48, 2) := dk_16 48 (dk_at dksX4_faultOf_7 17 rfl rfl)
theorem dX4_faultOf_182 : decode cX4_faultOf 182 = .ok (.if_icmp .ne 5, 3) := dk_160 0 5 (dk_at dksX4_faultOf_7 19 rfl rfl)
theorem dX4_faultOf_185 : decode cX4_faultOf 185 = .ok (.iload_n 1, 1) := dk_27 (dk_at dksX4_faultOf_7 22 rfl rfl)
theorem dX4_faultOf_186 : decode cX4_faultOf 186 = .ok (.ireturn, 1) := dk_172 (dk_at dksX4_faultOf_7 23 rfl rfl)
theorem dX4_faultOf_187 : decode cX4_faultOf 187 = .ok (.aload_n 0, 1) := dk_42 (dk_at dksX4_faultOf_8 0 rfl rfl)
theorem dX4_faultOf_188 : decode cX4_faultOf 188 = .ok (.getfield 65, 3) := dk_180 0 65 (dk_at dksX4_faultOf_8 1 rfl rfl)
theorem dX4_faultOf_191 : decode cX4_faultOf 191 = .ok (.iload_n 2, 1) := dk_28 (dk_at dksX4_faultOf_8 4 rfl rfl)
theorem dX4_faultOf_192 : decode cX4_faultOf 192 = .ok (.aload_n 0, 1) := dk_42 (dk_at dksX4_faultOf_8 5 rfl rfl)
theorem dX4_faultOf_193 : decode cX4_faultOf 193 = .ok (.getfield 50, 3) := dk_180 0 50 (dk_at dksX4_faultOf_8 6 rfl rfl)
theorem dX4_faultOf_196 : decode cX4_faultOf 196 = .ok (.iload_n 1, 1) := dk_27 (dk_at dksX4_faultOf_8 9 rfl rfl)
theorem dX4_faultOf_197 : decode cX4_faultOf 197 = .ok (.iaload, 1) := dk_46 (dk_at dksX4_faultOf_8 10 rfl rfl)
theorem dX4_faultOf_198 : decode cX4_faultOf 198 = .ok (.bipush 48, 2) := dk_16 48 (dk_at dksX4_faultOf_8 11 rfl rfl)
theorem dX4_faultOf_200 : decode cX4_faultOf 200 = .ok (.isub, 1) := dk_100 (dk_at dksX4_faultOf_8 13 rfl rfl)
theorem dX4_faultOf_201 : decode cX4_faultOf 201 = .ok (.iastore, 1) := dk_79 (dk_at dksX4_faultOf_8 14 rfl rfl)
theorem dX4_faultOf_202 : decode cX4_faultOf 202 = .ok (.iconst 0, 1) := dk_3 (dk_at dksX4_faultOf_8 15 rfl rfl)
theorem dX4_faultOf_203 : decode cX4_faultOf 203 = .ok (.istore 4, 2) := dk_54 4 (dk_at dksX4_faultOf_8 16 rfl rfl)
theorem dX4_faultOf_205 : decode cX4_faultOf 205 = .ok (.goto 137, 3) := dk_167 0 137 (dk_at dksX4_faultOf_8 18 rfl rfl)
theorem dX4_faultOf_208 : decode cX4_faultOf 208 = .ok (.aload_n 0, 1) := dk_42 (dk_at dksX4_faultOf_8 21 rfl rfl)
theorem dX4_faultOf_209 : decode cX4_faultOf 209 = .ok (.getfield 50, 3) := dk_180 0 50 (dk_at dksX4_faultOf_9 0 rfl rfl)
theorem dX4_faultOf_212 : decode cX4_faultOf 212 = .ok (.iload_n 1, 1) := dk_27 (dk_at dksX4_faultOf_9 3 rfl rfl)
theorem dX4_faultOf_213 : decode cX4_faultOf 213 = .ok (.iaload, 1) := dk_46 (dk_at dksX4_faultOf_9 4 rfl rfl)
theorem dX4_faultOf_214 : decode cX4_faultOf 214 = .ok (.bipush 40, 2) := dk_16 40 (dk_at dksX4_faultOf_9 5 rfl rfl)
theorem dX4_faultOf_216 : decode cX4_faultOf 216 = .ok (.if_icmp .ne 88, 3) := dk_160 0 88 (dk_at dksX4_faultOf_9 7 rfl rfl)
theorem dX4_faultOf_219 : decode cX4_faultOf 219 = .ok (.iload_n 3, 1) := dk_29 (dk_at dksX4_faultOf_9 10 rfl rfl)
theorem dX4_faultOf_220 : decode cX4_faultOf 220 = .ok (.ifCond .ne 10, 3) := dk_154 0 10 (dk_at dksX4_faultOf_9 11 rfl rfl)
theorem dX4_faultOf_223 : decode cX4_faultOf 223 = .ok (.aload_n 0, 1) := dk_42 (dk_at dksX4_faultOf_9 14 rfl rfl)
theorem dX4_faultOf_224 : decode cX4_faultOf 224 = .ok (.getfield 298, 3) := dk_180 1 42 (dk_at dksX4_faultOf_9 15 rfl rfl)
theorem dX4_faultOf_227 : decode cX4_faultOf 227 = .ok (.ifCond .gt 18, 3) := dk_157 0 18 (dk_at dksX4_faultOf_9 18 rfl rfl)
theorem dX4_faultOf_230 : decode cX4_faultOf 230 = .ok (.iload_n 3, 1) := dk_29 (dk_at dksX4_faultOf_9 21 rfl rfl)
theorem dX4_faultOf_231 : decode cX4_faultOf 231 = .ok (.bipush 20, 2) := dk_16 20 (dk_at dksX4_faultOf_9 22 rfl rfl)
theorem dX4_faultOf_233 : decode cX4_faultOf 233 = .ok (.if_icmp .eq 12, 3) := dk_159 0 12 (dk_at dksX4_faultOf_10 0 rfl rfl)
theorem dX4_faultOf_236 : decode cX4_faultOf 236 = .ok (.aload_n 0, 1) := dk_42 (dk_at dksX4_faultOf_10 3 rfl rfl)
theorem dX4_faultOf_237 : decode cX4_faultOf 237 = .ok (.getfield 298, 3) := dk_180 1 42 (dk_at dksX4_faultOf_10 4 rfl rfl)
theorem dX4_faultOf_240 : decode cX4_faultOf 240 = .ok (.bipush 60, 2) := dk_16 60 (dk_at dksX4_faultOf_10 7 rfl rfl)
theorem dX4_faultOf_242 : decode cX4_faultOf 242 = .ok (.if_icmp .ne 5, 3) := dk_160 0 5 (dk_at dksX4_faultOf_10 9 rfl rfl)
theorem dX4_faultOf_245 : decode cX4_faultOf 245 = .ok (.iload_n 1, 1) := dk_27 (dk_at dksX4_faultOf_10 12 rfl rfl)
theorem dX4_faultOf_246 : decode cX4_faultOf 246 = .ok (.ireturn, 1) := dk_172 (dk_at dksX4_faultOf_10 13 rfl rfl)
theorem dX4_faultOf_247 : decode cX4_faultOf 247 = .ok (.aload_n 0, 1) := dk_42 (dk_at dksX4_faultOf_10 14 rfl rfl)
theorem dX4_faultOf_248 : decode cX4_faultOf 248 = .ok (.getfield 62, 3) := dk_180 0 62 (dk_at dksX4_faultOf_10 15 rfl rfl)
theorem dX4_faultOf_251 : decode cX4_faultOf 251 = .ok (.aload_n 0, 1) := dk_42 (dk_at dksX4_faultOf_10 18 rfl rfl)
theorem dX4_faultOf_252 : decode cX4_faultOf 252 = .ok (.getfield 298, 3) := dk_180 1 42 (dk_at dksX4_faultOf_10 19 rfl rfl)
theorem dX4_faultOf_255 : decode cX4_faultOf 255 = .ok (.iconst 0, 1) := dk_3 (dk_at dksX4_faultOf_10 22 rfl rfl)
theorem dX4_faultOf_256 : decode cX4_faultOf 256 = .ok (.iastore, 1) := dk_79 (dk_at dksX4_faultOf_10 23 rfl rfl)
theorem dX4_faultOf_257 : decode cX4_faultOf 257 = .ok (.aload_n 0, 1) := dk_42 (dk_at dksX4_faultOf_11 0 rfl rfl)
theorem dX4_faultOf_258 : decode cX4_faultOf 258 = .ok (.getfield 65, 3) := dk_180 0 65 (dk_at dksX4_faultOf_11 1 rfl rfl)
theorem dX4_faultOf_261 : decode cX4_faultOf 261 = .ok (.aload_n 0, 1) := dk_42 (dk_at dksX4_faultOf_11 4 rfl rfl)
theorem dX4_faultOf_262 : decode cX4_faultOf 262 = .ok (.getfield 298, 3) := dk_180 1 42 (dk_at dksX4_faultOf_11 5 rfl rfl)
theorem dX4_faultOf_265 : decode cX4_faultOf 265 = .ok (.iconst 1, 1) := dk_4 (dk_at dksX4_faultOf_11 8 rfl rfl)
theorem dX4_faultOf_266 : decode cX4_faultOf 266 = .ok (.iastore, 1) := dk_79 (dk_at dksX4_faultOf_11 9 rfl rfl)
theorem dX4_faultOf_267 : decode cX4_faultOf 267 = .ok (.aload_n 0, 1) := dk_42 (dk_at dksX4_faultOf_11 10 rfl rfl)
theorem dX4_faultOf_268 : decode cX4_faultOf 268 = .ok (.getfield 68, 3) := dk_180 0 68 (dk_at dksX4_faultOf_11 11 rfl rfl)
theorem dX4_faultOf_271 : decode cX4_faultOf 271 = .ok (.aload_n 0, 1) := dk_42 (dk_at dksX4_faultOf_11 14 rfl rfl)
theorem dX4_faultOf_272 : decode cX4_faultOf 272 = .ok (.getfield 298, 3) := dk_180 1 42 (dk_at dksX4_faultOf_11 15 rfl rfl)
theorem dX4_faultOf_275 : decode cX4_faultOf 275 = .ok (.iload_n 2, 1) := dk_28 (dk_at dksX4_faultOf_11 18 rfl rfl)
theorem dX4_faultOf_276 : decode cX4_faultOf 276 = .ok (.iastore, 1) := dk_79 (dk_at dksX4_faultOf_11 19 rfl rfl)
theorem dX4_faultOf_277 : decode cX4_faultOf 277 = .ok (.aload_n 0, 1) := dk_42 (dk_at dksX4_faultOf_11 20 rfl rfl)
theorem dX4_faultOf_278 : decode cX4_faultOf 278 = .ok (.getfield 298, 3) := dk_180 1 42 (dk_at dksX4_faultOf_11 21 rfl rfl)
theorem dX4_faultOf_281 : decode cX4_faultOf 281 = .ok (.istore_n 2, 1) := dk_61 (dk_at dksX4_faultOf_12 0 rfl rfl)
theorem dX4_faultOf_282 : decode cX4_faultOf 282 = .ok (.aload_n 0, 1) := dk_42 (dk_at dksX4_faultOf_12 1 rfl rfl)
theorem dX4_faultOf_283 : decode cX4_faultOf 283 = .ok (.dup, 1) := dk_89 (dk_at dksX4_faultOf_12 2 rfl rfl)
theorem dX4_faultOf_284 : decode cX4_faultOf 284 = .ok (.getfield 298, 3) := dk_180 1 42 (dk_at dksX4_faultOf_12 3 rfl rfl)
theorem dX4_faultOf_287 : decode cX4_faultOf 287 = .ok (.iconst 1, 1) := dk_4 (dk_at dksX4_faultOf_12 6 rfl rfl)
theorem dX4_faultOf_288 : decode cX4_faultOf 288 = .ok (.iadd, 1) := dk_96 (dk_at dksX4_faultOf_12 7 rfl rfl)
theorem dX4_faultOf_289 : decode cX4_faultOf 289 = .ok (.putfield 298, 3) := dk_181 1 42 (dk_at dksX4_faultOf_12 8 rfl rfl)
theorem dX4_faultOf_292 : decode cX4_faultOf 292 = .ok (.iinc 3 1, 3) := dk_132 3 1 (dk_at dksX4_faultOf_12 11 rfl rfl)
theorem dX4_faultOf_295 : decode cX4_faultOf 295 = .ok (.iconst 2, 1) := dk_5 (dk_at dksX4_faultOf_12 14 rfl rfl)
theorem dX4_faultOf_296 : decode cX4_faultOf 296 = .ok (.istore 4, 2) := dk_54 4 (dk_at dksX4_faultOf_12 15 rfl rfl)
theorem dX4_faultOf_298 : decode cX4_faultOf 298 = .ok (.iinc 5 1, 3) := dk_132 5 1 (dk_at dksX4_faultOf_12 17 rfl rfl)
theorem dX4_faultOf_301 : decode cX4_faultOf 301 = .ok (.goto 41, 3) := dk_167 0 41 (dk_at dksX4_faultOf_12 20 rfl rfl)
theorem dX4_faultOf_304 : decode cX4_faultOf 304 = .ok (.aload_n 0, 1) := dk_42 (dk_at dksX4_faultOf_12 23 rfl rfl)
theorem dX4_faultOf_305 : decode cX4_faultOf 305 = .ok (.getfield 50, 3) := dk_180 0 50 (dk_at dksX4_faultOf_13 0 rfl rfl)
theorem dX4_faultOf_308 : decode cX4_faultOf 308 = .ok (.iload_n 1, 1) := dk_27 (dk_at dksX4_faultOf_13 3 rfl rfl)
theorem dX4_faultOf_309 : decode cX4_faultOf 309 = .ok (.iaload, 1) := dk_46 (dk_at dksX4_faultOf_13 4 rfl rfl)
theorem dX4_faultOf_310 : decode cX4_faultOf 310 = .ok (.bipush 41, 2) := dk_16 41 (dk_at dksX4_faultOf_13 5 rfl rfl)
theorem dX4_faultOf_312 : decode cX4_faultOf 312 = .ok (.if_icmp .ne 28, 3) := dk_160 0 28 (dk_at dksX4_faultOf_13 7 rfl rfl)
theorem dX4_faultOf_315 : decode cX4_faultOf 315 = .ok (.iload_n 3, 1) := dk_29 (dk_at dksX4_faultOf_13 10 rfl rfl)
theorem dX4_faultOf_316 : decode cX4_faultOf 316 = .ok (.ifCond .ne 5, 3) := dk_154 0 5 (dk_at dksX4_faultOf_13 11 rfl rfl)
theorem dX4_faultOf_319 : decode cX4_faultOf 319 = .ok (.iload_n 1, 1) := dk_27 (dk_at dksX4_faultOf_13 14 rfl rfl)
theorem dX4_faultOf_320 : decode cX4_faultOf 320 = .ok (.ireturn, 1) := dk_172 (dk_at dksX4_faultOf_13 15 rfl rfl)
theorem dX4_faultOf_321 : decode cX4_faultOf 321 = .ok (.aload_n 0, 1) := dk_42 (dk_at dksX4_faultOf_13 16 rfl rfl)
theorem dX4_faultOf_322 : decode cX4_faultOf 322 = .ok (.getfield 68, 3) := dk_180 0 68 (dk_at dksX4_faultOf_13 17 rfl rfl)
theorem dX4_faultOf_325 : decode cX4_faultOf 325 = .ok (.iload_n 2, 1) := dk_28 (dk_at dksX4_faultOf_13 20 rfl rfl)
theorem dX4_faultOf_326 : decode cX4_faultOf 326 = .ok (.iaload, 1) := dk_46 (dk_at dksX4_faultOf_13 21 rfl rfl)
theorem dX4_faultOf_327 : decode cX4_faultOf 327 = .ok (.istore_n 2, 1) := dk_61 (dk_at dksX4_faultOf_13 22 rfl rfl)
theorem dX4_faultOf_328 : decode cX4_faultOf 328 = .ok (.iinc 3 (-1), 3) := dk_132 3 255 (dk_at dksX4_faultOf_14 0 rfl rfl)
theorem dX4_faultOf_331 : decode cX4_faultOf 331 = .ok (.iconst 0, 1) := dk_3 (dk_at dksX4_faultOf_14 3 rfl rfl)
theorem dX4_faultOf_332 : decode cX4_faultOf 332 = .ok (.istore 4, 2) := dk_54 4 (dk_at dksX4_faultOf_14 4 rfl rfl)
theorem dX4_faultOf_334 : decode cX4_faultOf 334 = .ok (.iinc 5 1, 3) := dk_132 5 1 (dk_at dksX4_faultOf_14 6 rfl rfl)
theorem dX4_faultOf_337 : decode cX4_faultOf 337 = .ok (.goto 5, 3) := dk_167 0 5 (dk_at dksX4_faultOf_14 9 rfl rfl)
theorem dX4_faultOf_340 : decode cX4_faultOf 340 = .ok (.iload_n 1, 1) := dk_27 (dk_at dksX4_faultOf_14 12 rfl rfl)
theorem dX4_faultOf_341 : decode cX4_faultOf 341 = .ok (.ireturn, 1) := dk_172 (dk_at dksX4_faultOf_14 13 rfl rfl)
theorem dX4_faultOf_342 : decode cX4_faultOf 342 = .ok (.iload 5, 2) := dk_21 5 (dk_at dksX4_faultOf_14 14 rfl rfl)
theorem dX4_faultOf_344 : decode cX4_faultOf 344 = .ok (.istore_n 1, 1) := dk_60 (dk_at dksX4_faultOf_14 16 rfl rfl)
theorem dX4_faultOf_345 : decode cX4_faultOf 345 = .ok (.goto (-331), 3) := dk_167 254 181 (dk_at dksX4_faultOf_14 17 rfl rfl)
abbrev cX4_isFrom : ByteArray := prog_32_method_77_code
def yX4_isFrom : MethodName := ⟨RX4, "isFrom", "(III)Z"⟩
def dkwX4_isFrom_1 : List UInt8 := [167, 0, 4, 3, 172]
abbrev dktX4_isFrom_1 : List UInt8 := dkwX4_isFrom_1 ++ []
def dkwX4_isFrom_0 : List UInt8 := [27, 42, 180, 0, 162, 162, 0, 21, 42, 180, 0, 50, 27, 46, 28, 29, 184, 0, 125, 153, 0, 7, 4]
abbrev dktX4_isFrom_0 : List UInt8 := dkwX4_isFrom_0 ++ dktX4_isFrom_1
theorem dksX4_isFrom_0 : cX4_isFrom.data.toList.drop 0 = dktX4_isFrom_0 := by decide +kernel
theorem dksX4_isFrom_1 : cX4_isFrom.data.toList.drop 23 = dktX4_isFrom_1 := dk_seg dksX4_isFrom_0 23 rfl rfl
theorem dX4_isFrom_0 : decode cX4_isFrom 0 = .ok (.iload_n 1, 1) := dk_27 (dk_at dksX4_isFrom_0 0 rfl rfl)
theorem dX4_isFrom_1 : decode cX4_isFrom 1 = .ok (.aload_n 0, 1) := dk_42 (dk_at dksX4_isFrom_0 1 rfl rfl)
theorem dX4_isFrom_2 : decode cX4_isFrom 2 = .ok (.getfield 162, 3) := dk_180 0 162 (dk_at dksX4_isFrom_0 2 rfl rfl)
theorem dX4_isFrom_5 : decode cX4_isFrom 5 = .ok (.if_icmp .ge 21, 3) := dk_162 0 21 (dk_at dksX4_isFrom_0 5 rfl rfl)
theorem dX4_isFrom_8 : decode cX4_isFrom 8 = .ok (.aload_n 0, 1) := dk_42 (dk_at dksX4_isFrom_0 8 rfl rfl)
theorem dX4_isFrom_9 : decode cX4_isFrom 9 = .ok (.getfield 50, 3) := dk_180 0 50 (dk_at dksX4_isFrom_0 9 rfl rfl)
theorem dX4_isFrom_12 : decode cX4_isFrom 12 = .ok (.iload_n 1, 1) := dk_27 (dk_at dksX4_isFrom_0 12 rfl rfl)
theorem dX4_isFrom_13 : decode cX4_isFrom 13 = .ok (.iaload, 1) := dk_46 (dk_at dksX4_isFrom_0 13 rfl rfl)
theorem dX4_isFrom_14 : decode cX4_isFrom 14 = .ok (.iload_n 2, 1) := dk_28 (dk_at dksX4_isFrom_0 14 rfl rfl)
theorem dX4_isFrom_15 : decode cX4_isFrom 15 = .ok (.iload_n 3, 1) := dk_29 (dk_at dksX4_isFrom_0 15 rfl rfl)
theorem dX4_isFrom_16 : decode cX4_isFrom 16 = .ok (.invokestatic 125, 3) := dk_184 0 125 (dk_at dksX4_isFrom_0 16 rfl rfl)
theorem dX4_isFrom_19 : decode cX4_isFrom 19 = .ok (.ifCond .eq 7, 3) := dk_153 0 7 (dk_at dksX4_isFrom_0 19 rfl rfl)
theorem dX4_isFrom_22 : decode cX4_isFrom 22 = .ok (.iconst 1, 1) := dk_4 (dk_at dksX4_isFrom_0 22 rfl rfl)
theorem dX4_isFrom_23 : decode cX4_isFrom 23 = .ok (.goto 4, 3) := dk_167 0 4 (dk_at dksX4_isFrom_1 0 rfl rfl)
theorem dX4_isFrom_26 : decode cX4_isFrom 26 = .ok (.iconst 0, 1) := dk_3 (dk_at dksX4_isFrom_1 3 rfl rfl)
theorem dX4_isFrom_27 : decode cX4_isFrom 27 = .ok (.ireturn, 1) := dk_172 (dk_at dksX4_isFrom_1 4 rfl rfl)
abbrev cX4_kindOf : ByteArray := prog_32_method_76_code
def yX4_kindOf : MethodName := ⟨RX4, "kindOf", "(II)I"⟩
def dkwX4_kindOf_5 : List UInt8 := [16, 100, 16, 101, 16, 110, 182, 1, 38, 153, 0, 7, 8, 167, 0, 4, 2, 172]
abbrev dktX4_kindOf_5 : List UInt8 := dkwX4_kindOf_5 ++ []
def dkwX4_kindOf_4 : List UInt8 := [16, 105, 16, 108, 16, 100, 3, 182, 1, 38, 153, 0, 5, 7, 172, 42, 27, 28, 16, 119, 16, 97, 16, 114]
abbrev dktX4_kindOf_4 : List UInt8 := dkwX4_kindOf_4 ++ dktX4_kindOf_5
def dkwX4_kindOf_3 : List UInt8 := [16, 101, 16, 112, 16, 101, 16, 114, 182, 1, 38, 153, 0, 5, 6, 172, 42, 27, 28, 16, 103, 16, 117]
abbrev dktX4_kindOf_3 : List UInt8 := dkwX4_kindOf_3 ++ dktX4_kindOf_4
def dkwX4_kindOf_2 : List UInt8 := [16, 108, 16, 117, 16, 98, 3, 3, 182, 1, 38, 153, 0, 5, 5, 172, 42, 27, 28, 16, 107, 16, 101]
abbrev dktX4_kindOf_2 : List UInt8 := dkwX4_kindOf_2 ++ dktX4_kindOf_3
def dkwX4_kindOf_1 : List UInt8 := [28, 16, 116, 16, 111, 16, 108, 16, 108, 3, 3, 182, 1, 38, 153, 0, 5, 4, 172, 42, 27, 28, 16, 99]
abbrev dktX4_kindOf_1 : List UInt8 := dkwX4_kindOf_1 ++ dktX4_kindOf_2
def dkwX4_kindOf_0 : List UInt8 := [42, 27, 28, 16, 112, 16, 111, 16, 105, 16, 110, 16, 116, 3, 182, 1, 38, 153, 0, 5, 3, 172, 42, 27]
abbrev dktX4_kindOf_0 : List UInt8 := dkwX4_kindOf_0 ++ dktX4_kindOf_1
theorem dksX4_kindOf_0 : cX4_kindOf.data.toList.drop 0 = dktX4_kindOf_0 := by decide +kernel
theorem dksX4_kindOf_1 : cX4_kindOf.data.toList.drop 24 = dktX4_kindOf_1 := dk_seg dksX4_kindOf_0 24 rfl rfl
theorem dksX4_kindOf_2 : cX4_kindOf.data.toList.drop 48 = dktX4_kindOf_2 := dk_seg dksX4_kindOf_1 24 rfl rfl
theorem dksX4_kindOf_3 : cX4_kindOf.data.toList.drop 71 = dktX4_kindOf_3 := dk_seg dksX4_kindOf_2 23 rfl rfl
theorem dksX4_kindOf_4 : cX4_kindOf.data.toList.drop 94 = dktX4_kindOf_4 := dk_seg dksX4_kindOf_3 23 rfl rfl
theorem dksX4_kindOf_5 : cX4_kindOf.data.toList.drop 118 = dktX4_kindOf_5 := dk_seg dksX4_kindOf_4 24 rfl rfl
theorem dX4_kindOf_0 : decode cX4_kindOf 0 = .ok (.aload_n 0, 1) := dk_42 (dk_at dksX4_kindOf_0 0 rfl rfl)
theorem dX4_kindOf_1 : decode cX4_kindOf 1 = .ok (.iload_n 1, 1) := dk_27 (dk_at dksX4_kindOf_0 1 rfl rfl)
theorem dX4_kindOf_2 : decode cX4_kindOf 2 = .ok (.iload_n 2, 1) := dk_28 (dk_at dksX4_kindOf_0 2 rfl rfl)
theorem dX4_kindOf_3 : decode cX4_kindOf 3 = .ok (.bipush 112, 2) := dk_16 112 (dk_at dksX4_kindOf_0 3 rfl rfl)
theorem dX4_kindOf_5 : decode cX4_kindOf 5 = .ok (.bipush 111, 2) := dk_16 111 (dk_at dksX4_kindOf_0 5 rfl rfl)
theorem dX4_kindOf_7 : decode cX4_kindOf 7 = .ok (.bipush 105, 2) := dk_16 105 (dk_at dksX4_kindOf_0 7 rfl rfl)
theorem dX4_kindOf_9 : decode cX4_kindOf 9 = .ok (.bipush 110, 2) := dk_16 110 (dk_at dksX4_kindOf_0 9 rfl rfl)
theorem dX4_kindOf_11 : decode cX4_kindOf 11 = .ok (.bipush 116, 2) := dk_16 116 (dk_at dksX4_kindOf_0 11 rfl rfl)
theorem dX4_kindOf_13 : decode cX4_kindOf 13 = .ok (.iconst 0, 1) := dk_3 (dk_at dksX4_kindOf_0 13 rfl rfl)
theorem dX4_kindOf_14 : decode cX4_kindOf 14 = .ok (.invokevirtual 294, 3) := dk_182 1 38 (dk_at dksX4_kindOf_0 14 rfl rfl)
theorem dX4_kindOf_17 : decode cX4_kindOf 17 = .ok (.ifCond .eq 5, 3) := dk_153 0 5 (dk_at dksX4_kindOf_0 17 rfl rfl)
theorem dX4_kindOf_20 : decode cX4_kindOf 20 = .ok (.iconst 0, 1) := dk_3 (dk_at dksX4_kindOf_0 20 rfl rfl)
theorem dX4_kindOf_21 : decode cX4_kindOf 21 = .ok (.ireturn, 1) := dk_172 (dk_at dksX4_kindOf_0 21 rfl rfl)
theorem dX4_kindOf_22 : decode cX4_kindOf 22 = .ok (.aload_n 0, 1) := dk_42 (dk_at dksX4_kindOf_0 22 rfl rfl)
theorem dX4_kindOf_23 : decode cX4_kindOf 23 = .ok (.iload_n 1, 1) := dk_27 (dk_at dksX4_kindOf_0 23 rfl rfl)
theorem dX4_kindOf_24 : decode cX4_kindOf 24 = .ok (.iload_n 2, 1) := dk_28 (dk_at dksX4_kindOf_1 0 rfl rfl)
theorem dX4_kindOf_25 : decode cX4_kindOf 25 = .ok (.bipush 116, 2) := dk_16 116 (dk_at dksX4_kindOf_1 1 rfl rfl)
theorem dX4_kindOf_27 : decode cX4_kindOf 27 = .ok (.bipush 111, 2) := dk_16 111 (dk_at dksX4_kindOf_1 3 rfl rfl)
theorem dX4_kindOf_29 : decode cX4_kindOf 29 = .ok (.bipush 108, 2) := dk_16 108 (dk_at dksX4_kindOf_1 5 rfl rfl)
theorem dX4_kindOf_31 : decode cX4_kindOf 31 = .ok (.bipush 108, 2) := dk_16 108 (dk_at dksX4_kindOf_1 7 rfl rfl)
theorem dX4_kindOf_33 : decode cX4_kindOf 33 = .ok (.iconst 0, 1) := dk_3 (dk_at dksX4_kindOf_1 9 rfl rfl)
theorem dX4_kindOf_34 : decode cX4_kindOf 34 = .ok (.iconst 0, 1) := dk_3 (dk_at dksX4_kindOf_1 10 rfl rfl)
theorem dX4_kindOf_35 : decode cX4_kindOf 35 = .ok (.invokevirtual 294, 3) := dk_182 1 38 (dk_at dksX4_kindOf_1 11 rfl rfl)
theorem dX4_kindOf_38 : decode cX4_kindOf 38 = .ok (.ifCond .eq 5, 3) := dk_153 0 5 (dk_at dksX4_kindOf_1 14 rfl rfl)
theorem dX4_kindOf_41 : decode cX4_kindOf 41 = .ok (.iconst 1, 1) := dk_4 (dk_at dksX4_kindOf_1 17 rfl rfl)
theorem dX4_kindOf_42 : decode cX4_kindOf 42 = .ok (.ireturn, 1) := dk_172 (dk_at dksX4_kindOf_1 18 rfl rfl)
theorem dX4_kindOf_43 : decode cX4_kindOf 43 = .ok (.aload_n 0, 1) := dk_42 (dk_at dksX4_kindOf_1 19 rfl rfl)
theorem dX4_kindOf_44 : decode cX4_kindOf 44 = .ok (.iload_n 1, 1) := dk_27 (dk_at dksX4_kindOf_1 20 rfl rfl)
theorem dX4_kindOf_45 : decode cX4_kindOf 45 = .ok (.iload_n 2, 1) := dk_28 (dk_at dksX4_kindOf_1 21 rfl rfl)
theorem dX4_kindOf_46 : decode cX4_kindOf 46 = .ok (.bipush 99, 2) := dk_16 99 (dk_at dksX4_kindOf_1 22 rfl rfl)
theorem dX4_kindOf_48 : decode cX4_kindOf 48 = .ok (.bipush 108, 2) := dk_16 108 (dk_at dksX4_kindOf_2 0 rfl rfl)
theorem dX4_kindOf_50 : decode cX4_kindOf 50 = .ok (.bipush 117, 2) := dk_16 117 (dk_at dksX4_kindOf_2 2 rfl rfl)
theorem dX4_kindOf_52 : decode cX4_kindOf 52 = .ok (.bipush 98, 2) := dk_16 98 (dk_at dksX4_kindOf_2 4 rfl rfl)
theorem dX4_kindOf_54 : decode cX4_kindOf 54 = .ok (.iconst 0, 1) := dk_3 (dk_at dksX4_kindOf_2 6 rfl rfl)
theorem dX4_kindOf_55 : decode cX4_kindOf 55 = .ok (.iconst 0, 1) := dk_3 (dk_at dksX4_kindOf_2 7 rfl rfl)
theorem dX4_kindOf_56 : decode cX4_kindOf 56 = .ok (.invokevirtual 294, 3) := dk_182 1 38 (dk_at dksX4_kindOf_2 8 rfl rfl)
theorem dX4_kindOf_59 : decode cX4_kindOf 59 = .ok (.ifCond .eq 5, 3) := dk_153 0 5 (dk_at dksX4_kindOf_2 11 rfl rfl)
theorem dX4_kindOf_62 : decode cX4_kindOf 62 = .ok (.iconst 2, 1) := dk_5 (dk_at dksX4_kindOf_2 14 rfl rfl)
theorem dX4_kindOf_63 : decode cX4_kindOf 63 = .ok (.ireturn, 1) := dk_172 (dk_at dksX4_kindOf_2 15 rfl rfl)
theorem dX4_kindOf_64 : decode cX4_kindOf 64 = .ok (.aload_n 0, 1) := dk_42 (dk_at dksX4_kindOf_2 16 rfl rfl)
theorem dX4_kindOf_65 : decode cX4_kindOf 65 = .ok (.iload_n 1, 1) := dk_27 (dk_at dksX4_kindOf_2 17 rfl rfl)
theorem dX4_kindOf_66 : decode cX4_kindOf 66 = .ok (.iload_n 2, 1) := dk_28 (dk_at dksX4_kindOf_2 18 rfl rfl)
theorem dX4_kindOf_67 : decode cX4_kindOf 67 = .ok (.bipush 107, 2) := dk_16 107 (dk_at dksX4_kindOf_2 19 rfl rfl)
theorem dX4_kindOf_69 : decode cX4_kindOf 69 = .ok (.bipush 101, 2) := dk_16 101 (dk_at dksX4_kindOf_2 21 rfl rfl)
theorem dX4_kindOf_71 : decode cX4_kindOf 71 = .ok (.bipush 101, 2) := dk_16 101 (dk_at dksX4_kindOf_3 0 rfl rfl)
theorem dX4_kindOf_73 : decode cX4_kindOf 73 = .ok (.bipush 112, 2) := dk_16 112 (dk_at dksX4_kindOf_3 2 rfl rfl)
theorem dX4_kindOf_75 : decode cX4_kindOf 75 = .ok (.bipush 101, 2) := dk_16 101 (dk_at dksX4_kindOf_3 4 rfl rfl)
theorem dX4_kindOf_77 : decode cX4_kindOf 77 = .ok (.bipush 114, 2) := dk_16 114 (dk_at dksX4_kindOf_3 6 rfl rfl)
theorem dX4_kindOf_79 : decode cX4_kindOf 79 = .ok (.invokevirtual 294, 3) := dk_182 1 38 (dk_at dksX4_kindOf_3 8 rfl rfl)
theorem dX4_kindOf_82 : decode cX4_kindOf 82 = .ok (.ifCond .eq 5, 3) := dk_153 0 5 (dk_at dksX4_kindOf_3 11 rfl rfl)
theorem dX4_kindOf_85 : decode cX4_kindOf 85 = .ok (.iconst 3, 1) := dk_6 (dk_at dksX4_kindOf_3 14 rfl rfl)
theorem dX4_kindOf_86 : decode cX4_kindOf 86 = .ok (.ireturn, 1) := dk_172 (dk_at dksX4_kindOf_3 15 rfl rfl)
theorem dX4_kindOf_87 : decode cX4_kindOf 87 = .ok (.aload_n 0, 1) := dk_42 (dk_at dksX4_kindOf_3 16 rfl rfl)
theorem dX4_kindOf_88 : decode cX4_kindOf 88 = .ok (.iload_n 1, 1) := dk_27 (dk_at dksX4_kindOf_3 17 rfl rfl)
theorem dX4_kindOf_89 : decode cX4_kindOf 89 = .ok (.iload_n 2, 1) := dk_28 (dk_at dksX4_kindOf_3 18 rfl rfl)
theorem dX4_kindOf_90 : decode cX4_kindOf 90 = .ok (.bipush 103, 2) := dk_16 103 (dk_at dksX4_kindOf_3 19 rfl rfl)
theorem dX4_kindOf_92 : decode cX4_kindOf 92 = .ok (.bipush 117, 2) := dk_16 117 (dk_at dksX4_kindOf_3 21 rfl rfl)
theorem dX4_kindOf_94 : decode cX4_kindOf 94 = .ok (.bipush 105, 2) := dk_16 105 (dk_at dksX4_kindOf_4 0 rfl rfl)
theorem dX4_kindOf_96 : decode cX4_kindOf 96 = .ok (.bipush 108, 2) := dk_16 108 (dk_at dksX4_kindOf_4 2 rfl rfl)
theorem dX4_kindOf_98 : decode cX4_kindOf 98 = .ok (.bipush 100, 2) := dk_16 100 (dk_at dksX4_kindOf_4 4 rfl rfl)
theorem dX4_kindOf_100 : decode cX4_kindOf 100 = .ok (.iconst 0, 1) := dk_3 (dk_at dksX4_kindOf_4 6 rfl rfl)
theorem dX4_kindOf_101 : decode cX4_kindOf 101 = .ok (.invokevirtual 294, 3) := dk_182 1 38 (dk_at dksX4_kindOf_4 7 rfl rfl)
theorem dX4_kindOf_104 : decode cX4_kindOf 104 = .ok (.ifCond .eq 5, 3) := dk_153 0 5 (dk_at dksX4_kindOf_4 10 rfl rfl)
theorem dX4_kindOf_107 : decode cX4_kindOf 107 = .ok (.iconst 4, 1) := dk_7 (dk_at dksX4_kindOf_4 13 rfl rfl)
theorem dX4_kindOf_108 : decode cX4_kindOf 108 = .ok (.ireturn, 1) := dk_172 (dk_at dksX4_kindOf_4 14 rfl rfl)
theorem dX4_kindOf_109 : decode cX4_kindOf 109 = .ok (.aload_n 0, 1) := dk_42 (dk_at dksX4_kindOf_4 15 rfl rfl)
theorem dX4_kindOf_110 : decode cX4_kindOf 110 = .ok (.iload_n 1, 1) := dk_27 (dk_at dksX4_kindOf_4 16 rfl rfl)
theorem dX4_kindOf_111 : decode cX4_kindOf 111 = .ok (.iload_n 2, 1) := dk_28 (dk_at dksX4_kindOf_4 17 rfl rfl)
theorem dX4_kindOf_112 : decode cX4_kindOf 112 = .ok (.bipush 119, 2) := dk_16 119 (dk_at dksX4_kindOf_4 18 rfl rfl)
theorem dX4_kindOf_114 : decode cX4_kindOf 114 = .ok (.bipush 97, 2) := dk_16 97 (dk_at dksX4_kindOf_4 20 rfl rfl)
theorem dX4_kindOf_116 : decode cX4_kindOf 116 = .ok (.bipush 114, 2) := dk_16 114 (dk_at dksX4_kindOf_4 22 rfl rfl)
theorem dX4_kindOf_118 : decode cX4_kindOf 118 = .ok (.bipush 100, 2) := dk_16 100 (dk_at dksX4_kindOf_5 0 rfl rfl)
theorem dX4_kindOf_120 : decode cX4_kindOf 120 = .ok (.bipush 101, 2) := dk_16 101 (dk_at dksX4_kindOf_5 2 rfl rfl)
theorem dX4_kindOf_122 : decode cX4_kindOf 122 = .ok (.bipush 110, 2) := dk_16 110 (dk_at dksX4_kindOf_5 4 rfl rfl)
theorem dX4_kindOf_124 : decode cX4_kindOf 124 = .ok (.invokevirtual 294, 3) := dk_182 1 38 (dk_at dksX4_kindOf_5 6 rfl rfl)
theorem dX4_kindOf_127 : decode cX4_kindOf 127 = .ok (.ifCond .eq 7, 3) := dk_153 0 7 (dk_at dksX4_kindOf_5 9 rfl rfl)
theorem dX4_kindOf_130 : decode cX4_kindOf 130 = .ok (.iconst 5, 1) := dk_8 (dk_at dksX4_kindOf_5 12 rfl rfl)
theorem dX4_kindOf_131 : decode cX4_kindOf 131 = .ok (.goto 4, 3) := dk_167 0 4 (dk_at dksX4_kindOf_5 13 rfl rfl)
theorem dX4_kindOf_134 : decode cX4_kindOf 134 = .ok (.iconst (-1), 1) := dk_2 (dk_at dksX4_kindOf_5 16 rfl rfl)
theorem dX4_kindOf_135 : decode cX4_kindOf 135 = .ok (.ireturn, 1) := dk_172 (dk_at dksX4_kindOf_5 17 rfl rfl)
abbrev cX4_isWord : ByteArray := prog_32_method_75_code
def yX4_isWord : MethodName := ⟨RX4, "isWord", "(IIIIIIII)Z"⟩
def dkwX4_isWord_5 : List UInt8 := [16, 6, 161, 0, 16, 42, 180, 0, 50, 27, 8, 96, 46, 21, 8, 160, 0, 7, 4, 167, 0, 4, 3, 172]
abbrev dktX4_isWord_5 : List UInt8 := dkwX4_isWord_5 ++ []
def dkwX4_isWord_4 : List UInt8 := [160, 0, 46, 21, 9, 8, 161, 0, 16, 42, 180, 0, 50, 27, 7, 96, 46, 21, 7, 160, 0, 27, 21, 9]
abbrev dktX4_isWord_4 : List UInt8 := dkwX4_isWord_4 ++ dktX4_isWord_5
def dkwX4_isWord_3 : List UInt8 := [21, 5, 159, 0, 5, 3, 172, 21, 9, 7, 161, 0, 16, 42, 180, 0, 50, 27, 6, 96, 46, 21, 6]
abbrev dktX4_isWord_3 : List UInt8 := dkwX4_isWord_3 ++ dktX4_isWord_4
def dkwX4_isWord_2 : List UInt8 := [160, 0, 29, 42, 180, 0, 50, 27, 4, 96, 46, 21, 4, 160, 0, 16, 42, 180, 0, 50, 27, 5, 96, 46]
abbrev dktX4_isWord_2 : List UInt8 := dkwX4_isWord_2 ++ dktX4_isWord_3
def dkwX4_isWord_1 : List UInt8 := [167, 0, 5, 16, 6, 54, 9, 28, 27, 100, 21, 9, 160, 0, 39, 42, 180, 0, 50, 27, 46, 29]
abbrev dktX4_isWord_1 : List UInt8 := dkwX4_isWord_1 ++ dktX4_isWord_2
def dkwX4_isWord_0 : List UInt8 := [21, 6, 154, 0, 7, 6, 167, 0, 23, 21, 7, 154, 0, 7, 7, 167, 0, 14, 21, 8, 154, 0, 7, 8]
abbrev dktX4_isWord_0 : List UInt8 := dkwX4_isWord_0 ++ dktX4_isWord_1
theorem dksX4_isWord_0 : cX4_isWord.data.toList.drop 0 = dktX4_isWord_0 := by decide +kernel
theorem dksX4_isWord_1 : cX4_isWord.data.toList.drop 24 = dktX4_isWord_1 := dk_seg dksX4_isWord_0 24 rfl rfl
theorem dksX4_isWord_2 : cX4_isWord.data.toList.drop 46 = dktX4_isWord_2 := dk_seg dksX4_isWord_1 22 rfl rfl
theorem dksX4_isWord_3 : cX4_isWord.data.toList.drop 70 = dktX4_isWord_3 := dk_seg dksX4_isWord_2 24 rfl rfl
theorem dksX4_isWord_4 : cX4_isWord.data.toList.drop 93 = dktX4_isWord_4 := dk_seg dksX4_isWord_3 23 rfl rfl
theorem dksX4_isWord_5 : cX4_isWord.data.toList.drop 117 = dktX4_isWord_5 := dk_seg dksX4_isWord_4 24 rfl rfl
theorem dX4_isWord_0 : decode cX4_isWord 0 = .ok (.iload 6, 2) := dk_21 6 (dk_at dksX4_isWord_0 0 rfl rfl)
theorem dX4_isWord_2 : decode cX4_isWord 2 = .ok (.ifCond .ne 7, 3) := dk_154 0 7 (dk_at dksX4_isWord_0 2 rfl rfl)
theorem dX4_isWord_5 : decode cX4_isWord 5 = .ok (.iconst 3, 1) := dk_6 (dk_at dksX4_isWord_0 5 rfl rfl)
theorem dX4_isWord_6 : decode cX4_isWord 6 = .ok (.goto 23, 3) := dk_167 0 23 (dk_at dksX4_isWord_0 6 rfl rfl)
theorem dX4_isWord_9 : decode cX4_isWord 9 = .ok (.iload 7, 2) := dk_21 7 (dk_at dksX4_isWord_0 9 rfl rfl)
theorem dX4_isWord_11 : decode cX4_isWord 11 = .ok (.ifCond .ne 7, 3) := dk_154 0 7 (dk_at dksX4_isWord_0 11 rfl rfl)
theorem dX4_isWord_14 : decode cX4_isWord 14 = .ok (.iconst 4, 1) := dk_7 (dk_at dksX4_isWord_0 14 rfl rfl)
theorem dX4_isWord_15 : decode cX4_isWord 15 = .ok (.goto 14, 3) := dk_167 0 14 (dk_at dksX4_isWord_0 15 rfl rfl)
theorem dX4_isWord_18 : decode cX4_isWord 18 = .ok (.iload 8, 2) := dk_21 8 (dk_at dksX4_isWord_0 18 rfl rfl)
theorem dX4_isWord_20 : decode cX4_isWord 20 = .ok (.ifCond .ne 7, 3) := dk_154 0 7 (dk_at dksX4_isWord_0 20 rfl rfl)
theorem dX4_isWord_23 : decode cX4_isWord 23 = .ok (.iconst 5, 1) := dk_8 (dk_at dksX4_isWord_0 23 rfl rfl)
theorem dX4_isWord_24 : decode cX4_isWord 24 = .ok (.goto 5, 3) := dk_167 0 5 (dk_at dksX4_isWord_1 0 rfl rfl)
theorem dX4_isWord_27 : decode cX4_isWord 27 = .ok (.bipush 6, 2) := dk_16 6 (dk_at dksX4_isWord_1 3 rfl rfl)
theorem dX4_isWord_29 : decode cX4_isWord 29 = .ok (.istore 9, 2) := dk_54 9 (dk_at dksX4_isWord_1 5 rfl rfl)
theorem dX4_isWord_31 : decode cX4_isWord 31 = .ok (.iload_n 2, 1) := dk_28 (dk_at dksX4_isWord_1 7 rfl rfl)
theorem dX4_isWord_32 : decode cX4_isWord 32 = .ok (.iload_n 1, 1) := dk_27 (dk_at dksX4_isWord_1 8 rfl rfl)
theorem dX4_isWord_33 : decode cX4_isWord 33 = .ok (.isub, 1) := dk_100 (dk_at dksX4_isWord_1 9 rfl rfl)
theorem dX4_isWord_34 : decode cX4_isWord 34 = .ok (.iload 9, 2) := dk_21 9 (dk_at dksX4_isWord_1 10 rfl rfl)
theorem dX4_isWord_36 : decode cX4_isWord 36 = .ok (.if_icmp .ne 39, 3) := dk_160 0 39 (dk_at dksX4_isWord_1 12 rfl rfl)
theorem dX4_isWord_39 : decode cX4_isWord 39 = .ok (.aload_n 0, 1) := dk_42 (dk_at dksX4_isWord_1 15 rfl rfl)
theorem dX4_isWord_40 : decode cX4_isWord 40 = .ok (.getfield 50, 3) := dk_180 0 50 (dk_at dksX4_isWord_1 16 rfl rfl)
theorem dX4_isWord_43 : decode cX4_isWord 43 = .ok (.iload_n 1, 1) := dk_27 (dk_at dksX4_isWord_1 19 rfl rfl)
theorem dX4_isWord_44 : decode cX4_isWord 44 = .ok (.iaload, 1) := dk_46 (dk_at dksX4_isWord_1 20 rfl rfl)
theorem dX4_isWord_45 : decode cX4_isWord 45 = .ok (.iload_n 3, 1) := dk_29 (dk_at dksX4_isWord_1 21 rfl rfl)
theorem dX4_isWord_46 : decode cX4_isWord 46 = .ok (.if_icmp .ne 29, 3) := dk_160 0 29 (dk_at dksX4_isWord_2 0 rfl rfl)
theorem dX4_isWord_49 : decode cX4_isWord 49 = .ok (.aload_n 0, 1) := dk_42 (dk_at dksX4_isWord_2 3 rfl rfl)
theorem dX4_isWord_50 : decode cX4_isWord 50 = .ok (.getfield 50, 3) := dk_180 0 50 (dk_at dksX4_isWord_2 4 rfl rfl)
theorem dX4_isWord_53 : decode cX4_isWord 53 = .ok (.iload_n 1, 1) := dk_27 (dk_at dksX4_isWord_2 7 rfl rfl)
theorem dX4_isWord_54 : decode cX4_isWord 54 = .ok (.iconst 1, 1) := dk_4 (dk_at dksX4_isWord_2 8 rfl rfl)
theorem dX4_isWord_55 : decode cX4_isWord 55 = .ok (.iadd, 1) := dk_96 (dk_at dksX4_isWord_2 9 rfl rfl)
theorem dX4_isWord_56 : decode cX4_isWord 56 = .ok (.iaload, 1) := dk_46 (dk_at dksX4_isWord_2 10 rfl rfl)
theorem dX4_isWord_57 : decode cX4_isWord 57 = .ok (.iload 4, 2) := dk_21 4 (dk_at dksX4_isWord_2 11 rfl rfl)
theorem dX4_isWord_59 : decode cX4_isWord 59 = .ok (.if_icmp .ne 16, 3) := dk_160 0 16 (dk_at dksX4_isWord_2 13 rfl rfl)
theorem dX4_isWord_62 : decode cX4_isWord 62 = .ok (.aload_n 0, 1) := dk_42 (dk_at dksX4_isWord_2 16 rfl rfl)
theorem dX4_isWord_63 : decode cX4_isWord 63 = .ok (.getfield 50, 3) := dk_180 0 50 (dk_at dksX4_isWord_2 17 rfl rfl)
theorem dX4_isWord_66 : decode cX4_isWord 66 = .ok (.iload_n 1, 1) := dk_27 (dk_at dksX4_isWord_2 20 rfl rfl)
theorem dX4_isWord_67 : decode cX4_isWord 67 = .ok (.iconst 2, 1) := dk_5 (dk_at dksX4_isWord_2 21 rfl rfl)
theorem dX4_isWord_68 : decode cX4_isWord 68 = .ok (.iadd, 1) := dk_96 (dk_at dksX4_isWord_2 22 rfl rfl)
theorem dX4_isWord_69 : decode cX4_isWord 69 = .ok (.iaload, 1) := dk_46 (dk_at dksX4_isWord_2 23 rfl rfl)
theorem dX4_isWord_70 : decode cX4_isWord 70 = .ok (.iload 5, 2) := dk_21 5 (dk_at dksX4_isWord_3 0 rfl rfl)
theorem dX4_isWord_72 : decode cX4_isWord 72 = .ok (.if_icmp .eq 5, 3) := dk_159 0 5 (dk_at dksX4_isWord_3 2 rfl rfl)
theorem dX4_isWord_75 : decode cX4_isWord 75 = .ok (.iconst 0, 1) := dk_3 (dk_at dksX4_isWord_3 5 rfl rfl)
theorem dX4_isWord_76 : decode cX4_isWord 76 = .ok (.ireturn, 1) := dk_172 (dk_at dksX4_isWord_3 6 rfl rfl)
theorem dX4_isWord_77 : decode cX4_isWord 77 = .ok (.iload 9, 2) := dk_21 9 (dk_at dksX4_isWord_3 7 rfl rfl)
theorem dX4_isWord_79 : decode cX4_isWord 79 = .ok (.iconst 4, 1) := dk_7 (dk_at dksX4_isWord_3 9 rfl rfl)
theorem dX4_isWord_80 : decode cX4_isWord 80 = .ok (.if_icmp .lt 16, 3) := dk_161 0 16 (dk_at dksX4_isWord_3 10 rfl rfl)
theorem dX4_isWord_83 : decode cX4_isWord 83 = .ok (.aload_n 0, 1) := dk_42 (dk_at dksX4_isWord_3 13 rfl rfl)
theorem dX4_isWord_84 : decode cX4_isWord 84 = .ok (.getfield 50, 3) := dk_180 0 50 (dk_at dksX4_isWord_3 14 rfl rfl)
theorem dX4_isWord_87 : decode cX4_isWord 87 = .ok (.iload_n 1, 1) := dk_27 (dk_at dksX4_isWord_3 17 rfl rfl)
theorem dX4_isWord_88 : decode cX4_isWord 88 = .ok (.iconst 3, 1) := dk_6 (dk_at dksX4_isWord_3 18 rfl rfl)
theorem dX4_isWord_89 : decode cX4_isWord 89 = .ok (.iadd, 1) := dk_96 (dk_at dksX4_isWord_3 19 rfl rfl)
theorem dX4_isWord_90 : decode cX4_isWord 90 = .ok (.iaload, 1) := dk_46 (dk_at dksX4_isWord_3 20 rfl rfl)
theorem dX4_isWord_91 : decode cX4_isWord 91 = .ok (.iload 6, 2) := dk_21 6 (dk_at dksX4_isWord_3 21 rfl rfl)
theorem dX4_isWord_93 : decode cX4_isWord 93 = .ok (.if_icmp .ne 46, 3) := dk_160 0 46 (dk_at dksX4_isWord_4 0 rfl rfl)
theorem dX4_isWord_96 : decode cX4_isWord 96 = .ok (.iload 9, 2) := dk_21 9 (dk_at dksX4_isWord_4 3 rfl rfl)
theorem dX4_isWord_98 : decode cX4_isWord 98 = .ok (.iconst 5, 1) := dk_8 (dk_at dksX4_isWord_4 5 rfl rfl)
theorem dX4_isWord_99 : decode cX4_isWord 99 = .ok (.if_icmp .lt 16, 3) := dk_161 0 16 (dk_at dksX4_isWord_4 6 rfl rfl)
theorem dX4_isWord_102 : decode cX4_isWord 102 = .ok (.aload_n 0, 1) := dk_42 (dk_at dksX4_isWord_4 9 rfl rfl)
theorem dX4_isWord_103 : decode cX4_isWord 103 = .ok (.getfield 50, 3) := dk_180 0 50 (dk_at dksX4_isWord_4 10 rfl rfl)
theorem dX4_isWord_106 : decode cX4_isWord 106 = .ok (.iload_n 1, 1) := dk_27 (dk_at dksX4_isWord_4 13 rfl rfl)
theorem dX4_isWord_107 : decode cX4_isWord 107 = .ok (.iconst 4, 1) := dk_7 (dk_at dksX4_isWord_4 14 rfl rfl)
theorem dX4_isWord_108 : decode cX4_isWord 108 = .ok (.iadd, 1) := dk_96 (dk_at dksX4_isWord_4 15 rfl rfl)
theorem dX4_isWord_109 : decode cX4_isWord 109 = .ok (.iaload, 1) := dk_46 (dk_at dksX4_isWord_4 16 rfl rfl)
theorem dX4_isWord_110 : decode cX4_isWord 110 = .ok (.iload 7, 2) := dk_21 7 (dk_at dksX4_isWord_4 17 rfl rfl)
theorem dX4_isWord_112 : decode cX4_isWord 112 = .ok (.if_icmp .ne 27, 3) := dk_160 0 27 (dk_at dksX4_isWord_4 19 rfl rfl)
theorem dX4_isWord_115 : decode cX4_isWord 115 = .ok (.iload 9, 2) := dk_21 9 (dk_at dksX4_isWord_4 22 rfl rfl)
theorem dX4_isWord_117 : decode cX4_isWord 117 = .ok (.bipush 6, 2) := dk_16 6 (dk_at dksX4_isWord_5 0 rfl rfl)
theorem dX4_isWord_119 : decode cX4_isWord 119 = .ok (.if_icmp .lt 16, 3) := dk_161 0 16 (dk_at dksX4_isWord_5 2 rfl rfl)
theorem dX4_isWord_122 : decode cX4_isWord 122 = .ok (.aload_n 0, 1) := dk_42 (dk_at dksX4_isWord_5 5 rfl rfl)
theorem dX4_isWord_123 : decode cX4_isWord 123 = .ok (.getfield 50, 3) := dk_180 0 50 (dk_at dksX4_isWord_5 6 rfl rfl)
theorem dX4_isWord_126 : decode cX4_isWord 126 = .ok (.iload_n 1, 1) := dk_27 (dk_at dksX4_isWord_5 9 rfl rfl)
theorem dX4_isWord_127 : decode cX4_isWord 127 = .ok (.iconst 5, 1) := dk_8 (dk_at dksX4_isWord_5 10 rfl rfl)
theorem dX4_isWord_128 : decode cX4_isWord 128 = .ok (.iadd, 1) := dk_96 (dk_at dksX4_isWord_5 11 rfl rfl)
theorem dX4_isWord_129 : decode cX4_isWord 129 = .ok (.iaload, 1) := dk_46 (dk_at dksX4_isWord_5 12 rfl rfl)
theorem dX4_isWord_130 : decode cX4_isWord 130 = .ok (.iload 8, 2) := dk_21 8 (dk_at dksX4_isWord_5 13 rfl rfl)
theorem dX4_isWord_132 : decode cX4_isWord 132 = .ok (.if_icmp .ne 7, 3) := dk_160 0 7 (dk_at dksX4_isWord_5 15 rfl rfl)
theorem dX4_isWord_135 : decode cX4_isWord 135 = .ok (.iconst 1, 1) := dk_4 (dk_at dksX4_isWord_5 18 rfl rfl)
theorem dX4_isWord_136 : decode cX4_isWord 136 = .ok (.goto 4, 3) := dk_167 0 4 (dk_at dksX4_isWord_5 19 rfl rfl)
theorem dX4_isWord_139 : decode cX4_isWord 139 = .ok (.iconst 0, 1) := dk_3 (dk_at dksX4_isWord_5 22 rfl rfl)
theorem dX4_isWord_140 : decode cX4_isWord 140 = .ok (.ireturn, 1) := dk_172 (dk_at dksX4_isWord_5 23 rfl rfl)
abbrev cX4_tree : ByteArray := prog_32_method_84_code
def yX4_tree : MethodName := ⟨RX4, "tree", "(I)J"⟩
def dkwX4_tree_7 : List UInt8 := [180, 0, 78, 3, 47, 167, 0, 9, 42, 180, 0, 81, 3, 47, 173]
abbrev dktX4_tree_7 : List UInt8 := dkwX4_tree_7 ++ []
def dkwX4_tree_6 : List UInt8 := [3, 47, 97, 167, 0, 34, 42, 180, 0, 71, 3, 47, 42, 180, 0, 75, 3, 47, 148, 156, 0, 12, 42]
abbrev dktX4_tree_6 : List UInt8 := dkwX4_tree_6 ++ dktX4_tree_7
def dkwX4_tree_5 : List UInt8 := [167, 0, 9, 42, 180, 0, 75, 3, 47, 173, 28, 153, 0, 19, 42, 180, 0, 78, 3, 47, 42, 180, 0, 81]
abbrev dktX4_tree_5 : List UInt8 := dkwX4_tree_5 ++ dktX4_tree_6
def dkwX4_tree_4 : List UInt8 := [42, 180, 0, 71, 3, 47, 42, 180, 0, 75, 3, 47, 148, 156, 0, 12, 42, 180, 0, 71, 3, 47]
abbrev dktX4_tree_4 : List UInt8 := dkwX4_tree_4 ++ dktX4_tree_5
def dkwX4_tree_3 : List UInt8 := [180, 0, 75, 3, 47, 148, 154, 0, 7, 4, 167, 0, 4, 3, 61, 27, 153, 0, 8, 27, 6, 160, 0, 35]
abbrev dktX4_tree_3 : List UInt8 := dkwX4_tree_3 ++ dktX4_tree_4
def dkwX4_tree_2 : List UInt8 := [162, 0, 7, 3, 167, 0, 4, 4, 182, 1, 66, 27, 4, 159, 0, 19, 42, 180, 0, 71, 3, 47, 42]
abbrev dktX4_tree_2 : List UInt8 := dkwX4_tree_2 ++ dktX4_tree_3
def dkwX4_tree_1 : List UInt8 := [27, 8, 160, 0, 8, 42, 182, 1, 62, 173, 42, 27, 4, 160, 0, 7, 5, 167, 0, 13, 27, 6]
abbrev dktX4_tree_1 : List UInt8 := dkwX4_tree_1 ++ dktX4_tree_2
def dkwX4_tree_0 : List UInt8 := [27, 3, 8, 184, 0, 125, 154, 0, 7, 20, 0, 184, 173, 42, 180, 0, 165, 154, 0, 7, 20, 1, 60, 173]
abbrev dktX4_tree_0 : List UInt8 := dkwX4_tree_0 ++ dktX4_tree_1
theorem dksX4_tree_0 : cX4_tree.data.toList.drop 0 = dktX4_tree_0 := by decide +kernel
theorem dksX4_tree_1 : cX4_tree.data.toList.drop 24 = dktX4_tree_1 := dk_seg dksX4_tree_0 24 rfl rfl
theorem dksX4_tree_2 : cX4_tree.data.toList.drop 46 = dktX4_tree_2 := dk_seg dksX4_tree_1 22 rfl rfl
theorem dksX4_tree_3 : cX4_tree.data.toList.drop 69 = dktX4_tree_3 := dk_seg dksX4_tree_2 23 rfl rfl
theorem dksX4_tree_4 : cX4_tree.data.toList.drop 93 = dktX4_tree_4 := dk_seg dksX4_tree_3 24 rfl rfl
theorem dksX4_tree_5 : cX4_tree.data.toList.drop 115 = dktX4_tree_5 := dk_seg dksX4_tree_4 22 rfl rfl
theorem dksX4_tree_6 : cX4_tree.data.toList.drop 139 = dktX4_tree_6 := dk_seg dksX4_tree_5 24 rfl rfl
theorem dksX4_tree_7 : cX4_tree.data.toList.drop 162 = dktX4_tree_7 := dk_seg dksX4_tree_6 23 rfl rfl
theorem dX4_tree_0 : decode cX4_tree 0 = .ok (.iload_n 1, 1) := dk_27 (dk_at dksX4_tree_0 0 rfl rfl)
theorem dX4_tree_1 : decode cX4_tree 1 = .ok (.iconst 0, 1) := dk_3 (dk_at dksX4_tree_0 1 rfl rfl)
theorem dX4_tree_2 : decode cX4_tree 2 = .ok (.iconst 5, 1) := dk_8 (dk_at dksX4_tree_0 2 rfl rfl)
theorem dX4_tree_3 : decode cX4_tree 3 = .ok (.invokestatic 125, 3) := dk_184 0 125 (dk_at dksX4_tree_0 3 rfl rfl)
theorem dX4_tree_6 : decode cX4_tree 6 = .ok (.ifCond .ne 7, 3) := dk_154 0 7 (dk_at dksX4_tree_0 6 rfl rfl)
theorem dX4_tree_9 : decode cX4_tree 9 = .ok (.ldc2_w 184, 3) := dk_20 0 184 (dk_at dksX4_tree_0 9 rfl rfl)
theorem dX4_tree_12 : decode cX4_tree 12 = .ok (.lreturn, 1) := dk_173 (dk_at dksX4_tree_0 12 rfl rfl)
theorem dX4_tree_13 : decode cX4_tree 13 = .ok (.aload_n 0, 1) := dk_42 (dk_at dksX4_tree_0 13 rfl rfl)
theorem dX4_tree_14 : decode cX4_tree 14 = .ok (.getfield 165, 3) := dk_180 0 165 (dk_at dksX4_tree_0 14 rfl rfl)
theorem dX4_tree_17 : decode cX4_tree 17 = .ok (.ifCond .ne 7, 3) := dk_154 0 7 (dk_at dksX4_tree_0 17 rfl rfl)
theorem dX4_tree_20 : decode cX4_tree 20 = .ok (.ldc2_w 316, 3) := dk_20 1 60 (dk_at dksX4_tree_0 20 rfl rfl)
theorem dX4_tree_23 : decode cX4_tree 23 = .ok (.lreturn, 1) := dk_173 (dk_at dksX4_tree_0 23 rfl rfl)
theorem dX4_tree_24 : decode cX4_tree 24 = .ok (.iload_n 1, 1) := dk_27 (dk_at dksX4_tree_1 0 rfl rfl)
theorem dX4_tree_25 : decode cX4_tree 25 = .ok (.iconst 5, 1) := dk_8 (dk_at dksX4_tree_1 1 rfl rfl)
theorem dX4_tree_26 : decode cX4_tree 26 = .ok (.if_icmp .ne 8, 3) := dk_160 0 8 (dk_at dksX4_tree_1 2 rfl rfl)
theorem dX4_tree_29 : decode cX4_tree 29 = .ok (.aload_n 0, 1) := dk_42 (dk_at dksX4_tree_1 5 rfl rfl)
theorem dX4_tree_30 : decode cX4_tree 30 = .ok (.invokevirtual 318, 3) := dk_182 1 62 (dk_at dksX4_tree_1 6 rfl rfl)
theorem dX4_tree_33 : decode cX4_tree 33 = .ok (.lreturn, 1) := dk_173 (dk_at dksX4_tree_1 9 rfl rfl)
theorem dX4_tree_34 : decode cX4_tree 34 = .ok (.aload_n 0, 1) := dk_42 (dk_at dksX4_tree_1 10 rfl rfl)
theorem dX4_tree_35 : decode cX4_tree 35 = .ok (.iload_n 1, 1) := dk_27 (dk_at dksX4_tree_1 11 rfl rfl)
theorem dX4_tree_36 : decode cX4_tree 36 = .ok (.iconst 1, 1) := dk_4 (dk_at dksX4_tree_1 12 rfl rfl)
theorem dX4_tree_37 : decode cX4_tree 37 = .ok (.if_icmp .ne 7, 3) := dk_160 0 7 (dk_at dksX4_tree_1 13 rfl rfl)
theorem dX4_tree_40 : decode cX4_tree 40 = .ok (.iconst 2, 1) := dk_5 (dk_at dksX4_tree_1 16 rfl rfl)
theorem dX4_tree_41 : decode cX4_tree 41 = .ok (.goto 13, 3) := dk_167 0 13 (dk_at dksX4_tree_1 17 rfl rfl)
theorem dX4_tree_44 : decode cX4_tree 44 = .ok (.iload_n 1, 1) := dk_27 (dk_at dksX4_tree_1 20 rfl rfl)
theorem dX4_tree_45 : decode cX4_tree 45 = .ok (.iconst 3, 1) := dk_6 (dk_at dksX4_tree_1 21 rfl rfl)
theorem dX4_tree_46 : decode cX4_tree 46 = .ok (.if_icmp .ge 7, 3) := dk_162 0 7 (dk_at dksX4_tree_2 0 rfl rfl)
theorem dX4_tree_49 : decode cX4_tree 49 = .ok (.iconst 0, 1) := dk_3 (dk_at dksX4_tree_2 3 rfl rfl)
theorem dX4_tree_50 : decode cX4_tree 50 = .ok (.goto 4, 3) := dk_167 0 4 (dk_at dksX4_tree_2 4 rfl rfl)
theorem dX4_tree_53 : decode cX4_tree 53 = .ok (.iconst 1, 1) := dk_4 (dk_at dksX4_tree_2 7 rfl rfl)
theorem dX4_tree_54 : decode cX4_tree 54 = .ok (.invokevirtual 322, 3) := dk_182 1 66 (dk_at dksX4_tree_2 8 rfl rfl)
theorem dX4_tree_57 : decode cX4_tree 57 = .ok (.iload_n 1, 1) := dk_27 (dk_at dksX4_tree_2 11 rfl rfl)
theorem dX4_tree_58 : decode cX4_tree 58 = .ok (.iconst 1, 1) := dk_4 (dk_at dksX4_tree_2 12 rfl rfl)
theorem dX4_tree_59 : decode cX4_tree 59 = .ok (.if_icmp .eq 19, 3) := dk_159 0 19 (dk_at dksX4_tree_2 13 rfl rfl)
theorem dX4_tree_62 : decode cX4_tree 62 = .ok (.aload_n 0, 1) := dk_42 (dk_at dksX4_tree_2 16 rfl rfl)
theorem dX4_tree_63 : decode cX4_tree 63 = .ok (.getfield 71, 3) := dk_180 0 71 (dk_at dksX4_tree_2 17 rfl rfl)
theorem dX4_tree_66 : decode cX4_tree 66 = .ok (.iconst 0, 1) := dk_3 (dk_at dksX4_tree_2 20 rfl rfl)
theorem dX4_tree_67 : decode cX4_tree 67 = .ok (.laload, 1) := dk_47 (dk_at dksX4_tree_2 21 rfl rfl)
theorem dX4_tree_68 : decode cX4_tree 68 = .ok (.aload_n 0, 1) := dk_42 (dk_at dksX4_tree_2 22 rfl rfl)
theorem dX4_tree_69 : decode cX4_tree 69 = .ok (.getfield 75, 3) := dk_180 0 75 (dk_at dksX4_tree_3 0 rfl rfl)
theorem dX4_tree_72 : decode cX4_tree 72 = .ok (.iconst 0, 1) := dk_3 (dk_at dksX4_tree_3 3 rfl rfl)
theorem dX4_tree_73 : decode cX4_tree 73 = .ok (.laload, 1) := dk_47 (dk_at dksX4_tree_3 4 rfl rfl)
theorem dX4_tree_74 : decode cX4_tree 74 = .ok (.lcmp, 1) := dk_148 (dk_at dksX4_tree_3 5 rfl rfl)
theorem dX4_tree_75 : decode cX4_tree 75 = .ok (.ifCond .ne 7, 3) := dk_154 0 7 (dk_at dksX4_tree_3 6 rfl rfl)
theorem dX4_tree_78 : decode cX4_tree 78 = .ok (.iconst 1, 1) := dk_4 (dk_at dksX4_tree_3 9 rfl rfl)
theorem dX4_tree_79 : decode cX4_tree 79 = .ok (.goto 4, 3) := dk_167 0 4 (dk_at dksX4_tree_3 10 rfl rfl)
theorem dX4_tree_82 : decode cX4_tree 82 = .ok (.iconst 0, 1) := dk_3 (dk_at dksX4_tree_3 13 rfl rfl)
theorem dX4_tree_83 : decode cX4_tree 83 = .ok (.istore_n 2, 1) := dk_61 (dk_at dksX4_tree_3 14 rfl rfl)
theorem dX4_tree_84 : decode cX4_tree 84 = .ok (.iload_n 1, 1) := dk_27 (dk_at dksX4_tree_3 15 rfl rfl)
theorem dX4_tree_85 : decode cX4_tree 85 = .ok (.ifCond .eq 8, 3) := dk_153 0 8 (dk_at dksX4_tree_3 16 rfl rfl)
theorem dX4_tree_88 : decode cX4_tree 88 = .ok (.iload_n 1, 1) := dk_27 (dk_at dksX4_tree_3 19 rfl rfl)
theorem dX4_tree_89 : decode cX4_tree 89 = .ok (.iconst 3, 1) := dk_6 (dk_at dksX4_tree_3 20 rfl rfl)
theorem dX4_tree_90 : decode cX4_tree 90 = .ok (.if_icmp .ne 35, 3) := dk_160 0 35 (dk_at dksX4_tree_3 21 rfl rfl)
theorem dX4_tree_93 : decode cX4_tree 93 = .ok (.aload_n 0, 1) := dk_42 (dk_at dksX4_tree_4 0 rfl rfl)
theorem dX4_tree_94 : decode cX4_tree 94 = .ok (.getfield 71, 3) := dk_180 0 71 (dk_at dksX4_tree_4 1 rfl rfl)
theorem dX4_tree_97 : decode cX4_tree 97 = .ok (.iconst 0, 1) := dk_3 (dk_at dksX4_tree_4 4 rfl rfl)
theorem dX4_tree_98 : decode cX4_tree 98 = .ok (.laload, 1) := dk_47 (dk_at dksX4_tree_4 5 rfl rfl)
theorem dX4_tree_99 : decode cX4_tree 99 = .ok (.aload_n 0, 1) := dk_42 (dk_at dksX4_tree_4 6 rfl rfl)
theorem dX4_tree_100 : decode cX4_tree 100 = .ok (.getfield 75, 3) := dk_180 0 75 (dk_at dksX4_tree_4 7 rfl rfl)
theorem dX4_tree_103 : decode cX4_tree 103 = .ok (.iconst 0, 1) := dk_3 (dk_at dksX4_tree_4 10 rfl rfl)
theorem dX4_tree_104 : decode cX4_tree 104 = .ok (.laload, 1) := dk_47 (dk_at dksX4_tree_4 11 rfl rfl)
theorem dX4_tree_105 : decode cX4_tree 105 = .ok (.lcmp, 1) := dk_148 (dk_at dksX4_tree_4 12 rfl rfl)
theorem dX4_tree_106 : decode cX4_tree 106 = .ok (.ifCond .ge 12, 3) := dk_156 0 12 (dk_at dksX4_tree_4 13 rfl rfl)
theorem dX4_tree_109 : decode cX4_tree 109 = .ok (.aload_n 0, 1) := dk_42 (dk_at dksX4_tree_4 16 rfl rfl)
theorem dX4_tree_110 : decode cX4_tree 110 = .ok (.getfield 71, 3) := dk_180 0 71 (dk_at dksX4_tree_4 17 rfl rfl)
theorem dX4_tree_113 : decode cX4_tree 113 = .ok (.iconst 0, 1) := dk_3 (dk_at dksX4_tree_4 20 rfl rfl)
theorem dX4_tree_114 : decode cX4_tree 114 = .ok (.laload, 1) := dk_47 (dk_at dksX4_tree_4 21 rfl rfl)
theorem dX4_tree_115 : decode cX4_tree 115 = .ok (.goto 9, 3) := dk_167 0 9 (dk_at dksX4_tree_5 0 rfl rfl)
theorem dX4_tree_118 : decode cX4_tree 118 = .ok (.aload_n 0, 1) := dk_42 (dk_at dksX4_tree_5 3 rfl rfl)
theorem dX4_tree_119 : decode cX4_tree 119 = .ok (.getfield 75, 3) := dk_180 0 75 (dk_at dksX4_tree_5 4 rfl rfl)
theorem dX4_tree_122 : decode cX4_tree 122 = .ok (.iconst 0, 1) := dk_3 (dk_at dksX4_tree_5 7 rfl rfl)
theorem dX4_tree_123 : decode cX4_tree 123 = .ok (.laload, 1) := dk_47 (dk_at dksX4_tree_5 8 rfl rfl)
theorem dX4_tree_124 : decode cX4_tree 124 = .ok (.lreturn, 1) := dk_173 (dk_at dksX4_tree_5 9 rfl rfl)
theorem dX4_tree_125 : decode cX4_tree 125 = .ok (.iload_n 2, 1) := dk_28 (dk_at dksX4_tree_5 10 rfl rfl)
theorem dX4_tree_126 : decode cX4_tree 126 = .ok (.ifCond .eq 19, 3) := dk_153 0 19 (dk_at dksX4_tree_5 11 rfl rfl)
theorem dX4_tree_129 : decode cX4_tree 129 = .ok (.aload_n 0, 1) := dk_42 (dk_at dksX4_tree_5 14 rfl rfl)
theorem dX4_tree_130 : decode cX4_tree 130 = .ok (.getfield 78, 3) := dk_180 0 78 (dk_at dksX4_tree_5 15 rfl rfl)
theorem dX4_tree_133 : decode cX4_tree 133 = .ok (.iconst 0, 1) := dk_3 (dk_at dksX4_tree_5 18 rfl rfl)
theorem dX4_tree_134 : decode cX4_tree 134 = .ok (.laload, 1) := dk_47 (dk_at dksX4_tree_5 19 rfl rfl)
theorem dX4_tree_135 : decode cX4_tree 135 = .ok (.aload_n 0, 1) := dk_42 (dk_at dksX4_tree_5 20 rfl rfl)
theorem dX4_tree_136 : decode cX4_tree 136 = .ok (.getfield 81, 3) := dk_180 0 81 (dk_at dksX4_tree_5 21 rfl rfl)
theorem dX4_tree_139 : decode cX4_tree 139 = .ok (.iconst 0, 1) := dk_3 (dk_at dksX4_tree_6 0 rfl rfl)
theorem dX4_tree_140 : decode cX4_tree 140 = .ok (.laload, 1) := dk_47 (dk_at dksX4_tree_6 1 rfl rfl)
theorem dX4_tree_141 : decode cX4_tree 141 = .ok (.ladd, 1) := dk_97 (dk_at dksX4_tree_6 2 rfl rfl)
theorem dX4_tree_142 : decode cX4_tree 142 = .ok (.goto 34, 3) := dk_167 0 34 (dk_at dksX4_tree_6 3 rfl rfl)
theorem dX4_tree_145 : decode cX4_tree 145 = .ok (.aload_n 0, 1) := dk_42 (dk_at dksX4_tree_6 6 rfl rfl)
theorem dX4_tree_146 : decode cX4_tree 146 = .ok (.getfield 71, 3) := dk_180 0 71 (dk_at dksX4_tree_6 7 rfl rfl)
theorem dX4_tree_149 : decode cX4_tree 149 = .ok (.iconst 0, 1) := dk_3 (dk_at dksX4_tree_6 10 rfl rfl)
theorem dX4_tree_150 : decode cX4_tree 150 = .ok (.laload, 1) := dk_47 (dk_at dksX4_tree_6 11 rfl rfl)
theorem dX4_tree_151 : decode cX4_tree 151 = .ok (.aload_n 0, 1) := dk_42 (dk_at dksX4_tree_6 12 rfl rfl)
theorem dX4_tree_152 : decode cX4_tree 152 = .ok (.getfield 75, 3) := dk_180 0 75 (dk_at dksX4_tree_6 13 rfl rfl)
theorem dX4_tree_155 : decode cX4_tree 155 = .ok (.iconst 0, 1) := dk_3 (dk_at dksX4_tree_6 16 rfl rfl)
theorem dX4_tree_156 : decode cX4_tree 156 = .ok (.laload, 1) := dk_47 (dk_at dksX4_tree_6 17 rfl rfl)
theorem dX4_tree_157 : decode cX4_tree 157 = .ok (.lcmp, 1) := dk_148 (dk_at dksX4_tree_6 18 rfl rfl)
theorem dX4_tree_158 : decode cX4_tree 158 = .ok (.ifCond .ge 12, 3) := dk_156 0 12 (dk_at dksX4_tree_6 19 rfl rfl)
theorem dX4_tree_161 : decode cX4_tree 161 = .ok (.aload_n 0, 1) := dk_42 (dk_at dksX4_tree_6 22 rfl rfl)
theorem dX4_tree_162 : decode cX4_tree 162 = .ok (.getfield 78, 3) := dk_180 0 78 (dk_at dksX4_tree_7 0 rfl rfl)
theorem dX4_tree_165 : decode cX4_tree 165 = .ok (.iconst 0, 1) := dk_3 (dk_at dksX4_tree_7 3 rfl rfl)
theorem dX4_tree_166 : decode cX4_tree 166 = .ok (.laload, 1) := dk_47 (dk_at dksX4_tree_7 4 rfl rfl)
theorem dX4_tree_167 : decode cX4_tree 167 = .ok (.goto 9, 3) := dk_167 0 9 (dk_at dksX4_tree_7 5 rfl rfl)
theorem dX4_tree_170 : decode cX4_tree 170 = .ok (.aload_n 0, 1) := dk_42 (dk_at dksX4_tree_7 8 rfl rfl)
theorem dX4_tree_171 : decode cX4_tree 171 = .ok (.getfield 81, 3) := dk_180 0 81 (dk_at dksX4_tree_7 9 rfl rfl)
theorem dX4_tree_174 : decode cX4_tree 174 = .ok (.iconst 0, 1) := dk_3 (dk_at dksX4_tree_7 12 rfl rfl)
theorem dX4_tree_175 : decode cX4_tree 175 = .ok (.laload, 1) := dk_47 (dk_at dksX4_tree_7 13 rfl rfl)
theorem dX4_tree_176 : decode cX4_tree 176 = .ok (.lreturn, 1) := dk_173 (dk_at dksX4_tree_7 14 rfl rfl)
abbrev cX4_bareOnes : ByteArray := prog_32_method_83_code
def yX4_bareOnes : MethodName := ⟨RX4, "bareOnes", "()J"⟩
def dkwX4_bareOnes_6 : List UInt8 := [167, 255, 123, 42, 180, 0, 75, 3, 47, 42, 180, 0, 71, 3, 47, 97, 173]
abbrev dktX4_bareOnes_6 : List UInt8 := dkwX4_bareOnes_6 ++ []
def dkwX4_bareOnes_5 : List UInt8 := [132, 2, 1, 167, 255, 173, 42, 180, 0, 71, 27, 92, 47, 42, 180, 0, 84, 27, 47, 101, 80, 132, 1, 255]
abbrev dktX4_bareOnes_5 : List UInt8 := dkwX4_bareOnes_5 ++ dktX4_bareOnes_6
def dkwX4_bareOnes_4 : List UInt8 := [180, 0, 71, 28, 47, 97, 105, 80, 42, 180, 0, 84, 27, 92, 47, 42, 180, 0, 71, 28, 47, 105, 80]
abbrev dktX4_bareOnes_4 : List UInt8 := dkwX4_bareOnes_4 ++ dktX4_bareOnes_5
def dkwX4_bareOnes_3 : List UInt8 := [180, 0, 84, 28, 47, 97, 105, 80, 42, 180, 0, 71, 27, 92, 47, 42, 180, 0, 75, 28, 47, 42]
abbrev dktX4_bareOnes_3 : List UInt8 := dkwX4_bareOnes_3 ++ dktX4_bareOnes_4
def dkwX4_bareOnes_2 : List UInt8 := [28, 46, 27, 159, 0, 6, 167, 0, 62, 42, 180, 0, 75, 27, 92, 47, 42, 180, 0, 71, 28, 47, 42]
abbrev dktX4_bareOnes_2 : List UInt8 := dkwX4_bareOnes_2 ++ dktX4_bareOnes_3
def dkwX4_bareOnes_1 : List UInt8 := [80, 42, 180, 0, 84, 27, 10, 80, 27, 4, 96, 61, 28, 42, 180, 0, 165, 162, 0, 81, 42, 180, 0, 59]
abbrev dktX4_bareOnes_1 : List UInt8 := dkwX4_bareOnes_1 ++ dktX4_bareOnes_2
def dkwX4_bareOnes_0 : List UInt8 := [42, 180, 0, 165, 4, 100, 60, 27, 155, 0, 135, 42, 180, 0, 75, 27, 10, 80, 42, 180, 0, 71, 27, 10]
abbrev dktX4_bareOnes_0 : List UInt8 := dkwX4_bareOnes_0 ++ dktX4_bareOnes_1
theorem dksX4_bareOnes_0 : cX4_bareOnes.data.toList.drop 0 = dktX4_bareOnes_0 := by decide +kernel
theorem dksX4_bareOnes_1 : cX4_bareOnes.data.toList.drop 24 = dktX4_bareOnes_1 := dk_seg dksX4_bareOnes_0 24 rfl rfl
theorem dksX4_bareOnes_2 : cX4_bareOnes.data.toList.drop 48 = dktX4_bareOnes_2 := dk_seg dksX4_bareOnes_1 24 rfl rfl
theorem dksX4_bareOnes_3 : cX4_bareOnes.data.toList.drop 71 = dktX4_bareOnes_3 := dk_seg dksX4_bareOnes_2 23 rfl rfl
theorem dksX4_bareOnes_4 : cX4_bareOnes.data.toList.drop 93 = dktX4_bareOnes_4 := dk_seg dksX4_bareOnes_3 22 rfl rfl
theorem dksX4_bareOnes_5 : cX4_bareOnes.data.toList.drop 116 = dktX4_bareOnes_5 := dk_seg dksX4_bareOnes_4 23 rfl rfl
theorem dksX4_bareOnes_6 : cX4_bareOnes.data.toList.drop 140 = dktX4_bareOnes_6 := dk_seg dksX4_bareOnes_5 24 rfl rfl
theorem dX4_bareOnes_0 : decode cX4_bareOnes 0 = .ok (.aload_n 0, 1) := dk_42 (dk_at dksX4_bareOnes_0 0 rfl rfl)
theorem dX4_bareOnes_1 : decode cX4_bareOnes 1 = .ok (.getfield 165, 3) := dk_180 0 165 (dk_at dksX4_bareOnes_0 1 rfl rfl)
theorem dX4_bareOnes_4 : decode cX4_bareOnes 4 = .ok (.iconst 1, 1) := dk_4 (dk_at dksX4_bareOnes_0 4 rfl rfl)
theorem dX4_bareOnes_5 : decode cX4_bareOnes 5 = .ok (.isub, 1) := dk_100 (dk_at dksX4_bareOnes_0 5 rfl rfl)
theorem dX4_bareOnes_6 : decode cX4_bareOnes 6 = .ok (.istore_n 1, 1) := dk_60 (dk_at dksX4_bareOnes_0 6 rfl rfl)
theorem dX4_bareOnes_7 : decode cX4_bareOnes 7 = .ok (.iload_n 1, 1) := dk_27 (dk_at dksX4_bareOnes_0 7 rfl rfl)
theorem dX4_bareOnes_8 : decode cX4_bareOnes 8 = .ok (.ifCond .lt 135, 3) := dk_155 0 135 (dk_at dksX4_bareOnes_0 8 rfl rfl)
theorem dX4_bareOnes_11 : decode cX4_bareOnes 11 = .ok (.aload_n 0, 1) := dk_42 (dk_at dksX4_bareOnes_0 11 rfl rfl)
theorem dX4_bareOnes_12 : decode cX4_bareOnes 12 = .ok (.getfield 75, 3) := dk_180 0 75 (dk_at dksX4_bareOnes_0 12 rfl rfl)
theorem dX4_bareOnes_15 : decode cX4_bareOnes 15 = .ok (.iload_n 1, 1) := dk_27 (dk_at dksX4_bareOnes_0 15 rfl rfl)
theorem dX4_bareOnes_16 : decode cX4_bareOnes 16 = .ok (.lconst 1, 1) := dk_10 (dk_at dksX4_bareOnes_0 16 rfl rfl)
theorem dX4_bareOnes_17 : decode cX4_bareOnes 17 = .ok (.lastore, 1) := dk_80 (dk_at dksX4_bareOnes_0 17 rfl rfl)
theorem dX4_bareOnes_18 : decode cX4_bareOnes 18 = .ok (.aload_n 0, 1) := dk_42 (dk_at dksX4_bareOnes_0 18 rfl rfl)
theorem dX4_bareOnes_19 : decode cX4_bareOnes 19 = .ok (.getfield 71, 3) := dk_180 0 71 (dk_at dksX4_bareOnes_0 19 rfl rfl)
theorem dX4_bareOnes_22 : decode cX4_bareOnes 22 = .ok (.iload_n 1, 1) := dk_27 (dk_at dksX4_bareOnes_0 22 rfl rfl)
theorem dX4_bareOnes_23 : decode cX4_bareOnes 23 = .ok (.lconst 1, 1) := dk_10 (dk_at dksX4_bareOnes_0 23 rfl rfl)
theorem dX4_bareOnes_24 : decode cX4_bareOnes 24 = .ok (.lastore, 1) := dk_80 (dk_at dksX4_bareOnes_1 0 rfl rfl)
theorem dX4_bareOnes_25 : decode cX4_bareOnes 25 = .ok (.aload_n 0, 1) := dk_42 (dk_at dksX4_bareOnes_1 1 rfl rfl)
theorem dX4_bareOnes_26 : decode cX4_bareOnes 26 = .ok (.getfield 84, 3) := dk_180 0 84 (dk_at dksX4_bareOnes_1 2 rfl rfl)
theorem dX4_bareOnes_29 : decode cX4_bareOnes 29 = .ok (.iload_n 1, 1) := dk_27 (dk_at dksX4_bareOnes_1 5 rfl rfl)
theorem dX4_bareOnes_30 : decode cX4_bareOnes 30 = .ok (.lconst 1, 1) := dk_10 (dk_at dksX4_bareOnes_1 6 rfl rfl)
theorem dX4_bareOnes_31 : decode cX4_bareOnes 31 = .ok (.lastore, 1) := dk_80 (dk_at dksX4_bareOnes_1 7 rfl rfl)
theorem dX4_bareOnes_32 : decode cX4_bareOnes 32 = .ok (.iload_n 1, 1) := dk_27 (dk_at dksX4_bareOnes_1 8 rfl rfl)
theorem dX4_bareOnes_33 : decode cX4_bareOnes 33 = .ok (.iconst 1, 1) := dk_4 (dk_at dksX4_bareOnes_1 9 rfl rfl)
theorem dX4_bareOnes_34 : decode cX4_bareOnes 34 = .ok (.iadd, 1) := dk_96 (dk_at dksX4_bareOnes_1 10 rfl rfl)
theorem dX4_bareOnes_35 : decode cX4_bareOnes 35 = .ok (.istore_n 2, 1) := dk_61 (dk_at dksX4_bareOnes_1 11 rfl rfl)
theorem dX4_bareOnes_36 : decode cX4_bareOnes 36 = .ok (.iload_n 2, 1) := dk_28 (dk_at dksX4_bareOnes_1 12 rfl rfl)
theorem dX4_bareOnes_37 : decode cX4_bareOnes 37 = .ok (.aload_n 0, 1) := dk_42 (dk_at dksX4_bareOnes_1 13 rfl rfl)
theorem dX4_bareOnes_38 : decode cX4_bareOnes 38 = .ok (.getfield 165, 3) := dk_180 0 165 (dk_at dksX4_bareOnes_1 14 rfl rfl)
theorem dX4_bareOnes_41 : decode cX4_bareOnes 41 = .ok (.if_icmp .ge 81, 3) := dk_162 0 81 (dk_at dksX4_bareOnes_1 17 rfl rfl)
theorem dX4_bareOnes_44 : decode cX4_bareOnes 44 = .ok (.aload_n 0, 1) := dk_42 (dk_at dksX4_bareOnes_1 20 rfl rfl)
theorem dX4_bareOnes_45 : decode cX4_bareOnes 45 = .ok (.getfield 59, 3) := dk_180 0 59 (dk_at dksX4_bareOnes_1 21 rfl rfl)
theorem dX4_bareOnes_48 : decode cX4_bareOnes 48 = .ok (.iload_n 2, 1) := dk_28 (dk_at dksX4_bareOnes_2 0 rfl rfl)
theorem dX4_bareOnes_49 : decode cX4_bareOnes 49 = .ok (.iaload, 1) := dk_46 (dk_at dksX4_bareOnes_2 1 rfl rfl)
theorem dX4_bareOnes_50 : decode cX4_bareOnes 50 = .ok (.iload_n 1, 1) := dk_27 (dk_at dksX4_bareOnes_2 2 rfl rfl)
theorem dX4_bareOnes_51 : decode cX4_bareOnes 51 = .ok (.if_icmp .eq 6, 3) := dk_159 0 6 (dk_at dksX4_bareOnes_2 3 rfl rfl)
theorem dX4_bareOnes_54 : decode cX4_bareOnes 54 = .ok (.goto 62, 3) := dk_167 0 62 (dk_at dksX4_bareOnes_2 6 rfl rfl)
theorem dX4_bareOnes_57 : decode cX4_bareOnes 57 = .ok (.aload_n 0, 1) := dk_42 (dk_at dksX4_bareOnes_2 9 rfl rfl)
theorem dX4_bareOnes_58 : decode cX4_bareOnes 58 = .ok (.getfield 75, 3) := dk_180 0 75 (dk_at dksX4_bareOnes_2 10 rfl rfl)
theorem dX4_bareOnes_61 : decode cX4_bareOnes 61 = .ok (.iload_n 1, 1) := dk_27 (dk_at dksX4_bareOnes_2 13 rfl rfl)
theorem dX4_bareOnes_62 : decode cX4_bareOnes 62 = .ok (.dup2, 1) := dk_92 (dk_at dksX4_bareOnes_2 14 rfl rfl)
theorem dX4_bareOnes_63 : decode cX4_bareOnes 63 = .ok (.laload, 1) := dk_47 (dk_at dksX4_bareOnes_2 15 rfl rfl)
theorem dX4_bareOnes_64 : decode cX4_bareOnes 64 = .ok (.aload_n 0, 1) := dk_42 (dk_at dksX4_bareOnes_2 16 rfl rfl)
theorem dX4_bareOnes_65 : decode cX4_bareOnes 65 = .ok (.getfield 71, 3) := dk_180 0 71 (dk_at dksX4_bareOnes_2 17 rfl rfl)
theorem dX4_bareOnes_68 : decode cX4_bareOnes 68 = .ok (.iload_n 2, 1) := dk_28 (dk_at dksX4_bareOnes_2 20 rfl rfl)
theorem dX4_bareOnes_69 : decode cX4_bareOnes 69 = .ok (.laload, 1) := dk_47 (dk_at dksX4_bareOnes_2 21 rfl rfl)
theorem dX4_bareOnes_70 : decode cX4_bareOnes 70 = .ok (.aload_n 0, 1) := dk_42 (dk_at dksX4_bareOnes_2 22 rfl rfl)
theorem dX4_bareOnes_71 : decode cX4_bareOnes 71 = .ok (.getfield 84, 3) := dk_180 0 84 (dk_at dksX4_bareOnes_3 0 rfl rfl)
theorem dX4_bareOnes_74 : decode cX4_bareOnes 74 = .ok (.iload_n 2, 1) := dk_28 (dk_at dksX4_bareOnes_3 3 rfl rfl)
theorem dX4_bareOnes_75 : decode cX4_bareOnes 75 = .ok (.laload, 1) := dk_47 (dk_at dksX4_bareOnes_3 4 rfl rfl)
theorem dX4_bareOnes_76 : decode cX4_bareOnes 76 = .ok (.ladd, 1) := dk_97 (dk_at dksX4_bareOnes_3 5 rfl rfl)
theorem dX4_bareOnes_77 : decode cX4_bareOnes 77 = .ok (.lmul, 1) := dk_105 (dk_at dksX4_bareOnes_3 6 rfl rfl)
theorem dX4_bareOnes_78 : decode cX4_bareOnes 78 = .ok (.lastore, 1) := dk_80 (dk_at dksX4_bareOnes_3 7 rfl rfl)
theorem dX4_bareOnes_79 : decode cX4_bareOnes 79 = .ok (.aload_n 0, 1) := dk_42 (dk_at dksX4_bareOnes_3 8 rfl rfl)
theorem dX4_bareOnes_80 : decode cX4_bareOnes 80 = .ok (.getfield 71, 3) := dk_180 0 71 (dk_at dksX4_bareOnes_3 9 rfl rfl)
theorem dX4_bareOnes_83 : decode cX4_bareOnes 83 = .ok (.iload_n 1, 1) := dk_27 (dk_at dksX4_bareOnes_3 12 rfl rfl)
theorem dX4_bareOnes_84 : decode cX4_bareOnes 84 = .ok (.dup2, 1) := dk_92 (dk_at dksX4_bareOnes_3 13 rfl rfl)
theorem dX4_bareOnes_85 : decode cX4_bareOnes 85 = .ok (.laload, 1) := dk_47 (dk_at dksX4_bareOnes_3 14 rfl rfl)
theorem dX4_bareOnes_86 : decode cX4_bareOnes 86 = .ok (.aload_n 0, 1) := dk_42 (dk_at dksX4_bareOnes_3 15 rfl rfl)
theorem dX4_bareOnes_87 : decode cX4_bareOnes 87 = .ok (.getfield 75, 3) := dk_180 0 75 (dk_at dksX4_bareOnes_3 16 rfl rfl)
theorem dX4_bareOnes_90 : decode cX4_bareOnes 90 = .ok (.iload_n 2, 1) := dk_28 (dk_at dksX4_bareOnes_3 19 rfl rfl)
theorem dX4_bareOnes_91 : decode cX4_bareOnes 91 = .ok (.laload, 1) := dk_47 (dk_at dksX4_bareOnes_3 20 rfl rfl)
theorem dX4_bareOnes_92 : decode cX4_bareOnes 92 = .ok (.aload_n 0, 1) := dk_42 (dk_at dksX4_bareOnes_3 21 rfl rfl)
theorem dX4_bareOnes_93 : decode cX4_bareOnes 93 = .ok (.getfield 71, 3) := dk_180 0 71 (dk_at dksX4_bareOnes_4 0 rfl rfl)
theorem dX4_bareOnes_96 : decode cX4_bareOnes 96 = .ok (.iload_n 2, 1) := dk_28 (dk_at dksX4_bareOnes_4 3 rfl rfl)
theorem dX4_bareOnes_97 : decode cX4_bareOnes 97 = .ok (.laload, 1) := dk_47 (dk_at dksX4_bareOnes_4 4 rfl rfl)
theorem dX4_bareOnes_98 : decode cX4_bareOnes 98 = .ok (.ladd, 1) := dk_97 (dk_at dksX4_bareOnes_4 5 rfl rfl)
theorem dX4_bareOnes_99 : decode cX4_bareOnes 99 = .ok (.lmul, 1) := dk_105 (dk_at dksX4_bareOnes_4 6 rfl rfl)
theorem dX4_bareOnes_100 : decode cX4_bareOnes 100 = .ok (.lastore, 1) := dk_80 (dk_at dksX4_bareOnes_4 7 rfl rfl)
theorem dX4_bareOnes_101 : decode cX4_bareOnes 101 = .ok (.aload_n 0, 1) := dk_42 (dk_at dksX4_bareOnes_4 8 rfl rfl)
theorem dX4_bareOnes_102 : decode cX4_bareOnes 102 = .ok (.getfield 84, 3) := dk_180 0 84 (dk_at dksX4_bareOnes_4 9 rfl rfl)
theorem dX4_bareOnes_105 : decode cX4_bareOnes 105 = .ok (.iload_n 1, 1) := dk_27 (dk_at dksX4_bareOnes_4 12 rfl rfl)
theorem dX4_bareOnes_106 : decode cX4_bareOnes 106 = .ok (.dup2, 1) := dk_92 (dk_at dksX4_bareOnes_4 13 rfl rfl)
theorem dX4_bareOnes_107 : decode cX4_bareOnes 107 = .ok (.laload, 1) := dk_47 (dk_at dksX4_bareOnes_4 14 rfl rfl)
theorem dX4_bareOnes_108 : decode cX4_bareOnes 108 = .ok (.aload_n 0, 1) := dk_42 (dk_at dksX4_bareOnes_4 15 rfl rfl)
theorem dX4_bareOnes_109 : decode cX4_bareOnes 109 = .ok (.getfield 71, 3) := dk_180 0 71 (dk_at dksX4_bareOnes_4 16 rfl rfl)
theorem dX4_bareOnes_112 : decode cX4_bareOnes 112 = .ok (.iload_n 2, 1) := dk_28 (dk_at dksX4_bareOnes_4 19 rfl rfl)
theorem dX4_bareOnes_113 : decode cX4_bareOnes 113 = .ok (.laload, 1) := dk_47 (dk_at dksX4_bareOnes_4 20 rfl rfl)
theorem dX4_bareOnes_114 : decode cX4_bareOnes 114 = .ok (.lmul, 1) := dk_105 (dk_at dksX4_bareOnes_4 21 rfl rfl)
theorem dX4_bareOnes_115 : decode cX4_bareOnes 115 = .ok (.lastore, 1) := dk_80 (dk_at dksX4_bareOnes_4 22 rfl rfl)
theorem dX4_bareOnes_116 : decode cX4_bareOnes 116 = .ok (.iinc 2 1, 3) := dk_132 2 1 (dk_at dksX4_bareOnes_5 0 rfl rfl)
theorem dX4_bareOnes_119 : decode cX4_bareOnes 119 = .ok (.goto (-83), 3) := dk_167 255 173 (dk_at dksX4_bareOnes_5 3 rfl rfl)
theorem dX4_bareOnes_122 : decode cX4_bareOnes 122 = .ok (.aload_n 0, 1) := dk_42 (dk_at dksX4_bareOnes_5 6 rfl rfl)
theorem dX4_bareOnes_123 : decode cX4_bareOnes 123 = .ok (.getfield 71, 3) := dk_180 0 71 (dk_at dksX4_bareOnes_5 7 rfl rfl)
theorem dX4_bareOnes_126 : decode cX4_bareOnes 126 = .ok (.iload_n 1, 1) := dk_27 (dk_at dksX4_bareOnes_5 10 rfl rfl)
theorem dX4_bareOnes_127 : decode cX4_bareOnes 127 = .ok (.dup2, 1) := dk_92 (dk_at dksX4_bareOnes_5 11 rfl rfl)
theorem dX4_bareOnes_128 : decode cX4_bareOnes 128 = .ok (.laload, 1) := dk_47 (dk_at dksX4_bareOnes_5 12 rfl rfl)
theorem dX4_bareOnes_129 : decode cX4_bareOnes 129 = .ok (.aload_n 0, 1) := dk_42 (dk_at dksX4_bareOnes_5 13 rfl rfl)
theorem dX4_bareOnes_130 : decode cX4_bareOnes 130 = .ok (.getfield 84, 3) := dk_180 0 84 (dk_at dksX4_bareOnes_5 14 rfl rfl)
theorem dX4_bareOnes_133 : decode cX4_bareOnes 133 = .ok (.iload_n 1, 1) := dk_27 (dk_at dksX4_bareOnes_5 17 rfl rfl)
theorem dX4_bareOnes_134 : decode cX4_bareOnes 134 = .ok (.laload, 1) := dk_47 (dk_at dksX4_bareOnes_5 18 rfl rfl)
theorem dX4_bareOnes_135 : decode cX4_bareOnes 135 = .ok (.lsub, 1) := dk_101 (dk_at dksX4_bareOnes_5 19 rfl rfl)
theorem dX4_bareOnes_136 : decode cX4_bareOnes 136 = .ok (.lastore, 1) := dk_80 (dk_at dksX4_bareOnes_5 20 rfl rfl)
theorem dX4_bareOnes_137 : decode cX4_bareOnes 137 = .ok (.iinc 1 (-1), 3) := dk_132 1 255 (dk_at dksX4_bareOnes_5 21 rfl rfl)
theorem dX4_bareOnes_140 : decode cX4_bareOnes 140 = .ok (.goto (-133), 3) := dk_167 255 123 (dk_at dksX4_bareOnes_6 0 rfl rfl)
theorem dX4_bareOnes_143 : decode cX4_bareOnes 143 = .ok (.aload_n 0, 1) := dk_42 (dk_at dksX4_bareOnes_6 3 rfl rfl)
theorem dX4_bareOnes_144 : decode cX4_bareOnes 144 = .ok (.getfield 75, 3) := dk_180 0 75 (dk_at dksX4_bareOnes_6 4 rfl rfl)
theorem dX4_bareOnes_147 : decode cX4_bareOnes 147 = .ok (.iconst 0, 1) := dk_3 (dk_at dksX4_bareOnes_6 7 rfl rfl)
theorem dX4_bareOnes_148 : decode cX4_bareOnes 148 = .ok (.laload, 1) := dk_47 (dk_at dksX4_bareOnes_6 8 rfl rfl)
theorem dX4_bareOnes_149 : decode cX4_bareOnes 149 = .ok (.aload_n 0, 1) := dk_42 (dk_at dksX4_bareOnes_6 9 rfl rfl)
theorem dX4_bareOnes_150 : decode cX4_bareOnes 150 = .ok (.getfield 71, 3) := dk_180 0 71 (dk_at dksX4_bareOnes_6 10 rfl rfl)
theorem dX4_bareOnes_153 : decode cX4_bareOnes 153 = .ok (.iconst 0, 1) := dk_3 (dk_at dksX4_bareOnes_6 13 rfl rfl)
theorem dX4_bareOnes_154 : decode cX4_bareOnes 154 = .ok (.laload, 1) := dk_47 (dk_at dksX4_bareOnes_6 14 rfl rfl)
theorem dX4_bareOnes_155 : decode cX4_bareOnes 155 = .ok (.ladd, 1) := dk_97 (dk_at dksX4_bareOnes_6 15 rfl rfl)
theorem dX4_bareOnes_156 : decode cX4_bareOnes 156 = .ok (.lreturn, 1) := dk_173 (dk_at dksX4_bareOnes_6 16 rfl rfl)
abbrev cX4_counts : ByteArray := prog_32_method_82_code
def yX4_counts : MethodName := ⟨RX4, "counts", "(I)V"⟩
def dkwX4_counts_10 : List UInt8 := [105, 80, 132, 3, 1, 167, 255, 73, 132, 2, 255, 167, 255, 17, 177]
abbrev dktX4_counts_10 : List UInt8 := dkwX4_counts_10 ++ []
def dkwX4_counts_9 : List UInt8 := [28, 92, 47, 42, 180, 0, 71, 29, 47, 97, 80, 42, 180, 0, 81, 28, 92, 47, 42, 180, 0, 78, 29, 47]
abbrev dktX4_counts_9 : List UInt8 := dkwX4_counts_9 ++ dktX4_counts_10
def dkwX4_counts_8 : List UInt8 := [156, 0, 12, 42, 180, 0, 71, 29, 47, 167, 0, 9, 42, 180, 0, 75, 29, 47, 97, 80, 42, 180, 0, 75]
abbrev dktX4_counts_8 : List UInt8 := dkwX4_counts_8 ++ dktX4_counts_9
def dkwX4_counts_7 : List UInt8 := [105, 80, 42, 180, 0, 71, 28, 92, 47, 42, 180, 0, 71, 29, 47, 42, 180, 0, 75, 29, 47, 148]
abbrev dktX4_counts_7 : List UInt8 := dkwX4_counts_7 ++ dktX4_counts_8
def dkwX4_counts_6 : List UInt8 := [180, 0, 75, 29, 47, 148, 156, 0, 12, 42, 180, 0, 78, 29, 47, 167, 0, 9, 42, 180, 0, 81, 29, 47]
abbrev dktX4_counts_6 : List UInt8 := dkwX4_counts_6 ++ dktX4_counts_7
def dkwX4_counts_5 : List UInt8 := [180, 0, 78, 29, 47, 42, 180, 0, 81, 29, 47, 97, 167, 0, 34, 42, 180, 0, 71, 29, 47, 42]
abbrev dktX4_counts_5 : List UInt8 := dkwX4_counts_5 ++ dktX4_counts_6
def dkwX4_counts_4 : List UInt8 := [148, 154, 0, 7, 4, 167, 0, 4, 3, 54, 4, 42, 180, 0, 78, 28, 92, 47, 21, 4, 153, 0, 19, 42]
abbrev dktX4_counts_4 : List UInt8 := dkwX4_counts_4 ++ dktX4_counts_5
def dkwX4_counts_3 : List UInt8 := [28, 159, 0, 6, 167, 0, 162, 27, 5, 159, 0, 19, 42, 180, 0, 71, 29, 47, 42, 180, 0, 75, 29, 47]
abbrev dktX4_counts_3 : List UInt8 := dkwX4_counts_3 ++ dktX4_counts_4
def dkwX4_counts_2 : List UInt8 := [180, 0, 81, 28, 10, 80, 28, 4, 96, 62, 29, 42, 180, 0, 165, 162, 0, 181, 42, 180, 0, 59, 29, 46]
abbrev dktX4_counts_2 : List UInt8 := dkwX4_counts_2 ++ dktX4_counts_3
def dkwX4_counts_1 : List UInt8 := [182, 1, 57, 133, 167, 0, 4, 10, 80, 42, 180, 0, 75, 28, 9, 80, 42, 180, 0, 78, 28, 10, 80, 42]
abbrev dktX4_counts_1 : List UInt8 := dkwX4_counts_1 ++ dktX4_counts_2
def dkwX4_counts_0 : List UInt8 := [42, 180, 0, 165, 4, 100, 61, 28, 155, 0, 241, 42, 180, 0, 71, 28, 27, 4, 160, 0, 12, 42, 28]
abbrev dktX4_counts_0 : List UInt8 := dkwX4_counts_0 ++ dktX4_counts_1
theorem dksX4_counts_0 : cX4_counts.data.toList.drop 0 = dktX4_counts_0 := by decide +kernel
theorem dksX4_counts_1 : cX4_counts.data.toList.drop 23 = dktX4_counts_1 := dk_seg dksX4_counts_0 23 rfl rfl
theorem dksX4_counts_2 : cX4_counts.data.toList.drop 47 = dktX4_counts_2 := dk_seg dksX4_counts_1 24 rfl rfl
theorem dksX4_counts_3 : cX4_counts.data.toList.drop 71 = dktX4_counts_3 := dk_seg dksX4_counts_2 24 rfl rfl
theorem dksX4_counts_4 : cX4_counts.data.toList.drop 95 = dktX4_counts_4 := dk_seg dksX4_counts_3 24 rfl rfl
theorem dksX4_counts_5 : cX4_counts.data.toList.drop 119 = dktX4_counts_5 := dk_seg dksX4_counts_4 24 rfl rfl
theorem dksX4_counts_6 : cX4_counts.data.toList.drop 141 = dktX4_counts_6 := dk_seg dksX4_counts_5 22 rfl rfl
theorem dksX4_counts_7 : cX4_counts.data.toList.drop 165 = dktX4_counts_7 := dk_seg dksX4_counts_6 24 rfl rfl
theorem dksX4_counts_8 : cX4_counts.data.toList.drop 187 = dktX4_counts_8 := dk_seg dksX4_counts_7 22 rfl rfl
theorem dksX4_counts_9 : cX4_counts.data.toList.drop 211 = dktX4_counts_9 := dk_seg dksX4_counts_8 24 rfl rfl
theorem dksX4_counts_10 : cX4_counts.data.toList.drop 235 = dktX4_counts_10 := dk_seg dksX4_counts_9 24 rfl rfl
theorem dX4_counts_0 : decode cX4_counts 0 = .ok (.aload_n 0, 1) := dk_42 (dk_at dksX4_counts_0 0 rfl rfl)
theorem dX4_counts_1 : decode cX4_counts 1 = .ok (.getfield 165, 3) := dk_180 0 165 (dk_at dksX4_counts_0 1 rfl rfl)
theorem dX4_counts_4 : decode cX4_counts 4 = .ok (.iconst 1, 1) := dk_4 (dk_at dksX4_counts_0 4 rfl rfl)
theorem dX4_counts_5 : decode cX4_counts 5 = .ok (.isub, 1) := dk_100 (dk_at dksX4_counts_0 5 rfl rfl)
theorem dX4_counts_6 : decode cX4_counts 6 = .ok (.istore_n 2, 1) := dk_61 (dk_at dksX4_counts_0 6 rfl rfl)
theorem dX4_counts_7 : decode cX4_counts 7 = .ok (.iload_n 2, 1) := dk_28 (dk_at dksX4_counts_0 7 rfl rfl)
theorem dX4_counts_8 : decode cX4_counts 8 = .ok (.ifCond .lt 241, 3) := dk_155 0 241 (dk_at dksX4_counts_0 8 rfl rfl)
theorem dX4_counts_11 : decode cX4_counts 11 = .ok (.aload_n 0, 1) := dk_42 (dk_at dksX4_counts_0 11 rfl rfl)
theorem dX4_counts_12 : decode cX4_counts 12 = .ok (.getfield 71, 3) := dk_180 0 71 (dk_at dksX4_counts_0 12 rfl rfl)
theorem dX4_counts_15 : decode cX4_counts 15 = .ok (.iload_n 2, 1) := dk_28 (dk_at dksX4_counts_0 15 rfl rfl)
theorem dX4_counts_16 : decode cX4_counts 16 = .ok (.iload_n 1, 1) := dk_27 (dk_at dksX4_counts_0 16 rfl rfl)
theorem dX4_counts_17 : decode cX4_counts 17 = .ok (.iconst 1, 1) := dk_4 (dk_at dksX4_counts_0 17 rfl rfl)
theorem dX4_counts_18 : decode cX4_counts 18 = .ok (.if_icmp .ne 12, 3) := dk_160 0 12 (dk_at dksX4_counts_0 18 rfl rfl)
theorem dX4_counts_21 : decode cX4_counts 21 = .ok (.aload_n 0, 1) := dk_42 (dk_at dksX4_counts_0 21 rfl rfl)
theorem dX4_counts_22 : decode cX4_counts 22 = .ok (.iload_n 2, 1) := dk_28 (dk_at dksX4_counts_0 22 rfl rfl)
theorem dX4_counts_23 : decode cX4_counts 23 = .ok (.invokevirtual 313, 3) := dk_182 1 57 (dk_at dksX4_counts_1 0 rfl rfl)
theorem dX4_counts_26 : decode cX4_counts 26 = .ok (.i2l, 1) := dk_133 (dk_at dksX4_counts_1 3 rfl rfl)
theorem dX4_counts_27 : decode cX4_counts 27 = .ok (.goto 4, 3) := dk_167 0 4 (dk_at dksX4_counts_1 4 rfl rfl)
theorem dX4_counts_30 : decode cX4_counts 30 = .ok (.lconst 1, 1) := dk_10 (dk_at dksX4_counts_1 7 rfl rfl)
theorem dX4_counts_31 : decode cX4_counts 31 = .ok (.lastore, 1) := dk_80 (dk_at dksX4_counts_1 8 rfl rfl)
theorem dX4_counts_32 : decode cX4_counts 32 = .ok (.aload_n 0, 1) := dk_42 (dk_at dksX4_counts_1 9 rfl rfl)
theorem dX4_counts_33 : decode cX4_counts 33 = .ok (.getfield 75, 3) := dk_180 0 75 (dk_at dksX4_counts_1 10 rfl rfl)
theorem dX4_counts_36 : decode cX4_counts 36 = .ok (.iload_n 2, 1) := dk_28 (dk_at dksX4_counts_1 13 rfl rfl)
theorem dX4_counts_37 : decode cX4_counts 37 = .ok (.lconst 0, 1) := dk_9 (dk_at dksX4_counts_1 14 rfl rfl)
theorem dX4_counts_38 : decode cX4_counts 38 = .ok (.lastore, 1) := dk_80 (dk_at dksX4_counts_1 15 rfl rfl)
theorem dX4_counts_39 : decode cX4_counts 39 = .ok (.aload_n 0, 1) := dk_42 (dk_at dksX4_counts_1 16 rfl rfl)
theorem dX4_counts_40 : decode cX4_counts 40 = .ok (.getfield 78, 3) := dk_180 0 78 (dk_at dksX4_counts_1 17 rfl rfl)
theorem dX4_counts_43 : decode cX4_counts 43 = .ok (.iload_n 2, 1) := dk_28 (dk_at dksX4_counts_1 20 rfl rfl)
theorem dX4_counts_44 : decode cX4_counts 44 = .ok (.lconst 1, 1) := dk_10 (dk_at dksX4_counts_1 21 rfl rfl)
theorem dX4_counts_45 : decode cX4_counts 45 = .ok (.lastore, 1) := dk_80 (dk_at dksX4_counts_1 22 rfl rfl)
theorem dX4_counts_46 : decode cX4_counts 46 = .ok (.aload_n 0, 1) := dk_42 (dk_at dksX4_counts_1 23 rfl rfl)
theorem dX4_counts_47 : decode cX4_counts 47 = .ok (.getfield 81, 3) := dk_180 0 81 (dk_at dksX4_counts_2 0 rfl rfl)
theorem dX4_counts_50 : decode cX4_counts 50 = .ok (.iload_n 2, 1) := dk_28 (dk_at dksX4_counts_2 3 rfl rfl)
theorem dX4_counts_51 : decode cX4_counts 51 = .ok (.lconst 1, 1) := dk_10 (dk_at dksX4_counts_2 4 rfl rfl)
theorem dX4_counts_52 : decode cX4_counts 52 = .ok (.lastore, 1) := dk_80 (dk_at dksX4_counts_2 5 rfl rfl)
theorem dX4_counts_53 : decode cX4_counts 53 = .ok (.iload_n 2, 1) := dk_28 (dk_at dksX4_counts_2 6 rfl rfl)
theorem dX4_counts_54 : decode cX4_counts 54 = .ok (.iconst 1, 1) := dk_4 (dk_at dksX4_counts_2 7 rfl rfl)
theorem dX4_counts_55 : decode cX4_counts 55 = .ok (.iadd, 1) := dk_96 (dk_at dksX4_counts_2 8 rfl rfl)
theorem dX4_counts_56 : decode cX4_counts 56 = .ok (.istore_n 3, 1) := dk_62 (dk_at dksX4_counts_2 9 rfl rfl)
theorem dX4_counts_57 : decode cX4_counts 57 = .ok (.iload_n 3, 1) := dk_29 (dk_at dksX4_counts_2 10 rfl rfl)
theorem dX4_counts_58 : decode cX4_counts 58 = .ok (.aload_n 0, 1) := dk_42 (dk_at dksX4_counts_2 11 rfl rfl)
theorem dX4_counts_59 : decode cX4_counts 59 = .ok (.getfield 165, 3) := dk_180 0 165 (dk_at dksX4_counts_2 12 rfl rfl)
theorem dX4_counts_62 : decode cX4_counts 62 = .ok (.if_icmp .ge 181, 3) := dk_162 0 181 (dk_at dksX4_counts_2 15 rfl rfl)
theorem dX4_counts_65 : decode cX4_counts 65 = .ok (.aload_n 0, 1) := dk_42 (dk_at dksX4_counts_2 18 rfl rfl)
theorem dX4_counts_66 : decode cX4_counts 66 = .ok (.getfield 59, 3) := dk_180 0 59 (dk_at dksX4_counts_2 19 rfl rfl)
theorem dX4_counts_69 : decode cX4_counts 69 = .ok (.iload_n 3, 1) := dk_29 (dk_at dksX4_counts_2 22 rfl rfl)
theorem dX4_counts_70 : decode cX4_counts 70 = .ok (.iaload, 1) := dk_46 (dk_at dksX4_counts_2 23 rfl rfl)
theorem dX4_counts_71 : decode cX4_counts 71 = .ok (.iload_n 2, 1) := dk_28 (dk_at dksX4_counts_3 0 rfl rfl)
theorem dX4_counts_72 : decode cX4_counts 72 = .ok (.if_icmp .eq 6, 3) := dk_159 0 6 (dk_at dksX4_counts_3 1 rfl rfl)
theorem dX4_counts_75 : decode cX4_counts 75 = .ok (.goto 162, 3) := dk_167 0 162 (dk_at dksX4_counts_3 4 rfl rfl)
theorem dX4_counts_78 : decode cX4_counts 78 = .ok (.iload_n 1, 1) := dk_27 (dk_at dksX4_counts_3 7 rfl rfl)
theorem dX4_counts_79 : decode cX4_counts 79 = .ok (.iconst 2, 1) := dk_5 (dk_at dksX4_counts_3 8 rfl rfl)
theorem dX4_counts_80 : decode cX4_counts 80 = .ok (.if_icmp .eq 19, 3) := dk_159 0 19 (dk_at dksX4_counts_3 9 rfl rfl)
theorem dX4_counts_83 : decode cX4_counts 83 = .ok (.aload_n 0, 1) := dk_42 (dk_at dksX4_counts_3 12 rfl rfl)
theorem dX4_counts_84 : decode cX4_counts 84 = .ok (.getfield 71, 3) := dk_180 0 71 (dk_at dksX4_counts_3 13 rfl rfl)
theorem dX4_counts_87 : decode cX4_counts 87 = .ok (.iload_n 3, 1) := dk_29 (dk_at dksX4_counts_3 16 rfl rfl)
theorem dX4_counts_88 : decode cX4_counts 88 = .ok (.laload, 1) := dk_47 (dk_at dksX4_counts_3 17 rfl rfl)
theorem dX4_counts_89 : decode cX4_counts 89 = .ok (.aload_n 0, 1) := dk_42 (dk_at dksX4_counts_3 18 rfl rfl)
theorem dX4_counts_90 : decode cX4_counts 90 = .ok (.getfield 75, 3) := dk_180 0 75 (dk_at dksX4_counts_3 19 rfl rfl)
theorem dX4_counts_93 : decode cX4_counts 93 = .ok (.iload_n 3, 1) := dk_29 (dk_at dksX4_counts_3 22 rfl rfl)
theorem dX4_counts_94 : decode cX4_counts 94 = .ok (.laload, 1) := dk_47 (dk_at dksX4_counts_3 23 rfl rfl)
theorem dX4_counts_95 : decode cX4_counts 95 = .ok (.lcmp, 1) := dk_148 (dk_at dksX4_counts_4 0 rfl rfl)
theorem dX4_counts_96 : decode cX4_counts 96 = .ok (.ifCond .ne 7, 3) := dk_154 0 7 (dk_at dksX4_counts_4 1 rfl rfl)
theorem dX4_counts_99 : decode cX4_counts 99 = .ok (.iconst 1, 1) := dk_4 (dk_at dksX4_counts_4 4 rfl rfl)
theorem dX4_counts_100 : decode cX4_counts 100 = .ok (.goto 4, 3) := dk_167 0 4 (dk_at dksX4_counts_4 5 rfl rfl)
theorem dX4_counts_103 : decode cX4_counts 103 = .ok (.iconst 0, 1) := dk_3 (dk_at dksX4_counts_4 8 rfl rfl)
theorem dX4_counts_104 : decode cX4_counts 104 = .ok (.istore 4, 2) := dk_54 4 (dk_at dksX4_counts_4 9 rfl rfl)
theorem dX4_counts_106 : decode cX4_counts 106 = .ok (.aload_n 0, 1) := dk_42 (dk_at dksX4_counts_4 11 rfl rfl)
theorem dX4_counts_107 : decode cX4_counts 107 = .ok (.getfield 78, 3) := dk_180 0 78 (dk_at dksX4_counts_4 12 rfl rfl)
theorem dX4_counts_110 : decode cX4_counts 110 = .ok (.iload_n 2, 1) := dk_28 (dk_at dksX4_counts_4 15 rfl rfl)
theorem dX4_counts_111 : decode cX4_counts 111 = .ok (.dup2, 1) := dk_92 (dk_at dksX4_counts_4 16 rfl rfl)
theorem dX4_counts_112 : decode cX4_counts 112 = .ok (.laload, 1) := dk_47 (dk_at dksX4_counts_4 17 rfl rfl)
theorem dX4_counts_113 : decode cX4_counts 113 = .ok (.iload 4, 2) := dk_21 4 (dk_at dksX4_counts_4 18 rfl rfl)
theorem dX4_counts_115 : decode cX4_counts 115 = .ok (.ifCond .eq 19, 3) := dk_153 0 19 (dk_at dksX4_counts_4 20 rfl rfl)
theorem dX4_counts_118 : decode cX4_counts 118 = .ok (.aload_n 0, 1) := dk_42 (dk_at dksX4_counts_4 23 rfl rfl)
theorem dX4_counts_119 : decode cX4_counts 119 = .ok (.getfield 78, 3) := dk_180 0 78 (dk_at dksX4_counts_5 0 rfl rfl)
theorem dX4_counts_122 : decode cX4_counts 122 = .ok (.iload_n 3, 1) := dk_29 (dk_at dksX4_counts_5 3 rfl rfl)
theorem dX4_counts_123 : decode cX4_counts 123 = .ok (.laload, 1) := dk_47 (dk_at dksX4_counts_5 4 rfl rfl)
theorem dX4_counts_124 : decode cX4_counts 124 = .ok (.aload_n 0, 1) := dk_42 (dk_at dksX4_counts_5 5 rfl rfl)
theorem dX4_counts_125 : decode cX4_counts 125 = .ok (.getfield 81, 3) := dk_180 0 81 (dk_at dksX4_counts_5 6 rfl rfl)
theorem dX4_counts_128 : decode cX4_counts 128 = .ok (.iload_n 3, 1) := dk_29 (dk_at dksX4_counts_5 9 rfl rfl)
theorem dX4_counts_129 : decode cX4_counts 129 = .ok (.laload, 1) := dk_47 (dk_at dksX4_counts_5 10 rfl rfl)
theorem dX4_counts_130 : decode cX4_counts 130 = .ok (.ladd, 1) := dk_97 (dk_at dksX4_counts_5 11 rfl rfl)
theorem dX4_counts_131 : decode cX4_counts 131 = .ok (.goto 34, 3) := dk_167 0 34 (dk_at dksX4_counts_5 12 rfl rfl)
theorem dX4_counts_134 : decode cX4_counts 134 = .ok (.aload_n 0, 1) := dk_42 (dk_at dksX4_counts_5 15 rfl rfl)
theorem dX4_counts_135 : decode cX4_counts 135 = .ok (.getfield 71, 3) := dk_180 0 71 (dk_at dksX4_counts_5 16 rfl rfl)
theorem dX4_counts_138 : decode cX4_counts 138 = .ok (.iload_n 3, 1) := dk_29 (dk_at dksX4_counts_5 19 rfl rfl)
theorem dX4_counts_139 : decode cX4_counts 139 = .ok (.laload, 1) := dk_47 (dk_at dksX4_counts_5 20 rfl rfl)
theorem dX4_counts_140 : decode cX4_counts 140 = .ok (.aload_n 0, 1) := dk_42 (dk_at dksX4_counts_5 21 rfl rfl)
theorem dX4_counts_141 : decode cX4_counts 141 = .ok (.getfield 75, 3) := dk_180 0 75 (dk_at dksX4_counts_6 0 rfl rfl)
theorem dX4_counts_144 : decode cX4_counts 144 = .ok (.iload_n 3, 1) := dk_29 (dk_at dksX4_counts_6 3 rfl rfl)
theorem dX4_counts_145 : decode cX4_counts 145 = .ok (.laload, 1) := dk_47 (dk_at dksX4_counts_6 4 rfl rfl)
theorem dX4_counts_146 : decode cX4_counts 146 = .ok (.lcmp, 1) := dk_148 (dk_at dksX4_counts_6 5 rfl rfl)
theorem dX4_counts_147 : decode cX4_counts 147 = .ok (.ifCond .ge 12, 3) := dk_156 0 12 (dk_at dksX4_counts_6 6 rfl rfl)
theorem dX4_counts_150 : decode cX4_counts 150 = .ok (.aload_n 0, 1) := dk_42 (dk_at dksX4_counts_6 9 rfl rfl)
theorem dX4_counts_151 : decode cX4_counts 151 = .ok (.getfield 78, 3) := dk_180 0 78 (dk_at dksX4_counts_6 10 rfl rfl)
theorem dX4_counts_154 : decode cX4_counts 154 = .ok (.iload_n 3, 1) := dk_29 (dk_at dksX4_counts_6 13 rfl rfl)
theorem dX4_counts_155 : decode cX4_counts 155 = .ok (.laload, 1) := dk_47 (dk_at dksX4_counts_6 14 rfl rfl)
theorem dX4_counts_156 : decode cX4_counts 156 = .ok (.goto 9, 3) := dk_167 0 9 (dk_at dksX4_counts_6 15 rfl rfl)
theorem dX4_counts_159 : decode cX4_counts 159 = .ok (.aload_n 0, 1) := dk_42 (dk_at dksX4_counts_6 18 rfl rfl)
theorem dX4_counts_160 : decode cX4_counts 160 = .ok (.getfield 81, 3) := dk_180 0 81 (dk_at dksX4_counts_6 19 rfl rfl)
theorem dX4_counts_163 : decode cX4_counts 163 = .ok (.iload_n 3, 1) := dk_29 (dk_at dksX4_counts_6 22 rfl rfl)
theorem dX4_counts_164 : decode cX4_counts 164 = .ok (.laload, 1) := dk_47 (dk_at dksX4_counts_6 23 rfl rfl)
theorem dX4_counts_165 : decode cX4_counts 165 = .ok (.lmul, 1) := dk_105 (dk_at dksX4_counts_7 0 rfl rfl)
theorem dX4_counts_166 : decode cX4_counts 166 = .ok (.lastore, 1) := dk_80 (dk_at dksX4_counts_7 1 rfl rfl)
theorem dX4_counts_167 : decode cX4_counts 167 = .ok (.aload_n 0, 1) := dk_42 (dk_at dksX4_counts_7 2 rfl rfl)
theorem dX4_counts_168 : decode cX4_counts 168 = .ok (.getfield 71, 3) := dk_180 0 71 (dk_at dksX4_counts_7 3 rfl rfl)
theorem dX4_counts_171 : decode cX4_counts 171 = .ok (.iload_n 2, 1) := dk_28 (dk_at dksX4_counts_7 6 rfl rfl)
theorem dX4_counts_172 : decode cX4_counts 172 = .ok (.dup2, 1) := dk_92 (dk_at dksX4_counts_7 7 rfl rfl)
theorem dX4_counts_173 : decode cX4_counts 173 = .ok (.laload, 1) := dk_47 (dk_at dksX4_counts_7 8 rfl rfl)
theorem dX4_counts_174 : decode cX4_counts 174 = .ok (.aload_n 0, 1) := dk_42 (dk_at dksX4_counts_7 9 rfl rfl)
theorem dX4_counts_175 : decode cX4_counts 175 = .ok (.getfield 71, 3) := dk_180 0 71 (dk_at dksX4_counts_7 10 rfl rfl)
theorem dX4_counts_178 : decode cX4_counts 178 = .ok (.iload_n 3, 1) := dk_29 (dk_at dksX4_counts_7 13 rfl rfl)
theorem dX4_counts_179 : decode cX4_counts 179 = .ok (.laload, 1) := dk_47 (dk_at dksX4_counts_7 14 rfl rfl)
theorem dX4_counts_180 : decode cX4_counts 180 = .ok (.aload_n 0, 1) := dk_42 (dk_at dksX4_counts_7 15 rfl rfl)
theorem dX4_counts_181 : decode cX4_counts 181 = .ok (.getfield 75, 3) := dk_180 0 75 (dk_at dksX4_counts_7 16 rfl rfl)
theorem dX4_counts_184 : decode cX4_counts 184 = .ok (.iload_n 3, 1) := dk_29 (dk_at dksX4_counts_7 19 rfl rfl)
theorem dX4_counts_185 : decode cX4_counts 185 = .ok (.laload, 1) := dk_47 (dk_at dksX4_counts_7 20 rfl rfl)
theorem dX4_counts_186 : decode cX4_counts 186 = .ok (.lcmp, 1) := dk_148 (dk_at dksX4_counts_7 21 rfl rfl)
theorem dX4_counts_187 : decode cX4_counts 187 = .ok (.ifCond .ge 12, 3) := dk_156 0 12 (dk_at dksX4_counts_8 0 rfl rfl)
theorem dX4_counts_190 : decode cX4_counts 190 = .ok (.aload_n 0, 1) := dk_42 (dk_at dksX4_counts_8 3 rfl rfl)
theorem dX4_counts_191 : decode cX4_counts 191 = .ok (.getfield 71, 3) := dk_180 0 71 (dk_at dksX4_counts_8 4 rfl rfl)
theorem dX4_counts_194 : decode cX4_counts 194 = .ok (.iload_n 3, 1) := dk_29 (dk_at dksX4_counts_8 7 rfl rfl)
theorem dX4_counts_195 : decode cX4_counts 195 = .ok (.laload, 1) := dk_47 (dk_at dksX4_counts_8 8 rfl rfl)
theorem dX4_counts_196 : decode cX4_counts 196 = .ok (.goto 9, 3) := dk_167 0 9 (dk_at dksX4_counts_8 9 rfl rfl)
theorem dX4_counts_199 : decode cX4_counts 199 = .ok (.aload_n 0, 1) := dk_42 (dk_at dksX4_counts_8 12 rfl rfl)
theorem dX4_counts_200 : decode cX4_counts 200 = .ok (.getfield 75, 3) := dk_180 0 75 (dk_at dksX4_counts_8 13 rfl rfl)
theorem dX4_counts_203 : decode cX4_counts 203 = .ok (.iload_n 3, 1) := dk_29 (dk_at dksX4_counts_8 16 rfl rfl)
theorem dX4_counts_204 : decode cX4_counts 204 = .ok (.laload, 1) := dk_47 (dk_at dksX4_counts_8 17 rfl rfl)
theorem dX4_counts_205 : decode cX4_counts 205 = .ok (.ladd, 1) := dk_97 (dk_at dksX4_counts_8 18 rfl rfl)
theorem dX4_counts_206 : decode cX4_counts 206 = .ok (.lastore, 1) := dk_80 (dk_at dksX4_counts_8 19 rfl rfl)
theorem dX4_counts_207 : decode cX4_counts 207 = .ok (.aload_n 0, 1) := dk_42 (dk_at dksX4_counts_8 20 rfl rfl)
theorem dX4_counts_208 : decode cX4_counts 208 = .ok (.getfield 75, 3) := dk_180 0 75 (dk_at dksX4_counts_8 21 rfl rfl)
theorem dX4_counts_211 : decode cX4_counts 211 = .ok (.iload_n 2, 1) := dk_28 (dk_at dksX4_counts_9 0 rfl rfl)
theorem dX4_counts_212 : decode cX4_counts 212 = .ok (.dup2, 1) := dk_92 (dk_at dksX4_counts_9 1 rfl rfl)
theorem dX4_counts_213 : decode cX4_counts 213 = .ok (.laload, 1) := dk_47 (dk_at dksX4_counts_9 2 rfl rfl)
theorem dX4_counts_214 : decode cX4_counts 214 = .ok (.aload_n 0, 1) := dk_42 (dk_at dksX4_counts_9 3 rfl rfl)
theorem dX4_counts_215 : decode cX4_counts 215 = .ok (.getfield 71, 3) := dk_180 0 71 (dk_at dksX4_counts_9 4 rfl rfl)
theorem dX4_counts_218 : decode cX4_counts 218 = .ok (.iload_n 3, 1) := dk_29 (dk_at dksX4_counts_9 7 rfl rfl)
theorem dX4_counts_219 : decode cX4_counts 219 = .ok (.laload, 1) := dk_47 (dk_at dksX4_counts_9 8 rfl rfl)
theorem dX4_counts_220 : decode cX4_counts 220 = .ok (.ladd, 1) := dk_97 (dk_at dksX4_counts_9 9 rfl rfl)
theorem dX4_counts_221 : decode cX4_counts 221 = .ok (.lastore, 1) := dk_80 (dk_at dksX4_counts_9 10 rfl rfl)
theorem dX4_counts_222 : decode cX4_counts 222 = .ok (.aload_n 0, 1) := dk_42 (dk_at dksX4_counts_9 11 rfl rfl)
theorem dX4_counts_223 : decode cX4_counts 223 = .ok (.getfield 81, 3) := dk_180 0 81 (dk_at dksX4_counts_9 12 rfl rfl)
theorem dX4_counts_226 : decode cX4_counts 226 = .ok (.iload_n 2, 1) := dk_28 (dk_at dksX4_counts_9 15 rfl rfl)
theorem dX4_counts_227 : decode cX4_counts 227 = .ok (.dup2, 1) := dk_92 (dk_at dksX4_counts_9 16 rfl rfl)
theorem dX4_counts_228 : decode cX4_counts 228 = .ok (.laload, 1) := dk_47 (dk_at dksX4_counts_9 17 rfl rfl)
theorem dX4_counts_229 : decode cX4_counts 229 = .ok (.aload_n 0, 1) := dk_42 (dk_at dksX4_counts_9 18 rfl rfl)
theorem dX4_counts_230 : decode cX4_counts 230 = .ok (.getfield 78, 3) := dk_180 0 78 (dk_at dksX4_counts_9 19 rfl rfl)
theorem dX4_counts_233 : decode cX4_counts 233 = .ok (.iload_n 3, 1) := dk_29 (dk_at dksX4_counts_9 22 rfl rfl)
theorem dX4_counts_234 : decode cX4_counts 234 = .ok (.laload, 1) := dk_47 (dk_at dksX4_counts_9 23 rfl rfl)
theorem dX4_counts_235 : decode cX4_counts 235 = .ok (.lmul, 1) := dk_105 (dk_at dksX4_counts_10 0 rfl rfl)
theorem dX4_counts_236 : decode cX4_counts 236 = .ok (.lastore, 1) := dk_80 (dk_at dksX4_counts_10 1 rfl rfl)
theorem dX4_counts_237 : decode cX4_counts 237 = .ok (.iinc 3 1, 3) := dk_132 3 1 (dk_at dksX4_counts_10 2 rfl rfl)
theorem dX4_counts_240 : decode cX4_counts 240 = .ok (.goto (-183), 3) := dk_167 255 73 (dk_at dksX4_counts_10 5 rfl rfl)
theorem dX4_counts_243 : decode cX4_counts 243 = .ok (.iinc 2 (-1), 3) := dk_132 2 255 (dk_at dksX4_counts_10 8 rfl rfl)
theorem dX4_counts_246 : decode cX4_counts 246 = .ok (.goto (-239), 3) := dk_167 255 17 (dk_at dksX4_counts_10 11 rfl rfl)
theorem dX4_counts_249 : decode cX4_counts 249 = .ok (.return_, 1) := dk_177 (dk_at dksX4_counts_10 14 rfl rfl)
abbrev cX4_costIn : ByteArray := prog_32_method_81_code
def yX4_costIn : MethodName := ⟨RX4, "costIn", "(I)I"⟩
def dkwX4_costIn_0 : List UInt8 := [42, 180, 0, 53, 27, 46, 42, 180, 0, 56, 27, 46, 42, 27, 182, 1, 54, 27, 184, 0, 137, 172]
abbrev dktX4_costIn_0 : List UInt8 := dkwX4_costIn_0 ++ []
theorem dksX4_costIn_0 : cX4_costIn.data.toList.drop 0 = dktX4_costIn_0 := by decide +kernel
theorem dX4_costIn_0 : decode cX4_costIn 0 = .ok (.aload_n 0, 1) := dk_42 (dk_at dksX4_costIn_0 0 rfl rfl)
theorem dX4_costIn_1 : decode cX4_costIn 1 = .ok (.getfield 53, 3) := dk_180 0 53 (dk_at dksX4_costIn_0 1 rfl rfl)
theorem dX4_costIn_4 : decode cX4_costIn 4 = .ok (.iload_n 1, 1) := dk_27 (dk_at dksX4_costIn_0 4 rfl rfl)
theorem dX4_costIn_5 : decode cX4_costIn 5 = .ok (.iaload, 1) := dk_46 (dk_at dksX4_costIn_0 5 rfl rfl)
theorem dX4_costIn_6 : decode cX4_costIn 6 = .ok (.aload_n 0, 1) := dk_42 (dk_at dksX4_costIn_0 6 rfl rfl)
theorem dX4_costIn_7 : decode cX4_costIn 7 = .ok (.getfield 56, 3) := dk_180 0 56 (dk_at dksX4_costIn_0 7 rfl rfl)
theorem dX4_costIn_10 : decode cX4_costIn 10 = .ok (.iload_n 1, 1) := dk_27 (dk_at dksX4_costIn_0 10 rfl rfl)
theorem dX4_costIn_11 : decode cX4_costIn 11 = .ok (.iaload, 1) := dk_46 (dk_at dksX4_costIn_0 11 rfl rfl)
theorem dX4_costIn_12 : decode cX4_costIn 12 = .ok (.aload_n 0, 1) := dk_42 (dk_at dksX4_costIn_0 12 rfl rfl)
theorem dX4_costIn_13 : decode cX4_costIn 13 = .ok (.iload_n 1, 1) := dk_27 (dk_at dksX4_costIn_0 13 rfl rfl)
theorem dX4_costIn_14 : decode cX4_costIn 14 = .ok (.invokevirtual 310, 3) := dk_182 1 54 (dk_at dksX4_costIn_0 14 rfl rfl)
theorem dX4_costIn_17 : decode cX4_costIn 17 = .ok (.iload_n 1, 1) := dk_27 (dk_at dksX4_costIn_0 17 rfl rfl)
theorem dX4_costIn_18 : decode cX4_costIn 18 = .ok (.invokestatic 137, 3) := dk_184 0 137 (dk_at dksX4_costIn_0 18 rfl rfl)
theorem dX4_costIn_21 : decode cX4_costIn 21 = .ok (.ireturn, 1) := dk_172 (dk_at dksX4_costIn_0 21 rfl rfl)
abbrev cX4_linesIn : ByteArray := prog_32_method_80_code
def yX4_linesIn : MethodName := ⟨RX4, "linesIn", "(I)I"⟩
def dkwX4_linesIn_1 : List UInt8 := [180, 0, 59, 29, 46, 27, 160, 0, 7, 4, 167, 0, 4, 3, 96, 61, 132, 3, 1, 167, 255, 227, 28, 172]
abbrev dktX4_linesIn_1 : List UInt8 := dkwX4_linesIn_1 ++ []
def dkwX4_linesIn_0 : List UInt8 := [27, 154, 0, 7, 3, 167, 0, 4, 4, 61, 27, 4, 96, 62, 29, 42, 180, 0, 165, 162, 0, 27, 28, 42]
abbrev dktX4_linesIn_0 : List UInt8 := dkwX4_linesIn_0 ++ dktX4_linesIn_1
theorem dksX4_linesIn_0 : cX4_linesIn.data.toList.drop 0 = dktX4_linesIn_0 := by decide +kernel
theorem dksX4_linesIn_1 : cX4_linesIn.data.toList.drop 24 = dktX4_linesIn_1 := dk_seg dksX4_linesIn_0 24 rfl rfl
theorem dX4_linesIn_0 : decode cX4_linesIn 0 = .ok (.iload_n 1, 1) := dk_27 (dk_at dksX4_linesIn_0 0 rfl rfl)
theorem dX4_linesIn_1 : decode cX4_linesIn 1 = .ok (.ifCond .ne 7, 3) := dk_154 0 7 (dk_at dksX4_linesIn_0 1 rfl rfl)
theorem dX4_linesIn_4 : decode cX4_linesIn 4 = .ok (.iconst 0, 1) := dk_3 (dk_at dksX4_linesIn_0 4 rfl rfl)
theorem dX4_linesIn_5 : decode cX4_linesIn 5 = .ok (.goto 4, 3) := dk_167 0 4 (dk_at dksX4_linesIn_0 5 rfl rfl)
theorem dX4_linesIn_8 : decode cX4_linesIn 8 = .ok (.iconst 1, 1) := dk_4 (dk_at dksX4_linesIn_0 8 rfl rfl)
theorem dX4_linesIn_9 : decode cX4_linesIn 9 = .ok (.istore_n 2, 1) := dk_61 (dk_at dksX4_linesIn_0 9 rfl rfl)
theorem dX4_linesIn_10 : decode cX4_linesIn 10 = .ok (.iload_n 1, 1) := dk_27 (dk_at dksX4_linesIn_0 10 rfl rfl)
theorem dX4_linesIn_11 : decode cX4_linesIn 11 = .ok (.iconst 1, 1) := dk_4 (dk_at dksX4_linesIn_0 11 rfl rfl)
theorem dX4_linesIn_12 : decode cX4_linesIn 12 = .ok (.iadd, 1) := dk_96 (dk_at dksX4_linesIn_0 12 rfl rfl)
theorem dX4_linesIn_13 : decode cX4_linesIn 13 = .ok (.istore_n 3, 1) := dk_62 (dk_at dksX4_linesIn_0 13 rfl rfl)
theorem dX4_linesIn_14 : decode cX4_linesIn 14 = .ok (.iload_n 3, 1) := dk_29 (dk_at dksX4_linesIn_0 14 rfl rfl)
theorem dX4_linesIn_15 : decode cX4_linesIn 15 = .ok (.aload_n 0, 1) := dk_42 (dk_at dksX4_linesIn_0 15 rfl rfl)
theorem dX4_linesIn_16 : decode cX4_linesIn 16 = .ok (.getfield 165, 3) := dk_180 0 165 (dk_at dksX4_linesIn_0 16 rfl rfl)
theorem dX4_linesIn_19 : decode cX4_linesIn 19 = .ok (.if_icmp .ge 27, 3) := dk_162 0 27 (dk_at dksX4_linesIn_0 19 rfl rfl)
theorem dX4_linesIn_22 : decode cX4_linesIn 22 = .ok (.iload_n 2, 1) := dk_28 (dk_at dksX4_linesIn_0 22 rfl rfl)
theorem dX4_linesIn_23 : decode cX4_linesIn 23 = .ok (.aload_n 0, 1) := dk_42 (dk_at dksX4_linesIn_0 23 rfl rfl)
theorem dX4_linesIn_24 : decode cX4_linesIn 24 = .ok (.getfield 59, 3) := dk_180 0 59 (dk_at dksX4_linesIn_1 0 rfl rfl)
theorem dX4_linesIn_27 : decode cX4_linesIn 27 = .ok (.iload_n 3, 1) := dk_29 (dk_at dksX4_linesIn_1 3 rfl rfl)
theorem dX4_linesIn_28 : decode cX4_linesIn 28 = .ok (.iaload, 1) := dk_46 (dk_at dksX4_linesIn_1 4 rfl rfl)
theorem dX4_linesIn_29 : decode cX4_linesIn 29 = .ok (.iload_n 1, 1) := dk_27 (dk_at dksX4_linesIn_1 5 rfl rfl)
theorem dX4_linesIn_30 : decode cX4_linesIn 30 = .ok (.if_icmp .ne 7, 3) := dk_160 0 7 (dk_at dksX4_linesIn_1 6 rfl rfl)
theorem dX4_linesIn_33 : decode cX4_linesIn 33 = .ok (.iconst 1, 1) := dk_4 (dk_at dksX4_linesIn_1 9 rfl rfl)
theorem dX4_linesIn_34 : decode cX4_linesIn 34 = .ok (.goto 4, 3) := dk_167 0 4 (dk_at dksX4_linesIn_1 10 rfl rfl)
theorem dX4_linesIn_37 : decode cX4_linesIn 37 = .ok (.iconst 0, 1) := dk_3 (dk_at dksX4_linesIn_1 13 rfl rfl)
theorem dX4_linesIn_38 : decode cX4_linesIn 38 = .ok (.iadd, 1) := dk_96 (dk_at dksX4_linesIn_1 14 rfl rfl)
theorem dX4_linesIn_39 : decode cX4_linesIn 39 = .ok (.istore_n 2, 1) := dk_61 (dk_at dksX4_linesIn_1 15 rfl rfl)
theorem dX4_linesIn_40 : decode cX4_linesIn 40 = .ok (.iinc 3 1, 3) := dk_132 3 1 (dk_at dksX4_linesIn_1 16 rfl rfl)
theorem dX4_linesIn_43 : decode cX4_linesIn 43 = .ok (.goto (-29), 3) := dk_167 255 227 (dk_at dksX4_linesIn_1 19 rfl rfl)
theorem dX4_linesIn_46 : decode cX4_linesIn 46 = .ok (.iload_n 2, 1) := dk_28 (dk_at dksX4_linesIn_1 22 rfl rfl)
theorem dX4_linesIn_47 : decode cX4_linesIn 47 = .ok (.ireturn, 1) := dk_172 (dk_at dksX4_linesIn_1 23 rfl rfl)
abbrev cX4_treeOf : ByteArray := prog_32_method_87_code
def yX4_treeOf : MethodName := ⟨RX4, "treeOf", "(II)I"⟩
def dkwX4_treeOf_5 : List UInt8 := [27, 182, 1, 57, 172, 42, 27, 182, 1, 73, 153, 0, 7, 4, 167, 0, 4, 3, 172]
abbrev dktX4_treeOf_5 : List UInt8 := dkwX4_treeOf_5 ++ []
def dkwX4_treeOf_4 : List UInt8 := [42, 180, 0, 53, 27, 46, 172, 42, 180, 0, 56, 27, 46, 172, 42, 180, 0, 59, 27, 46, 172, 29, 172, 42]
abbrev dktX4_treeOf_4 : List UInt8 := dkwX4_treeOf_4 ++ dktX4_treeOf_5
def dkwX4_treeOf_3 : List UInt8 := [170, 0, 0, 0, 62, 0, 0, 0, 0, 0, 0, 0, 4, 0, 0, 0, 33, 0, 0, 0, 40, 0, 0, 0, 47, 0, 0, 0, 54, 0, 0, 0, 56]
abbrev dktX4_treeOf_3 : List UInt8 := dkwX4_treeOf_3 ++ dktX4_treeOf_4
def dkwX4_treeOf_2 : List UInt8 := [42, 21, 4, 27, 182, 1, 70, 153, 0, 7, 4, 167, 0, 4, 3, 96, 62, 132, 4, 1, 167, 255, 220, 28]
abbrev dktX4_treeOf_2 : List UInt8 := dkwX4_treeOf_2 ++ dktX4_treeOf_3
def dkwX4_treeOf_1 : List UInt8 := [16, 254, 172, 3, 62, 3, 54, 4, 21, 4, 42, 180, 0, 165, 162, 0, 33, 29, 21, 4, 27, 159, 0, 17]
abbrev dktX4_treeOf_1 : List UInt8 := dkwX4_treeOf_1 ++ dktX4_treeOf_2
def dkwX4_treeOf_0 : List UInt8 := [27, 3, 42, 180, 0, 165, 4, 100, 184, 0, 125, 153, 0, 12, 28, 3, 8, 184, 0, 125, 154, 0, 6]
abbrev dktX4_treeOf_0 : List UInt8 := dkwX4_treeOf_0 ++ dktX4_treeOf_1
theorem dksX4_treeOf_0 : cX4_treeOf.data.toList.drop 0 = dktX4_treeOf_0 := by decide +kernel
theorem dksX4_treeOf_1 : cX4_treeOf.data.toList.drop 23 = dktX4_treeOf_1 := dk_seg dksX4_treeOf_0 23 rfl rfl
theorem dksX4_treeOf_2 : cX4_treeOf.data.toList.drop 47 = dktX4_treeOf_2 := dk_seg dksX4_treeOf_1 24 rfl rfl
theorem dksX4_treeOf_3 : cX4_treeOf.data.toList.drop 71 = dktX4_treeOf_3 := dk_seg dksX4_treeOf_2 24 rfl rfl
theorem dksX4_treeOf_4 : cX4_treeOf.data.toList.drop 104 = dktX4_treeOf_4 := dk_seg dksX4_treeOf_3 33 rfl rfl
theorem dksX4_treeOf_5 : cX4_treeOf.data.toList.drop 128 = dktX4_treeOf_5 := dk_seg dksX4_treeOf_4 24 rfl rfl
theorem dX4_treeOf_0 : decode cX4_treeOf 0 = .ok (.iload_n 1, 1) := dk_27 (dk_at dksX4_treeOf_0 0 rfl rfl)
theorem dX4_treeOf_1 : decode cX4_treeOf 1 = .ok (.iconst 0, 1) := dk_3 (dk_at dksX4_treeOf_0 1 rfl rfl)
theorem dX4_treeOf_2 : decode cX4_treeOf 2 = .ok (.aload_n 0, 1) := dk_42 (dk_at dksX4_treeOf_0 2 rfl rfl)
theorem dX4_treeOf_3 : decode cX4_treeOf 3 = .ok (.getfield 165, 3) := dk_180 0 165 (dk_at dksX4_treeOf_0 3 rfl rfl)
theorem dX4_treeOf_6 : decode cX4_treeOf 6 = .ok (.iconst 1, 1) := dk_4 (dk_at dksX4_treeOf_0 6 rfl rfl)
theorem dX4_treeOf_7 : decode cX4_treeOf 7 = .ok (.isub, 1) := dk_100 (dk_at dksX4_treeOf_0 7 rfl rfl)
theorem dX4_treeOf_8 : decode cX4_treeOf 8 = .ok (.invokestatic 125, 3) := dk_184 0 125 (dk_at dksX4_treeOf_0 8 rfl rfl)
theorem dX4_treeOf_11 : decode cX4_treeOf 11 = .ok (.ifCond .eq 12, 3) := dk_153 0 12 (dk_at dksX4_treeOf_0 11 rfl rfl)
theorem dX4_treeOf_14 : decode cX4_treeOf 14 = .ok (.iload_n 2, 1) := dk_28 (dk_at dksX4_treeOf_0 14 rfl rfl)
theorem dX4_treeOf_15 : decode cX4_treeOf 15 = .ok (.iconst 0, 1) := dk_3 (dk_at dksX4_treeOf_0 15 rfl rfl)
theorem dX4_treeOf_16 : decode cX4_treeOf 16 = .ok (.iconst 5, 1) := dk_8 (dk_at dksX4_treeOf_0 16 rfl rfl)
theorem dX4_treeOf_17 : decode cX4_treeOf 17 = .ok (.invokestatic 125, 3) := dk_184 0 125 (dk_at dksX4_treeOf_0 17 rfl rfl)
theorem dX4_treeOf_20 : decode cX4_treeOf 20 = .ok (.ifCond .ne 6, 3) := dk_154 0 6 (dk_at dksX4_treeOf_0 20 rfl rfl)
theorem dX4_treeOf_23 : decode cX4_treeOf 23 = .ok (.bipush (-2), 2) := dk_16 254 (dk_at dksX4_treeOf_1 0 rfl rfl)
theorem dX4_treeOf_25 : decode cX4_treeOf 25 = .ok (.ireturn, 1) := dk_172 (dk_at dksX4_treeOf_1 2 rfl rfl)
theorem dX4_treeOf_26 : decode cX4_treeOf 26 = .ok (.iconst 0, 1) := dk_3 (dk_at dksX4_treeOf_1 3 rfl rfl)
theorem dX4_treeOf_27 : decode cX4_treeOf 27 = .ok (.istore_n 3, 1) := dk_62 (dk_at dksX4_treeOf_1 4 rfl rfl)
theorem dX4_treeOf_28 : decode cX4_treeOf 28 = .ok (.iconst 0, 1) := dk_3 (dk_at dksX4_treeOf_1 5 rfl rfl)
theorem dX4_treeOf_29 : decode cX4_treeOf 29 = .ok (.istore 4, 2) := dk_54 4 (dk_at dksX4_treeOf_1 6 rfl rfl)
theorem dX4_treeOf_31 : decode cX4_treeOf 31 = .ok (.iload 4, 2) := dk_21 4 (dk_at dksX4_treeOf_1 8 rfl rfl)
theorem dX4_treeOf_33 : decode cX4_treeOf 33 = .ok (.aload_n 0, 1) := dk_42 (dk_at dksX4_treeOf_1 10 rfl rfl)
theorem dX4_treeOf_34 : decode cX4_treeOf 34 = .ok (.getfield 165, 3) := dk_180 0 165 (dk_at dksX4_treeOf_1 11 rfl rfl)
theorem dX4_treeOf_37 : decode cX4_treeOf 37 = .ok (.if_icmp .ge 33, 3) := dk_162 0 33 (dk_at dksX4_treeOf_1 14 rfl rfl)
theorem dX4_treeOf_40 : decode cX4_treeOf 40 = .ok (.iload_n 3, 1) := dk_29 (dk_at dksX4_treeOf_1 17 rfl rfl)
theorem dX4_treeOf_41 : decode cX4_treeOf 41 = .ok (.iload 4, 2) := dk_21 4 (dk_at dksX4_treeOf_1 18 rfl rfl)
theorem dX4_treeOf_43 : decode cX4_treeOf 43 = .ok (.iload_n 1, 1) := dk_27 (dk_at dksX4_treeOf_1 20 rfl rfl)
theorem dX4_treeOf_44 : decode cX4_treeOf 44 = .ok (.if_icmp .eq 17, 3) := dk_159 0 17 (dk_at dksX4_treeOf_1 21 rfl rfl)
theorem dX4_treeOf_47 : decode cX4_treeOf 47 = .ok (.aload_n 0, 1) := dk_42 (dk_at dksX4_treeOf_2 0 rfl rfl)
theorem dX4_treeOf_48 : decode cX4_treeOf 48 = .ok (.iload 4, 2) := dk_21 4 (dk_at dksX4_treeOf_2 1 rfl rfl)
theorem dX4_treeOf_50 : decode cX4_treeOf 50 = .ok (.iload_n 1, 1) := dk_27 (dk_at dksX4_treeOf_2 3 rfl rfl)
theorem dX4_treeOf_51 : decode cX4_treeOf 51 = .ok (.invokevirtual 326, 3) := dk_182 1 70 (dk_at dksX4_treeOf_2 4 rfl rfl)
theorem dX4_treeOf_54 : decode cX4_treeOf 54 = .ok (.ifCond .eq 7, 3) := dk_153 0 7 (dk_at dksX4_treeOf_2 7 rfl rfl)
theorem dX4_treeOf_57 : decode cX4_treeOf 57 = .ok (.iconst 1, 1) := dk_4 (dk_at dksX4_treeOf_2 10 rfl rfl)
theorem dX4_treeOf_58 : decode cX4_treeOf 58 = .ok (.goto 4, 3) := dk_167 0 4 (dk_at dksX4_treeOf_2 11 rfl rfl)
theorem dX4_treeOf_61 : decode cX4_treeOf 61 = .ok (.iconst 0, 1) := dk_3 (dk_at dksX4_treeOf_2 14 rfl rfl)
theorem dX4_treeOf_62 : decode cX4_treeOf 62 = .ok (.iadd, 1) := dk_96 (dk_at dksX4_treeOf_2 15 rfl rfl)
theorem dX4_treeOf_63 : decode cX4_treeOf 63 = .ok (.istore_n 3, 1) := dk_62 (dk_at dksX4_treeOf_2 16 rfl rfl)
theorem dX4_treeOf_64 : decode cX4_treeOf 64 = .ok (.iinc 4 1, 3) := dk_132 4 1 (dk_at dksX4_treeOf_2 17 rfl rfl)
theorem dX4_treeOf_67 : decode cX4_treeOf 67 = .ok (.goto (-36), 3) := dk_167 255 220 (dk_at dksX4_treeOf_2 20 rfl rfl)
theorem dX4_treeOf_70 : decode cX4_treeOf 70 = .ok (.iload_n 2, 1) := dk_28 (dk_at dksX4_treeOf_2 23 rfl rfl)
theorem dX4_treeOf_71 : decode cX4_treeOf 71 = .ok (.tableswitch 62 0 4 #[33, 40, 47, 54, 56], 33) := by decide +kernel
theorem dX4_treeOf_104 : decode cX4_treeOf 104 = .ok (.aload_n 0, 1) := dk_42 (dk_at dksX4_treeOf_4 0 rfl rfl)
theorem dX4_treeOf_105 : decode cX4_treeOf 105 = .ok (.getfield 53, 3) := dk_180 0 53 (dk_at dksX4_treeOf_4 1 rfl rfl)
theorem dX4_treeOf_108 : decode cX4_treeOf 108 = .ok (.iload_n 1, 1) := dk_27 (dk_at dksX4_treeOf_4 4 rfl rfl)
theorem dX4_treeOf_109 : decode cX4_treeOf 109 = .ok (.iaload, 1) := dk_46 (dk_at dksX4_treeOf_4 5 rfl rfl)
theorem dX4_treeOf_110 : decode cX4_treeOf 110 = .ok (.ireturn, 1) := dk_172 (dk_at dksX4_treeOf_4 6 rfl rfl)
theorem dX4_treeOf_111 : decode cX4_treeOf 111 = .ok (.aload_n 0, 1) := dk_42 (dk_at dksX4_treeOf_4 7 rfl rfl)
theorem dX4_treeOf_112 : decode cX4_treeOf 112 = .ok (.getfield 56, 3) := dk_180 0 56 (dk_at dksX4_treeOf_4 8 rfl rfl)
theorem dX4_treeOf_115 : decode cX4_treeOf 115 = .ok (.iload_n 1, 1) := dk_27 (dk_at dksX4_treeOf_4 11 rfl rfl)
theorem dX4_treeOf_116 : decode cX4_treeOf 116 = .ok (.iaload, 1) := dk_46 (dk_at dksX4_treeOf_4 12 rfl rfl)
theorem dX4_treeOf_117 : decode cX4_treeOf 117 = .ok (.ireturn, 1) := dk_172 (dk_at dksX4_treeOf_4 13 rfl rfl)
theorem dX4_treeOf_118 : decode cX4_treeOf 118 = .ok (.aload_n 0, 1) := dk_42 (dk_at dksX4_treeOf_4 14 rfl rfl)
theorem dX4_treeOf_119 : decode cX4_treeOf 119 = .ok (.getfield 59, 3) := dk_180 0 59 (dk_at dksX4_treeOf_4 15 rfl rfl)
theorem dX4_treeOf_122 : decode cX4_treeOf 122 = .ok (.iload_n 1, 1) := dk_27 (dk_at dksX4_treeOf_4 18 rfl rfl)
theorem dX4_treeOf_123 : decode cX4_treeOf 123 = .ok (.iaload, 1) := dk_46 (dk_at dksX4_treeOf_4 19 rfl rfl)
theorem dX4_treeOf_124 : decode cX4_treeOf 124 = .ok (.ireturn, 1) := dk_172 (dk_at dksX4_treeOf_4 20 rfl rfl)
theorem dX4_treeOf_125 : decode cX4_treeOf 125 = .ok (.iload_n 3, 1) := dk_29 (dk_at dksX4_treeOf_4 21 rfl rfl)
theorem dX4_treeOf_126 : decode cX4_treeOf 126 = .ok (.ireturn, 1) := dk_172 (dk_at dksX4_treeOf_4 22 rfl rfl)
theorem dX4_treeOf_127 : decode cX4_treeOf 127 = .ok (.aload_n 0, 1) := dk_42 (dk_at dksX4_treeOf_4 23 rfl rfl)
theorem dX4_treeOf_128 : decode cX4_treeOf 128 = .ok (.iload_n 1, 1) := dk_27 (dk_at dksX4_treeOf_5 0 rfl rfl)
theorem dX4_treeOf_129 : decode cX4_treeOf 129 = .ok (.invokevirtual 313, 3) := dk_182 1 57 (dk_at dksX4_treeOf_5 1 rfl rfl)
theorem dX4_treeOf_132 : decode cX4_treeOf 132 = .ok (.ireturn, 1) := dk_172 (dk_at dksX4_treeOf_5 4 rfl rfl)
theorem dX4_treeOf_133 : decode cX4_treeOf 133 = .ok (.aload_n 0, 1) := dk_42 (dk_at dksX4_treeOf_5 5 rfl rfl)
theorem dX4_treeOf_134 : decode cX4_treeOf 134 = .ok (.iload_n 1, 1) := dk_27 (dk_at dksX4_treeOf_5 6 rfl rfl)
theorem dX4_treeOf_135 : decode cX4_treeOf 135 = .ok (.invokevirtual 329, 3) := dk_182 1 73 (dk_at dksX4_treeOf_5 7 rfl rfl)
theorem dX4_treeOf_138 : decode cX4_treeOf 138 = .ok (.ifCond .eq 7, 3) := dk_153 0 7 (dk_at dksX4_treeOf_5 10 rfl rfl)
theorem dX4_treeOf_141 : decode cX4_treeOf 141 = .ok (.iconst 1, 1) := dk_4 (dk_at dksX4_treeOf_5 13 rfl rfl)
theorem dX4_treeOf_142 : decode cX4_treeOf 142 = .ok (.goto 4, 3) := dk_167 0 4 (dk_at dksX4_treeOf_5 14 rfl rfl)
theorem dX4_treeOf_145 : decode cX4_treeOf 145 = .ok (.iconst 0, 1) := dk_3 (dk_at dksX4_treeOf_5 17 rfl rfl)
theorem dX4_treeOf_146 : decode cX4_treeOf 146 = .ok (.ireturn, 1) := dk_172 (dk_at dksX4_treeOf_5 18 rfl rfl)
abbrev cX4_isUnder : ByteArray := prog_32_method_85_code
def yX4_isUnder : MethodName := ⟨RX4, "isUnder", "(II)Z"⟩
def dkwX4_isUnder_1 : List UInt8 := [167, 255, 239, 29, 28, 160, 0, 7, 4, 167, 0, 4, 3, 172]
abbrev dktX4_isUnder_1 : List UInt8 := dkwX4_isUnder_1 ++ []
def dkwX4_isUnder_0 : List UInt8 := [42, 180, 0, 59, 27, 46, 62, 29, 2, 159, 0, 18, 29, 28, 159, 0, 13, 42, 180, 0, 59, 29, 46, 62]
abbrev dktX4_isUnder_0 : List UInt8 := dkwX4_isUnder_0 ++ dktX4_isUnder_1
theorem dksX4_isUnder_0 : cX4_isUnder.data.toList.drop 0 = dktX4_isUnder_0 := by decide +kernel
theorem dksX4_isUnder_1 : cX4_isUnder.data.toList.drop 24 = dktX4_isUnder_1 := dk_seg dksX4_isUnder_0 24 rfl rfl
theorem dX4_isUnder_0 : decode cX4_isUnder 0 = .ok (.aload_n 0, 1) := dk_42 (dk_at dksX4_isUnder_0 0 rfl rfl)
theorem dX4_isUnder_1 : decode cX4_isUnder 1 = .ok (.getfield 59, 3) := dk_180 0 59 (dk_at dksX4_isUnder_0 1 rfl rfl)
theorem dX4_isUnder_4 : decode cX4_isUnder 4 = .ok (.iload_n 1, 1) := dk_27 (dk_at dksX4_isUnder_0 4 rfl rfl)
theorem dX4_isUnder_5 : decode cX4_isUnder 5 = .ok (.iaload, 1) := dk_46 (dk_at dksX4_isUnder_0 5 rfl rfl)
theorem dX4_isUnder_6 : decode cX4_isUnder 6 = .ok (.istore_n 3, 1) := dk_62 (dk_at dksX4_isUnder_0 6 rfl rfl)
theorem dX4_isUnder_7 : decode cX4_isUnder 7 = .ok (.iload_n 3, 1) := dk_29 (dk_at dksX4_isUnder_0 7 rfl rfl)
theorem dX4_isUnder_8 : decode cX4_isUnder 8 = .ok (.iconst (-1), 1) := dk_2 (dk_at dksX4_isUnder_0 8 rfl rfl)
theorem dX4_isUnder_9 : decode cX4_isUnder 9 = .ok (.if_icmp .eq 18, 3) := dk_159 0 18 (dk_at dksX4_isUnder_0 9 rfl rfl)
theorem dX4_isUnder_12 : decode cX4_isUnder 12 = .ok (.iload_n 3, 1) := dk_29 (dk_at dksX4_isUnder_0 12 rfl rfl)
theorem dX4_isUnder_13 : decode cX4_isUnder 13 = .ok (.iload_n 2, 1) := dk_28 (dk_at dksX4_isUnder_0 13 rfl rfl)
theorem dX4_isUnder_14 : decode cX4_isUnder 14 = .ok (.if_icmp .eq 13, 3) := dk_159 0 13 (dk_at dksX4_isUnder_0 14 rfl rfl)
theorem dX4_isUnder_17 : decode cX4_isUnder 17 = .ok (.aload_n 0, 1) := dk_42 (dk_at dksX4_isUnder_0 17 rfl rfl)
theorem dX4_isUnder_18 : decode cX4_isUnder 18 = .ok (.getfield 59, 3) := dk_180 0 59 (dk_at dksX4_isUnder_0 18 rfl rfl)
theorem dX4_isUnder_21 : decode cX4_isUnder 21 = .ok (.iload_n 3, 1) := dk_29 (dk_at dksX4_isUnder_0 21 rfl rfl)
theorem dX4_isUnder_22 : decode cX4_isUnder 22 = .ok (.iaload, 1) := dk_46 (dk_at dksX4_isUnder_0 22 rfl rfl)
theorem dX4_isUnder_23 : decode cX4_isUnder 23 = .ok (.istore_n 3, 1) := dk_62 (dk_at dksX4_isUnder_0 23 rfl rfl)
theorem dX4_isUnder_24 : decode cX4_isUnder 24 = .ok (.goto (-17), 3) := dk_167 255 239 (dk_at dksX4_isUnder_1 0 rfl rfl)
theorem dX4_isUnder_27 : decode cX4_isUnder 27 = .ok (.iload_n 3, 1) := dk_29 (dk_at dksX4_isUnder_1 3 rfl rfl)
theorem dX4_isUnder_28 : decode cX4_isUnder 28 = .ok (.iload_n 2, 1) := dk_28 (dk_at dksX4_isUnder_1 4 rfl rfl)
theorem dX4_isUnder_29 : decode cX4_isUnder 29 = .ok (.if_icmp .ne 7, 3) := dk_160 0 7 (dk_at dksX4_isUnder_1 5 rfl rfl)
theorem dX4_isUnder_32 : decode cX4_isUnder 32 = .ok (.iconst 1, 1) := dk_4 (dk_at dksX4_isUnder_1 8 rfl rfl)
theorem dX4_isUnder_33 : decode cX4_isUnder 33 = .ok (.goto 4, 3) := dk_167 0 4 (dk_at dksX4_isUnder_1 9 rfl rfl)
theorem dX4_isUnder_36 : decode cX4_isUnder 36 = .ok (.iconst 0, 1) := dk_3 (dk_at dksX4_isUnder_1 12 rfl rfl)
theorem dX4_isUnder_37 : decode cX4_isUnder 37 = .ok (.ireturn, 1) := dk_172 (dk_at dksX4_isUnder_1 13 rfl rfl)
abbrev cX4_isMarked : ByteArray := prog_32_method_86_code
def yX4_isMarked : MethodName := ⟨RX4, "isMarked", "(I)Z"⟩
def dkwX4_isMarked_3 : List UInt8 := [167, 255, 214, 42, 180, 0, 87, 27, 51, 172]
abbrev dktX4_isMarked_3 : List UInt8 := dkwX4_isMarked_3 ++ []
def dkwX4_isMarked_2 : List UInt8 := [180, 0, 59, 28, 46, 51, 154, 0, 15, 42, 180, 0, 87, 42, 180, 0, 59, 28, 46, 4, 84, 132, 2, 255]
abbrev dktX4_isMarked_2 : List UInt8 := dkwX4_isMarked_2 ++ dktX4_isMarked_3
def dkwX4_isMarked_1 : List UInt8 := [180, 0, 165, 4, 100, 61, 28, 158, 0, 44, 42, 180, 0, 87, 28, 51, 154, 0, 29, 42, 180, 0, 87, 42]
abbrev dktX4_isMarked_1 : List UInt8 := dkwX4_isMarked_1 ++ dktX4_isMarked_2
def dkwX4_isMarked_0 : List UInt8 := [3, 61, 28, 16, 60, 162, 0, 16, 42, 180, 0, 87, 28, 3, 84, 132, 2, 1, 167, 255, 240, 42]
abbrev dktX4_isMarked_0 : List UInt8 := dkwX4_isMarked_0 ++ dktX4_isMarked_1
theorem dksX4_isMarked_0 : cX4_isMarked.data.toList.drop 0 = dktX4_isMarked_0 := by decide +kernel
theorem dksX4_isMarked_1 : cX4_isMarked.data.toList.drop 22 = dktX4_isMarked_1 := dk_seg dksX4_isMarked_0 22 rfl rfl
theorem dksX4_isMarked_2 : cX4_isMarked.data.toList.drop 46 = dktX4_isMarked_2 := dk_seg dksX4_isMarked_1 24 rfl rfl
theorem dksX4_isMarked_3 : cX4_isMarked.data.toList.drop 70 = dktX4_isMarked_3 := dk_seg dksX4_isMarked_2 24 rfl rfl
theorem dX4_isMarked_0 : decode cX4_isMarked 0 = .ok (.iconst 0, 1) := dk_3 (dk_at dksX4_isMarked_0 0 rfl rfl)
theorem dX4_isMarked_1 : decode cX4_isMarked 1 = .ok (.istore_n 2, 1) := dk_61 (dk_at dksX4_isMarked_0 1 rfl rfl)
theorem dX4_isMarked_2 : decode cX4_isMarked 2 = .ok (.iload_n 2, 1) := dk_28 (dk_at dksX4_isMarked_0 2 rfl rfl)
theorem dX4_isMarked_3 : decode cX4_isMarked 3 = .ok (.bipush 60, 2) := dk_16 60 (dk_at dksX4_isMarked_0 3 rfl rfl)
theorem dX4_isMarked_5 : decode cX4_isMarked 5 = .ok (.if_icmp .ge 16, 3) := dk_162 0 16 (dk_at dksX4_isMarked_0 5 rfl rfl)
theorem dX4_isMarked_8 : decode cX4_isMarked 8 = .ok (.aload_n 0, 1) := dk_42 (dk_at dksX4_isMarked_0 8 rfl rfl)
theorem dX4_isMarked_9 : decode cX4_isMarked 9 = .ok (.getfield 87, 3) := dk_180 0 87 (dk_at dksX4_isMarked_0 9 rfl rfl)
theorem dX4_isMarked_12 : decode cX4_isMarked 12 = .ok (.iload_n 2, 1) := dk_28 (dk_at dksX4_isMarked_0 12 rfl rfl)
theorem dX4_isMarked_13 : decode cX4_isMarked 13 = .ok (.iconst 0, 1) := dk_3 (dk_at dksX4_isMarked_0 13 rfl rfl)
theorem dX4_isMarked_14 : decode cX4_isMarked 14 = .ok (.bastore, 1) := dk_84 (dk_at dksX4_isMarked_0 14 rfl rfl)
theorem dX4_isMarked_15 : decode cX4_isMarked 15 = .ok (.iinc 2 1, 3) := dk_132 2 1 (dk_at dksX4_isMarked_0 15 rfl rfl)
theorem dX4_isMarked_18 : decode cX4_isMarked 18 = .ok (.goto (-16), 3) := dk_167 255 240 (dk_at dksX4_isMarked_0 18 rfl rfl)
theorem dX4_isMarked_21 : decode cX4_isMarked 21 = .ok (.aload_n 0, 1) := dk_42 (dk_at dksX4_isMarked_0 21 rfl rfl)
theorem dX4_isMarked_22 : decode cX4_isMarked 22 = .ok (.getfield 165, 3) := dk_180 0 165 (dk_at dksX4_isMarked_1 0 rfl rfl)
theorem dX4_isMarked_25 : decode cX4_isMarked 25 = .ok (.iconst 1, 1) := dk_4 (dk_at dksX4_isMarked_1 3 rfl rfl)
theorem dX4_isMarked_26 : decode cX4_isMarked 26 = .ok (.isub, 1) := dk_100 (dk_at dksX4_isMarked_1 4 rfl rfl)
theorem dX4_isMarked_27 : decode cX4_isMarked 27 = .ok (.istore_n 2, 1) := dk_61 (dk_at dksX4_isMarked_1 5 rfl rfl)
theorem dX4_isMarked_28 : decode cX4_isMarked 28 = .ok (.iload_n 2, 1) := dk_28 (dk_at dksX4_isMarked_1 6 rfl rfl)
theorem dX4_isMarked_29 : decode cX4_isMarked 29 = .ok (.ifCond .le 44, 3) := dk_158 0 44 (dk_at dksX4_isMarked_1 7 rfl rfl)
theorem dX4_isMarked_32 : decode cX4_isMarked 32 = .ok (.aload_n 0, 1) := dk_42 (dk_at dksX4_isMarked_1 10 rfl rfl)
theorem dX4_isMarked_33 : decode cX4_isMarked 33 = .ok (.getfield 87, 3) := dk_180 0 87 (dk_at dksX4_isMarked_1 11 rfl rfl)
theorem dX4_isMarked_36 : decode cX4_isMarked 36 = .ok (.iload_n 2, 1) := dk_28 (dk_at dksX4_isMarked_1 14 rfl rfl)
theorem dX4_isMarked_37 : decode cX4_isMarked 37 = .ok (.baload, 1) := dk_51 (dk_at dksX4_isMarked_1 15 rfl rfl)
theorem dX4_isMarked_38 : decode cX4_isMarked 38 = .ok (.ifCond .ne 29, 3) := dk_154 0 29 (dk_at dksX4_isMarked_1 16 rfl rfl)
theorem dX4_isMarked_41 : decode cX4_isMarked 41 = .ok (.aload_n 0, 1) := dk_42 (dk_at dksX4_isMarked_1 19 rfl rfl)
theorem dX4_isMarked_42 : decode cX4_isMarked 42 = .ok (.getfield 87, 3) := dk_180 0 87 (dk_at dksX4_isMarked_1 20 rfl rfl)
theorem dX4_isMarked_45 : decode cX4_isMarked 45 = .ok (.aload_n 0, 1) := dk_42 (dk_at dksX4_isMarked_1 23 rfl rfl)
theorem dX4_isMarked_46 : decode cX4_isMarked 46 = .ok (.getfield 59, 3) := dk_180 0 59 (dk_at dksX4_isMarked_2 0 rfl rfl)
theorem dX4_isMarked_49 : decode cX4_isMarked 49 = .ok (.iload_n 2, 1) := dk_28 (dk_at dksX4_isMarked_2 3 rfl rfl)
theorem dX4_isMarked_50 : decode cX4_isMarked 50 = .ok (.iaload, 1) := dk_46 (dk_at dksX4_isMarked_2 4 rfl rfl)
theorem dX4_isMarked_51 : decode cX4_isMarked 51 = .ok (.baload, 1) := dk_51 (dk_at dksX4_isMarked_2 5 rfl rfl)
theorem dX4_isMarked_52 : decode cX4_isMarked 52 = .ok (.ifCond .ne 15, 3) := dk_154 0 15 (dk_at dksX4_isMarked_2 6 rfl rfl)
theorem dX4_isMarked_55 : decode cX4_isMarked 55 = .ok (.aload_n 0, 1) := dk_42 (dk_at dksX4_isMarked_2 9 rfl rfl)
theorem dX4_isMarked_56 : decode cX4_isMarked 56 = .ok (.getfield 87, 3) := dk_180 0 87 (dk_at dksX4_isMarked_2 10 rfl rfl)
theorem dX4_isMarked_59 : decode cX4_isMarked 59 = .ok (.aload_n 0, 1) := dk_42 (dk_at dksX4_isMarked_2 13 rfl rfl)
theorem dX4_isMarked_60 : decode cX4_isMarked 60 = .ok (.getfield 59, 3) := dk_180 0 59 (dk_at dksX4_isMarked_2 14 rfl rfl)
theorem dX4_isMarked_63 : decode cX4_isMarked 63 = .ok (.iload_n 2, 1) := dk_28 (dk_at dksX4_isMarked_2 17 rfl rfl)
theorem dX4_isMarked_64 : decode cX4_isMarked 64 = .ok (.iaload, 1) := dk_46 (dk_at dksX4_isMarked_2 18 rfl rfl)
theorem dX4_isMarked_65 : decode cX4_isMarked 65 = .ok (.iconst 1, 1) := dk_4 (dk_at dksX4_isMarked_2 19 rfl rfl)
theorem dX4_isMarked_66 : decode cX4_isMarked 66 = .ok (.bastore, 1) := dk_84 (dk_at dksX4_isMarked_2 20 rfl rfl)
theorem dX4_isMarked_67 : decode cX4_isMarked 67 = .ok (.iinc 2 (-1), 3) := dk_132 2 255 (dk_at dksX4_isMarked_2 21 rfl rfl)
theorem dX4_isMarked_70 : decode cX4_isMarked 70 = .ok (.goto (-42), 3) := dk_167 255 214 (dk_at dksX4_isMarked_3 0 rfl rfl)
theorem dX4_isMarked_73 : decode cX4_isMarked 73 = .ok (.aload_n 0, 1) := dk_42 (dk_at dksX4_isMarked_3 3 rfl rfl)
theorem dX4_isMarked_74 : decode cX4_isMarked 74 = .ok (.getfield 87, 3) := dk_180 0 87 (dk_at dksX4_isMarked_3 4 rfl rfl)
theorem dX4_isMarked_77 : decode cX4_isMarked 77 = .ok (.iload_n 1, 1) := dk_27 (dk_at dksX4_isMarked_3 7 rfl rfl)
theorem dX4_isMarked_78 : decode cX4_isMarked 78 = .ok (.baload, 1) := dk_51 (dk_at dksX4_isMarked_3 8 rfl rfl)
theorem dX4_isMarked_79 : decode cX4_isMarked 79 = .ok (.ireturn, 1) := dk_172 (dk_at dksX4_isMarked_3 9 rfl rfl)
abbrev cX4_plant : ByteArray := prog_32_method_88_code
def yX4_plant : MethodName := ⟨RX4, "plant", "()I"⟩
def dkwX4_plant_3 : List UInt8 := [167, 255, 213, 42, 180, 0, 122, 172]
abbrev dktX4_plant_3 : List UInt8 := dkwX4_plant_3 ++ []
def dkwX4_plant_2 : List UInt8 := [27, 46, 182, 0, 141, 27, 158, 0, 15, 42, 27, 42, 180, 0, 59, 27, 46, 4, 182, 0, 152, 132, 1, 1]
abbrev dktX4_plant_2 : List UInt8 := dkwX4_plant_2 ++ dktX4_plant_3
def dkwX4_plant_1 : List UInt8 := [181, 0, 122, 3, 60, 27, 42, 180, 0, 165, 162, 0, 41, 42, 42, 180, 0, 53, 27, 46, 42, 180, 0, 56]
abbrev dktX4_plant_1 : List UInt8 := dkwX4_plant_1 ++ dktX4_plant_2
def dkwX4_plant_0 : List UInt8 := [42, 180, 0, 165, 154, 0, 5, 2, 172, 42, 180, 0, 165, 16, 12, 164, 0, 6, 16, 253, 172, 42, 3]
abbrev dktX4_plant_0 : List UInt8 := dkwX4_plant_0 ++ dktX4_plant_1
theorem dksX4_plant_0 : cX4_plant.data.toList.drop 0 = dktX4_plant_0 := by decide +kernel
theorem dksX4_plant_1 : cX4_plant.data.toList.drop 23 = dktX4_plant_1 := dk_seg dksX4_plant_0 23 rfl rfl
theorem dksX4_plant_2 : cX4_plant.data.toList.drop 47 = dktX4_plant_2 := dk_seg dksX4_plant_1 24 rfl rfl
theorem dksX4_plant_3 : cX4_plant.data.toList.drop 71 = dktX4_plant_3 := dk_seg dksX4_plant_2 24 rfl rfl
theorem dX4_plant_0 : decode cX4_plant 0 = .ok (.aload_n 0, 1) := dk_42 (dk_at dksX4_plant_0 0 rfl rfl)
theorem dX4_plant_1 : decode cX4_plant 1 = .ok (.getfield 165, 3) := dk_180 0 165 (dk_at dksX4_plant_0 1 rfl rfl)
theorem dX4_plant_4 : decode cX4_plant 4 = .ok (.ifCond .ne 5, 3) := dk_154 0 5 (dk_at dksX4_plant_0 4 rfl rfl)
theorem dX4_plant_7 : decode cX4_plant 7 = .ok (.iconst (-1), 1) := dk_2 (dk_at dksX4_plant_0 7 rfl rfl)
theorem dX4_plant_8 : decode cX4_plant 8 = .ok (.ireturn, 1) := dk_172 (dk_at dksX4_plant_0 8 rfl rfl)
theorem dX4_plant_9 : decode cX4_plant 9 = .ok (.aload_n 0, 1) := dk_42 (dk_at dksX4_plant_0 9 rfl rfl)
theorem dX4_plant_10 : decode cX4_plant 10 = .ok (.getfield 165, 3) := dk_180 0 165 (dk_at dksX4_plant_0 10 rfl rfl)
theorem dX4_plant_13 : decode cX4_plant 13 = .ok (.bipush 12, 2) := dk_16 12 (dk_at dksX4_plant_0 13 rfl rfl)
theorem dX4_plant_15 : decode cX4_plant 15 = .ok (.if_icmp .le 6, 3) := dk_164 0 6 (dk_at dksX4_plant_0 15 rfl rfl)
theorem dX4_plant_18 : decode cX4_plant 18 = .ok (.bipush (-3), 2) := dk_16 253 (dk_at dksX4_plant_0 18 rfl rfl)
theorem dX4_plant_20 : decode cX4_plant 20 = .ok (.ireturn, 1) := dk_172 (dk_at dksX4_plant_0 20 rfl rfl)
theorem dX4_plant_21 : decode cX4_plant 21 = .ok (.aload_n 0, 1) := dk_42 (dk_at dksX4_plant_0 21 rfl rfl)
theorem dX4_plant_22 : decode cX4_plant 22 = .ok (.iconst 0, 1) := dk_3 (dk_at dksX4_plant_0 22 rfl rfl)
theorem dX4_plant_23 : decode cX4_plant 23 = .ok (.putfield 122, 3) := dk_181 0 122 (dk_at dksX4_plant_1 0 rfl rfl)
theorem dX4_plant_26 : decode cX4_plant 26 = .ok (.iconst 0, 1) := dk_3 (dk_at dksX4_plant_1 3 rfl rfl)
theorem dX4_plant_27 : decode cX4_plant 27 = .ok (.istore_n 1, 1) := dk_60 (dk_at dksX4_plant_1 4 rfl rfl)
theorem dX4_plant_28 : decode cX4_plant 28 = .ok (.iload_n 1, 1) := dk_27 (dk_at dksX4_plant_1 5 rfl rfl)
theorem dX4_plant_29 : decode cX4_plant 29 = .ok (.aload_n 0, 1) := dk_42 (dk_at dksX4_plant_1 6 rfl rfl)
theorem dX4_plant_30 : decode cX4_plant 30 = .ok (.getfield 165, 3) := dk_180 0 165 (dk_at dksX4_plant_1 7 rfl rfl)
theorem dX4_plant_33 : decode cX4_plant 33 = .ok (.if_icmp .ge 41, 3) := dk_162 0 41 (dk_at dksX4_plant_1 10 rfl rfl)
theorem dX4_plant_36 : decode cX4_plant 36 = .ok (.aload_n 0, 1) := dk_42 (dk_at dksX4_plant_1 13 rfl rfl)
theorem dX4_plant_37 : decode cX4_plant 37 = .ok (.aload_n 0, 1) := dk_42 (dk_at dksX4_plant_1 14 rfl rfl)
theorem dX4_plant_38 : decode cX4_plant 38 = .ok (.getfield 53, 3) := dk_180 0 53 (dk_at dksX4_plant_1 15 rfl rfl)
theorem dX4_plant_41 : decode cX4_plant 41 = .ok (.iload_n 1, 1) := dk_27 (dk_at dksX4_plant_1 18 rfl rfl)
theorem dX4_plant_42 : decode cX4_plant 42 = .ok (.iaload, 1) := dk_46 (dk_at dksX4_plant_1 19 rfl rfl)
theorem dX4_plant_43 : decode cX4_plant 43 = .ok (.aload_n 0, 1) := dk_42 (dk_at dksX4_plant_1 20 rfl rfl)
theorem dX4_plant_44 : decode cX4_plant 44 = .ok (.getfield 56, 3) := dk_180 0 56 (dk_at dksX4_plant_1 21 rfl rfl)
theorem dX4_plant_47 : decode cX4_plant 47 = .ok (.iload_n 1, 1) := dk_27 (dk_at dksX4_plant_2 0 rfl rfl)
theorem dX4_plant_48 : decode cX4_plant 48 = .ok (.iaload, 1) := dk_46 (dk_at dksX4_plant_2 1 rfl rfl)
theorem dX4_plant_49 : decode cX4_plant 49 = .ok (.invokevirtual 141, 3) := dk_182 0 141 (dk_at dksX4_plant_2 2 rfl rfl)
theorem dX4_plant_52 : decode cX4_plant 52 = .ok (.iload_n 1, 1) := dk_27 (dk_at dksX4_plant_2 5 rfl rfl)
theorem dX4_plant_53 : decode cX4_plant 53 = .ok (.ifCond .le 15, 3) := dk_158 0 15 (dk_at dksX4_plant_2 6 rfl rfl)
theorem dX4_plant_56 : decode cX4_plant 56 = .ok (.aload_n 0, 1) := dk_42 (dk_at dksX4_plant_2 9 rfl rfl)
theorem dX4_plant_57 : decode cX4_plant 57 = .ok (.iload_n 1, 1) := dk_27 (dk_at dksX4_plant_2 10 rfl rfl)
theorem dX4_plant_58 : decode cX4_plant 58 = .ok (.aload_n 0, 1) := dk_42 (dk_at dksX4_plant_2 11 rfl rfl)
theorem dX4_plant_59 : decode cX4_plant 59 = .ok (.getfield 59, 3) := dk_180 0 59 (dk_at dksX4_plant_2 12 rfl rfl)
theorem dX4_plant_62 : decode cX4_plant 62 = .ok (.iload_n 1, 1) := dk_27 (dk_at dksX4_plant_2 15 rfl rfl)
theorem dX4_plant_63 : decode cX4_plant 63 = .ok (.iaload, 1) := dk_46 (dk_at dksX4_plant_2 16 rfl rfl)
theorem dX4_plant_64 : decode cX4_plant 64 = .ok (.iconst 1, 1) := dk_4 (dk_at dksX4_plant_2 17 rfl rfl)
theorem dX4_plant_65 : decode cX4_plant 65 = .ok (.invokevirtual 152, 3) := dk_182 0 152 (dk_at dksX4_plant_2 18 rfl rfl)
theorem dX4_plant_68 : decode cX4_plant 68 = .ok (.iinc 1 1, 3) := dk_132 1 1 (dk_at dksX4_plant_2 21 rfl rfl)
theorem dX4_plant_71 : decode cX4_plant 71 = .ok (.goto (-43), 3) := dk_167 255 213 (dk_at dksX4_plant_3 0 rfl rfl)
theorem dX4_plant_74 : decode cX4_plant 74 = .ok (.aload_n 0, 1) := dk_42 (dk_at dksX4_plant_3 3 rfl rfl)
theorem dX4_plant_75 : decode cX4_plant 75 = .ok (.getfield 122, 3) := dk_180 0 122 (dk_at dksX4_plant_3 4 rfl rfl)
theorem dX4_plant_78 : decode cX4_plant 78 = .ok (.ireturn, 1) := dk_172 (dk_at dksX4_plant_3 7 rfl rfl)
abbrev cX4_seed : ByteArray := prog_32_method_90_code
def yX4_seed : MethodName := ⟨RX4, "seed", "(I)I"⟩
def dkwX4_seed_0 : List UInt8 := [42, 180, 0, 7, 61, 42, 27, 181, 0, 7, 28, 172]
abbrev dktX4_seed_0 : List UInt8 := dkwX4_seed_0 ++ []
theorem dksX4_seed_0 : cX4_seed.data.toList.drop 0 = dktX4_seed_0 := by decide +kernel
theorem dX4_seed_0 : decode cX4_seed 0 = .ok (.aload_n 0, 1) := dk_42 (dk_at dksX4_seed_0 0 rfl rfl)
theorem dX4_seed_1 : decode cX4_seed 1 = .ok (.getfield 7, 3) := dk_180 0 7 (dk_at dksX4_seed_0 1 rfl rfl)
theorem dX4_seed_4 : decode cX4_seed 4 = .ok (.istore_n 2, 1) := dk_61 (dk_at dksX4_seed_0 4 rfl rfl)
theorem dX4_seed_5 : decode cX4_seed 5 = .ok (.aload_n 0, 1) := dk_42 (dk_at dksX4_seed_0 5 rfl rfl)
theorem dX4_seed_6 : decode cX4_seed 6 = .ok (.iload_n 1, 1) := dk_27 (dk_at dksX4_seed_0 6 rfl rfl)
theorem dX4_seed_7 : decode cX4_seed 7 = .ok (.putfield 7, 3) := dk_181 0 7 (dk_at dksX4_seed_0 7 rfl rfl)
theorem dX4_seed_10 : decode cX4_seed 10 = .ok (.iload_n 2, 1) := dk_28 (dk_at dksX4_seed_0 10 rfl rfl)
theorem dX4_seed_11 : decode cX4_seed 11 = .ok (.ireturn, 1) := dk_172 (dk_at dksX4_seed_0 11 rfl rfl)
abbrev cX4_deal : ByteArray := prog_32_method_92_code
def yX4_deal : MethodName := ⟨RX4, "deal", "(II)I"⟩
def dkwX4_deal_1 : List UInt8 := [27, 28, 182, 1, 80, 42, 182, 0, 159, 172]
abbrev dktX4_deal_1 : List UInt8 := dkwX4_deal_1 ++ []
def dkwX4_deal_0 : List UInt8 := [27, 3, 16, 12, 184, 0, 125, 153, 0, 13, 28, 3, 16, 10, 184, 0, 125, 154, 0, 6, 16, 254, 172, 42]
abbrev dktX4_deal_0 : List UInt8 := dkwX4_deal_0 ++ dktX4_deal_1
theorem dksX4_deal_0 : cX4_deal.data.toList.drop 0 = dktX4_deal_0 := by decide +kernel
theorem dksX4_deal_1 : cX4_deal.data.toList.drop 24 = dktX4_deal_1 := dk_seg dksX4_deal_0 24 rfl rfl
theorem dX4_deal_0 : decode cX4_deal 0 = .ok (.iload_n 1, 1) := dk_27 (dk_at dksX4_deal_0 0 rfl rfl)
theorem dX4_deal_1 : decode cX4_deal 1 = .ok (.iconst 0, 1) := dk_3 (dk_at dksX4_deal_0 1 rfl rfl)
theorem dX4_deal_2 : decode cX4_deal 2 = .ok (.bipush 12, 2) := dk_16 12 (dk_at dksX4_deal_0 2 rfl rfl)
theorem dX4_deal_4 : decode cX4_deal 4 = .ok (.invokestatic 125, 3) := dk_184 0 125 (dk_at dksX4_deal_0 4 rfl rfl)
theorem dX4_deal_7 : decode cX4_deal 7 = .ok (.ifCond .eq 13, 3) := dk_153 0 13 (dk_at dksX4_deal_0 7 rfl rfl)
theorem dX4_deal_10 : decode cX4_deal 10 = .ok (.iload_n 2, 1) := dk_28 (dk_at dksX4_deal_0 10 rfl rfl)
theorem dX4_deal_11 : decode cX4_deal 11 = .ok (.iconst 0, 1) := dk_3 (dk_at dksX4_deal_0 11 rfl rfl)
theorem dX4_deal_12 : decode cX4_deal 12 = .ok (.bipush 10, 2) := dk_16 10 (dk_at dksX4_deal_0 12 rfl rfl)
theorem dX4_deal_14 : decode cX4_deal 14 = .ok (.invokestatic 125, 3) := dk_184 0 125 (dk_at dksX4_deal_0 14 rfl rfl)
theorem dX4_deal_17 : decode cX4_deal 17 = .ok (.ifCond .ne 6, 3) := dk_154 0 6 (dk_at dksX4_deal_0 17 rfl rfl)
theorem dX4_deal_20 : decode cX4_deal 20 = .ok (.bipush (-2), 2) := dk_16 254 (dk_at dksX4_deal_0 20 rfl rfl)
theorem dX4_deal_22 : decode cX4_deal 22 = .ok (.ireturn, 1) := dk_172 (dk_at dksX4_deal_0 22 rfl rfl)
theorem dX4_deal_23 : decode cX4_deal 23 = .ok (.aload_n 0, 1) := dk_42 (dk_at dksX4_deal_0 23 rfl rfl)
theorem dX4_deal_24 : decode cX4_deal 24 = .ok (.iload_n 1, 1) := dk_27 (dk_at dksX4_deal_1 0 rfl rfl)
theorem dX4_deal_25 : decode cX4_deal 25 = .ok (.iload_n 2, 1) := dk_28 (dk_at dksX4_deal_1 1 rfl rfl)
theorem dX4_deal_26 : decode cX4_deal 26 = .ok (.invokevirtual 336, 3) := dk_182 1 80 (dk_at dksX4_deal_1 2 rfl rfl)
theorem dX4_deal_29 : decode cX4_deal 29 = .ok (.aload_n 0, 1) := dk_42 (dk_at dksX4_deal_1 5 rfl rfl)
theorem dX4_deal_30 : decode cX4_deal 30 = .ok (.invokevirtual 159, 3) := dk_182 0 159 (dk_at dksX4_deal_1 6 rfl rfl)
theorem dX4_deal_33 : decode cX4_deal 33 = .ok (.ireturn, 1) := dk_172 (dk_at dksX4_deal_1 9 rfl rfl)
abbrev cX4_deals : ByteArray := prog_32_method_91_code
def yX4_deals : MethodName := ⟨RX4, "deals", "(II)V"⟩
def dkwX4_deals_3 : List UInt8 := [162, 0, 11, 42, 29, 21, 4, 4, 182, 0, 152, 132, 4, 1, 167, 255, 228, 132, 3, 1, 167, 255, 212, 177]
abbrev dktX4_deals_3 : List UInt8 := dkwX4_deals_3 ++ []
def dkwX4_deals_2 : List UInt8 := [162, 0, 45, 29, 4, 96, 54, 4, 21, 4, 27, 162, 0, 28, 42, 182, 1, 77, 16, 10, 112, 28]
abbrev dktX4_deals_2 : List UInt8 := dkwX4_deals_2 ++ dktX4_deals_3
def dkwX4_deals_1 : List UInt8 := [4, 42, 182, 1, 77, 16, 9, 112, 96, 182, 0, 141, 132, 3, 1, 167, 255, 224, 3, 62, 29, 27]
abbrev dktX4_deals_1 : List UInt8 := dkwX4_deals_1 ++ dktX4_deals_2
def dkwX4_deals_0 : List UInt8 := [42, 3, 181, 0, 122, 3, 62, 29, 27, 162, 0, 33, 42, 182, 1, 77, 16, 6, 112, 54, 4, 42, 21, 4]
abbrev dktX4_deals_0 : List UInt8 := dkwX4_deals_0 ++ dktX4_deals_1
theorem dksX4_deals_0 : cX4_deals.data.toList.drop 0 = dktX4_deals_0 := by decide +kernel
theorem dksX4_deals_1 : cX4_deals.data.toList.drop 24 = dktX4_deals_1 := dk_seg dksX4_deals_0 24 rfl rfl
theorem dksX4_deals_2 : cX4_deals.data.toList.drop 46 = dktX4_deals_2 := dk_seg dksX4_deals_1 22 rfl rfl
theorem dksX4_deals_3 : cX4_deals.data.toList.drop 68 = dktX4_deals_3 := dk_seg dksX4_deals_2 22 rfl rfl
theorem dX4_deals_0 : decode cX4_deals 0 = .ok (.aload_n 0, 1) := dk_42 (dk_at dksX4_deals_0 0 rfl rfl)
theorem dX4_deals_1 : decode cX4_deals 1 = .ok (.iconst 0, 1) := dk_3 (dk_at dksX4_deals_0 1 rfl rfl)
theorem dX4_deals_2 : decode cX4_deals 2 = .ok (.putfield 122, 3) := dk_181 0 122 (dk_at dksX4_deals_0 2 rfl rfl)
theorem dX4_deals_5 : decode cX4_deals 5 = .ok (.iconst 0, 1) := dk_3 (dk_at dksX4_deals_0 5 rfl rfl)
theorem dX4_deals_6 : decode cX4_deals 6 = .ok (.istore_n 3, 1) := dk_62 (dk_at dksX4_deals_0 6 rfl rfl)
theorem dX4_deals_7 : decode cX4_deals 7 = .ok (.iload_n 3, 1) := dk_29 (dk_at dksX4_deals_0 7 rfl rfl)
theorem dX4_deals_8 : decode cX4_deals 8 = .ok (.iload_n 1, 1) := dk_27 (dk_at dksX4_deals_0 8 rfl rfl)
theorem dX4_deals_9 : decode cX4_deals 9 = .ok (.if_icmp .ge 33, 3) := dk_162 0 33 (dk_at dksX4_deals_0 9 rfl rfl)
theorem dX4_deals_12 : decode cX4_deals 12 = .ok (.aload_n 0, 1) := dk_42 (dk_at dksX4_deals_0 12 rfl rfl)
theorem dX4_deals_13 : decode cX4_deals 13 = .ok (.invokevirtual 333, 3) := dk_182 1 77 (dk_at dksX4_deals_0 13 rfl rfl)
theorem dX4_deals_16 : decode cX4_deals 16 = .ok (.bipush 6, 2) := dk_16 6 (dk_at dksX4_deals_0 16 rfl rfl)
theorem dX4_deals_18 : decode cX4_deals 18 = .ok (.irem, 1) := dk_112 (dk_at dksX4_deals_0 18 rfl rfl)
theorem dX4_deals_19 : decode cX4_deals 19 = .ok (.istore 4, 2) := dk_54 4 (dk_at dksX4_deals_0 19 rfl rfl)
theorem dX4_deals_21 : decode cX4_deals 21 = .ok (.aload_n 0, 1) := dk_42 (dk_at dksX4_deals_0 21 rfl rfl)
theorem dX4_deals_22 : decode cX4_deals 22 = .ok (.iload 4, 2) := dk_21 4 (dk_at dksX4_deals_0 22 rfl rfl)
theorem dX4_deals_24 : decode cX4_deals 24 = .ok (.iconst 1, 1) := dk_4 (dk_at dksX4_deals_1 0 rfl rfl)
theorem dX4_deals_25 : decode cX4_deals 25 = .ok (.aload_n 0, 1) := dk_42 (dk_at dksX4_deals_1 1 rfl rfl)
theorem dX4_deals_26 : decode cX4_deals 26 = .ok (.invokevirtual 333, 3) := dk_182 1 77 (dk_at dksX4_deals_1 2 rfl rfl)
theorem dX4_deals_29 : decode cX4_deals 29 = .ok (.bipush 9, 2) := dk_16 9 (dk_at dksX4_deals_1 5 rfl rfl)
theorem dX4_deals_31 : decode cX4_deals 31 = .ok (.irem, 1) := dk_112 (dk_at dksX4_deals_1 7 rfl rfl)
theorem dX4_deals_32 : decode cX4_deals 32 = .ok (.iadd, 1) := dk_96 (dk_at dksX4_deals_1 8 rfl rfl)
theorem dX4_deals_33 : decode cX4_deals 33 = .ok (.invokevirtual 141, 3) := dk_182 0 141 (dk_at dksX4_deals_1 9 rfl rfl)
theorem dX4_deals_36 : decode cX4_deals 36 = .ok (.iinc 3 1, 3) := dk_132 3 1 (dk_at dksX4_deals_1 12 rfl rfl)
theorem dX4_deals_39 : decode cX4_deals 39 = .ok (.goto (-32), 3) := dk_167 255 224 (dk_at dksX4_deals_1 15 rfl rfl)
theorem dX4_deals_42 : decode cX4_deals 42 = .ok (.iconst 0, 1) := dk_3 (dk_at dksX4_deals_1 18 rfl rfl)
theorem dX4_deals_43 : decode cX4_deals 43 = .ok (.istore_n 3, 1) := dk_62 (dk_at dksX4_deals_1 19 rfl rfl)
theorem dX4_deals_44 : decode cX4_deals 44 = .ok (.iload_n 3, 1) := dk_29 (dk_at dksX4_deals_1 20 rfl rfl)
theorem dX4_deals_45 : decode cX4_deals 45 = .ok (.iload_n 1, 1) := dk_27 (dk_at dksX4_deals_1 21 rfl rfl)
theorem dX4_deals_46 : decode cX4_deals 46 = .ok (.if_icmp .ge 45, 3) := dk_162 0 45 (dk_at dksX4_deals_2 0 rfl rfl)
theorem dX4_deals_49 : decode cX4_deals 49 = .ok (.iload_n 3, 1) := dk_29 (dk_at dksX4_deals_2 3 rfl rfl)
theorem dX4_deals_50 : decode cX4_deals 50 = .ok (.iconst 1, 1) := dk_4 (dk_at dksX4_deals_2 4 rfl rfl)
theorem dX4_deals_51 : decode cX4_deals 51 = .ok (.iadd, 1) := dk_96 (dk_at dksX4_deals_2 5 rfl rfl)
theorem dX4_deals_52 : decode cX4_deals 52 = .ok (.istore 4, 2) := dk_54 4 (dk_at dksX4_deals_2 6 rfl rfl)
theorem dX4_deals_54 : decode cX4_deals 54 = .ok (.iload 4, 2) := dk_21 4 (dk_at dksX4_deals_2 8 rfl rfl)
theorem dX4_deals_56 : decode cX4_deals 56 = .ok (.iload_n 1, 1) := dk_27 (dk_at dksX4_deals_2 10 rfl rfl)
theorem dX4_deals_57 : decode cX4_deals 57 = .ok (.if_icmp .ge 28, 3) := dk_162 0 28 (dk_at dksX4_deals_2 11 rfl rfl)
theorem dX4_deals_60 : decode cX4_deals 60 = .ok (.aload_n 0, 1) := dk_42 (dk_at dksX4_deals_2 14 rfl rfl)
theorem dX4_deals_61 : decode cX4_deals 61 = .ok (.invokevirtual 333, 3) := dk_182 1 77 (dk_at dksX4_deals_2 15 rfl rfl)
theorem dX4_deals_64 : decode cX4_deals 64 = .ok (.bipush 10, 2) := dk_16 10 (dk_at dksX4_deals_2 18 rfl rfl)
theorem dX4_deals_66 : decode cX4_deals 66 = .ok (.irem, 1) := dk_112 (dk_at dksX4_deals_2 20 rfl rfl)
theorem dX4_deals_67 : decode cX4_deals 67 = .ok (.iload_n 2, 1) := dk_28 (dk_at dksX4_deals_2 21 rfl rfl)
theorem dX4_deals_68 : decode cX4_deals 68 = .ok (.if_icmp .ge 11, 3) := dk_162 0 11 (dk_at dksX4_deals_3 0 rfl rfl)
theorem dX4_deals_71 : decode cX4_deals 71 = .ok (.aload_n 0, 1) := dk_42 (dk_at dksX4_deals_3 3 rfl rfl)
theorem dX4_deals_72 : decode cX4_deals 72 = .ok (.iload_n 3, 1) := dk_29 (dk_at dksX4_deals_3 4 rfl rfl)
theorem dX4_deals_73 : decode cX4_deals 73 = .ok (.iload 4, 2) := dk_21 4 (dk_at dksX4_deals_3 5 rfl rfl)
theorem dX4_deals_75 : decode cX4_deals 75 = .ok (.iconst 1, 1) := dk_4 (dk_at dksX4_deals_3 7 rfl rfl)
theorem dX4_deals_76 : decode cX4_deals 76 = .ok (.invokevirtual 152, 3) := dk_182 0 152 (dk_at dksX4_deals_3 8 rfl rfl)
theorem dX4_deals_79 : decode cX4_deals 79 = .ok (.iinc 4 1, 3) := dk_132 4 1 (dk_at dksX4_deals_3 11 rfl rfl)
theorem dX4_deals_82 : decode cX4_deals 82 = .ok (.goto (-28), 3) := dk_167 255 228 (dk_at dksX4_deals_3 14 rfl rfl)
theorem dX4_deals_85 : decode cX4_deals 85 = .ok (.iinc 3 1, 3) := dk_132 3 1 (dk_at dksX4_deals_3 17 rfl rfl)
theorem dX4_deals_88 : decode cX4_deals 88 = .ok (.goto (-44), 3) := dk_167 255 212 (dk_at dksX4_deals_3 20 rfl rfl)
theorem dX4_deals_91 : decode cX4_deals 91 = .ok (.return_, 1) := dk_177 (dk_at dksX4_deals_3 23 rfl rfl)
abbrev cX4_draw : ByteArray := prog_32_method_89_code
def yX4_draw : MethodName := ⟨RX4, "draw", "()I"⟩
def dkwX4_draw_0 : List UInt8 := [42, 42, 180, 0, 7, 19, 1, 76, 104, 17, 48, 57, 96, 181, 0, 7, 42, 180, 0, 7, 16, 16, 124, 172]
abbrev dktX4_draw_0 : List UInt8 := dkwX4_draw_0 ++ []
theorem dksX4_draw_0 : cX4_draw.data.toList.drop 0 = dktX4_draw_0 := by decide +kernel
theorem dX4_draw_0 : decode cX4_draw 0 = .ok (.aload_n 0, 1) := dk_42 (dk_at dksX4_draw_0 0 rfl rfl)
theorem dX4_draw_1 : decode cX4_draw 1 = .ok (.aload_n 0, 1) := dk_42 (dk_at dksX4_draw_0 1 rfl rfl)
theorem dX4_draw_2 : decode cX4_draw 2 = .ok (.getfield 7, 3) := dk_180 0 7 (dk_at dksX4_draw_0 2 rfl rfl)
theorem dX4_draw_5 : decode cX4_draw 5 = .ok (.ldc_w 332, 3) := dk_19 1 76 (dk_at dksX4_draw_0 5 rfl rfl)
theorem dX4_draw_8 : decode cX4_draw 8 = .ok (.imul, 1) := dk_104 (dk_at dksX4_draw_0 8 rfl rfl)
theorem dX4_draw_9 : decode cX4_draw 9 = .ok (.sipush 12345, 3) := dk_17 48 57 (dk_at dksX4_draw_0 9 rfl rfl)
theorem dX4_draw_12 : decode cX4_draw 12 = .ok (.iadd, 1) := dk_96 (dk_at dksX4_draw_0 12 rfl rfl)
theorem dX4_draw_13 : decode cX4_draw 13 = .ok (.putfield 7, 3) := dk_181 0 7 (dk_at dksX4_draw_0 13 rfl rfl)
theorem dX4_draw_16 : decode cX4_draw 16 = .ok (.aload_n 0, 1) := dk_42 (dk_at dksX4_draw_0 16 rfl rfl)
theorem dX4_draw_17 : decode cX4_draw 17 = .ok (.getfield 7, 3) := dk_180 0 7 (dk_at dksX4_draw_0 17 rfl rfl)
theorem dX4_draw_20 : decode cX4_draw 20 = .ok (.bipush 16, 2) := dk_16 16 (dk_at dksX4_draw_0 20 rfl rfl)
theorem dX4_draw_22 : decode cX4_draw 22 = .ok (.iushr, 1) := dk_124 (dk_at dksX4_draw_0 22 rfl rfl)
theorem dX4_draw_23 : decode cX4_draw 23 = .ok (.ireturn, 1) := dk_172 (dk_at dksX4_draw_0 23 rfl rfl)
abbrev cX4_times : ByteArray := prog_32_method_95_code
def yX4_times : MethodName := ⟨RX4, "times", "(IIII)I"⟩
def dkwX4_times_4 : List UInt8 := [167, 255, 222, 42, 42, 180, 0, 91, 182, 1, 87, 21, 5, 172]
abbrev dktX4_times_4 : List UInt8 := dkwX4_times_4 ++ []
def dkwX4_times_3 : List UInt8 := [21, 5, 42, 182, 0, 180, 21, 4, 163, 0, 7, 4, 167, 0, 4, 3, 96, 54, 5, 132, 6, 1]
abbrev dktX4_times_3 : List UInt8 := dkwX4_times_3 ++ dktX4_times_4
def dkwX4_times_2 : List UInt8 := [180, 0, 91, 182, 1, 83, 3, 54, 5, 3, 54, 6, 21, 6, 27, 162, 0, 34, 42, 28, 29, 182, 1, 80]
abbrev dktX4_times_2 : List UInt8 := dkwX4_times_2 ++ dktX4_times_3
def dkwX4_times_1 : List UInt8 := [184, 0, 125, 153, 0, 14, 21, 4, 3, 16, 12, 184, 0, 125, 154, 0, 6, 16, 254, 172, 42, 42]
abbrev dktX4_times_1 : List UInt8 := dkwX4_times_1 ++ dktX4_times_2
def dkwX4_times_0 : List UInt8 := [27, 4, 16, 20, 184, 0, 125, 153, 0, 34, 28, 3, 16, 12, 184, 0, 125, 153, 0, 24, 29, 3, 16, 10]
abbrev dktX4_times_0 : List UInt8 := dkwX4_times_0 ++ dktX4_times_1
theorem dksX4_times_0 : cX4_times.data.toList.drop 0 = dktX4_times_0 := by decide +kernel
theorem dksX4_times_1 : cX4_times.data.toList.drop 24 = dktX4_times_1 := dk_seg dksX4_times_0 24 rfl rfl
theorem dksX4_times_2 : cX4_times.data.toList.drop 46 = dktX4_times_2 := dk_seg dksX4_times_1 22 rfl rfl
theorem dksX4_times_3 : cX4_times.data.toList.drop 70 = dktX4_times_3 := dk_seg dksX4_times_2 24 rfl rfl
theorem dksX4_times_4 : cX4_times.data.toList.drop 92 = dktX4_times_4 := dk_seg dksX4_times_3 22 rfl rfl
theorem dX4_times_0 : decode cX4_times 0 = .ok (.iload_n 1, 1) := dk_27 (dk_at dksX4_times_0 0 rfl rfl)
theorem dX4_times_1 : decode cX4_times 1 = .ok (.iconst 1, 1) := dk_4 (dk_at dksX4_times_0 1 rfl rfl)
theorem dX4_times_2 : decode cX4_times 2 = .ok (.bipush 20, 2) := dk_16 20 (dk_at dksX4_times_0 2 rfl rfl)
theorem dX4_times_4 : decode cX4_times 4 = .ok (.invokestatic 125, 3) := dk_184 0 125 (dk_at dksX4_times_0 4 rfl rfl)
theorem dX4_times_7 : decode cX4_times 7 = .ok (.ifCond .eq 34, 3) := dk_153 0 34 (dk_at dksX4_times_0 7 rfl rfl)
theorem dX4_times_10 : decode cX4_times 10 = .ok (.iload_n 2, 1) := dk_28 (dk_at dksX4_times_0 10 rfl rfl)
theorem dX4_times_11 : decode cX4_times 11 = .ok (.iconst 0, 1) := dk_3 (dk_at dksX4_times_0 11 rfl rfl)
theorem dX4_times_12 : decode cX4_times 12 = .ok (.bipush 12, 2) := dk_16 12 (dk_at dksX4_times_0 12 rfl rfl)
theorem dX4_times_14 : decode cX4_times 14 = .ok (.invokestatic 125, 3) := dk_184 0 125 (dk_at dksX4_times_0 14 rfl rfl)
theorem dX4_times_17 : decode cX4_times 17 = .ok (.ifCond .eq 24, 3) := dk_153 0 24 (dk_at dksX4_times_0 17 rfl rfl)
theorem dX4_times_20 : decode cX4_times 20 = .ok (.iload_n 3, 1) := dk_29 (dk_at dksX4_times_0 20 rfl rfl)
theorem dX4_times_21 : decode cX4_times 21 = .ok (.iconst 0, 1) := dk_3 (dk_at dksX4_times_0 21 rfl rfl)
theorem dX4_times_22 : decode cX4_times 22 = .ok (.bipush 10, 2) := dk_16 10 (dk_at dksX4_times_0 22 rfl rfl)
theorem dX4_times_24 : decode cX4_times 24 = .ok (.invokestatic 125, 3) := dk_184 0 125 (dk_at dksX4_times_1 0 rfl rfl)
theorem dX4_times_27 : decode cX4_times 27 = .ok (.ifCond .eq 14, 3) := dk_153 0 14 (dk_at dksX4_times_1 3 rfl rfl)
theorem dX4_times_30 : decode cX4_times 30 = .ok (.iload 4, 2) := dk_21 4 (dk_at dksX4_times_1 6 rfl rfl)
theorem dX4_times_32 : decode cX4_times 32 = .ok (.iconst 0, 1) := dk_3 (dk_at dksX4_times_1 8 rfl rfl)
theorem dX4_times_33 : decode cX4_times 33 = .ok (.bipush 12, 2) := dk_16 12 (dk_at dksX4_times_1 9 rfl rfl)
theorem dX4_times_35 : decode cX4_times 35 = .ok (.invokestatic 125, 3) := dk_184 0 125 (dk_at dksX4_times_1 11 rfl rfl)
theorem dX4_times_38 : decode cX4_times 38 = .ok (.ifCond .ne 6, 3) := dk_154 0 6 (dk_at dksX4_times_1 14 rfl rfl)
theorem dX4_times_41 : decode cX4_times 41 = .ok (.bipush (-2), 2) := dk_16 254 (dk_at dksX4_times_1 17 rfl rfl)
theorem dX4_times_43 : decode cX4_times 43 = .ok (.ireturn, 1) := dk_172 (dk_at dksX4_times_1 19 rfl rfl)
theorem dX4_times_44 : decode cX4_times 44 = .ok (.aload_n 0, 1) := dk_42 (dk_at dksX4_times_1 20 rfl rfl)
theorem dX4_times_45 : decode cX4_times 45 = .ok (.aload_n 0, 1) := dk_42 (dk_at dksX4_times_1 21 rfl rfl)
theorem dX4_times_46 : decode cX4_times 46 = .ok (.getfield 91, 3) := dk_180 0 91 (dk_at dksX4_times_2 0 rfl rfl)
theorem dX4_times_49 : decode cX4_times 49 = .ok (.invokevirtual 339, 3) := dk_182 1 83 (dk_at dksX4_times_2 3 rfl rfl)
theorem dX4_times_52 : decode cX4_times 52 = .ok (.iconst 0, 1) := dk_3 (dk_at dksX4_times_2 6 rfl rfl)
theorem dX4_times_53 : decode cX4_times 53 = .ok (.istore 5, 2) := dk_54 5 (dk_at dksX4_times_2 7 rfl rfl)
theorem dX4_times_55 : decode cX4_times 55 = .ok (.iconst 0, 1) := dk_3 (dk_at dksX4_times_2 9 rfl rfl)
theorem dX4_times_56 : decode cX4_times 56 = .ok (.istore 6, 2) := dk_54 6 (dk_at dksX4_times_2 10 rfl rfl)
theorem dX4_times_58 : decode cX4_times 58 = .ok (.iload 6, 2) := dk_21 6 (dk_at dksX4_times_2 12 rfl rfl)
theorem dX4_times_60 : decode cX4_times 60 = .ok (.iload_n 1, 1) := dk_27 (dk_at dksX4_times_2 14 rfl rfl)
theorem dX4_times_61 : decode cX4_times 61 = .ok (.if_icmp .ge 34, 3) := dk_162 0 34 (dk_at dksX4_times_2 15 rfl rfl)
theorem dX4_times_64 : decode cX4_times 64 = .ok (.aload_n 0, 1) := dk_42 (dk_at dksX4_times_2 18 rfl rfl)
theorem dX4_times_65 : decode cX4_times 65 = .ok (.iload_n 2, 1) := dk_28 (dk_at dksX4_times_2 19 rfl rfl)
theorem dX4_times_66 : decode cX4_times 66 = .ok (.iload_n 3, 1) := dk_29 (dk_at dksX4_times_2 20 rfl rfl)
theorem dX4_times_67 : decode cX4_times 67 = .ok (.invokevirtual 336, 3) := dk_182 1 80 (dk_at dksX4_times_2 21 rfl rfl)
theorem dX4_times_70 : decode cX4_times 70 = .ok (.iload 5, 2) := dk_21 5 (dk_at dksX4_times_3 0 rfl rfl)
theorem dX4_times_72 : decode cX4_times 72 = .ok (.aload_n 0, 1) := dk_42 (dk_at dksX4_times_3 2 rfl rfl)
theorem dX4_times_73 : decode cX4_times 73 = .ok (.invokevirtual 180, 3) := dk_182 0 180 (dk_at dksX4_times_3 3 rfl rfl)
theorem dX4_times_76 : decode cX4_times 76 = .ok (.iload 4, 2) := dk_21 4 (dk_at dksX4_times_3 6 rfl rfl)
theorem dX4_times_78 : decode cX4_times 78 = .ok (.if_icmp .gt 7, 3) := dk_163 0 7 (dk_at dksX4_times_3 8 rfl rfl)
theorem dX4_times_81 : decode cX4_times 81 = .ok (.iconst 1, 1) := dk_4 (dk_at dksX4_times_3 11 rfl rfl)
theorem dX4_times_82 : decode cX4_times 82 = .ok (.goto 4, 3) := dk_167 0 4 (dk_at dksX4_times_3 12 rfl rfl)
theorem dX4_times_85 : decode cX4_times 85 = .ok (.iconst 0, 1) := dk_3 (dk_at dksX4_times_3 15 rfl rfl)
theorem dX4_times_86 : decode cX4_times 86 = .ok (.iadd, 1) := dk_96 (dk_at dksX4_times_3 16 rfl rfl)
theorem dX4_times_87 : decode cX4_times 87 = .ok (.istore 5, 2) := dk_54 5 (dk_at dksX4_times_3 17 rfl rfl)
theorem dX4_times_89 : decode cX4_times 89 = .ok (.iinc 6 1, 3) := dk_132 6 1 (dk_at dksX4_times_3 19 rfl rfl)
theorem dX4_times_92 : decode cX4_times 92 = .ok (.goto (-34), 3) := dk_167 255 222 (dk_at dksX4_times_4 0 rfl rfl)
theorem dX4_times_95 : decode cX4_times 95 = .ok (.aload_n 0, 1) := dk_42 (dk_at dksX4_times_4 3 rfl rfl)
theorem dX4_times_96 : decode cX4_times 96 = .ok (.aload_n 0, 1) := dk_42 (dk_at dksX4_times_4 4 rfl rfl)
theorem dX4_times_97 : decode cX4_times 97 = .ok (.getfield 91, 3) := dk_180 0 91 (dk_at dksX4_times_4 5 rfl rfl)
theorem dX4_times_100 : decode cX4_times 100 = .ok (.invokevirtual 343, 3) := dk_182 1 87 (dk_at dksX4_times_4 8 rfl rfl)
theorem dX4_times_103 : decode cX4_times 103 = .ok (.iload 5, 2) := dk_21 5 (dk_at dksX4_times_4 11 rfl rfl)
theorem dX4_times_105 : decode cX4_times 105 = .ok (.ireturn, 1) := dk_172 (dk_at dksX4_times_4 13 rfl rfl)
abbrev cX4_keeps : ByteArray := prog_32_method_93_code
def yX4_keeps : MethodName := ⟨RX4, "keeps", "([I)V"⟩
def dkwX4_keeps_2 : List UInt8 := [43, 7, 6, 28, 104, 96, 42, 180, 0, 20, 28, 46, 79, 132, 2, 1, 167, 255, 208, 177]
abbrev dktX4_keeps_2 : List UInt8 := dkwX4_keeps_2 ++ []
def dkwX4_keeps_1 : List UInt8 := [6, 28, 104, 96, 42, 180, 0, 13, 28, 46, 79, 43, 6, 6, 28, 104, 96, 42, 180, 0, 17, 28, 46, 79]
abbrev dktX4_keeps_1 : List UInt8 := dkwX4_keeps_1 ++ dktX4_keeps_2
def dkwX4_keeps_0 : List UInt8 := [43, 3, 42, 180, 0, 122, 79, 43, 4, 42, 180, 0, 7, 79, 3, 61, 28, 16, 12, 162, 0, 48, 43, 5]
abbrev dktX4_keeps_0 : List UInt8 := dkwX4_keeps_0 ++ dktX4_keeps_1
theorem dksX4_keeps_0 : cX4_keeps.data.toList.drop 0 = dktX4_keeps_0 := by decide +kernel
theorem dksX4_keeps_1 : cX4_keeps.data.toList.drop 24 = dktX4_keeps_1 := dk_seg dksX4_keeps_0 24 rfl rfl
theorem dksX4_keeps_2 : cX4_keeps.data.toList.drop 48 = dktX4_keeps_2 := dk_seg dksX4_keeps_1 24 rfl rfl
theorem dX4_keeps_0 : decode cX4_keeps 0 = .ok (.aload_n 1, 1) := dk_43 (dk_at dksX4_keeps_0 0 rfl rfl)
theorem dX4_keeps_1 : decode cX4_keeps 1 = .ok (.iconst 0, 1) := dk_3 (dk_at dksX4_keeps_0 1 rfl rfl)
theorem dX4_keeps_2 : decode cX4_keeps 2 = .ok (.aload_n 0, 1) := dk_42 (dk_at dksX4_keeps_0 2 rfl rfl)
theorem dX4_keeps_3 : decode cX4_keeps 3 = .ok (.getfield 122, 3) := dk_180 0 122 (dk_at dksX4_keeps_0 3 rfl rfl)
theorem dX4_keeps_6 : decode cX4_keeps 6 = .ok (.iastore, 1) := dk_79 (dk_at dksX4_keeps_0 6 rfl rfl)
theorem dX4_keeps_7 : decode cX4_keeps 7 = .ok (.aload_n 1, 1) := dk_43 (dk_at dksX4_keeps_0 7 rfl rfl)
theorem dX4_keeps_8 : decode cX4_keeps 8 = .ok (.iconst 1, 1) := dk_4 (dk_at dksX4_keeps_0 8 rfl rfl)
theorem dX4_keeps_9 : decode cX4_keeps 9 = .ok (.aload_n 0, 1) := dk_42 (dk_at dksX4_keeps_0 9 rfl rfl)
theorem dX4_keeps_10 : decode cX4_keeps 10 = .ok (.getfield 7, 3) := dk_180 0 7 (dk_at dksX4_keeps_0 10 rfl rfl)
theorem dX4_keeps_13 : decode cX4_keeps 13 = .ok (.iastore, 1) := dk_79 (dk_at dksX4_keeps_0 13 rfl rfl)
theorem dX4_keeps_14 : decode cX4_keeps 14 = .ok (.iconst 0, 1) := dk_3 (dk_at dksX4_keeps_0 14 rfl rfl)
theorem dX4_keeps_15 : decode cX4_keeps 15 = .ok (.istore_n 2, 1) := dk_61 (dk_at dksX4_keeps_0 15 rfl rfl)
theorem dX4_keeps_16 : decode cX4_keeps 16 = .ok (.iload_n 2, 1) := dk_28 (dk_at dksX4_keeps_0 16 rfl rfl)
theorem dX4_keeps_17 : decode cX4_keeps 17 = .ok (.bipush 12, 2) := dk_16 12 (dk_at dksX4_keeps_0 17 rfl rfl)
theorem dX4_keeps_19 : decode cX4_keeps 19 = .ok (.if_icmp .ge 48, 3) := dk_162 0 48 (dk_at dksX4_keeps_0 19 rfl rfl)
theorem dX4_keeps_22 : decode cX4_keeps 22 = .ok (.aload_n 1, 1) := dk_43 (dk_at dksX4_keeps_0 22 rfl rfl)
theorem dX4_keeps_23 : decode cX4_keeps 23 = .ok (.iconst 2, 1) := dk_5 (dk_at dksX4_keeps_0 23 rfl rfl)
theorem dX4_keeps_24 : decode cX4_keeps 24 = .ok (.iconst 3, 1) := dk_6 (dk_at dksX4_keeps_1 0 rfl rfl)
theorem dX4_keeps_25 : decode cX4_keeps 25 = .ok (.iload_n 2, 1) := dk_28 (dk_at dksX4_keeps_1 1 rfl rfl)
theorem dX4_keeps_26 : decode cX4_keeps 26 = .ok (.imul, 1) := dk_104 (dk_at dksX4_keeps_1 2 rfl rfl)
theorem dX4_keeps_27 : decode cX4_keeps 27 = .ok (.iadd, 1) := dk_96 (dk_at dksX4_keeps_1 3 rfl rfl)
theorem dX4_keeps_28 : decode cX4_keeps 28 = .ok (.aload_n 0, 1) := dk_42 (dk_at dksX4_keeps_1 4 rfl rfl)
theorem dX4_keeps_29 : decode cX4_keeps 29 = .ok (.getfield 13, 3) := dk_180 0 13 (dk_at dksX4_keeps_1 5 rfl rfl)
theorem dX4_keeps_32 : decode cX4_keeps 32 = .ok (.iload_n 2, 1) := dk_28 (dk_at dksX4_keeps_1 8 rfl rfl)
theorem dX4_keeps_33 : decode cX4_keeps 33 = .ok (.iaload, 1) := dk_46 (dk_at dksX4_keeps_1 9 rfl rfl)
theorem dX4_keeps_34 : decode cX4_keeps 34 = .ok (.iastore, 1) := dk_79 (dk_at dksX4_keeps_1 10 rfl rfl)
theorem dX4_keeps_35 : decode cX4_keeps 35 = .ok (.aload_n 1, 1) := dk_43 (dk_at dksX4_keeps_1 11 rfl rfl)
theorem dX4_keeps_36 : decode cX4_keeps 36 = .ok (.iconst 3, 1) := dk_6 (dk_at dksX4_keeps_1 12 rfl rfl)
theorem dX4_keeps_37 : decode cX4_keeps 37 = .ok (.iconst 3, 1) := dk_6 (dk_at dksX4_keeps_1 13 rfl rfl)
theorem dX4_keeps_38 : decode cX4_keeps 38 = .ok (.iload_n 2, 1) := dk_28 (dk_at dksX4_keeps_1 14 rfl rfl)
theorem dX4_keeps_39 : decode cX4_keeps 39 = .ok (.imul, 1) := dk_104 (dk_at dksX4_keeps_1 15 rfl rfl)
theorem dX4_keeps_40 : decode cX4_keeps 40 = .ok (.iadd, 1) := dk_96 (dk_at dksX4_keeps_1 16 rfl rfl)
theorem dX4_keeps_41 : decode cX4_keeps 41 = .ok (.aload_n 0, 1) := dk_42 (dk_at dksX4_keeps_1 17 rfl rfl)
theorem dX4_keeps_42 : decode cX4_keeps 42 = .ok (.getfield 17, 3) := dk_180 0 17 (dk_at dksX4_keeps_1 18 rfl rfl)
theorem dX4_keeps_45 : decode cX4_keeps 45 = .ok (.iload_n 2, 1) := dk_28 (dk_at dksX4_keeps_1 21 rfl rfl)
theorem dX4_keeps_46 : decode cX4_keeps 46 = .ok (.iaload, 1) := dk_46 (dk_at dksX4_keeps_1 22 rfl rfl)
theorem dX4_keeps_47 : decode cX4_keeps 47 = .ok (.iastore, 1) := dk_79 (dk_at dksX4_keeps_1 23 rfl rfl)
theorem dX4_keeps_48 : decode cX4_keeps 48 = .ok (.aload_n 1, 1) := dk_43 (dk_at dksX4_keeps_2 0 rfl rfl)
theorem dX4_keeps_49 : decode cX4_keeps 49 = .ok (.iconst 4, 1) := dk_7 (dk_at dksX4_keeps_2 1 rfl rfl)
theorem dX4_keeps_50 : decode cX4_keeps 50 = .ok (.iconst 3, 1) := dk_6 (dk_at dksX4_keeps_2 2 rfl rfl)
theorem dX4_keeps_51 : decode cX4_keeps 51 = .ok (.iload_n 2, 1) := dk_28 (dk_at dksX4_keeps_2 3 rfl rfl)
theorem dX4_keeps_52 : decode cX4_keeps 52 = .ok (.imul, 1) := dk_104 (dk_at dksX4_keeps_2 4 rfl rfl)
theorem dX4_keeps_53 : decode cX4_keeps 53 = .ok (.iadd, 1) := dk_96 (dk_at dksX4_keeps_2 5 rfl rfl)
theorem dX4_keeps_54 : decode cX4_keeps 54 = .ok (.aload_n 0, 1) := dk_42 (dk_at dksX4_keeps_2 6 rfl rfl)
theorem dX4_keeps_55 : decode cX4_keeps 55 = .ok (.getfield 20, 3) := dk_180 0 20 (dk_at dksX4_keeps_2 7 rfl rfl)
theorem dX4_keeps_58 : decode cX4_keeps 58 = .ok (.iload_n 2, 1) := dk_28 (dk_at dksX4_keeps_2 10 rfl rfl)
theorem dX4_keeps_59 : decode cX4_keeps 59 = .ok (.iaload, 1) := dk_46 (dk_at dksX4_keeps_2 11 rfl rfl)
theorem dX4_keeps_60 : decode cX4_keeps 60 = .ok (.iastore, 1) := dk_79 (dk_at dksX4_keeps_2 12 rfl rfl)
theorem dX4_keeps_61 : decode cX4_keeps 61 = .ok (.iinc 2 1, 3) := dk_132 2 1 (dk_at dksX4_keeps_2 13 rfl rfl)
theorem dX4_keeps_64 : decode cX4_keeps 64 = .ok (.goto (-48), 3) := dk_167 255 208 (dk_at dksX4_keeps_2 16 rfl rfl)
theorem dX4_keeps_67 : decode cX4_keeps 67 = .ok (.return_, 1) := dk_177 (dk_at dksX4_keeps_2 19 rfl rfl)
abbrev cX4_putsBack : ByteArray := prog_32_method_94_code
def yX4_putsBack : MethodName := ⟨RX4, "putsBack", "([I)V"⟩
def dkwX4_putsBack_2 : List UInt8 := [79, 42, 180, 0, 20, 28, 43, 7, 6, 28, 104, 96, 46, 79, 132, 2, 1, 167, 255, 208, 177]
abbrev dktX4_putsBack_2 : List UInt8 := dkwX4_putsBack_2 ++ []
def dkwX4_putsBack_1 : List UInt8 := [180, 0, 13, 28, 43, 5, 6, 28, 104, 96, 46, 79, 42, 180, 0, 17, 28, 43, 6, 6, 28, 104, 96, 46]
abbrev dktX4_putsBack_1 : List UInt8 := dkwX4_putsBack_1 ++ dktX4_putsBack_2
def dkwX4_putsBack_0 : List UInt8 := [42, 43, 3, 46, 181, 0, 122, 42, 43, 4, 46, 181, 0, 7, 3, 61, 28, 16, 12, 162, 0, 48, 42]
abbrev dktX4_putsBack_0 : List UInt8 := dkwX4_putsBack_0 ++ dktX4_putsBack_1
theorem dksX4_putsBack_0 : cX4_putsBack.data.toList.drop 0 = dktX4_putsBack_0 := by decide +kernel
theorem dksX4_putsBack_1 : cX4_putsBack.data.toList.drop 23 = dktX4_putsBack_1 := dk_seg dksX4_putsBack_0 23 rfl rfl
theorem dksX4_putsBack_2 : cX4_putsBack.data.toList.drop 47 = dktX4_putsBack_2 := dk_seg dksX4_putsBack_1 24 rfl rfl
theorem dX4_putsBack_0 : decode cX4_putsBack 0 = .ok (.aload_n 0, 1) := dk_42 (dk_at dksX4_putsBack_0 0 rfl rfl)
theorem dX4_putsBack_1 : decode cX4_putsBack 1 = .ok (.aload_n 1, 1) := dk_43 (dk_at dksX4_putsBack_0 1 rfl rfl)
theorem dX4_putsBack_2 : decode cX4_putsBack 2 = .ok (.iconst 0, 1) := dk_3 (dk_at dksX4_putsBack_0 2 rfl rfl)
theorem dX4_putsBack_3 : decode cX4_putsBack 3 = .ok (.iaload, 1) := dk_46 (dk_at dksX4_putsBack_0 3 rfl rfl)
theorem dX4_putsBack_4 : decode cX4_putsBack 4 = .ok (.putfield 122, 3) := dk_181 0 122 (dk_at dksX4_putsBack_0 4 rfl rfl)
theorem dX4_putsBack_7 : decode cX4_putsBack 7 = .ok (.aload_n 0, 1) := dk_42 (dk_at dksX4_putsBack_0 7 rfl rfl)
theorem dX4_putsBack_8 : decode cX4_putsBack 8 = .ok (.aload_n 1, 1) := dk_43 (dk_at dksX4_putsBack_0 8 rfl rfl)
theorem dX4_putsBack_9 : decode cX4_putsBack 9 = .ok (.iconst 1, 1) := dk_4 (dk_at dksX4_putsBack_0 9 rfl rfl)
theorem dX4_putsBack_10 : decode cX4_putsBack 10 = .ok (.iaload, 1) := dk_46 (dk_at dksX4_putsBack_0 10 rfl rfl)
theorem dX4_putsBack_11 : decode cX4_putsBack 11 = .ok (.putfield 7, 3) := dk_181 0 7 (dk_at dksX4_putsBack_0 11 rfl rfl)
theorem dX4_putsBack_14 : decode cX4_putsBack 14 = .ok (.iconst 0, 1) := dk_3 (dk_at dksX4_putsBack_0 14 rfl rfl)
theorem dX4_putsBack_15 : decode cX4_putsBack 15 = .ok (.istore_n 2, 1) := dk_61 (dk_at dksX4_putsBack_0 15 rfl rfl)
theorem dX4_putsBack_16 : decode cX4_putsBack 16 = .ok (.iload_n 2, 1) := dk_28 (dk_at dksX4_putsBack_0 16 rfl rfl)
theorem dX4_putsBack_17 : decode cX4_putsBack 17 = .ok (.bipush 12, 2) := dk_16 12 (dk_at dksX4_putsBack_0 17 rfl rfl)
theorem dX4_putsBack_19 : decode cX4_putsBack 19 = .ok (.if_icmp .ge 48, 3) := dk_162 0 48 (dk_at dksX4_putsBack_0 19 rfl rfl)
theorem dX4_putsBack_22 : decode cX4_putsBack 22 = .ok (.aload_n 0, 1) := dk_42 (dk_at dksX4_putsBack_0 22 rfl rfl)
theorem dX4_putsBack_23 : decode cX4_putsBack 23 = .ok (.getfield 13, 3) := dk_180 0 13 (dk_at dksX4_putsBack_1 0 rfl rfl)
theorem dX4_putsBack_26 : decode cX4_putsBack 26 = .ok (.iload_n 2, 1) := dk_28 (dk_at dksX4_putsBack_1 3 rfl rfl)
theorem dX4_putsBack_27 : decode cX4_putsBack 27 = .ok (.aload_n 1, 1) := dk_43 (dk_at dksX4_putsBack_1 4 rfl rfl)
theorem dX4_putsBack_28 : decode cX4_putsBack 28 = .ok (.iconst 2, 1) := dk_5 (dk_at dksX4_putsBack_1 5 rfl rfl)
theorem dX4_putsBack_29 : decode cX4_putsBack 29 = .ok (.iconst 3, 1) := dk_6 (dk_at dksX4_putsBack_1 6 rfl rfl)
theorem dX4_putsBack_30 : decode cX4_putsBack 30 = .ok (.iload_n 2, 1) := dk_28 (dk_at dksX4_putsBack_1 7 rfl rfl)
theorem dX4_putsBack_31 : decode cX4_putsBack 31 = .ok (.imul, 1) := dk_104 (dk_at dksX4_putsBack_1 8 rfl rfl)
theorem dX4_putsBack_32 : decode cX4_putsBack 32 = .ok (.iadd, 1) := dk_96 (dk_at dksX4_putsBack_1 9 rfl rfl)
theorem dX4_putsBack_33 : decode cX4_putsBack 33 = .ok (.iaload, 1) := dk_46 (dk_at dksX4_putsBack_1 10 rfl rfl)
theorem dX4_putsBack_34 : decode cX4_putsBack 34 = .ok (.iastore, 1) := dk_79 (dk_at dksX4_putsBack_1 11 rfl rfl)
theorem dX4_putsBack_35 : decode cX4_putsBack 35 = .ok (.aload_n 0, 1) := dk_42 (dk_at dksX4_putsBack_1 12 rfl rfl)
theorem dX4_putsBack_36 : decode cX4_putsBack 36 = .ok (.getfield 17, 3) := dk_180 0 17 (dk_at dksX4_putsBack_1 13 rfl rfl)
theorem dX4_putsBack_39 : decode cX4_putsBack 39 = .ok (.iload_n 2, 1) := dk_28 (dk_at dksX4_putsBack_1 16 rfl rfl)
theorem dX4_putsBack_40 : decode cX4_putsBack 40 = .ok (.aload_n 1, 1) := dk_43 (dk_at dksX4_putsBack_1 17 rfl rfl)
theorem dX4_putsBack_41 : decode cX4_putsBack 41 = .ok (.iconst 3, 1) := dk_6 (dk_at dksX4_putsBack_1 18 rfl rfl)
theorem dX4_putsBack_42 : decode cX4_putsBack 42 = .ok (.iconst 3, 1) := dk_6 (dk_at dksX4_putsBack_1 19 rfl rfl)
theorem dX4_putsBack_43 : decode cX4_putsBack 43 = .ok (.iload_n 2, 1) := dk_28 (dk_at dksX4_putsBack_1 20 rfl rfl)
theorem dX4_putsBack_44 : decode cX4_putsBack 44 = .ok (.imul, 1) := dk_104 (dk_at dksX4_putsBack_1 21 rfl rfl)
theorem dX4_putsBack_45 : decode cX4_putsBack 45 = .ok (.iadd, 1) := dk_96 (dk_at dksX4_putsBack_1 22 rfl rfl)
theorem dX4_putsBack_46 : decode cX4_putsBack 46 = .ok (.iaload, 1) := dk_46 (dk_at dksX4_putsBack_1 23 rfl rfl)
theorem dX4_putsBack_47 : decode cX4_putsBack 47 = .ok (.iastore, 1) := dk_79 (dk_at dksX4_putsBack_2 0 rfl rfl)
theorem dX4_putsBack_48 : decode cX4_putsBack 48 = .ok (.aload_n 0, 1) := dk_42 (dk_at dksX4_putsBack_2 1 rfl rfl)
theorem dX4_putsBack_49 : decode cX4_putsBack 49 = .ok (.getfield 20, 3) := dk_180 0 20 (dk_at dksX4_putsBack_2 2 rfl rfl)
theorem dX4_putsBack_52 : decode cX4_putsBack 52 = .ok (.iload_n 2, 1) := dk_28 (dk_at dksX4_putsBack_2 5 rfl rfl)
theorem dX4_putsBack_53 : decode cX4_putsBack 53 = .ok (.aload_n 1, 1) := dk_43 (dk_at dksX4_putsBack_2 6 rfl rfl)
theorem dX4_putsBack_54 : decode cX4_putsBack 54 = .ok (.iconst 4, 1) := dk_7 (dk_at dksX4_putsBack_2 7 rfl rfl)
theorem dX4_putsBack_55 : decode cX4_putsBack 55 = .ok (.iconst 3, 1) := dk_6 (dk_at dksX4_putsBack_2 8 rfl rfl)
theorem dX4_putsBack_56 : decode cX4_putsBack 56 = .ok (.iload_n 2, 1) := dk_28 (dk_at dksX4_putsBack_2 9 rfl rfl)
theorem dX4_putsBack_57 : decode cX4_putsBack 57 = .ok (.imul, 1) := dk_104 (dk_at dksX4_putsBack_2 10 rfl rfl)
theorem dX4_putsBack_58 : decode cX4_putsBack 58 = .ok (.iadd, 1) := dk_96 (dk_at dksX4_putsBack_2 11 rfl rfl)
theorem dX4_putsBack_59 : decode cX4_putsBack 59 = .ok (.iaload, 1) := dk_46 (dk_at dksX4_putsBack_2 12 rfl rfl)
theorem dX4_putsBack_60 : decode cX4_putsBack 60 = .ok (.iastore, 1) := dk_79 (dk_at dksX4_putsBack_2 13 rfl rfl)
theorem dX4_putsBack_61 : decode cX4_putsBack 61 = .ok (.iinc 2 1, 3) := dk_132 2 1 (dk_at dksX4_putsBack_2 14 rfl rfl)
theorem dX4_putsBack_64 : decode cX4_putsBack 64 = .ok (.goto (-48), 3) := dk_167 255 208 (dk_at dksX4_putsBack_2 17 rfl rfl)
theorem dX4_putsBack_67 : decode cX4_putsBack 67 = .ok (.return_, 1) := dk_177 (dk_at dksX4_putsBack_2 20 rfl rfl)
abbrev cX4_sheet : ByteArray := prog_32_method_97_code
def yX4_sheet : MethodName := ⟨RX4, "sheet", "(III)I"⟩
def dkwX4_sheet_3 : List UInt8 := [162, 0, 22, 42, 180, 0, 103, 16, 60, 27, 104, 21, 4, 96, 3, 79, 132, 4, 1, 167, 255, 233, 4, 172]
abbrev dktX4_sheet_3 : List UInt8 := dkwX4_sheet_3 ++ []
def dkwX4_sheet_2 : List UInt8 := [79, 42, 180, 0, 100, 27, 28, 2, 160, 0, 7, 3, 167, 0, 4, 29, 79, 3, 54, 4, 21, 4, 16, 60]
abbrev dktX4_sheet_2 : List UInt8 := dkwX4_sheet_2 ++ dktX4_sheet_3
def dkwX4_sheet_1 : List UInt8 := [164, 0, 6, 16, 254, 172, 28, 2, 159, 0, 10, 29, 156, 0, 6, 16, 242, 172, 42, 180, 0, 97, 27, 28]
abbrev dktX4_sheet_1 : List UInt8 := dkwX4_sheet_1 ++ dktX4_sheet_2
def dkwX4_sheet_0 : List UInt8 := [27, 184, 0, 253, 153, 0, 23, 28, 2, 5, 184, 0, 125, 153, 0, 14, 28, 2, 159, 0, 12, 29, 16, 60]
abbrev dktX4_sheet_0 : List UInt8 := dkwX4_sheet_0 ++ dktX4_sheet_1
theorem dksX4_sheet_0 : cX4_sheet.data.toList.drop 0 = dktX4_sheet_0 := by decide +kernel
theorem dksX4_sheet_1 : cX4_sheet.data.toList.drop 24 = dktX4_sheet_1 := dk_seg dksX4_sheet_0 24 rfl rfl
theorem dksX4_sheet_2 : cX4_sheet.data.toList.drop 48 = dktX4_sheet_2 := dk_seg dksX4_sheet_1 24 rfl rfl
theorem dksX4_sheet_3 : cX4_sheet.data.toList.drop 72 = dktX4_sheet_3 := dk_seg dksX4_sheet_2 24 rfl rfl
theorem dX4_sheet_0 : decode cX4_sheet 0 = .ok (.iload_n 1, 1) := dk_27 (dk_at dksX4_sheet_0 0 rfl rfl)
theorem dX4_sheet_1 : decode cX4_sheet 1 = .ok (.invokestatic 253, 3) := dk_184 0 253 (dk_at dksX4_sheet_0 1 rfl rfl)
theorem dX4_sheet_4 : decode cX4_sheet 4 = .ok (.ifCond .eq 23, 3) := dk_153 0 23 (dk_at dksX4_sheet_0 4 rfl rfl)
theorem dX4_sheet_7 : decode cX4_sheet 7 = .ok (.iload_n 2, 1) := dk_28 (dk_at dksX4_sheet_0 7 rfl rfl)
theorem dX4_sheet_8 : decode cX4_sheet 8 = .ok (.iconst (-1), 1) := dk_2 (dk_at dksX4_sheet_0 8 rfl rfl)
theorem dX4_sheet_9 : decode cX4_sheet 9 = .ok (.iconst 2, 1) := dk_5 (dk_at dksX4_sheet_0 9 rfl rfl)
theorem dX4_sheet_10 : decode cX4_sheet 10 = .ok (.invokestatic 125, 3) := dk_184 0 125 (dk_at dksX4_sheet_0 10 rfl rfl)
theorem dX4_sheet_13 : decode cX4_sheet 13 = .ok (.ifCond .eq 14, 3) := dk_153 0 14 (dk_at dksX4_sheet_0 13 rfl rfl)
theorem dX4_sheet_16 : decode cX4_sheet 16 = .ok (.iload_n 2, 1) := dk_28 (dk_at dksX4_sheet_0 16 rfl rfl)
theorem dX4_sheet_17 : decode cX4_sheet 17 = .ok (.iconst (-1), 1) := dk_2 (dk_at dksX4_sheet_0 17 rfl rfl)
theorem dX4_sheet_18 : decode cX4_sheet 18 = .ok (.if_icmp .eq 12, 3) := dk_159 0 12 (dk_at dksX4_sheet_0 18 rfl rfl)
theorem dX4_sheet_21 : decode cX4_sheet 21 = .ok (.iload_n 3, 1) := dk_29 (dk_at dksX4_sheet_0 21 rfl rfl)
theorem dX4_sheet_22 : decode cX4_sheet 22 = .ok (.bipush 60, 2) := dk_16 60 (dk_at dksX4_sheet_0 22 rfl rfl)
theorem dX4_sheet_24 : decode cX4_sheet 24 = .ok (.if_icmp .le 6, 3) := dk_164 0 6 (dk_at dksX4_sheet_1 0 rfl rfl)
theorem dX4_sheet_27 : decode cX4_sheet 27 = .ok (.bipush (-2), 2) := dk_16 254 (dk_at dksX4_sheet_1 3 rfl rfl)
theorem dX4_sheet_29 : decode cX4_sheet 29 = .ok (.ireturn, 1) := dk_172 (dk_at dksX4_sheet_1 5 rfl rfl)
theorem dX4_sheet_30 : decode cX4_sheet 30 = .ok (.iload_n 2, 1) := dk_28 (dk_at dksX4_sheet_1 6 rfl rfl)
theorem dX4_sheet_31 : decode cX4_sheet 31 = .ok (.iconst (-1), 1) := dk_2 (dk_at dksX4_sheet_1 7 rfl rfl)
theorem dX4_sheet_32 : decode cX4_sheet 32 = .ok (.if_icmp .eq 10, 3) := dk_159 0 10 (dk_at dksX4_sheet_1 8 rfl rfl)
theorem dX4_sheet_35 : decode cX4_sheet 35 = .ok (.iload_n 3, 1) := dk_29 (dk_at dksX4_sheet_1 11 rfl rfl)
theorem dX4_sheet_36 : decode cX4_sheet 36 = .ok (.ifCond .ge 6, 3) := dk_156 0 6 (dk_at dksX4_sheet_1 12 rfl rfl)
theorem dX4_sheet_39 : decode cX4_sheet 39 = .ok (.bipush (-14), 2) := dk_16 242 (dk_at dksX4_sheet_1 15 rfl rfl)
theorem dX4_sheet_41 : decode cX4_sheet 41 = .ok (.ireturn, 1) := dk_172 (dk_at dksX4_sheet_1 17 rfl rfl)
theorem dX4_sheet_42 : decode cX4_sheet 42 = .ok (.aload_n 0, 1) := dk_42 (dk_at dksX4_sheet_1 18 rfl rfl)
theorem dX4_sheet_43 : decode cX4_sheet 43 = .ok (.getfield 97, 3) := dk_180 0 97 (dk_at dksX4_sheet_1 19 rfl rfl)
theorem dX4_sheet_46 : decode cX4_sheet 46 = .ok (.iload_n 1, 1) := dk_27 (dk_at dksX4_sheet_1 22 rfl rfl)
theorem dX4_sheet_47 : decode cX4_sheet 47 = .ok (.iload_n 2, 1) := dk_28 (dk_at dksX4_sheet_1 23 rfl rfl)
theorem dX4_sheet_48 : decode cX4_sheet 48 = .ok (.iastore, 1) := dk_79 (dk_at dksX4_sheet_2 0 rfl rfl)
theorem dX4_sheet_49 : decode cX4_sheet 49 = .ok (.aload_n 0, 1) := dk_42 (dk_at dksX4_sheet_2 1 rfl rfl)
theorem dX4_sheet_50 : decode cX4_sheet 50 = .ok (.getfield 100, 3) := dk_180 0 100 (dk_at dksX4_sheet_2 2 rfl rfl)
theorem dX4_sheet_53 : decode cX4_sheet 53 = .ok (.iload_n 1, 1) := dk_27 (dk_at dksX4_sheet_2 5 rfl rfl)
theorem dX4_sheet_54 : decode cX4_sheet 54 = .ok (.iload_n 2, 1) := dk_28 (dk_at dksX4_sheet_2 6 rfl rfl)
theorem dX4_sheet_55 : decode cX4_sheet 55 = .ok (.iconst (-1), 1) := dk_2 (dk_at dksX4_sheet_2 7 rfl rfl)
theorem dX4_sheet_56 : decode cX4_sheet 56 = .ok (.if_icmp .ne 7, 3) := dk_160 0 7 (dk_at dksX4_sheet_2 8 rfl rfl)
theorem dX4_sheet_59 : decode cX4_sheet 59 = .ok (.iconst 0, 1) := dk_3 (dk_at dksX4_sheet_2 11 rfl rfl)
theorem dX4_sheet_60 : decode cX4_sheet 60 = .ok (.goto 4, 3) := dk_167 0 4 (dk_at dksX4_sheet_2 12 rfl rfl)
theorem dX4_sheet_63 : decode cX4_sheet 63 = .ok (.iload_n 3, 1) := dk_29 (dk_at dksX4_sheet_2 15 rfl rfl)
theorem dX4_sheet_64 : decode cX4_sheet 64 = .ok (.iastore, 1) := dk_79 (dk_at dksX4_sheet_2 16 rfl rfl)
theorem dX4_sheet_65 : decode cX4_sheet 65 = .ok (.iconst 0, 1) := dk_3 (dk_at dksX4_sheet_2 17 rfl rfl)
theorem dX4_sheet_66 : decode cX4_sheet 66 = .ok (.istore 4, 2) := dk_54 4 (dk_at dksX4_sheet_2 18 rfl rfl)
theorem dX4_sheet_68 : decode cX4_sheet 68 = .ok (.iload 4, 2) := dk_21 4 (dk_at dksX4_sheet_2 20 rfl rfl)
theorem dX4_sheet_70 : decode cX4_sheet 70 = .ok (.bipush 60, 2) := dk_16 60 (dk_at dksX4_sheet_2 22 rfl rfl)
theorem dX4_sheet_72 : decode cX4_sheet 72 = .ok (.if_icmp .ge 22, 3) := dk_162 0 22 (dk_at dksX4_sheet_3 0 rfl rfl)
theorem dX4_sheet_75 : decode cX4_sheet 75 = .ok (.aload_n 0, 1) := dk_42 (dk_at dksX4_sheet_3 3 rfl rfl)
theorem dX4_sheet_76 : decode cX4_sheet 76 = .ok (.getfield 103, 3) := dk_180 0 103 (dk_at dksX4_sheet_3 4 rfl rfl)
theorem dX4_sheet_79 : decode cX4_sheet 79 = .ok (.bipush 60, 2) := dk_16 60 (dk_at dksX4_sheet_3 7 rfl rfl)
theorem dX4_sheet_81 : decode cX4_sheet 81 = .ok (.iload_n 1, 1) := dk_27 (dk_at dksX4_sheet_3 9 rfl rfl)
theorem dX4_sheet_82 : decode cX4_sheet 82 = .ok (.imul, 1) := dk_104 (dk_at dksX4_sheet_3 10 rfl rfl)
theorem dX4_sheet_83 : decode cX4_sheet 83 = .ok (.iload 4, 2) := dk_21 4 (dk_at dksX4_sheet_3 11 rfl rfl)
theorem dX4_sheet_85 : decode cX4_sheet 85 = .ok (.iadd, 1) := dk_96 (dk_at dksX4_sheet_3 13 rfl rfl)
theorem dX4_sheet_86 : decode cX4_sheet 86 = .ok (.iconst 0, 1) := dk_3 (dk_at dksX4_sheet_3 14 rfl rfl)
theorem dX4_sheet_87 : decode cX4_sheet 87 = .ok (.iastore, 1) := dk_79 (dk_at dksX4_sheet_3 15 rfl rfl)
theorem dX4_sheet_88 : decode cX4_sheet 88 = .ok (.iinc 4 1, 3) := dk_132 4 1 (dk_at dksX4_sheet_3 16 rfl rfl)
theorem dX4_sheet_91 : decode cX4_sheet 91 = .ok (.goto (-23), 3) := dk_167 255 233 (dk_at dksX4_sheet_3 19 rfl rfl)
theorem dX4_sheet_94 : decode cX4_sheet 94 = .ok (.iconst 1, 1) := dk_4 (dk_at dksX4_sheet_3 22 rfl rfl)
theorem dX4_sheet_95 : decode cX4_sheet 95 = .ok (.ireturn, 1) := dk_172 (dk_at dksX4_sheet_3 23 rfl rfl)
abbrev cX4_write : ByteArray := prog_32_method_99_code
def yX4_write : MethodName := ⟨RX4, "write", "(III)I"⟩
def dkwX4_write_2 : List UInt8 := [160, 0, 8, 29, 147, 167, 0, 4, 29, 79, 4, 172]
abbrev dktX4_write_2 : List UInt8 := dkwX4_write_2 ++ []
def dkwX4_write_1 : List UInt8 := [28, 96, 42, 180, 0, 97, 27, 46, 154, 0, 8, 29, 145, 167, 0, 19, 42, 180, 0, 97, 27, 46, 4]
abbrev dktX4_write_1 : List UInt8 := dkwX4_write_1 ++ dktX4_write_2
def dkwX4_write_0 : List UInt8 := [42, 27, 28, 182, 1, 90, 54, 4, 21, 4, 153, 0, 6, 21, 4, 172, 42, 180, 0, 103, 16, 60, 27, 104]
abbrev dktX4_write_0 : List UInt8 := dkwX4_write_0 ++ dktX4_write_1
theorem dksX4_write_0 : cX4_write.data.toList.drop 0 = dktX4_write_0 := by decide +kernel
theorem dksX4_write_1 : cX4_write.data.toList.drop 24 = dktX4_write_1 := dk_seg dksX4_write_0 24 rfl rfl
theorem dksX4_write_2 : cX4_write.data.toList.drop 47 = dktX4_write_2 := dk_seg dksX4_write_1 23 rfl rfl
theorem dX4_write_0 : decode cX4_write 0 = .ok (.aload_n 0, 1) := dk_42 (dk_at dksX4_write_0 0 rfl rfl)
theorem dX4_write_1 : decode cX4_write 1 = .ok (.iload_n 1, 1) := dk_27 (dk_at dksX4_write_0 1 rfl rfl)
theorem dX4_write_2 : decode cX4_write 2 = .ok (.iload_n 2, 1) := dk_28 (dk_at dksX4_write_0 2 rfl rfl)
theorem dX4_write_3 : decode cX4_write 3 = .ok (.invokevirtual 346, 3) := dk_182 1 90 (dk_at dksX4_write_0 3 rfl rfl)
theorem dX4_write_6 : decode cX4_write 6 = .ok (.istore 4, 2) := dk_54 4 (dk_at dksX4_write_0 6 rfl rfl)
theorem dX4_write_8 : decode cX4_write 8 = .ok (.iload 4, 2) := dk_21 4 (dk_at dksX4_write_0 8 rfl rfl)
theorem dX4_write_10 : decode cX4_write 10 = .ok (.ifCond .eq 6, 3) := dk_153 0 6 (dk_at dksX4_write_0 10 rfl rfl)
theorem dX4_write_13 : decode cX4_write 13 = .ok (.iload 4, 2) := dk_21 4 (dk_at dksX4_write_0 13 rfl rfl)
theorem dX4_write_15 : decode cX4_write 15 = .ok (.ireturn, 1) := dk_172 (dk_at dksX4_write_0 15 rfl rfl)
theorem dX4_write_16 : decode cX4_write 16 = .ok (.aload_n 0, 1) := dk_42 (dk_at dksX4_write_0 16 rfl rfl)
theorem dX4_write_17 : decode cX4_write 17 = .ok (.getfield 103, 3) := dk_180 0 103 (dk_at dksX4_write_0 17 rfl rfl)
theorem dX4_write_20 : decode cX4_write 20 = .ok (.bipush 60, 2) := dk_16 60 (dk_at dksX4_write_0 20 rfl rfl)
theorem dX4_write_22 : decode cX4_write 22 = .ok (.iload_n 1, 1) := dk_27 (dk_at dksX4_write_0 22 rfl rfl)
theorem dX4_write_23 : decode cX4_write 23 = .ok (.imul, 1) := dk_104 (dk_at dksX4_write_0 23 rfl rfl)
theorem dX4_write_24 : decode cX4_write 24 = .ok (.iload_n 2, 1) := dk_28 (dk_at dksX4_write_1 0 rfl rfl)
theorem dX4_write_25 : decode cX4_write 25 = .ok (.iadd, 1) := dk_96 (dk_at dksX4_write_1 1 rfl rfl)
theorem dX4_write_26 : decode cX4_write 26 = .ok (.aload_n 0, 1) := dk_42 (dk_at dksX4_write_1 2 rfl rfl)
theorem dX4_write_27 : decode cX4_write 27 = .ok (.getfield 97, 3) := dk_180 0 97 (dk_at dksX4_write_1 3 rfl rfl)
theorem dX4_write_30 : decode cX4_write 30 = .ok (.iload_n 1, 1) := dk_27 (dk_at dksX4_write_1 6 rfl rfl)
theorem dX4_write_31 : decode cX4_write 31 = .ok (.iaload, 1) := dk_46 (dk_at dksX4_write_1 7 rfl rfl)
theorem dX4_write_32 : decode cX4_write 32 = .ok (.ifCond .ne 8, 3) := dk_154 0 8 (dk_at dksX4_write_1 8 rfl rfl)
theorem dX4_write_35 : decode cX4_write 35 = .ok (.iload_n 3, 1) := dk_29 (dk_at dksX4_write_1 11 rfl rfl)
theorem dX4_write_36 : decode cX4_write 36 = .ok (.i2b, 1) := dk_145 (dk_at dksX4_write_1 12 rfl rfl)
theorem dX4_write_37 : decode cX4_write 37 = .ok (.goto 19, 3) := dk_167 0 19 (dk_at dksX4_write_1 13 rfl rfl)
theorem dX4_write_40 : decode cX4_write 40 = .ok (.aload_n 0, 1) := dk_42 (dk_at dksX4_write_1 16 rfl rfl)
theorem dX4_write_41 : decode cX4_write 41 = .ok (.getfield 97, 3) := dk_180 0 97 (dk_at dksX4_write_1 17 rfl rfl)
theorem dX4_write_44 : decode cX4_write 44 = .ok (.iload_n 1, 1) := dk_27 (dk_at dksX4_write_1 20 rfl rfl)
theorem dX4_write_45 : decode cX4_write 45 = .ok (.iaload, 1) := dk_46 (dk_at dksX4_write_1 21 rfl rfl)
theorem dX4_write_46 : decode cX4_write 46 = .ok (.iconst 1, 1) := dk_4 (dk_at dksX4_write_1 22 rfl rfl)
theorem dX4_write_47 : decode cX4_write 47 = .ok (.if_icmp .ne 8, 3) := dk_160 0 8 (dk_at dksX4_write_2 0 rfl rfl)
theorem dX4_write_50 : decode cX4_write 50 = .ok (.iload_n 3, 1) := dk_29 (dk_at dksX4_write_2 3 rfl rfl)
theorem dX4_write_51 : decode cX4_write 51 = .ok (.i2s, 1) := dk_147 (dk_at dksX4_write_2 4 rfl rfl)
theorem dX4_write_52 : decode cX4_write 52 = .ok (.goto 4, 3) := dk_167 0 4 (dk_at dksX4_write_2 5 rfl rfl)
theorem dX4_write_55 : decode cX4_write 55 = .ok (.iload_n 3, 1) := dk_29 (dk_at dksX4_write_2 8 rfl rfl)
theorem dX4_write_56 : decode cX4_write 56 = .ok (.iastore, 1) := dk_79 (dk_at dksX4_write_2 9 rfl rfl)
theorem dX4_write_57 : decode cX4_write 57 = .ok (.iconst 1, 1) := dk_4 (dk_at dksX4_write_2 10 rfl rfl)
theorem dX4_write_58 : decode cX4_write 58 = .ok (.ireturn, 1) := dk_172 (dk_at dksX4_write_2 11 rfl rfl)
abbrev cX4_wrongAt : ByteArray := prog_32_method_98_code
def yX4_wrongAt : MethodName := ⟨RX4, "wrongAt", "(II)I"⟩
def dkwX4_wrongAt_2 : List UInt8 := [16, 244, 172]
abbrev dktX4_wrongAt_2 : List UInt8 := dkwX4_wrongAt_2 ++ []
def dkwX4_wrongAt_1 : List UInt8 := [167, 0, 25, 28, 3, 42, 180, 0, 100, 27, 46, 4, 100, 184, 0, 125, 153, 0, 7, 3, 167, 0, 5]
abbrev dktX4_wrongAt_1 : List UInt8 := dkwX4_wrongAt_1 ++ dktX4_wrongAt_2
def dkwX4_wrongAt_0 : List UInt8 := [27, 184, 0, 253, 154, 0, 8, 16, 254, 167, 0, 40, 42, 180, 0, 97, 27, 46, 2, 160, 0, 8, 16, 245]
abbrev dktX4_wrongAt_0 : List UInt8 := dkwX4_wrongAt_0 ++ dktX4_wrongAt_1
theorem dksX4_wrongAt_0 : cX4_wrongAt.data.toList.drop 0 = dktX4_wrongAt_0 := by decide +kernel
theorem dksX4_wrongAt_1 : cX4_wrongAt.data.toList.drop 24 = dktX4_wrongAt_1 := dk_seg dksX4_wrongAt_0 24 rfl rfl
theorem dksX4_wrongAt_2 : cX4_wrongAt.data.toList.drop 47 = dktX4_wrongAt_2 := dk_seg dksX4_wrongAt_1 23 rfl rfl
theorem dX4_wrongAt_0 : decode cX4_wrongAt 0 = .ok (.iload_n 1, 1) := dk_27 (dk_at dksX4_wrongAt_0 0 rfl rfl)
theorem dX4_wrongAt_1 : decode cX4_wrongAt 1 = .ok (.invokestatic 253, 3) := dk_184 0 253 (dk_at dksX4_wrongAt_0 1 rfl rfl)
theorem dX4_wrongAt_4 : decode cX4_wrongAt 4 = .ok (.ifCond .ne 8, 3) := dk_154 0 8 (dk_at dksX4_wrongAt_0 4 rfl rfl)
theorem dX4_wrongAt_7 : decode cX4_wrongAt 7 = .ok (.bipush (-2), 2) := dk_16 254 (dk_at dksX4_wrongAt_0 7 rfl rfl)
theorem dX4_wrongAt_9 : decode cX4_wrongAt 9 = .ok (.goto 40, 3) := dk_167 0 40 (dk_at dksX4_wrongAt_0 9 rfl rfl)
theorem dX4_wrongAt_12 : decode cX4_wrongAt 12 = .ok (.aload_n 0, 1) := dk_42 (dk_at dksX4_wrongAt_0 12 rfl rfl)
theorem dX4_wrongAt_13 : decode cX4_wrongAt 13 = .ok (.getfield 97, 3) := dk_180 0 97 (dk_at dksX4_wrongAt_0 13 rfl rfl)
theorem dX4_wrongAt_16 : decode cX4_wrongAt 16 = .ok (.iload_n 1, 1) := dk_27 (dk_at dksX4_wrongAt_0 16 rfl rfl)
theorem dX4_wrongAt_17 : decode cX4_wrongAt 17 = .ok (.iaload, 1) := dk_46 (dk_at dksX4_wrongAt_0 17 rfl rfl)
theorem dX4_wrongAt_18 : decode cX4_wrongAt 18 = .ok (.iconst (-1), 1) := dk_2 (dk_at dksX4_wrongAt_0 18 rfl rfl)
theorem dX4_wrongAt_19 : decode cX4_wrongAt 19 = .ok (.if_icmp .ne 8, 3) := dk_160 0 8 (dk_at dksX4_wrongAt_0 19 rfl rfl)
theorem dX4_wrongAt_22 : decode cX4_wrongAt 22 = .ok (.bipush (-11), 2) := dk_16 245 (dk_at dksX4_wrongAt_0 22 rfl rfl)
theorem dX4_wrongAt_24 : decode cX4_wrongAt 24 = .ok (.goto 25, 3) := dk_167 0 25 (dk_at dksX4_wrongAt_1 0 rfl rfl)
theorem dX4_wrongAt_27 : decode cX4_wrongAt 27 = .ok (.iload_n 2, 1) := dk_28 (dk_at dksX4_wrongAt_1 3 rfl rfl)
theorem dX4_wrongAt_28 : decode cX4_wrongAt 28 = .ok (.iconst 0, 1) := dk_3 (dk_at dksX4_wrongAt_1 4 rfl rfl)
theorem dX4_wrongAt_29 : decode cX4_wrongAt 29 = .ok (.aload_n 0, 1) := dk_42 (dk_at dksX4_wrongAt_1 5 rfl rfl)
theorem dX4_wrongAt_30 : decode cX4_wrongAt 30 = .ok (.getfield 100, 3) := dk_180 0 100 (dk_at dksX4_wrongAt_1 6 rfl rfl)
theorem dX4_wrongAt_33 : decode cX4_wrongAt 33 = .ok (.iload_n 1, 1) := dk_27 (dk_at dksX4_wrongAt_1 9 rfl rfl)
theorem dX4_wrongAt_34 : decode cX4_wrongAt 34 = .ok (.iaload, 1) := dk_46 (dk_at dksX4_wrongAt_1 10 rfl rfl)
theorem dX4_wrongAt_35 : decode cX4_wrongAt 35 = .ok (.iconst 1, 1) := dk_4 (dk_at dksX4_wrongAt_1 11 rfl rfl)
theorem dX4_wrongAt_36 : decode cX4_wrongAt 36 = .ok (.isub, 1) := dk_100 (dk_at dksX4_wrongAt_1 12 rfl rfl)
theorem dX4_wrongAt_37 : decode cX4_wrongAt 37 = .ok (.invokestatic 125, 3) := dk_184 0 125 (dk_at dksX4_wrongAt_1 13 rfl rfl)
theorem dX4_wrongAt_40 : decode cX4_wrongAt 40 = .ok (.ifCond .eq 7, 3) := dk_153 0 7 (dk_at dksX4_wrongAt_1 16 rfl rfl)
theorem dX4_wrongAt_43 : decode cX4_wrongAt 43 = .ok (.iconst 0, 1) := dk_3 (dk_at dksX4_wrongAt_1 19 rfl rfl)
theorem dX4_wrongAt_44 : decode cX4_wrongAt 44 = .ok (.goto 5, 3) := dk_167 0 5 (dk_at dksX4_wrongAt_1 20 rfl rfl)
theorem dX4_wrongAt_47 : decode cX4_wrongAt 47 = .ok (.bipush (-12), 2) := dk_16 244 (dk_at dksX4_wrongAt_2 0 rfl rfl)
theorem dX4_wrongAt_49 : decode cX4_wrongAt 49 = .ok (.ireturn, 1) := dk_172 (dk_at dksX4_wrongAt_2 2 rfl rfl)
abbrev cX4_item : ByteArray := prog_32_method_100_code
def yX4_item : MethodName := ⟨RX4, "item", "(II)I"⟩
def dkwX4_item_1 : List UInt8 := [96, 46, 172]
abbrev dktX4_item_1 : List UInt8 := dkwX4_item_1 ++ []
def dkwX4_item_0 : List UInt8 := [42, 27, 28, 182, 1, 90, 62, 29, 153, 0, 7, 29, 167, 0, 14, 42, 180, 0, 103, 16, 60, 27, 104, 28]
abbrev dktX4_item_0 : List UInt8 := dkwX4_item_0 ++ dktX4_item_1
theorem dksX4_item_0 : cX4_item.data.toList.drop 0 = dktX4_item_0 := by decide +kernel
theorem dksX4_item_1 : cX4_item.data.toList.drop 24 = dktX4_item_1 := dk_seg dksX4_item_0 24 rfl rfl
theorem dX4_item_0 : decode cX4_item 0 = .ok (.aload_n 0, 1) := dk_42 (dk_at dksX4_item_0 0 rfl rfl)
theorem dX4_item_1 : decode cX4_item 1 = .ok (.iload_n 1, 1) := dk_27 (dk_at dksX4_item_0 1 rfl rfl)
theorem dX4_item_2 : decode cX4_item 2 = .ok (.iload_n 2, 1) := dk_28 (dk_at dksX4_item_0 2 rfl rfl)
theorem dX4_item_3 : decode cX4_item 3 = .ok (.invokevirtual 346, 3) := dk_182 1 90 (dk_at dksX4_item_0 3 rfl rfl)
theorem dX4_item_6 : decode cX4_item 6 = .ok (.istore_n 3, 1) := dk_62 (dk_at dksX4_item_0 6 rfl rfl)
theorem dX4_item_7 : decode cX4_item 7 = .ok (.iload_n 3, 1) := dk_29 (dk_at dksX4_item_0 7 rfl rfl)
theorem dX4_item_8 : decode cX4_item 8 = .ok (.ifCond .eq 7, 3) := dk_153 0 7 (dk_at dksX4_item_0 8 rfl rfl)
theorem dX4_item_11 : decode cX4_item 11 = .ok (.iload_n 3, 1) := dk_29 (dk_at dksX4_item_0 11 rfl rfl)
theorem dX4_item_12 : decode cX4_item 12 = .ok (.goto 14, 3) := dk_167 0 14 (dk_at dksX4_item_0 12 rfl rfl)
theorem dX4_item_15 : decode cX4_item 15 = .ok (.aload_n 0, 1) := dk_42 (dk_at dksX4_item_0 15 rfl rfl)
theorem dX4_item_16 : decode cX4_item 16 = .ok (.getfield 103, 3) := dk_180 0 103 (dk_at dksX4_item_0 16 rfl rfl)
theorem dX4_item_19 : decode cX4_item 19 = .ok (.bipush 60, 2) := dk_16 60 (dk_at dksX4_item_0 19 rfl rfl)
theorem dX4_item_21 : decode cX4_item 21 = .ok (.iload_n 1, 1) := dk_27 (dk_at dksX4_item_0 21 rfl rfl)
theorem dX4_item_22 : decode cX4_item 22 = .ok (.imul, 1) := dk_104 (dk_at dksX4_item_0 22 rfl rfl)
theorem dX4_item_23 : decode cX4_item 23 = .ok (.iload_n 2, 1) := dk_28 (dk_at dksX4_item_0 23 rfl rfl)
theorem dX4_item_24 : decode cX4_item 24 = .ok (.iadd, 1) := dk_96 (dk_at dksX4_item_1 0 rfl rfl)
theorem dX4_item_25 : decode cX4_item 25 = .ok (.iaload, 1) := dk_46 (dk_at dksX4_item_1 1 rfl rfl)
theorem dX4_item_26 : decode cX4_item 26 = .ok (.ireturn, 1) := dk_172 (dk_at dksX4_item_1 2 rfl rfl)
abbrev cX4_copy : ByteArray := prog_32_method_101_code
def yX4_copy : MethodName := ⟨RX4, "copy", "(IIIII)I"⟩
def dkwX4_copy_8 : List UInt8 := [132, 7, 1, 167, 255, 198, 21, 5, 172]
abbrev dktX4_copy_8 : List UInt8 := dkwX4_copy_8 ++ []
def dkwX4_copy_7 : List UInt8 := [104, 21, 4, 96, 21, 8, 96, 42, 180, 0, 103, 16, 60, 27, 104, 28, 96, 21, 8, 96, 46, 79]
abbrev dktX4_copy_7 : List UInt8 := dkwX4_copy_7 ++ dktX4_copy_8
def dkwX4_copy_6 : List UInt8 := [153, 0, 13, 21, 5, 4, 100, 21, 7, 100, 167, 0, 5, 21, 7, 54, 8, 42, 180, 0, 103, 16, 60, 29]
abbrev dktX4_copy_6 : List UInt8 := dkwX4_copy_6 ++ dktX4_copy_7
def dkwX4_copy_5 : List UInt8 := [162, 0, 7, 4, 167, 0, 4, 3, 54, 6, 3, 54, 7, 21, 7, 21, 5, 162, 0, 57, 21, 6]
abbrev dktX4_copy_5 : List UInt8 := dkwX4_copy_5 ++ dktX4_copy_6
def dkwX4_copy_4 : List UInt8 := [21, 5, 100, 164, 0, 6, 16, 244, 172, 16, 60, 27, 104, 28, 96, 16, 60, 29, 104, 21, 4, 96]
abbrev dktX4_copy_4 : List UInt8 := dkwX4_copy_4 ++ dktX4_copy_5
def dkwX4_copy_3 : List UInt8 := [155, 0, 30, 28, 42, 180, 0, 100, 27, 46, 21, 5, 100, 163, 0, 17, 21, 4, 42, 180, 0, 100, 29, 46]
abbrev dktX4_copy_3 : List UInt8 := dkwX4_copy_3 ++ dktX4_copy_4
def dkwX4_copy_2 : List UInt8 := [180, 0, 97, 29, 46, 159, 0, 6, 16, 243, 172, 21, 5, 155, 0, 39, 28, 155, 0, 35, 21, 4]
abbrev dktX4_copy_2 : List UInt8 := dkwX4_copy_2 ++ dktX4_copy_3
def dkwX4_copy_1 : List UInt8 := [159, 0, 13, 42, 180, 0, 97, 29, 46, 2, 160, 0, 6, 16, 245, 172, 42, 180, 0, 97, 27, 46, 42]
abbrev dktX4_copy_1 : List UInt8 := dkwX4_copy_1 ++ dktX4_copy_2
def dkwX4_copy_0 : List UInt8 := [27, 184, 0, 253, 153, 0, 10, 29, 184, 0, 253, 154, 0, 6, 16, 254, 172, 42, 180, 0, 97, 27, 46, 2]
abbrev dktX4_copy_0 : List UInt8 := dkwX4_copy_0 ++ dktX4_copy_1
theorem dksX4_copy_0 : cX4_copy.data.toList.drop 0 = dktX4_copy_0 := by decide +kernel
theorem dksX4_copy_1 : cX4_copy.data.toList.drop 24 = dktX4_copy_1 := dk_seg dksX4_copy_0 24 rfl rfl
theorem dksX4_copy_2 : cX4_copy.data.toList.drop 47 = dktX4_copy_2 := dk_seg dksX4_copy_1 23 rfl rfl
theorem dksX4_copy_3 : cX4_copy.data.toList.drop 69 = dktX4_copy_3 := dk_seg dksX4_copy_2 22 rfl rfl
theorem dksX4_copy_4 : cX4_copy.data.toList.drop 93 = dktX4_copy_4 := dk_seg dksX4_copy_3 24 rfl rfl
theorem dksX4_copy_5 : cX4_copy.data.toList.drop 115 = dktX4_copy_5 := dk_seg dksX4_copy_4 22 rfl rfl
theorem dksX4_copy_6 : cX4_copy.data.toList.drop 137 = dktX4_copy_6 := dk_seg dksX4_copy_5 22 rfl rfl
theorem dksX4_copy_7 : cX4_copy.data.toList.drop 161 = dktX4_copy_7 := dk_seg dksX4_copy_6 24 rfl rfl
theorem dksX4_copy_8 : cX4_copy.data.toList.drop 183 = dktX4_copy_8 := dk_seg dksX4_copy_7 22 rfl rfl
theorem dX4_copy_0 : decode cX4_copy 0 = .ok (.iload_n 1, 1) := dk_27 (dk_at dksX4_copy_0 0 rfl rfl)
theorem dX4_copy_1 : decode cX4_copy 1 = .ok (.invokestatic 253, 3) := dk_184 0 253 (dk_at dksX4_copy_0 1 rfl rfl)
theorem dX4_copy_4 : decode cX4_copy 4 = .ok (.ifCond .eq 10, 3) := dk_153 0 10 (dk_at dksX4_copy_0 4 rfl rfl)
theorem dX4_copy_7 : decode cX4_copy 7 = .ok (.iload_n 3, 1) := dk_29 (dk_at dksX4_copy_0 7 rfl rfl)
theorem dX4_copy_8 : decode cX4_copy 8 = .ok (.invokestatic 253, 3) := dk_184 0 253 (dk_at dksX4_copy_0 8 rfl rfl)
theorem dX4_copy_11 : decode cX4_copy 11 = .ok (.ifCond .ne 6, 3) := dk_154 0 6 (dk_at dksX4_copy_0 11 rfl rfl)
theorem dX4_copy_14 : decode cX4_copy 14 = .ok (.bipush (-2), 2) := dk_16 254 (dk_at dksX4_copy_0 14 rfl rfl)
theorem dX4_copy_16 : decode cX4_copy 16 = .ok (.ireturn, 1) := dk_172 (dk_at dksX4_copy_0 16 rfl rfl)
theorem dX4_copy_17 : decode cX4_copy 17 = .ok (.aload_n 0, 1) := dk_42 (dk_at dksX4_copy_0 17 rfl rfl)
theorem dX4_copy_18 : decode cX4_copy 18 = .ok (.getfield 97, 3) := dk_180 0 97 (dk_at dksX4_copy_0 18 rfl rfl)
theorem dX4_copy_21 : decode cX4_copy 21 = .ok (.iload_n 1, 1) := dk_27 (dk_at dksX4_copy_0 21 rfl rfl)
theorem dX4_copy_22 : decode cX4_copy 22 = .ok (.iaload, 1) := dk_46 (dk_at dksX4_copy_0 22 rfl rfl)
theorem dX4_copy_23 : decode cX4_copy 23 = .ok (.iconst (-1), 1) := dk_2 (dk_at dksX4_copy_0 23 rfl rfl)
theorem dX4_copy_24 : decode cX4_copy 24 = .ok (.if_icmp .eq 13, 3) := dk_159 0 13 (dk_at dksX4_copy_1 0 rfl rfl)
theorem dX4_copy_27 : decode cX4_copy 27 = .ok (.aload_n 0, 1) := dk_42 (dk_at dksX4_copy_1 3 rfl rfl)
theorem dX4_copy_28 : decode cX4_copy 28 = .ok (.getfield 97, 3) := dk_180 0 97 (dk_at dksX4_copy_1 4 rfl rfl)
theorem dX4_copy_31 : decode cX4_copy 31 = .ok (.iload_n 3, 1) := dk_29 (dk_at dksX4_copy_1 7 rfl rfl)
theorem dX4_copy_32 : decode cX4_copy 32 = .ok (.iaload, 1) := dk_46 (dk_at dksX4_copy_1 8 rfl rfl)
theorem dX4_copy_33 : decode cX4_copy 33 = .ok (.iconst (-1), 1) := dk_2 (dk_at dksX4_copy_1 9 rfl rfl)
theorem dX4_copy_34 : decode cX4_copy 34 = .ok (.if_icmp .ne 6, 3) := dk_160 0 6 (dk_at dksX4_copy_1 10 rfl rfl)
theorem dX4_copy_37 : decode cX4_copy 37 = .ok (.bipush (-11), 2) := dk_16 245 (dk_at dksX4_copy_1 13 rfl rfl)
theorem dX4_copy_39 : decode cX4_copy 39 = .ok (.ireturn, 1) := dk_172 (dk_at dksX4_copy_1 15 rfl rfl)
theorem dX4_copy_40 : decode cX4_copy 40 = .ok (.aload_n 0, 1) := dk_42 (dk_at dksX4_copy_1 16 rfl rfl)
theorem dX4_copy_41 : decode cX4_copy 41 = .ok (.getfield 97, 3) := dk_180 0 97 (dk_at dksX4_copy_1 17 rfl rfl)
theorem dX4_copy_44 : decode cX4_copy 44 = .ok (.iload_n 1, 1) := dk_27 (dk_at dksX4_copy_1 20 rfl rfl)
theorem dX4_copy_45 : decode cX4_copy 45 = .ok (.iaload, 1) := dk_46 (dk_at dksX4_copy_1 21 rfl rfl)
theorem dX4_copy_46 : decode cX4_copy 46 = .ok (.aload_n 0, 1) := dk_42 (dk_at dksX4_copy_1 22 rfl rfl)
theorem dX4_copy_47 : decode cX4_copy 47 = .ok (.getfield 97, 3) := dk_180 0 97 (dk_at dksX4_copy_2 0 rfl rfl)
theorem dX4_copy_50 : decode cX4_copy 50 = .ok (.iload_n 3, 1) := dk_29 (dk_at dksX4_copy_2 3 rfl rfl)
theorem dX4_copy_51 : decode cX4_copy 51 = .ok (.iaload, 1) := dk_46 (dk_at dksX4_copy_2 4 rfl rfl)
theorem dX4_copy_52 : decode cX4_copy 52 = .ok (.if_icmp .eq 6, 3) := dk_159 0 6 (dk_at dksX4_copy_2 5 rfl rfl)
theorem dX4_copy_55 : decode cX4_copy 55 = .ok (.bipush (-13), 2) := dk_16 243 (dk_at dksX4_copy_2 8 rfl rfl)
theorem dX4_copy_57 : decode cX4_copy 57 = .ok (.ireturn, 1) := dk_172 (dk_at dksX4_copy_2 10 rfl rfl)
theorem dX4_copy_58 : decode cX4_copy 58 = .ok (.iload 5, 2) := dk_21 5 (dk_at dksX4_copy_2 11 rfl rfl)
theorem dX4_copy_60 : decode cX4_copy 60 = .ok (.ifCond .lt 39, 3) := dk_155 0 39 (dk_at dksX4_copy_2 13 rfl rfl)
theorem dX4_copy_63 : decode cX4_copy 63 = .ok (.iload_n 2, 1) := dk_28 (dk_at dksX4_copy_2 16 rfl rfl)
theorem dX4_copy_64 : decode cX4_copy 64 = .ok (.ifCond .lt 35, 3) := dk_155 0 35 (dk_at dksX4_copy_2 17 rfl rfl)
theorem dX4_copy_67 : decode cX4_copy 67 = .ok (.iload 4, 2) := dk_21 4 (dk_at dksX4_copy_2 20 rfl rfl)
theorem dX4_copy_69 : decode cX4_copy 69 = .ok (.ifCond .lt 30, 3) := dk_155 0 30 (dk_at dksX4_copy_3 0 rfl rfl)
theorem dX4_copy_72 : decode cX4_copy 72 = .ok (.iload_n 2, 1) := dk_28 (dk_at dksX4_copy_3 3 rfl rfl)
theorem dX4_copy_73 : decode cX4_copy 73 = .ok (.aload_n 0, 1) := dk_42 (dk_at dksX4_copy_3 4 rfl rfl)
theorem dX4_copy_74 : decode cX4_copy 74 = .ok (.getfield 100, 3) := dk_180 0 100 (dk_at dksX4_copy_3 5 rfl rfl)
theorem dX4_copy_77 : decode cX4_copy 77 = .ok (.iload_n 1, 1) := dk_27 (dk_at dksX4_copy_3 8 rfl rfl)
theorem dX4_copy_78 : decode cX4_copy 78 = .ok (.iaload, 1) := dk_46 (dk_at dksX4_copy_3 9 rfl rfl)
theorem dX4_copy_79 : decode cX4_copy 79 = .ok (.iload 5, 2) := dk_21 5 (dk_at dksX4_copy_3 10 rfl rfl)
theorem dX4_copy_81 : decode cX4_copy 81 = .ok (.isub, 1) := dk_100 (dk_at dksX4_copy_3 12 rfl rfl)
theorem dX4_copy_82 : decode cX4_copy 82 = .ok (.if_icmp .gt 17, 3) := dk_163 0 17 (dk_at dksX4_copy_3 13 rfl rfl)
theorem dX4_copy_85 : decode cX4_copy 85 = .ok (.iload 4, 2) := dk_21 4 (dk_at dksX4_copy_3 16 rfl rfl)
theorem dX4_copy_87 : decode cX4_copy 87 = .ok (.aload_n 0, 1) := dk_42 (dk_at dksX4_copy_3 18 rfl rfl)
theorem dX4_copy_88 : decode cX4_copy 88 = .ok (.getfield 100, 3) := dk_180 0 100 (dk_at dksX4_copy_3 19 rfl rfl)
theorem dX4_copy_91 : decode cX4_copy 91 = .ok (.iload_n 3, 1) := dk_29 (dk_at dksX4_copy_3 22 rfl rfl)
theorem dX4_copy_92 : decode cX4_copy 92 = .ok (.iaload, 1) := dk_46 (dk_at dksX4_copy_3 23 rfl rfl)
theorem dX4_copy_93 : decode cX4_copy 93 = .ok (.iload 5, 2) := dk_21 5 (dk_at dksX4_copy_4 0 rfl rfl)
theorem dX4_copy_95 : decode cX4_copy 95 = .ok (.isub, 1) := dk_100 (dk_at dksX4_copy_4 2 rfl rfl)
theorem dX4_copy_96 : decode cX4_copy 96 = .ok (.if_icmp .le 6, 3) := dk_164 0 6 (dk_at dksX4_copy_4 3 rfl rfl)
theorem dX4_copy_99 : decode cX4_copy 99 = .ok (.bipush (-12), 2) := dk_16 244 (dk_at dksX4_copy_4 6 rfl rfl)
theorem dX4_copy_101 : decode cX4_copy 101 = .ok (.ireturn, 1) := dk_172 (dk_at dksX4_copy_4 8 rfl rfl)
theorem dX4_copy_102 : decode cX4_copy 102 = .ok (.bipush 60, 2) := dk_16 60 (dk_at dksX4_copy_4 9 rfl rfl)
theorem dX4_copy_104 : decode cX4_copy 104 = .ok (.iload_n 1, 1) := dk_27 (dk_at dksX4_copy_4 11 rfl rfl)
theorem dX4_copy_105 : decode cX4_copy 105 = .ok (.imul, 1) := dk_104 (dk_at dksX4_copy_4 12 rfl rfl)
theorem dX4_copy_106 : decode cX4_copy 106 = .ok (.iload_n 2, 1) := dk_28 (dk_at dksX4_copy_4 13 rfl rfl)
theorem dX4_copy_107 : decode cX4_copy 107 = .ok (.iadd, 1) := dk_96 (dk_at dksX4_copy_4 14 rfl rfl)
theorem dX4_copy_108 : decode cX4_copy 108 = .ok (.bipush 60, 2) := dk_16 60 (dk_at dksX4_copy_4 15 rfl rfl)
theorem dX4_copy_110 : decode cX4_copy 110 = .ok (.iload_n 3, 1) := dk_29 (dk_at dksX4_copy_4 17 rfl rfl)
theorem dX4_copy_111 : decode cX4_copy 111 = .ok (.imul, 1) := dk_104 (dk_at dksX4_copy_4 18 rfl rfl)
theorem dX4_copy_112 : decode cX4_copy 112 = .ok (.iload 4, 2) := dk_21 4 (dk_at dksX4_copy_4 19 rfl rfl)
theorem dX4_copy_114 : decode cX4_copy 114 = .ok (.iadd, 1) := dk_96 (dk_at dksX4_copy_4 21 rfl rfl)
theorem dX4_copy_115 : decode cX4_copy 115 = .ok (.if_icmp .ge 7, 3) := dk_162 0 7 (dk_at dksX4_copy_5 0 rfl rfl)
theorem dX4_copy_118 : decode cX4_copy 118 = .ok (.iconst 1, 1) := dk_4 (dk_at dksX4_copy_5 3 rfl rfl)
theorem dX4_copy_119 : decode cX4_copy 119 = .ok (.goto 4, 3) := dk_167 0 4 (dk_at dksX4_copy_5 4 rfl rfl)
theorem dX4_copy_122 : decode cX4_copy 122 = .ok (.iconst 0, 1) := dk_3 (dk_at dksX4_copy_5 7 rfl rfl)
theorem dX4_copy_123 : decode cX4_copy 123 = .ok (.istore 6, 2) := dk_54 6 (dk_at dksX4_copy_5 8 rfl rfl)
theorem dX4_copy_125 : decode cX4_copy 125 = .ok (.iconst 0, 1) := dk_3 (dk_at dksX4_copy_5 10 rfl rfl)
theorem dX4_copy_126 : decode cX4_copy 126 = .ok (.istore 7, 2) := dk_54 7 (dk_at dksX4_copy_5 11 rfl rfl)
theorem dX4_copy_128 : decode cX4_copy 128 = .ok (.iload 7, 2) := dk_21 7 (dk_at dksX4_copy_5 13 rfl rfl)
theorem dX4_copy_130 : decode cX4_copy 130 = .ok (.iload 5, 2) := dk_21 5 (dk_at dksX4_copy_5 15 rfl rfl)
theorem dX4_copy_132 : decode cX4_copy 132 = .ok (.if_icmp .ge 57, 3) := dk_162 0 57 (dk_at dksX4_copy_5 17 rfl rfl)
theorem dX4_copy_135 : decode cX4_copy 135 = .ok (.iload 6, 2) := dk_21 6 (dk_at dksX4_copy_5 20 rfl rfl)
theorem dX4_copy_137 : decode cX4_copy 137 = .ok (.ifCond .eq 13, 3) := dk_153 0 13 (dk_at dksX4_copy_6 0 rfl rfl)
theorem dX4_copy_140 : decode cX4_copy 140 = .ok (.iload 5, 2) := dk_21 5 (dk_at dksX4_copy_6 3 rfl rfl)
theorem dX4_copy_142 : decode cX4_copy 142 = .ok (.iconst 1, 1) := dk_4 (dk_at dksX4_copy_6 5 rfl rfl)
theorem dX4_copy_143 : decode cX4_copy 143 = .ok (.isub, 1) := dk_100 (dk_at dksX4_copy_6 6 rfl rfl)
theorem dX4_copy_144 : decode cX4_copy 144 = .ok (.iload 7, 2) := dk_21 7 (dk_at dksX4_copy_6 7 rfl rfl)
theorem dX4_copy_146 : decode cX4_copy 146 = .ok (.isub, 1) := dk_100 (dk_at dksX4_copy_6 9 rfl rfl)
theorem dX4_copy_147 : decode cX4_copy 147 = .ok (.goto 5, 3) := dk_167 0 5 (dk_at dksX4_copy_6 10 rfl rfl)
theorem dX4_copy_150 : decode cX4_copy 150 = .ok (.iload 7, 2) := dk_21 7 (dk_at dksX4_copy_6 13 rfl rfl)
theorem dX4_copy_152 : decode cX4_copy 152 = .ok (.istore 8, 2) := dk_54 8 (dk_at dksX4_copy_6 15 rfl rfl)
theorem dX4_copy_154 : decode cX4_copy 154 = .ok (.aload_n 0, 1) := dk_42 (dk_at dksX4_copy_6 17 rfl rfl)
theorem dX4_copy_155 : decode cX4_copy 155 = .ok (.getfield 103, 3) := dk_180 0 103 (dk_at dksX4_copy_6 18 rfl rfl)
theorem dX4_copy_158 : decode cX4_copy 158 = .ok (.bipush 60, 2) := dk_16 60 (dk_at dksX4_copy_6 21 rfl rfl)
theorem dX4_copy_160 : decode cX4_copy 160 = .ok (.iload_n 3, 1) := dk_29 (dk_at dksX4_copy_6 23 rfl rfl)
theorem dX4_copy_161 : decode cX4_copy 161 = .ok (.imul, 1) := dk_104 (dk_at dksX4_copy_7 0 rfl rfl)
theorem dX4_copy_162 : decode cX4_copy 162 = .ok (.iload 4, 2) := dk_21 4 (dk_at dksX4_copy_7 1 rfl rfl)
theorem dX4_copy_164 : decode cX4_copy 164 = .ok (.iadd, 1) := dk_96 (dk_at dksX4_copy_7 3 rfl rfl)
theorem dX4_copy_165 : decode cX4_copy 165 = .ok (.iload 8, 2) := dk_21 8 (dk_at dksX4_copy_7 4 rfl rfl)
theorem dX4_copy_167 : decode cX4_copy 167 = .ok (.iadd, 1) := dk_96 (dk_at dksX4_copy_7 6 rfl rfl)
theorem dX4_copy_168 : decode cX4_copy 168 = .ok (.aload_n 0, 1) := dk_42 (dk_at dksX4_copy_7 7 rfl rfl)
theorem dX4_copy_169 : decode cX4_copy 169 = .ok (.getfield 103, 3) := dk_180 0 103 (dk_at dksX4_copy_7 8 rfl rfl)
theorem dX4_copy_172 : decode cX4_copy 172 = .ok (.bipush 60, 2) := dk_16 60 (dk_at dksX4_copy_7 11 rfl rfl)
theorem dX4_copy_174 : decode cX4_copy 174 = .ok (.iload_n 1, 1) := dk_27 (dk_at dksX4_copy_7 13 rfl rfl)
theorem dX4_copy_175 : decode cX4_copy 175 = .ok (.imul, 1) := dk_104 (dk_at dksX4_copy_7 14 rfl rfl)
theorem dX4_copy_176 : decode cX4_copy 176 = .ok (.iload_n 2, 1) := dk_28 (dk_at dksX4_copy_7 15 rfl rfl)
theorem dX4_copy_177 : decode cX4_copy 177 = .ok (.iadd, 1) := dk_96 (dk_at dksX4_copy_7 16 rfl rfl)
theorem dX4_copy_178 : decode cX4_copy 178 = .ok (.iload 8, 2) := dk_21 8 (dk_at dksX4_copy_7 17 rfl rfl)
theorem dX4_copy_180 : decode cX4_copy 180 = .ok (.iadd, 1) := dk_96 (dk_at dksX4_copy_7 19 rfl rfl)
theorem dX4_copy_181 : decode cX4_copy 181 = .ok (.iaload, 1) := dk_46 (dk_at dksX4_copy_7 20 rfl rfl)
theorem dX4_copy_182 : decode cX4_copy 182 = .ok (.iastore, 1) := dk_79 (dk_at dksX4_copy_7 21 rfl rfl)
theorem dX4_copy_183 : decode cX4_copy 183 = .ok (.iinc 7 1, 3) := dk_132 7 1 (dk_at dksX4_copy_8 0 rfl rfl)
theorem dX4_copy_186 : decode cX4_copy 186 = .ok (.goto (-58), 3) := dk_167 255 198 (dk_at dksX4_copy_8 3 rfl rfl)
theorem dX4_copy_189 : decode cX4_copy 189 = .ok (.iload 5, 2) := dk_21 5 (dk_at dksX4_copy_8 6 rfl rfl)
theorem dX4_copy_191 : decode cX4_copy 191 = .ok (.ireturn, 1) := dk_172 (dk_at dksX4_copy_8 8 rfl rfl)
abbrev cX4_load : ByteArray := prog_32_method_102_code
def yX4_load : MethodName := ⟨RX4, "load", "(I)I"⟩
def dkwX4_load_3 : List UInt8 := [180, 0, 103, 16, 60, 27, 104, 28, 96, 46, 79, 132, 2, 1, 167, 255, 198, 28, 172]
abbrev dktX4_load_3 : List UInt8 := dkwX4_load_3 ++ []
def dkwX4_load_2 : List UInt8 := [16, 60, 27, 104, 28, 96, 46, 4, 16, 9, 184, 0, 125, 153, 0, 26, 42, 180, 0, 17, 28, 42]
abbrev dktX4_load_2 : List UInt8 := dkwX4_load_2 ++ dktX4_load_3
def dkwX4_load_1 : List UInt8 := [61, 28, 42, 180, 0, 100, 27, 46, 162, 0, 54, 28, 42, 180, 0, 122, 162, 0, 46, 42, 180, 0, 103]
abbrev dktX4_load_1 : List UInt8 := dkwX4_load_1 ++ dktX4_load_2
def dkwX4_load_0 : List UInt8 := [27, 184, 0, 253, 154, 0, 6, 16, 254, 172, 42, 180, 0, 97, 27, 46, 2, 160, 0, 6, 16, 245, 172, 3]
abbrev dktX4_load_0 : List UInt8 := dkwX4_load_0 ++ dktX4_load_1
theorem dksX4_load_0 : cX4_load.data.toList.drop 0 = dktX4_load_0 := by decide +kernel
theorem dksX4_load_1 : cX4_load.data.toList.drop 24 = dktX4_load_1 := dk_seg dksX4_load_0 24 rfl rfl
theorem dksX4_load_2 : cX4_load.data.toList.drop 47 = dktX4_load_2 := dk_seg dksX4_load_1 23 rfl rfl
theorem dksX4_load_3 : cX4_load.data.toList.drop 69 = dktX4_load_3 := dk_seg dksX4_load_2 22 rfl rfl
theorem dX4_load_0 : decode cX4_load 0 = .ok (.iload_n 1, 1) := dk_27 (dk_at dksX4_load_0 0 rfl rfl)
theorem dX4_load_1 : decode cX4_load 1 = .ok (.invokestatic 253, 3) := dk_184 0 253 (dk_at dksX4_load_0 1 rfl rfl)
theorem dX4_load_4 : decode cX4_load 4 = .ok (.ifCond .ne 6, 3) := dk_154 0 6 (dk_at dksX4_load_0 4 rfl rfl)
theorem dX4_load_7 : decode cX4_load 7 = .ok (.bipush (-2), 2) := dk_16 254 (dk_at dksX4_load_0 7 rfl rfl)
theorem dX4_load_9 : decode cX4_load 9 = .ok (.ireturn, 1) := dk_172 (dk_at dksX4_load_0 9 rfl rfl)
theorem dX4_load_10 : decode cX4_load 10 = .ok (.aload_n 0, 1) := dk_42 (dk_at dksX4_load_0 10 rfl rfl)
theorem dX4_load_11 : decode cX4_load 11 = .ok (.getfield 97, 3) := dk_180 0 97 (dk_at dksX4_load_0 11 rfl rfl)
theorem dX4_load_14 : decode cX4_load 14 = .ok (.iload_n 1, 1) := dk_27 (dk_at dksX4_load_0 14 rfl rfl)
theorem dX4_load_15 : decode cX4_load 15 = .ok (.iaload, 1) := dk_46 (dk_at dksX4_load_0 15 rfl rfl)
theorem dX4_load_16 : decode cX4_load 16 = .ok (.iconst (-1), 1) := dk_2 (dk_at dksX4_load_0 16 rfl rfl)
theorem dX4_load_17 : decode cX4_load 17 = .ok (.if_icmp .ne 6, 3) := dk_160 0 6 (dk_at dksX4_load_0 17 rfl rfl)
theorem dX4_load_20 : decode cX4_load 20 = .ok (.bipush (-11), 2) := dk_16 245 (dk_at dksX4_load_0 20 rfl rfl)
theorem dX4_load_22 : decode cX4_load 22 = .ok (.ireturn, 1) := dk_172 (dk_at dksX4_load_0 22 rfl rfl)
theorem dX4_load_23 : decode cX4_load 23 = .ok (.iconst 0, 1) := dk_3 (dk_at dksX4_load_0 23 rfl rfl)
theorem dX4_load_24 : decode cX4_load 24 = .ok (.istore_n 2, 1) := dk_61 (dk_at dksX4_load_1 0 rfl rfl)
theorem dX4_load_25 : decode cX4_load 25 = .ok (.iload_n 2, 1) := dk_28 (dk_at dksX4_load_1 1 rfl rfl)
theorem dX4_load_26 : decode cX4_load 26 = .ok (.aload_n 0, 1) := dk_42 (dk_at dksX4_load_1 2 rfl rfl)
theorem dX4_load_27 : decode cX4_load 27 = .ok (.getfield 100, 3) := dk_180 0 100 (dk_at dksX4_load_1 3 rfl rfl)
theorem dX4_load_30 : decode cX4_load 30 = .ok (.iload_n 1, 1) := dk_27 (dk_at dksX4_load_1 6 rfl rfl)
theorem dX4_load_31 : decode cX4_load 31 = .ok (.iaload, 1) := dk_46 (dk_at dksX4_load_1 7 rfl rfl)
theorem dX4_load_32 : decode cX4_load 32 = .ok (.if_icmp .ge 54, 3) := dk_162 0 54 (dk_at dksX4_load_1 8 rfl rfl)
theorem dX4_load_35 : decode cX4_load 35 = .ok (.iload_n 2, 1) := dk_28 (dk_at dksX4_load_1 11 rfl rfl)
theorem dX4_load_36 : decode cX4_load 36 = .ok (.aload_n 0, 1) := dk_42 (dk_at dksX4_load_1 12 rfl rfl)
theorem dX4_load_37 : decode cX4_load 37 = .ok (.getfield 122, 3) := dk_180 0 122 (dk_at dksX4_load_1 13 rfl rfl)
theorem dX4_load_40 : decode cX4_load 40 = .ok (.if_icmp .ge 46, 3) := dk_162 0 46 (dk_at dksX4_load_1 16 rfl rfl)
theorem dX4_load_43 : decode cX4_load 43 = .ok (.aload_n 0, 1) := dk_42 (dk_at dksX4_load_1 19 rfl rfl)
theorem dX4_load_44 : decode cX4_load 44 = .ok (.getfield 103, 3) := dk_180 0 103 (dk_at dksX4_load_1 20 rfl rfl)
theorem dX4_load_47 : decode cX4_load 47 = .ok (.bipush 60, 2) := dk_16 60 (dk_at dksX4_load_2 0 rfl rfl)
theorem dX4_load_49 : decode cX4_load 49 = .ok (.iload_n 1, 1) := dk_27 (dk_at dksX4_load_2 2 rfl rfl)
theorem dX4_load_50 : decode cX4_load 50 = .ok (.imul, 1) := dk_104 (dk_at dksX4_load_2 3 rfl rfl)
theorem dX4_load_51 : decode cX4_load 51 = .ok (.iload_n 2, 1) := dk_28 (dk_at dksX4_load_2 4 rfl rfl)
theorem dX4_load_52 : decode cX4_load 52 = .ok (.iadd, 1) := dk_96 (dk_at dksX4_load_2 5 rfl rfl)
theorem dX4_load_53 : decode cX4_load 53 = .ok (.iaload, 1) := dk_46 (dk_at dksX4_load_2 6 rfl rfl)
theorem dX4_load_54 : decode cX4_load 54 = .ok (.iconst 1, 1) := dk_4 (dk_at dksX4_load_2 7 rfl rfl)
theorem dX4_load_55 : decode cX4_load 55 = .ok (.bipush 9, 2) := dk_16 9 (dk_at dksX4_load_2 8 rfl rfl)
theorem dX4_load_57 : decode cX4_load 57 = .ok (.invokestatic 125, 3) := dk_184 0 125 (dk_at dksX4_load_2 10 rfl rfl)
theorem dX4_load_60 : decode cX4_load 60 = .ok (.ifCond .eq 26, 3) := dk_153 0 26 (dk_at dksX4_load_2 13 rfl rfl)
theorem dX4_load_63 : decode cX4_load 63 = .ok (.aload_n 0, 1) := dk_42 (dk_at dksX4_load_2 16 rfl rfl)
theorem dX4_load_64 : decode cX4_load 64 = .ok (.getfield 17, 3) := dk_180 0 17 (dk_at dksX4_load_2 17 rfl rfl)
theorem dX4_load_67 : decode cX4_load 67 = .ok (.iload_n 2, 1) := dk_28 (dk_at dksX4_load_2 20 rfl rfl)
theorem dX4_load_68 : decode cX4_load 68 = .ok (.aload_n 0, 1) := dk_42 (dk_at dksX4_load_2 21 rfl rfl)
theorem dX4_load_69 : decode cX4_load 69 = .ok (.getfield 103, 3) := dk_180 0 103 (dk_at dksX4_load_3 0 rfl rfl)
theorem dX4_load_72 : decode cX4_load 72 = .ok (.bipush 60, 2) := dk_16 60 (dk_at dksX4_load_3 3 rfl rfl)
theorem dX4_load_74 : decode cX4_load 74 = .ok (.iload_n 1, 1) := dk_27 (dk_at dksX4_load_3 5 rfl rfl)
theorem dX4_load_75 : decode cX4_load 75 = .ok (.imul, 1) := dk_104 (dk_at dksX4_load_3 6 rfl rfl)
theorem dX4_load_76 : decode cX4_load 76 = .ok (.iload_n 2, 1) := dk_28 (dk_at dksX4_load_3 7 rfl rfl)
theorem dX4_load_77 : decode cX4_load 77 = .ok (.iadd, 1) := dk_96 (dk_at dksX4_load_3 8 rfl rfl)
theorem dX4_load_78 : decode cX4_load 78 = .ok (.iaload, 1) := dk_46 (dk_at dksX4_load_3 9 rfl rfl)
theorem dX4_load_79 : decode cX4_load 79 = .ok (.iastore, 1) := dk_79 (dk_at dksX4_load_3 10 rfl rfl)
theorem dX4_load_80 : decode cX4_load 80 = .ok (.iinc 2 1, 3) := dk_132 2 1 (dk_at dksX4_load_3 11 rfl rfl)
theorem dX4_load_83 : decode cX4_load 83 = .ok (.goto (-58), 3) := dk_167 255 198 (dk_at dksX4_load_3 14 rfl rfl)
theorem dX4_load_86 : decode cX4_load 86 = .ok (.iload_n 2, 1) := dk_28 (dk_at dksX4_load_3 17 rfl rfl)
theorem dX4_load_87 : decode cX4_load 87 = .ok (.ireturn, 1) := dk_172 (dk_at dksX4_load_3 18 rfl rfl)
abbrev cX4_judge : ByteArray := prog_32_method_103_code
def yX4_judge : MethodName := ⟨RX4, "judge", "(I)I"⟩
def dkwX4_judge_7 : List UInt8 := [172]
abbrev dktX4_judge_7 : List UInt8 := dkwX4_judge_7 ++ []
def dkwX4_judge_6 : List UInt8 := [180, 0, 122, 160, 0, 19, 28, 42, 42, 182, 0, 129, 182, 0, 203, 160, 0, 7, 3, 167, 0, 5, 16, 100]
abbrev dktX4_judge_6 : List UInt8 := dkwX4_judge_6 ++ dktX4_judge_7
def dkwX4_judge_5 : List UInt8 := [132, 5, 1, 167, 255, 210, 28, 21, 4, 96, 61, 132, 3, 1, 167, 255, 151, 42, 180, 0, 100, 27, 46, 42]
abbrev dktX4_judge_5 : List UInt8 := dkwX4_judge_5 ++ dktX4_judge_6
def dkwX4_judge_4 : List UInt8 := [180, 0, 103, 16, 60, 27, 104, 21, 5, 96, 46, 21, 4, 96, 5, 162, 0, 7, 4, 29, 96, 172]
abbrev dktX4_judge_4 : List UInt8 := dkwX4_judge_4 ++ dktX4_judge_5
def dkwX4_judge_3 : List UInt8 := [3, 54, 5, 21, 5, 29, 162, 0, 46, 42, 180, 0, 20, 29, 46, 21, 5, 184, 0, 118, 153, 0, 26, 42]
abbrev dktX4_judge_3 : List UInt8 := dkwX4_judge_3 ++ dktX4_judge_4
def dkwX4_judge_2 : List UInt8 := [54, 4, 42, 29, 182, 0, 145, 153, 0, 13, 21, 4, 3, 5, 184, 0, 125, 154, 0, 7, 4, 29, 96, 172]
abbrev dktX4_judge_2 : List UInt8 := dkwX4_judge_2 ++ dktX4_judge_3
def dkwX4_judge_1 : List UInt8 := [61, 3, 62, 29, 42, 180, 0, 100, 27, 46, 162, 0, 101, 42, 180, 0, 103, 16, 60, 27, 104, 29, 96, 46]
abbrev dktX4_judge_1 : List UInt8 := dkwX4_judge_1 ++ dktX4_judge_2
def dkwX4_judge_0 : List UInt8 := [27, 184, 0, 253, 154, 0, 6, 16, 254, 172, 42, 180, 0, 97, 27, 46, 2, 160, 0, 6, 16, 245, 172, 3]
abbrev dktX4_judge_0 : List UInt8 := dkwX4_judge_0 ++ dktX4_judge_1
theorem dksX4_judge_0 : cX4_judge.data.toList.drop 0 = dktX4_judge_0 := by decide +kernel
theorem dksX4_judge_1 : cX4_judge.data.toList.drop 24 = dktX4_judge_1 := dk_seg dksX4_judge_0 24 rfl rfl
theorem dksX4_judge_2 : cX4_judge.data.toList.drop 48 = dktX4_judge_2 := dk_seg dksX4_judge_1 24 rfl rfl
theorem dksX4_judge_3 : cX4_judge.data.toList.drop 72 = dktX4_judge_3 := dk_seg dksX4_judge_2 24 rfl rfl
theorem dksX4_judge_4 : cX4_judge.data.toList.drop 96 = dktX4_judge_4 := dk_seg dksX4_judge_3 24 rfl rfl
theorem dksX4_judge_5 : cX4_judge.data.toList.drop 118 = dktX4_judge_5 := dk_seg dksX4_judge_4 22 rfl rfl
theorem dksX4_judge_6 : cX4_judge.data.toList.drop 142 = dktX4_judge_6 := dk_seg dksX4_judge_5 24 rfl rfl
theorem dksX4_judge_7 : cX4_judge.data.toList.drop 166 = dktX4_judge_7 := dk_seg dksX4_judge_6 24 rfl rfl
theorem dX4_judge_0 : decode cX4_judge 0 = .ok (.iload_n 1, 1) := dk_27 (dk_at dksX4_judge_0 0 rfl rfl)
theorem dX4_judge_1 : decode cX4_judge 1 = .ok (.invokestatic 253, 3) := dk_184 0 253 (dk_at dksX4_judge_0 1 rfl rfl)
theorem dX4_judge_4 : decode cX4_judge 4 = .ok (.ifCond .ne 6, 3) := dk_154 0 6 (dk_at dksX4_judge_0 4 rfl rfl)
theorem dX4_judge_7 : decode cX4_judge 7 = .ok (.bipush (-2), 2) := dk_16 254 (dk_at dksX4_judge_0 7 rfl rfl)
theorem dX4_judge_9 : decode cX4_judge 9 = .ok (.ireturn, 1) := dk_172 (dk_at dksX4_judge_0 9 rfl rfl)
theorem dX4_judge_10 : decode cX4_judge 10 = .ok (.aload_n 0, 1) := dk_42 (dk_at dksX4_judge_0 10 rfl rfl)
theorem dX4_judge_11 : decode cX4_judge 11 = .ok (.getfield 97, 3) := dk_180 0 97 (dk_at dksX4_judge_0 11 rfl rfl)
theorem dX4_judge_14 : decode cX4_judge 14 = .ok (.iload_n 1, 1) := dk_27 (dk_at dksX4_judge_0 14 rfl rfl)
theorem dX4_judge_15 : decode cX4_judge 15 = .ok (.iaload, 1) := dk_46 (dk_at dksX4_judge_0 15 rfl rfl)
theorem dX4_judge_16 : decode cX4_judge 16 = .ok (.iconst (-1), 1) := dk_2 (dk_at dksX4_judge_0 16 rfl rfl)
theorem dX4_judge_17 : decode cX4_judge 17 = .ok (.if_icmp .ne 6, 3) := dk_160 0 6 (dk_at dksX4_judge_0 17 rfl rfl)
theorem dX4_judge_20 : decode cX4_judge 20 = .ok (.bipush (-11), 2) := dk_16 245 (dk_at dksX4_judge_0 20 rfl rfl)
theorem dX4_judge_22 : decode cX4_judge 22 = .ok (.ireturn, 1) := dk_172 (dk_at dksX4_judge_0 22 rfl rfl)
theorem dX4_judge_23 : decode cX4_judge 23 = .ok (.iconst 0, 1) := dk_3 (dk_at dksX4_judge_0 23 rfl rfl)
theorem dX4_judge_24 : decode cX4_judge 24 = .ok (.istore_n 2, 1) := dk_61 (dk_at dksX4_judge_1 0 rfl rfl)
theorem dX4_judge_25 : decode cX4_judge 25 = .ok (.iconst 0, 1) := dk_3 (dk_at dksX4_judge_1 1 rfl rfl)
theorem dX4_judge_26 : decode cX4_judge 26 = .ok (.istore_n 3, 1) := dk_62 (dk_at dksX4_judge_1 2 rfl rfl)
theorem dX4_judge_27 : decode cX4_judge 27 = .ok (.iload_n 3, 1) := dk_29 (dk_at dksX4_judge_1 3 rfl rfl)
theorem dX4_judge_28 : decode cX4_judge 28 = .ok (.aload_n 0, 1) := dk_42 (dk_at dksX4_judge_1 4 rfl rfl)
theorem dX4_judge_29 : decode cX4_judge 29 = .ok (.getfield 100, 3) := dk_180 0 100 (dk_at dksX4_judge_1 5 rfl rfl)
theorem dX4_judge_32 : decode cX4_judge 32 = .ok (.iload_n 1, 1) := dk_27 (dk_at dksX4_judge_1 8 rfl rfl)
theorem dX4_judge_33 : decode cX4_judge 33 = .ok (.iaload, 1) := dk_46 (dk_at dksX4_judge_1 9 rfl rfl)
theorem dX4_judge_34 : decode cX4_judge 34 = .ok (.if_icmp .ge 101, 3) := dk_162 0 101 (dk_at dksX4_judge_1 10 rfl rfl)
theorem dX4_judge_37 : decode cX4_judge 37 = .ok (.aload_n 0, 1) := dk_42 (dk_at dksX4_judge_1 13 rfl rfl)
theorem dX4_judge_38 : decode cX4_judge 38 = .ok (.getfield 103, 3) := dk_180 0 103 (dk_at dksX4_judge_1 14 rfl rfl)
theorem dX4_judge_41 : decode cX4_judge 41 = .ok (.bipush 60, 2) := dk_16 60 (dk_at dksX4_judge_1 17 rfl rfl)
theorem dX4_judge_43 : decode cX4_judge 43 = .ok (.iload_n 1, 1) := dk_27 (dk_at dksX4_judge_1 19 rfl rfl)
theorem dX4_judge_44 : decode cX4_judge 44 = .ok (.imul, 1) := dk_104 (dk_at dksX4_judge_1 20 rfl rfl)
theorem dX4_judge_45 : decode cX4_judge 45 = .ok (.iload_n 3, 1) := dk_29 (dk_at dksX4_judge_1 21 rfl rfl)
theorem dX4_judge_46 : decode cX4_judge 46 = .ok (.iadd, 1) := dk_96 (dk_at dksX4_judge_1 22 rfl rfl)
theorem dX4_judge_47 : decode cX4_judge 47 = .ok (.iaload, 1) := dk_46 (dk_at dksX4_judge_1 23 rfl rfl)
theorem dX4_judge_48 : decode cX4_judge 48 = .ok (.istore 4, 2) := dk_54 4 (dk_at dksX4_judge_2 0 rfl rfl)
theorem dX4_judge_50 : decode cX4_judge 50 = .ok (.aload_n 0, 1) := dk_42 (dk_at dksX4_judge_2 2 rfl rfl)
theorem dX4_judge_51 : decode cX4_judge 51 = .ok (.iload_n 3, 1) := dk_29 (dk_at dksX4_judge_2 3 rfl rfl)
theorem dX4_judge_52 : decode cX4_judge 52 = .ok (.invokevirtual 145, 3) := dk_182 0 145 (dk_at dksX4_judge_2 4 rfl rfl)
theorem dX4_judge_55 : decode cX4_judge 55 = .ok (.ifCond .eq 13, 3) := dk_153 0 13 (dk_at dksX4_judge_2 7 rfl rfl)
theorem dX4_judge_58 : decode cX4_judge 58 = .ok (.iload 4, 2) := dk_21 4 (dk_at dksX4_judge_2 10 rfl rfl)
theorem dX4_judge_60 : decode cX4_judge 60 = .ok (.iconst 0, 1) := dk_3 (dk_at dksX4_judge_2 12 rfl rfl)
theorem dX4_judge_61 : decode cX4_judge 61 = .ok (.iconst 2, 1) := dk_5 (dk_at dksX4_judge_2 13 rfl rfl)
theorem dX4_judge_62 : decode cX4_judge 62 = .ok (.invokestatic 125, 3) := dk_184 0 125 (dk_at dksX4_judge_2 14 rfl rfl)
theorem dX4_judge_65 : decode cX4_judge 65 = .ok (.ifCond .ne 7, 3) := dk_154 0 7 (dk_at dksX4_judge_2 17 rfl rfl)
theorem dX4_judge_68 : decode cX4_judge 68 = .ok (.iconst 1, 1) := dk_4 (dk_at dksX4_judge_2 20 rfl rfl)
theorem dX4_judge_69 : decode cX4_judge 69 = .ok (.iload_n 3, 1) := dk_29 (dk_at dksX4_judge_2 21 rfl rfl)
theorem dX4_judge_70 : decode cX4_judge 70 = .ok (.iadd, 1) := dk_96 (dk_at dksX4_judge_2 22 rfl rfl)
theorem dX4_judge_71 : decode cX4_judge 71 = .ok (.ireturn, 1) := dk_172 (dk_at dksX4_judge_2 23 rfl rfl)
theorem dX4_judge_72 : decode cX4_judge 72 = .ok (.iconst 0, 1) := dk_3 (dk_at dksX4_judge_3 0 rfl rfl)
theorem dX4_judge_73 : decode cX4_judge 73 = .ok (.istore 5, 2) := dk_54 5 (dk_at dksX4_judge_3 1 rfl rfl)
theorem dX4_judge_75 : decode cX4_judge 75 = .ok (.iload 5, 2) := dk_21 5 (dk_at dksX4_judge_3 3 rfl rfl)
theorem dX4_judge_77 : decode cX4_judge 77 = .ok (.iload_n 3, 1) := dk_29 (dk_at dksX4_judge_3 5 rfl rfl)
theorem dX4_judge_78 : decode cX4_judge 78 = .ok (.if_icmp .ge 46, 3) := dk_162 0 46 (dk_at dksX4_judge_3 6 rfl rfl)
theorem dX4_judge_81 : decode cX4_judge 81 = .ok (.aload_n 0, 1) := dk_42 (dk_at dksX4_judge_3 9 rfl rfl)
theorem dX4_judge_82 : decode cX4_judge 82 = .ok (.getfield 20, 3) := dk_180 0 20 (dk_at dksX4_judge_3 10 rfl rfl)
theorem dX4_judge_85 : decode cX4_judge 85 = .ok (.iload_n 3, 1) := dk_29 (dk_at dksX4_judge_3 13 rfl rfl)
theorem dX4_judge_86 : decode cX4_judge 86 = .ok (.iaload, 1) := dk_46 (dk_at dksX4_judge_3 14 rfl rfl)
theorem dX4_judge_87 : decode cX4_judge 87 = .ok (.iload 5, 2) := dk_21 5 (dk_at dksX4_judge_3 15 rfl rfl)
theorem dX4_judge_89 : decode cX4_judge 89 = .ok (.invokestatic 118, 3) := dk_184 0 118 (dk_at dksX4_judge_3 17 rfl rfl)
theorem dX4_judge_92 : decode cX4_judge 92 = .ok (.ifCond .eq 26, 3) := dk_153 0 26 (dk_at dksX4_judge_3 20 rfl rfl)
theorem dX4_judge_95 : decode cX4_judge 95 = .ok (.aload_n 0, 1) := dk_42 (dk_at dksX4_judge_3 23 rfl rfl)
theorem dX4_judge_96 : decode cX4_judge 96 = .ok (.getfield 103, 3) := dk_180 0 103 (dk_at dksX4_judge_4 0 rfl rfl)
theorem dX4_judge_99 : decode cX4_judge 99 = .ok (.bipush 60, 2) := dk_16 60 (dk_at dksX4_judge_4 3 rfl rfl)
theorem dX4_judge_101 : decode cX4_judge 101 = .ok (.iload_n 1, 1) := dk_27 (dk_at dksX4_judge_4 5 rfl rfl)
theorem dX4_judge_102 : decode cX4_judge 102 = .ok (.imul, 1) := dk_104 (dk_at dksX4_judge_4 6 rfl rfl)
theorem dX4_judge_103 : decode cX4_judge 103 = .ok (.iload 5, 2) := dk_21 5 (dk_at dksX4_judge_4 7 rfl rfl)
theorem dX4_judge_105 : decode cX4_judge 105 = .ok (.iadd, 1) := dk_96 (dk_at dksX4_judge_4 9 rfl rfl)
theorem dX4_judge_106 : decode cX4_judge 106 = .ok (.iaload, 1) := dk_46 (dk_at dksX4_judge_4 10 rfl rfl)
theorem dX4_judge_107 : decode cX4_judge 107 = .ok (.iload 4, 2) := dk_21 4 (dk_at dksX4_judge_4 11 rfl rfl)
theorem dX4_judge_109 : decode cX4_judge 109 = .ok (.iadd, 1) := dk_96 (dk_at dksX4_judge_4 13 rfl rfl)
theorem dX4_judge_110 : decode cX4_judge 110 = .ok (.iconst 2, 1) := dk_5 (dk_at dksX4_judge_4 14 rfl rfl)
theorem dX4_judge_111 : decode cX4_judge 111 = .ok (.if_icmp .ge 7, 3) := dk_162 0 7 (dk_at dksX4_judge_4 15 rfl rfl)
theorem dX4_judge_114 : decode cX4_judge 114 = .ok (.iconst 1, 1) := dk_4 (dk_at dksX4_judge_4 18 rfl rfl)
theorem dX4_judge_115 : decode cX4_judge 115 = .ok (.iload_n 3, 1) := dk_29 (dk_at dksX4_judge_4 19 rfl rfl)
theorem dX4_judge_116 : decode cX4_judge 116 = .ok (.iadd, 1) := dk_96 (dk_at dksX4_judge_4 20 rfl rfl)
theorem dX4_judge_117 : decode cX4_judge 117 = .ok (.ireturn, 1) := dk_172 (dk_at dksX4_judge_4 21 rfl rfl)
theorem dX4_judge_118 : decode cX4_judge 118 = .ok (.iinc 5 1, 3) := dk_132 5 1 (dk_at dksX4_judge_5 0 rfl rfl)
theorem dX4_judge_121 : decode cX4_judge 121 = .ok (.goto (-46), 3) := dk_167 255 210 (dk_at dksX4_judge_5 3 rfl rfl)
theorem dX4_judge_124 : decode cX4_judge 124 = .ok (.iload_n 2, 1) := dk_28 (dk_at dksX4_judge_5 6 rfl rfl)
theorem dX4_judge_125 : decode cX4_judge 125 = .ok (.iload 4, 2) := dk_21 4 (dk_at dksX4_judge_5 7 rfl rfl)
theorem dX4_judge_127 : decode cX4_judge 127 = .ok (.iadd, 1) := dk_96 (dk_at dksX4_judge_5 9 rfl rfl)
theorem dX4_judge_128 : decode cX4_judge 128 = .ok (.istore_n 2, 1) := dk_61 (dk_at dksX4_judge_5 10 rfl rfl)
theorem dX4_judge_129 : decode cX4_judge 129 = .ok (.iinc 3 1, 3) := dk_132 3 1 (dk_at dksX4_judge_5 11 rfl rfl)
theorem dX4_judge_132 : decode cX4_judge 132 = .ok (.goto (-105), 3) := dk_167 255 151 (dk_at dksX4_judge_5 14 rfl rfl)
theorem dX4_judge_135 : decode cX4_judge 135 = .ok (.aload_n 0, 1) := dk_42 (dk_at dksX4_judge_5 17 rfl rfl)
theorem dX4_judge_136 : decode cX4_judge 136 = .ok (.getfield 100, 3) := dk_180 0 100 (dk_at dksX4_judge_5 18 rfl rfl)
theorem dX4_judge_139 : decode cX4_judge 139 = .ok (.iload_n 1, 1) := dk_27 (dk_at dksX4_judge_5 21 rfl rfl)
theorem dX4_judge_140 : decode cX4_judge 140 = .ok (.iaload, 1) := dk_46 (dk_at dksX4_judge_5 22 rfl rfl)
theorem dX4_judge_141 : decode cX4_judge 141 = .ok (.aload_n 0, 1) := dk_42 (dk_at dksX4_judge_5 23 rfl rfl)
theorem dX4_judge_142 : decode cX4_judge 142 = .ok (.getfield 122, 3) := dk_180 0 122 (dk_at dksX4_judge_6 0 rfl rfl)
theorem dX4_judge_145 : decode cX4_judge 145 = .ok (.if_icmp .ne 19, 3) := dk_160 0 19 (dk_at dksX4_judge_6 3 rfl rfl)
theorem dX4_judge_148 : decode cX4_judge 148 = .ok (.iload_n 2, 1) := dk_28 (dk_at dksX4_judge_6 6 rfl rfl)
theorem dX4_judge_149 : decode cX4_judge 149 = .ok (.aload_n 0, 1) := dk_42 (dk_at dksX4_judge_6 7 rfl rfl)
theorem dX4_judge_150 : decode cX4_judge 150 = .ok (.aload_n 0, 1) := dk_42 (dk_at dksX4_judge_6 8 rfl rfl)
theorem dX4_judge_151 : decode cX4_judge 151 = .ok (.invokevirtual 129, 3) := dk_182 0 129 (dk_at dksX4_judge_6 9 rfl rfl)
theorem dX4_judge_154 : decode cX4_judge 154 = .ok (.invokevirtual 203, 3) := dk_182 0 203 (dk_at dksX4_judge_6 12 rfl rfl)
theorem dX4_judge_157 : decode cX4_judge 157 = .ok (.if_icmp .ne 7, 3) := dk_160 0 7 (dk_at dksX4_judge_6 15 rfl rfl)
theorem dX4_judge_160 : decode cX4_judge 160 = .ok (.iconst 0, 1) := dk_3 (dk_at dksX4_judge_6 18 rfl rfl)
theorem dX4_judge_161 : decode cX4_judge 161 = .ok (.goto 5, 3) := dk_167 0 5 (dk_at dksX4_judge_6 19 rfl rfl)
theorem dX4_judge_164 : decode cX4_judge 164 = .ok (.bipush 100, 2) := dk_16 100 (dk_at dksX4_judge_6 22 rfl rfl)
theorem dX4_judge_166 : decode cX4_judge 166 = .ok (.ireturn, 1) := dk_172 (dk_at dksX4_judge_7 0 rfl rfl)
abbrev cX4_shelf : ByteArray := prog_32_method_105_code
def yX4_shelf : MethodName := ⟨RX4, "shelf", "(III)I"⟩
def dkwX4_shelf_5 : List UInt8 := [3, 79, 4, 172]
abbrev dktX4_shelf_5 : List UInt8 := dkwX4_shelf_5 ++ []
def dkwX4_shelf_4 : List UInt8 := [167, 0, 4, 2, 79, 42, 180, 0, 115, 27, 28, 4, 160, 0, 12, 42, 180, 0, 100, 29, 46, 167, 0, 4]
abbrev dktX4_shelf_4 : List UInt8 := dkwX4_shelf_4 ++ dktX4_shelf_5
def dkwX4_shelf_3 : List UInt8 := [79, 42, 180, 0, 109, 27, 29, 79, 42, 180, 0, 112, 27, 28, 4, 160, 0, 12, 42, 180, 0, 97, 29, 46]
abbrev dktX4_shelf_3 : List UInt8 := dkwX4_shelf_3 ++ dktX4_shelf_4
def dkwX4_shelf_2 : List UInt8 := [180, 0, 106, 27, 28, 4, 160, 0, 17, 42, 180, 0, 97, 29, 46, 2, 160, 0, 7, 5, 167, 0, 4, 28]
abbrev dktX4_shelf_2 : List UInt8 := dkwX4_shelf_2 ++ dktX4_shelf_3
def dkwX4_shelf_1 : List UInt8 := [182, 0, 145, 153, 0, 15, 28, 4, 160, 0, 13, 29, 184, 0, 253, 154, 0, 6, 16, 254, 172, 42]
abbrev dktX4_shelf_1 : List UInt8 := dkwX4_shelf_1 ++ dktX4_shelf_2
def dkwX4_shelf_0 : List UInt8 := [27, 184, 1, 93, 153, 0, 36, 28, 3, 5, 184, 0, 125, 153, 0, 27, 28, 154, 0, 11, 42, 29]
abbrev dktX4_shelf_0 : List UInt8 := dkwX4_shelf_0 ++ dktX4_shelf_1
theorem dksX4_shelf_0 : cX4_shelf.data.toList.drop 0 = dktX4_shelf_0 := by decide +kernel
theorem dksX4_shelf_1 : cX4_shelf.data.toList.drop 22 = dktX4_shelf_1 := dk_seg dksX4_shelf_0 22 rfl rfl
theorem dksX4_shelf_2 : cX4_shelf.data.toList.drop 44 = dktX4_shelf_2 := dk_seg dksX4_shelf_1 22 rfl rfl
theorem dksX4_shelf_3 : cX4_shelf.data.toList.drop 68 = dktX4_shelf_3 := dk_seg dksX4_shelf_2 24 rfl rfl
theorem dksX4_shelf_4 : cX4_shelf.data.toList.drop 92 = dktX4_shelf_4 := dk_seg dksX4_shelf_3 24 rfl rfl
theorem dksX4_shelf_5 : cX4_shelf.data.toList.drop 116 = dktX4_shelf_5 := dk_seg dksX4_shelf_4 24 rfl rfl
theorem dX4_shelf_0 : decode cX4_shelf 0 = .ok (.iload_n 1, 1) := dk_27 (dk_at dksX4_shelf_0 0 rfl rfl)
theorem dX4_shelf_1 : decode cX4_shelf 1 = .ok (.invokestatic 349, 3) := dk_184 1 93 (dk_at dksX4_shelf_0 1 rfl rfl)
theorem dX4_shelf_4 : decode cX4_shelf 4 = .ok (.ifCond .eq 36, 3) := dk_153 0 36 (dk_at dksX4_shelf_0 4 rfl rfl)
theorem dX4_shelf_7 : decode cX4_shelf 7 = .ok (.iload_n 2, 1) := dk_28 (dk_at dksX4_shelf_0 7 rfl rfl)
theorem dX4_shelf_8 : decode cX4_shelf 8 = .ok (.iconst 0, 1) := dk_3 (dk_at dksX4_shelf_0 8 rfl rfl)
theorem dX4_shelf_9 : decode cX4_shelf 9 = .ok (.iconst 2, 1) := dk_5 (dk_at dksX4_shelf_0 9 rfl rfl)
theorem dX4_shelf_10 : decode cX4_shelf 10 = .ok (.invokestatic 125, 3) := dk_184 0 125 (dk_at dksX4_shelf_0 10 rfl rfl)
theorem dX4_shelf_13 : decode cX4_shelf 13 = .ok (.ifCond .eq 27, 3) := dk_153 0 27 (dk_at dksX4_shelf_0 13 rfl rfl)
theorem dX4_shelf_16 : decode cX4_shelf 16 = .ok (.iload_n 2, 1) := dk_28 (dk_at dksX4_shelf_0 16 rfl rfl)
theorem dX4_shelf_17 : decode cX4_shelf 17 = .ok (.ifCond .ne 11, 3) := dk_154 0 11 (dk_at dksX4_shelf_0 17 rfl rfl)
theorem dX4_shelf_20 : decode cX4_shelf 20 = .ok (.aload_n 0, 1) := dk_42 (dk_at dksX4_shelf_0 20 rfl rfl)
theorem dX4_shelf_21 : decode cX4_shelf 21 = .ok (.iload_n 3, 1) := dk_29 (dk_at dksX4_shelf_0 21 rfl rfl)
theorem dX4_shelf_22 : decode cX4_shelf 22 = .ok (.invokevirtual 145, 3) := dk_182 0 145 (dk_at dksX4_shelf_1 0 rfl rfl)
theorem dX4_shelf_25 : decode cX4_shelf 25 = .ok (.ifCond .eq 15, 3) := dk_153 0 15 (dk_at dksX4_shelf_1 3 rfl rfl)
theorem dX4_shelf_28 : decode cX4_shelf 28 = .ok (.iload_n 2, 1) := dk_28 (dk_at dksX4_shelf_1 6 rfl rfl)
theorem dX4_shelf_29 : decode cX4_shelf 29 = .ok (.iconst 1, 1) := dk_4 (dk_at dksX4_shelf_1 7 rfl rfl)
theorem dX4_shelf_30 : decode cX4_shelf 30 = .ok (.if_icmp .ne 13, 3) := dk_160 0 13 (dk_at dksX4_shelf_1 8 rfl rfl)
theorem dX4_shelf_33 : decode cX4_shelf 33 = .ok (.iload_n 3, 1) := dk_29 (dk_at dksX4_shelf_1 11 rfl rfl)
theorem dX4_shelf_34 : decode cX4_shelf 34 = .ok (.invokestatic 253, 3) := dk_184 0 253 (dk_at dksX4_shelf_1 12 rfl rfl)
theorem dX4_shelf_37 : decode cX4_shelf 37 = .ok (.ifCond .ne 6, 3) := dk_154 0 6 (dk_at dksX4_shelf_1 15 rfl rfl)
theorem dX4_shelf_40 : decode cX4_shelf 40 = .ok (.bipush (-2), 2) := dk_16 254 (dk_at dksX4_shelf_1 18 rfl rfl)
theorem dX4_shelf_42 : decode cX4_shelf 42 = .ok (.ireturn, 1) := dk_172 (dk_at dksX4_shelf_1 20 rfl rfl)
theorem dX4_shelf_43 : decode cX4_shelf 43 = .ok (.aload_n 0, 1) := dk_42 (dk_at dksX4_shelf_1 21 rfl rfl)
theorem dX4_shelf_44 : decode cX4_shelf 44 = .ok (.getfield 106, 3) := dk_180 0 106 (dk_at dksX4_shelf_2 0 rfl rfl)
theorem dX4_shelf_47 : decode cX4_shelf 47 = .ok (.iload_n 1, 1) := dk_27 (dk_at dksX4_shelf_2 3 rfl rfl)
theorem dX4_shelf_48 : decode cX4_shelf 48 = .ok (.iload_n 2, 1) := dk_28 (dk_at dksX4_shelf_2 4 rfl rfl)
theorem dX4_shelf_49 : decode cX4_shelf 49 = .ok (.iconst 1, 1) := dk_4 (dk_at dksX4_shelf_2 5 rfl rfl)
theorem dX4_shelf_50 : decode cX4_shelf 50 = .ok (.if_icmp .ne 17, 3) := dk_160 0 17 (dk_at dksX4_shelf_2 6 rfl rfl)
theorem dX4_shelf_53 : decode cX4_shelf 53 = .ok (.aload_n 0, 1) := dk_42 (dk_at dksX4_shelf_2 9 rfl rfl)
theorem dX4_shelf_54 : decode cX4_shelf 54 = .ok (.getfield 97, 3) := dk_180 0 97 (dk_at dksX4_shelf_2 10 rfl rfl)
theorem dX4_shelf_57 : decode cX4_shelf 57 = .ok (.iload_n 3, 1) := dk_29 (dk_at dksX4_shelf_2 13 rfl rfl)
theorem dX4_shelf_58 : decode cX4_shelf 58 = .ok (.iaload, 1) := dk_46 (dk_at dksX4_shelf_2 14 rfl rfl)
theorem dX4_shelf_59 : decode cX4_shelf 59 = .ok (.iconst (-1), 1) := dk_2 (dk_at dksX4_shelf_2 15 rfl rfl)
theorem dX4_shelf_60 : decode cX4_shelf 60 = .ok (.if_icmp .ne 7, 3) := dk_160 0 7 (dk_at dksX4_shelf_2 16 rfl rfl)
theorem dX4_shelf_63 : decode cX4_shelf 63 = .ok (.iconst 2, 1) := dk_5 (dk_at dksX4_shelf_2 19 rfl rfl)
theorem dX4_shelf_64 : decode cX4_shelf 64 = .ok (.goto 4, 3) := dk_167 0 4 (dk_at dksX4_shelf_2 20 rfl rfl)
theorem dX4_shelf_67 : decode cX4_shelf 67 = .ok (.iload_n 2, 1) := dk_28 (dk_at dksX4_shelf_2 23 rfl rfl)
theorem dX4_shelf_68 : decode cX4_shelf 68 = .ok (.iastore, 1) := dk_79 (dk_at dksX4_shelf_3 0 rfl rfl)
theorem dX4_shelf_69 : decode cX4_shelf 69 = .ok (.aload_n 0, 1) := dk_42 (dk_at dksX4_shelf_3 1 rfl rfl)
theorem dX4_shelf_70 : decode cX4_shelf 70 = .ok (.getfield 109, 3) := dk_180 0 109 (dk_at dksX4_shelf_3 2 rfl rfl)
theorem dX4_shelf_73 : decode cX4_shelf 73 = .ok (.iload_n 1, 1) := dk_27 (dk_at dksX4_shelf_3 5 rfl rfl)
theorem dX4_shelf_74 : decode cX4_shelf 74 = .ok (.iload_n 3, 1) := dk_29 (dk_at dksX4_shelf_3 6 rfl rfl)
theorem dX4_shelf_75 : decode cX4_shelf 75 = .ok (.iastore, 1) := dk_79 (dk_at dksX4_shelf_3 7 rfl rfl)
theorem dX4_shelf_76 : decode cX4_shelf 76 = .ok (.aload_n 0, 1) := dk_42 (dk_at dksX4_shelf_3 8 rfl rfl)
theorem dX4_shelf_77 : decode cX4_shelf 77 = .ok (.getfield 112, 3) := dk_180 0 112 (dk_at dksX4_shelf_3 9 rfl rfl)
theorem dX4_shelf_80 : decode cX4_shelf 80 = .ok (.iload_n 1, 1) := dk_27 (dk_at dksX4_shelf_3 12 rfl rfl)
theorem dX4_shelf_81 : decode cX4_shelf 81 = .ok (.iload_n 2, 1) := dk_28 (dk_at dksX4_shelf_3 13 rfl rfl)
theorem dX4_shelf_82 : decode cX4_shelf 82 = .ok (.iconst 1, 1) := dk_4 (dk_at dksX4_shelf_3 14 rfl rfl)
theorem dX4_shelf_83 : decode cX4_shelf 83 = .ok (.if_icmp .ne 12, 3) := dk_160 0 12 (dk_at dksX4_shelf_3 15 rfl rfl)
theorem dX4_shelf_86 : decode cX4_shelf 86 = .ok (.aload_n 0, 1) := dk_42 (dk_at dksX4_shelf_3 18 rfl rfl)
theorem dX4_shelf_87 : decode cX4_shelf 87 = .ok (.getfield 97, 3) := dk_180 0 97 (dk_at dksX4_shelf_3 19 rfl rfl)
theorem dX4_shelf_90 : decode cX4_shelf 90 = .ok (.iload_n 3, 1) := dk_29 (dk_at dksX4_shelf_3 22 rfl rfl)
theorem dX4_shelf_91 : decode cX4_shelf 91 = .ok (.iaload, 1) := dk_46 (dk_at dksX4_shelf_3 23 rfl rfl)
theorem dX4_shelf_92 : decode cX4_shelf 92 = .ok (.goto 4, 3) := dk_167 0 4 (dk_at dksX4_shelf_4 0 rfl rfl)
theorem dX4_shelf_95 : decode cX4_shelf 95 = .ok (.iconst (-1), 1) := dk_2 (dk_at dksX4_shelf_4 3 rfl rfl)
theorem dX4_shelf_96 : decode cX4_shelf 96 = .ok (.iastore, 1) := dk_79 (dk_at dksX4_shelf_4 4 rfl rfl)
theorem dX4_shelf_97 : decode cX4_shelf 97 = .ok (.aload_n 0, 1) := dk_42 (dk_at dksX4_shelf_4 5 rfl rfl)
theorem dX4_shelf_98 : decode cX4_shelf 98 = .ok (.getfield 115, 3) := dk_180 0 115 (dk_at dksX4_shelf_4 6 rfl rfl)
theorem dX4_shelf_101 : decode cX4_shelf 101 = .ok (.iload_n 1, 1) := dk_27 (dk_at dksX4_shelf_4 9 rfl rfl)
theorem dX4_shelf_102 : decode cX4_shelf 102 = .ok (.iload_n 2, 1) := dk_28 (dk_at dksX4_shelf_4 10 rfl rfl)
theorem dX4_shelf_103 : decode cX4_shelf 103 = .ok (.iconst 1, 1) := dk_4 (dk_at dksX4_shelf_4 11 rfl rfl)
theorem dX4_shelf_104 : decode cX4_shelf 104 = .ok (.if_icmp .ne 12, 3) := dk_160 0 12 (dk_at dksX4_shelf_4 12 rfl rfl)
theorem dX4_shelf_107 : decode cX4_shelf 107 = .ok (.aload_n 0, 1) := dk_42 (dk_at dksX4_shelf_4 15 rfl rfl)
theorem dX4_shelf_108 : decode cX4_shelf 108 = .ok (.getfield 100, 3) := dk_180 0 100 (dk_at dksX4_shelf_4 16 rfl rfl)
theorem dX4_shelf_111 : decode cX4_shelf 111 = .ok (.iload_n 3, 1) := dk_29 (dk_at dksX4_shelf_4 19 rfl rfl)
theorem dX4_shelf_112 : decode cX4_shelf 112 = .ok (.iaload, 1) := dk_46 (dk_at dksX4_shelf_4 20 rfl rfl)
theorem dX4_shelf_113 : decode cX4_shelf 113 = .ok (.goto 4, 3) := dk_167 0 4 (dk_at dksX4_shelf_4 21 rfl rfl)
theorem dX4_shelf_116 : decode cX4_shelf 116 = .ok (.iconst 0, 1) := dk_3 (dk_at dksX4_shelf_5 0 rfl rfl)
theorem dX4_shelf_117 : decode cX4_shelf 117 = .ok (.iastore, 1) := dk_79 (dk_at dksX4_shelf_5 1 rfl rfl)
theorem dX4_shelf_118 : decode cX4_shelf 118 = .ok (.iconst 1, 1) := dk_4 (dk_at dksX4_shelf_5 2 rfl rfl)
theorem dX4_shelf_119 : decode cX4_shelf 119 = .ok (.ireturn, 1) := dk_172 (dk_at dksX4_shelf_5 3 rfl rfl)
abbrev cX4_isShelf : ByteArray := prog_32_method_104_code
def yX4_isShelf : MethodName := ⟨RX4, "isShelf", "(I)Z"⟩
def dkwX4_isShelf_0 : List UInt8 := [26, 3, 6, 184, 0, 125, 172]
abbrev dktX4_isShelf_0 : List UInt8 := dkwX4_isShelf_0 ++ []
theorem dksX4_isShelf_0 : cX4_isShelf.data.toList.drop 0 = dktX4_isShelf_0 := by decide +kernel
theorem dX4_isShelf_0 : decode cX4_isShelf 0 = .ok (.iload_n 0, 1) := dk_26 (dk_at dksX4_isShelf_0 0 rfl rfl)
theorem dX4_isShelf_1 : decode cX4_isShelf 1 = .ok (.iconst 0, 1) := dk_3 (dk_at dksX4_isShelf_0 1 rfl rfl)
theorem dX4_isShelf_2 : decode cX4_isShelf 2 = .ok (.iconst 3, 1) := dk_6 (dk_at dksX4_isShelf_0 2 rfl rfl)
theorem dX4_isShelf_3 : decode cX4_isShelf 3 = .ok (.invokestatic 125, 3) := dk_184 0 125 (dk_at dksX4_isShelf_0 3 rfl rfl)
theorem dX4_isShelf_6 : decode cX4_isShelf 6 = .ok (.ireturn, 1) := dk_172 (dk_at dksX4_isShelf_0 6 rfl rfl)
abbrev cX4_taken : ByteArray := prog_32_method_107_code
def yX4_taken : MethodName := ⟨RX4, "taken", "(II)I"⟩
def dkwX4_taken_6 : List UInt8 := [167, 0, 5, 16, 243, 172]
abbrev dktX4_taken_6 : List UInt8 := dkwX4_taken_6 ++ []
def dkwX4_taken_5 : List UInt8 := [28, 159, 0, 11, 29, 184, 1, 96, 62, 167, 255, 241, 29, 28, 160, 0, 12, 42, 180, 0, 109, 27, 46]
abbrev dktX4_taken_5 : List UInt8 := dkwX4_taken_5 ++ dktX4_taken_6
def dkwX4_taken_4 : List UInt8 := [167, 0, 5, 16, 243, 172, 42, 180, 0, 13, 42, 180, 0, 109, 27, 46, 46, 62, 29, 2, 159, 0, 16, 29]
abbrev dktX4_taken_4 : List UInt8 := dkwX4_taken_4 ++ dktX4_taken_5
def dkwX4_taken_3 : List UInt8 := [46, 4, 160, 0, 28, 42, 180, 0, 112, 27, 46, 28, 16, 10, 100, 160, 0, 12, 42, 180, 0, 115, 27, 46]
abbrev dktX4_taken_3 : List UInt8 := dkwX4_taken_3 ++ dktX4_taken_4
def dkwX4_taken_2 : List UInt8 := [154, 0, 19, 42, 42, 180, 0, 109, 27, 46, 182, 0, 145, 154, 0, 6, 16, 245, 172, 42, 180, 0, 106, 27]
abbrev dktX4_taken_2 : List UInt8 := dkwX4_taken_2 ++ dktX4_taken_3
def dkwX4_taken_1 : List UInt8 := [154, 0, 6, 16, 254, 172, 42, 180, 0, 106, 27, 46, 5, 159, 0, 25, 42, 180, 0, 106, 27, 46]
abbrev dktX4_taken_1 : List UInt8 := dkwX4_taken_1 ++ dktX4_taken_2
def dkwX4_taken_0 : List UInt8 := [27, 184, 1, 93, 153, 0, 23, 28, 3, 8, 184, 0, 125, 154, 0, 17, 28, 16, 10, 16, 12, 184, 0, 125]
abbrev dktX4_taken_0 : List UInt8 := dkwX4_taken_0 ++ dktX4_taken_1
theorem dksX4_taken_0 : cX4_taken.data.toList.drop 0 = dktX4_taken_0 := by decide +kernel
theorem dksX4_taken_1 : cX4_taken.data.toList.drop 24 = dktX4_taken_1 := dk_seg dksX4_taken_0 24 rfl rfl
theorem dksX4_taken_2 : cX4_taken.data.toList.drop 46 = dktX4_taken_2 := dk_seg dksX4_taken_1 22 rfl rfl
theorem dksX4_taken_3 : cX4_taken.data.toList.drop 70 = dktX4_taken_3 := dk_seg dksX4_taken_2 24 rfl rfl
theorem dksX4_taken_4 : cX4_taken.data.toList.drop 94 = dktX4_taken_4 := dk_seg dksX4_taken_3 24 rfl rfl
theorem dksX4_taken_5 : cX4_taken.data.toList.drop 118 = dktX4_taken_5 := dk_seg dksX4_taken_4 24 rfl rfl
theorem dksX4_taken_6 : cX4_taken.data.toList.drop 141 = dktX4_taken_6 := dk_seg dksX4_taken_5 23 rfl rfl
theorem dX4_taken_0 : decode cX4_taken 0 = .ok (.iload_n 1, 1) := dk_27 (dk_at dksX4_taken_0 0 rfl rfl)
theorem dX4_taken_1 : decode cX4_taken 1 = .ok (.invokestatic 349, 3) := dk_184 1 93 (dk_at dksX4_taken_0 1 rfl rfl)
theorem dX4_taken_4 : decode cX4_taken 4 = .ok (.ifCond .eq 23, 3) := dk_153 0 23 (dk_at dksX4_taken_0 4 rfl rfl)
theorem dX4_taken_7 : decode cX4_taken 7 = .ok (.iload_n 2, 1) := dk_28 (dk_at dksX4_taken_0 7 rfl rfl)
theorem dX4_taken_8 : decode cX4_taken 8 = .ok (.iconst 0, 1) := dk_3 (dk_at dksX4_taken_0 8 rfl rfl)
theorem dX4_taken_9 : decode cX4_taken 9 = .ok (.iconst 5, 1) := dk_8 (dk_at dksX4_taken_0 9 rfl rfl)
theorem dX4_taken_10 : decode cX4_taken 10 = .ok (.invokestatic 125, 3) := dk_184 0 125 (dk_at dksX4_taken_0 10 rfl rfl)
theorem dX4_taken_13 : decode cX4_taken 13 = .ok (.ifCond .ne 17, 3) := dk_154 0 17 (dk_at dksX4_taken_0 13 rfl rfl)
theorem dX4_taken_16 : decode cX4_taken 16 = .ok (.iload_n 2, 1) := dk_28 (dk_at dksX4_taken_0 16 rfl rfl)
theorem dX4_taken_17 : decode cX4_taken 17 = .ok (.bipush 10, 2) := dk_16 10 (dk_at dksX4_taken_0 17 rfl rfl)
theorem dX4_taken_19 : decode cX4_taken 19 = .ok (.bipush 12, 2) := dk_16 12 (dk_at dksX4_taken_0 19 rfl rfl)
theorem dX4_taken_21 : decode cX4_taken 21 = .ok (.invokestatic 125, 3) := dk_184 0 125 (dk_at dksX4_taken_0 21 rfl rfl)
theorem dX4_taken_24 : decode cX4_taken 24 = .ok (.ifCond .ne 6, 3) := dk_154 0 6 (dk_at dksX4_taken_1 0 rfl rfl)
theorem dX4_taken_27 : decode cX4_taken 27 = .ok (.bipush (-2), 2) := dk_16 254 (dk_at dksX4_taken_1 3 rfl rfl)
theorem dX4_taken_29 : decode cX4_taken 29 = .ok (.ireturn, 1) := dk_172 (dk_at dksX4_taken_1 5 rfl rfl)
theorem dX4_taken_30 : decode cX4_taken 30 = .ok (.aload_n 0, 1) := dk_42 (dk_at dksX4_taken_1 6 rfl rfl)
theorem dX4_taken_31 : decode cX4_taken 31 = .ok (.getfield 106, 3) := dk_180 0 106 (dk_at dksX4_taken_1 7 rfl rfl)
theorem dX4_taken_34 : decode cX4_taken 34 = .ok (.iload_n 1, 1) := dk_27 (dk_at dksX4_taken_1 10 rfl rfl)
theorem dX4_taken_35 : decode cX4_taken 35 = .ok (.iaload, 1) := dk_46 (dk_at dksX4_taken_1 11 rfl rfl)
theorem dX4_taken_36 : decode cX4_taken 36 = .ok (.iconst 2, 1) := dk_5 (dk_at dksX4_taken_1 12 rfl rfl)
theorem dX4_taken_37 : decode cX4_taken 37 = .ok (.if_icmp .eq 25, 3) := dk_159 0 25 (dk_at dksX4_taken_1 13 rfl rfl)
theorem dX4_taken_40 : decode cX4_taken 40 = .ok (.aload_n 0, 1) := dk_42 (dk_at dksX4_taken_1 16 rfl rfl)
theorem dX4_taken_41 : decode cX4_taken 41 = .ok (.getfield 106, 3) := dk_180 0 106 (dk_at dksX4_taken_1 17 rfl rfl)
theorem dX4_taken_44 : decode cX4_taken 44 = .ok (.iload_n 1, 1) := dk_27 (dk_at dksX4_taken_1 20 rfl rfl)
theorem dX4_taken_45 : decode cX4_taken 45 = .ok (.iaload, 1) := dk_46 (dk_at dksX4_taken_1 21 rfl rfl)
theorem dX4_taken_46 : decode cX4_taken 46 = .ok (.ifCond .ne 19, 3) := dk_154 0 19 (dk_at dksX4_taken_2 0 rfl rfl)
theorem dX4_taken_49 : decode cX4_taken 49 = .ok (.aload_n 0, 1) := dk_42 (dk_at dksX4_taken_2 3 rfl rfl)
theorem dX4_taken_50 : decode cX4_taken 50 = .ok (.aload_n 0, 1) := dk_42 (dk_at dksX4_taken_2 4 rfl rfl)
theorem dX4_taken_51 : decode cX4_taken 51 = .ok (.getfield 109, 3) := dk_180 0 109 (dk_at dksX4_taken_2 5 rfl rfl)
theorem dX4_taken_54 : decode cX4_taken 54 = .ok (.iload_n 1, 1) := dk_27 (dk_at dksX4_taken_2 8 rfl rfl)
theorem dX4_taken_55 : decode cX4_taken 55 = .ok (.iaload, 1) := dk_46 (dk_at dksX4_taken_2 9 rfl rfl)
theorem dX4_taken_56 : decode cX4_taken 56 = .ok (.invokevirtual 145, 3) := dk_182 0 145 (dk_at dksX4_taken_2 10 rfl rfl)
theorem dX4_taken_59 : decode cX4_taken 59 = .ok (.ifCond .ne 6, 3) := dk_154 0 6 (dk_at dksX4_taken_2 13 rfl rfl)
theorem dX4_taken_62 : decode cX4_taken 62 = .ok (.bipush (-11), 2) := dk_16 245 (dk_at dksX4_taken_2 16 rfl rfl)
theorem dX4_taken_64 : decode cX4_taken 64 = .ok (.ireturn, 1) := dk_172 (dk_at dksX4_taken_2 18 rfl rfl)
theorem dX4_taken_65 : decode cX4_taken 65 = .ok (.aload_n 0, 1) := dk_42 (dk_at dksX4_taken_2 19 rfl rfl)
theorem dX4_taken_66 : decode cX4_taken 66 = .ok (.getfield 106, 3) := dk_180 0 106 (dk_at dksX4_taken_2 20 rfl rfl)
theorem dX4_taken_69 : decode cX4_taken 69 = .ok (.iload_n 1, 1) := dk_27 (dk_at dksX4_taken_2 23 rfl rfl)
theorem dX4_taken_70 : decode cX4_taken 70 = .ok (.iaload, 1) := dk_46 (dk_at dksX4_taken_3 0 rfl rfl)
theorem dX4_taken_71 : decode cX4_taken 71 = .ok (.iconst 1, 1) := dk_4 (dk_at dksX4_taken_3 1 rfl rfl)
theorem dX4_taken_72 : decode cX4_taken 72 = .ok (.if_icmp .ne 28, 3) := dk_160 0 28 (dk_at dksX4_taken_3 2 rfl rfl)
theorem dX4_taken_75 : decode cX4_taken 75 = .ok (.aload_n 0, 1) := dk_42 (dk_at dksX4_taken_3 5 rfl rfl)
theorem dX4_taken_76 : decode cX4_taken 76 = .ok (.getfield 112, 3) := dk_180 0 112 (dk_at dksX4_taken_3 6 rfl rfl)
theorem dX4_taken_79 : decode cX4_taken 79 = .ok (.iload_n 1, 1) := dk_27 (dk_at dksX4_taken_3 9 rfl rfl)
theorem dX4_taken_80 : decode cX4_taken 80 = .ok (.iaload, 1) := dk_46 (dk_at dksX4_taken_3 10 rfl rfl)
theorem dX4_taken_81 : decode cX4_taken 81 = .ok (.iload_n 2, 1) := dk_28 (dk_at dksX4_taken_3 11 rfl rfl)
theorem dX4_taken_82 : decode cX4_taken 82 = .ok (.bipush 10, 2) := dk_16 10 (dk_at dksX4_taken_3 12 rfl rfl)
theorem dX4_taken_84 : decode cX4_taken 84 = .ok (.isub, 1) := dk_100 (dk_at dksX4_taken_3 14 rfl rfl)
theorem dX4_taken_85 : decode cX4_taken 85 = .ok (.if_icmp .ne 12, 3) := dk_160 0 12 (dk_at dksX4_taken_3 15 rfl rfl)
theorem dX4_taken_88 : decode cX4_taken 88 = .ok (.aload_n 0, 1) := dk_42 (dk_at dksX4_taken_3 18 rfl rfl)
theorem dX4_taken_89 : decode cX4_taken 89 = .ok (.getfield 115, 3) := dk_180 0 115 (dk_at dksX4_taken_3 19 rfl rfl)
theorem dX4_taken_92 : decode cX4_taken 92 = .ok (.iload_n 1, 1) := dk_27 (dk_at dksX4_taken_3 22 rfl rfl)
theorem dX4_taken_93 : decode cX4_taken 93 = .ok (.iaload, 1) := dk_46 (dk_at dksX4_taken_3 23 rfl rfl)
theorem dX4_taken_94 : decode cX4_taken 94 = .ok (.goto 5, 3) := dk_167 0 5 (dk_at dksX4_taken_4 0 rfl rfl)
theorem dX4_taken_97 : decode cX4_taken 97 = .ok (.bipush (-13), 2) := dk_16 243 (dk_at dksX4_taken_4 3 rfl rfl)
theorem dX4_taken_99 : decode cX4_taken 99 = .ok (.ireturn, 1) := dk_172 (dk_at dksX4_taken_4 5 rfl rfl)
theorem dX4_taken_100 : decode cX4_taken 100 = .ok (.aload_n 0, 1) := dk_42 (dk_at dksX4_taken_4 6 rfl rfl)
theorem dX4_taken_101 : decode cX4_taken 101 = .ok (.getfield 13, 3) := dk_180 0 13 (dk_at dksX4_taken_4 7 rfl rfl)
theorem dX4_taken_104 : decode cX4_taken 104 = .ok (.aload_n 0, 1) := dk_42 (dk_at dksX4_taken_4 10 rfl rfl)
theorem dX4_taken_105 : decode cX4_taken 105 = .ok (.getfield 109, 3) := dk_180 0 109 (dk_at dksX4_taken_4 11 rfl rfl)
theorem dX4_taken_108 : decode cX4_taken 108 = .ok (.iload_n 1, 1) := dk_27 (dk_at dksX4_taken_4 14 rfl rfl)
theorem dX4_taken_109 : decode cX4_taken 109 = .ok (.iaload, 1) := dk_46 (dk_at dksX4_taken_4 15 rfl rfl)
theorem dX4_taken_110 : decode cX4_taken 110 = .ok (.iaload, 1) := dk_46 (dk_at dksX4_taken_4 16 rfl rfl)
theorem dX4_taken_111 : decode cX4_taken 111 = .ok (.istore_n 3, 1) := dk_62 (dk_at dksX4_taken_4 17 rfl rfl)
theorem dX4_taken_112 : decode cX4_taken 112 = .ok (.iload_n 3, 1) := dk_29 (dk_at dksX4_taken_4 18 rfl rfl)
theorem dX4_taken_113 : decode cX4_taken 113 = .ok (.iconst (-1), 1) := dk_2 (dk_at dksX4_taken_4 19 rfl rfl)
theorem dX4_taken_114 : decode cX4_taken 114 = .ok (.if_icmp .eq 16, 3) := dk_159 0 16 (dk_at dksX4_taken_4 20 rfl rfl)
theorem dX4_taken_117 : decode cX4_taken 117 = .ok (.iload_n 3, 1) := dk_29 (dk_at dksX4_taken_4 23 rfl rfl)
theorem dX4_taken_118 : decode cX4_taken 118 = .ok (.iload_n 2, 1) := dk_28 (dk_at dksX4_taken_5 0 rfl rfl)
theorem dX4_taken_119 : decode cX4_taken 119 = .ok (.if_icmp .eq 11, 3) := dk_159 0 11 (dk_at dksX4_taken_5 1 rfl rfl)
theorem dX4_taken_122 : decode cX4_taken 122 = .ok (.iload_n 3, 1) := dk_29 (dk_at dksX4_taken_5 4 rfl rfl)
theorem dX4_taken_123 : decode cX4_taken 123 = .ok (.invokestatic 352, 3) := dk_184 1 96 (dk_at dksX4_taken_5 5 rfl rfl)
theorem dX4_taken_126 : decode cX4_taken 126 = .ok (.istore_n 3, 1) := dk_62 (dk_at dksX4_taken_5 8 rfl rfl)
theorem dX4_taken_127 : decode cX4_taken 127 = .ok (.goto (-15), 3) := dk_167 255 241 (dk_at dksX4_taken_5 9 rfl rfl)
theorem dX4_taken_130 : decode cX4_taken 130 = .ok (.iload_n 3, 1) := dk_29 (dk_at dksX4_taken_5 12 rfl rfl)
theorem dX4_taken_131 : decode cX4_taken 131 = .ok (.iload_n 2, 1) := dk_28 (dk_at dksX4_taken_5 13 rfl rfl)
theorem dX4_taken_132 : decode cX4_taken 132 = .ok (.if_icmp .ne 12, 3) := dk_160 0 12 (dk_at dksX4_taken_5 14 rfl rfl)
theorem dX4_taken_135 : decode cX4_taken 135 = .ok (.aload_n 0, 1) := dk_42 (dk_at dksX4_taken_5 17 rfl rfl)
theorem dX4_taken_136 : decode cX4_taken 136 = .ok (.getfield 109, 3) := dk_180 0 109 (dk_at dksX4_taken_5 18 rfl rfl)
theorem dX4_taken_139 : decode cX4_taken 139 = .ok (.iload_n 1, 1) := dk_27 (dk_at dksX4_taken_5 21 rfl rfl)
theorem dX4_taken_140 : decode cX4_taken 140 = .ok (.iaload, 1) := dk_46 (dk_at dksX4_taken_5 22 rfl rfl)
theorem dX4_taken_141 : decode cX4_taken 141 = .ok (.goto 5, 3) := dk_167 0 5 (dk_at dksX4_taken_6 0 rfl rfl)
theorem dX4_taken_144 : decode cX4_taken 144 = .ok (.bipush (-13), 2) := dk_16 243 (dk_at dksX4_taken_6 3 rfl rfl)
theorem dX4_taken_146 : decode cX4_taken 146 = .ok (.ireturn, 1) := dk_172 (dk_at dksX4_taken_6 5 rfl rfl)
abbrev cX4_over : ByteArray := prog_32_method_106_code
def yX4_over : MethodName := ⟨RX4, "over", "(I)I"⟩
def dkwX4_over_1 : List UInt8 := [167, 0, 13, 26, 7, 160, 0, 7, 5, 167, 0, 4, 6, 172]
abbrev dktX4_over_1 : List UInt8 := dkwX4_over_1 ++ []
def dkwX4_over_0 : List UInt8 := [26, 154, 0, 7, 2, 167, 0, 31, 26, 6, 162, 0, 7, 3, 167, 0, 22, 26, 6, 160, 0, 7, 4]
abbrev dktX4_over_0 : List UInt8 := dkwX4_over_0 ++ dktX4_over_1
theorem dksX4_over_0 : cX4_over.data.toList.drop 0 = dktX4_over_0 := by decide +kernel
theorem dksX4_over_1 : cX4_over.data.toList.drop 23 = dktX4_over_1 := dk_seg dksX4_over_0 23 rfl rfl
theorem dX4_over_0 : decode cX4_over 0 = .ok (.iload_n 0, 1) := dk_26 (dk_at dksX4_over_0 0 rfl rfl)
theorem dX4_over_1 : decode cX4_over 1 = .ok (.ifCond .ne 7, 3) := dk_154 0 7 (dk_at dksX4_over_0 1 rfl rfl)
theorem dX4_over_4 : decode cX4_over 4 = .ok (.iconst (-1), 1) := dk_2 (dk_at dksX4_over_0 4 rfl rfl)
theorem dX4_over_5 : decode cX4_over 5 = .ok (.goto 31, 3) := dk_167 0 31 (dk_at dksX4_over_0 5 rfl rfl)
theorem dX4_over_8 : decode cX4_over 8 = .ok (.iload_n 0, 1) := dk_26 (dk_at dksX4_over_0 8 rfl rfl)
theorem dX4_over_9 : decode cX4_over 9 = .ok (.iconst 3, 1) := dk_6 (dk_at dksX4_over_0 9 rfl rfl)
theorem dX4_over_10 : decode cX4_over 10 = .ok (.if_icmp .ge 7, 3) := dk_162 0 7 (dk_at dksX4_over_0 10 rfl rfl)
theorem dX4_over_13 : decode cX4_over 13 = .ok (.iconst 0, 1) := dk_3 (dk_at dksX4_over_0 13 rfl rfl)
theorem dX4_over_14 : decode cX4_over 14 = .ok (.goto 22, 3) := dk_167 0 22 (dk_at dksX4_over_0 14 rfl rfl)
theorem dX4_over_17 : decode cX4_over 17 = .ok (.iload_n 0, 1) := dk_26 (dk_at dksX4_over_0 17 rfl rfl)
theorem dX4_over_18 : decode cX4_over 18 = .ok (.iconst 3, 1) := dk_6 (dk_at dksX4_over_0 18 rfl rfl)
theorem dX4_over_19 : decode cX4_over 19 = .ok (.if_icmp .ne 7, 3) := dk_160 0 7 (dk_at dksX4_over_0 19 rfl rfl)
theorem dX4_over_22 : decode cX4_over 22 = .ok (.iconst 1, 1) := dk_4 (dk_at dksX4_over_0 22 rfl rfl)
theorem dX4_over_23 : decode cX4_over 23 = .ok (.goto 13, 3) := dk_167 0 13 (dk_at dksX4_over_1 0 rfl rfl)
theorem dX4_over_26 : decode cX4_over 26 = .ok (.iload_n 0, 1) := dk_26 (dk_at dksX4_over_1 3 rfl rfl)
theorem dX4_over_27 : decode cX4_over 27 = .ok (.iconst 4, 1) := dk_7 (dk_at dksX4_over_1 4 rfl rfl)
theorem dX4_over_28 : decode cX4_over 28 = .ok (.if_icmp .ne 7, 3) := dk_160 0 7 (dk_at dksX4_over_1 5 rfl rfl)
theorem dX4_over_31 : decode cX4_over 31 = .ok (.iconst 2, 1) := dk_5 (dk_at dksX4_over_1 8 rfl rfl)
theorem dX4_over_32 : decode cX4_over 32 = .ok (.goto 4, 3) := dk_167 0 4 (dk_at dksX4_over_1 9 rfl rfl)
theorem dX4_over_35 : decode cX4_over 35 = .ok (.iconst 3, 1) := dk_6 (dk_at dksX4_over_1 12 rfl rfl)
theorem dX4_over_36 : decode cX4_over 36 = .ok (.ireturn, 1) := dk_172 (dk_at dksX4_over_1 13 rfl rfl)
abbrev cX4_image : ByteArray := prog_32_method_108_code
def yX4_image : MethodName := ⟨RX4, "image", "()I"⟩
def dkwX4_image_0 : List UInt8 := [42, 42, 180, 0, 94, 182, 1, 83, 42, 4, 181, 1, 99, 42, 180, 0, 122, 172]
abbrev dktX4_image_0 : List UInt8 := dkwX4_image_0 ++ []
theorem dksX4_image_0 : cX4_image.data.toList.drop 0 = dktX4_image_0 := by decide +kernel
theorem dX4_image_0 : decode cX4_image 0 = .ok (.aload_n 0, 1) := dk_42 (dk_at dksX4_image_0 0 rfl rfl)
theorem dX4_image_1 : decode cX4_image 1 = .ok (.aload_n 0, 1) := dk_42 (dk_at dksX4_image_0 1 rfl rfl)
theorem dX4_image_2 : decode cX4_image 2 = .ok (.getfield 94, 3) := dk_180 0 94 (dk_at dksX4_image_0 2 rfl rfl)
theorem dX4_image_5 : decode cX4_image 5 = .ok (.invokevirtual 339, 3) := dk_182 1 83 (dk_at dksX4_image_0 5 rfl rfl)
theorem dX4_image_8 : decode cX4_image 8 = .ok (.aload_n 0, 1) := dk_42 (dk_at dksX4_image_0 8 rfl rfl)
theorem dX4_image_9 : decode cX4_image 9 = .ok (.iconst 1, 1) := dk_4 (dk_at dksX4_image_0 9 rfl rfl)
theorem dX4_image_10 : decode cX4_image 10 = .ok (.putfield 355, 3) := dk_181 1 99 (dk_at dksX4_image_0 10 rfl rfl)
theorem dX4_image_13 : decode cX4_image 13 = .ok (.aload_n 0, 1) := dk_42 (dk_at dksX4_image_0 13 rfl rfl)
theorem dX4_image_14 : decode cX4_image 14 = .ok (.getfield 122, 3) := dk_180 0 122 (dk_at dksX4_image_0 14 rfl rfl)
theorem dX4_image_17 : decode cX4_image 17 = .ok (.ireturn, 1) := dk_172 (dk_at dksX4_image_0 17 rfl rfl)
abbrev cX4_back : ByteArray := prog_32_method_109_code
def yX4_back : MethodName := ⟨RX4, "back", "()I"⟩
def dkwX4_back_0 : List UInt8 := [42, 180, 1, 99, 154, 0, 6, 16, 253, 172, 42, 42, 180, 0, 94, 182, 1, 87, 42, 180, 0, 122, 172]
abbrev dktX4_back_0 : List UInt8 := dkwX4_back_0 ++ []
theorem dksX4_back_0 : cX4_back.data.toList.drop 0 = dktX4_back_0 := by decide +kernel
theorem dX4_back_0 : decode cX4_back 0 = .ok (.aload_n 0, 1) := dk_42 (dk_at dksX4_back_0 0 rfl rfl)
theorem dX4_back_1 : decode cX4_back 1 = .ok (.getfield 355, 3) := dk_180 1 99 (dk_at dksX4_back_0 1 rfl rfl)
theorem dX4_back_4 : decode cX4_back 4 = .ok (.ifCond .ne 6, 3) := dk_154 0 6 (dk_at dksX4_back_0 4 rfl rfl)
theorem dX4_back_7 : decode cX4_back 7 = .ok (.bipush (-3), 2) := dk_16 253 (dk_at dksX4_back_0 7 rfl rfl)
theorem dX4_back_9 : decode cX4_back 9 = .ok (.ireturn, 1) := dk_172 (dk_at dksX4_back_0 9 rfl rfl)
theorem dX4_back_10 : decode cX4_back 10 = .ok (.aload_n 0, 1) := dk_42 (dk_at dksX4_back_0 10 rfl rfl)
theorem dX4_back_11 : decode cX4_back 11 = .ok (.aload_n 0, 1) := dk_42 (dk_at dksX4_back_0 11 rfl rfl)
theorem dX4_back_12 : decode cX4_back 12 = .ok (.getfield 94, 3) := dk_180 0 94 (dk_at dksX4_back_0 12 rfl rfl)
theorem dX4_back_15 : decode cX4_back 15 = .ok (.invokevirtual 343, 3) := dk_182 1 87 (dk_at dksX4_back_0 15 rfl rfl)
theorem dX4_back_18 : decode cX4_back 18 = .ok (.aload_n 0, 1) := dk_42 (dk_at dksX4_back_0 18 rfl rfl)
theorem dX4_back_19 : decode cX4_back 19 = .ok (.getfield 122, 3) := dk_180 0 122 (dk_at dksX4_back_0 19 rfl rfl)
theorem dX4_back_22 : decode cX4_back 22 = .ok (.ireturn, 1) := dk_172 (dk_at dksX4_back_0 22 rfl rfl)
theorem q116 : (Jvm.Cond.initialized "LinesTouchedModel") ∈ lw_all := lw_g (lw_at lw_m1 11 rfl) rfl
theorem q913 : (Jvm.Cond.selects "LinesTouchedModel" ({ cls := "java/lang/Object", name := "hashCode", desc := "()I" } : Jvm.MethodName) ({ cls := "java/lang/Object", name := "hashCode", desc := "()I" } : Jvm.MethodName)) ∈ lw_all := lw_g (lw_at lw_m4 88 rfl) rfl
theorem q1124 : (Jvm.Cond.selects "LinesTouchedModel" ({ cls := "java/lang/Object", name := "getClass", desc := "()Ljava/lang/Class;" } : Jvm.MethodName) ({ cls := "java/lang/Object", name := "getClass", desc := "()Ljava/lang/Class;" } : Jvm.MethodName)) ∈ lw_all := lw_g (lw_at lw_m5 59 rfl) rfl
theorem q1373 : (Jvm.Cond.selects "LinesTouchedModel" ({ cls := "java/lang/Object", name := "equals", desc := "(Ljava/lang/Object;)Z" } : Jvm.MethodName) ({ cls := "java/lang/Object", name := "equals", desc := "(Ljava/lang/Object;)Z" } : Jvm.MethodName)) ∈ lw_all := lw_g (lw_at lw_m6 68 rfl) rfl
theorem q2521 : (Jvm.Cond.instantiable "LinesTouchedModel" (50 : Nat)) ∈ lw_all := lw_g (lw_at lw_m11 16 rfl) rfl
theorem q2523 : (Jvm.Cond.instanceMethod ({ cls := "LinesTouchedModel", name := "<init>", desc := "()V" } : Jvm.MethodName)) ∈ lw_all := lw_g (lw_at lw_m11 18 rfl) rfl
theorem q2524 : (Jvm.Cond.code ({ cls := "LinesTouchedModel", name := "<init>", desc := "()V" } : Jvm.MethodName) prog_32_method_1_code (1 : Nat) (Option.none : Option Jvm.ClassFile.FieldType)) ∈ lw_all := lw_g (lw_at lw_m11 19 rfl) rfl
theorem q2525 : (Jvm.Cond.methodLink "LinesTouchedModel" (1 : Nat) ({ cls := "java/lang/Object", name := "<init>", desc := "()V" } : Jvm.MethodName)) ∈ lw_all := lw_g (lw_at lw_m11 20 rfl) rfl
theorem q2526 : (Jvm.Cond.fieldLink "LinesTouchedModel" (122 : Nat) "LinesTouchedModel" "many" "I") ∈ lw_all := lw_g (lw_at lw_m11 21 rfl) rfl
theorem q2527 : (Jvm.Cond.fieldLink "LinesTouchedModel" (7 : Nat) "LinesTouchedModel" "z" "I") ∈ lw_all := lw_g (lw_at lw_m11 22 rfl) rfl
theorem q2528 : (Jvm.Cond.fieldLink "LinesTouchedModel" (13 : Nat) "LinesTouchedModel" "kind" "[I") ∈ lw_all := lw_g (lw_at lw_m11 23 rfl) rfl
theorem q2529 : (Jvm.Cond.fieldLink "LinesTouchedModel" (17 : Nat) "LinesTouchedModel" "weight" "[I") ∈ lw_all := lw_g (lw_at lw_m11 24 rfl) rfl
theorem q2530 : (Jvm.Cond.fieldLink "LinesTouchedModel" (20 : Nat) "LinesTouchedModel" "next" "[I") ∈ lw_all := lw_g (lw_at lw_m11 25 rfl) rfl
theorem q2531 : (Jvm.Cond.fieldLink "LinesTouchedModel" (23 : Nat) "LinesTouchedModel" "mateOf" "[I") ∈ lw_all := lw_g (lw_at lw_m11 26 rfl) rfl
theorem q2532 : (Jvm.Cond.fieldLink "LinesTouchedModel" (190 : Nat) "LinesTouchedModel" "seen" "I") ∈ lw_all := lw_g (lw_at lw_m11 27 rfl) rfl
theorem q2533 : (Jvm.Cond.fieldLink "LinesTouchedModel" (26 : Nat) "LinesTouchedModel" "half" "[I") ∈ lw_all := lw_g (lw_at lw_m11 28 rfl) rfl
theorem q2534 : (Jvm.Cond.fieldLink "LinesTouchedModel" (29 : Nat) "LinesTouchedModel" "partner" "[I") ∈ lw_all := lw_g (lw_at lw_m11 29 rfl) rfl
theorem q2535 : (Jvm.Cond.fieldLink "LinesTouchedModel" (225 : Nat) "LinesTouchedModel" "kernelLeft" "I") ∈ lw_all := lw_g (lw_at lw_m11 30 rfl) rfl
theorem q2536 : (Jvm.Cond.fieldLink "LinesTouchedModel" (237 : Nat) "LinesTouchedModel" "kernelTaken" "I") ∈ lw_all := lw_g (lw_at lw_m11 31 rfl) rfl
theorem q2537 : (Jvm.Cond.fieldLink "LinesTouchedModel" (231 : Nat) "LinesTouchedModel" "kernelK" "I") ∈ lw_all := lw_g (lw_at lw_m11 32 rfl) rfl
theorem q2538 : (Jvm.Cond.fieldLink "LinesTouchedModel" (240 : Nat) "LinesTouchedModel" "rounds" "I") ∈ lw_all := lw_g (lw_at lw_m11 33 rfl) rfl
theorem q2539 : (Jvm.Cond.fieldLink "LinesTouchedModel" (32 : Nat) "LinesTouchedModel" "roundRow" "[I") ∈ lw_all := lw_g (lw_at lw_m11 34 rfl) rfl
theorem q2540 : (Jvm.Cond.fieldLink "LinesTouchedModel" (35 : Nat) "LinesTouchedModel" "worths" "[I") ∈ lw_all := lw_g (lw_at lw_m11 35 rfl) rfl
theorem q2541 : (Jvm.Cond.fieldLink "LinesTouchedModel" (38 : Nat) "LinesTouchedModel" "fewest" "[I") ∈ lw_all := lw_g (lw_at lw_m11 36 rfl) rfl
theorem q2542 : (Jvm.Cond.fieldLink "LinesTouchedModel" (259 : Nat) "LinesTouchedModel" "nodeMany" "I") ∈ lw_all := lw_g (lw_at lw_m11 37 rfl) rfl
theorem q2543 : (Jvm.Cond.fieldLink "LinesTouchedModel" (271 : Nat) "LinesTouchedModel" "refused" "I") ∈ lw_all := lw_g (lw_at lw_m11 38 rfl) rfl
theorem q2544 : (Jvm.Cond.fieldLink "LinesTouchedModel" (262 : Nat) "LinesTouchedModel" "deepest" "I") ∈ lw_all := lw_g (lw_at lw_m11 39 rfl) rfl
theorem q2545 : (Jvm.Cond.fieldLink "LinesTouchedModel" (268 : Nat) "LinesTouchedModel" "wanted" "I") ∈ lw_all := lw_g (lw_at lw_m11 40 rfl) rfl
theorem q2546 : (Jvm.Cond.fieldLink "LinesTouchedModel" (41 : Nat) "LinesTouchedModel" "nodeRow" "[I") ∈ lw_all := lw_g (lw_at lw_m11 41 rfl) rfl
theorem q2547 : (Jvm.Cond.fieldLink "LinesTouchedModel" (44 : Nat) "LinesTouchedModel" "branches" "[I") ∈ lw_all := lw_g (lw_at lw_m11 42 rfl) rfl
theorem q2548 : (Jvm.Cond.fieldLink "LinesTouchedModel" (280 : Nat) "LinesTouchedModel" "readTo" "I") ∈ lw_all := lw_g (lw_at lw_m11 43 rfl) rfl
theorem q2549 : (Jvm.Cond.fieldLink "LinesTouchedModel" (47 : Nat) "LinesTouchedModel" "purse" "[I") ∈ lw_all := lw_g (lw_at lw_m11 44 rfl) rfl
theorem q2550 : (Jvm.Cond.fieldLink "LinesTouchedModel" (50 : Nat) "LinesTouchedModel" "tape" "[I") ∈ lw_all := lw_g (lw_at lw_m11 45 rfl) rfl
theorem q2551 : (Jvm.Cond.fieldLink "LinesTouchedModel" (162 : Nat) "LinesTouchedModel" "taped" "I") ∈ lw_all := lw_g (lw_at lw_m11 46 rfl) rfl
theorem q2552 : (Jvm.Cond.fieldLink "LinesTouchedModel" (165 : Nat) "LinesTouchedModel" "treeMany" "I") ∈ lw_all := lw_g (lw_at lw_m11 47 rfl) rfl
theorem q2553 : (Jvm.Cond.fieldLink "LinesTouchedModel" (53 : Nat) "LinesTouchedModel" "treeKind" "[I") ∈ lw_all := lw_g (lw_at lw_m11 48 rfl) rfl
theorem q2554 : (Jvm.Cond.fieldLink "LinesTouchedModel" (56 : Nat) "LinesTouchedModel" "treeWeight" "[I") ∈ lw_all := lw_g (lw_at lw_m11 49 rfl) rfl
theorem q2555 : (Jvm.Cond.fieldLink "LinesTouchedModel" (59 : Nat) "LinesTouchedModel" "treeIn" "[I") ∈ lw_all := lw_g (lw_at lw_m11 50 rfl) rfl
theorem q2556 : (Jvm.Cond.fieldLink "LinesTouchedModel" (298 : Nat) "LinesTouchedModel" "readMany" "I") ∈ lw_all := lw_g (lw_at lw_m11 51 rfl) rfl
theorem q2557 : (Jvm.Cond.fieldLink "LinesTouchedModel" (62 : Nat) "LinesTouchedModel" "readKind" "[I") ∈ lw_all := lw_g (lw_at lw_m11 52 rfl) rfl
theorem q2558 : (Jvm.Cond.fieldLink "LinesTouchedModel" (65 : Nat) "LinesTouchedModel" "readWeight" "[I") ∈ lw_all := lw_g (lw_at lw_m11 53 rfl) rfl
theorem q2559 : (Jvm.Cond.fieldLink "LinesTouchedModel" (68 : Nat) "LinesTouchedModel" "readIn" "[I") ∈ lw_all := lw_g (lw_at lw_m11 54 rfl) rfl
theorem q2560 : (Jvm.Cond.fieldLink "LinesTouchedModel" (71 : Nat) "LinesTouchedModel" "with" "[J") ∈ lw_all := lw_g (lw_at lw_m11 55 rfl) rfl
theorem q2561 : (Jvm.Cond.fieldLink "LinesTouchedModel" (75 : Nat) "LinesTouchedModel" "without" "[J") ∈ lw_all := lw_g (lw_at lw_m11 56 rfl) rfl
theorem q2562 : (Jvm.Cond.fieldLink "LinesTouchedModel" (78 : Nat) "LinesTouchedModel" "withWays" "[J") ∈ lw_all := lw_g (lw_at lw_m11 57 rfl) rfl
theorem q2563 : (Jvm.Cond.fieldLink "LinesTouchedModel" (81 : Nat) "LinesTouchedModel" "withoutWays" "[J") ∈ lw_all := lw_g (lw_at lw_m11 58 rfl) rfl
theorem q2564 : (Jvm.Cond.fieldLink "LinesTouchedModel" (84 : Nat) "LinesTouchedModel" "lacks" "[J") ∈ lw_all := lw_g (lw_at lw_m11 59 rfl) rfl
theorem q2565 : (Jvm.Cond.fieldLink "LinesTouchedModel" (87 : Nat) "LinesTouchedModel" "marks" "[Z") ∈ lw_all := lw_g (lw_at lw_m11 60 rfl) rfl
theorem q2566 : (Jvm.Cond.fieldLink "LinesTouchedModel" (91 : Nat) "LinesTouchedModel" "aside" "[I") ∈ lw_all := lw_g (lw_at lw_m11 61 rfl) rfl
theorem q2567 : (Jvm.Cond.fieldLink "LinesTouchedModel" (94 : Nat) "LinesTouchedModel" "imageRow" "[I") ∈ lw_all := lw_g (lw_at lw_m11 62 rfl) rfl
theorem q2568 : (Jvm.Cond.fieldLink "LinesTouchedModel" (355 : Nat) "LinesTouchedModel" "hasImage" "Z") ∈ lw_all := lw_g (lw_at lw_m11 63 rfl) rfl
theorem q2569 : (Jvm.Cond.fieldLink "LinesTouchedModel" (97 : Nat) "LinesTouchedModel" "sort" "[I") ∈ lw_all := lw_g (lw_at lw_m11 64 rfl) rfl
theorem q2570 : (Jvm.Cond.fieldLink "LinesTouchedModel" (100 : Nat) "LinesTouchedModel" "size" "[I") ∈ lw_all := lw_g (lw_at lw_m11 65 rfl) rfl
theorem q2571 : (Jvm.Cond.fieldLink "LinesTouchedModel" (103 : Nat) "LinesTouchedModel" "items" "[I") ∈ lw_all := lw_g (lw_at lw_m11 66 rfl) rfl
theorem q2572 : (Jvm.Cond.fieldLink "LinesTouchedModel" (106 : Nat) "LinesTouchedModel" "heldWhat" "[I") ∈ lw_all := lw_g (lw_at lw_m11 67 rfl) rfl
theorem q2573 : (Jvm.Cond.fieldLink "LinesTouchedModel" (109 : Nat) "LinesTouchedModel" "heldPoint" "[I") ∈ lw_all := lw_g (lw_at lw_m11 68 rfl) rfl
theorem q2574 : (Jvm.Cond.fieldLink "LinesTouchedModel" (112 : Nat) "LinesTouchedModel" "heldSort" "[I") ∈ lw_all := lw_g (lw_at lw_m11 69 rfl) rfl
theorem q2575 : (Jvm.Cond.fieldLink "LinesTouchedModel" (115 : Nat) "LinesTouchedModel" "heldSize" "[I") ∈ lw_all := lw_g (lw_at lw_m11 70 rfl) rfl
theorem q2576 : (Jvm.Cond.lays "LinesTouchedModel" "LinesTouchedModel" "many" "I") ∈ lw_all := lw_g (lw_at lw_m11 71 rfl) rfl
theorem q2577 : (Jvm.Cond.soleField "LinesTouchedModel" "many") ∈ lw_all := lw_g (lw_at lw_m11 72 rfl) rfl
theorem q2578 : (Jvm.Cond.lays "LinesTouchedModel" "LinesTouchedModel" "z" "I") ∈ lw_all := lw_g (lw_at lw_m11 73 rfl) rfl
theorem q2579 : (Jvm.Cond.soleField "LinesTouchedModel" "z") ∈ lw_all := lw_g (lw_at lw_m11 74 rfl) rfl
theorem q2580 : (Jvm.Cond.laysFinal "LinesTouchedModel" "LinesTouchedModel" "kind" "[I") ∈ lw_all := lw_g (lw_at lw_m11 75 rfl) rfl
theorem q2581 : (Jvm.Cond.soleField "LinesTouchedModel" "kind") ∈ lw_all := lw_g (lw_at lw_m11 76 rfl) rfl
theorem q2582 : (Jvm.Cond.laysFinal "LinesTouchedModel" "LinesTouchedModel" "weight" "[I") ∈ lw_all := lw_g (lw_at lw_m11 77 rfl) rfl
theorem q2583 : (Jvm.Cond.soleField "LinesTouchedModel" "weight") ∈ lw_all := lw_g (lw_at lw_m11 78 rfl) rfl
theorem q2584 : (Jvm.Cond.laysFinal "LinesTouchedModel" "LinesTouchedModel" "next" "[I") ∈ lw_all := lw_g (lw_at lw_m11 79 rfl) rfl
theorem q2585 : (Jvm.Cond.soleField "LinesTouchedModel" "next") ∈ lw_all := lw_g (lw_at lw_m11 80 rfl) rfl
theorem q2586 : (Jvm.Cond.laysFinal "LinesTouchedModel" "LinesTouchedModel" "mateOf" "[I") ∈ lw_all := lw_g (lw_at lw_m11 81 rfl) rfl
theorem q2587 : (Jvm.Cond.soleField "LinesTouchedModel" "mateOf") ∈ lw_all := lw_g (lw_at lw_m11 82 rfl) rfl
theorem q2588 : (Jvm.Cond.lays "LinesTouchedModel" "LinesTouchedModel" "seen" "I") ∈ lw_all := lw_g (lw_at lw_m11 83 rfl) rfl
theorem q2589 : (Jvm.Cond.soleField "LinesTouchedModel" "seen") ∈ lw_all := lw_g (lw_at lw_m11 84 rfl) rfl
theorem q2590 : (Jvm.Cond.laysFinal "LinesTouchedModel" "LinesTouchedModel" "half" "[I") ∈ lw_all := lw_g (lw_at lw_m11 85 rfl) rfl
theorem q2591 : (Jvm.Cond.soleField "LinesTouchedModel" "half") ∈ lw_all := lw_g (lw_at lw_m11 86 rfl) rfl
theorem q2592 : (Jvm.Cond.laysFinal "LinesTouchedModel" "LinesTouchedModel" "partner" "[I") ∈ lw_all := lw_g (lw_at lw_m11 87 rfl) rfl
theorem q2593 : (Jvm.Cond.soleField "LinesTouchedModel" "partner") ∈ lw_all := lw_g (lw_at lw_m11 88 rfl) rfl
theorem q2594 : (Jvm.Cond.lays "LinesTouchedModel" "LinesTouchedModel" "kernelLeft" "I") ∈ lw_all := lw_g (lw_at lw_m11 89 rfl) rfl
theorem q2595 : (Jvm.Cond.soleField "LinesTouchedModel" "kernelLeft") ∈ lw_all := lw_g (lw_at lw_m11 90 rfl) rfl
theorem q2596 : (Jvm.Cond.lays "LinesTouchedModel" "LinesTouchedModel" "kernelTaken" "I") ∈ lw_all := lw_g (lw_at lw_m11 91 rfl) rfl
theorem q2597 : (Jvm.Cond.soleField "LinesTouchedModel" "kernelTaken") ∈ lw_all := lw_g (lw_at lw_m11 92 rfl) rfl
theorem q2598 : (Jvm.Cond.lays "LinesTouchedModel" "LinesTouchedModel" "kernelK" "I") ∈ lw_all := lw_g (lw_at lw_m11 93 rfl) rfl
theorem q2599 : (Jvm.Cond.soleField "LinesTouchedModel" "kernelK") ∈ lw_all := lw_g (lw_at lw_m11 94 rfl) rfl
theorem q2600 : (Jvm.Cond.lays "LinesTouchedModel" "LinesTouchedModel" "rounds" "I") ∈ lw_all := lw_g (lw_at lw_m11 95 rfl) rfl
theorem q2601 : (Jvm.Cond.soleField "LinesTouchedModel" "rounds") ∈ lw_all := lw_g (lw_at lw_m11 96 rfl) rfl
theorem q2602 : (Jvm.Cond.laysFinal "LinesTouchedModel" "LinesTouchedModel" "roundRow" "[I") ∈ lw_all := lw_g (lw_at lw_m11 97 rfl) rfl
theorem q2603 : (Jvm.Cond.soleField "LinesTouchedModel" "roundRow") ∈ lw_all := lw_g (lw_at lw_m11 98 rfl) rfl
theorem q2604 : (Jvm.Cond.laysFinal "LinesTouchedModel" "LinesTouchedModel" "worths" "[I") ∈ lw_all := lw_g (lw_at lw_m11 99 rfl) rfl
theorem q2605 : (Jvm.Cond.soleField "LinesTouchedModel" "worths") ∈ lw_all := lw_g (lw_at lw_m11 100 rfl) rfl
theorem q2606 : (Jvm.Cond.laysFinal "LinesTouchedModel" "LinesTouchedModel" "fewest" "[I") ∈ lw_all := lw_g (lw_at lw_m11 101 rfl) rfl
theorem q2607 : (Jvm.Cond.soleField "LinesTouchedModel" "fewest") ∈ lw_all := lw_g (lw_at lw_m11 102 rfl) rfl
theorem q2608 : (Jvm.Cond.lays "LinesTouchedModel" "LinesTouchedModel" "nodeMany" "I") ∈ lw_all := lw_g (lw_at lw_m11 103 rfl) rfl
theorem q2609 : (Jvm.Cond.soleField "LinesTouchedModel" "nodeMany") ∈ lw_all := lw_g (lw_at lw_m11 104 rfl) rfl
theorem q2610 : (Jvm.Cond.lays "LinesTouchedModel" "LinesTouchedModel" "refused" "I") ∈ lw_all := lw_g (lw_at lw_m11 105 rfl) rfl
theorem q2611 : (Jvm.Cond.soleField "LinesTouchedModel" "refused") ∈ lw_all := lw_g (lw_at lw_m11 106 rfl) rfl
theorem q2612 : (Jvm.Cond.lays "LinesTouchedModel" "LinesTouchedModel" "deepest" "I") ∈ lw_all := lw_g (lw_at lw_m11 107 rfl) rfl
theorem q2613 : (Jvm.Cond.soleField "LinesTouchedModel" "deepest") ∈ lw_all := lw_g (lw_at lw_m11 108 rfl) rfl
theorem q2614 : (Jvm.Cond.lays "LinesTouchedModel" "LinesTouchedModel" "wanted" "I") ∈ lw_all := lw_g (lw_at lw_m11 109 rfl) rfl
theorem q2615 : (Jvm.Cond.soleField "LinesTouchedModel" "wanted") ∈ lw_all := lw_g (lw_at lw_m11 110 rfl) rfl
theorem q2616 : (Jvm.Cond.laysFinal "LinesTouchedModel" "LinesTouchedModel" "nodeRow" "[I") ∈ lw_all := lw_g (lw_at lw_m11 111 rfl) rfl
theorem q2617 : (Jvm.Cond.soleField "LinesTouchedModel" "nodeRow") ∈ lw_all := lw_g (lw_at lw_m11 112 rfl) rfl
theorem q2618 : (Jvm.Cond.laysFinal "LinesTouchedModel" "LinesTouchedModel" "branches" "[I") ∈ lw_all := lw_g (lw_at lw_m11 113 rfl) rfl
theorem q2619 : (Jvm.Cond.soleField "LinesTouchedModel" "branches") ∈ lw_all := lw_g (lw_at lw_m11 114 rfl) rfl
theorem q2620 : (Jvm.Cond.lays "LinesTouchedModel" "LinesTouchedModel" "readTo" "I") ∈ lw_all := lw_g (lw_at lw_m11 115 rfl) rfl
theorem q2621 : (Jvm.Cond.soleField "LinesTouchedModel" "readTo") ∈ lw_all := lw_g (lw_at lw_m11 116 rfl) rfl
theorem q2622 : (Jvm.Cond.laysFinal "LinesTouchedModel" "LinesTouchedModel" "purse" "[I") ∈ lw_all := lw_g (lw_at lw_m11 117 rfl) rfl
theorem q2623 : (Jvm.Cond.soleField "LinesTouchedModel" "purse") ∈ lw_all := lw_g (lw_at lw_m11 118 rfl) rfl
theorem q2624 : (Jvm.Cond.laysFinal "LinesTouchedModel" "LinesTouchedModel" "tape" "[I") ∈ lw_all := lw_g (lw_at lw_m11 119 rfl) rfl
theorem q2625 : (Jvm.Cond.soleField "LinesTouchedModel" "tape") ∈ lw_all := lw_g (lw_at lw_m11 120 rfl) rfl
theorem q2626 : (Jvm.Cond.lays "LinesTouchedModel" "LinesTouchedModel" "taped" "I") ∈ lw_all := lw_g (lw_at lw_m11 121 rfl) rfl
theorem q2627 : (Jvm.Cond.soleField "LinesTouchedModel" "taped") ∈ lw_all := lw_g (lw_at lw_m11 122 rfl) rfl
theorem q2628 : (Jvm.Cond.lays "LinesTouchedModel" "LinesTouchedModel" "treeMany" "I") ∈ lw_all := lw_g (lw_at lw_m11 123 rfl) rfl
theorem q2629 : (Jvm.Cond.soleField "LinesTouchedModel" "treeMany") ∈ lw_all := lw_g (lw_at lw_m11 124 rfl) rfl
theorem q2630 : (Jvm.Cond.laysFinal "LinesTouchedModel" "LinesTouchedModel" "treeKind" "[I") ∈ lw_all := lw_g (lw_at lw_m11 125 rfl) rfl
theorem q2631 : (Jvm.Cond.soleField "LinesTouchedModel" "treeKind") ∈ lw_all := lw_g (lw_at lw_m11 126 rfl) rfl
theorem q2632 : (Jvm.Cond.laysFinal "LinesTouchedModel" "LinesTouchedModel" "treeWeight" "[I") ∈ lw_all := lw_g (lw_at lw_m11 127 rfl) rfl
theorem q2633 : (Jvm.Cond.soleField "LinesTouchedModel" "treeWeight") ∈ lw_all := lw_g (lw_at lw_m11 128 rfl) rfl
theorem q2634 : (Jvm.Cond.laysFinal "LinesTouchedModel" "LinesTouchedModel" "treeIn" "[I") ∈ lw_all := lw_g (lw_at lw_m11 129 rfl) rfl
theorem q2635 : (Jvm.Cond.soleField "LinesTouchedModel" "treeIn") ∈ lw_all := lw_g (lw_at lw_m11 130 rfl) rfl
theorem q2636 : (Jvm.Cond.lays "LinesTouchedModel" "LinesTouchedModel" "readMany" "I") ∈ lw_all := lw_g (lw_at lw_m11 131 rfl) rfl
theorem q2637 : (Jvm.Cond.soleField "LinesTouchedModel" "readMany") ∈ lw_all := lw_g (lw_at lw_m11 132 rfl) rfl
theorem q2638 : (Jvm.Cond.laysFinal "LinesTouchedModel" "LinesTouchedModel" "readKind" "[I") ∈ lw_all := lw_g (lw_at lw_m11 133 rfl) rfl
theorem q2639 : (Jvm.Cond.soleField "LinesTouchedModel" "readKind") ∈ lw_all := lw_g (lw_at lw_m11 134 rfl) rfl
theorem q2640 : (Jvm.Cond.laysFinal "LinesTouchedModel" "LinesTouchedModel" "readWeight" "[I") ∈ lw_all := lw_g (lw_at lw_m11 135 rfl) rfl
theorem q2641 : (Jvm.Cond.soleField "LinesTouchedModel" "readWeight") ∈ lw_all := lw_g (lw_at lw_m11 136 rfl) rfl
theorem q2642 : (Jvm.Cond.laysFinal "LinesTouchedModel" "LinesTouchedModel" "readIn" "[I") ∈ lw_all := lw_g (lw_at lw_m11 137 rfl) rfl
theorem q2643 : (Jvm.Cond.soleField "LinesTouchedModel" "readIn") ∈ lw_all := lw_g (lw_at lw_m11 138 rfl) rfl
theorem q2644 : (Jvm.Cond.laysFinal "LinesTouchedModel" "LinesTouchedModel" "with" "[J") ∈ lw_all := lw_g (lw_at lw_m11 139 rfl) rfl
theorem q2645 : (Jvm.Cond.soleField "LinesTouchedModel" "with") ∈ lw_all := lw_g (lw_at lw_m11 140 rfl) rfl
theorem q2646 : (Jvm.Cond.laysFinal "LinesTouchedModel" "LinesTouchedModel" "without" "[J") ∈ lw_all := lw_g (lw_at lw_m11 141 rfl) rfl
theorem q2647 : (Jvm.Cond.soleField "LinesTouchedModel" "without") ∈ lw_all := lw_g (lw_at lw_m11 142 rfl) rfl
theorem q2648 : (Jvm.Cond.laysFinal "LinesTouchedModel" "LinesTouchedModel" "withWays" "[J") ∈ lw_all := lw_g (lw_at lw_m11 143 rfl) rfl
theorem q2649 : (Jvm.Cond.soleField "LinesTouchedModel" "withWays") ∈ lw_all := lw_g (lw_at lw_m11 144 rfl) rfl
theorem q2650 : (Jvm.Cond.laysFinal "LinesTouchedModel" "LinesTouchedModel" "withoutWays" "[J") ∈ lw_all := lw_g (lw_at lw_m11 145 rfl) rfl
theorem q2651 : (Jvm.Cond.soleField "LinesTouchedModel" "withoutWays") ∈ lw_all := lw_g (lw_at lw_m11 146 rfl) rfl
theorem q2652 : (Jvm.Cond.laysFinal "LinesTouchedModel" "LinesTouchedModel" "lacks" "[J") ∈ lw_all := lw_g (lw_at lw_m11 147 rfl) rfl
theorem q2653 : (Jvm.Cond.soleField "LinesTouchedModel" "lacks") ∈ lw_all := lw_g (lw_at lw_m11 148 rfl) rfl
theorem q2654 : (Jvm.Cond.laysFinal "LinesTouchedModel" "LinesTouchedModel" "marks" "[Z") ∈ lw_all := lw_g (lw_at lw_m11 149 rfl) rfl
theorem q2655 : (Jvm.Cond.soleField "LinesTouchedModel" "marks") ∈ lw_all := lw_g (lw_at lw_m11 150 rfl) rfl
theorem q2656 : (Jvm.Cond.laysFinal "LinesTouchedModel" "LinesTouchedModel" "aside" "[I") ∈ lw_all := lw_g (lw_at lw_m11 151 rfl) rfl
theorem q2657 : (Jvm.Cond.soleField "LinesTouchedModel" "aside") ∈ lw_all := lw_g (lw_at lw_m11 152 rfl) rfl
theorem q2658 : (Jvm.Cond.laysFinal "LinesTouchedModel" "LinesTouchedModel" "imageRow" "[I") ∈ lw_all := lw_g (lw_at lw_m11 153 rfl) rfl
theorem q2659 : (Jvm.Cond.soleField "LinesTouchedModel" "imageRow") ∈ lw_all := lw_g (lw_at lw_m11 154 rfl) rfl
theorem q2660 : (Jvm.Cond.lays "LinesTouchedModel" "LinesTouchedModel" "hasImage" "Z") ∈ lw_all := lw_g (lw_at lw_m11 155 rfl) rfl
theorem q2661 : (Jvm.Cond.soleField "LinesTouchedModel" "hasImage") ∈ lw_all := lw_g (lw_at lw_m11 156 rfl) rfl
theorem q2662 : (Jvm.Cond.laysFinal "LinesTouchedModel" "LinesTouchedModel" "sort" "[I") ∈ lw_all := lw_g (lw_at lw_m11 157 rfl) rfl
theorem q2663 : (Jvm.Cond.soleField "LinesTouchedModel" "sort") ∈ lw_all := lw_g (lw_at lw_m11 158 rfl) rfl
theorem q2664 : (Jvm.Cond.laysFinal "LinesTouchedModel" "LinesTouchedModel" "size" "[I") ∈ lw_all := lw_g (lw_at lw_m11 159 rfl) rfl
theorem q2665 : (Jvm.Cond.soleField "LinesTouchedModel" "size") ∈ lw_all := lw_g (lw_at lw_m11 160 rfl) rfl
theorem q2666 : (Jvm.Cond.laysFinal "LinesTouchedModel" "LinesTouchedModel" "items" "[I") ∈ lw_all := lw_g (lw_at lw_m11 161 rfl) rfl
theorem q2667 : (Jvm.Cond.soleField "LinesTouchedModel" "items") ∈ lw_all := lw_g (lw_at lw_m11 162 rfl) rfl
theorem q2668 : (Jvm.Cond.laysFinal "LinesTouchedModel" "LinesTouchedModel" "heldWhat" "[I") ∈ lw_all := lw_g (lw_at lw_m11 163 rfl) rfl
theorem q2669 : (Jvm.Cond.soleField "LinesTouchedModel" "heldWhat") ∈ lw_all := lw_g (lw_at lw_m11 164 rfl) rfl
theorem q2670 : (Jvm.Cond.laysFinal "LinesTouchedModel" "LinesTouchedModel" "heldPoint" "[I") ∈ lw_all := lw_g (lw_at lw_m11 165 rfl) rfl
theorem q2671 : (Jvm.Cond.soleField "LinesTouchedModel" "heldPoint") ∈ lw_all := lw_g (lw_at lw_m11 166 rfl) rfl
theorem q2672 : (Jvm.Cond.laysFinal "LinesTouchedModel" "LinesTouchedModel" "heldSort" "[I") ∈ lw_all := lw_g (lw_at lw_m11 167 rfl) rfl
theorem q2673 : (Jvm.Cond.soleField "LinesTouchedModel" "heldSort") ∈ lw_all := lw_g (lw_at lw_m11 168 rfl) rfl
theorem q2674 : (Jvm.Cond.laysFinal "LinesTouchedModel" "LinesTouchedModel" "heldSize" "[I") ∈ lw_all := lw_g (lw_at lw_m11 169 rfl) rfl
theorem q2675 : (Jvm.Cond.soleField "LinesTouchedModel" "heldSize") ∈ lw_all := lw_g (lw_at lw_m11 170 rfl) rfl
theorem q2676 : (Jvm.Cond.superclass "LinesTouchedModel" "java/lang/Object") ∈ lw_all := lw_g (lw_at lw_m11 171 rfl) rfl
theorem q2678 : (Jvm.Cond.instanceMethod ({ cls := "LinesTouchedModel", name := "point", desc := "(II)I" } : Jvm.MethodName)) ∈ lw_all := lw_g (lw_at lw_m11 173 rfl) rfl
theorem q2679 : (Jvm.Cond.selects "LinesTouchedModel" ({ cls := "LinesTouchedModel", name := "point", desc := "(II)I" } : Jvm.MethodName) ({ cls := "LinesTouchedModel", name := "point", desc := "(II)I" } : Jvm.MethodName)) ∈ lw_all := lw_g (lw_at lw_m11 174 rfl) rfl
theorem q2680 : (Jvm.Cond.code ({ cls := "LinesTouchedModel", name := "point", desc := "(II)I" } : Jvm.MethodName) prog_32_method_12_code (3 : Nat) (Option.some Jvm.ClassFile.FieldType.int)) ∈ lw_all := lw_g (lw_at lw_m11 175 rfl) rfl
theorem q2681 : (Jvm.Cond.methodLink "LinesTouchedModel" (125 : Nat) ({ cls := "LinesTouchedModel", name := "in", desc := "(III)Z" } : Jvm.MethodName)) ∈ lw_all := lw_g (lw_at lw_m11 176 rfl) rfl
theorem q2682 : (Jvm.Cond.static ({ cls := "LinesTouchedModel", name := "in", desc := "(III)Z" } : Jvm.MethodName)) ∈ lw_all := lw_g (lw_at lw_m11 177 rfl) rfl
theorem q2683 : (Jvm.Cond.code ({ cls := "LinesTouchedModel", name := "in", desc := "(III)Z" } : Jvm.MethodName) prog_32_method_2_code (3 : Nat) (Option.some Jvm.ClassFile.FieldType.boolean)) ∈ lw_all := lw_g (lw_at lw_m11 178 rfl) rfl
theorem q2684 : (Jvm.Cond.methodLink "LinesTouchedModel" (141 : Nat) ({ cls := "LinesTouchedModel", name := "comes", desc := "(II)V" } : Jvm.MethodName)) ∈ lw_all := lw_g (lw_at lw_m11 179 rfl) rfl
theorem q2685 : (Jvm.Cond.privateMethod ({ cls := "LinesTouchedModel", name := "comes", desc := "(II)V" } : Jvm.MethodName)) ∈ lw_tbl := lw_at lw_m11 180 rfl
theorem q2686 : (Jvm.Cond.instanceMethod ({ cls := "LinesTouchedModel", name := "comes", desc := "(II)V" } : Jvm.MethodName)) ∈ lw_all := lw_g (lw_at lw_m11 181 rfl) rfl
theorem q2687 : (Jvm.Cond.code ({ cls := "LinesTouchedModel", name := "comes", desc := "(II)V" } : Jvm.MethodName) prog_32_method_11_code (3 : Nat) (Option.none : Option Jvm.ClassFile.FieldType)) ∈ lw_all := lw_g (lw_at lw_m11 182 rfl) rfl
theorem q2689 : (Jvm.Cond.instanceMethod ({ cls := "LinesTouchedModel", name := "line", desc := "(III)I" } : Jvm.MethodName)) ∈ lw_all := lw_g (lw_at lw_m11 184 rfl) rfl
theorem q2690 : (Jvm.Cond.selects "LinesTouchedModel" ({ cls := "LinesTouchedModel", name := "line", desc := "(III)I" } : Jvm.MethodName) ({ cls := "LinesTouchedModel", name := "line", desc := "(III)I" } : Jvm.MethodName)) ∈ lw_all := lw_g (lw_at lw_m11 185 rfl) rfl
theorem q2691 : (Jvm.Cond.code ({ cls := "LinesTouchedModel", name := "line", desc := "(III)I" } : Jvm.MethodName) prog_32_method_15_code (5 : Nat) (Option.some Jvm.ClassFile.FieldType.int)) ∈ lw_all := lw_g (lw_at lw_m11 186 rfl) rfl
theorem q2692 : (Jvm.Cond.methodLink "LinesTouchedModel" (149 : Nat) ({ cls := "LinesTouchedModel", name := "areTwo", desc := "(II)Z" } : Jvm.MethodName)) ∈ lw_all := lw_g (lw_at lw_m11 187 rfl) rfl
theorem q2693 : (Jvm.Cond.privateMethod ({ cls := "LinesTouchedModel", name := "areTwo", desc := "(II)Z" } : Jvm.MethodName)) ∈ lw_tbl := lw_at lw_m11 188 rfl
theorem q2694 : (Jvm.Cond.instanceMethod ({ cls := "LinesTouchedModel", name := "areTwo", desc := "(II)Z" } : Jvm.MethodName)) ∈ lw_all := lw_g (lw_at lw_m11 189 rfl) rfl
theorem q2695 : (Jvm.Cond.code ({ cls := "LinesTouchedModel", name := "areTwo", desc := "(II)Z" } : Jvm.MethodName) prog_32_method_14_code (3 : Nat) (Option.some Jvm.ClassFile.FieldType.boolean)) ∈ lw_all := lw_g (lw_at lw_m11 190 rfl) rfl
theorem q2696 : (Jvm.Cond.methodLink "LinesTouchedModel" (145 : Nat) ({ cls := "LinesTouchedModel", name := "isPoint", desc := "(I)Z" } : Jvm.MethodName)) ∈ lw_all := lw_g (lw_at lw_m11 191 rfl) rfl
theorem q2697 : (Jvm.Cond.privateMethod ({ cls := "LinesTouchedModel", name := "isPoint", desc := "(I)Z" } : Jvm.MethodName)) ∈ lw_tbl := lw_at lw_m11 192 rfl
theorem q2698 : (Jvm.Cond.instanceMethod ({ cls := "LinesTouchedModel", name := "isPoint", desc := "(I)Z" } : Jvm.MethodName)) ∈ lw_all := lw_g (lw_at lw_m11 193 rfl) rfl
theorem q2699 : (Jvm.Cond.code ({ cls := "LinesTouchedModel", name := "isPoint", desc := "(I)Z" } : Jvm.MethodName) prog_32_method_7_code (2 : Nat) (Option.some Jvm.ClassFile.FieldType.boolean)) ∈ lw_all := lw_g (lw_at lw_m11 194 rfl) rfl
theorem q2700 : (Jvm.Cond.methodLink "LinesTouchedModel" (152 : Nat) ({ cls := "LinesTouchedModel", name := "lays", desc := "(III)V" } : Jvm.MethodName)) ∈ lw_all := lw_g (lw_at lw_m11 195 rfl) rfl
theorem q2701 : (Jvm.Cond.privateMethod ({ cls := "LinesTouchedModel", name := "lays", desc := "(III)V" } : Jvm.MethodName)) ∈ lw_tbl := lw_at lw_m11 196 rfl
theorem q2702 : (Jvm.Cond.instanceMethod ({ cls := "LinesTouchedModel", name := "lays", desc := "(III)V" } : Jvm.MethodName)) ∈ lw_all := lw_g (lw_at lw_m11 197 rfl) rfl
theorem q2703 : (Jvm.Cond.code ({ cls := "LinesTouchedModel", name := "lays", desc := "(III)V" } : Jvm.MethodName) prog_32_method_13_code (4 : Nat) (Option.none : Option Jvm.ClassFile.FieldType)) ∈ lw_all := lw_g (lw_at lw_m11 198 rfl) rfl
theorem q2705 : (Jvm.Cond.instanceMethod ({ cls := "LinesTouchedModel", name := "pointOf", desc := "(II)I" } : Jvm.MethodName)) ∈ lw_all := lw_g (lw_at lw_m11 200 rfl) rfl
theorem q2706 : (Jvm.Cond.selects "LinesTouchedModel" ({ cls := "LinesTouchedModel", name := "pointOf", desc := "(II)I" } : Jvm.MethodName) ({ cls := "LinesTouchedModel", name := "pointOf", desc := "(II)I" } : Jvm.MethodName)) ∈ lw_all := lw_g (lw_at lw_m11 201 rfl) rfl
theorem q2707 : (Jvm.Cond.code ({ cls := "LinesTouchedModel", name := "pointOf", desc := "(II)I" } : Jvm.MethodName) prog_32_method_16_code (3 : Nat) (Option.some Jvm.ClassFile.FieldType.int)) ∈ lw_all := lw_g (lw_at lw_m11 202 rfl) rfl
theorem q2708 : (Jvm.Cond.methodLink "LinesTouchedModel" (156 : Nat) ({ cls := "LinesTouchedModel", name := "costAt", desc := "(I)I" } : Jvm.MethodName)) ∈ lw_all := lw_g (lw_at lw_m11 203 rfl) rfl
theorem q2709 : (Jvm.Cond.privateMethod ({ cls := "LinesTouchedModel", name := "costAt", desc := "(I)I" } : Jvm.MethodName)) ∈ lw_tbl := lw_at lw_m11 204 rfl
theorem q2710 : (Jvm.Cond.instanceMethod ({ cls := "LinesTouchedModel", name := "costAt", desc := "(I)I" } : Jvm.MethodName)) ∈ lw_all := lw_g (lw_at lw_m11 205 rfl) rfl
theorem q2711 : (Jvm.Cond.code ({ cls := "LinesTouchedModel", name := "costAt", desc := "(I)I" } : Jvm.MethodName) prog_32_method_10_code (2 : Nat) (Option.some Jvm.ClassFile.FieldType.int)) ∈ lw_all := lw_g (lw_at lw_m11 206 rfl) rfl
theorem q2712 : (Jvm.Cond.methodLink "LinesTouchedModel" (133 : Nat) ({ cls := "LinesTouchedModel", name := "bits", desc := "(I)I" } : Jvm.MethodName)) ∈ lw_all := lw_g (lw_at lw_m11 207 rfl) rfl
theorem q2713 : (Jvm.Cond.static ({ cls := "LinesTouchedModel", name := "bits", desc := "(I)I" } : Jvm.MethodName)) ∈ lw_all := lw_g (lw_at lw_m11 208 rfl) rfl
theorem q2714 : (Jvm.Cond.code ({ cls := "LinesTouchedModel", name := "bits", desc := "(I)I" } : Jvm.MethodName) prog_32_method_4_code (3 : Nat) (Option.some Jvm.ClassFile.FieldType.int)) ∈ lw_all := lw_g (lw_at lw_m11 209 rfl) rfl
theorem q2715 : (Jvm.Cond.methodLink "LinesTouchedModel" (137 : Nat) ({ cls := "LinesTouchedModel", name := "cost", desc := "(IIII)I" } : Jvm.MethodName)) ∈ lw_all := lw_g (lw_at lw_m11 210 rfl) rfl
theorem q2716 : (Jvm.Cond.static ({ cls := "LinesTouchedModel", name := "cost", desc := "(IIII)I" } : Jvm.MethodName)) ∈ lw_all := lw_g (lw_at lw_m11 211 rfl) rfl
theorem q2717 : (Jvm.Cond.code ({ cls := "LinesTouchedModel", name := "cost", desc := "(IIII)I" } : Jvm.MethodName) prog_32_method_9_code (5 : Nat) (Option.some Jvm.ClassFile.FieldType.int)) ∈ lw_all := lw_g (lw_at lw_m11 212 rfl) rfl
theorem q2719 : (Jvm.Cond.instanceMethod ({ cls := "LinesTouchedModel", name := "change", desc := "(III)I" } : Jvm.MethodName)) ∈ lw_all := lw_g (lw_at lw_m11 214 rfl) rfl
theorem q2720 : (Jvm.Cond.selects "LinesTouchedModel" ({ cls := "LinesTouchedModel", name := "change", desc := "(III)I" } : Jvm.MethodName) ({ cls := "LinesTouchedModel", name := "change", desc := "(III)I" } : Jvm.MethodName)) ∈ lw_all := lw_g (lw_at lw_m11 215 rfl) rfl
theorem q2721 : (Jvm.Cond.code ({ cls := "LinesTouchedModel", name := "change", desc := "(III)I" } : Jvm.MethodName) prog_32_method_17_code (5 : Nat) (Option.some Jvm.ClassFile.FieldType.int)) ∈ lw_all := lw_g (lw_at lw_m11 216 rfl) rfl
theorem q2723 : (Jvm.Cond.instanceMethod ({ cls := "LinesTouchedModel", name := "count", desc := "(I)I" } : Jvm.MethodName)) ∈ lw_all := lw_g (lw_at lw_m11 218 rfl) rfl
theorem q2724 : (Jvm.Cond.selects "LinesTouchedModel" ({ cls := "LinesTouchedModel", name := "count", desc := "(I)I" } : Jvm.MethodName) ({ cls := "LinesTouchedModel", name := "count", desc := "(I)I" } : Jvm.MethodName)) ∈ lw_all := lw_g (lw_at lw_m11 219 rfl) rfl
theorem q2725 : (Jvm.Cond.code ({ cls := "LinesTouchedModel", name := "count", desc := "(I)I" } : Jvm.MethodName) prog_32_method_19_code (4 : Nat) (Option.some Jvm.ClassFile.FieldType.int)) ∈ lw_all := lw_g (lw_at lw_m11 220 rfl) rfl
theorem q2726 : (Jvm.Cond.methodLink "LinesTouchedModel" (159 : Nat) ({ cls := "LinesTouchedModel", name := "lineMany", desc := "()I" } : Jvm.MethodName)) ∈ lw_all := lw_g (lw_at lw_m11 221 rfl) rfl
theorem q2727 : (Jvm.Cond.privateMethod ({ cls := "LinesTouchedModel", name := "lineMany", desc := "()I" } : Jvm.MethodName)) ∈ lw_tbl := lw_at lw_m11 222 rfl
theorem q2728 : (Jvm.Cond.instanceMethod ({ cls := "LinesTouchedModel", name := "lineMany", desc := "()I" } : Jvm.MethodName)) ∈ lw_all := lw_g (lw_at lw_m11 223 rfl) rfl
theorem q2729 : (Jvm.Cond.code ({ cls := "LinesTouchedModel", name := "lineMany", desc := "()I" } : Jvm.MethodName) prog_32_method_18_code (3 : Nat) (Option.some Jvm.ClassFile.FieldType.int)) ∈ lw_all := lw_g (lw_at lw_m11 224 rfl) rfl
theorem q2731 : (Jvm.Cond.instanceMethod ({ cls := "LinesTouchedModel", name := "isCover", desc := "(I)I" } : Jvm.MethodName)) ∈ lw_all := lw_g (lw_at lw_m11 226 rfl) rfl
theorem q2732 : (Jvm.Cond.selects "LinesTouchedModel" ({ cls := "LinesTouchedModel", name := "isCover", desc := "(I)I" } : Jvm.MethodName) ({ cls := "LinesTouchedModel", name := "isCover", desc := "(I)I" } : Jvm.MethodName)) ∈ lw_all := lw_g (lw_at lw_m11 227 rfl) rfl
theorem q2733 : (Jvm.Cond.code ({ cls := "LinesTouchedModel", name := "isCover", desc := "(I)I" } : Jvm.MethodName) prog_32_method_22_code (2 : Nat) (Option.some Jvm.ClassFile.FieldType.int)) ∈ lw_all := lw_g (lw_at lw_m11 228 rfl) rfl
theorem q2734 : (Jvm.Cond.methodLink "LinesTouchedModel" (171 : Nat) ({ cls := "LinesTouchedModel", name := "isSet", desc := "(I)Z" } : Jvm.MethodName)) ∈ lw_all := lw_g (lw_at lw_m11 229 rfl) rfl
theorem q2735 : (Jvm.Cond.privateMethod ({ cls := "LinesTouchedModel", name := "isSet", desc := "(I)Z" } : Jvm.MethodName)) ∈ lw_tbl := lw_at lw_m11 230 rfl
theorem q2736 : (Jvm.Cond.instanceMethod ({ cls := "LinesTouchedModel", name := "isSet", desc := "(I)Z" } : Jvm.MethodName)) ∈ lw_all := lw_g (lw_at lw_m11 231 rfl) rfl
theorem q2737 : (Jvm.Cond.code ({ cls := "LinesTouchedModel", name := "isSet", desc := "(I)Z" } : Jvm.MethodName) prog_32_method_8_code (2 : Nat) (Option.some Jvm.ClassFile.FieldType.boolean)) ∈ lw_all := lw_g (lw_at lw_m11 232 rfl) rfl
theorem q2738 : (Jvm.Cond.methodLink "LinesTouchedModel" (129 : Nat) ({ cls := "LinesTouchedModel", name := "all", desc := "()I" } : Jvm.MethodName)) ∈ lw_all := lw_g (lw_at lw_m11 233 rfl) rfl
theorem q2739 : (Jvm.Cond.privateMethod ({ cls := "LinesTouchedModel", name := "all", desc := "()I" } : Jvm.MethodName)) ∈ lw_tbl := lw_at lw_m11 234 rfl
theorem q2740 : (Jvm.Cond.instanceMethod ({ cls := "LinesTouchedModel", name := "all", desc := "()I" } : Jvm.MethodName)) ∈ lw_all := lw_g (lw_at lw_m11 235 rfl) rfl
theorem q2741 : (Jvm.Cond.code ({ cls := "LinesTouchedModel", name := "all", desc := "()I" } : Jvm.MethodName) prog_32_method_6_code (1 : Nat) (Option.some Jvm.ClassFile.FieldType.int)) ∈ lw_all := lw_g (lw_at lw_m11 236 rfl) rfl
theorem q2742 : (Jvm.Cond.methodLink "LinesTouchedModel" (174 : Nat) ({ cls := "LinesTouchedModel", name := "isBare", desc := "(I)Z" } : Jvm.MethodName)) ∈ lw_all := lw_g (lw_at lw_m11 237 rfl) rfl
theorem q2743 : (Jvm.Cond.privateMethod ({ cls := "LinesTouchedModel", name := "isBare", desc := "(I)Z" } : Jvm.MethodName)) ∈ lw_tbl := lw_at lw_m11 238 rfl
theorem q2744 : (Jvm.Cond.instanceMethod ({ cls := "LinesTouchedModel", name := "isBare", desc := "(I)Z" } : Jvm.MethodName)) ∈ lw_all := lw_g (lw_at lw_m11 239 rfl) rfl
theorem q2745 : (Jvm.Cond.code ({ cls := "LinesTouchedModel", name := "isBare", desc := "(I)Z" } : Jvm.MethodName) prog_32_method_21_code (4 : Nat) (Option.some Jvm.ClassFile.FieldType.boolean)) ∈ lw_all := lw_g (lw_at lw_m12 0 rfl) rfl
theorem q2746 : (Jvm.Cond.methodLink "LinesTouchedModel" (168 : Nat) ({ cls := "LinesTouchedModel", name := "covers", desc := "(I)Z" } : Jvm.MethodName)) ∈ lw_all := lw_g (lw_at lw_m12 1 rfl) rfl
theorem q2747 : (Jvm.Cond.privateMethod ({ cls := "LinesTouchedModel", name := "covers", desc := "(I)Z" } : Jvm.MethodName)) ∈ lw_tbl := lw_at lw_m12 2 rfl
theorem q2748 : (Jvm.Cond.instanceMethod ({ cls := "LinesTouchedModel", name := "covers", desc := "(I)Z" } : Jvm.MethodName)) ∈ lw_all := lw_g (lw_at lw_m12 3 rfl) rfl
theorem q2749 : (Jvm.Cond.code ({ cls := "LinesTouchedModel", name := "covers", desc := "(I)Z" } : Jvm.MethodName) prog_32_method_20_code (4 : Nat) (Option.some Jvm.ClassFile.FieldType.boolean)) ∈ lw_all := lw_g (lw_at lw_m12 4 rfl) rfl
theorem q2750 : (Jvm.Cond.methodLink "LinesTouchedModel" (118 : Nat) ({ cls := "LinesTouchedModel", name := "has", desc := "(II)Z" } : Jvm.MethodName)) ∈ lw_all := lw_g (lw_at lw_m12 5 rfl) rfl
theorem q2751 : (Jvm.Cond.static ({ cls := "LinesTouchedModel", name := "has", desc := "(II)Z" } : Jvm.MethodName)) ∈ lw_all := lw_g (lw_at lw_m12 6 rfl) rfl
theorem q2752 : (Jvm.Cond.code ({ cls := "LinesTouchedModel", name := "has", desc := "(II)Z" } : Jvm.MethodName) prog_32_method_3_code (2 : Nat) (Option.some Jvm.ClassFile.FieldType.boolean)) ∈ lw_all := lw_g (lw_at lw_m12 7 rfl) rfl
theorem q2754 : (Jvm.Cond.instanceMethod ({ cls := "LinesTouchedModel", name := "costOf", desc := "(I)I" } : Jvm.MethodName)) ∈ lw_all := lw_g (lw_at lw_m12 9 rfl) rfl
theorem q2755 : (Jvm.Cond.selects "LinesTouchedModel" ({ cls := "LinesTouchedModel", name := "costOf", desc := "(I)I" } : Jvm.MethodName) ({ cls := "LinesTouchedModel", name := "costOf", desc := "(I)I" } : Jvm.MethodName)) ∈ lw_all := lw_g (lw_at lw_m12 10 rfl) rfl
theorem q2756 : (Jvm.Cond.code ({ cls := "LinesTouchedModel", name := "costOf", desc := "(I)I" } : Jvm.MethodName) prog_32_method_24_code (2 : Nat) (Option.some Jvm.ClassFile.FieldType.int)) ∈ lw_all := lw_g (lw_at lw_m12 11 rfl) rfl
theorem q2757 : (Jvm.Cond.methodLink "LinesTouchedModel" (177 : Nat) ({ cls := "LinesTouchedModel", name := "costs", desc := "(I)I" } : Jvm.MethodName)) ∈ lw_all := lw_g (lw_at lw_m12 12 rfl) rfl
theorem q2758 : (Jvm.Cond.privateMethod ({ cls := "LinesTouchedModel", name := "costs", desc := "(I)I" } : Jvm.MethodName)) ∈ lw_tbl := lw_at lw_m12 13 rfl
theorem q2759 : (Jvm.Cond.instanceMethod ({ cls := "LinesTouchedModel", name := "costs", desc := "(I)I" } : Jvm.MethodName)) ∈ lw_all := lw_g (lw_at lw_m12 14 rfl) rfl
theorem q2760 : (Jvm.Cond.code ({ cls := "LinesTouchedModel", name := "costs", desc := "(I)I" } : Jvm.MethodName) prog_32_method_23_code (4 : Nat) (Option.some Jvm.ClassFile.FieldType.int)) ∈ lw_all := lw_g (lw_at lw_m12 15 rfl) rfl
theorem q2762 : (Jvm.Cond.instanceMethod ({ cls := "LinesTouchedModel", name := "fewest", desc := "(I)I" } : Jvm.MethodName)) ∈ lw_all := lw_g (lw_at lw_m12 17 rfl) rfl
theorem q2763 : (Jvm.Cond.selects "LinesTouchedModel" ({ cls := "LinesTouchedModel", name := "fewest", desc := "(I)I" } : Jvm.MethodName) ({ cls := "LinesTouchedModel", name := "fewest", desc := "(I)I" } : Jvm.MethodName)) ∈ lw_all := lw_g (lw_at lw_m12 18 rfl) rfl
theorem q2764 : (Jvm.Cond.code ({ cls := "LinesTouchedModel", name := "fewest", desc := "(I)I" } : Jvm.MethodName) prog_32_method_26_code (8 : Nat) (Option.some Jvm.ClassFile.FieldType.int)) ∈ lw_all := lw_g (lw_at lw_m12 19 rfl) rfl
theorem q2765 : (Jvm.Cond.methodLink "LinesTouchedModel" (180 : Nat) ({ cls := "LinesTouchedModel", name := "least", desc := "()I" } : Jvm.MethodName)) ∈ lw_all := lw_g (lw_at lw_m12 20 rfl) rfl
theorem q2766 : (Jvm.Cond.privateMethod ({ cls := "LinesTouchedModel", name := "least", desc := "()I" } : Jvm.MethodName)) ∈ lw_tbl := lw_at lw_m12 21 rfl
theorem q2767 : (Jvm.Cond.instanceMethod ({ cls := "LinesTouchedModel", name := "least", desc := "()I" } : Jvm.MethodName)) ∈ lw_all := lw_g (lw_at lw_m12 22 rfl) rfl
theorem q2768 : (Jvm.Cond.code ({ cls := "LinesTouchedModel", name := "least", desc := "()I" } : Jvm.MethodName) prog_32_method_25_code (3 : Nat) (Option.some Jvm.ClassFile.FieldType.int)) ∈ lw_all := lw_g (lw_at lw_m12 23 rfl) rfl
theorem q2770 : (Jvm.Cond.instanceMethod ({ cls := "LinesTouchedModel", name := "dear", desc := "(I)I" } : Jvm.MethodName)) ∈ lw_all := lw_g (lw_at lw_m12 25 rfl) rfl
theorem q2771 : (Jvm.Cond.selects "LinesTouchedModel" ({ cls := "LinesTouchedModel", name := "dear", desc := "(I)I" } : Jvm.MethodName) ({ cls := "LinesTouchedModel", name := "dear", desc := "(I)I" } : Jvm.MethodName)) ∈ lw_all := lw_g (lw_at lw_m12 26 rfl) rfl
theorem q2772 : (Jvm.Cond.code ({ cls := "LinesTouchedModel", name := "dear", desc := "(I)I" } : Jvm.MethodName) prog_32_method_27_code (6 : Nat) (Option.some Jvm.ClassFile.FieldType.int)) ∈ lw_all := lw_g (lw_at lw_m12 27 rfl) rfl
theorem q2773 : (Jvm.Cond.constant "LinesTouchedModel" (183 : Nat) (1000000 : Int32)) ∈ lw_all := lw_g (lw_at lw_m12 28 rfl) rfl
theorem q2775 : (Jvm.Cond.instanceMethod ({ cls := "LinesTouchedModel", name := "sized", desc := "(I)I" } : Jvm.MethodName)) ∈ lw_all := lw_g (lw_at lw_m12 30 rfl) rfl
theorem q2776 : (Jvm.Cond.selects "LinesTouchedModel" ({ cls := "LinesTouchedModel", name := "sized", desc := "(I)I" } : Jvm.MethodName) ({ cls := "LinesTouchedModel", name := "sized", desc := "(I)I" } : Jvm.MethodName)) ∈ lw_all := lw_g (lw_at lw_m12 31 rfl) rfl
theorem q2777 : (Jvm.Cond.code ({ cls := "LinesTouchedModel", name := "sized", desc := "(I)I" } : Jvm.MethodName) prog_32_method_28_code (4 : Nat) (Option.some Jvm.ClassFile.FieldType.int)) ∈ lw_all := lw_g (lw_at lw_m12 32 rfl) rfl
theorem q2779 : (Jvm.Cond.instanceMethod ({ cls := "LinesTouchedModel", name := "bare", desc := "(I)I" } : Jvm.MethodName)) ∈ lw_all := lw_g (lw_at lw_m12 34 rfl) rfl
theorem q2780 : (Jvm.Cond.selects "LinesTouchedModel" ({ cls := "LinesTouchedModel", name := "bare", desc := "(I)I" } : Jvm.MethodName) ({ cls := "LinesTouchedModel", name := "bare", desc := "(I)I" } : Jvm.MethodName)) ∈ lw_all := lw_g (lw_at lw_m12 35 rfl) rfl
theorem q2781 : (Jvm.Cond.code ({ cls := "LinesTouchedModel", name := "bare", desc := "(I)I" } : Jvm.MethodName) prog_32_method_29_code (6 : Nat) (Option.some Jvm.ClassFile.FieldType.int)) ∈ lw_all := lw_g (lw_at lw_m12 36 rfl) rfl
theorem q2783 : (Jvm.Cond.instanceMethod ({ cls := "LinesTouchedModel", name := "share", desc := "(I)J" } : Jvm.MethodName)) ∈ lw_all := lw_g (lw_at lw_m12 38 rfl) rfl
theorem q2784 : (Jvm.Cond.selects "LinesTouchedModel" ({ cls := "LinesTouchedModel", name := "share", desc := "(I)J" } : Jvm.MethodName) ({ cls := "LinesTouchedModel", name := "share", desc := "(I)J" } : Jvm.MethodName)) ∈ lw_all := lw_g (lw_at lw_m12 39 rfl) rfl
theorem q2785 : (Jvm.Cond.code ({ cls := "LinesTouchedModel", name := "share", desc := "(I)J" } : Jvm.MethodName) prog_32_method_31_code (7 : Nat) (Option.some Jvm.ClassFile.FieldType.long)) ∈ lw_all := lw_g (lw_at lw_m12 40 rfl) rfl
theorem q2786 : (Jvm.Cond.constantLong "LinesTouchedModel" (184 : Nat) (-2 : Int64)) ∈ lw_all := lw_g (lw_at lw_m12 41 rfl) rfl
theorem q2787 : (Jvm.Cond.methodLink "LinesTouchedModel" (186 : Nat) ({ cls := "LinesTouchedModel", name := "gcd", desc := "(JJ)J" } : Jvm.MethodName)) ∈ lw_all := lw_g (lw_at lw_m12 42 rfl) rfl
theorem q2788 : (Jvm.Cond.static ({ cls := "LinesTouchedModel", name := "gcd", desc := "(JJ)J" } : Jvm.MethodName)) ∈ lw_all := lw_g (lw_at lw_m12 43 rfl) rfl
theorem q2789 : (Jvm.Cond.code ({ cls := "LinesTouchedModel", name := "gcd", desc := "(JJ)J" } : Jvm.MethodName) prog_32_method_30_code (10 : Nat) (Option.some Jvm.ClassFile.FieldType.long)) ∈ lw_all := lw_g (lw_at lw_m12 44 rfl) rfl
theorem q2791 : (Jvm.Cond.instanceMethod ({ cls := "LinesTouchedModel", name := "halves", desc := "(I)I" } : Jvm.MethodName)) ∈ lw_all := lw_g (lw_at lw_m12 46 rfl) rfl
theorem q2792 : (Jvm.Cond.selects "LinesTouchedModel" ({ cls := "LinesTouchedModel", name := "halves", desc := "(I)I" } : Jvm.MethodName) ({ cls := "LinesTouchedModel", name := "halves", desc := "(I)I" } : Jvm.MethodName)) ∈ lw_all := lw_g (lw_at lw_m12 47 rfl) rfl
theorem q2793 : (Jvm.Cond.code ({ cls := "LinesTouchedModel", name := "halves", desc := "(I)I" } : Jvm.MethodName) prog_32_method_38_code (3 : Nat) (Option.some Jvm.ClassFile.FieldType.int)) ∈ lw_all := lw_g (lw_at lw_m12 48 rfl) rfl
theorem q2794 : (Jvm.Cond.methodLink "LinesTouchedModel" (206 : Nat) ({ cls := "LinesTouchedModel", name := "laysHalves", desc := "(I)I" } : Jvm.MethodName)) ∈ lw_all := lw_g (lw_at lw_m12 49 rfl) rfl
theorem q2795 : (Jvm.Cond.privateMethod ({ cls := "LinesTouchedModel", name := "laysHalves", desc := "(I)I" } : Jvm.MethodName)) ∈ lw_tbl := lw_at lw_m12 50 rfl
theorem q2796 : (Jvm.Cond.instanceMethod ({ cls := "LinesTouchedModel", name := "laysHalves", desc := "(I)I" } : Jvm.MethodName)) ∈ lw_all := lw_g (lw_at lw_m12 51 rfl) rfl
theorem q2797 : (Jvm.Cond.code ({ cls := "LinesTouchedModel", name := "laysHalves", desc := "(I)I" } : Jvm.MethodName) prog_32_method_36_code (4 : Nat) (Option.some Jvm.ClassFile.FieldType.int)) ∈ lw_all := lw_g (lw_at lw_m12 52 rfl) rfl
theorem q2798 : (Jvm.Cond.methodLink "LinesTouchedModel" (203 : Nat) ({ cls := "LinesTouchedModel", name := "leastHalves", desc := "(I)I" } : Jvm.MethodName)) ∈ lw_all := lw_g (lw_at lw_m12 53 rfl) rfl
theorem q2799 : (Jvm.Cond.privateMethod ({ cls := "LinesTouchedModel", name := "leastHalves", desc := "(I)I" } : Jvm.MethodName)) ∈ lw_tbl := lw_at lw_m12 54 rfl
theorem q2800 : (Jvm.Cond.instanceMethod ({ cls := "LinesTouchedModel", name := "leastHalves", desc := "(I)I" } : Jvm.MethodName)) ∈ lw_all := lw_g (lw_at lw_m12 55 rfl) rfl
theorem q2801 : (Jvm.Cond.code ({ cls := "LinesTouchedModel", name := "leastHalves", desc := "(I)I" } : Jvm.MethodName) prog_32_method_33_code (4 : Nat) (Option.some Jvm.ClassFile.FieldType.int)) ∈ lw_all := lw_g (lw_at lw_m12 56 rfl) rfl
theorem q2802 : (Jvm.Cond.methodLink "LinesTouchedModel" (193 : Nat) ({ cls := "LinesTouchedModel", name := "pairs", desc := "(II)Z" } : Jvm.MethodName)) ∈ lw_all := lw_g (lw_at lw_m12 57 rfl) rfl
theorem q2803 : (Jvm.Cond.privateMethod ({ cls := "LinesTouchedModel", name := "pairs", desc := "(II)Z" } : Jvm.MethodName)) ∈ lw_tbl := lw_at lw_m12 58 rfl
theorem q2804 : (Jvm.Cond.instanceMethod ({ cls := "LinesTouchedModel", name := "pairs", desc := "(II)Z" } : Jvm.MethodName)) ∈ lw_all := lw_g (lw_at lw_m12 59 rfl) rfl
theorem q2805 : (Jvm.Cond.code ({ cls := "LinesTouchedModel", name := "pairs", desc := "(II)Z" } : Jvm.MethodName) prog_32_method_32_code (4 : Nat) (Option.some Jvm.ClassFile.FieldType.boolean)) ∈ lw_all := lw_g (lw_at lw_m12 60 rfl) rfl
theorem q2806 : (Jvm.Cond.methodLink "LinesTouchedModel" (196 : Nat) ({ cls := "LinesTouchedModel", name := "gives", desc := "(IIIII)Z" } : Jvm.MethodName)) ∈ lw_all := lw_g (lw_at lw_m12 61 rfl) rfl
theorem q2807 : (Jvm.Cond.privateMethod ({ cls := "LinesTouchedModel", name := "gives", desc := "(IIIII)Z" } : Jvm.MethodName)) ∈ lw_tbl := lw_at lw_m12 62 rfl
theorem q2808 : (Jvm.Cond.instanceMethod ({ cls := "LinesTouchedModel", name := "gives", desc := "(IIIII)Z" } : Jvm.MethodName)) ∈ lw_all := lw_g (lw_at lw_m12 63 rfl) rfl
theorem q2809 : (Jvm.Cond.code ({ cls := "LinesTouchedModel", name := "gives", desc := "(IIIII)Z" } : Jvm.MethodName) prog_32_method_35_code (9 : Nat) (Option.some Jvm.ClassFile.FieldType.boolean)) ∈ lw_all := lw_g (lw_at lw_m12 64 rfl) rfl
theorem q2810 : (Jvm.Cond.methodLink "LinesTouchedModel" (200 : Nat) ({ cls := "LinesTouchedModel", name := "mayGet", desc := "(III)Z" } : Jvm.MethodName)) ∈ lw_all := lw_g (lw_at lw_m12 65 rfl) rfl
theorem q2811 : (Jvm.Cond.privateMethod ({ cls := "LinesTouchedModel", name := "mayGet", desc := "(III)Z" } : Jvm.MethodName)) ∈ lw_tbl := lw_at lw_m12 66 rfl
theorem q2812 : (Jvm.Cond.instanceMethod ({ cls := "LinesTouchedModel", name := "mayGet", desc := "(III)Z" } : Jvm.MethodName)) ∈ lw_all := lw_g (lw_at lw_m12 67 rfl) rfl
theorem q2813 : (Jvm.Cond.code ({ cls := "LinesTouchedModel", name := "mayGet", desc := "(III)Z" } : Jvm.MethodName) prog_32_method_34_code (6 : Nat) (Option.some Jvm.ClassFile.FieldType.boolean)) ∈ lw_all := lw_g (lw_at lw_m12 68 rfl) rfl
theorem q2814 : (Jvm.Cond.methodLink "LinesTouchedModel" (209 : Nat) ({ cls := "LinesTouchedModel", name := "halvesWith", desc := "(II)I" } : Jvm.MethodName)) ∈ lw_all := lw_g (lw_at lw_m12 69 rfl) rfl
theorem q2815 : (Jvm.Cond.privateMethod ({ cls := "LinesTouchedModel", name := "halvesWith", desc := "(II)I" } : Jvm.MethodName)) ∈ lw_tbl := lw_at lw_m12 70 rfl
theorem q2816 : (Jvm.Cond.instanceMethod ({ cls := "LinesTouchedModel", name := "halvesWith", desc := "(II)I" } : Jvm.MethodName)) ∈ lw_all := lw_g (lw_at lw_m12 71 rfl) rfl
theorem q2817 : (Jvm.Cond.code ({ cls := "LinesTouchedModel", name := "halvesWith", desc := "(II)I" } : Jvm.MethodName) prog_32_method_37_code (5 : Nat) (Option.some Jvm.ClassFile.FieldType.int)) ∈ lw_all := lw_g (lw_at lw_m12 72 rfl) rfl
theorem q2819 : (Jvm.Cond.instanceMethod ({ cls := "LinesTouchedModel", name := "half", desc := "(I)I" } : Jvm.MethodName)) ∈ lw_all := lw_g (lw_at lw_m12 74 rfl) rfl
theorem q2820 : (Jvm.Cond.selects "LinesTouchedModel" ({ cls := "LinesTouchedModel", name := "half", desc := "(I)I" } : Jvm.MethodName) ({ cls := "LinesTouchedModel", name := "half", desc := "(I)I" } : Jvm.MethodName)) ∈ lw_all := lw_g (lw_at lw_m12 75 rfl) rfl
theorem q2821 : (Jvm.Cond.code ({ cls := "LinesTouchedModel", name := "half", desc := "(I)I" } : Jvm.MethodName) prog_32_method_39_code (3 : Nat) (Option.some Jvm.ClassFile.FieldType.int)) ∈ lw_all := lw_g (lw_at lw_m12 76 rfl) rfl
theorem q2823 : (Jvm.Cond.instanceMethod ({ cls := "LinesTouchedModel", name := "mayHave", desc := "(I)I" } : Jvm.MethodName)) ∈ lw_all := lw_g (lw_at lw_m12 78 rfl) rfl
theorem q2824 : (Jvm.Cond.selects "LinesTouchedModel" ({ cls := "LinesTouchedModel", name := "mayHave", desc := "(I)I" } : Jvm.MethodName) ({ cls := "LinesTouchedModel", name := "mayHave", desc := "(I)I" } : Jvm.MethodName)) ∈ lw_all := lw_g (lw_at lw_m12 79 rfl) rfl
theorem q2825 : (Jvm.Cond.code ({ cls := "LinesTouchedModel", name := "mayHave", desc := "(I)I" } : Jvm.MethodName) prog_32_method_40_code (5 : Nat) (Option.some Jvm.ClassFile.FieldType.int)) ∈ lw_all := lw_g (lw_at lw_m12 80 rfl) rfl
theorem q2827 : (Jvm.Cond.instanceMethod ({ cls := "LinesTouchedModel", name := "mate", desc := "(I)I" } : Jvm.MethodName)) ∈ lw_all := lw_g (lw_at lw_m12 82 rfl) rfl
theorem q2828 : (Jvm.Cond.selects "LinesTouchedModel" ({ cls := "LinesTouchedModel", name := "mate", desc := "(I)I" } : Jvm.MethodName) ({ cls := "LinesTouchedModel", name := "mate", desc := "(I)I" } : Jvm.MethodName)) ∈ lw_all := lw_g (lw_at lw_m12 83 rfl) rfl
theorem q2829 : (Jvm.Cond.code ({ cls := "LinesTouchedModel", name := "mate", desc := "(I)I" } : Jvm.MethodName) prog_32_method_42_code (4 : Nat) (Option.some Jvm.ClassFile.FieldType.int)) ∈ lw_all := lw_g (lw_at lw_m12 84 rfl) rfl
theorem q2830 : (Jvm.Cond.methodLink "LinesTouchedModel" (216 : Nat) ({ cls := "LinesTouchedModel", name := "pairsAll", desc := "(II)Z" } : Jvm.MethodName)) ∈ lw_all := lw_g (lw_at lw_m12 85 rfl) rfl
theorem q2831 : (Jvm.Cond.privateMethod ({ cls := "LinesTouchedModel", name := "pairsAll", desc := "(II)Z" } : Jvm.MethodName)) ∈ lw_tbl := lw_at lw_m12 86 rfl
theorem q2832 : (Jvm.Cond.instanceMethod ({ cls := "LinesTouchedModel", name := "pairsAll", desc := "(II)Z" } : Jvm.MethodName)) ∈ lw_all := lw_g (lw_at lw_m12 87 rfl) rfl
theorem q2833 : (Jvm.Cond.code ({ cls := "LinesTouchedModel", name := "pairsAll", desc := "(II)Z" } : Jvm.MethodName) prog_32_method_41_code (5 : Nat) (Option.some Jvm.ClassFile.FieldType.boolean)) ∈ lw_all := lw_g (lw_at lw_m12 88 rfl) rfl
theorem q2834 : (Jvm.Cond.methodLink "LinesTouchedModel" (213 : Nat) ({ cls := "LinesTouchedModel", name := "first", desc := "(I)I" } : Jvm.MethodName)) ∈ lw_all := lw_g (lw_at lw_m12 89 rfl) rfl
theorem q2835 : (Jvm.Cond.static ({ cls := "LinesTouchedModel", name := "first", desc := "(I)I" } : Jvm.MethodName)) ∈ lw_all := lw_g (lw_at lw_m12 90 rfl) rfl
theorem q2836 : (Jvm.Cond.code ({ cls := "LinesTouchedModel", name := "first", desc := "(I)I" } : Jvm.MethodName) prog_32_method_5_code (2 : Nat) (Option.some Jvm.ClassFile.FieldType.int)) ∈ lw_all := lw_g (lw_at lw_m12 91 rfl) rfl
theorem q2838 : (Jvm.Cond.instanceMethod ({ cls := "LinesTouchedModel", name := "persists", desc := "()I" } : Jvm.MethodName)) ∈ lw_all := lw_g (lw_at lw_m12 93 rfl) rfl
theorem q2839 : (Jvm.Cond.selects "LinesTouchedModel" ({ cls := "LinesTouchedModel", name := "persists", desc := "()I" } : Jvm.MethodName) ({ cls := "LinesTouchedModel", name := "persists", desc := "()I" } : Jvm.MethodName)) ∈ lw_all := lw_g (lw_at lw_m12 94 rfl) rfl
theorem q2840 : (Jvm.Cond.code ({ cls := "LinesTouchedModel", name := "persists", desc := "()I" } : Jvm.MethodName) prog_32_method_43_code (7 : Nat) (Option.some Jvm.ClassFile.FieldType.int)) ∈ lw_all := lw_g (lw_at lw_m12 95 rfl) rfl
theorem q2842 : (Jvm.Cond.instanceMethod ({ cls := "LinesTouchedModel", name := "isCrown", desc := "(I)I" } : Jvm.MethodName)) ∈ lw_all := lw_g (lw_at lw_m12 97 rfl) rfl
theorem q2843 : (Jvm.Cond.selects "LinesTouchedModel" ({ cls := "LinesTouchedModel", name := "isCrown", desc := "(I)I" } : Jvm.MethodName) ({ cls := "LinesTouchedModel", name := "isCrown", desc := "(I)I" } : Jvm.MethodName)) ∈ lw_all := lw_g (lw_at lw_m12 98 rfl) rfl
theorem q2844 : (Jvm.Cond.code ({ cls := "LinesTouchedModel", name := "isCrown", desc := "(I)I" } : Jvm.MethodName) prog_32_method_46_code (2 : Nat) (Option.some Jvm.ClassFile.FieldType.int)) ∈ lw_all := lw_g (lw_at lw_m12 99 rfl) rfl
theorem q2845 : (Jvm.Cond.methodLink "LinesTouchedModel" (219 : Nat) ({ cls := "LinesTouchedModel", name := "nextTo", desc := "(I)I" } : Jvm.MethodName)) ∈ lw_all := lw_g (lw_at lw_m12 100 rfl) rfl
theorem q2846 : (Jvm.Cond.privateMethod ({ cls := "LinesTouchedModel", name := "nextTo", desc := "(I)I" } : Jvm.MethodName)) ∈ lw_tbl := lw_at lw_m12 101 rfl
theorem q2847 : (Jvm.Cond.instanceMethod ({ cls := "LinesTouchedModel", name := "nextTo", desc := "(I)I" } : Jvm.MethodName)) ∈ lw_all := lw_g (lw_at lw_m12 102 rfl) rfl
theorem q2848 : (Jvm.Cond.code ({ cls := "LinesTouchedModel", name := "nextTo", desc := "(I)I" } : Jvm.MethodName) prog_32_method_44_code (4 : Nat) (Option.some Jvm.ClassFile.FieldType.int)) ∈ lw_all := lw_g (lw_at lw_m12 103 rfl) rfl
theorem q2849 : (Jvm.Cond.methodLink "LinesTouchedModel" (222 : Nat) ({ cls := "LinesTouchedModel", name := "isHeaded", desc := "(II)Z" } : Jvm.MethodName)) ∈ lw_all := lw_g (lw_at lw_m12 104 rfl) rfl
theorem q2850 : (Jvm.Cond.privateMethod ({ cls := "LinesTouchedModel", name := "isHeaded", desc := "(II)Z" } : Jvm.MethodName)) ∈ lw_tbl := lw_at lw_m12 105 rfl
theorem q2851 : (Jvm.Cond.instanceMethod ({ cls := "LinesTouchedModel", name := "isHeaded", desc := "(II)Z" } : Jvm.MethodName)) ∈ lw_all := lw_g (lw_at lw_m12 106 rfl) rfl
theorem q2852 : (Jvm.Cond.code ({ cls := "LinesTouchedModel", name := "isHeaded", desc := "(II)Z" } : Jvm.MethodName) prog_32_method_45_code (3 : Nat) (Option.some Jvm.ClassFile.FieldType.boolean)) ∈ lw_all := lw_g (lw_at lw_m12 107 rfl) rfl
theorem q2854 : (Jvm.Cond.instanceMethod ({ cls := "LinesTouchedModel", name := "crowns", desc := "(I)I" } : Jvm.MethodName)) ∈ lw_all := lw_g (lw_at lw_m12 109 rfl) rfl
theorem q2855 : (Jvm.Cond.selects "LinesTouchedModel" ({ cls := "LinesTouchedModel", name := "crowns", desc := "(I)I" } : Jvm.MethodName) ({ cls := "LinesTouchedModel", name := "crowns", desc := "(I)I" } : Jvm.MethodName)) ∈ lw_all := lw_g (lw_at lw_m12 110 rfl) rfl
theorem q2856 : (Jvm.Cond.code ({ cls := "LinesTouchedModel", name := "crowns", desc := "(I)I" } : Jvm.MethodName) prog_32_method_47_code (5 : Nat) (Option.some Jvm.ClassFile.FieldType.int)) ∈ lw_all := lw_g (lw_at lw_m12 111 rfl) rfl
theorem q2858 : (Jvm.Cond.instanceMethod ({ cls := "LinesTouchedModel", name := "kernel", desc := "(II)I" } : Jvm.MethodName)) ∈ lw_all := lw_g (lw_at lw_m12 113 rfl) rfl
theorem q2859 : (Jvm.Cond.selects "LinesTouchedModel" ({ cls := "LinesTouchedModel", name := "kernel", desc := "(II)I" } : Jvm.MethodName) ({ cls := "LinesTouchedModel", name := "kernel", desc := "(II)I" } : Jvm.MethodName)) ∈ lw_all := lw_g (lw_at lw_m12 114 rfl) rfl
theorem q2860 : (Jvm.Cond.code ({ cls := "LinesTouchedModel", name := "kernel", desc := "(II)I" } : Jvm.MethodName) prog_32_method_52_code (3 : Nat) (Option.some Jvm.ClassFile.FieldType.int)) ∈ lw_all := lw_g (lw_at lw_m12 115 rfl) rfl
theorem q2861 : (Jvm.Cond.methodLink "LinesTouchedModel" (247 : Nat) ({ cls := "LinesTouchedModel", name := "kernels", desc := "(II)V" } : Jvm.MethodName)) ∈ lw_all := lw_g (lw_at lw_m12 116 rfl) rfl
theorem q2862 : (Jvm.Cond.privateMethod ({ cls := "LinesTouchedModel", name := "kernels", desc := "(II)V" } : Jvm.MethodName)) ∈ lw_tbl := lw_at lw_m12 117 rfl
theorem q2863 : (Jvm.Cond.instanceMethod ({ cls := "LinesTouchedModel", name := "kernels", desc := "(II)V" } : Jvm.MethodName)) ∈ lw_all := lw_g (lw_at lw_m12 118 rfl) rfl
theorem q2864 : (Jvm.Cond.code ({ cls := "LinesTouchedModel", name := "kernels", desc := "(II)V" } : Jvm.MethodName) prog_32_method_51_code (3 : Nat) (Option.none : Option Jvm.ClassFile.FieldType)) ∈ lw_all := lw_g (lw_at lw_m12 119 rfl) rfl
theorem q2865 : (Jvm.Cond.methodLink "LinesTouchedModel" (243 : Nat) ({ cls := "LinesTouchedModel", name := "rules", desc := "()Z" } : Jvm.MethodName)) ∈ lw_all := lw_g (lw_at lw_m12 120 rfl) rfl
theorem q2866 : (Jvm.Cond.privateMethod ({ cls := "LinesTouchedModel", name := "rules", desc := "()Z" } : Jvm.MethodName)) ∈ lw_tbl := lw_at lw_m12 121 rfl
theorem q2867 : (Jvm.Cond.instanceMethod ({ cls := "LinesTouchedModel", name := "rules", desc := "()Z" } : Jvm.MethodName)) ∈ lw_all := lw_g (lw_at lw_m12 122 rfl) rfl
theorem q2868 : (Jvm.Cond.code ({ cls := "LinesTouchedModel", name := "rules", desc := "()Z" } : Jvm.MethodName) prog_32_method_49_code (7 : Nat) (Option.some Jvm.ClassFile.FieldType.boolean)) ∈ lw_all := lw_g (lw_at lw_m12 123 rfl) rfl
theorem q2869 : (Jvm.Cond.methodLink "LinesTouchedModel" (228 : Nat) ({ cls := "LinesTouchedModel", name := "degree", desc := "(II)I" } : Jvm.MethodName)) ∈ lw_all := lw_g (lw_at lw_m12 124 rfl) rfl
theorem q2870 : (Jvm.Cond.privateMethod ({ cls := "LinesTouchedModel", name := "degree", desc := "(II)I" } : Jvm.MethodName)) ∈ lw_tbl := lw_at lw_m12 125 rfl
theorem q2871 : (Jvm.Cond.instanceMethod ({ cls := "LinesTouchedModel", name := "degree", desc := "(II)I" } : Jvm.MethodName)) ∈ lw_all := lw_g (lw_at lw_m12 126 rfl) rfl
theorem q2872 : (Jvm.Cond.code ({ cls := "LinesTouchedModel", name := "degree", desc := "(II)I" } : Jvm.MethodName) prog_32_method_48_code (3 : Nat) (Option.some Jvm.ClassFile.FieldType.int)) ∈ lw_all := lw_g (lw_at lw_m12 127 rfl) rfl
theorem q2873 : (Jvm.Cond.methodLink "LinesTouchedModel" (234 : Nat) ({ cls := "LinesTouchedModel", name := "rule", desc := "(III)Z" } : Jvm.MethodName)) ∈ lw_all := lw_g (lw_at lw_m12 128 rfl) rfl
theorem q2874 : (Jvm.Cond.privateMethod ({ cls := "LinesTouchedModel", name := "rule", desc := "(III)Z" } : Jvm.MethodName)) ∈ lw_tbl := lw_at lw_m12 129 rfl
theorem q2875 : (Jvm.Cond.instanceMethod ({ cls := "LinesTouchedModel", name := "rule", desc := "(III)Z" } : Jvm.MethodName)) ∈ lw_all := lw_g (lw_at lw_m12 130 rfl) rfl
theorem q2876 : (Jvm.Cond.code ({ cls := "LinesTouchedModel", name := "rule", desc := "(III)Z" } : Jvm.MethodName) prog_32_method_50_code (4 : Nat) (Option.some Jvm.ClassFile.FieldType.boolean)) ∈ lw_all := lw_g (lw_at lw_m12 131 rfl) rfl
theorem q2878 : (Jvm.Cond.instanceMethod ({ cls := "LinesTouchedModel", name := "round", desc := "(III)I" } : Jvm.MethodName)) ∈ lw_all := lw_g (lw_at lw_m12 133 rfl) rfl
theorem q2879 : (Jvm.Cond.selects "LinesTouchedModel" ({ cls := "LinesTouchedModel", name := "round", desc := "(III)I" } : Jvm.MethodName) ({ cls := "LinesTouchedModel", name := "round", desc := "(III)I" } : Jvm.MethodName)) ∈ lw_all := lw_g (lw_at lw_m12 134 rfl) rfl
theorem q2880 : (Jvm.Cond.code ({ cls := "LinesTouchedModel", name := "round", desc := "(III)I" } : Jvm.MethodName) prog_32_method_53_code (4 : Nat) (Option.some Jvm.ClassFile.FieldType.int)) ∈ lw_all := lw_g (lw_at lw_m12 135 rfl) rfl
theorem q2882 : (Jvm.Cond.instanceMethod ({ cls := "LinesTouchedModel", name := "pack", desc := "(I)I" } : Jvm.MethodName)) ∈ lw_all := lw_g (lw_at lw_m12 137 rfl) rfl
theorem q2883 : (Jvm.Cond.selects "LinesTouchedModel" ({ cls := "LinesTouchedModel", name := "pack", desc := "(I)I" } : Jvm.MethodName) ({ cls := "LinesTouchedModel", name := "pack", desc := "(I)I" } : Jvm.MethodName)) ∈ lw_all := lw_g (lw_at lw_m12 138 rfl) rfl
theorem q2884 : (Jvm.Cond.code ({ cls := "LinesTouchedModel", name := "pack", desc := "(I)I" } : Jvm.MethodName) prog_32_method_55_code (7 : Nat) (Option.some Jvm.ClassFile.FieldType.int)) ∈ lw_all := lw_g (lw_at lw_m12 139 rfl) rfl
theorem q2885 : (Jvm.Cond.methodLink "LinesTouchedModel" (250 : Nat) ({ cls := "LinesTouchedModel", name := "packsTo", desc := "(III)V" } : Jvm.MethodName)) ∈ lw_all := lw_g (lw_at lw_m12 140 rfl) rfl
theorem q2886 : (Jvm.Cond.privateMethod ({ cls := "LinesTouchedModel", name := "packsTo", desc := "(III)V" } : Jvm.MethodName)) ∈ lw_tbl := lw_at lw_m12 141 rfl
theorem q2887 : (Jvm.Cond.instanceMethod ({ cls := "LinesTouchedModel", name := "packsTo", desc := "(III)V" } : Jvm.MethodName)) ∈ lw_all := lw_g (lw_at lw_m12 142 rfl) rfl
theorem q2888 : (Jvm.Cond.code ({ cls := "LinesTouchedModel", name := "packsTo", desc := "(III)V" } : Jvm.MethodName) prog_32_method_54_code (6 : Nat) (Option.none : Option Jvm.ClassFile.FieldType)) ∈ lw_all := lw_g (lw_at lw_m12 143 rfl) rfl
theorem q2890 : (Jvm.Cond.instanceMethod ({ cls := "LinesTouchedModel", name := "packs", desc := "(I)I" } : Jvm.MethodName)) ∈ lw_all := lw_g (lw_at lw_m12 145 rfl) rfl
theorem q2891 : (Jvm.Cond.selects "LinesTouchedModel" ({ cls := "LinesTouchedModel", name := "packs", desc := "(I)I" } : Jvm.MethodName) ({ cls := "LinesTouchedModel", name := "packs", desc := "(I)I" } : Jvm.MethodName)) ∈ lw_all := lw_g (lw_at lw_m12 146 rfl) rfl
theorem q2892 : (Jvm.Cond.code ({ cls := "LinesTouchedModel", name := "packs", desc := "(I)I" } : Jvm.MethodName) prog_32_method_57_code (6 : Nat) (Option.some Jvm.ClassFile.FieldType.int)) ∈ lw_all := lw_g (lw_at lw_m12 147 rfl) rfl
theorem q2893 : (Jvm.Cond.methodLink "LinesTouchedModel" (253 : Nat) ({ cls := "LinesTouchedModel", name := "isSheet", desc := "(I)Z" } : Jvm.MethodName)) ∈ lw_all := lw_g (lw_at lw_m12 148 rfl) rfl
theorem q2894 : (Jvm.Cond.static ({ cls := "LinesTouchedModel", name := "isSheet", desc := "(I)Z" } : Jvm.MethodName)) ∈ lw_all := lw_g (lw_at lw_m12 149 rfl) rfl
theorem q2895 : (Jvm.Cond.code ({ cls := "LinesTouchedModel", name := "isSheet", desc := "(I)Z" } : Jvm.MethodName) prog_32_method_96_code (1 : Nat) (Option.some Jvm.ClassFile.FieldType.boolean)) ∈ lw_all := lw_g (lw_at lw_m12 150 rfl) rfl
theorem q2896 : (Jvm.Cond.methodLink "LinesTouchedModel" (256 : Nat) ({ cls := "LinesTouchedModel", name := "isPacked", desc := "(I)Z" } : Jvm.MethodName)) ∈ lw_all := lw_g (lw_at lw_m12 151 rfl) rfl
theorem q2897 : (Jvm.Cond.privateMethod ({ cls := "LinesTouchedModel", name := "isPacked", desc := "(I)Z" } : Jvm.MethodName)) ∈ lw_tbl := lw_at lw_m12 152 rfl
theorem q2898 : (Jvm.Cond.instanceMethod ({ cls := "LinesTouchedModel", name := "isPacked", desc := "(I)Z" } : Jvm.MethodName)) ∈ lw_all := lw_g (lw_at lw_m12 153 rfl) rfl
theorem q2899 : (Jvm.Cond.code ({ cls := "LinesTouchedModel", name := "isPacked", desc := "(I)Z" } : Jvm.MethodName) prog_32_method_56_code (4 : Nat) (Option.some Jvm.ClassFile.FieldType.boolean)) ∈ lw_all := lw_g (lw_at lw_m12 154 rfl) rfl
theorem q2901 : (Jvm.Cond.instanceMethod ({ cls := "LinesTouchedModel", name := "search", desc := "(II)I" } : Jvm.MethodName)) ∈ lw_all := lw_g (lw_at lw_m12 156 rfl) rfl
theorem q2902 : (Jvm.Cond.selects "LinesTouchedModel" ({ cls := "LinesTouchedModel", name := "search", desc := "(II)I" } : Jvm.MethodName) ({ cls := "LinesTouchedModel", name := "search", desc := "(II)I" } : Jvm.MethodName)) ∈ lw_all := lw_g (lw_at lw_m12 157 rfl) rfl
theorem q2903 : (Jvm.Cond.code ({ cls := "LinesTouchedModel", name := "search", desc := "(II)I" } : Jvm.MethodName) prog_32_method_61_code (4 : Nat) (Option.some Jvm.ClassFile.FieldType.int)) ∈ lw_all := lw_g (lw_at lw_m12 158 rfl) rfl
theorem q2904 : (Jvm.Cond.methodLink "LinesTouchedModel" (277 : Nat) ({ cls := "LinesTouchedModel", name := "searchFor", desc := "(II)I" } : Jvm.MethodName)) ∈ lw_all := lw_g (lw_at lw_m12 159 rfl) rfl
theorem q2905 : (Jvm.Cond.privateMethod ({ cls := "LinesTouchedModel", name := "searchFor", desc := "(II)I" } : Jvm.MethodName)) ∈ lw_tbl := lw_at lw_m12 160 rfl
theorem q2906 : (Jvm.Cond.instanceMethod ({ cls := "LinesTouchedModel", name := "searchFor", desc := "(II)I" } : Jvm.MethodName)) ∈ lw_all := lw_g (lw_at lw_m12 161 rfl) rfl
theorem q2907 : (Jvm.Cond.code ({ cls := "LinesTouchedModel", name := "searchFor", desc := "(II)I" } : Jvm.MethodName) prog_32_method_60_code (3 : Nat) (Option.some Jvm.ClassFile.FieldType.int)) ∈ lw_all := lw_g (lw_at lw_m12 162 rfl) rfl
theorem q2908 : (Jvm.Cond.methodLink "LinesTouchedModel" (274 : Nat) ({ cls := "LinesTouchedModel", name := "searches", desc := "(IIII)I" } : Jvm.MethodName)) ∈ lw_all := lw_g (lw_at lw_m12 163 rfl) rfl
theorem q2909 : (Jvm.Cond.privateMethod ({ cls := "LinesTouchedModel", name := "searches", desc := "(IIII)I" } : Jvm.MethodName)) ∈ lw_tbl := lw_at lw_m12 164 rfl
theorem q2910 : (Jvm.Cond.instanceMethod ({ cls := "LinesTouchedModel", name := "searches", desc := "(IIII)I" } : Jvm.MethodName)) ∈ lw_all := lw_g (lw_at lw_m12 165 rfl) rfl
theorem q2911 : (Jvm.Cond.code ({ cls := "LinesTouchedModel", name := "searches", desc := "(IIII)I" } : Jvm.MethodName) prog_32_method_59_code (11 : Nat) (Option.some Jvm.ClassFile.FieldType.int)) ∈ lw_all := lw_g (lw_at lw_m12 166 rfl) rfl
theorem q2912 : (Jvm.Cond.methodLink "LinesTouchedModel" (265 : Nat) ({ cls := "LinesTouchedModel", name := "branch", desc := "(I)I" } : Jvm.MethodName)) ∈ lw_all := lw_g (lw_at lw_m12 167 rfl) rfl
theorem q2913 : (Jvm.Cond.privateMethod ({ cls := "LinesTouchedModel", name := "branch", desc := "(I)I" } : Jvm.MethodName)) ∈ lw_tbl := lw_at lw_m12 168 rfl
theorem q2914 : (Jvm.Cond.instanceMethod ({ cls := "LinesTouchedModel", name := "branch", desc := "(I)I" } : Jvm.MethodName)) ∈ lw_all := lw_g (lw_at lw_m12 169 rfl) rfl
theorem q2915 : (Jvm.Cond.code ({ cls := "LinesTouchedModel", name := "branch", desc := "(I)I" } : Jvm.MethodName) prog_32_method_58_code (4 : Nat) (Option.some Jvm.ClassFile.FieldType.int)) ∈ lw_all := lw_g (lw_at lw_m12 170 rfl) rfl
theorem q2917 : (Jvm.Cond.instanceMethod ({ cls := "LinesTouchedModel", name := "node", desc := "(III)I" } : Jvm.MethodName)) ∈ lw_all := lw_g (lw_at lw_m12 172 rfl) rfl
theorem q2918 : (Jvm.Cond.selects "LinesTouchedModel" ({ cls := "LinesTouchedModel", name := "node", desc := "(III)I" } : Jvm.MethodName) ({ cls := "LinesTouchedModel", name := "node", desc := "(III)I" } : Jvm.MethodName)) ∈ lw_all := lw_g (lw_at lw_m12 173 rfl) rfl
theorem q2919 : (Jvm.Cond.code ({ cls := "LinesTouchedModel", name := "node", desc := "(III)I" } : Jvm.MethodName) prog_32_method_62_code (5 : Nat) (Option.some Jvm.ClassFile.FieldType.int)) ∈ lw_all := lw_g (lw_at lw_m12 174 rfl) rfl
theorem q2921 : (Jvm.Cond.instanceMethod ({ cls := "LinesTouchedModel", name := "prove", desc := "(II)I" } : Jvm.MethodName)) ∈ lw_all := lw_g (lw_at lw_m12 176 rfl) rfl
theorem q2922 : (Jvm.Cond.selects "LinesTouchedModel" ({ cls := "LinesTouchedModel", name := "prove", desc := "(II)I" } : Jvm.MethodName) ({ cls := "LinesTouchedModel", name := "prove", desc := "(II)I" } : Jvm.MethodName)) ∈ lw_all := lw_g (lw_at lw_m12 177 rfl) rfl
theorem q2923 : (Jvm.Cond.code ({ cls := "LinesTouchedModel", name := "prove", desc := "(II)I" } : Jvm.MethodName) prog_32_method_63_code (4 : Nat) (Option.some Jvm.ClassFile.FieldType.int)) ∈ lw_all := lw_g (lw_at lw_m12 178 rfl) rfl
theorem q2925 : (Jvm.Cond.instanceMethod ({ cls := "LinesTouchedModel", name := "proves", desc := "(II)I" } : Jvm.MethodName)) ∈ lw_all := lw_g (lw_at lw_m12 180 rfl) rfl
theorem q2926 : (Jvm.Cond.selects "LinesTouchedModel" ({ cls := "LinesTouchedModel", name := "proves", desc := "(II)I" } : Jvm.MethodName) ({ cls := "LinesTouchedModel", name := "proves", desc := "(II)I" } : Jvm.MethodName)) ∈ lw_all := lw_g (lw_at lw_m12 181 rfl) rfl
theorem q2927 : (Jvm.Cond.code ({ cls := "LinesTouchedModel", name := "proves", desc := "(II)I" } : Jvm.MethodName) prog_32_method_65_code (3 : Nat) (Option.some Jvm.ClassFile.FieldType.int)) ∈ lw_all := lw_g (lw_at lw_m12 182 rfl) rfl
theorem q2928 : (Jvm.Cond.methodLink "LinesTouchedModel" (283 : Nat) ({ cls := "LinesTouchedModel", name := "isTold", desc := "(IIII)Z" } : Jvm.MethodName)) ∈ lw_all := lw_g (lw_at lw_m12 183 rfl) rfl
theorem q2929 : (Jvm.Cond.privateMethod ({ cls := "LinesTouchedModel", name := "isTold", desc := "(IIII)Z" } : Jvm.MethodName)) ∈ lw_tbl := lw_at lw_m12 184 rfl
theorem q2930 : (Jvm.Cond.instanceMethod ({ cls := "LinesTouchedModel", name := "isTold", desc := "(IIII)Z" } : Jvm.MethodName)) ∈ lw_all := lw_g (lw_at lw_m12 185 rfl) rfl
theorem q2931 : (Jvm.Cond.code ({ cls := "LinesTouchedModel", name := "isTold", desc := "(IIII)Z" } : Jvm.MethodName) prog_32_method_64_code (8 : Nat) (Option.some Jvm.ClassFile.FieldType.boolean)) ∈ lw_all := lw_g (lw_at lw_m12 186 rfl) rfl
theorem q2933 : (Jvm.Cond.instanceMethod ({ cls := "LinesTouchedModel", name := "without", desc := "(I)I" } : Jvm.MethodName)) ∈ lw_all := lw_g (lw_at lw_m12 188 rfl) rfl
theorem q2934 : (Jvm.Cond.selects "LinesTouchedModel" ({ cls := "LinesTouchedModel", name := "without", desc := "(I)I" } : Jvm.MethodName) ({ cls := "LinesTouchedModel", name := "without", desc := "(I)I" } : Jvm.MethodName)) ∈ lw_all := lw_g (lw_at lw_m12 189 rfl) rfl
theorem q2935 : (Jvm.Cond.code ({ cls := "LinesTouchedModel", name := "without", desc := "(I)I" } : Jvm.MethodName) prog_32_method_66_code (5 : Nat) (Option.some Jvm.ClassFile.FieldType.int)) ∈ lw_all := lw_g (lw_at lw_m12 190 rfl) rfl
theorem q2937 : (Jvm.Cond.instanceMethod ({ cls := "LinesTouchedModel", name := "cut", desc := "(I)I" } : Jvm.MethodName)) ∈ lw_all := lw_g (lw_at lw_m12 192 rfl) rfl
theorem q2938 : (Jvm.Cond.selects "LinesTouchedModel" ({ cls := "LinesTouchedModel", name := "cut", desc := "(I)I" } : Jvm.MethodName) ({ cls := "LinesTouchedModel", name := "cut", desc := "(I)I" } : Jvm.MethodName)) ∈ lw_all := lw_g (lw_at lw_m12 193 rfl) rfl
theorem q2939 : (Jvm.Cond.code ({ cls := "LinesTouchedModel", name := "cut", desc := "(I)I" } : Jvm.MethodName) prog_32_method_68_code (2 : Nat) (Option.some Jvm.ClassFile.FieldType.int)) ∈ lw_all := lw_g (lw_at lw_m12 194 rfl) rfl
theorem q2940 : (Jvm.Cond.methodLink "LinesTouchedModel" (287 : Nat) ({ cls := "LinesTouchedModel", name := "turning", desc := "(III)I" } : Jvm.MethodName)) ∈ lw_all := lw_g (lw_at lw_m12 195 rfl) rfl
theorem q2941 : (Jvm.Cond.privateMethod ({ cls := "LinesTouchedModel", name := "turning", desc := "(III)I" } : Jvm.MethodName)) ∈ lw_tbl := lw_at lw_m12 196 rfl
theorem q2942 : (Jvm.Cond.instanceMethod ({ cls := "LinesTouchedModel", name := "turning", desc := "(III)I" } : Jvm.MethodName)) ∈ lw_all := lw_g (lw_at lw_m12 197 rfl) rfl
theorem q2943 : (Jvm.Cond.code ({ cls := "LinesTouchedModel", name := "turning", desc := "(III)I" } : Jvm.MethodName) prog_32_method_67_code (10 : Nat) (Option.some Jvm.ClassFile.FieldType.int)) ∈ lw_all := lw_g (lw_at lw_m12 198 rfl) rfl
theorem q2945 : (Jvm.Cond.instanceMethod ({ cls := "LinesTouchedModel", name := "joins", desc := "(I)I" } : Jvm.MethodName)) ∈ lw_all := lw_g (lw_at lw_m12 200 rfl) rfl
theorem q2946 : (Jvm.Cond.selects "LinesTouchedModel" ({ cls := "LinesTouchedModel", name := "joins", desc := "(I)I" } : Jvm.MethodName) ({ cls := "LinesTouchedModel", name := "joins", desc := "(I)I" } : Jvm.MethodName)) ∈ lw_all := lw_g (lw_at lw_m12 201 rfl) rfl
theorem q2947 : (Jvm.Cond.code ({ cls := "LinesTouchedModel", name := "joins", desc := "(I)I" } : Jvm.MethodName) prog_32_method_69_code (2 : Nat) (Option.some Jvm.ClassFile.FieldType.int)) ∈ lw_all := lw_g (lw_at lw_m12 202 rfl) rfl
theorem q2949 : (Jvm.Cond.instanceMethod ({ cls := "LinesTouchedModel", name := "pays", desc := "(I)I" } : Jvm.MethodName)) ∈ lw_all := lw_g (lw_at lw_m12 204 rfl) rfl
theorem q2950 : (Jvm.Cond.selects "LinesTouchedModel" ({ cls := "LinesTouchedModel", name := "pays", desc := "(I)I" } : Jvm.MethodName) ({ cls := "LinesTouchedModel", name := "pays", desc := "(I)I" } : Jvm.MethodName)) ∈ lw_all := lw_g (lw_at lw_m12 205 rfl) rfl
theorem q2951 : (Jvm.Cond.code ({ cls := "LinesTouchedModel", name := "pays", desc := "(I)I" } : Jvm.MethodName) prog_32_method_71_code (5 : Nat) (Option.some Jvm.ClassFile.FieldType.int)) ∈ lw_all := lw_g (lw_at lw_m12 206 rfl) rfl
theorem q2952 : (Jvm.Cond.methodLink "LinesTouchedModel" (291 : Nat) ({ cls := "LinesTouchedModel", name := "payments", desc := "(II)I" } : Jvm.MethodName)) ∈ lw_all := lw_g (lw_at lw_m12 207 rfl) rfl
theorem q2953 : (Jvm.Cond.privateMethod ({ cls := "LinesTouchedModel", name := "payments", desc := "(II)I" } : Jvm.MethodName)) ∈ lw_tbl := lw_at lw_m12 208 rfl
theorem q2954 : (Jvm.Cond.instanceMethod ({ cls := "LinesTouchedModel", name := "payments", desc := "(II)I" } : Jvm.MethodName)) ∈ lw_all := lw_g (lw_at lw_m12 209 rfl) rfl
theorem q2955 : (Jvm.Cond.code ({ cls := "LinesTouchedModel", name := "payments", desc := "(II)I" } : Jvm.MethodName) prog_32_method_70_code (8 : Nat) (Option.some Jvm.ClassFile.FieldType.int)) ∈ lw_all := lw_g (lw_at lw_m12 210 rfl) rfl
theorem q2957 : (Jvm.Cond.instanceMethod ({ cls := "LinesTouchedModel", name := "paid", desc := "(II)I" } : Jvm.MethodName)) ∈ lw_all := lw_g (lw_at lw_m12 212 rfl) rfl
theorem q2958 : (Jvm.Cond.selects "LinesTouchedModel" ({ cls := "LinesTouchedModel", name := "paid", desc := "(II)I" } : Jvm.MethodName) ({ cls := "LinesTouchedModel", name := "paid", desc := "(II)I" } : Jvm.MethodName)) ∈ lw_all := lw_g (lw_at lw_m12 213 rfl) rfl
theorem q2959 : (Jvm.Cond.code ({ cls := "LinesTouchedModel", name := "paid", desc := "(II)I" } : Jvm.MethodName) prog_32_method_72_code (3 : Nat) (Option.some Jvm.ClassFile.FieldType.int)) ∈ lw_all := lw_g (lw_at lw_m12 214 rfl) rfl
theorem q2961 : (Jvm.Cond.instanceMethod ({ cls := "LinesTouchedModel", name := "feed", desc := "(II)I" } : Jvm.MethodName)) ∈ lw_all := lw_g (lw_at lw_m12 216 rfl) rfl
theorem q2962 : (Jvm.Cond.selects "LinesTouchedModel" ({ cls := "LinesTouchedModel", name := "feed", desc := "(II)I" } : Jvm.MethodName) ({ cls := "LinesTouchedModel", name := "feed", desc := "(II)I" } : Jvm.MethodName)) ∈ lw_all := lw_g (lw_at lw_m12 217 rfl) rfl
theorem q2963 : (Jvm.Cond.code ({ cls := "LinesTouchedModel", name := "feed", desc := "(II)I" } : Jvm.MethodName) prog_32_method_73_code (4 : Nat) (Option.some Jvm.ClassFile.FieldType.int)) ∈ lw_all := lw_g (lw_at lw_m12 218 rfl) rfl
theorem q2965 : (Jvm.Cond.instanceMethod ({ cls := "LinesTouchedModel", name := "wipe", desc := "()I" } : Jvm.MethodName)) ∈ lw_all := lw_g (lw_at lw_m12 220 rfl) rfl
theorem q2966 : (Jvm.Cond.selects "LinesTouchedModel" ({ cls := "LinesTouchedModel", name := "wipe", desc := "()I" } : Jvm.MethodName) ({ cls := "LinesTouchedModel", name := "wipe", desc := "()I" } : Jvm.MethodName)) ∈ lw_all := lw_g (lw_at lw_m12 221 rfl) rfl
theorem q2967 : (Jvm.Cond.code ({ cls := "LinesTouchedModel", name := "wipe", desc := "()I" } : Jvm.MethodName) prog_32_method_74_code (2 : Nat) (Option.some Jvm.ClassFile.FieldType.int)) ∈ lw_all := lw_g (lw_at lw_m12 222 rfl) rfl
theorem q2969 : (Jvm.Cond.instanceMethod ({ cls := "LinesTouchedModel", name := "text", desc := "()I" } : Jvm.MethodName)) ∈ lw_all := lw_g (lw_at lw_m12 224 rfl) rfl
theorem q2970 : (Jvm.Cond.selects "LinesTouchedModel" ({ cls := "LinesTouchedModel", name := "text", desc := "()I" } : Jvm.MethodName) ({ cls := "LinesTouchedModel", name := "text", desc := "()I" } : Jvm.MethodName)) ∈ lw_all := lw_g (lw_at lw_m12 225 rfl) rfl
theorem q2971 : (Jvm.Cond.code ({ cls := "LinesTouchedModel", name := "text", desc := "()I" } : Jvm.MethodName) prog_32_method_79_code (3 : Nat) (Option.some Jvm.ClassFile.FieldType.int)) ∈ lw_all := lw_g (lw_at lw_m12 226 rfl) rfl
theorem q2972 : (Jvm.Cond.methodLink "LinesTouchedModel" (307 : Nat) ({ cls := "LinesTouchedModel", name := "faultOf", desc := "()I" } : Jvm.MethodName)) ∈ lw_all := lw_g (lw_at lw_m12 227 rfl) rfl
theorem q2973 : (Jvm.Cond.privateMethod ({ cls := "LinesTouchedModel", name := "faultOf", desc := "()I" } : Jvm.MethodName)) ∈ lw_tbl := lw_at lw_m12 228 rfl
theorem q2974 : (Jvm.Cond.instanceMethod ({ cls := "LinesTouchedModel", name := "faultOf", desc := "()I" } : Jvm.MethodName)) ∈ lw_all := lw_g (lw_at lw_m12 229 rfl) rfl
theorem q2975 : (Jvm.Cond.code ({ cls := "LinesTouchedModel", name := "faultOf", desc := "()I" } : Jvm.MethodName) prog_32_method_78_code (6 : Nat) (Option.some Jvm.ClassFile.FieldType.int)) ∈ lw_all := lw_g (lw_at lw_m12 230 rfl) rfl
theorem q2976 : (Jvm.Cond.methodLink "LinesTouchedModel" (301 : Nat) ({ cls := "LinesTouchedModel", name := "isFrom", desc := "(III)Z" } : Jvm.MethodName)) ∈ lw_all := lw_g (lw_at lw_m12 231 rfl) rfl
theorem q2977 : (Jvm.Cond.privateMethod ({ cls := "LinesTouchedModel", name := "isFrom", desc := "(III)Z" } : Jvm.MethodName)) ∈ lw_tbl := lw_at lw_m12 232 rfl
theorem q2978 : (Jvm.Cond.instanceMethod ({ cls := "LinesTouchedModel", name := "isFrom", desc := "(III)Z" } : Jvm.MethodName)) ∈ lw_all := lw_g (lw_at lw_m12 233 rfl) rfl
theorem q2979 : (Jvm.Cond.code ({ cls := "LinesTouchedModel", name := "isFrom", desc := "(III)Z" } : Jvm.MethodName) prog_32_method_77_code (4 : Nat) (Option.some Jvm.ClassFile.FieldType.boolean)) ∈ lw_all := lw_g (lw_at lw_m12 234 rfl) rfl
theorem q2980 : (Jvm.Cond.methodLink "LinesTouchedModel" (304 : Nat) ({ cls := "LinesTouchedModel", name := "kindOf", desc := "(II)I" } : Jvm.MethodName)) ∈ lw_all := lw_g (lw_at lw_m12 235 rfl) rfl
theorem q2981 : (Jvm.Cond.privateMethod ({ cls := "LinesTouchedModel", name := "kindOf", desc := "(II)I" } : Jvm.MethodName)) ∈ lw_tbl := lw_at lw_m12 236 rfl
theorem q2982 : (Jvm.Cond.instanceMethod ({ cls := "LinesTouchedModel", name := "kindOf", desc := "(II)I" } : Jvm.MethodName)) ∈ lw_all := lw_g (lw_at lw_m12 237 rfl) rfl
theorem q2983 : (Jvm.Cond.code ({ cls := "LinesTouchedModel", name := "kindOf", desc := "(II)I" } : Jvm.MethodName) prog_32_method_76_code (3 : Nat) (Option.some Jvm.ClassFile.FieldType.int)) ∈ lw_all := lw_g (lw_at lw_m12 238 rfl) rfl
theorem q2984 : (Jvm.Cond.methodLink "LinesTouchedModel" (294 : Nat) ({ cls := "LinesTouchedModel", name := "isWord", desc := "(IIIIIIII)Z" } : Jvm.MethodName)) ∈ lw_all := lw_g (lw_at lw_m12 239 rfl) rfl
theorem q2985 : (Jvm.Cond.privateMethod ({ cls := "LinesTouchedModel", name := "isWord", desc := "(IIIIIIII)Z" } : Jvm.MethodName)) ∈ lw_tbl := lw_at lw_m13 0 rfl
theorem q2986 : (Jvm.Cond.instanceMethod ({ cls := "LinesTouchedModel", name := "isWord", desc := "(IIIIIIII)Z" } : Jvm.MethodName)) ∈ lw_all := lw_g (lw_at lw_m13 1 rfl) rfl
theorem q2987 : (Jvm.Cond.code ({ cls := "LinesTouchedModel", name := "isWord", desc := "(IIIIIIII)Z" } : Jvm.MethodName) prog_32_method_75_code (10 : Nat) (Option.some Jvm.ClassFile.FieldType.boolean)) ∈ lw_all := lw_g (lw_at lw_m13 2 rfl) rfl
theorem q2989 : (Jvm.Cond.instanceMethod ({ cls := "LinesTouchedModel", name := "tree", desc := "(I)J" } : Jvm.MethodName)) ∈ lw_all := lw_g (lw_at lw_m13 4 rfl) rfl
theorem q2990 : (Jvm.Cond.selects "LinesTouchedModel" ({ cls := "LinesTouchedModel", name := "tree", desc := "(I)J" } : Jvm.MethodName) ({ cls := "LinesTouchedModel", name := "tree", desc := "(I)J" } : Jvm.MethodName)) ∈ lw_all := lw_g (lw_at lw_m13 5 rfl) rfl
theorem q2991 : (Jvm.Cond.code ({ cls := "LinesTouchedModel", name := "tree", desc := "(I)J" } : Jvm.MethodName) prog_32_method_84_code (3 : Nat) (Option.some Jvm.ClassFile.FieldType.long)) ∈ lw_all := lw_g (lw_at lw_m13 6 rfl) rfl
theorem q2992 : (Jvm.Cond.constantLong "LinesTouchedModel" (316 : Nat) (-1 : Int64)) ∈ lw_all := lw_g (lw_at lw_m13 7 rfl) rfl
theorem q2993 : (Jvm.Cond.methodLink "LinesTouchedModel" (318 : Nat) ({ cls := "LinesTouchedModel", name := "bareOnes", desc := "()J" } : Jvm.MethodName)) ∈ lw_all := lw_g (lw_at lw_m13 8 rfl) rfl
theorem q2994 : (Jvm.Cond.privateMethod ({ cls := "LinesTouchedModel", name := "bareOnes", desc := "()J" } : Jvm.MethodName)) ∈ lw_tbl := lw_at lw_m13 9 rfl
theorem q2995 : (Jvm.Cond.instanceMethod ({ cls := "LinesTouchedModel", name := "bareOnes", desc := "()J" } : Jvm.MethodName)) ∈ lw_all := lw_g (lw_at lw_m13 10 rfl) rfl
theorem q2996 : (Jvm.Cond.code ({ cls := "LinesTouchedModel", name := "bareOnes", desc := "()J" } : Jvm.MethodName) prog_32_method_83_code (3 : Nat) (Option.some Jvm.ClassFile.FieldType.long)) ∈ lw_all := lw_g (lw_at lw_m13 11 rfl) rfl
theorem q2997 : (Jvm.Cond.methodLink "LinesTouchedModel" (322 : Nat) ({ cls := "LinesTouchedModel", name := "counts", desc := "(I)V" } : Jvm.MethodName)) ∈ lw_all := lw_g (lw_at lw_m13 12 rfl) rfl
theorem q2998 : (Jvm.Cond.privateMethod ({ cls := "LinesTouchedModel", name := "counts", desc := "(I)V" } : Jvm.MethodName)) ∈ lw_tbl := lw_at lw_m13 13 rfl
theorem q2999 : (Jvm.Cond.instanceMethod ({ cls := "LinesTouchedModel", name := "counts", desc := "(I)V" } : Jvm.MethodName)) ∈ lw_all := lw_g (lw_at lw_m13 14 rfl) rfl
theorem q3000 : (Jvm.Cond.code ({ cls := "LinesTouchedModel", name := "counts", desc := "(I)V" } : Jvm.MethodName) prog_32_method_82_code (5 : Nat) (Option.none : Option Jvm.ClassFile.FieldType)) ∈ lw_all := lw_g (lw_at lw_m13 15 rfl) rfl
theorem q3001 : (Jvm.Cond.methodLink "LinesTouchedModel" (313 : Nat) ({ cls := "LinesTouchedModel", name := "costIn", desc := "(I)I" } : Jvm.MethodName)) ∈ lw_all := lw_g (lw_at lw_m13 16 rfl) rfl
theorem q3002 : (Jvm.Cond.privateMethod ({ cls := "LinesTouchedModel", name := "costIn", desc := "(I)I" } : Jvm.MethodName)) ∈ lw_tbl := lw_at lw_m13 17 rfl
theorem q3003 : (Jvm.Cond.instanceMethod ({ cls := "LinesTouchedModel", name := "costIn", desc := "(I)I" } : Jvm.MethodName)) ∈ lw_all := lw_g (lw_at lw_m13 18 rfl) rfl
theorem q3004 : (Jvm.Cond.code ({ cls := "LinesTouchedModel", name := "costIn", desc := "(I)I" } : Jvm.MethodName) prog_32_method_81_code (2 : Nat) (Option.some Jvm.ClassFile.FieldType.int)) ∈ lw_all := lw_g (lw_at lw_m13 19 rfl) rfl
theorem q3005 : (Jvm.Cond.methodLink "LinesTouchedModel" (310 : Nat) ({ cls := "LinesTouchedModel", name := "linesIn", desc := "(I)I" } : Jvm.MethodName)) ∈ lw_all := lw_g (lw_at lw_m13 20 rfl) rfl
theorem q3006 : (Jvm.Cond.privateMethod ({ cls := "LinesTouchedModel", name := "linesIn", desc := "(I)I" } : Jvm.MethodName)) ∈ lw_tbl := lw_at lw_m13 21 rfl
theorem q3007 : (Jvm.Cond.instanceMethod ({ cls := "LinesTouchedModel", name := "linesIn", desc := "(I)I" } : Jvm.MethodName)) ∈ lw_all := lw_g (lw_at lw_m13 22 rfl) rfl
theorem q3008 : (Jvm.Cond.code ({ cls := "LinesTouchedModel", name := "linesIn", desc := "(I)I" } : Jvm.MethodName) prog_32_method_80_code (4 : Nat) (Option.some Jvm.ClassFile.FieldType.int)) ∈ lw_all := lw_g (lw_at lw_m13 23 rfl) rfl
theorem q3010 : (Jvm.Cond.instanceMethod ({ cls := "LinesTouchedModel", name := "treeOf", desc := "(II)I" } : Jvm.MethodName)) ∈ lw_all := lw_g (lw_at lw_m13 25 rfl) rfl
theorem q3011 : (Jvm.Cond.selects "LinesTouchedModel" ({ cls := "LinesTouchedModel", name := "treeOf", desc := "(II)I" } : Jvm.MethodName) ({ cls := "LinesTouchedModel", name := "treeOf", desc := "(II)I" } : Jvm.MethodName)) ∈ lw_all := lw_g (lw_at lw_m13 26 rfl) rfl
theorem q3012 : (Jvm.Cond.code ({ cls := "LinesTouchedModel", name := "treeOf", desc := "(II)I" } : Jvm.MethodName) prog_32_method_87_code (5 : Nat) (Option.some Jvm.ClassFile.FieldType.int)) ∈ lw_all := lw_g (lw_at lw_m13 27 rfl) rfl
theorem q3013 : (Jvm.Cond.methodLink "LinesTouchedModel" (326 : Nat) ({ cls := "LinesTouchedModel", name := "isUnder", desc := "(II)Z" } : Jvm.MethodName)) ∈ lw_all := lw_g (lw_at lw_m13 28 rfl) rfl
theorem q3014 : (Jvm.Cond.privateMethod ({ cls := "LinesTouchedModel", name := "isUnder", desc := "(II)Z" } : Jvm.MethodName)) ∈ lw_tbl := lw_at lw_m13 29 rfl
theorem q3015 : (Jvm.Cond.instanceMethod ({ cls := "LinesTouchedModel", name := "isUnder", desc := "(II)Z" } : Jvm.MethodName)) ∈ lw_all := lw_g (lw_at lw_m13 30 rfl) rfl
theorem q3016 : (Jvm.Cond.code ({ cls := "LinesTouchedModel", name := "isUnder", desc := "(II)Z" } : Jvm.MethodName) prog_32_method_85_code (4 : Nat) (Option.some Jvm.ClassFile.FieldType.boolean)) ∈ lw_all := lw_g (lw_at lw_m13 31 rfl) rfl
theorem q3017 : (Jvm.Cond.methodLink "LinesTouchedModel" (329 : Nat) ({ cls := "LinesTouchedModel", name := "isMarked", desc := "(I)Z" } : Jvm.MethodName)) ∈ lw_all := lw_g (lw_at lw_m13 32 rfl) rfl
theorem q3018 : (Jvm.Cond.privateMethod ({ cls := "LinesTouchedModel", name := "isMarked", desc := "(I)Z" } : Jvm.MethodName)) ∈ lw_tbl := lw_at lw_m13 33 rfl
theorem q3019 : (Jvm.Cond.instanceMethod ({ cls := "LinesTouchedModel", name := "isMarked", desc := "(I)Z" } : Jvm.MethodName)) ∈ lw_all := lw_g (lw_at lw_m13 34 rfl) rfl
theorem q3020 : (Jvm.Cond.code ({ cls := "LinesTouchedModel", name := "isMarked", desc := "(I)Z" } : Jvm.MethodName) prog_32_method_86_code (3 : Nat) (Option.some Jvm.ClassFile.FieldType.boolean)) ∈ lw_all := lw_g (lw_at lw_m13 35 rfl) rfl
theorem q3022 : (Jvm.Cond.instanceMethod ({ cls := "LinesTouchedModel", name := "plant", desc := "()I" } : Jvm.MethodName)) ∈ lw_all := lw_g (lw_at lw_m13 37 rfl) rfl
theorem q3023 : (Jvm.Cond.selects "LinesTouchedModel" ({ cls := "LinesTouchedModel", name := "plant", desc := "()I" } : Jvm.MethodName) ({ cls := "LinesTouchedModel", name := "plant", desc := "()I" } : Jvm.MethodName)) ∈ lw_all := lw_g (lw_at lw_m13 38 rfl) rfl
theorem q3024 : (Jvm.Cond.code ({ cls := "LinesTouchedModel", name := "plant", desc := "()I" } : Jvm.MethodName) prog_32_method_88_code (2 : Nat) (Option.some Jvm.ClassFile.FieldType.int)) ∈ lw_all := lw_g (lw_at lw_m13 39 rfl) rfl
theorem q3026 : (Jvm.Cond.instanceMethod ({ cls := "LinesTouchedModel", name := "seed", desc := "(I)I" } : Jvm.MethodName)) ∈ lw_all := lw_g (lw_at lw_m13 41 rfl) rfl
theorem q3027 : (Jvm.Cond.selects "LinesTouchedModel" ({ cls := "LinesTouchedModel", name := "seed", desc := "(I)I" } : Jvm.MethodName) ({ cls := "LinesTouchedModel", name := "seed", desc := "(I)I" } : Jvm.MethodName)) ∈ lw_all := lw_g (lw_at lw_m13 42 rfl) rfl
theorem q3028 : (Jvm.Cond.code ({ cls := "LinesTouchedModel", name := "seed", desc := "(I)I" } : Jvm.MethodName) prog_32_method_90_code (3 : Nat) (Option.some Jvm.ClassFile.FieldType.int)) ∈ lw_all := lw_g (lw_at lw_m13 43 rfl) rfl
theorem q3030 : (Jvm.Cond.instanceMethod ({ cls := "LinesTouchedModel", name := "deal", desc := "(II)I" } : Jvm.MethodName)) ∈ lw_all := lw_g (lw_at lw_m13 45 rfl) rfl
theorem q3031 : (Jvm.Cond.selects "LinesTouchedModel" ({ cls := "LinesTouchedModel", name := "deal", desc := "(II)I" } : Jvm.MethodName) ({ cls := "LinesTouchedModel", name := "deal", desc := "(II)I" } : Jvm.MethodName)) ∈ lw_all := lw_g (lw_at lw_m13 46 rfl) rfl
theorem q3032 : (Jvm.Cond.code ({ cls := "LinesTouchedModel", name := "deal", desc := "(II)I" } : Jvm.MethodName) prog_32_method_92_code (3 : Nat) (Option.some Jvm.ClassFile.FieldType.int)) ∈ lw_all := lw_g (lw_at lw_m13 47 rfl) rfl
theorem q3033 : (Jvm.Cond.methodLink "LinesTouchedModel" (336 : Nat) ({ cls := "LinesTouchedModel", name := "deals", desc := "(II)V" } : Jvm.MethodName)) ∈ lw_all := lw_g (lw_at lw_m13 48 rfl) rfl
theorem q3034 : (Jvm.Cond.privateMethod ({ cls := "LinesTouchedModel", name := "deals", desc := "(II)V" } : Jvm.MethodName)) ∈ lw_tbl := lw_at lw_m13 49 rfl
theorem q3035 : (Jvm.Cond.instanceMethod ({ cls := "LinesTouchedModel", name := "deals", desc := "(II)V" } : Jvm.MethodName)) ∈ lw_all := lw_g (lw_at lw_m13 50 rfl) rfl
theorem q3036 : (Jvm.Cond.code ({ cls := "LinesTouchedModel", name := "deals", desc := "(II)V" } : Jvm.MethodName) prog_32_method_91_code (5 : Nat) (Option.none : Option Jvm.ClassFile.FieldType)) ∈ lw_all := lw_g (lw_at lw_m13 51 rfl) rfl
theorem q3037 : (Jvm.Cond.methodLink "LinesTouchedModel" (333 : Nat) ({ cls := "LinesTouchedModel", name := "draw", desc := "()I" } : Jvm.MethodName)) ∈ lw_all := lw_g (lw_at lw_m13 52 rfl) rfl
theorem q3038 : (Jvm.Cond.privateMethod ({ cls := "LinesTouchedModel", name := "draw", desc := "()I" } : Jvm.MethodName)) ∈ lw_tbl := lw_at lw_m13 53 rfl
theorem q3039 : (Jvm.Cond.instanceMethod ({ cls := "LinesTouchedModel", name := "draw", desc := "()I" } : Jvm.MethodName)) ∈ lw_all := lw_g (lw_at lw_m13 54 rfl) rfl
theorem q3040 : (Jvm.Cond.code ({ cls := "LinesTouchedModel", name := "draw", desc := "()I" } : Jvm.MethodName) prog_32_method_89_code (1 : Nat) (Option.some Jvm.ClassFile.FieldType.int)) ∈ lw_all := lw_g (lw_at lw_m13 55 rfl) rfl
theorem q3041 : (Jvm.Cond.constant "LinesTouchedModel" (332 : Nat) (1103515245 : Int32)) ∈ lw_all := lw_g (lw_at lw_m13 56 rfl) rfl
theorem q3043 : (Jvm.Cond.instanceMethod ({ cls := "LinesTouchedModel", name := "times", desc := "(IIII)I" } : Jvm.MethodName)) ∈ lw_all := lw_g (lw_at lw_m13 58 rfl) rfl
theorem q3044 : (Jvm.Cond.selects "LinesTouchedModel" ({ cls := "LinesTouchedModel", name := "times", desc := "(IIII)I" } : Jvm.MethodName) ({ cls := "LinesTouchedModel", name := "times", desc := "(IIII)I" } : Jvm.MethodName)) ∈ lw_all := lw_g (lw_at lw_m13 59 rfl) rfl
theorem q3045 : (Jvm.Cond.code ({ cls := "LinesTouchedModel", name := "times", desc := "(IIII)I" } : Jvm.MethodName) prog_32_method_95_code (7 : Nat) (Option.some Jvm.ClassFile.FieldType.int)) ∈ lw_all := lw_g (lw_at lw_m13 60 rfl) rfl
theorem q3046 : (Jvm.Cond.methodLink "LinesTouchedModel" (339 : Nat) ({ cls := "LinesTouchedModel", name := "keeps", desc := "([I)V" } : Jvm.MethodName)) ∈ lw_all := lw_g (lw_at lw_m13 61 rfl) rfl
theorem q3047 : (Jvm.Cond.privateMethod ({ cls := "LinesTouchedModel", name := "keeps", desc := "([I)V" } : Jvm.MethodName)) ∈ lw_tbl := lw_at lw_m13 62 rfl
theorem q3048 : (Jvm.Cond.instanceMethod ({ cls := "LinesTouchedModel", name := "keeps", desc := "([I)V" } : Jvm.MethodName)) ∈ lw_all := lw_g (lw_at lw_m13 63 rfl) rfl
theorem q3049 : (Jvm.Cond.code ({ cls := "LinesTouchedModel", name := "keeps", desc := "([I)V" } : Jvm.MethodName) prog_32_method_93_code (3 : Nat) (Option.none : Option Jvm.ClassFile.FieldType)) ∈ lw_all := lw_g (lw_at lw_m13 64 rfl) rfl
theorem q3050 : (Jvm.Cond.methodLink "LinesTouchedModel" (343 : Nat) ({ cls := "LinesTouchedModel", name := "putsBack", desc := "([I)V" } : Jvm.MethodName)) ∈ lw_all := lw_g (lw_at lw_m13 65 rfl) rfl
theorem q3051 : (Jvm.Cond.privateMethod ({ cls := "LinesTouchedModel", name := "putsBack", desc := "([I)V" } : Jvm.MethodName)) ∈ lw_tbl := lw_at lw_m13 66 rfl
theorem q3052 : (Jvm.Cond.instanceMethod ({ cls := "LinesTouchedModel", name := "putsBack", desc := "([I)V" } : Jvm.MethodName)) ∈ lw_all := lw_g (lw_at lw_m13 67 rfl) rfl
theorem q3053 : (Jvm.Cond.code ({ cls := "LinesTouchedModel", name := "putsBack", desc := "([I)V" } : Jvm.MethodName) prog_32_method_94_code (3 : Nat) (Option.none : Option Jvm.ClassFile.FieldType)) ∈ lw_all := lw_g (lw_at lw_m13 68 rfl) rfl
theorem q3055 : (Jvm.Cond.instanceMethod ({ cls := "LinesTouchedModel", name := "sheet", desc := "(III)I" } : Jvm.MethodName)) ∈ lw_all := lw_g (lw_at lw_m13 70 rfl) rfl
theorem q3056 : (Jvm.Cond.selects "LinesTouchedModel" ({ cls := "LinesTouchedModel", name := "sheet", desc := "(III)I" } : Jvm.MethodName) ({ cls := "LinesTouchedModel", name := "sheet", desc := "(III)I" } : Jvm.MethodName)) ∈ lw_all := lw_g (lw_at lw_m13 71 rfl) rfl
theorem q3057 : (Jvm.Cond.code ({ cls := "LinesTouchedModel", name := "sheet", desc := "(III)I" } : Jvm.MethodName) prog_32_method_97_code (5 : Nat) (Option.some Jvm.ClassFile.FieldType.int)) ∈ lw_all := lw_g (lw_at lw_m13 72 rfl) rfl
theorem q3059 : (Jvm.Cond.instanceMethod ({ cls := "LinesTouchedModel", name := "write", desc := "(III)I" } : Jvm.MethodName)) ∈ lw_all := lw_g (lw_at lw_m13 74 rfl) rfl
theorem q3060 : (Jvm.Cond.selects "LinesTouchedModel" ({ cls := "LinesTouchedModel", name := "write", desc := "(III)I" } : Jvm.MethodName) ({ cls := "LinesTouchedModel", name := "write", desc := "(III)I" } : Jvm.MethodName)) ∈ lw_all := lw_g (lw_at lw_m13 75 rfl) rfl
theorem q3061 : (Jvm.Cond.code ({ cls := "LinesTouchedModel", name := "write", desc := "(III)I" } : Jvm.MethodName) prog_32_method_99_code (5 : Nat) (Option.some Jvm.ClassFile.FieldType.int)) ∈ lw_all := lw_g (lw_at lw_m13 76 rfl) rfl
theorem q3062 : (Jvm.Cond.methodLink "LinesTouchedModel" (346 : Nat) ({ cls := "LinesTouchedModel", name := "wrongAt", desc := "(II)I" } : Jvm.MethodName)) ∈ lw_all := lw_g (lw_at lw_m13 77 rfl) rfl
theorem q3063 : (Jvm.Cond.privateMethod ({ cls := "LinesTouchedModel", name := "wrongAt", desc := "(II)I" } : Jvm.MethodName)) ∈ lw_tbl := lw_at lw_m13 78 rfl
theorem q3064 : (Jvm.Cond.instanceMethod ({ cls := "LinesTouchedModel", name := "wrongAt", desc := "(II)I" } : Jvm.MethodName)) ∈ lw_all := lw_g (lw_at lw_m13 79 rfl) rfl
theorem q3065 : (Jvm.Cond.code ({ cls := "LinesTouchedModel", name := "wrongAt", desc := "(II)I" } : Jvm.MethodName) prog_32_method_98_code (3 : Nat) (Option.some Jvm.ClassFile.FieldType.int)) ∈ lw_all := lw_g (lw_at lw_m13 80 rfl) rfl
theorem q3067 : (Jvm.Cond.instanceMethod ({ cls := "LinesTouchedModel", name := "item", desc := "(II)I" } : Jvm.MethodName)) ∈ lw_all := lw_g (lw_at lw_m13 82 rfl) rfl
theorem q3068 : (Jvm.Cond.selects "LinesTouchedModel" ({ cls := "LinesTouchedModel", name := "item", desc := "(II)I" } : Jvm.MethodName) ({ cls := "LinesTouchedModel", name := "item", desc := "(II)I" } : Jvm.MethodName)) ∈ lw_all := lw_g (lw_at lw_m13 83 rfl) rfl
theorem q3069 : (Jvm.Cond.code ({ cls := "LinesTouchedModel", name := "item", desc := "(II)I" } : Jvm.MethodName) prog_32_method_100_code (4 : Nat) (Option.some Jvm.ClassFile.FieldType.int)) ∈ lw_all := lw_g (lw_at lw_m13 84 rfl) rfl
theorem q3071 : (Jvm.Cond.instanceMethod ({ cls := "LinesTouchedModel", name := "copy", desc := "(IIIII)I" } : Jvm.MethodName)) ∈ lw_all := lw_g (lw_at lw_m13 86 rfl) rfl
theorem q3072 : (Jvm.Cond.selects "LinesTouchedModel" ({ cls := "LinesTouchedModel", name := "copy", desc := "(IIIII)I" } : Jvm.MethodName) ({ cls := "LinesTouchedModel", name := "copy", desc := "(IIIII)I" } : Jvm.MethodName)) ∈ lw_all := lw_g (lw_at lw_m13 87 rfl) rfl
theorem q3073 : (Jvm.Cond.code ({ cls := "LinesTouchedModel", name := "copy", desc := "(IIIII)I" } : Jvm.MethodName) prog_32_method_101_code (9 : Nat) (Option.some Jvm.ClassFile.FieldType.int)) ∈ lw_all := lw_g (lw_at lw_m13 88 rfl) rfl
theorem q3075 : (Jvm.Cond.instanceMethod ({ cls := "LinesTouchedModel", name := "load", desc := "(I)I" } : Jvm.MethodName)) ∈ lw_all := lw_g (lw_at lw_m13 90 rfl) rfl
theorem q3076 : (Jvm.Cond.selects "LinesTouchedModel" ({ cls := "LinesTouchedModel", name := "load", desc := "(I)I" } : Jvm.MethodName) ({ cls := "LinesTouchedModel", name := "load", desc := "(I)I" } : Jvm.MethodName)) ∈ lw_all := lw_g (lw_at lw_m13 91 rfl) rfl
theorem q3077 : (Jvm.Cond.code ({ cls := "LinesTouchedModel", name := "load", desc := "(I)I" } : Jvm.MethodName) prog_32_method_102_code (3 : Nat) (Option.some Jvm.ClassFile.FieldType.int)) ∈ lw_all := lw_g (lw_at lw_m13 92 rfl) rfl
theorem q3079 : (Jvm.Cond.instanceMethod ({ cls := "LinesTouchedModel", name := "judge", desc := "(I)I" } : Jvm.MethodName)) ∈ lw_all := lw_g (lw_at lw_m13 94 rfl) rfl
theorem q3080 : (Jvm.Cond.selects "LinesTouchedModel" ({ cls := "LinesTouchedModel", name := "judge", desc := "(I)I" } : Jvm.MethodName) ({ cls := "LinesTouchedModel", name := "judge", desc := "(I)I" } : Jvm.MethodName)) ∈ lw_all := lw_g (lw_at lw_m13 95 rfl) rfl
theorem q3081 : (Jvm.Cond.code ({ cls := "LinesTouchedModel", name := "judge", desc := "(I)I" } : Jvm.MethodName) prog_32_method_103_code (6 : Nat) (Option.some Jvm.ClassFile.FieldType.int)) ∈ lw_all := lw_g (lw_at lw_m13 96 rfl) rfl
theorem q3083 : (Jvm.Cond.instanceMethod ({ cls := "LinesTouchedModel", name := "shelf", desc := "(III)I" } : Jvm.MethodName)) ∈ lw_all := lw_g (lw_at lw_m13 98 rfl) rfl
theorem q3084 : (Jvm.Cond.selects "LinesTouchedModel" ({ cls := "LinesTouchedModel", name := "shelf", desc := "(III)I" } : Jvm.MethodName) ({ cls := "LinesTouchedModel", name := "shelf", desc := "(III)I" } : Jvm.MethodName)) ∈ lw_all := lw_g (lw_at lw_m13 99 rfl) rfl
theorem q3085 : (Jvm.Cond.code ({ cls := "LinesTouchedModel", name := "shelf", desc := "(III)I" } : Jvm.MethodName) prog_32_method_105_code (4 : Nat) (Option.some Jvm.ClassFile.FieldType.int)) ∈ lw_all := lw_g (lw_at lw_m13 100 rfl) rfl
theorem q3086 : (Jvm.Cond.methodLink "LinesTouchedModel" (349 : Nat) ({ cls := "LinesTouchedModel", name := "isShelf", desc := "(I)Z" } : Jvm.MethodName)) ∈ lw_all := lw_g (lw_at lw_m13 101 rfl) rfl
theorem q3087 : (Jvm.Cond.static ({ cls := "LinesTouchedModel", name := "isShelf", desc := "(I)Z" } : Jvm.MethodName)) ∈ lw_all := lw_g (lw_at lw_m13 102 rfl) rfl
theorem q3088 : (Jvm.Cond.code ({ cls := "LinesTouchedModel", name := "isShelf", desc := "(I)Z" } : Jvm.MethodName) prog_32_method_104_code (1 : Nat) (Option.some Jvm.ClassFile.FieldType.boolean)) ∈ lw_all := lw_g (lw_at lw_m13 103 rfl) rfl
theorem q3090 : (Jvm.Cond.instanceMethod ({ cls := "LinesTouchedModel", name := "taken", desc := "(II)I" } : Jvm.MethodName)) ∈ lw_all := lw_g (lw_at lw_m13 105 rfl) rfl
theorem q3091 : (Jvm.Cond.selects "LinesTouchedModel" ({ cls := "LinesTouchedModel", name := "taken", desc := "(II)I" } : Jvm.MethodName) ({ cls := "LinesTouchedModel", name := "taken", desc := "(II)I" } : Jvm.MethodName)) ∈ lw_all := lw_g (lw_at lw_m13 106 rfl) rfl
theorem q3092 : (Jvm.Cond.code ({ cls := "LinesTouchedModel", name := "taken", desc := "(II)I" } : Jvm.MethodName) prog_32_method_107_code (4 : Nat) (Option.some Jvm.ClassFile.FieldType.int)) ∈ lw_all := lw_g (lw_at lw_m13 107 rfl) rfl
theorem q3093 : (Jvm.Cond.methodLink "LinesTouchedModel" (352 : Nat) ({ cls := "LinesTouchedModel", name := "over", desc := "(I)I" } : Jvm.MethodName)) ∈ lw_all := lw_g (lw_at lw_m13 108 rfl) rfl
theorem q3094 : (Jvm.Cond.static ({ cls := "LinesTouchedModel", name := "over", desc := "(I)I" } : Jvm.MethodName)) ∈ lw_all := lw_g (lw_at lw_m13 109 rfl) rfl
theorem q3095 : (Jvm.Cond.code ({ cls := "LinesTouchedModel", name := "over", desc := "(I)I" } : Jvm.MethodName) prog_32_method_106_code (1 : Nat) (Option.some Jvm.ClassFile.FieldType.int)) ∈ lw_all := lw_g (lw_at lw_m13 110 rfl) rfl
theorem q3097 : (Jvm.Cond.instanceMethod ({ cls := "LinesTouchedModel", name := "image", desc := "()I" } : Jvm.MethodName)) ∈ lw_all := lw_g (lw_at lw_m13 112 rfl) rfl
theorem q3098 : (Jvm.Cond.selects "LinesTouchedModel" ({ cls := "LinesTouchedModel", name := "image", desc := "()I" } : Jvm.MethodName) ({ cls := "LinesTouchedModel", name := "image", desc := "()I" } : Jvm.MethodName)) ∈ lw_all := lw_g (lw_at lw_m13 113 rfl) rfl
theorem q3099 : (Jvm.Cond.code ({ cls := "LinesTouchedModel", name := "image", desc := "()I" } : Jvm.MethodName) prog_32_method_108_code (1 : Nat) (Option.some Jvm.ClassFile.FieldType.int)) ∈ lw_all := lw_g (lw_at lw_m13 114 rfl) rfl
theorem q3101 : (Jvm.Cond.instanceMethod ({ cls := "LinesTouchedModel", name := "back", desc := "()I" } : Jvm.MethodName)) ∈ lw_all := lw_g (lw_at lw_m13 116 rfl) rfl
theorem q3102 : (Jvm.Cond.selects "LinesTouchedModel" ({ cls := "LinesTouchedModel", name := "back", desc := "()I" } : Jvm.MethodName) ({ cls := "LinesTouchedModel", name := "back", desc := "()I" } : Jvm.MethodName)) ∈ lw_all := lw_g (lw_at lw_m13 117 rfl) rfl
theorem q3103 : (Jvm.Cond.code ({ cls := "LinesTouchedModel", name := "back", desc := "()I" } : Jvm.MethodName) prog_32_method_109_code (1 : Nat) (Option.some Jvm.ClassFile.FieldType.int)) ∈ lw_all := lw_g (lw_at lw_m13 118 rfl) rfl
theorem q3135 : (Jvm.Cond.castable "LinesTouchedModel" "java/lang/Object") ∈ lw_tbl := lw_at lw_m13 150 rfl
theorem in_X4 : ∀ w ∈ wsX40, w ∈ lw_all := lw_in wsX40 [2576, 2578, 2580, 2582, 2584, 2586, 2588, 2590, 2592, 2594, 2596, 2598, 2600, 2602, 2604, 2606, 2608, 2610, 2612, 2614, 2616, 2618, 2620, 2622, 2624, 2626, 2628, 2630, 2632, 2634, 2636, 2638, 2640, 2642, 2644, 2646, 2648, 2650, 2652, 2654, 2656, 2658, 2660, 2662, 2664, 2666, 2668, 2670, 2672, 2674] (by decide +kernel) (by decide +kernel)
