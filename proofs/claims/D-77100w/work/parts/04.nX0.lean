/-! LinesTouched -/
set_option maxRecDepth 100000
def RX0 : String := "LinesTouched"
def TX0 : u_T := fun k => match k with
  | 0 => ("LinesTouched", "net", "LLinesTouched$Net;", true)
  | 1 => ("LinesTouched", "kept", "LLinesTouched$Net;", true)
  | 2 => ("LinesTouched", "aside", "LLinesTouched$Net;", true)
  | 3 => ("LinesTouched", "isKept", "Z", false)
  | 4 => ("LinesTouched", "bareMany", "I", false)
  | 5 => ("LinesTouched", "bareMost", "I", false)
  | 6 => ("LinesTouched", "bareFirst", "I", false)
  | 7 => ("LinesTouched", "pairOf", "[I", true)
  | 8 => ("LinesTouched", "asked", "I", false)
  | 9 => ("LinesTouched", "halves", "[B", true)
  | 10 => ("LinesTouched", "rules", "[LLinesTouched$Rule;", true)
  | 11 => ("LinesTouched", "rounds", "[LLinesTouched$Round;", true)
  | 12 => ("LinesTouched", "roundMany", "I", false)
  | 13 => ("LinesTouched", "kernelLeft", "I", false)
  | 14 => ("LinesTouched", "kernelTaken", "I", false)
  | 15 => ("LinesTouched", "kernelK", "I", false)
  | 16 => ("LinesTouched", "bestPack", "[S", true)
  | 17 => ("LinesTouched", "nodeRow", "[LLinesTouched$Node;", true)
  | 18 => ("LinesTouched", "nodeMany", "I", false)
  | 19 => ("LinesTouched", "left", "I", false)
  | 20 => ("LinesTouched", "taken", "I", false)
  | 21 => ("LinesTouched", "may", "I", false)
  | 22 => ("LinesTouched", "readAt", "I", false)
  | 23 => ("LinesTouched", "firstTwo", "I", false)
  | 24 => ("LinesTouched", "paid", "Ljava/util/LinkedHashMap;", true)
  | 25 => ("LinesTouched", "rest", "[I", true)
  | 26 => ("LinesTouched", "tape", "[B", true)
  | 27 => ("LinesTouched", "taped", "I", false)
  | 28 => ("LinesTouched", "twigs", "[LLinesTouched$Twig;", false)
  | 29 => ("LinesTouched", "nodes", "I", false)
  | 30 => ("LinesTouched", "sheets", "[LLinesTouched$Slot;", true)
  | _ => ("LinesTouched", "shelves", "[LLinesTouched$Slot;", true)
def tyX0 : Nat → FieldType := fun k => match k with
  | 0 => .object "LinesTouched$Net"
  | 1 => .object "LinesTouched$Net"
  | 2 => .object "LinesTouched$Net"
  | 3 => .boolean
  | 4 => .int
  | 5 => .int
  | 6 => .int
  | 7 => .array .int
  | 8 => .int
  | 9 => .array .byte
  | 10 => .array (.object "LinesTouched$Rule")
  | 11 => .array (.object "LinesTouched$Round")
  | 12 => .int
  | 13 => .int
  | 14 => .int
  | 15 => .int
  | 16 => .array .short
  | 17 => .array (.object "LinesTouched$Node")
  | 18 => .int
  | 19 => .int
  | 20 => .int
  | 21 => .int
  | 22 => .int
  | 23 => .int
  | 24 => .object "java/util/LinkedHashMap"
  | 25 => .array .int
  | 26 => .array .byte
  | 27 => .int
  | 28 => .array (.object "LinesTouched$Twig")
  | 29 => .int
  | 30 => .array (.object "LinesTouched$Slot")
  | _ => .array (.object "LinesTouched$Slot")
abbrev wsX00 : List Cond := u_ws RX0 TX0 32
set_option maxRecDepth 100000 in
theorem nmX0 : ∀ a, a < 32 → ∀ b, b < 32 → a ≠ b → (TX0 a).2.1 ≠ (TX0 b).2.1 := by decide +kernel
set_option maxRecDepth 100000 in
theorem tyX0_ok : ∀ k, k < 32 → parseFieldDescriptor (TX0 k).2.2.1 = some (tyX0 k) := by decide +kernel
abbrev cX0_init : ByteArray := prog_1_method_1_code
def yX0_init : MethodName := ⟨RX0, "<init>", "()V"⟩
def dkwX0_init_10 : List UInt8 := [83, 89, 6, 187, 0, 72, 89, 183, 0, 74, 83, 181, 0, 79, 177]
abbrev dktX0_init_10 : List UInt8 := dkwX0_init_10 ++ []
def dkwX0_init_9 : List UInt8 := [89, 183, 0, 74, 83, 89, 4, 187, 0, 72, 89, 183, 0, 74, 83, 89, 5, 187, 0, 72, 89, 183, 0, 74]
abbrev dktX0_init_9 : List UInt8 := dkwX0_init_9 ++ dktX0_init_10
def dkwX0_init_8 : List UInt8 := [83, 89, 6, 187, 0, 72, 89, 183, 0, 74, 83, 181, 0, 75, 42, 7, 189, 0, 72, 89, 3, 187, 0, 72]
abbrev dktX0_init_8 : List UInt8 := dkwX0_init_8 ++ dktX0_init_9
def dkwX0_init_7 : List UInt8 := [89, 183, 0, 74, 83, 89, 4, 187, 0, 72, 89, 183, 0, 74, 83, 89, 5, 187, 0, 72, 89, 183, 0, 74]
abbrev dktX0_init_7 : List UInt8 := dkwX0_init_7 ++ dktX0_init_8
def dkwX0_init_6 : List UInt8 := [188, 10, 181, 0, 66, 42, 17, 0, 200, 188, 8, 181, 0, 69, 42, 7, 189, 0, 72, 89, 3, 187, 0, 72]
abbrev dktX0_init_6 : List UInt8 := dkwX0_init_6 ++ dktX0_init_7
def dkwX0_init_5 : List UInt8 := [17, 1, 244, 189, 0, 53, 181, 0, 55, 42, 187, 0, 59, 89, 183, 0, 61, 181, 0, 62, 42, 16, 12]
abbrev dktX0_init_5 : List UInt8 := dkwX0_init_5 ++ dktX0_init_6
def dkwX0_init_4 : List UInt8 := [181, 0, 39, 42, 16, 12, 189, 0, 43, 181, 0, 45, 42, 17, 16, 0, 188, 9, 181, 0, 49, 42]
abbrev dktX0_init_4 : List UInt8 := dkwX0_init_4 ++ dktX0_init_5
def dkwX0_init_3 : List UInt8 := [186, 0, 36, 0, 0, 83, 89, 5, 42, 186, 0, 37, 0, 0, 83, 89, 6, 42, 186, 0, 38, 0, 0, 83]
abbrev dktX0_init_3 : List UInt8 := dkwX0_init_3 ++ dktX0_init_4
def dkwX0_init_2 : List UInt8 := [16, 12, 188, 8, 181, 0, 26, 42, 7, 189, 0, 30, 89, 3, 42, 186, 0, 32, 0, 0, 83, 89, 4, 42]
abbrev dktX0_init_2 : List UInt8 := dkwX0_init_2 ++ dktX0_init_3
def dkwX0_init_1 : List UInt8 := [181, 0, 16, 42, 187, 0, 7, 89, 183, 0, 9, 181, 0, 19, 42, 16, 12, 188, 10, 181, 0, 22, 42]
abbrev dktX0_init_1 : List UInt8 := dkwX0_init_1 ++ dktX0_init_2
def dkwX0_init_0 : List UInt8 := [42, 183, 0, 1, 42, 187, 0, 7, 89, 183, 0, 9, 181, 0, 10, 42, 187, 0, 7, 89, 183, 0, 9]
abbrev dktX0_init_0 : List UInt8 := dkwX0_init_0 ++ dktX0_init_1
theorem dksX0_init_0 : cX0_init.data.toList.drop 0 = dktX0_init_0 := by decide +kernel
theorem dksX0_init_1 : cX0_init.data.toList.drop 23 = dktX0_init_1 := dk_seg dksX0_init_0 23 rfl rfl
theorem dksX0_init_2 : cX0_init.data.toList.drop 46 = dktX0_init_2 := dk_seg dksX0_init_1 23 rfl rfl
theorem dksX0_init_3 : cX0_init.data.toList.drop 70 = dktX0_init_3 := dk_seg dksX0_init_2 24 rfl rfl
theorem dksX0_init_4 : cX0_init.data.toList.drop 94 = dktX0_init_4 := dk_seg dksX0_init_3 24 rfl rfl
theorem dksX0_init_5 : cX0_init.data.toList.drop 116 = dktX0_init_5 := dk_seg dksX0_init_4 22 rfl rfl
theorem dksX0_init_6 : cX0_init.data.toList.drop 139 = dktX0_init_6 := dk_seg dksX0_init_5 23 rfl rfl
theorem dksX0_init_7 : cX0_init.data.toList.drop 163 = dktX0_init_7 := dk_seg dksX0_init_6 24 rfl rfl
theorem dksX0_init_8 : cX0_init.data.toList.drop 187 = dktX0_init_8 := dk_seg dksX0_init_7 24 rfl rfl
theorem dksX0_init_9 : cX0_init.data.toList.drop 211 = dktX0_init_9 := dk_seg dksX0_init_8 24 rfl rfl
theorem dksX0_init_10 : cX0_init.data.toList.drop 235 = dktX0_init_10 := dk_seg dksX0_init_9 24 rfl rfl
theorem dX0_init_0 : decode cX0_init 0 = .ok (.aload_n 0, 1) := dk_42 (dk_at dksX0_init_0 0 rfl rfl)
theorem dX0_init_1 : decode cX0_init 1 = .ok (.invokespecial 1, 3) := dk_183 0 1 (dk_at dksX0_init_0 1 rfl rfl)
theorem dX0_init_4 : decode cX0_init 4 = .ok (.aload_n 0, 1) := dk_42 (dk_at dksX0_init_0 4 rfl rfl)
theorem dX0_init_5 : decode cX0_init 5 = .ok (.new 7, 3) := dk_187 0 7 (dk_at dksX0_init_0 5 rfl rfl)
theorem dX0_init_8 : decode cX0_init 8 = .ok (.dup, 1) := dk_89 (dk_at dksX0_init_0 8 rfl rfl)
theorem dX0_init_9 : decode cX0_init 9 = .ok (.invokespecial 9, 3) := dk_183 0 9 (dk_at dksX0_init_0 9 rfl rfl)
theorem dX0_init_12 : decode cX0_init 12 = .ok (.putfield 10, 3) := dk_181 0 10 (dk_at dksX0_init_0 12 rfl rfl)
theorem dX0_init_15 : decode cX0_init 15 = .ok (.aload_n 0, 1) := dk_42 (dk_at dksX0_init_0 15 rfl rfl)
theorem dX0_init_16 : decode cX0_init 16 = .ok (.new 7, 3) := dk_187 0 7 (dk_at dksX0_init_0 16 rfl rfl)
theorem dX0_init_19 : decode cX0_init 19 = .ok (.dup, 1) := dk_89 (dk_at dksX0_init_0 19 rfl rfl)
theorem dX0_init_20 : decode cX0_init 20 = .ok (.invokespecial 9, 3) := dk_183 0 9 (dk_at dksX0_init_0 20 rfl rfl)
theorem dX0_init_23 : decode cX0_init 23 = .ok (.putfield 16, 3) := dk_181 0 16 (dk_at dksX0_init_1 0 rfl rfl)
theorem dX0_init_26 : decode cX0_init 26 = .ok (.aload_n 0, 1) := dk_42 (dk_at dksX0_init_1 3 rfl rfl)
theorem dX0_init_27 : decode cX0_init 27 = .ok (.new 7, 3) := dk_187 0 7 (dk_at dksX0_init_1 4 rfl rfl)
theorem dX0_init_30 : decode cX0_init 30 = .ok (.dup, 1) := dk_89 (dk_at dksX0_init_1 7 rfl rfl)
theorem dX0_init_31 : decode cX0_init 31 = .ok (.invokespecial 9, 3) := dk_183 0 9 (dk_at dksX0_init_1 8 rfl rfl)
theorem dX0_init_34 : decode cX0_init 34 = .ok (.putfield 19, 3) := dk_181 0 19 (dk_at dksX0_init_1 11 rfl rfl)
theorem dX0_init_37 : decode cX0_init 37 = .ok (.aload_n 0, 1) := dk_42 (dk_at dksX0_init_1 14 rfl rfl)
theorem dX0_init_38 : decode cX0_init 38 = .ok (.bipush 12, 2) := dk_16 12 (dk_at dksX0_init_1 15 rfl rfl)
theorem dX0_init_40 : decode cX0_init 40 = .ok (.newarray .int, 2) := dk_188_10 (dk_at dksX0_init_1 17 rfl rfl)
theorem dX0_init_42 : decode cX0_init 42 = .ok (.putfield 22, 3) := dk_181 0 22 (dk_at dksX0_init_1 19 rfl rfl)
theorem dX0_init_45 : decode cX0_init 45 = .ok (.aload_n 0, 1) := dk_42 (dk_at dksX0_init_1 22 rfl rfl)
theorem dX0_init_46 : decode cX0_init 46 = .ok (.bipush 12, 2) := dk_16 12 (dk_at dksX0_init_2 0 rfl rfl)
theorem dX0_init_48 : decode cX0_init 48 = .ok (.newarray .byte, 2) := dk_188_8 (dk_at dksX0_init_2 2 rfl rfl)
theorem dX0_init_50 : decode cX0_init 50 = .ok (.putfield 26, 3) := dk_181 0 26 (dk_at dksX0_init_2 4 rfl rfl)
theorem dX0_init_53 : decode cX0_init 53 = .ok (.aload_n 0, 1) := dk_42 (dk_at dksX0_init_2 7 rfl rfl)
theorem dX0_init_54 : decode cX0_init 54 = .ok (.iconst 4, 1) := dk_7 (dk_at dksX0_init_2 8 rfl rfl)
theorem dX0_init_55 : decode cX0_init 55 = .ok (.anewarray 30, 3) := dk_189 0 30 (dk_at dksX0_init_2 9 rfl rfl)
theorem dX0_init_58 : decode cX0_init 58 = .ok (.dup, 1) := dk_89 (dk_at dksX0_init_2 12 rfl rfl)
theorem dX0_init_59 : decode cX0_init 59 = .ok (.iconst 0, 1) := dk_3 (dk_at dksX0_init_2 13 rfl rfl)
theorem dX0_init_60 : decode cX0_init 60 = .ok (.aload_n 0, 1) := dk_42 (dk_at dksX0_init_2 14 rfl rfl)
theorem dX0_init_61 : decode cX0_init 61 = .ok (.invokedynamic 32, 5) := by decide +kernel
theorem dX0_init_66 : decode cX0_init 66 = .ok (.aastore, 1) := dk_83 (dk_at dksX0_init_2 20 rfl rfl)
theorem dX0_init_67 : decode cX0_init 67 = .ok (.dup, 1) := dk_89 (dk_at dksX0_init_2 21 rfl rfl)
theorem dX0_init_68 : decode cX0_init 68 = .ok (.iconst 1, 1) := dk_4 (dk_at dksX0_init_2 22 rfl rfl)
theorem dX0_init_69 : decode cX0_init 69 = .ok (.aload_n 0, 1) := dk_42 (dk_at dksX0_init_2 23 rfl rfl)
theorem dX0_init_70 : decode cX0_init 70 = .ok (.invokedynamic 36, 5) := by decide +kernel
theorem dX0_init_75 : decode cX0_init 75 = .ok (.aastore, 1) := dk_83 (dk_at dksX0_init_3 5 rfl rfl)
theorem dX0_init_76 : decode cX0_init 76 = .ok (.dup, 1) := dk_89 (dk_at dksX0_init_3 6 rfl rfl)
theorem dX0_init_77 : decode cX0_init 77 = .ok (.iconst 2, 1) := dk_5 (dk_at dksX0_init_3 7 rfl rfl)
theorem dX0_init_78 : decode cX0_init 78 = .ok (.aload_n 0, 1) := dk_42 (dk_at dksX0_init_3 8 rfl rfl)
theorem dX0_init_79 : decode cX0_init 79 = .ok (.invokedynamic 37, 5) := by decide +kernel
theorem dX0_init_84 : decode cX0_init 84 = .ok (.aastore, 1) := dk_83 (dk_at dksX0_init_3 14 rfl rfl)
theorem dX0_init_85 : decode cX0_init 85 = .ok (.dup, 1) := dk_89 (dk_at dksX0_init_3 15 rfl rfl)
theorem dX0_init_86 : decode cX0_init 86 = .ok (.iconst 3, 1) := dk_6 (dk_at dksX0_init_3 16 rfl rfl)
theorem dX0_init_87 : decode cX0_init 87 = .ok (.aload_n 0, 1) := dk_42 (dk_at dksX0_init_3 17 rfl rfl)
theorem dX0_init_88 : decode cX0_init 88 = .ok (.invokedynamic 38, 5) := by decide +kernel
theorem dX0_init_93 : decode cX0_init 93 = .ok (.aastore, 1) := dk_83 (dk_at dksX0_init_3 23 rfl rfl)
theorem dX0_init_94 : decode cX0_init 94 = .ok (.putfield 39, 3) := dk_181 0 39 (dk_at dksX0_init_4 0 rfl rfl)
theorem dX0_init_97 : decode cX0_init 97 = .ok (.aload_n 0, 1) := dk_42 (dk_at dksX0_init_4 3 rfl rfl)
theorem dX0_init_98 : decode cX0_init 98 = .ok (.bipush 12, 2) := dk_16 12 (dk_at dksX0_init_4 4 rfl rfl)
theorem dX0_init_100 : decode cX0_init 100 = .ok (.anewarray 43, 3) := dk_189 0 43 (dk_at dksX0_init_4 6 rfl rfl)
theorem dX0_init_103 : decode cX0_init 103 = .ok (.putfield 45, 3) := dk_181 0 45 (dk_at dksX0_init_4 9 rfl rfl)
theorem dX0_init_106 : decode cX0_init 106 = .ok (.aload_n 0, 1) := dk_42 (dk_at dksX0_init_4 12 rfl rfl)
theorem dX0_init_107 : decode cX0_init 107 = .ok (.sipush 4096, 3) := dk_17 16 0 (dk_at dksX0_init_4 13 rfl rfl)
theorem dX0_init_110 : decode cX0_init 110 = .ok (.newarray .short, 2) := dk_188_9 (dk_at dksX0_init_4 16 rfl rfl)
theorem dX0_init_112 : decode cX0_init 112 = .ok (.putfield 49, 3) := dk_181 0 49 (dk_at dksX0_init_4 18 rfl rfl)
theorem dX0_init_115 : decode cX0_init 115 = .ok (.aload_n 0, 1) := dk_42 (dk_at dksX0_init_4 21 rfl rfl)
theorem dX0_init_116 : decode cX0_init 116 = .ok (.sipush 500, 3) := dk_17 1 244 (dk_at dksX0_init_5 0 rfl rfl)
theorem dX0_init_119 : decode cX0_init 119 = .ok (.anewarray 53, 3) := dk_189 0 53 (dk_at dksX0_init_5 3 rfl rfl)
theorem dX0_init_122 : decode cX0_init 122 = .ok (.putfield 55, 3) := dk_181 0 55 (dk_at dksX0_init_5 6 rfl rfl)
theorem dX0_init_125 : decode cX0_init 125 = .ok (.aload_n 0, 1) := dk_42 (dk_at dksX0_init_5 9 rfl rfl)
theorem dX0_init_126 : decode cX0_init 126 = .ok (.new 59, 3) := dk_187 0 59 (dk_at dksX0_init_5 10 rfl rfl)
theorem dX0_init_129 : decode cX0_init 129 = .ok (.dup, 1) := dk_89 (dk_at dksX0_init_5 13 rfl rfl)
theorem dX0_init_130 : decode cX0_init 130 = .ok (.invokespecial 61, 3) := dk_183 0 61 (dk_at dksX0_init_5 14 rfl rfl)
theorem dX0_init_133 : decode cX0_init 133 = .ok (.putfield 62, 3) := dk_181 0 62 (dk_at dksX0_init_5 17 rfl rfl)
theorem dX0_init_136 : decode cX0_init 136 = .ok (.aload_n 0, 1) := dk_42 (dk_at dksX0_init_5 20 rfl rfl)
theorem dX0_init_137 : decode cX0_init 137 = .ok (.bipush 12, 2) := dk_16 12 (dk_at dksX0_init_5 21 rfl rfl)
theorem dX0_init_139 : decode cX0_init 139 = .ok (.newarray .int, 2) := dk_188_10 (dk_at dksX0_init_6 0 rfl rfl)
theorem dX0_init_141 : decode cX0_init 141 = .ok (.putfield 66, 3) := dk_181 0 66 (dk_at dksX0_init_6 2 rfl rfl)
theorem dX0_init_144 : decode cX0_init 144 = .ok (.aload_n 0, 1) := dk_42 (dk_at dksX0_init_6 5 rfl rfl)
theorem dX0_init_145 : decode cX0_init 145 = .ok (.sipush 200, 3) := dk_17 0 200 (dk_at dksX0_init_6 6 rfl rfl)
theorem dX0_init_148 : decode cX0_init 148 = .ok (.newarray .byte, 2) := dk_188_8 (dk_at dksX0_init_6 9 rfl rfl)
theorem dX0_init_150 : decode cX0_init 150 = .ok (.putfield 69, 3) := dk_181 0 69 (dk_at dksX0_init_6 11 rfl rfl)
theorem dX0_init_153 : decode cX0_init 153 = .ok (.aload_n 0, 1) := dk_42 (dk_at dksX0_init_6 14 rfl rfl)
theorem dX0_init_154 : decode cX0_init 154 = .ok (.iconst 4, 1) := dk_7 (dk_at dksX0_init_6 15 rfl rfl)
theorem dX0_init_155 : decode cX0_init 155 = .ok (.anewarray 72, 3) := dk_189 0 72 (dk_at dksX0_init_6 16 rfl rfl)
theorem dX0_init_158 : decode cX0_init 158 = .ok (.dup, 1) := dk_89 (dk_at dksX0_init_6 19 rfl rfl)
theorem dX0_init_159 : decode cX0_init 159 = .ok (.iconst 0, 1) := dk_3 (dk_at dksX0_init_6 20 rfl rfl)
theorem dX0_init_160 : decode cX0_init 160 = .ok (.new 72, 3) := dk_187 0 72 (dk_at dksX0_init_6 21 rfl rfl)
theorem dX0_init_163 : decode cX0_init 163 = .ok (.dup, 1) := dk_89 (dk_at dksX0_init_7 0 rfl rfl)
theorem dX0_init_164 : decode cX0_init 164 = .ok (.invokespecial 74, 3) := dk_183 0 74 (dk_at dksX0_init_7 1 rfl rfl)
theorem dX0_init_167 : decode cX0_init 167 = .ok (.aastore, 1) := dk_83 (dk_at dksX0_init_7 4 rfl rfl)
theorem dX0_init_168 : decode cX0_init 168 = .ok (.dup, 1) := dk_89 (dk_at dksX0_init_7 5 rfl rfl)
theorem dX0_init_169 : decode cX0_init 169 = .ok (.iconst 1, 1) := dk_4 (dk_at dksX0_init_7 6 rfl rfl)
theorem dX0_init_170 : decode cX0_init 170 = .ok (.new 72, 3) := dk_187 0 72 (dk_at dksX0_init_7 7 rfl rfl)
theorem dX0_init_173 : decode cX0_init 173 = .ok (.dup, 1) := dk_89 (dk_at dksX0_init_7 10 rfl rfl)
theorem dX0_init_174 : decode cX0_init 174 = .ok (.invokespecial 74, 3) := dk_183 0 74 (dk_at dksX0_init_7 11 rfl rfl)
theorem dX0_init_177 : decode cX0_init 177 = .ok (.aastore, 1) := dk_83 (dk_at dksX0_init_7 14 rfl rfl)
theorem dX0_init_178 : decode cX0_init 178 = .ok (.dup, 1) := dk_89 (dk_at dksX0_init_7 15 rfl rfl)
theorem dX0_init_179 : decode cX0_init 179 = .ok (.iconst 2, 1) := dk_5 (dk_at dksX0_init_7 16 rfl rfl)
theorem dX0_init_180 : decode cX0_init 180 = .ok (.new 72, 3) := dk_187 0 72 (dk_at dksX0_init_7 17 rfl rfl)
theorem dX0_init_183 : decode cX0_init 183 = .ok (.dup, 1) := dk_89 (dk_at dksX0_init_7 20 rfl rfl)
theorem dX0_init_184 : decode cX0_init 184 = .ok (.invokespecial 74, 3) := dk_183 0 74 (dk_at dksX0_init_7 21 rfl rfl)
theorem dX0_init_187 : decode cX0_init 187 = .ok (.aastore, 1) := dk_83 (dk_at dksX0_init_8 0 rfl rfl)
theorem dX0_init_188 : decode cX0_init 188 = .ok (.dup, 1) := dk_89 (dk_at dksX0_init_8 1 rfl rfl)
theorem dX0_init_189 : decode cX0_init 189 = .ok (.iconst 3, 1) := dk_6 (dk_at dksX0_init_8 2 rfl rfl)
theorem dX0_init_190 : decode cX0_init 190 = .ok (.new 72, 3) := dk_187 0 72 (dk_at dksX0_init_8 3 rfl rfl)
theorem dX0_init_193 : decode cX0_init 193 = .ok (.dup, 1) := dk_89 (dk_at dksX0_init_8 6 rfl rfl)
theorem dX0_init_194 : decode cX0_init 194 = .ok (.invokespecial 74, 3) := dk_183 0 74 (dk_at dksX0_init_8 7 rfl rfl)
theorem dX0_init_197 : decode cX0_init 197 = .ok (.aastore, 1) := dk_83 (dk_at dksX0_init_8 10 rfl rfl)
theorem dX0_init_198 : decode cX0_init 198 = .ok (.putfield 75, 3) := dk_181 0 75 (dk_at dksX0_init_8 11 rfl rfl)
theorem dX0_init_201 : decode cX0_init 201 = .ok (.aload_n 0, 1) := dk_42 (dk_at dksX0_init_8 14 rfl rfl)
theorem dX0_init_202 : decode cX0_init 202 = .ok (.iconst 4, 1) := dk_7 (dk_at dksX0_init_8 15 rfl rfl)
theorem dX0_init_203 : decode cX0_init 203 = .ok (.anewarray 72, 3) := dk_189 0 72 (dk_at dksX0_init_8 16 rfl rfl)
theorem dX0_init_206 : decode cX0_init 206 = .ok (.dup, 1) := dk_89 (dk_at dksX0_init_8 19 rfl rfl)
theorem dX0_init_207 : decode cX0_init 207 = .ok (.iconst 0, 1) := dk_3 (dk_at dksX0_init_8 20 rfl rfl)
theorem dX0_init_208 : decode cX0_init 208 = .ok (.new 72, 3) := dk_187 0 72 (dk_at dksX0_init_8 21 rfl rfl)
theorem dX0_init_211 : decode cX0_init 211 = .ok (.dup, 1) := dk_89 (dk_at dksX0_init_9 0 rfl rfl)
theorem dX0_init_212 : decode cX0_init 212 = .ok (.invokespecial 74, 3) := dk_183 0 74 (dk_at dksX0_init_9 1 rfl rfl)
theorem dX0_init_215 : decode cX0_init 215 = .ok (.aastore, 1) := dk_83 (dk_at dksX0_init_9 4 rfl rfl)
theorem dX0_init_216 : decode cX0_init 216 = .ok (.dup, 1) := dk_89 (dk_at dksX0_init_9 5 rfl rfl)
theorem dX0_init_217 : decode cX0_init 217 = .ok (.iconst 1, 1) := dk_4 (dk_at dksX0_init_9 6 rfl rfl)
theorem dX0_init_218 : decode cX0_init 218 = .ok (.new 72, 3) := dk_187 0 72 (dk_at dksX0_init_9 7 rfl rfl)
theorem dX0_init_221 : decode cX0_init 221 = .ok (.dup, 1) := dk_89 (dk_at dksX0_init_9 10 rfl rfl)
theorem dX0_init_222 : decode cX0_init 222 = .ok (.invokespecial 74, 3) := dk_183 0 74 (dk_at dksX0_init_9 11 rfl rfl)
theorem dX0_init_225 : decode cX0_init 225 = .ok (.aastore, 1) := dk_83 (dk_at dksX0_init_9 14 rfl rfl)
theorem dX0_init_226 : decode cX0_init 226 = .ok (.dup, 1) := dk_89 (dk_at dksX0_init_9 15 rfl rfl)
theorem dX0_init_227 : decode cX0_init 227 = .ok (.iconst 2, 1) := dk_5 (dk_at dksX0_init_9 16 rfl rfl)
theorem dX0_init_228 : decode cX0_init 228 = .ok (.new 72, 3) := dk_187 0 72 (dk_at dksX0_init_9 17 rfl rfl)
theorem dX0_init_231 : decode cX0_init 231 = .ok (.dup, 1) := dk_89 (dk_at dksX0_init_9 20 rfl rfl)
theorem dX0_init_232 : decode cX0_init 232 = .ok (.invokespecial 74, 3) := dk_183 0 74 (dk_at dksX0_init_9 21 rfl rfl)
theorem dX0_init_235 : decode cX0_init 235 = .ok (.aastore, 1) := dk_83 (dk_at dksX0_init_10 0 rfl rfl)
theorem dX0_init_236 : decode cX0_init 236 = .ok (.dup, 1) := dk_89 (dk_at dksX0_init_10 1 rfl rfl)
theorem dX0_init_237 : decode cX0_init 237 = .ok (.iconst 3, 1) := dk_6 (dk_at dksX0_init_10 2 rfl rfl)
theorem dX0_init_238 : decode cX0_init 238 = .ok (.new 72, 3) := dk_187 0 72 (dk_at dksX0_init_10 3 rfl rfl)
theorem dX0_init_241 : decode cX0_init 241 = .ok (.dup, 1) := dk_89 (dk_at dksX0_init_10 6 rfl rfl)
theorem dX0_init_242 : decode cX0_init 242 = .ok (.invokespecial 74, 3) := dk_183 0 74 (dk_at dksX0_init_10 7 rfl rfl)
theorem dX0_init_245 : decode cX0_init 245 = .ok (.aastore, 1) := dk_83 (dk_at dksX0_init_10 10 rfl rfl)
theorem dX0_init_246 : decode cX0_init 246 = .ok (.putfield 79, 3) := dk_181 0 79 (dk_at dksX0_init_10 11 rfl rfl)
theorem dX0_init_249 : decode cX0_init 249 = .ok (.return_, 1) := dk_177 (dk_at dksX0_init_10 14 rfl rfl)
abbrev cX0_lonelyRound : ByteArray := prog_1_method_46_code
def yX0_lonelyRound : MethodName := ⟨RX0, "lonelyRound", "(II)LLinesTouched$Round;"⟩
def dkwX0_lonelyRound_2 : List UInt8 := [132, 3, 1, 167, 255, 209, 1, 176]
abbrev dktX0_lonelyRound_2 : List UInt8 := dkwX0_lonelyRound_2 ++ []
def dkwX0_lonelyRound_1 : List UInt8 := [180, 0, 10, 29, 27, 182, 1, 89, 154, 0, 16, 187, 0, 43, 89, 3, 4, 29, 120, 3, 183, 1, 92, 176]
abbrev dktX0_lonelyRound_1 : List UInt8 := dkwX0_lonelyRound_1 ++ dktX0_lonelyRound_2
def dkwX0_lonelyRound_0 : List UInt8 := [3, 62, 29, 42, 180, 0, 10, 180, 0, 115, 162, 0, 42, 27, 29, 184, 1, 0, 153, 0, 28, 42]
abbrev dktX0_lonelyRound_0 : List UInt8 := dkwX0_lonelyRound_0 ++ dktX0_lonelyRound_1
theorem dksX0_lonelyRound_0 : cX0_lonelyRound.data.toList.drop 0 = dktX0_lonelyRound_0 := by decide +kernel
theorem dksX0_lonelyRound_1 : cX0_lonelyRound.data.toList.drop 22 = dktX0_lonelyRound_1 := dk_seg dksX0_lonelyRound_0 22 rfl rfl
theorem dksX0_lonelyRound_2 : cX0_lonelyRound.data.toList.drop 46 = dktX0_lonelyRound_2 := dk_seg dksX0_lonelyRound_1 24 rfl rfl
theorem dX0_lonelyRound_0 : decode cX0_lonelyRound 0 = .ok (.iconst 0, 1) := dk_3 (dk_at dksX0_lonelyRound_0 0 rfl rfl)
theorem dX0_lonelyRound_1 : decode cX0_lonelyRound 1 = .ok (.istore_n 3, 1) := dk_62 (dk_at dksX0_lonelyRound_0 1 rfl rfl)
theorem dX0_lonelyRound_2 : decode cX0_lonelyRound 2 = .ok (.iload_n 3, 1) := dk_29 (dk_at dksX0_lonelyRound_0 2 rfl rfl)
theorem dX0_lonelyRound_3 : decode cX0_lonelyRound 3 = .ok (.aload_n 0, 1) := dk_42 (dk_at dksX0_lonelyRound_0 3 rfl rfl)
theorem dX0_lonelyRound_4 : decode cX0_lonelyRound 4 = .ok (.getfield 10, 3) := dk_180 0 10 (dk_at dksX0_lonelyRound_0 4 rfl rfl)
theorem dX0_lonelyRound_7 : decode cX0_lonelyRound 7 = .ok (.getfield 115, 3) := dk_180 0 115 (dk_at dksX0_lonelyRound_0 7 rfl rfl)
theorem dX0_lonelyRound_10 : decode cX0_lonelyRound 10 = .ok (.if_icmp .ge 42, 3) := dk_162 0 42 (dk_at dksX0_lonelyRound_0 10 rfl rfl)
theorem dX0_lonelyRound_13 : decode cX0_lonelyRound 13 = .ok (.iload_n 1, 1) := dk_27 (dk_at dksX0_lonelyRound_0 13 rfl rfl)
theorem dX0_lonelyRound_14 : decode cX0_lonelyRound 14 = .ok (.iload_n 3, 1) := dk_29 (dk_at dksX0_lonelyRound_0 14 rfl rfl)
theorem dX0_lonelyRound_15 : decode cX0_lonelyRound 15 = .ok (.invokestatic 256, 3) := dk_184 1 0 (dk_at dksX0_lonelyRound_0 15 rfl rfl)
theorem dX0_lonelyRound_18 : decode cX0_lonelyRound 18 = .ok (.ifCond .eq 28, 3) := dk_153 0 28 (dk_at dksX0_lonelyRound_0 18 rfl rfl)
theorem dX0_lonelyRound_21 : decode cX0_lonelyRound 21 = .ok (.aload_n 0, 1) := dk_42 (dk_at dksX0_lonelyRound_0 21 rfl rfl)
theorem dX0_lonelyRound_22 : decode cX0_lonelyRound 22 = .ok (.getfield 10, 3) := dk_180 0 10 (dk_at dksX0_lonelyRound_1 0 rfl rfl)
theorem dX0_lonelyRound_25 : decode cX0_lonelyRound 25 = .ok (.iload_n 3, 1) := dk_29 (dk_at dksX0_lonelyRound_1 3 rfl rfl)
theorem dX0_lonelyRound_26 : decode cX0_lonelyRound 26 = .ok (.iload_n 1, 1) := dk_27 (dk_at dksX0_lonelyRound_1 4 rfl rfl)
theorem dX0_lonelyRound_27 : decode cX0_lonelyRound 27 = .ok (.invokevirtual 345, 3) := dk_182 1 89 (dk_at dksX0_lonelyRound_1 5 rfl rfl)
theorem dX0_lonelyRound_30 : decode cX0_lonelyRound 30 = .ok (.ifCond .ne 16, 3) := dk_154 0 16 (dk_at dksX0_lonelyRound_1 8 rfl rfl)
theorem dX0_lonelyRound_33 : decode cX0_lonelyRound 33 = .ok (.new 43, 3) := dk_187 0 43 (dk_at dksX0_lonelyRound_1 11 rfl rfl)
theorem dX0_lonelyRound_36 : decode cX0_lonelyRound 36 = .ok (.dup, 1) := dk_89 (dk_at dksX0_lonelyRound_1 14 rfl rfl)
theorem dX0_lonelyRound_37 : decode cX0_lonelyRound 37 = .ok (.iconst 0, 1) := dk_3 (dk_at dksX0_lonelyRound_1 15 rfl rfl)
theorem dX0_lonelyRound_38 : decode cX0_lonelyRound 38 = .ok (.iconst 1, 1) := dk_4 (dk_at dksX0_lonelyRound_1 16 rfl rfl)
theorem dX0_lonelyRound_39 : decode cX0_lonelyRound 39 = .ok (.iload_n 3, 1) := dk_29 (dk_at dksX0_lonelyRound_1 17 rfl rfl)
theorem dX0_lonelyRound_40 : decode cX0_lonelyRound 40 = .ok (.ishl, 1) := dk_120 (dk_at dksX0_lonelyRound_1 18 rfl rfl)
theorem dX0_lonelyRound_41 : decode cX0_lonelyRound 41 = .ok (.iconst 0, 1) := dk_3 (dk_at dksX0_lonelyRound_1 19 rfl rfl)
theorem dX0_lonelyRound_42 : decode cX0_lonelyRound 42 = .ok (.invokespecial 348, 3) := dk_183 1 92 (dk_at dksX0_lonelyRound_1 20 rfl rfl)
theorem dX0_lonelyRound_45 : decode cX0_lonelyRound 45 = .ok (.areturn, 1) := dk_176 (dk_at dksX0_lonelyRound_1 23 rfl rfl)
theorem dX0_lonelyRound_46 : decode cX0_lonelyRound 46 = .ok (.iinc 3 1, 3) := dk_132 3 1 (dk_at dksX0_lonelyRound_2 0 rfl rfl)
theorem dX0_lonelyRound_49 : decode cX0_lonelyRound 49 = .ok (.goto (-47), 3) := dk_167 255 209 (dk_at dksX0_lonelyRound_2 3 rfl rfl)
theorem dX0_lonelyRound_52 : decode cX0_lonelyRound 52 = .ok (.aconst_null, 1) := dk_1 (dk_at dksX0_lonelyRound_2 6 rfl rfl)
theorem dX0_lonelyRound_53 : decode cX0_lonelyRound 53 = .ok (.areturn, 1) := dk_176 (dk_at dksX0_lonelyRound_2 7 rfl rfl)
abbrev cX0_has : ByteArray := prog_1_method_3_code
def yX0_has : MethodName := ⟨RX0, "has", "(II)Z"⟩
def dkwX0_has_0 : List UInt8 := [26, 27, 122, 4, 126, 4, 160, 0, 7, 4, 167, 0, 4, 3, 172]
abbrev dktX0_has_0 : List UInt8 := dkwX0_has_0 ++ []
theorem dksX0_has_0 : cX0_has.data.toList.drop 0 = dktX0_has_0 := by decide +kernel
theorem dX0_has_0 : decode cX0_has 0 = .ok (.iload_n 0, 1) := dk_26 (dk_at dksX0_has_0 0 rfl rfl)
theorem dX0_has_1 : decode cX0_has 1 = .ok (.iload_n 1, 1) := dk_27 (dk_at dksX0_has_0 1 rfl rfl)
theorem dX0_has_2 : decode cX0_has 2 = .ok (.ishr, 1) := dk_122 (dk_at dksX0_has_0 2 rfl rfl)
theorem dX0_has_3 : decode cX0_has 3 = .ok (.iconst 1, 1) := dk_4 (dk_at dksX0_has_0 3 rfl rfl)
theorem dX0_has_4 : decode cX0_has 4 = .ok (.iand, 1) := dk_126 (dk_at dksX0_has_0 4 rfl rfl)
theorem dX0_has_5 : decode cX0_has 5 = .ok (.iconst 1, 1) := dk_4 (dk_at dksX0_has_0 5 rfl rfl)
theorem dX0_has_6 : decode cX0_has 6 = .ok (.if_icmp .ne 7, 3) := dk_160 0 7 (dk_at dksX0_has_0 6 rfl rfl)
theorem dX0_has_9 : decode cX0_has 9 = .ok (.iconst 1, 1) := dk_4 (dk_at dksX0_has_0 9 rfl rfl)
theorem dX0_has_10 : decode cX0_has 10 = .ok (.goto 4, 3) := dk_167 0 4 (dk_at dksX0_has_0 10 rfl rfl)
theorem dX0_has_13 : decode cX0_has 13 = .ok (.iconst 0, 1) := dk_3 (dk_at dksX0_has_0 13 rfl rfl)
theorem dX0_has_14 : decode cX0_has 14 = .ok (.ireturn, 1) := dk_172 (dk_at dksX0_has_0 14 rfl rfl)
abbrev cX0_ones : ByteArray := prog_1_method_4_code
def yX0_ones : MethodName := ⟨RX0, "ones", "(I)I"⟩
theorem dX0_ones_0 : decode cX0_ones 0 = .ok (.iload_n 0, 1) := by decide +kernel
theorem dX0_ones_1 : decode cX0_ones 1 = .ok (.invokestatic 82, 3) := by decide +kernel
theorem dX0_ones_4 : decode cX0_ones 4 = .ok (.ireturn, 1) := by decide +kernel
abbrev cX0_crowdedRound : ByteArray := prog_1_method_47_code
def yX0_crowdedRound : MethodName := ⟨RX0, "crowdedRound", "(II)LLinesTouched$Round;"⟩
def dkwX0_crowdedRound_2 : List UInt8 := [183, 1, 92, 176, 132, 3, 1, 167, 255, 206, 1, 176]
abbrev dktX0_crowdedRound_2 : List UInt8 := dkwX0_crowdedRound_2 ++ []
def dkwX0_crowdedRound_1 : List UInt8 := [180, 0, 10, 29, 27, 182, 1, 89, 28, 164, 0, 18, 187, 0, 43, 89, 4, 4, 29, 120, 4, 29, 120]
abbrev dktX0_crowdedRound_1 : List UInt8 := dkwX0_crowdedRound_1 ++ dktX0_crowdedRound_2
def dkwX0_crowdedRound_0 : List UInt8 := [3, 62, 29, 42, 180, 0, 10, 180, 0, 115, 162, 0, 45, 27, 29, 184, 1, 0, 153, 0, 31, 42]
abbrev dktX0_crowdedRound_0 : List UInt8 := dkwX0_crowdedRound_0 ++ dktX0_crowdedRound_1
theorem dksX0_crowdedRound_0 : cX0_crowdedRound.data.toList.drop 0 = dktX0_crowdedRound_0 := by decide +kernel
theorem dksX0_crowdedRound_1 : cX0_crowdedRound.data.toList.drop 22 = dktX0_crowdedRound_1 := dk_seg dksX0_crowdedRound_0 22 rfl rfl
theorem dksX0_crowdedRound_2 : cX0_crowdedRound.data.toList.drop 45 = dktX0_crowdedRound_2 := dk_seg dksX0_crowdedRound_1 23 rfl rfl
theorem dX0_crowdedRound_0 : decode cX0_crowdedRound 0 = .ok (.iconst 0, 1) := dk_3 (dk_at dksX0_crowdedRound_0 0 rfl rfl)
theorem dX0_crowdedRound_1 : decode cX0_crowdedRound 1 = .ok (.istore_n 3, 1) := dk_62 (dk_at dksX0_crowdedRound_0 1 rfl rfl)
theorem dX0_crowdedRound_2 : decode cX0_crowdedRound 2 = .ok (.iload_n 3, 1) := dk_29 (dk_at dksX0_crowdedRound_0 2 rfl rfl)
theorem dX0_crowdedRound_3 : decode cX0_crowdedRound 3 = .ok (.aload_n 0, 1) := dk_42 (dk_at dksX0_crowdedRound_0 3 rfl rfl)
theorem dX0_crowdedRound_4 : decode cX0_crowdedRound 4 = .ok (.getfield 10, 3) := dk_180 0 10 (dk_at dksX0_crowdedRound_0 4 rfl rfl)
theorem dX0_crowdedRound_7 : decode cX0_crowdedRound 7 = .ok (.getfield 115, 3) := dk_180 0 115 (dk_at dksX0_crowdedRound_0 7 rfl rfl)
theorem dX0_crowdedRound_10 : decode cX0_crowdedRound 10 = .ok (.if_icmp .ge 45, 3) := dk_162 0 45 (dk_at dksX0_crowdedRound_0 10 rfl rfl)
theorem dX0_crowdedRound_13 : decode cX0_crowdedRound 13 = .ok (.iload_n 1, 1) := dk_27 (dk_at dksX0_crowdedRound_0 13 rfl rfl)
theorem dX0_crowdedRound_14 : decode cX0_crowdedRound 14 = .ok (.iload_n 3, 1) := dk_29 (dk_at dksX0_crowdedRound_0 14 rfl rfl)
theorem dX0_crowdedRound_15 : decode cX0_crowdedRound 15 = .ok (.invokestatic 256, 3) := dk_184 1 0 (dk_at dksX0_crowdedRound_0 15 rfl rfl)
theorem dX0_crowdedRound_18 : decode cX0_crowdedRound 18 = .ok (.ifCond .eq 31, 3) := dk_153 0 31 (dk_at dksX0_crowdedRound_0 18 rfl rfl)
theorem dX0_crowdedRound_21 : decode cX0_crowdedRound 21 = .ok (.aload_n 0, 1) := dk_42 (dk_at dksX0_crowdedRound_0 21 rfl rfl)
theorem dX0_crowdedRound_22 : decode cX0_crowdedRound 22 = .ok (.getfield 10, 3) := dk_180 0 10 (dk_at dksX0_crowdedRound_1 0 rfl rfl)
theorem dX0_crowdedRound_25 : decode cX0_crowdedRound 25 = .ok (.iload_n 3, 1) := dk_29 (dk_at dksX0_crowdedRound_1 3 rfl rfl)
theorem dX0_crowdedRound_26 : decode cX0_crowdedRound 26 = .ok (.iload_n 1, 1) := dk_27 (dk_at dksX0_crowdedRound_1 4 rfl rfl)
theorem dX0_crowdedRound_27 : decode cX0_crowdedRound 27 = .ok (.invokevirtual 345, 3) := dk_182 1 89 (dk_at dksX0_crowdedRound_1 5 rfl rfl)
theorem dX0_crowdedRound_30 : decode cX0_crowdedRound 30 = .ok (.iload_n 2, 1) := dk_28 (dk_at dksX0_crowdedRound_1 8 rfl rfl)
theorem dX0_crowdedRound_31 : decode cX0_crowdedRound 31 = .ok (.if_icmp .le 18, 3) := dk_164 0 18 (dk_at dksX0_crowdedRound_1 9 rfl rfl)
theorem dX0_crowdedRound_34 : decode cX0_crowdedRound 34 = .ok (.new 43, 3) := dk_187 0 43 (dk_at dksX0_crowdedRound_1 12 rfl rfl)
theorem dX0_crowdedRound_37 : decode cX0_crowdedRound 37 = .ok (.dup, 1) := dk_89 (dk_at dksX0_crowdedRound_1 15 rfl rfl)
theorem dX0_crowdedRound_38 : decode cX0_crowdedRound 38 = .ok (.iconst 1, 1) := dk_4 (dk_at dksX0_crowdedRound_1 16 rfl rfl)
theorem dX0_crowdedRound_39 : decode cX0_crowdedRound 39 = .ok (.iconst 1, 1) := dk_4 (dk_at dksX0_crowdedRound_1 17 rfl rfl)
theorem dX0_crowdedRound_40 : decode cX0_crowdedRound 40 = .ok (.iload_n 3, 1) := dk_29 (dk_at dksX0_crowdedRound_1 18 rfl rfl)
theorem dX0_crowdedRound_41 : decode cX0_crowdedRound 41 = .ok (.ishl, 1) := dk_120 (dk_at dksX0_crowdedRound_1 19 rfl rfl)
theorem dX0_crowdedRound_42 : decode cX0_crowdedRound 42 = .ok (.iconst 1, 1) := dk_4 (dk_at dksX0_crowdedRound_1 20 rfl rfl)
theorem dX0_crowdedRound_43 : decode cX0_crowdedRound 43 = .ok (.iload_n 3, 1) := dk_29 (dk_at dksX0_crowdedRound_1 21 rfl rfl)
theorem dX0_crowdedRound_44 : decode cX0_crowdedRound 44 = .ok (.ishl, 1) := dk_120 (dk_at dksX0_crowdedRound_1 22 rfl rfl)
theorem dX0_crowdedRound_45 : decode cX0_crowdedRound 45 = .ok (.invokespecial 348, 3) := dk_183 1 92 (dk_at dksX0_crowdedRound_2 0 rfl rfl)
theorem dX0_crowdedRound_48 : decode cX0_crowdedRound 48 = .ok (.areturn, 1) := dk_176 (dk_at dksX0_crowdedRound_2 3 rfl rfl)
theorem dX0_crowdedRound_49 : decode cX0_crowdedRound 49 = .ok (.iinc 3 1, 3) := dk_132 3 1 (dk_at dksX0_crowdedRound_2 4 rfl rfl)
theorem dX0_crowdedRound_52 : decode cX0_crowdedRound 52 = .ok (.goto (-50), 3) := dk_167 255 206 (dk_at dksX0_crowdedRound_2 7 rfl rfl)
theorem dX0_crowdedRound_55 : decode cX0_crowdedRound 55 = .ok (.aconst_null, 1) := dk_1 (dk_at dksX0_crowdedRound_2 10 rfl rfl)
theorem dX0_crowdedRound_56 : decode cX0_crowdedRound 56 = .ok (.areturn, 1) := dk_176 (dk_at dksX0_crowdedRound_2 11 rfl rfl)
abbrev cX0_hangingRound : ByteArray := prog_1_method_48_code
def yX0_hangingRound : MethodName := ⟨RX0, "hangingRound", "(II)LLinesTouched$Round;"⟩
def dkwX0_hangingRound_3 : List UInt8 := [132, 3, 1, 167, 255, 186, 1, 176]
abbrev dktX0_hangingRound_3 : List UInt8 := dkwX0_hangingRound_3 ++ []
def dkwX0_hangingRound_2 : List UInt8 := [180, 0, 152, 29, 46, 27, 126, 128, 42, 180, 0, 10, 180, 0, 152, 29, 46, 27, 126, 183, 1, 92, 176]
abbrev dktX0_hangingRound_2 : List UInt8 := dkwX0_hangingRound_2 ++ dktX0_hangingRound_3
def dkwX0_hangingRound_1 : List UInt8 := [180, 0, 10, 29, 27, 182, 1, 89, 4, 160, 0, 38, 187, 0, 43, 89, 5, 4, 29, 120, 42, 180, 0, 10]
abbrev dktX0_hangingRound_1 : List UInt8 := dkwX0_hangingRound_1 ++ dktX0_hangingRound_2
def dkwX0_hangingRound_0 : List UInt8 := [3, 62, 29, 42, 180, 0, 10, 180, 0, 115, 162, 0, 65, 27, 29, 184, 1, 0, 153, 0, 51, 42]
abbrev dktX0_hangingRound_0 : List UInt8 := dkwX0_hangingRound_0 ++ dktX0_hangingRound_1
theorem dksX0_hangingRound_0 : cX0_hangingRound.data.toList.drop 0 = dktX0_hangingRound_0 := by decide +kernel
theorem dksX0_hangingRound_1 : cX0_hangingRound.data.toList.drop 22 = dktX0_hangingRound_1 := dk_seg dksX0_hangingRound_0 22 rfl rfl
theorem dksX0_hangingRound_2 : cX0_hangingRound.data.toList.drop 46 = dktX0_hangingRound_2 := dk_seg dksX0_hangingRound_1 24 rfl rfl
theorem dksX0_hangingRound_3 : cX0_hangingRound.data.toList.drop 69 = dktX0_hangingRound_3 := dk_seg dksX0_hangingRound_2 23 rfl rfl
theorem dX0_hangingRound_0 : decode cX0_hangingRound 0 = .ok (.iconst 0, 1) := dk_3 (dk_at dksX0_hangingRound_0 0 rfl rfl)
theorem dX0_hangingRound_1 : decode cX0_hangingRound 1 = .ok (.istore_n 3, 1) := dk_62 (dk_at dksX0_hangingRound_0 1 rfl rfl)
theorem dX0_hangingRound_2 : decode cX0_hangingRound 2 = .ok (.iload_n 3, 1) := dk_29 (dk_at dksX0_hangingRound_0 2 rfl rfl)
theorem dX0_hangingRound_3 : decode cX0_hangingRound 3 = .ok (.aload_n 0, 1) := dk_42 (dk_at dksX0_hangingRound_0 3 rfl rfl)
theorem dX0_hangingRound_4 : decode cX0_hangingRound 4 = .ok (.getfield 10, 3) := dk_180 0 10 (dk_at dksX0_hangingRound_0 4 rfl rfl)
theorem dX0_hangingRound_7 : decode cX0_hangingRound 7 = .ok (.getfield 115, 3) := dk_180 0 115 (dk_at dksX0_hangingRound_0 7 rfl rfl)
theorem dX0_hangingRound_10 : decode cX0_hangingRound 10 = .ok (.if_icmp .ge 65, 3) := dk_162 0 65 (dk_at dksX0_hangingRound_0 10 rfl rfl)
theorem dX0_hangingRound_13 : decode cX0_hangingRound 13 = .ok (.iload_n 1, 1) := dk_27 (dk_at dksX0_hangingRound_0 13 rfl rfl)
theorem dX0_hangingRound_14 : decode cX0_hangingRound 14 = .ok (.iload_n 3, 1) := dk_29 (dk_at dksX0_hangingRound_0 14 rfl rfl)
theorem dX0_hangingRound_15 : decode cX0_hangingRound 15 = .ok (.invokestatic 256, 3) := dk_184 1 0 (dk_at dksX0_hangingRound_0 15 rfl rfl)
theorem dX0_hangingRound_18 : decode cX0_hangingRound 18 = .ok (.ifCond .eq 51, 3) := dk_153 0 51 (dk_at dksX0_hangingRound_0 18 rfl rfl)
theorem dX0_hangingRound_21 : decode cX0_hangingRound 21 = .ok (.aload_n 0, 1) := dk_42 (dk_at dksX0_hangingRound_0 21 rfl rfl)
theorem dX0_hangingRound_22 : decode cX0_hangingRound 22 = .ok (.getfield 10, 3) := dk_180 0 10 (dk_at dksX0_hangingRound_1 0 rfl rfl)
theorem dX0_hangingRound_25 : decode cX0_hangingRound 25 = .ok (.iload_n 3, 1) := dk_29 (dk_at dksX0_hangingRound_1 3 rfl rfl)
theorem dX0_hangingRound_26 : decode cX0_hangingRound 26 = .ok (.iload_n 1, 1) := dk_27 (dk_at dksX0_hangingRound_1 4 rfl rfl)
theorem dX0_hangingRound_27 : decode cX0_hangingRound 27 = .ok (.invokevirtual 345, 3) := dk_182 1 89 (dk_at dksX0_hangingRound_1 5 rfl rfl)
theorem dX0_hangingRound_30 : decode cX0_hangingRound 30 = .ok (.iconst 1, 1) := dk_4 (dk_at dksX0_hangingRound_1 8 rfl rfl)
theorem dX0_hangingRound_31 : decode cX0_hangingRound 31 = .ok (.if_icmp .ne 38, 3) := dk_160 0 38 (dk_at dksX0_hangingRound_1 9 rfl rfl)
theorem dX0_hangingRound_34 : decode cX0_hangingRound 34 = .ok (.new 43, 3) := dk_187 0 43 (dk_at dksX0_hangingRound_1 12 rfl rfl)
theorem dX0_hangingRound_37 : decode cX0_hangingRound 37 = .ok (.dup, 1) := dk_89 (dk_at dksX0_hangingRound_1 15 rfl rfl)
theorem dX0_hangingRound_38 : decode cX0_hangingRound 38 = .ok (.iconst 2, 1) := dk_5 (dk_at dksX0_hangingRound_1 16 rfl rfl)
theorem dX0_hangingRound_39 : decode cX0_hangingRound 39 = .ok (.iconst 1, 1) := dk_4 (dk_at dksX0_hangingRound_1 17 rfl rfl)
theorem dX0_hangingRound_40 : decode cX0_hangingRound 40 = .ok (.iload_n 3, 1) := dk_29 (dk_at dksX0_hangingRound_1 18 rfl rfl)
theorem dX0_hangingRound_41 : decode cX0_hangingRound 41 = .ok (.ishl, 1) := dk_120 (dk_at dksX0_hangingRound_1 19 rfl rfl)
theorem dX0_hangingRound_42 : decode cX0_hangingRound 42 = .ok (.aload_n 0, 1) := dk_42 (dk_at dksX0_hangingRound_1 20 rfl rfl)
theorem dX0_hangingRound_43 : decode cX0_hangingRound 43 = .ok (.getfield 10, 3) := dk_180 0 10 (dk_at dksX0_hangingRound_1 21 rfl rfl)
theorem dX0_hangingRound_46 : decode cX0_hangingRound 46 = .ok (.getfield 152, 3) := dk_180 0 152 (dk_at dksX0_hangingRound_2 0 rfl rfl)
theorem dX0_hangingRound_49 : decode cX0_hangingRound 49 = .ok (.iload_n 3, 1) := dk_29 (dk_at dksX0_hangingRound_2 3 rfl rfl)
theorem dX0_hangingRound_50 : decode cX0_hangingRound 50 = .ok (.iaload, 1) := dk_46 (dk_at dksX0_hangingRound_2 4 rfl rfl)
theorem dX0_hangingRound_51 : decode cX0_hangingRound 51 = .ok (.iload_n 1, 1) := dk_27 (dk_at dksX0_hangingRound_2 5 rfl rfl)
theorem dX0_hangingRound_52 : decode cX0_hangingRound 52 = .ok (.iand, 1) := dk_126 (dk_at dksX0_hangingRound_2 6 rfl rfl)
theorem dX0_hangingRound_53 : decode cX0_hangingRound 53 = .ok (.ior, 1) := dk_128 (dk_at dksX0_hangingRound_2 7 rfl rfl)
theorem dX0_hangingRound_54 : decode cX0_hangingRound 54 = .ok (.aload_n 0, 1) := dk_42 (dk_at dksX0_hangingRound_2 8 rfl rfl)
theorem dX0_hangingRound_55 : decode cX0_hangingRound 55 = .ok (.getfield 10, 3) := dk_180 0 10 (dk_at dksX0_hangingRound_2 9 rfl rfl)
theorem dX0_hangingRound_58 : decode cX0_hangingRound 58 = .ok (.getfield 152, 3) := dk_180 0 152 (dk_at dksX0_hangingRound_2 12 rfl rfl)
theorem dX0_hangingRound_61 : decode cX0_hangingRound 61 = .ok (.iload_n 3, 1) := dk_29 (dk_at dksX0_hangingRound_2 15 rfl rfl)
theorem dX0_hangingRound_62 : decode cX0_hangingRound 62 = .ok (.iaload, 1) := dk_46 (dk_at dksX0_hangingRound_2 16 rfl rfl)
theorem dX0_hangingRound_63 : decode cX0_hangingRound 63 = .ok (.iload_n 1, 1) := dk_27 (dk_at dksX0_hangingRound_2 17 rfl rfl)
theorem dX0_hangingRound_64 : decode cX0_hangingRound 64 = .ok (.iand, 1) := dk_126 (dk_at dksX0_hangingRound_2 18 rfl rfl)
theorem dX0_hangingRound_65 : decode cX0_hangingRound 65 = .ok (.invokespecial 348, 3) := dk_183 1 92 (dk_at dksX0_hangingRound_2 19 rfl rfl)
theorem dX0_hangingRound_68 : decode cX0_hangingRound 68 = .ok (.areturn, 1) := dk_176 (dk_at dksX0_hangingRound_2 22 rfl rfl)
theorem dX0_hangingRound_69 : decode cX0_hangingRound 69 = .ok (.iinc 3 1, 3) := dk_132 3 1 (dk_at dksX0_hangingRound_3 0 rfl rfl)
theorem dX0_hangingRound_72 : decode cX0_hangingRound 72 = .ok (.goto (-70), 3) := dk_167 255 186 (dk_at dksX0_hangingRound_3 3 rfl rfl)
theorem dX0_hangingRound_75 : decode cX0_hangingRound 75 = .ok (.aconst_null, 1) := dk_1 (dk_at dksX0_hangingRound_3 6 rfl rfl)
theorem dX0_hangingRound_76 : decode cX0_hangingRound 76 = .ok (.areturn, 1) := dk_176 (dk_at dksX0_hangingRound_3 7 rfl rfl)
abbrev cX0_crownRound : ByteArray := prog_1_method_49_code
def yX0_crownRound : MethodName := ⟨RX0, "crownRound", "(II)LLinesTouched$Round;"⟩
def dkwX0_crownRound_1 : List UInt8 := [3, 182, 1, 67, 42, 5, 182, 1, 67, 128, 42, 5, 182, 1, 67, 183, 1, 92, 176]
abbrev dktX0_crownRound_1 : List UInt8 := dkwX0_crownRound_1 ++ []
def dkwX0_crownRound_0 : List UInt8 := [42, 27, 182, 1, 64, 87, 42, 3, 182, 1, 67, 154, 0, 7, 1, 167, 0, 27, 187, 0, 43, 89, 6, 42]
abbrev dktX0_crownRound_0 : List UInt8 := dkwX0_crownRound_0 ++ dktX0_crownRound_1
theorem dksX0_crownRound_0 : cX0_crownRound.data.toList.drop 0 = dktX0_crownRound_0 := by decide +kernel
theorem dksX0_crownRound_1 : cX0_crownRound.data.toList.drop 24 = dktX0_crownRound_1 := dk_seg dksX0_crownRound_0 24 rfl rfl
theorem dX0_crownRound_0 : decode cX0_crownRound 0 = .ok (.aload_n 0, 1) := dk_42 (dk_at dksX0_crownRound_0 0 rfl rfl)
theorem dX0_crownRound_1 : decode cX0_crownRound 1 = .ok (.iload_n 1, 1) := dk_27 (dk_at dksX0_crownRound_0 1 rfl rfl)
theorem dX0_crownRound_2 : decode cX0_crownRound 2 = .ok (.invokevirtual 320, 3) := dk_182 1 64 (dk_at dksX0_crownRound_0 2 rfl rfl)
theorem dX0_crownRound_5 : decode cX0_crownRound 5 = .ok (.pop, 1) := dk_87 (dk_at dksX0_crownRound_0 5 rfl rfl)
theorem dX0_crownRound_6 : decode cX0_crownRound 6 = .ok (.aload_n 0, 1) := dk_42 (dk_at dksX0_crownRound_0 6 rfl rfl)
theorem dX0_crownRound_7 : decode cX0_crownRound 7 = .ok (.iconst 0, 1) := dk_3 (dk_at dksX0_crownRound_0 7 rfl rfl)
theorem dX0_crownRound_8 : decode cX0_crownRound 8 = .ok (.invokevirtual 323, 3) := dk_182 1 67 (dk_at dksX0_crownRound_0 8 rfl rfl)
theorem dX0_crownRound_11 : decode cX0_crownRound 11 = .ok (.ifCond .ne 7, 3) := dk_154 0 7 (dk_at dksX0_crownRound_0 11 rfl rfl)
theorem dX0_crownRound_14 : decode cX0_crownRound 14 = .ok (.aconst_null, 1) := dk_1 (dk_at dksX0_crownRound_0 14 rfl rfl)
theorem dX0_crownRound_15 : decode cX0_crownRound 15 = .ok (.goto 27, 3) := dk_167 0 27 (dk_at dksX0_crownRound_0 15 rfl rfl)
theorem dX0_crownRound_18 : decode cX0_crownRound 18 = .ok (.new 43, 3) := dk_187 0 43 (dk_at dksX0_crownRound_0 18 rfl rfl)
theorem dX0_crownRound_21 : decode cX0_crownRound 21 = .ok (.dup, 1) := dk_89 (dk_at dksX0_crownRound_0 21 rfl rfl)
theorem dX0_crownRound_22 : decode cX0_crownRound 22 = .ok (.iconst 3, 1) := dk_6 (dk_at dksX0_crownRound_0 22 rfl rfl)
theorem dX0_crownRound_23 : decode cX0_crownRound 23 = .ok (.aload_n 0, 1) := dk_42 (dk_at dksX0_crownRound_0 23 rfl rfl)
theorem dX0_crownRound_24 : decode cX0_crownRound 24 = .ok (.iconst 0, 1) := dk_3 (dk_at dksX0_crownRound_1 0 rfl rfl)
theorem dX0_crownRound_25 : decode cX0_crownRound 25 = .ok (.invokevirtual 323, 3) := dk_182 1 67 (dk_at dksX0_crownRound_1 1 rfl rfl)
theorem dX0_crownRound_28 : decode cX0_crownRound 28 = .ok (.aload_n 0, 1) := dk_42 (dk_at dksX0_crownRound_1 4 rfl rfl)
theorem dX0_crownRound_29 : decode cX0_crownRound 29 = .ok (.iconst 2, 1) := dk_5 (dk_at dksX0_crownRound_1 5 rfl rfl)
theorem dX0_crownRound_30 : decode cX0_crownRound 30 = .ok (.invokevirtual 323, 3) := dk_182 1 67 (dk_at dksX0_crownRound_1 6 rfl rfl)
theorem dX0_crownRound_33 : decode cX0_crownRound 33 = .ok (.ior, 1) := dk_128 (dk_at dksX0_crownRound_1 9 rfl rfl)
theorem dX0_crownRound_34 : decode cX0_crownRound 34 = .ok (.aload_n 0, 1) := dk_42 (dk_at dksX0_crownRound_1 10 rfl rfl)
theorem dX0_crownRound_35 : decode cX0_crownRound 35 = .ok (.iconst 2, 1) := dk_5 (dk_at dksX0_crownRound_1 11 rfl rfl)
theorem dX0_crownRound_36 : decode cX0_crownRound 36 = .ok (.invokevirtual 323, 3) := dk_182 1 67 (dk_at dksX0_crownRound_1 12 rfl rfl)
theorem dX0_crownRound_39 : decode cX0_crownRound 39 = .ok (.invokespecial 348, 3) := dk_183 1 92 (dk_at dksX0_crownRound_1 15 rfl rfl)
theorem dX0_crownRound_42 : decode cX0_crownRound 42 = .ok (.areturn, 1) := dk_176 (dk_at dksX0_crownRound_1 18 rfl rfl)
abbrev cX0_findsHalves : ByteArray := prog_1_method_34_code
def yX0_findsHalves : MethodName := ⟨RX0, "findsHalves", "(I)I"⟩
def dkwX0_findsHalves_5 : List UInt8 := [21, 9, 145, 84, 167, 0, 9, 132, 8, 1, 167, 255, 165, 132, 7, 1, 167, 255, 141, 28, 172]
abbrev dktX0_findsHalves_5 : List UInt8 := dkwX0_findsHalves_5 ++ []
def dkwX0_findsHalves_4 : List UInt8 := [184, 1, 57, 129, 66, 22, 5, 21, 7, 21, 9, 184, 1, 61, 129, 55, 5, 42, 180, 0, 26, 21, 7]
abbrev dktX0_findsHalves_4 : List UInt8 := dkwX0_findsHalves_4 ++ dktX0_findsHalves_5
def dkwX0_findsHalves_3 : List UInt8 := [21, 7, 21, 9, 184, 1, 61, 129, 182, 1, 47, 28, 159, 0, 6, 167, 0, 38, 33, 21, 7, 21, 9]
abbrev dktX0_findsHalves_3 : List UInt8 := dkwX0_findsHalves_3 ++ dktX0_findsHalves_4
def dkwX0_findsHalves_2 : List UInt8 := [153, 0, 82, 21, 8, 184, 1, 54, 54, 9, 42, 27, 33, 21, 7, 21, 9, 184, 1, 57, 129, 22, 5]
abbrev dktX0_findsHalves_2 : List UInt8 := dkwX0_findsHalves_2 ++ dktX0_findsHalves_3
def dkwX0_findsHalves_1 : List UInt8 := [180, 0, 26, 21, 7, 2, 84, 3, 54, 8, 21, 8, 6, 162, 0, 91, 27, 21, 7, 184, 1, 0]
abbrev dktX0_findsHalves_1 : List UInt8 := dkwX0_findsHalves_1 ++ dktX0_findsHalves_2
def dkwX0_findsHalves_0 : List UInt8 := [42, 27, 182, 1, 51, 61, 9, 66, 9, 55, 5, 3, 54, 7, 21, 7, 16, 12, 162, 0, 114, 42]
abbrev dktX0_findsHalves_0 : List UInt8 := dkwX0_findsHalves_0 ++ dktX0_findsHalves_1
theorem dksX0_findsHalves_0 : cX0_findsHalves.data.toList.drop 0 = dktX0_findsHalves_0 := by decide +kernel
theorem dksX0_findsHalves_1 : cX0_findsHalves.data.toList.drop 22 = dktX0_findsHalves_1 := dk_seg dksX0_findsHalves_0 22 rfl rfl
theorem dksX0_findsHalves_2 : cX0_findsHalves.data.toList.drop 44 = dktX0_findsHalves_2 := dk_seg dksX0_findsHalves_1 22 rfl rfl
theorem dksX0_findsHalves_3 : cX0_findsHalves.data.toList.drop 67 = dktX0_findsHalves_3 := dk_seg dksX0_findsHalves_2 23 rfl rfl
theorem dksX0_findsHalves_4 : cX0_findsHalves.data.toList.drop 90 = dktX0_findsHalves_4 := dk_seg dksX0_findsHalves_3 23 rfl rfl
theorem dksX0_findsHalves_5 : cX0_findsHalves.data.toList.drop 113 = dktX0_findsHalves_5 := dk_seg dksX0_findsHalves_4 23 rfl rfl
theorem dX0_findsHalves_0 : decode cX0_findsHalves 0 = .ok (.aload_n 0, 1) := dk_42 (dk_at dksX0_findsHalves_0 0 rfl rfl)
theorem dX0_findsHalves_1 : decode cX0_findsHalves 1 = .ok (.iload_n 1, 1) := dk_27 (dk_at dksX0_findsHalves_0 1 rfl rfl)
theorem dX0_findsHalves_2 : decode cX0_findsHalves 2 = .ok (.invokevirtual 307, 3) := dk_182 1 51 (dk_at dksX0_findsHalves_0 2 rfl rfl)
theorem dX0_findsHalves_5 : decode cX0_findsHalves 5 = .ok (.istore_n 2, 1) := dk_61 (dk_at dksX0_findsHalves_0 5 rfl rfl)
theorem dX0_findsHalves_6 : decode cX0_findsHalves 6 = .ok (.lconst 0, 1) := dk_9 (dk_at dksX0_findsHalves_0 6 rfl rfl)
theorem dX0_findsHalves_7 : decode cX0_findsHalves 7 = .ok (.lstore_n 3, 1) := dk_66 (dk_at dksX0_findsHalves_0 7 rfl rfl)
theorem dX0_findsHalves_8 : decode cX0_findsHalves 8 = .ok (.lconst 0, 1) := dk_9 (dk_at dksX0_findsHalves_0 8 rfl rfl)
theorem dX0_findsHalves_9 : decode cX0_findsHalves 9 = .ok (.lstore 5, 2) := dk_55 5 (dk_at dksX0_findsHalves_0 9 rfl rfl)
theorem dX0_findsHalves_11 : decode cX0_findsHalves 11 = .ok (.iconst 0, 1) := dk_3 (dk_at dksX0_findsHalves_0 11 rfl rfl)
theorem dX0_findsHalves_12 : decode cX0_findsHalves 12 = .ok (.istore 7, 2) := dk_54 7 (dk_at dksX0_findsHalves_0 12 rfl rfl)
theorem dX0_findsHalves_14 : decode cX0_findsHalves 14 = .ok (.iload 7, 2) := dk_21 7 (dk_at dksX0_findsHalves_0 14 rfl rfl)
theorem dX0_findsHalves_16 : decode cX0_findsHalves 16 = .ok (.bipush 12, 2) := dk_16 12 (dk_at dksX0_findsHalves_0 16 rfl rfl)
theorem dX0_findsHalves_18 : decode cX0_findsHalves 18 = .ok (.if_icmp .ge 114, 3) := dk_162 0 114 (dk_at dksX0_findsHalves_0 18 rfl rfl)
theorem dX0_findsHalves_21 : decode cX0_findsHalves 21 = .ok (.aload_n 0, 1) := dk_42 (dk_at dksX0_findsHalves_0 21 rfl rfl)
theorem dX0_findsHalves_22 : decode cX0_findsHalves 22 = .ok (.getfield 26, 3) := dk_180 0 26 (dk_at dksX0_findsHalves_1 0 rfl rfl)
theorem dX0_findsHalves_25 : decode cX0_findsHalves 25 = .ok (.iload 7, 2) := dk_21 7 (dk_at dksX0_findsHalves_1 3 rfl rfl)
theorem dX0_findsHalves_27 : decode cX0_findsHalves 27 = .ok (.iconst (-1), 1) := dk_2 (dk_at dksX0_findsHalves_1 5 rfl rfl)
theorem dX0_findsHalves_28 : decode cX0_findsHalves 28 = .ok (.bastore, 1) := dk_84 (dk_at dksX0_findsHalves_1 6 rfl rfl)
theorem dX0_findsHalves_29 : decode cX0_findsHalves 29 = .ok (.iconst 0, 1) := dk_3 (dk_at dksX0_findsHalves_1 7 rfl rfl)
theorem dX0_findsHalves_30 : decode cX0_findsHalves 30 = .ok (.istore 8, 2) := dk_54 8 (dk_at dksX0_findsHalves_1 8 rfl rfl)
theorem dX0_findsHalves_32 : decode cX0_findsHalves 32 = .ok (.iload 8, 2) := dk_21 8 (dk_at dksX0_findsHalves_1 10 rfl rfl)
theorem dX0_findsHalves_34 : decode cX0_findsHalves 34 = .ok (.iconst 3, 1) := dk_6 (dk_at dksX0_findsHalves_1 12 rfl rfl)
theorem dX0_findsHalves_35 : decode cX0_findsHalves 35 = .ok (.if_icmp .ge 91, 3) := dk_162 0 91 (dk_at dksX0_findsHalves_1 13 rfl rfl)
theorem dX0_findsHalves_38 : decode cX0_findsHalves 38 = .ok (.iload_n 1, 1) := dk_27 (dk_at dksX0_findsHalves_1 16 rfl rfl)
theorem dX0_findsHalves_39 : decode cX0_findsHalves 39 = .ok (.iload 7, 2) := dk_21 7 (dk_at dksX0_findsHalves_1 17 rfl rfl)
theorem dX0_findsHalves_41 : decode cX0_findsHalves 41 = .ok (.invokestatic 256, 3) := dk_184 1 0 (dk_at dksX0_findsHalves_1 19 rfl rfl)
theorem dX0_findsHalves_44 : decode cX0_findsHalves 44 = .ok (.ifCond .eq 82, 3) := dk_153 0 82 (dk_at dksX0_findsHalves_2 0 rfl rfl)
theorem dX0_findsHalves_47 : decode cX0_findsHalves 47 = .ok (.iload 8, 2) := dk_21 8 (dk_at dksX0_findsHalves_2 3 rfl rfl)
theorem dX0_findsHalves_49 : decode cX0_findsHalves 49 = .ok (.invokestatic 310, 3) := dk_184 1 54 (dk_at dksX0_findsHalves_2 5 rfl rfl)
theorem dX0_findsHalves_52 : decode cX0_findsHalves 52 = .ok (.istore 9, 2) := dk_54 9 (dk_at dksX0_findsHalves_2 8 rfl rfl)
theorem dX0_findsHalves_54 : decode cX0_findsHalves 54 = .ok (.aload_n 0, 1) := dk_42 (dk_at dksX0_findsHalves_2 10 rfl rfl)
theorem dX0_findsHalves_55 : decode cX0_findsHalves 55 = .ok (.iload_n 1, 1) := dk_27 (dk_at dksX0_findsHalves_2 11 rfl rfl)
theorem dX0_findsHalves_56 : decode cX0_findsHalves 56 = .ok (.lload_n 3, 1) := dk_33 (dk_at dksX0_findsHalves_2 12 rfl rfl)
theorem dX0_findsHalves_57 : decode cX0_findsHalves 57 = .ok (.iload 7, 2) := dk_21 7 (dk_at dksX0_findsHalves_2 13 rfl rfl)
theorem dX0_findsHalves_59 : decode cX0_findsHalves 59 = .ok (.iload 9, 2) := dk_21 9 (dk_at dksX0_findsHalves_2 15 rfl rfl)
theorem dX0_findsHalves_61 : decode cX0_findsHalves 61 = .ok (.invokestatic 313, 3) := dk_184 1 57 (dk_at dksX0_findsHalves_2 17 rfl rfl)
theorem dX0_findsHalves_64 : decode cX0_findsHalves 64 = .ok (.lor, 1) := dk_129 (dk_at dksX0_findsHalves_2 20 rfl rfl)
theorem dX0_findsHalves_65 : decode cX0_findsHalves 65 = .ok (.lload 5, 2) := dk_22 5 (dk_at dksX0_findsHalves_2 21 rfl rfl)
theorem dX0_findsHalves_67 : decode cX0_findsHalves 67 = .ok (.iload 7, 2) := dk_21 7 (dk_at dksX0_findsHalves_3 0 rfl rfl)
theorem dX0_findsHalves_69 : decode cX0_findsHalves 69 = .ok (.iload 9, 2) := dk_21 9 (dk_at dksX0_findsHalves_3 2 rfl rfl)
theorem dX0_findsHalves_71 : decode cX0_findsHalves 71 = .ok (.invokestatic 317, 3) := dk_184 1 61 (dk_at dksX0_findsHalves_3 4 rfl rfl)
theorem dX0_findsHalves_74 : decode cX0_findsHalves 74 = .ok (.lor, 1) := dk_129 (dk_at dksX0_findsHalves_3 7 rfl rfl)
theorem dX0_findsHalves_75 : decode cX0_findsHalves 75 = .ok (.invokevirtual 303, 3) := dk_182 1 47 (dk_at dksX0_findsHalves_3 8 rfl rfl)
theorem dX0_findsHalves_78 : decode cX0_findsHalves 78 = .ok (.iload_n 2, 1) := dk_28 (dk_at dksX0_findsHalves_3 11 rfl rfl)
theorem dX0_findsHalves_79 : decode cX0_findsHalves 79 = .ok (.if_icmp .eq 6, 3) := dk_159 0 6 (dk_at dksX0_findsHalves_3 12 rfl rfl)
theorem dX0_findsHalves_82 : decode cX0_findsHalves 82 = .ok (.goto 38, 3) := dk_167 0 38 (dk_at dksX0_findsHalves_3 15 rfl rfl)
theorem dX0_findsHalves_85 : decode cX0_findsHalves 85 = .ok (.lload_n 3, 1) := dk_33 (dk_at dksX0_findsHalves_3 18 rfl rfl)
theorem dX0_findsHalves_86 : decode cX0_findsHalves 86 = .ok (.iload 7, 2) := dk_21 7 (dk_at dksX0_findsHalves_3 19 rfl rfl)
theorem dX0_findsHalves_88 : decode cX0_findsHalves 88 = .ok (.iload 9, 2) := dk_21 9 (dk_at dksX0_findsHalves_3 21 rfl rfl)
theorem dX0_findsHalves_90 : decode cX0_findsHalves 90 = .ok (.invokestatic 313, 3) := dk_184 1 57 (dk_at dksX0_findsHalves_4 0 rfl rfl)
theorem dX0_findsHalves_93 : decode cX0_findsHalves 93 = .ok (.lor, 1) := dk_129 (dk_at dksX0_findsHalves_4 3 rfl rfl)
theorem dX0_findsHalves_94 : decode cX0_findsHalves 94 = .ok (.lstore_n 3, 1) := dk_66 (dk_at dksX0_findsHalves_4 4 rfl rfl)
theorem dX0_findsHalves_95 : decode cX0_findsHalves 95 = .ok (.lload 5, 2) := dk_22 5 (dk_at dksX0_findsHalves_4 5 rfl rfl)
theorem dX0_findsHalves_97 : decode cX0_findsHalves 97 = .ok (.iload 7, 2) := dk_21 7 (dk_at dksX0_findsHalves_4 7 rfl rfl)
theorem dX0_findsHalves_99 : decode cX0_findsHalves 99 = .ok (.iload 9, 2) := dk_21 9 (dk_at dksX0_findsHalves_4 9 rfl rfl)
theorem dX0_findsHalves_101 : decode cX0_findsHalves 101 = .ok (.invokestatic 317, 3) := dk_184 1 61 (dk_at dksX0_findsHalves_4 11 rfl rfl)
theorem dX0_findsHalves_104 : decode cX0_findsHalves 104 = .ok (.lor, 1) := dk_129 (dk_at dksX0_findsHalves_4 14 rfl rfl)
theorem dX0_findsHalves_105 : decode cX0_findsHalves 105 = .ok (.lstore 5, 2) := dk_55 5 (dk_at dksX0_findsHalves_4 15 rfl rfl)
theorem dX0_findsHalves_107 : decode cX0_findsHalves 107 = .ok (.aload_n 0, 1) := dk_42 (dk_at dksX0_findsHalves_4 17 rfl rfl)
theorem dX0_findsHalves_108 : decode cX0_findsHalves 108 = .ok (.getfield 26, 3) := dk_180 0 26 (dk_at dksX0_findsHalves_4 18 rfl rfl)
theorem dX0_findsHalves_111 : decode cX0_findsHalves 111 = .ok (.iload 7, 2) := dk_21 7 (dk_at dksX0_findsHalves_4 21 rfl rfl)
theorem dX0_findsHalves_113 : decode cX0_findsHalves 113 = .ok (.iload 9, 2) := dk_21 9 (dk_at dksX0_findsHalves_5 0 rfl rfl)
theorem dX0_findsHalves_115 : decode cX0_findsHalves 115 = .ok (.i2b, 1) := dk_145 (dk_at dksX0_findsHalves_5 2 rfl rfl)
theorem dX0_findsHalves_116 : decode cX0_findsHalves 116 = .ok (.bastore, 1) := dk_84 (dk_at dksX0_findsHalves_5 3 rfl rfl)
theorem dX0_findsHalves_117 : decode cX0_findsHalves 117 = .ok (.goto 9, 3) := dk_167 0 9 (dk_at dksX0_findsHalves_5 4 rfl rfl)
theorem dX0_findsHalves_120 : decode cX0_findsHalves 120 = .ok (.iinc 8 1, 3) := dk_132 8 1 (dk_at dksX0_findsHalves_5 7 rfl rfl)
theorem dX0_findsHalves_123 : decode cX0_findsHalves 123 = .ok (.goto (-91), 3) := dk_167 255 165 (dk_at dksX0_findsHalves_5 10 rfl rfl)
theorem dX0_findsHalves_126 : decode cX0_findsHalves 126 = .ok (.iinc 7 1, 3) := dk_132 7 1 (dk_at dksX0_findsHalves_5 13 rfl rfl)
theorem dX0_findsHalves_129 : decode cX0_findsHalves 129 = .ok (.goto (-115), 3) := dk_167 255 141 (dk_at dksX0_findsHalves_5 16 rfl rfl)
theorem dX0_findsHalves_132 : decode cX0_findsHalves 132 = .ok (.iload_n 2, 1) := dk_28 (dk_at dksX0_findsHalves_5 19 rfl rfl)
theorem dX0_findsHalves_133 : decode cX0_findsHalves 133 = .ok (.ireturn, 1) := dk_172 (dk_at dksX0_findsHalves_5 20 rfl rfl)
abbrev cX0_halvesOf : ByteArray := prog_1_method_33_code
def yX0_halvesOf : MethodName := ⟨RX0, "halvesOf", "(I)I"⟩
def dkwX0_halvesOf_0 : List UInt8 := [42, 27, 9, 9, 182, 1, 47, 172]
abbrev dktX0_halvesOf_0 : List UInt8 := dkwX0_halvesOf_0 ++ []
theorem dksX0_halvesOf_0 : cX0_halvesOf.data.toList.drop 0 = dktX0_halvesOf_0 := by decide +kernel
theorem dX0_halvesOf_0 : decode cX0_halvesOf 0 = .ok (.aload_n 0, 1) := dk_42 (dk_at dksX0_halvesOf_0 0 rfl rfl)
theorem dX0_halvesOf_1 : decode cX0_halvesOf 1 = .ok (.iload_n 1, 1) := dk_27 (dk_at dksX0_halvesOf_0 1 rfl rfl)
theorem dX0_halvesOf_2 : decode cX0_halvesOf 2 = .ok (.lconst 0, 1) := dk_9 (dk_at dksX0_halvesOf_0 2 rfl rfl)
theorem dX0_halvesOf_3 : decode cX0_halvesOf 3 = .ok (.lconst 0, 1) := dk_9 (dk_at dksX0_halvesOf_0 3 rfl rfl)
theorem dX0_halvesOf_4 : decode cX0_halvesOf 4 = .ok (.invokevirtual 303, 3) := dk_182 1 47 (dk_at dksX0_halvesOf_0 4 rfl rfl)
theorem dX0_halvesOf_7 : decode cX0_halvesOf 7 = .ok (.ireturn, 1) := dk_172 (dk_at dksX0_halvesOf_0 7 rfl rfl)
abbrev cX0_halvesBy : ByteArray := prog_1_method_32_code
def yX0_halvesBy : MethodName := ⟨RX0, "halvesBy", "(IJJ)I"⟩
def dkwX0_halvesBy_6 : List UInt8 := [16, 16, 125, 27, 133, 127, 136, 182, 1, 44, 96, 172]
abbrev dktX0_halvesBy_6 : List UInt8 := dkwX0_halvesBy_6 ++ []
def dkwX0_halvesBy_5 : List UInt8 := [22, 4, 129, 20, 1, 37, 131, 55, 8, 22, 6, 184, 1, 39, 42, 22, 8, 27, 133, 127, 136, 22, 8]
abbrev dktX0_halvesBy_5 : List UInt8 := dkwX0_halvesBy_5 ++ dktX0_halvesBy_6
def dkwX0_halvesBy_4 : List UInt8 := [55, 6, 132, 8, 1, 167, 255, 161, 22, 6, 22, 4, 127, 9, 148, 153, 0, 7, 17, 3, 232, 172, 22, 6]
abbrev dktX0_halvesBy_4 : List UInt8 := dkwX0_halvesBy_4 ++ dktX0_halvesBy_5
def dkwX0_halvesBy_3 : List UInt8 := [22, 6, 22, 4, 16, 16, 21, 8, 96, 125, 10, 127, 10, 148, 154, 0, 8, 22, 9, 167, 0, 4, 9, 129]
abbrev dktX0_halvesBy_3 : List UInt8 := dkwX0_halvesBy_3 ++ dktX0_halvesBy_4
def dkwX0_halvesBy_2 : List UInt8 := [22, 4, 21, 8, 125, 10, 127, 10, 148, 154, 0, 11, 22, 9, 16, 16, 121, 167, 0, 4, 9, 129, 55, 6]
abbrev dktX0_halvesBy_2 : List UInt8 := dkwX0_halvesBy_2 ++ dktX0_halvesBy_3
def dkwX0_halvesBy_1 : List UInt8 := [153, 0, 19, 42, 180, 0, 10, 180, 0, 152, 21, 8, 46, 27, 126, 133, 167, 0, 4, 9, 55, 9, 22, 6]
abbrev dktX0_halvesBy_1 : List UInt8 := dkwX0_halvesBy_1 ++ dktX0_halvesBy_2
def dkwX0_halvesBy_0 : List UInt8 := [32, 55, 6, 3, 54, 8, 21, 8, 42, 180, 0, 10, 180, 0, 115, 162, 0, 89, 27, 21, 8, 184, 1, 0]
abbrev dktX0_halvesBy_0 : List UInt8 := dkwX0_halvesBy_0 ++ dktX0_halvesBy_1
theorem dksX0_halvesBy_0 : cX0_halvesBy.data.toList.drop 0 = dktX0_halvesBy_0 := by decide +kernel
theorem dksX0_halvesBy_1 : cX0_halvesBy.data.toList.drop 24 = dktX0_halvesBy_1 := dk_seg dksX0_halvesBy_0 24 rfl rfl
theorem dksX0_halvesBy_2 : cX0_halvesBy.data.toList.drop 48 = dktX0_halvesBy_2 := dk_seg dksX0_halvesBy_1 24 rfl rfl
theorem dksX0_halvesBy_3 : cX0_halvesBy.data.toList.drop 72 = dktX0_halvesBy_3 := dk_seg dksX0_halvesBy_2 24 rfl rfl
theorem dksX0_halvesBy_4 : cX0_halvesBy.data.toList.drop 96 = dktX0_halvesBy_4 := dk_seg dksX0_halvesBy_3 24 rfl rfl
theorem dksX0_halvesBy_5 : cX0_halvesBy.data.toList.drop 120 = dktX0_halvesBy_5 := dk_seg dksX0_halvesBy_4 24 rfl rfl
theorem dksX0_halvesBy_6 : cX0_halvesBy.data.toList.drop 143 = dktX0_halvesBy_6 := dk_seg dksX0_halvesBy_5 23 rfl rfl
theorem dX0_halvesBy_0 : decode cX0_halvesBy 0 = .ok (.lload_n 2, 1) := dk_32 (dk_at dksX0_halvesBy_0 0 rfl rfl)
theorem dX0_halvesBy_1 : decode cX0_halvesBy 1 = .ok (.lstore 6, 2) := dk_55 6 (dk_at dksX0_halvesBy_0 1 rfl rfl)
theorem dX0_halvesBy_3 : decode cX0_halvesBy 3 = .ok (.iconst 0, 1) := dk_3 (dk_at dksX0_halvesBy_0 3 rfl rfl)
theorem dX0_halvesBy_4 : decode cX0_halvesBy 4 = .ok (.istore 8, 2) := dk_54 8 (dk_at dksX0_halvesBy_0 4 rfl rfl)
theorem dX0_halvesBy_6 : decode cX0_halvesBy 6 = .ok (.iload 8, 2) := dk_21 8 (dk_at dksX0_halvesBy_0 6 rfl rfl)
theorem dX0_halvesBy_8 : decode cX0_halvesBy 8 = .ok (.aload_n 0, 1) := dk_42 (dk_at dksX0_halvesBy_0 8 rfl rfl)
theorem dX0_halvesBy_9 : decode cX0_halvesBy 9 = .ok (.getfield 10, 3) := dk_180 0 10 (dk_at dksX0_halvesBy_0 9 rfl rfl)
theorem dX0_halvesBy_12 : decode cX0_halvesBy 12 = .ok (.getfield 115, 3) := dk_180 0 115 (dk_at dksX0_halvesBy_0 12 rfl rfl)
theorem dX0_halvesBy_15 : decode cX0_halvesBy 15 = .ok (.if_icmp .ge 89, 3) := dk_162 0 89 (dk_at dksX0_halvesBy_0 15 rfl rfl)
theorem dX0_halvesBy_18 : decode cX0_halvesBy 18 = .ok (.iload_n 1, 1) := dk_27 (dk_at dksX0_halvesBy_0 18 rfl rfl)
theorem dX0_halvesBy_19 : decode cX0_halvesBy 19 = .ok (.iload 8, 2) := dk_21 8 (dk_at dksX0_halvesBy_0 19 rfl rfl)
theorem dX0_halvesBy_21 : decode cX0_halvesBy 21 = .ok (.invokestatic 256, 3) := dk_184 1 0 (dk_at dksX0_halvesBy_0 21 rfl rfl)
theorem dX0_halvesBy_24 : decode cX0_halvesBy 24 = .ok (.ifCond .eq 19, 3) := dk_153 0 19 (dk_at dksX0_halvesBy_1 0 rfl rfl)
theorem dX0_halvesBy_27 : decode cX0_halvesBy 27 = .ok (.aload_n 0, 1) := dk_42 (dk_at dksX0_halvesBy_1 3 rfl rfl)
theorem dX0_halvesBy_28 : decode cX0_halvesBy 28 = .ok (.getfield 10, 3) := dk_180 0 10 (dk_at dksX0_halvesBy_1 4 rfl rfl)
theorem dX0_halvesBy_31 : decode cX0_halvesBy 31 = .ok (.getfield 152, 3) := dk_180 0 152 (dk_at dksX0_halvesBy_1 7 rfl rfl)
theorem dX0_halvesBy_34 : decode cX0_halvesBy 34 = .ok (.iload 8, 2) := dk_21 8 (dk_at dksX0_halvesBy_1 10 rfl rfl)
theorem dX0_halvesBy_36 : decode cX0_halvesBy 36 = .ok (.iaload, 1) := dk_46 (dk_at dksX0_halvesBy_1 12 rfl rfl)
theorem dX0_halvesBy_37 : decode cX0_halvesBy 37 = .ok (.iload_n 1, 1) := dk_27 (dk_at dksX0_halvesBy_1 13 rfl rfl)
theorem dX0_halvesBy_38 : decode cX0_halvesBy 38 = .ok (.iand, 1) := dk_126 (dk_at dksX0_halvesBy_1 14 rfl rfl)
theorem dX0_halvesBy_39 : decode cX0_halvesBy 39 = .ok (.i2l, 1) := dk_133 (dk_at dksX0_halvesBy_1 15 rfl rfl)
theorem dX0_halvesBy_40 : decode cX0_halvesBy 40 = .ok (.goto 4, 3) := dk_167 0 4 (dk_at dksX0_halvesBy_1 16 rfl rfl)
theorem dX0_halvesBy_43 : decode cX0_halvesBy 43 = .ok (.lconst 0, 1) := dk_9 (dk_at dksX0_halvesBy_1 19 rfl rfl)
theorem dX0_halvesBy_44 : decode cX0_halvesBy 44 = .ok (.lstore 9, 2) := dk_55 9 (dk_at dksX0_halvesBy_1 20 rfl rfl)
theorem dX0_halvesBy_46 : decode cX0_halvesBy 46 = .ok (.lload 6, 2) := dk_22 6 (dk_at dksX0_halvesBy_1 22 rfl rfl)
theorem dX0_halvesBy_48 : decode cX0_halvesBy 48 = .ok (.lload 4, 2) := dk_22 4 (dk_at dksX0_halvesBy_2 0 rfl rfl)
theorem dX0_halvesBy_50 : decode cX0_halvesBy 50 = .ok (.iload 8, 2) := dk_21 8 (dk_at dksX0_halvesBy_2 2 rfl rfl)
theorem dX0_halvesBy_52 : decode cX0_halvesBy 52 = .ok (.lushr, 1) := dk_125 (dk_at dksX0_halvesBy_2 4 rfl rfl)
theorem dX0_halvesBy_53 : decode cX0_halvesBy 53 = .ok (.lconst 1, 1) := dk_10 (dk_at dksX0_halvesBy_2 5 rfl rfl)
theorem dX0_halvesBy_54 : decode cX0_halvesBy 54 = .ok (.land, 1) := dk_127 (dk_at dksX0_halvesBy_2 6 rfl rfl)
theorem dX0_halvesBy_55 : decode cX0_halvesBy 55 = .ok (.lconst 1, 1) := dk_10 (dk_at dksX0_halvesBy_2 7 rfl rfl)
theorem dX0_halvesBy_56 : decode cX0_halvesBy 56 = .ok (.lcmp, 1) := dk_148 (dk_at dksX0_halvesBy_2 8 rfl rfl)
theorem dX0_halvesBy_57 : decode cX0_halvesBy 57 = .ok (.ifCond .ne 11, 3) := dk_154 0 11 (dk_at dksX0_halvesBy_2 9 rfl rfl)
theorem dX0_halvesBy_60 : decode cX0_halvesBy 60 = .ok (.lload 9, 2) := dk_22 9 (dk_at dksX0_halvesBy_2 12 rfl rfl)
theorem dX0_halvesBy_62 : decode cX0_halvesBy 62 = .ok (.bipush 16, 2) := dk_16 16 (dk_at dksX0_halvesBy_2 14 rfl rfl)
theorem dX0_halvesBy_64 : decode cX0_halvesBy 64 = .ok (.lshl, 1) := dk_121 (dk_at dksX0_halvesBy_2 16 rfl rfl)
theorem dX0_halvesBy_65 : decode cX0_halvesBy 65 = .ok (.goto 4, 3) := dk_167 0 4 (dk_at dksX0_halvesBy_2 17 rfl rfl)
theorem dX0_halvesBy_68 : decode cX0_halvesBy 68 = .ok (.lconst 0, 1) := dk_9 (dk_at dksX0_halvesBy_2 20 rfl rfl)
theorem dX0_halvesBy_69 : decode cX0_halvesBy 69 = .ok (.lor, 1) := dk_129 (dk_at dksX0_halvesBy_2 21 rfl rfl)
theorem dX0_halvesBy_70 : decode cX0_halvesBy 70 = .ok (.lstore 6, 2) := dk_55 6 (dk_at dksX0_halvesBy_2 22 rfl rfl)
theorem dX0_halvesBy_72 : decode cX0_halvesBy 72 = .ok (.lload 6, 2) := dk_22 6 (dk_at dksX0_halvesBy_3 0 rfl rfl)
theorem dX0_halvesBy_74 : decode cX0_halvesBy 74 = .ok (.lload 4, 2) := dk_22 4 (dk_at dksX0_halvesBy_3 2 rfl rfl)
theorem dX0_halvesBy_76 : decode cX0_halvesBy 76 = .ok (.bipush 16, 2) := dk_16 16 (dk_at dksX0_halvesBy_3 4 rfl rfl)
theorem dX0_halvesBy_78 : decode cX0_halvesBy 78 = .ok (.iload 8, 2) := dk_21 8 (dk_at dksX0_halvesBy_3 6 rfl rfl)
theorem dX0_halvesBy_80 : decode cX0_halvesBy 80 = .ok (.iadd, 1) := dk_96 (dk_at dksX0_halvesBy_3 8 rfl rfl)
theorem dX0_halvesBy_81 : decode cX0_halvesBy 81 = .ok (.lushr, 1) := dk_125 (dk_at dksX0_halvesBy_3 9 rfl rfl)
theorem dX0_halvesBy_82 : decode cX0_halvesBy 82 = .ok (.lconst 1, 1) := dk_10 (dk_at dksX0_halvesBy_3 10 rfl rfl)
theorem dX0_halvesBy_83 : decode cX0_halvesBy 83 = .ok (.land, 1) := dk_127 (dk_at dksX0_halvesBy_3 11 rfl rfl)
theorem dX0_halvesBy_84 : decode cX0_halvesBy 84 = .ok (.lconst 1, 1) := dk_10 (dk_at dksX0_halvesBy_3 12 rfl rfl)
theorem dX0_halvesBy_85 : decode cX0_halvesBy 85 = .ok (.lcmp, 1) := dk_148 (dk_at dksX0_halvesBy_3 13 rfl rfl)
theorem dX0_halvesBy_86 : decode cX0_halvesBy 86 = .ok (.ifCond .ne 8, 3) := dk_154 0 8 (dk_at dksX0_halvesBy_3 14 rfl rfl)
theorem dX0_halvesBy_89 : decode cX0_halvesBy 89 = .ok (.lload 9, 2) := dk_22 9 (dk_at dksX0_halvesBy_3 17 rfl rfl)
theorem dX0_halvesBy_91 : decode cX0_halvesBy 91 = .ok (.goto 4, 3) := dk_167 0 4 (dk_at dksX0_halvesBy_3 19 rfl rfl)
theorem dX0_halvesBy_94 : decode cX0_halvesBy 94 = .ok (.lconst 0, 1) := dk_9 (dk_at dksX0_halvesBy_3 22 rfl rfl)
theorem dX0_halvesBy_95 : decode cX0_halvesBy 95 = .ok (.lor, 1) := dk_129 (dk_at dksX0_halvesBy_3 23 rfl rfl)
theorem dX0_halvesBy_96 : decode cX0_halvesBy 96 = .ok (.lstore 6, 2) := dk_55 6 (dk_at dksX0_halvesBy_4 0 rfl rfl)
theorem dX0_halvesBy_98 : decode cX0_halvesBy 98 = .ok (.iinc 8 1, 3) := dk_132 8 1 (dk_at dksX0_halvesBy_4 2 rfl rfl)
theorem dX0_halvesBy_101 : decode cX0_halvesBy 101 = .ok (.goto (-95), 3) := dk_167 255 161 (dk_at dksX0_halvesBy_4 5 rfl rfl)
theorem dX0_halvesBy_104 : decode cX0_halvesBy 104 = .ok (.lload 6, 2) := dk_22 6 (dk_at dksX0_halvesBy_4 8 rfl rfl)
theorem dX0_halvesBy_106 : decode cX0_halvesBy 106 = .ok (.lload 4, 2) := dk_22 4 (dk_at dksX0_halvesBy_4 10 rfl rfl)
theorem dX0_halvesBy_108 : decode cX0_halvesBy 108 = .ok (.land, 1) := dk_127 (dk_at dksX0_halvesBy_4 12 rfl rfl)
theorem dX0_halvesBy_109 : decode cX0_halvesBy 109 = .ok (.lconst 0, 1) := dk_9 (dk_at dksX0_halvesBy_4 13 rfl rfl)
theorem dX0_halvesBy_110 : decode cX0_halvesBy 110 = .ok (.lcmp, 1) := dk_148 (dk_at dksX0_halvesBy_4 14 rfl rfl)
theorem dX0_halvesBy_111 : decode cX0_halvesBy 111 = .ok (.ifCond .eq 7, 3) := dk_153 0 7 (dk_at dksX0_halvesBy_4 15 rfl rfl)
theorem dX0_halvesBy_114 : decode cX0_halvesBy 114 = .ok (.sipush 1000, 3) := dk_17 3 232 (dk_at dksX0_halvesBy_4 18 rfl rfl)
theorem dX0_halvesBy_117 : decode cX0_halvesBy 117 = .ok (.ireturn, 1) := dk_172 (dk_at dksX0_halvesBy_4 21 rfl rfl)
theorem dX0_halvesBy_118 : decode cX0_halvesBy 118 = .ok (.lload 6, 2) := dk_22 6 (dk_at dksX0_halvesBy_4 22 rfl rfl)
theorem dX0_halvesBy_120 : decode cX0_halvesBy 120 = .ok (.lload 4, 2) := dk_22 4 (dk_at dksX0_halvesBy_5 0 rfl rfl)
theorem dX0_halvesBy_122 : decode cX0_halvesBy 122 = .ok (.lor, 1) := dk_129 (dk_at dksX0_halvesBy_5 2 rfl rfl)
theorem dX0_halvesBy_123 : decode cX0_halvesBy 123 = .ok (.ldc2_w 293, 3) := dk_20 1 37 (dk_at dksX0_halvesBy_5 3 rfl rfl)
theorem dX0_halvesBy_126 : decode cX0_halvesBy 126 = .ok (.lxor, 1) := dk_131 (dk_at dksX0_halvesBy_5 6 rfl rfl)
theorem dX0_halvesBy_127 : decode cX0_halvesBy 127 = .ok (.lstore 8, 2) := dk_55 8 (dk_at dksX0_halvesBy_5 7 rfl rfl)
theorem dX0_halvesBy_129 : decode cX0_halvesBy 129 = .ok (.lload 6, 2) := dk_22 6 (dk_at dksX0_halvesBy_5 9 rfl rfl)
theorem dX0_halvesBy_131 : decode cX0_halvesBy 131 = .ok (.invokestatic 295, 3) := dk_184 1 39 (dk_at dksX0_halvesBy_5 11 rfl rfl)
theorem dX0_halvesBy_134 : decode cX0_halvesBy 134 = .ok (.aload_n 0, 1) := dk_42 (dk_at dksX0_halvesBy_5 14 rfl rfl)
theorem dX0_halvesBy_135 : decode cX0_halvesBy 135 = .ok (.lload 8, 2) := dk_22 8 (dk_at dksX0_halvesBy_5 15 rfl rfl)
theorem dX0_halvesBy_137 : decode cX0_halvesBy 137 = .ok (.iload_n 1, 1) := dk_27 (dk_at dksX0_halvesBy_5 17 rfl rfl)
theorem dX0_halvesBy_138 : decode cX0_halvesBy 138 = .ok (.i2l, 1) := dk_133 (dk_at dksX0_halvesBy_5 18 rfl rfl)
theorem dX0_halvesBy_139 : decode cX0_halvesBy 139 = .ok (.land, 1) := dk_127 (dk_at dksX0_halvesBy_5 19 rfl rfl)
theorem dX0_halvesBy_140 : decode cX0_halvesBy 140 = .ok (.l2i, 1) := dk_136 (dk_at dksX0_halvesBy_5 20 rfl rfl)
theorem dX0_halvesBy_141 : decode cX0_halvesBy 141 = .ok (.lload 8, 2) := dk_22 8 (dk_at dksX0_halvesBy_5 21 rfl rfl)
theorem dX0_halvesBy_143 : decode cX0_halvesBy 143 = .ok (.bipush 16, 2) := dk_16 16 (dk_at dksX0_halvesBy_6 0 rfl rfl)
theorem dX0_halvesBy_145 : decode cX0_halvesBy 145 = .ok (.lushr, 1) := dk_125 (dk_at dksX0_halvesBy_6 2 rfl rfl)
theorem dX0_halvesBy_146 : decode cX0_halvesBy 146 = .ok (.iload_n 1, 1) := dk_27 (dk_at dksX0_halvesBy_6 3 rfl rfl)
theorem dX0_halvesBy_147 : decode cX0_halvesBy 147 = .ok (.i2l, 1) := dk_133 (dk_at dksX0_halvesBy_6 4 rfl rfl)
theorem dX0_halvesBy_148 : decode cX0_halvesBy 148 = .ok (.land, 1) := dk_127 (dk_at dksX0_halvesBy_6 5 rfl rfl)
theorem dX0_halvesBy_149 : decode cX0_halvesBy 149 = .ok (.l2i, 1) := dk_136 (dk_at dksX0_halvesBy_6 6 rfl rfl)
theorem dX0_halvesBy_150 : decode cX0_halvesBy 150 = .ok (.invokevirtual 300, 3) := dk_182 1 44 (dk_at dksX0_halvesBy_6 7 rfl rfl)
theorem dX0_halvesBy_153 : decode cX0_halvesBy 153 = .ok (.iadd, 1) := dk_96 (dk_at dksX0_halvesBy_6 10 rfl rfl)
theorem dX0_halvesBy_154 : decode cX0_halvesBy 154 = .ok (.ireturn, 1) := dk_172 (dk_at dksX0_halvesBy_6 11 rfl rfl)
abbrev cX0_paired : ByteArray := prog_1_method_31_code
def yX0_paired : MethodName := ⟨RX0, "paired", "(II)I"⟩
def dkwX0_paired_3 : List UInt8 := [96, 62, 132, 4, 1, 167, 255, 209, 29, 172]
abbrev dktX0_paired_3 : List UInt8 := dkwX0_paired_3 ++ []
def dkwX0_paired_2 : List UInt8 := [27, 21, 4, 184, 1, 0, 153, 0, 17, 42, 21, 4, 28, 182, 1, 34, 153, 0, 7, 4, 167, 0, 4, 3]
abbrev dktX0_paired_2 : List UInt8 := dkwX0_paired_2 ++ dktX0_paired_3
def dkwX0_paired_1 : List UInt8 := [167, 255, 238, 3, 54, 4, 21, 4, 42, 180, 0, 10, 180, 0, 115, 162, 0, 41, 42, 3, 181, 1, 28, 29]
abbrev dktX0_paired_1 : List UInt8 := dkwX0_paired_1 ++ dktX0_paired_2
def dkwX0_paired_0 : List UInt8 := [3, 62, 3, 54, 4, 21, 4, 16, 12, 162, 0, 17, 42, 180, 0, 22, 21, 4, 2, 79, 132, 4, 1]
abbrev dktX0_paired_0 : List UInt8 := dkwX0_paired_0 ++ dktX0_paired_1
theorem dksX0_paired_0 : cX0_paired.data.toList.drop 0 = dktX0_paired_0 := by decide +kernel
theorem dksX0_paired_1 : cX0_paired.data.toList.drop 23 = dktX0_paired_1 := dk_seg dksX0_paired_0 23 rfl rfl
theorem dksX0_paired_2 : cX0_paired.data.toList.drop 47 = dktX0_paired_2 := dk_seg dksX0_paired_1 24 rfl rfl
theorem dksX0_paired_3 : cX0_paired.data.toList.drop 71 = dktX0_paired_3 := dk_seg dksX0_paired_2 24 rfl rfl
theorem dX0_paired_0 : decode cX0_paired 0 = .ok (.iconst 0, 1) := dk_3 (dk_at dksX0_paired_0 0 rfl rfl)
theorem dX0_paired_1 : decode cX0_paired 1 = .ok (.istore_n 3, 1) := dk_62 (dk_at dksX0_paired_0 1 rfl rfl)
theorem dX0_paired_2 : decode cX0_paired 2 = .ok (.iconst 0, 1) := dk_3 (dk_at dksX0_paired_0 2 rfl rfl)
theorem dX0_paired_3 : decode cX0_paired 3 = .ok (.istore 4, 2) := dk_54 4 (dk_at dksX0_paired_0 3 rfl rfl)
theorem dX0_paired_5 : decode cX0_paired 5 = .ok (.iload 4, 2) := dk_21 4 (dk_at dksX0_paired_0 5 rfl rfl)
theorem dX0_paired_7 : decode cX0_paired 7 = .ok (.bipush 12, 2) := dk_16 12 (dk_at dksX0_paired_0 7 rfl rfl)
theorem dX0_paired_9 : decode cX0_paired 9 = .ok (.if_icmp .ge 17, 3) := dk_162 0 17 (dk_at dksX0_paired_0 9 rfl rfl)
theorem dX0_paired_12 : decode cX0_paired 12 = .ok (.aload_n 0, 1) := dk_42 (dk_at dksX0_paired_0 12 rfl rfl)
theorem dX0_paired_13 : decode cX0_paired 13 = .ok (.getfield 22, 3) := dk_180 0 22 (dk_at dksX0_paired_0 13 rfl rfl)
theorem dX0_paired_16 : decode cX0_paired 16 = .ok (.iload 4, 2) := dk_21 4 (dk_at dksX0_paired_0 16 rfl rfl)
theorem dX0_paired_18 : decode cX0_paired 18 = .ok (.iconst (-1), 1) := dk_2 (dk_at dksX0_paired_0 18 rfl rfl)
theorem dX0_paired_19 : decode cX0_paired 19 = .ok (.iastore, 1) := dk_79 (dk_at dksX0_paired_0 19 rfl rfl)
theorem dX0_paired_20 : decode cX0_paired 20 = .ok (.iinc 4 1, 3) := dk_132 4 1 (dk_at dksX0_paired_0 20 rfl rfl)
theorem dX0_paired_23 : decode cX0_paired 23 = .ok (.goto (-18), 3) := dk_167 255 238 (dk_at dksX0_paired_1 0 rfl rfl)
theorem dX0_paired_26 : decode cX0_paired 26 = .ok (.iconst 0, 1) := dk_3 (dk_at dksX0_paired_1 3 rfl rfl)
theorem dX0_paired_27 : decode cX0_paired 27 = .ok (.istore 4, 2) := dk_54 4 (dk_at dksX0_paired_1 4 rfl rfl)
theorem dX0_paired_29 : decode cX0_paired 29 = .ok (.iload 4, 2) := dk_21 4 (dk_at dksX0_paired_1 6 rfl rfl)
theorem dX0_paired_31 : decode cX0_paired 31 = .ok (.aload_n 0, 1) := dk_42 (dk_at dksX0_paired_1 8 rfl rfl)
theorem dX0_paired_32 : decode cX0_paired 32 = .ok (.getfield 10, 3) := dk_180 0 10 (dk_at dksX0_paired_1 9 rfl rfl)
theorem dX0_paired_35 : decode cX0_paired 35 = .ok (.getfield 115, 3) := dk_180 0 115 (dk_at dksX0_paired_1 12 rfl rfl)
theorem dX0_paired_38 : decode cX0_paired 38 = .ok (.if_icmp .ge 41, 3) := dk_162 0 41 (dk_at dksX0_paired_1 15 rfl rfl)
theorem dX0_paired_41 : decode cX0_paired 41 = .ok (.aload_n 0, 1) := dk_42 (dk_at dksX0_paired_1 18 rfl rfl)
theorem dX0_paired_42 : decode cX0_paired 42 = .ok (.iconst 0, 1) := dk_3 (dk_at dksX0_paired_1 19 rfl rfl)
theorem dX0_paired_43 : decode cX0_paired 43 = .ok (.putfield 284, 3) := dk_181 1 28 (dk_at dksX0_paired_1 20 rfl rfl)
theorem dX0_paired_46 : decode cX0_paired 46 = .ok (.iload_n 3, 1) := dk_29 (dk_at dksX0_paired_1 23 rfl rfl)
theorem dX0_paired_47 : decode cX0_paired 47 = .ok (.iload_n 1, 1) := dk_27 (dk_at dksX0_paired_2 0 rfl rfl)
theorem dX0_paired_48 : decode cX0_paired 48 = .ok (.iload 4, 2) := dk_21 4 (dk_at dksX0_paired_2 1 rfl rfl)
theorem dX0_paired_50 : decode cX0_paired 50 = .ok (.invokestatic 256, 3) := dk_184 1 0 (dk_at dksX0_paired_2 3 rfl rfl)
theorem dX0_paired_53 : decode cX0_paired 53 = .ok (.ifCond .eq 17, 3) := dk_153 0 17 (dk_at dksX0_paired_2 6 rfl rfl)
theorem dX0_paired_56 : decode cX0_paired 56 = .ok (.aload_n 0, 1) := dk_42 (dk_at dksX0_paired_2 9 rfl rfl)
theorem dX0_paired_57 : decode cX0_paired 57 = .ok (.iload 4, 2) := dk_21 4 (dk_at dksX0_paired_2 10 rfl rfl)
theorem dX0_paired_59 : decode cX0_paired 59 = .ok (.iload_n 2, 1) := dk_28 (dk_at dksX0_paired_2 12 rfl rfl)
theorem dX0_paired_60 : decode cX0_paired 60 = .ok (.invokevirtual 290, 3) := dk_182 1 34 (dk_at dksX0_paired_2 13 rfl rfl)
theorem dX0_paired_63 : decode cX0_paired 63 = .ok (.ifCond .eq 7, 3) := dk_153 0 7 (dk_at dksX0_paired_2 16 rfl rfl)
theorem dX0_paired_66 : decode cX0_paired 66 = .ok (.iconst 1, 1) := dk_4 (dk_at dksX0_paired_2 19 rfl rfl)
theorem dX0_paired_67 : decode cX0_paired 67 = .ok (.goto 4, 3) := dk_167 0 4 (dk_at dksX0_paired_2 20 rfl rfl)
theorem dX0_paired_70 : decode cX0_paired 70 = .ok (.iconst 0, 1) := dk_3 (dk_at dksX0_paired_2 23 rfl rfl)
theorem dX0_paired_71 : decode cX0_paired 71 = .ok (.iadd, 1) := dk_96 (dk_at dksX0_paired_3 0 rfl rfl)
theorem dX0_paired_72 : decode cX0_paired 72 = .ok (.istore_n 3, 1) := dk_62 (dk_at dksX0_paired_3 1 rfl rfl)
theorem dX0_paired_73 : decode cX0_paired 73 = .ok (.iinc 4 1, 3) := dk_132 4 1 (dk_at dksX0_paired_3 2 rfl rfl)
theorem dX0_paired_76 : decode cX0_paired 76 = .ok (.goto (-47), 3) := dk_167 255 209 (dk_at dksX0_paired_3 5 rfl rfl)
theorem dX0_paired_79 : decode cX0_paired 79 = .ok (.iload_n 3, 1) := dk_29 (dk_at dksX0_paired_3 8 rfl rfl)
theorem dX0_paired_80 : decode cX0_paired 80 = .ok (.ireturn, 1) := dk_172 (dk_at dksX0_paired_3 9 rfl rfl)
abbrev cX0_pairs : ByteArray := prog_1_method_30_code
def yX0_pairs : MethodName := ⟨RX0, "pairs", "(II)Z"⟩
def dkwX0_pairs_4 : List UInt8 := [3, 172]
abbrev dktX0_pairs_4 : List UInt8 := dkwX0_pairs_4 ++ []
def dkwX0_pairs_3 : List UInt8 := [180, 0, 22, 29, 46, 28, 182, 1, 34, 153, 0, 12, 42, 180, 0, 22, 29, 27, 79, 4, 172, 167, 255, 168]
abbrev dktX0_pairs_3 : List UInt8 := dkwX0_pairs_3 ++ dktX0_pairs_4
def dkwX0_pairs_2 : List UInt8 := [180, 1, 28, 4, 29, 120, 128, 181, 1, 28, 42, 180, 0, 22, 29, 46, 2, 159, 0, 17, 42, 42]
abbrev dktX0_pairs_2 : List UInt8 := dkwX0_pairs_2 ++ dktX0_pairs_3
def dkwX0_pairs_1 : List UInt8 := [180, 0, 10, 180, 0, 152, 27, 46, 28, 126, 42, 180, 1, 28, 2, 130, 126, 184, 1, 31, 62, 42, 89]
abbrev dktX0_pairs_1 : List UInt8 := dkwX0_pairs_1 ++ dktX0_pairs_2
def dkwX0_pairs_0 : List UInt8 := [42, 180, 0, 10, 180, 0, 152, 27, 46, 28, 126, 42, 180, 1, 28, 2, 130, 126, 153, 0, 73, 42]
abbrev dktX0_pairs_0 : List UInt8 := dkwX0_pairs_0 ++ dktX0_pairs_1
theorem dksX0_pairs_0 : cX0_pairs.data.toList.drop 0 = dktX0_pairs_0 := by decide +kernel
theorem dksX0_pairs_1 : cX0_pairs.data.toList.drop 22 = dktX0_pairs_1 := dk_seg dksX0_pairs_0 22 rfl rfl
theorem dksX0_pairs_2 : cX0_pairs.data.toList.drop 45 = dktX0_pairs_2 := dk_seg dksX0_pairs_1 23 rfl rfl
theorem dksX0_pairs_3 : cX0_pairs.data.toList.drop 67 = dktX0_pairs_3 := dk_seg dksX0_pairs_2 22 rfl rfl
theorem dksX0_pairs_4 : cX0_pairs.data.toList.drop 91 = dktX0_pairs_4 := dk_seg dksX0_pairs_3 24 rfl rfl
theorem dX0_pairs_0 : decode cX0_pairs 0 = .ok (.aload_n 0, 1) := dk_42 (dk_at dksX0_pairs_0 0 rfl rfl)
theorem dX0_pairs_1 : decode cX0_pairs 1 = .ok (.getfield 10, 3) := dk_180 0 10 (dk_at dksX0_pairs_0 1 rfl rfl)
theorem dX0_pairs_4 : decode cX0_pairs 4 = .ok (.getfield 152, 3) := dk_180 0 152 (dk_at dksX0_pairs_0 4 rfl rfl)
theorem dX0_pairs_7 : decode cX0_pairs 7 = .ok (.iload_n 1, 1) := dk_27 (dk_at dksX0_pairs_0 7 rfl rfl)
theorem dX0_pairs_8 : decode cX0_pairs 8 = .ok (.iaload, 1) := dk_46 (dk_at dksX0_pairs_0 8 rfl rfl)
theorem dX0_pairs_9 : decode cX0_pairs 9 = .ok (.iload_n 2, 1) := dk_28 (dk_at dksX0_pairs_0 9 rfl rfl)
theorem dX0_pairs_10 : decode cX0_pairs 10 = .ok (.iand, 1) := dk_126 (dk_at dksX0_pairs_0 10 rfl rfl)
theorem dX0_pairs_11 : decode cX0_pairs 11 = .ok (.aload_n 0, 1) := dk_42 (dk_at dksX0_pairs_0 11 rfl rfl)
theorem dX0_pairs_12 : decode cX0_pairs 12 = .ok (.getfield 284, 3) := dk_180 1 28 (dk_at dksX0_pairs_0 12 rfl rfl)
theorem dX0_pairs_15 : decode cX0_pairs 15 = .ok (.iconst (-1), 1) := dk_2 (dk_at dksX0_pairs_0 15 rfl rfl)
theorem dX0_pairs_16 : decode cX0_pairs 16 = .ok (.ixor, 1) := dk_130 (dk_at dksX0_pairs_0 16 rfl rfl)
theorem dX0_pairs_17 : decode cX0_pairs 17 = .ok (.iand, 1) := dk_126 (dk_at dksX0_pairs_0 17 rfl rfl)
theorem dX0_pairs_18 : decode cX0_pairs 18 = .ok (.ifCond .eq 73, 3) := dk_153 0 73 (dk_at dksX0_pairs_0 18 rfl rfl)
theorem dX0_pairs_21 : decode cX0_pairs 21 = .ok (.aload_n 0, 1) := dk_42 (dk_at dksX0_pairs_0 21 rfl rfl)
theorem dX0_pairs_22 : decode cX0_pairs 22 = .ok (.getfield 10, 3) := dk_180 0 10 (dk_at dksX0_pairs_1 0 rfl rfl)
theorem dX0_pairs_25 : decode cX0_pairs 25 = .ok (.getfield 152, 3) := dk_180 0 152 (dk_at dksX0_pairs_1 3 rfl rfl)
theorem dX0_pairs_28 : decode cX0_pairs 28 = .ok (.iload_n 1, 1) := dk_27 (dk_at dksX0_pairs_1 6 rfl rfl)
theorem dX0_pairs_29 : decode cX0_pairs 29 = .ok (.iaload, 1) := dk_46 (dk_at dksX0_pairs_1 7 rfl rfl)
theorem dX0_pairs_30 : decode cX0_pairs 30 = .ok (.iload_n 2, 1) := dk_28 (dk_at dksX0_pairs_1 8 rfl rfl)
theorem dX0_pairs_31 : decode cX0_pairs 31 = .ok (.iand, 1) := dk_126 (dk_at dksX0_pairs_1 9 rfl rfl)
theorem dX0_pairs_32 : decode cX0_pairs 32 = .ok (.aload_n 0, 1) := dk_42 (dk_at dksX0_pairs_1 10 rfl rfl)
theorem dX0_pairs_33 : decode cX0_pairs 33 = .ok (.getfield 284, 3) := dk_180 1 28 (dk_at dksX0_pairs_1 11 rfl rfl)
theorem dX0_pairs_36 : decode cX0_pairs 36 = .ok (.iconst (-1), 1) := dk_2 (dk_at dksX0_pairs_1 14 rfl rfl)
theorem dX0_pairs_37 : decode cX0_pairs 37 = .ok (.ixor, 1) := dk_130 (dk_at dksX0_pairs_1 15 rfl rfl)
theorem dX0_pairs_38 : decode cX0_pairs 38 = .ok (.iand, 1) := dk_126 (dk_at dksX0_pairs_1 16 rfl rfl)
theorem dX0_pairs_39 : decode cX0_pairs 39 = .ok (.invokestatic 287, 3) := dk_184 1 31 (dk_at dksX0_pairs_1 17 rfl rfl)
theorem dX0_pairs_42 : decode cX0_pairs 42 = .ok (.istore_n 3, 1) := dk_62 (dk_at dksX0_pairs_1 20 rfl rfl)
theorem dX0_pairs_43 : decode cX0_pairs 43 = .ok (.aload_n 0, 1) := dk_42 (dk_at dksX0_pairs_1 21 rfl rfl)
theorem dX0_pairs_44 : decode cX0_pairs 44 = .ok (.dup, 1) := dk_89 (dk_at dksX0_pairs_1 22 rfl rfl)
theorem dX0_pairs_45 : decode cX0_pairs 45 = .ok (.getfield 284, 3) := dk_180 1 28 (dk_at dksX0_pairs_2 0 rfl rfl)
theorem dX0_pairs_48 : decode cX0_pairs 48 = .ok (.iconst 1, 1) := dk_4 (dk_at dksX0_pairs_2 3 rfl rfl)
theorem dX0_pairs_49 : decode cX0_pairs 49 = .ok (.iload_n 3, 1) := dk_29 (dk_at dksX0_pairs_2 4 rfl rfl)
theorem dX0_pairs_50 : decode cX0_pairs 50 = .ok (.ishl, 1) := dk_120 (dk_at dksX0_pairs_2 5 rfl rfl)
theorem dX0_pairs_51 : decode cX0_pairs 51 = .ok (.ior, 1) := dk_128 (dk_at dksX0_pairs_2 6 rfl rfl)
theorem dX0_pairs_52 : decode cX0_pairs 52 = .ok (.putfield 284, 3) := dk_181 1 28 (dk_at dksX0_pairs_2 7 rfl rfl)
theorem dX0_pairs_55 : decode cX0_pairs 55 = .ok (.aload_n 0, 1) := dk_42 (dk_at dksX0_pairs_2 10 rfl rfl)
theorem dX0_pairs_56 : decode cX0_pairs 56 = .ok (.getfield 22, 3) := dk_180 0 22 (dk_at dksX0_pairs_2 11 rfl rfl)
theorem dX0_pairs_59 : decode cX0_pairs 59 = .ok (.iload_n 3, 1) := dk_29 (dk_at dksX0_pairs_2 14 rfl rfl)
theorem dX0_pairs_60 : decode cX0_pairs 60 = .ok (.iaload, 1) := dk_46 (dk_at dksX0_pairs_2 15 rfl rfl)
theorem dX0_pairs_61 : decode cX0_pairs 61 = .ok (.iconst (-1), 1) := dk_2 (dk_at dksX0_pairs_2 16 rfl rfl)
theorem dX0_pairs_62 : decode cX0_pairs 62 = .ok (.if_icmp .eq 17, 3) := dk_159 0 17 (dk_at dksX0_pairs_2 17 rfl rfl)
theorem dX0_pairs_65 : decode cX0_pairs 65 = .ok (.aload_n 0, 1) := dk_42 (dk_at dksX0_pairs_2 20 rfl rfl)
theorem dX0_pairs_66 : decode cX0_pairs 66 = .ok (.aload_n 0, 1) := dk_42 (dk_at dksX0_pairs_2 21 rfl rfl)
theorem dX0_pairs_67 : decode cX0_pairs 67 = .ok (.getfield 22, 3) := dk_180 0 22 (dk_at dksX0_pairs_3 0 rfl rfl)
theorem dX0_pairs_70 : decode cX0_pairs 70 = .ok (.iload_n 3, 1) := dk_29 (dk_at dksX0_pairs_3 3 rfl rfl)
theorem dX0_pairs_71 : decode cX0_pairs 71 = .ok (.iaload, 1) := dk_46 (dk_at dksX0_pairs_3 4 rfl rfl)
theorem dX0_pairs_72 : decode cX0_pairs 72 = .ok (.iload_n 2, 1) := dk_28 (dk_at dksX0_pairs_3 5 rfl rfl)
theorem dX0_pairs_73 : decode cX0_pairs 73 = .ok (.invokevirtual 290, 3) := dk_182 1 34 (dk_at dksX0_pairs_3 6 rfl rfl)
theorem dX0_pairs_76 : decode cX0_pairs 76 = .ok (.ifCond .eq 12, 3) := dk_153 0 12 (dk_at dksX0_pairs_3 9 rfl rfl)
theorem dX0_pairs_79 : decode cX0_pairs 79 = .ok (.aload_n 0, 1) := dk_42 (dk_at dksX0_pairs_3 12 rfl rfl)
theorem dX0_pairs_80 : decode cX0_pairs 80 = .ok (.getfield 22, 3) := dk_180 0 22 (dk_at dksX0_pairs_3 13 rfl rfl)
theorem dX0_pairs_83 : decode cX0_pairs 83 = .ok (.iload_n 3, 1) := dk_29 (dk_at dksX0_pairs_3 16 rfl rfl)
theorem dX0_pairs_84 : decode cX0_pairs 84 = .ok (.iload_n 1, 1) := dk_27 (dk_at dksX0_pairs_3 17 rfl rfl)
theorem dX0_pairs_85 : decode cX0_pairs 85 = .ok (.iastore, 1) := dk_79 (dk_at dksX0_pairs_3 18 rfl rfl)
theorem dX0_pairs_86 : decode cX0_pairs 86 = .ok (.iconst 1, 1) := dk_4 (dk_at dksX0_pairs_3 19 rfl rfl)
theorem dX0_pairs_87 : decode cX0_pairs 87 = .ok (.ireturn, 1) := dk_172 (dk_at dksX0_pairs_3 20 rfl rfl)
theorem dX0_pairs_88 : decode cX0_pairs 88 = .ok (.goto (-88), 3) := dk_167 255 168 (dk_at dksX0_pairs_3 21 rfl rfl)
theorem dX0_pairs_91 : decode cX0_pairs 91 = .ok (.iconst 0, 1) := dk_3 (dk_at dksX0_pairs_4 0 rfl rfl)
theorem dX0_pairs_92 : decode cX0_pairs 92 = .ok (.ireturn, 1) := dk_172 (dk_at dksX0_pairs_4 1 rfl rfl)
abbrev cX0_leastOf : ByteArray := prog_1_method_5_code
def yX0_leastOf : MethodName := ⟨RX0, "leastOf", "(I)I"⟩
theorem dX0_leastOf_0 : decode cX0_leastOf 0 = .ok (.iload_n 0, 1) := by decide +kernel
theorem dX0_leastOf_1 : decode cX0_leastOf 1 = .ok (.invokestatic 88, 3) := by decide +kernel
theorem dX0_leastOf_4 : decode cX0_leastOf 4 = .ok (.ireturn, 1) := by decide +kernel
abbrev cX0_order : ByteArray := prog_1_method_27_code
def yX0_order : MethodName := ⟨RX0, "order", "(I)I"⟩
def dkwX0_order_0 : List UInt8 := [26, 154, 0, 7, 3, 167, 0, 6, 6, 26, 100, 172]
abbrev dktX0_order_0 : List UInt8 := dkwX0_order_0 ++ []
theorem dksX0_order_0 : cX0_order.data.toList.drop 0 = dktX0_order_0 := by decide +kernel
theorem dX0_order_0 : decode cX0_order 0 = .ok (.iload_n 0, 1) := dk_26 (dk_at dksX0_order_0 0 rfl rfl)
theorem dX0_order_1 : decode cX0_order 1 = .ok (.ifCond .ne 7, 3) := dk_154 0 7 (dk_at dksX0_order_0 1 rfl rfl)
theorem dX0_order_4 : decode cX0_order 4 = .ok (.iconst 0, 1) := dk_3 (dk_at dksX0_order_0 4 rfl rfl)
theorem dX0_order_5 : decode cX0_order 5 = .ok (.goto 6, 3) := dk_167 0 6 (dk_at dksX0_order_0 5 rfl rfl)
theorem dX0_order_8 : decode cX0_order 8 = .ok (.iconst 3, 1) := dk_6 (dk_at dksX0_order_0 8 rfl rfl)
theorem dX0_order_9 : decode cX0_order 9 = .ok (.iload_n 0, 1) := dk_26 (dk_at dksX0_order_0 9 rfl rfl)
theorem dX0_order_10 : decode cX0_order 10 = .ok (.isub, 1) := dk_100 (dk_at dksX0_order_0 10 rfl rfl)
theorem dX0_order_11 : decode cX0_order 11 = .ok (.ireturn, 1) := dk_172 (dk_at dksX0_order_0 11 rfl rfl)
abbrev cX0_inBy : ByteArray := prog_1_method_28_code
def yX0_inBy : MethodName := ⟨RX0, "inBy", "(II)J"⟩
def dkwX0_inBy_1 : List UInt8 := [16, 16, 26, 96, 121, 129, 173]
abbrev dktX0_inBy_1 : List UInt8 := dkwX0_inBy_1 ++ []
def dkwX0_inBy_0 : List UInt8 := [27, 154, 0, 7, 9, 167, 0, 24, 27, 4, 160, 0, 9, 10, 26, 121, 167, 0, 13, 10, 26, 121, 10]
abbrev dktX0_inBy_0 : List UInt8 := dkwX0_inBy_0 ++ dktX0_inBy_1
theorem dksX0_inBy_0 : cX0_inBy.data.toList.drop 0 = dktX0_inBy_0 := by decide +kernel
theorem dksX0_inBy_1 : cX0_inBy.data.toList.drop 23 = dktX0_inBy_1 := dk_seg dksX0_inBy_0 23 rfl rfl
theorem dX0_inBy_0 : decode cX0_inBy 0 = .ok (.iload_n 1, 1) := dk_27 (dk_at dksX0_inBy_0 0 rfl rfl)
theorem dX0_inBy_1 : decode cX0_inBy 1 = .ok (.ifCond .ne 7, 3) := dk_154 0 7 (dk_at dksX0_inBy_0 1 rfl rfl)
theorem dX0_inBy_4 : decode cX0_inBy 4 = .ok (.lconst 0, 1) := dk_9 (dk_at dksX0_inBy_0 4 rfl rfl)
theorem dX0_inBy_5 : decode cX0_inBy 5 = .ok (.goto 24, 3) := dk_167 0 24 (dk_at dksX0_inBy_0 5 rfl rfl)
theorem dX0_inBy_8 : decode cX0_inBy 8 = .ok (.iload_n 1, 1) := dk_27 (dk_at dksX0_inBy_0 8 rfl rfl)
theorem dX0_inBy_9 : decode cX0_inBy 9 = .ok (.iconst 1, 1) := dk_4 (dk_at dksX0_inBy_0 9 rfl rfl)
theorem dX0_inBy_10 : decode cX0_inBy 10 = .ok (.if_icmp .ne 9, 3) := dk_160 0 9 (dk_at dksX0_inBy_0 10 rfl rfl)
theorem dX0_inBy_13 : decode cX0_inBy 13 = .ok (.lconst 1, 1) := dk_10 (dk_at dksX0_inBy_0 13 rfl rfl)
theorem dX0_inBy_14 : decode cX0_inBy 14 = .ok (.iload_n 0, 1) := dk_26 (dk_at dksX0_inBy_0 14 rfl rfl)
theorem dX0_inBy_15 : decode cX0_inBy 15 = .ok (.lshl, 1) := dk_121 (dk_at dksX0_inBy_0 15 rfl rfl)
theorem dX0_inBy_16 : decode cX0_inBy 16 = .ok (.goto 13, 3) := dk_167 0 13 (dk_at dksX0_inBy_0 16 rfl rfl)
theorem dX0_inBy_19 : decode cX0_inBy 19 = .ok (.lconst 1, 1) := dk_10 (dk_at dksX0_inBy_0 19 rfl rfl)
theorem dX0_inBy_20 : decode cX0_inBy 20 = .ok (.iload_n 0, 1) := dk_26 (dk_at dksX0_inBy_0 20 rfl rfl)
theorem dX0_inBy_21 : decode cX0_inBy 21 = .ok (.lshl, 1) := dk_121 (dk_at dksX0_inBy_0 21 rfl rfl)
theorem dX0_inBy_22 : decode cX0_inBy 22 = .ok (.lconst 1, 1) := dk_10 (dk_at dksX0_inBy_0 22 rfl rfl)
theorem dX0_inBy_23 : decode cX0_inBy 23 = .ok (.bipush 16, 2) := dk_16 16 (dk_at dksX0_inBy_1 0 rfl rfl)
theorem dX0_inBy_25 : decode cX0_inBy 25 = .ok (.iload_n 0, 1) := dk_26 (dk_at dksX0_inBy_1 2 rfl rfl)
theorem dX0_inBy_26 : decode cX0_inBy 26 = .ok (.iadd, 1) := dk_96 (dk_at dksX0_inBy_1 3 rfl rfl)
theorem dX0_inBy_27 : decode cX0_inBy 27 = .ok (.lshl, 1) := dk_121 (dk_at dksX0_inBy_1 4 rfl rfl)
theorem dX0_inBy_28 : decode cX0_inBy 28 = .ok (.lor, 1) := dk_129 (dk_at dksX0_inBy_1 5 rfl rfl)
theorem dX0_inBy_29 : decode cX0_inBy 29 = .ok (.lreturn, 1) := dk_173 (dk_at dksX0_inBy_1 6 rfl rfl)
abbrev cX0_outBy : ByteArray := prog_1_method_29_code
def yX0_outBy : MethodName := ⟨RX0, "outBy", "(II)J"⟩
def dkwX0_outBy_1 : List UInt8 := [26, 121, 10, 16, 16, 26, 96, 121, 129, 173]
abbrev dktX0_outBy_1 : List UInt8 := dkwX0_outBy_1 ++ []
def dkwX0_outBy_0 : List UInt8 := [27, 5, 160, 0, 7, 9, 167, 0, 27, 27, 4, 160, 0, 12, 10, 16, 16, 26, 96, 121, 167, 0, 13, 10]
abbrev dktX0_outBy_0 : List UInt8 := dkwX0_outBy_0 ++ dktX0_outBy_1
theorem dksX0_outBy_0 : cX0_outBy.data.toList.drop 0 = dktX0_outBy_0 := by decide +kernel
theorem dksX0_outBy_1 : cX0_outBy.data.toList.drop 24 = dktX0_outBy_1 := dk_seg dksX0_outBy_0 24 rfl rfl
theorem dX0_outBy_0 : decode cX0_outBy 0 = .ok (.iload_n 1, 1) := dk_27 (dk_at dksX0_outBy_0 0 rfl rfl)
theorem dX0_outBy_1 : decode cX0_outBy 1 = .ok (.iconst 2, 1) := dk_5 (dk_at dksX0_outBy_0 1 rfl rfl)
theorem dX0_outBy_2 : decode cX0_outBy 2 = .ok (.if_icmp .ne 7, 3) := dk_160 0 7 (dk_at dksX0_outBy_0 2 rfl rfl)
theorem dX0_outBy_5 : decode cX0_outBy 5 = .ok (.lconst 0, 1) := dk_9 (dk_at dksX0_outBy_0 5 rfl rfl)
theorem dX0_outBy_6 : decode cX0_outBy 6 = .ok (.goto 27, 3) := dk_167 0 27 (dk_at dksX0_outBy_0 6 rfl rfl)
theorem dX0_outBy_9 : decode cX0_outBy 9 = .ok (.iload_n 1, 1) := dk_27 (dk_at dksX0_outBy_0 9 rfl rfl)
theorem dX0_outBy_10 : decode cX0_outBy 10 = .ok (.iconst 1, 1) := dk_4 (dk_at dksX0_outBy_0 10 rfl rfl)
theorem dX0_outBy_11 : decode cX0_outBy 11 = .ok (.if_icmp .ne 12, 3) := dk_160 0 12 (dk_at dksX0_outBy_0 11 rfl rfl)
theorem dX0_outBy_14 : decode cX0_outBy 14 = .ok (.lconst 1, 1) := dk_10 (dk_at dksX0_outBy_0 14 rfl rfl)
theorem dX0_outBy_15 : decode cX0_outBy 15 = .ok (.bipush 16, 2) := dk_16 16 (dk_at dksX0_outBy_0 15 rfl rfl)
theorem dX0_outBy_17 : decode cX0_outBy 17 = .ok (.iload_n 0, 1) := dk_26 (dk_at dksX0_outBy_0 17 rfl rfl)
theorem dX0_outBy_18 : decode cX0_outBy 18 = .ok (.iadd, 1) := dk_96 (dk_at dksX0_outBy_0 18 rfl rfl)
theorem dX0_outBy_19 : decode cX0_outBy 19 = .ok (.lshl, 1) := dk_121 (dk_at dksX0_outBy_0 19 rfl rfl)
theorem dX0_outBy_20 : decode cX0_outBy 20 = .ok (.goto 13, 3) := dk_167 0 13 (dk_at dksX0_outBy_0 20 rfl rfl)
theorem dX0_outBy_23 : decode cX0_outBy 23 = .ok (.lconst 1, 1) := dk_10 (dk_at dksX0_outBy_0 23 rfl rfl)
theorem dX0_outBy_24 : decode cX0_outBy 24 = .ok (.iload_n 0, 1) := dk_26 (dk_at dksX0_outBy_1 0 rfl rfl)
theorem dX0_outBy_25 : decode cX0_outBy 25 = .ok (.lshl, 1) := dk_121 (dk_at dksX0_outBy_1 1 rfl rfl)
theorem dX0_outBy_26 : decode cX0_outBy 26 = .ok (.lconst 1, 1) := dk_10 (dk_at dksX0_outBy_1 2 rfl rfl)
theorem dX0_outBy_27 : decode cX0_outBy 27 = .ok (.bipush 16, 2) := dk_16 16 (dk_at dksX0_outBy_1 3 rfl rfl)
theorem dX0_outBy_29 : decode cX0_outBy 29 = .ok (.iload_n 0, 1) := dk_26 (dk_at dksX0_outBy_1 5 rfl rfl)
theorem dX0_outBy_30 : decode cX0_outBy 30 = .ok (.iadd, 1) := dk_96 (dk_at dksX0_outBy_1 6 rfl rfl)
theorem dX0_outBy_31 : decode cX0_outBy 31 = .ok (.lshl, 1) := dk_121 (dk_at dksX0_outBy_1 7 rfl rfl)
theorem dX0_outBy_32 : decode cX0_outBy 32 = .ok (.lor, 1) := dk_129 (dk_at dksX0_outBy_1 8 rfl rfl)
theorem dX0_outBy_33 : decode cX0_outBy 33 = .ok (.lreturn, 1) := dk_173 (dk_at dksX0_outBy_1 9 rfl rfl)
abbrev cX0_with : ByteArray := prog_1_method_35_code
def yX0_with : MethodName := ⟨RX0, "with", "(I)I"⟩
def dkwX0_with_1 : List UInt8 := [167, 0, 4, 3, 128, 61, 132, 3, 1, 167, 255, 227, 28, 172]
abbrev dktX0_with_1 : List UInt8 := dkwX0_with_1 ++ []
def dkwX0_with_0 : List UInt8 := [3, 61, 3, 62, 29, 16, 12, 162, 0, 29, 28, 42, 180, 0, 26, 29, 51, 27, 160, 0, 9, 4, 29, 120]
abbrev dktX0_with_0 : List UInt8 := dkwX0_with_0 ++ dktX0_with_1
theorem dksX0_with_0 : cX0_with.data.toList.drop 0 = dktX0_with_0 := by decide +kernel
theorem dksX0_with_1 : cX0_with.data.toList.drop 24 = dktX0_with_1 := dk_seg dksX0_with_0 24 rfl rfl
theorem dX0_with_0 : decode cX0_with 0 = .ok (.iconst 0, 1) := dk_3 (dk_at dksX0_with_0 0 rfl rfl)
theorem dX0_with_1 : decode cX0_with 1 = .ok (.istore_n 2, 1) := dk_61 (dk_at dksX0_with_0 1 rfl rfl)
theorem dX0_with_2 : decode cX0_with 2 = .ok (.iconst 0, 1) := dk_3 (dk_at dksX0_with_0 2 rfl rfl)
theorem dX0_with_3 : decode cX0_with 3 = .ok (.istore_n 3, 1) := dk_62 (dk_at dksX0_with_0 3 rfl rfl)
theorem dX0_with_4 : decode cX0_with 4 = .ok (.iload_n 3, 1) := dk_29 (dk_at dksX0_with_0 4 rfl rfl)
theorem dX0_with_5 : decode cX0_with 5 = .ok (.bipush 12, 2) := dk_16 12 (dk_at dksX0_with_0 5 rfl rfl)
theorem dX0_with_7 : decode cX0_with 7 = .ok (.if_icmp .ge 29, 3) := dk_162 0 29 (dk_at dksX0_with_0 7 rfl rfl)
theorem dX0_with_10 : decode cX0_with 10 = .ok (.iload_n 2, 1) := dk_28 (dk_at dksX0_with_0 10 rfl rfl)
theorem dX0_with_11 : decode cX0_with 11 = .ok (.aload_n 0, 1) := dk_42 (dk_at dksX0_with_0 11 rfl rfl)
theorem dX0_with_12 : decode cX0_with 12 = .ok (.getfield 26, 3) := dk_180 0 26 (dk_at dksX0_with_0 12 rfl rfl)
theorem dX0_with_15 : decode cX0_with 15 = .ok (.iload_n 3, 1) := dk_29 (dk_at dksX0_with_0 15 rfl rfl)
theorem dX0_with_16 : decode cX0_with 16 = .ok (.baload, 1) := dk_51 (dk_at dksX0_with_0 16 rfl rfl)
theorem dX0_with_17 : decode cX0_with 17 = .ok (.iload_n 1, 1) := dk_27 (dk_at dksX0_with_0 17 rfl rfl)
theorem dX0_with_18 : decode cX0_with 18 = .ok (.if_icmp .ne 9, 3) := dk_160 0 9 (dk_at dksX0_with_0 18 rfl rfl)
theorem dX0_with_21 : decode cX0_with 21 = .ok (.iconst 1, 1) := dk_4 (dk_at dksX0_with_0 21 rfl rfl)
theorem dX0_with_22 : decode cX0_with 22 = .ok (.iload_n 3, 1) := dk_29 (dk_at dksX0_with_0 22 rfl rfl)
theorem dX0_with_23 : decode cX0_with 23 = .ok (.ishl, 1) := dk_120 (dk_at dksX0_with_0 23 rfl rfl)
theorem dX0_with_24 : decode cX0_with 24 = .ok (.goto 4, 3) := dk_167 0 4 (dk_at dksX0_with_1 0 rfl rfl)
theorem dX0_with_27 : decode cX0_with 27 = .ok (.iconst 0, 1) := dk_3 (dk_at dksX0_with_1 3 rfl rfl)
theorem dX0_with_28 : decode cX0_with 28 = .ok (.ior, 1) := dk_128 (dk_at dksX0_with_1 4 rfl rfl)
theorem dX0_with_29 : decode cX0_with 29 = .ok (.istore_n 2, 1) := dk_61 (dk_at dksX0_with_1 5 rfl rfl)
theorem dX0_with_30 : decode cX0_with 30 = .ok (.iinc 3 1, 3) := dk_132 3 1 (dk_at dksX0_with_1 6 rfl rfl)
theorem dX0_with_33 : decode cX0_with 33 = .ok (.goto (-29), 3) := dk_167 255 227 (dk_at dksX0_with_1 9 rfl rfl)
theorem dX0_with_36 : decode cX0_with 36 = .ok (.iload_n 2, 1) := dk_28 (dk_at dksX0_with_1 12 rfl rfl)
theorem dX0_with_37 : decode cX0_with 37 = .ok (.ireturn, 1) := dk_172 (dk_at dksX0_with_1 13 rfl rfl)
abbrev cX0_point : ByteArray := prog_1_method_8_code
def yX0_point : MethodName := ⟨RX0, "point", "(II)I"⟩
def dkwX0_point_2 : List UInt8 := [182, 0, 119, 172]
abbrev dktX0_point_2 : List UInt8 := dkwX0_point_2 ++ []
def dkwX0_point_1 : List UInt8 := [180, 0, 10, 180, 0, 115, 16, 12, 160, 0, 8, 16, 252, 167, 0, 12, 42, 180, 0, 10, 27, 28]
abbrev dktX0_point_1 : List UInt8 := dkwX0_point_1 ++ dktX0_point_2
def dkwX0_point_0 : List UInt8 := [27, 3, 8, 184, 0, 111, 153, 0, 13, 28, 4, 16, 9, 184, 0, 111, 154, 0, 6, 16, 254, 172, 42]
abbrev dktX0_point_0 : List UInt8 := dkwX0_point_0 ++ dktX0_point_1
theorem dksX0_point_0 : cX0_point.data.toList.drop 0 = dktX0_point_0 := by decide +kernel
theorem dksX0_point_1 : cX0_point.data.toList.drop 23 = dktX0_point_1 := dk_seg dksX0_point_0 23 rfl rfl
theorem dksX0_point_2 : cX0_point.data.toList.drop 45 = dktX0_point_2 := dk_seg dksX0_point_1 22 rfl rfl
theorem dX0_point_0 : decode cX0_point 0 = .ok (.iload_n 1, 1) := dk_27 (dk_at dksX0_point_0 0 rfl rfl)
theorem dX0_point_1 : decode cX0_point 1 = .ok (.iconst 0, 1) := dk_3 (dk_at dksX0_point_0 1 rfl rfl)
theorem dX0_point_2 : decode cX0_point 2 = .ok (.iconst 5, 1) := dk_8 (dk_at dksX0_point_0 2 rfl rfl)
theorem dX0_point_3 : decode cX0_point 3 = .ok (.invokestatic 111, 3) := dk_184 0 111 (dk_at dksX0_point_0 3 rfl rfl)
theorem dX0_point_6 : decode cX0_point 6 = .ok (.ifCond .eq 13, 3) := dk_153 0 13 (dk_at dksX0_point_0 6 rfl rfl)
theorem dX0_point_9 : decode cX0_point 9 = .ok (.iload_n 2, 1) := dk_28 (dk_at dksX0_point_0 9 rfl rfl)
theorem dX0_point_10 : decode cX0_point 10 = .ok (.iconst 1, 1) := dk_4 (dk_at dksX0_point_0 10 rfl rfl)
theorem dX0_point_11 : decode cX0_point 11 = .ok (.bipush 9, 2) := dk_16 9 (dk_at dksX0_point_0 11 rfl rfl)
theorem dX0_point_13 : decode cX0_point 13 = .ok (.invokestatic 111, 3) := dk_184 0 111 (dk_at dksX0_point_0 13 rfl rfl)
theorem dX0_point_16 : decode cX0_point 16 = .ok (.ifCond .ne 6, 3) := dk_154 0 6 (dk_at dksX0_point_0 16 rfl rfl)
theorem dX0_point_19 : decode cX0_point 19 = .ok (.bipush (-2), 2) := dk_16 254 (dk_at dksX0_point_0 19 rfl rfl)
theorem dX0_point_21 : decode cX0_point 21 = .ok (.ireturn, 1) := dk_172 (dk_at dksX0_point_0 21 rfl rfl)
theorem dX0_point_22 : decode cX0_point 22 = .ok (.aload_n 0, 1) := dk_42 (dk_at dksX0_point_0 22 rfl rfl)
theorem dX0_point_23 : decode cX0_point 23 = .ok (.getfield 10, 3) := dk_180 0 10 (dk_at dksX0_point_1 0 rfl rfl)
theorem dX0_point_26 : decode cX0_point 26 = .ok (.getfield 115, 3) := dk_180 0 115 (dk_at dksX0_point_1 3 rfl rfl)
theorem dX0_point_29 : decode cX0_point 29 = .ok (.bipush 12, 2) := dk_16 12 (dk_at dksX0_point_1 6 rfl rfl)
theorem dX0_point_31 : decode cX0_point 31 = .ok (.if_icmp .ne 8, 3) := dk_160 0 8 (dk_at dksX0_point_1 8 rfl rfl)
theorem dX0_point_34 : decode cX0_point 34 = .ok (.bipush (-4), 2) := dk_16 252 (dk_at dksX0_point_1 11 rfl rfl)
theorem dX0_point_36 : decode cX0_point 36 = .ok (.goto 12, 3) := dk_167 0 12 (dk_at dksX0_point_1 13 rfl rfl)
theorem dX0_point_39 : decode cX0_point 39 = .ok (.aload_n 0, 1) := dk_42 (dk_at dksX0_point_1 16 rfl rfl)
theorem dX0_point_40 : decode cX0_point 40 = .ok (.getfield 10, 3) := dk_180 0 10 (dk_at dksX0_point_1 17 rfl rfl)
theorem dX0_point_43 : decode cX0_point 43 = .ok (.iload_n 1, 1) := dk_27 (dk_at dksX0_point_1 20 rfl rfl)
theorem dX0_point_44 : decode cX0_point 44 = .ok (.iload_n 2, 1) := dk_28 (dk_at dksX0_point_1 21 rfl rfl)
theorem dX0_point_45 : decode cX0_point 45 = .ok (.invokevirtual 119, 3) := dk_182 0 119 (dk_at dksX0_point_2 0 rfl rfl)
theorem dX0_point_48 : decode cX0_point 48 = .ok (.ireturn, 1) := dk_172 (dk_at dksX0_point_2 3 rfl rfl)
abbrev cX0_in : ByteArray := prog_1_method_2_code
def yX0_in : MethodName := ⟨RX0, "in", "(III)Z"⟩
def dkwX0_in_0 : List UInt8 := [26, 27, 161, 0, 12, 26, 28, 163, 0, 7, 4, 167, 0, 4, 3, 172]
abbrev dktX0_in_0 : List UInt8 := dkwX0_in_0 ++ []
theorem dksX0_in_0 : cX0_in.data.toList.drop 0 = dktX0_in_0 := by decide +kernel
theorem dX0_in_0 : decode cX0_in 0 = .ok (.iload_n 0, 1) := dk_26 (dk_at dksX0_in_0 0 rfl rfl)
theorem dX0_in_1 : decode cX0_in 1 = .ok (.iload_n 1, 1) := dk_27 (dk_at dksX0_in_0 1 rfl rfl)
theorem dX0_in_2 : decode cX0_in 2 = .ok (.if_icmp .lt 12, 3) := dk_161 0 12 (dk_at dksX0_in_0 2 rfl rfl)
theorem dX0_in_5 : decode cX0_in 5 = .ok (.iload_n 0, 1) := dk_26 (dk_at dksX0_in_0 5 rfl rfl)
theorem dX0_in_6 : decode cX0_in 6 = .ok (.iload_n 2, 1) := dk_28 (dk_at dksX0_in_0 6 rfl rfl)
theorem dX0_in_7 : decode cX0_in 7 = .ok (.if_icmp .gt 7, 3) := dk_163 0 7 (dk_at dksX0_in_0 7 rfl rfl)
theorem dX0_in_10 : decode cX0_in 10 = .ok (.iconst 1, 1) := dk_4 (dk_at dksX0_in_0 10 rfl rfl)
theorem dX0_in_11 : decode cX0_in 11 = .ok (.goto 4, 3) := dk_167 0 4 (dk_at dksX0_in_0 11 rfl rfl)
theorem dX0_in_14 : decode cX0_in 14 = .ok (.iconst 0, 1) := dk_3 (dk_at dksX0_in_0 14 rfl rfl)
theorem dX0_in_15 : decode cX0_in 15 = .ok (.ireturn, 1) := dk_172 (dk_at dksX0_in_0 15 rfl rfl)
abbrev cX0_made : ByteArray := prog_1_method_6_code
def yX0_made : MethodName := ⟨RX0, "made", "(III)LLinesTouched$Point;"⟩
def dkwX0_made_4 : List UInt8 := [183, 0, 107, 176, 187, 0, 108, 89, 27, 28, 183, 0, 110, 176]
abbrev dktX0_made_4 : List UInt8 := dkwX0_made_4 ++ []
def dkwX0_made_3 : List UInt8 := [27, 28, 183, 0, 101, 176, 187, 0, 102, 89, 27, 28, 183, 0, 104, 176, 187, 0, 105, 89, 27, 28]
abbrev dktX0_made_3 : List UInt8 := dkwX0_made_3 ++ dktX0_made_4
def dkwX0_made_2 : List UInt8 := [187, 0, 91, 89, 27, 28, 183, 0, 93, 176, 187, 0, 96, 89, 27, 28, 183, 0, 98, 176, 187, 0, 99, 89]
abbrev dktX0_made_2 : List UInt8 := dkwX0_made_2 ++ dktX0_made_3
def dkwX0_made_1 : List UInt8 := [170, 0, 0, 0, 0, 0, 85, 0, 0, 0, 0, 0, 0, 0, 4, 0, 0, 0, 35, 0, 0, 0, 45, 0, 0, 0, 55, 0, 0, 0, 65, 0, 0, 0, 75]
abbrev dktX0_made_1 : List UInt8 := dkwX0_made_1 ++ dktX0_made_2
def dkwX0_made_0 : List UInt8 := [26]
abbrev dktX0_made_0 : List UInt8 := dkwX0_made_0 ++ dktX0_made_1
theorem dksX0_made_0 : cX0_made.data.toList.drop 0 = dktX0_made_0 := by decide +kernel
theorem dksX0_made_1 : cX0_made.data.toList.drop 1 = dktX0_made_1 := dk_seg dksX0_made_0 1 rfl rfl
theorem dksX0_made_2 : cX0_made.data.toList.drop 36 = dktX0_made_2 := dk_seg dksX0_made_1 35 rfl rfl
theorem dksX0_made_3 : cX0_made.data.toList.drop 60 = dktX0_made_3 := dk_seg dksX0_made_2 24 rfl rfl
theorem dksX0_made_4 : cX0_made.data.toList.drop 82 = dktX0_made_4 := dk_seg dksX0_made_3 22 rfl rfl
theorem dX0_made_0 : decode cX0_made 0 = .ok (.iload_n 0, 1) := dk_26 (dk_at dksX0_made_0 0 rfl rfl)
theorem dX0_made_1 : decode cX0_made 1 = .ok (.tableswitch 85 0 4 #[35, 45, 55, 65, 75], 35) := by decide +kernel
theorem dX0_made_36 : decode cX0_made 36 = .ok (.new 91, 3) := dk_187 0 91 (dk_at dksX0_made_2 0 rfl rfl)
theorem dX0_made_39 : decode cX0_made 39 = .ok (.dup, 1) := dk_89 (dk_at dksX0_made_2 3 rfl rfl)
theorem dX0_made_40 : decode cX0_made 40 = .ok (.iload_n 1, 1) := dk_27 (dk_at dksX0_made_2 4 rfl rfl)
theorem dX0_made_41 : decode cX0_made 41 = .ok (.iload_n 2, 1) := dk_28 (dk_at dksX0_made_2 5 rfl rfl)
theorem dX0_made_42 : decode cX0_made 42 = .ok (.invokespecial 93, 3) := dk_183 0 93 (dk_at dksX0_made_2 6 rfl rfl)
theorem dX0_made_45 : decode cX0_made 45 = .ok (.areturn, 1) := dk_176 (dk_at dksX0_made_2 9 rfl rfl)
theorem dX0_made_46 : decode cX0_made 46 = .ok (.new 96, 3) := dk_187 0 96 (dk_at dksX0_made_2 10 rfl rfl)
theorem dX0_made_49 : decode cX0_made 49 = .ok (.dup, 1) := dk_89 (dk_at dksX0_made_2 13 rfl rfl)
theorem dX0_made_50 : decode cX0_made 50 = .ok (.iload_n 1, 1) := dk_27 (dk_at dksX0_made_2 14 rfl rfl)
theorem dX0_made_51 : decode cX0_made 51 = .ok (.iload_n 2, 1) := dk_28 (dk_at dksX0_made_2 15 rfl rfl)
theorem dX0_made_52 : decode cX0_made 52 = .ok (.invokespecial 98, 3) := dk_183 0 98 (dk_at dksX0_made_2 16 rfl rfl)
theorem dX0_made_55 : decode cX0_made 55 = .ok (.areturn, 1) := dk_176 (dk_at dksX0_made_2 19 rfl rfl)
theorem dX0_made_56 : decode cX0_made 56 = .ok (.new 99, 3) := dk_187 0 99 (dk_at dksX0_made_2 20 rfl rfl)
theorem dX0_made_59 : decode cX0_made 59 = .ok (.dup, 1) := dk_89 (dk_at dksX0_made_2 23 rfl rfl)
theorem dX0_made_60 : decode cX0_made 60 = .ok (.iload_n 1, 1) := dk_27 (dk_at dksX0_made_3 0 rfl rfl)
theorem dX0_made_61 : decode cX0_made 61 = .ok (.iload_n 2, 1) := dk_28 (dk_at dksX0_made_3 1 rfl rfl)
theorem dX0_made_62 : decode cX0_made 62 = .ok (.invokespecial 101, 3) := dk_183 0 101 (dk_at dksX0_made_3 2 rfl rfl)
theorem dX0_made_65 : decode cX0_made 65 = .ok (.areturn, 1) := dk_176 (dk_at dksX0_made_3 5 rfl rfl)
theorem dX0_made_66 : decode cX0_made 66 = .ok (.new 102, 3) := dk_187 0 102 (dk_at dksX0_made_3 6 rfl rfl)
theorem dX0_made_69 : decode cX0_made 69 = .ok (.dup, 1) := dk_89 (dk_at dksX0_made_3 9 rfl rfl)
theorem dX0_made_70 : decode cX0_made 70 = .ok (.iload_n 1, 1) := dk_27 (dk_at dksX0_made_3 10 rfl rfl)
theorem dX0_made_71 : decode cX0_made 71 = .ok (.iload_n 2, 1) := dk_28 (dk_at dksX0_made_3 11 rfl rfl)
theorem dX0_made_72 : decode cX0_made 72 = .ok (.invokespecial 104, 3) := dk_183 0 104 (dk_at dksX0_made_3 12 rfl rfl)
theorem dX0_made_75 : decode cX0_made 75 = .ok (.areturn, 1) := dk_176 (dk_at dksX0_made_3 15 rfl rfl)
theorem dX0_made_76 : decode cX0_made 76 = .ok (.new 105, 3) := dk_187 0 105 (dk_at dksX0_made_3 16 rfl rfl)
theorem dX0_made_79 : decode cX0_made 79 = .ok (.dup, 1) := dk_89 (dk_at dksX0_made_3 19 rfl rfl)
theorem dX0_made_80 : decode cX0_made 80 = .ok (.iload_n 1, 1) := dk_27 (dk_at dksX0_made_3 20 rfl rfl)
theorem dX0_made_81 : decode cX0_made 81 = .ok (.iload_n 2, 1) := dk_28 (dk_at dksX0_made_3 21 rfl rfl)
theorem dX0_made_82 : decode cX0_made 82 = .ok (.invokespecial 107, 3) := dk_183 0 107 (dk_at dksX0_made_4 0 rfl rfl)
theorem dX0_made_85 : decode cX0_made 85 = .ok (.areturn, 1) := dk_176 (dk_at dksX0_made_4 3 rfl rfl)
theorem dX0_made_86 : decode cX0_made 86 = .ok (.new 108, 3) := dk_187 0 108 (dk_at dksX0_made_4 4 rfl rfl)
theorem dX0_made_89 : decode cX0_made 89 = .ok (.dup, 1) := dk_89 (dk_at dksX0_made_4 7 rfl rfl)
theorem dX0_made_90 : decode cX0_made 90 = .ok (.iload_n 1, 1) := dk_27 (dk_at dksX0_made_4 8 rfl rfl)
theorem dX0_made_91 : decode cX0_made 91 = .ok (.iload_n 2, 1) := dk_28 (dk_at dksX0_made_4 9 rfl rfl)
theorem dX0_made_92 : decode cX0_made 92 = .ok (.invokespecial 110, 3) := dk_183 0 110 (dk_at dksX0_made_4 10 rfl rfl)
theorem dX0_made_95 : decode cX0_made 95 = .ok (.areturn, 1) := dk_176 (dk_at dksX0_made_4 13 rfl rfl)
abbrev cX0_line : ByteArray := prog_1_method_10_code
def yX0_line : MethodName := ⟨RX0, "line", "(III)I"⟩
def dkwX0_line_2 : List UInt8 := [29, 4, 160, 0, 7, 4, 167, 0, 4, 3, 182, 0, 134, 21, 4, 172]
abbrev dktX0_line_2 : List UInt8 := dkwX0_line_2 ++ []
def dkwX0_line_1 : List UInt8 := [180, 0, 10, 27, 28, 182, 0, 131, 153, 0, 7, 4, 167, 0, 4, 3, 54, 4, 42, 180, 0, 10, 27, 28]
abbrev dktX0_line_1 : List UInt8 := dkwX0_line_1 ++ dktX0_line_2
def dkwX0_line_0 : List UInt8 := [42, 27, 28, 182, 0, 127, 153, 0, 12, 29, 3, 4, 184, 0, 111, 154, 0, 6, 16, 254, 172, 42]
abbrev dktX0_line_0 : List UInt8 := dkwX0_line_0 ++ dktX0_line_1
theorem dksX0_line_0 : cX0_line.data.toList.drop 0 = dktX0_line_0 := by decide +kernel
theorem dksX0_line_1 : cX0_line.data.toList.drop 22 = dktX0_line_1 := dk_seg dksX0_line_0 22 rfl rfl
theorem dksX0_line_2 : cX0_line.data.toList.drop 46 = dktX0_line_2 := dk_seg dksX0_line_1 24 rfl rfl
theorem dX0_line_0 : decode cX0_line 0 = .ok (.aload_n 0, 1) := dk_42 (dk_at dksX0_line_0 0 rfl rfl)
theorem dX0_line_1 : decode cX0_line 1 = .ok (.iload_n 1, 1) := dk_27 (dk_at dksX0_line_0 1 rfl rfl)
theorem dX0_line_2 : decode cX0_line 2 = .ok (.iload_n 2, 1) := dk_28 (dk_at dksX0_line_0 2 rfl rfl)
theorem dX0_line_3 : decode cX0_line 3 = .ok (.invokevirtual 127, 3) := dk_182 0 127 (dk_at dksX0_line_0 3 rfl rfl)
theorem dX0_line_6 : decode cX0_line 6 = .ok (.ifCond .eq 12, 3) := dk_153 0 12 (dk_at dksX0_line_0 6 rfl rfl)
theorem dX0_line_9 : decode cX0_line 9 = .ok (.iload_n 3, 1) := dk_29 (dk_at dksX0_line_0 9 rfl rfl)
theorem dX0_line_10 : decode cX0_line 10 = .ok (.iconst 0, 1) := dk_3 (dk_at dksX0_line_0 10 rfl rfl)
theorem dX0_line_11 : decode cX0_line 11 = .ok (.iconst 1, 1) := dk_4 (dk_at dksX0_line_0 11 rfl rfl)
theorem dX0_line_12 : decode cX0_line 12 = .ok (.invokestatic 111, 3) := dk_184 0 111 (dk_at dksX0_line_0 12 rfl rfl)
theorem dX0_line_15 : decode cX0_line 15 = .ok (.ifCond .ne 6, 3) := dk_154 0 6 (dk_at dksX0_line_0 15 rfl rfl)
theorem dX0_line_18 : decode cX0_line 18 = .ok (.bipush (-2), 2) := dk_16 254 (dk_at dksX0_line_0 18 rfl rfl)
theorem dX0_line_20 : decode cX0_line 20 = .ok (.ireturn, 1) := dk_172 (dk_at dksX0_line_0 20 rfl rfl)
theorem dX0_line_21 : decode cX0_line 21 = .ok (.aload_n 0, 1) := dk_42 (dk_at dksX0_line_0 21 rfl rfl)
theorem dX0_line_22 : decode cX0_line 22 = .ok (.getfield 10, 3) := dk_180 0 10 (dk_at dksX0_line_1 0 rfl rfl)
theorem dX0_line_25 : decode cX0_line 25 = .ok (.iload_n 1, 1) := dk_27 (dk_at dksX0_line_1 3 rfl rfl)
theorem dX0_line_26 : decode cX0_line 26 = .ok (.iload_n 2, 1) := dk_28 (dk_at dksX0_line_1 4 rfl rfl)
theorem dX0_line_27 : decode cX0_line 27 = .ok (.invokevirtual 131, 3) := dk_182 0 131 (dk_at dksX0_line_1 5 rfl rfl)
theorem dX0_line_30 : decode cX0_line 30 = .ok (.ifCond .eq 7, 3) := dk_153 0 7 (dk_at dksX0_line_1 8 rfl rfl)
theorem dX0_line_33 : decode cX0_line 33 = .ok (.iconst 1, 1) := dk_4 (dk_at dksX0_line_1 11 rfl rfl)
theorem dX0_line_34 : decode cX0_line 34 = .ok (.goto 4, 3) := dk_167 0 4 (dk_at dksX0_line_1 12 rfl rfl)
theorem dX0_line_37 : decode cX0_line 37 = .ok (.iconst 0, 1) := dk_3 (dk_at dksX0_line_1 15 rfl rfl)
theorem dX0_line_38 : decode cX0_line 38 = .ok (.istore 4, 2) := dk_54 4 (dk_at dksX0_line_1 16 rfl rfl)
theorem dX0_line_40 : decode cX0_line 40 = .ok (.aload_n 0, 1) := dk_42 (dk_at dksX0_line_1 18 rfl rfl)
theorem dX0_line_41 : decode cX0_line 41 = .ok (.getfield 10, 3) := dk_180 0 10 (dk_at dksX0_line_1 19 rfl rfl)
theorem dX0_line_44 : decode cX0_line 44 = .ok (.iload_n 1, 1) := dk_27 (dk_at dksX0_line_1 22 rfl rfl)
theorem dX0_line_45 : decode cX0_line 45 = .ok (.iload_n 2, 1) := dk_28 (dk_at dksX0_line_1 23 rfl rfl)
theorem dX0_line_46 : decode cX0_line 46 = .ok (.iload_n 3, 1) := dk_29 (dk_at dksX0_line_2 0 rfl rfl)
theorem dX0_line_47 : decode cX0_line 47 = .ok (.iconst 1, 1) := dk_4 (dk_at dksX0_line_2 1 rfl rfl)
theorem dX0_line_48 : decode cX0_line 48 = .ok (.if_icmp .ne 7, 3) := dk_160 0 7 (dk_at dksX0_line_2 2 rfl rfl)
theorem dX0_line_51 : decode cX0_line 51 = .ok (.iconst 1, 1) := dk_4 (dk_at dksX0_line_2 5 rfl rfl)
theorem dX0_line_52 : decode cX0_line 52 = .ok (.goto 4, 3) := dk_167 0 4 (dk_at dksX0_line_2 6 rfl rfl)
theorem dX0_line_55 : decode cX0_line 55 = .ok (.iconst 0, 1) := dk_3 (dk_at dksX0_line_2 9 rfl rfl)
theorem dX0_line_56 : decode cX0_line 56 = .ok (.invokevirtual 134, 3) := dk_182 0 134 (dk_at dksX0_line_2 10 rfl rfl)
theorem dX0_line_59 : decode cX0_line 59 = .ok (.iload 4, 2) := dk_21 4 (dk_at dksX0_line_2 13 rfl rfl)
theorem dX0_line_61 : decode cX0_line 61 = .ok (.ireturn, 1) := dk_172 (dk_at dksX0_line_2 15 rfl rfl)
abbrev cX0_areTwo : ByteArray := prog_1_method_9_code
def yX0_areTwo : MethodName := ⟨RX0, "areTwo", "(II)Z"⟩
def dkwX0_areTwo_1 : List UInt8 := [159, 0, 7, 4, 167, 0, 4, 3, 172]
abbrev dktX0_areTwo_1 : List UInt8 := dkwX0_areTwo_1 ++ []
def dkwX0_areTwo_0 : List UInt8 := [42, 180, 0, 10, 27, 182, 0, 123, 153, 0, 23, 42, 180, 0, 10, 28, 182, 0, 123, 153, 0, 12, 27, 28]
abbrev dktX0_areTwo_0 : List UInt8 := dkwX0_areTwo_0 ++ dktX0_areTwo_1
theorem dksX0_areTwo_0 : cX0_areTwo.data.toList.drop 0 = dktX0_areTwo_0 := by decide +kernel
theorem dksX0_areTwo_1 : cX0_areTwo.data.toList.drop 24 = dktX0_areTwo_1 := dk_seg dksX0_areTwo_0 24 rfl rfl
theorem dX0_areTwo_0 : decode cX0_areTwo 0 = .ok (.aload_n 0, 1) := dk_42 (dk_at dksX0_areTwo_0 0 rfl rfl)
theorem dX0_areTwo_1 : decode cX0_areTwo 1 = .ok (.getfield 10, 3) := dk_180 0 10 (dk_at dksX0_areTwo_0 1 rfl rfl)
theorem dX0_areTwo_4 : decode cX0_areTwo 4 = .ok (.iload_n 1, 1) := dk_27 (dk_at dksX0_areTwo_0 4 rfl rfl)
theorem dX0_areTwo_5 : decode cX0_areTwo 5 = .ok (.invokevirtual 123, 3) := dk_182 0 123 (dk_at dksX0_areTwo_0 5 rfl rfl)
theorem dX0_areTwo_8 : decode cX0_areTwo 8 = .ok (.ifCond .eq 23, 3) := dk_153 0 23 (dk_at dksX0_areTwo_0 8 rfl rfl)
theorem dX0_areTwo_11 : decode cX0_areTwo 11 = .ok (.aload_n 0, 1) := dk_42 (dk_at dksX0_areTwo_0 11 rfl rfl)
theorem dX0_areTwo_12 : decode cX0_areTwo 12 = .ok (.getfield 10, 3) := dk_180 0 10 (dk_at dksX0_areTwo_0 12 rfl rfl)
theorem dX0_areTwo_15 : decode cX0_areTwo 15 = .ok (.iload_n 2, 1) := dk_28 (dk_at dksX0_areTwo_0 15 rfl rfl)
theorem dX0_areTwo_16 : decode cX0_areTwo 16 = .ok (.invokevirtual 123, 3) := dk_182 0 123 (dk_at dksX0_areTwo_0 16 rfl rfl)
theorem dX0_areTwo_19 : decode cX0_areTwo 19 = .ok (.ifCond .eq 12, 3) := dk_153 0 12 (dk_at dksX0_areTwo_0 19 rfl rfl)
theorem dX0_areTwo_22 : decode cX0_areTwo 22 = .ok (.iload_n 1, 1) := dk_27 (dk_at dksX0_areTwo_0 22 rfl rfl)
theorem dX0_areTwo_23 : decode cX0_areTwo 23 = .ok (.iload_n 2, 1) := dk_28 (dk_at dksX0_areTwo_0 23 rfl rfl)
theorem dX0_areTwo_24 : decode cX0_areTwo 24 = .ok (.if_icmp .eq 7, 3) := dk_159 0 7 (dk_at dksX0_areTwo_1 0 rfl rfl)
theorem dX0_areTwo_27 : decode cX0_areTwo 27 = .ok (.iconst 1, 1) := dk_4 (dk_at dksX0_areTwo_1 3 rfl rfl)
theorem dX0_areTwo_28 : decode cX0_areTwo 28 = .ok (.goto 4, 3) := dk_167 0 4 (dk_at dksX0_areTwo_1 4 rfl rfl)
theorem dX0_areTwo_31 : decode cX0_areTwo 31 = .ok (.iconst 0, 1) := dk_3 (dk_at dksX0_areTwo_1 7 rfl rfl)
theorem dX0_areTwo_32 : decode cX0_areTwo 32 = .ok (.ireturn, 1) := dk_172 (dk_at dksX0_areTwo_1 8 rfl rfl)
abbrev cX0_pointOf : ByteArray := prog_1_method_11_code
def yX0_pointOf : MethodName := ⟨RX0, "pointOf", "(II)I"⟩
def dkwX0_pointOf_4 : List UInt8 := [180, 0, 10, 180, 0, 152, 27, 46, 184, 0, 155, 172, 16, 254, 172]
abbrev dktX0_pointOf_4 : List UInt8 := dkwX0_pointOf_4 ++ []
def dkwX0_pointOf_3 : List UInt8 := [180, 0, 146, 172, 42, 180, 0, 10, 27, 182, 0, 149, 172, 42, 180, 0, 10, 180, 0, 152, 27, 46, 172, 42]
abbrev dktX0_pointOf_3 : List UInt8 := dkwX0_pointOf_3 ++ dktX0_pointOf_4
def dkwX0_pointOf_2 : List UInt8 := [42, 180, 0, 10, 180, 0, 138, 27, 50, 182, 0, 142, 172, 42, 180, 0, 10, 180, 0, 138, 27, 50]
abbrev dktX0_pointOf_2 : List UInt8 := dkwX0_pointOf_2 ++ dktX0_pointOf_3
def dkwX0_pointOf_1 : List UInt8 := [170, 0, 0, 0, 91, 0, 0, 0, 0, 0, 0, 0, 4, 0, 0, 0, 33, 0, 0, 0, 46, 0, 0, 0, 59, 0, 0, 0, 68, 0, 0, 0, 78]
abbrev dktX0_pointOf_1 : List UInt8 := dkwX0_pointOf_1 ++ dktX0_pointOf_2
def dkwX0_pointOf_0 : List UInt8 := [42, 180, 0, 10, 27, 182, 0, 123, 154, 0, 6, 16, 254, 172, 28]
abbrev dktX0_pointOf_0 : List UInt8 := dkwX0_pointOf_0 ++ dktX0_pointOf_1
theorem dksX0_pointOf_0 : cX0_pointOf.data.toList.drop 0 = dktX0_pointOf_0 := by decide +kernel
theorem dksX0_pointOf_1 : cX0_pointOf.data.toList.drop 15 = dktX0_pointOf_1 := dk_seg dksX0_pointOf_0 15 rfl rfl
theorem dksX0_pointOf_2 : cX0_pointOf.data.toList.drop 48 = dktX0_pointOf_2 := dk_seg dksX0_pointOf_1 33 rfl rfl
theorem dksX0_pointOf_3 : cX0_pointOf.data.toList.drop 70 = dktX0_pointOf_3 := dk_seg dksX0_pointOf_2 22 rfl rfl
theorem dksX0_pointOf_4 : cX0_pointOf.data.toList.drop 94 = dktX0_pointOf_4 := dk_seg dksX0_pointOf_3 24 rfl rfl
theorem dX0_pointOf_0 : decode cX0_pointOf 0 = .ok (.aload_n 0, 1) := dk_42 (dk_at dksX0_pointOf_0 0 rfl rfl)
theorem dX0_pointOf_1 : decode cX0_pointOf 1 = .ok (.getfield 10, 3) := dk_180 0 10 (dk_at dksX0_pointOf_0 1 rfl rfl)
theorem dX0_pointOf_4 : decode cX0_pointOf 4 = .ok (.iload_n 1, 1) := dk_27 (dk_at dksX0_pointOf_0 4 rfl rfl)
theorem dX0_pointOf_5 : decode cX0_pointOf 5 = .ok (.invokevirtual 123, 3) := dk_182 0 123 (dk_at dksX0_pointOf_0 5 rfl rfl)
theorem dX0_pointOf_8 : decode cX0_pointOf 8 = .ok (.ifCond .ne 6, 3) := dk_154 0 6 (dk_at dksX0_pointOf_0 8 rfl rfl)
theorem dX0_pointOf_11 : decode cX0_pointOf 11 = .ok (.bipush (-2), 2) := dk_16 254 (dk_at dksX0_pointOf_0 11 rfl rfl)
theorem dX0_pointOf_13 : decode cX0_pointOf 13 = .ok (.ireturn, 1) := dk_172 (dk_at dksX0_pointOf_0 13 rfl rfl)
theorem dX0_pointOf_14 : decode cX0_pointOf 14 = .ok (.iload_n 2, 1) := dk_28 (dk_at dksX0_pointOf_0 14 rfl rfl)
theorem dX0_pointOf_15 : decode cX0_pointOf 15 = .ok (.tableswitch 91 0 4 #[33, 46, 59, 68, 78], 33) := by decide +kernel
theorem dX0_pointOf_48 : decode cX0_pointOf 48 = .ok (.aload_n 0, 1) := dk_42 (dk_at dksX0_pointOf_2 0 rfl rfl)
theorem dX0_pointOf_49 : decode cX0_pointOf 49 = .ok (.getfield 10, 3) := dk_180 0 10 (dk_at dksX0_pointOf_2 1 rfl rfl)
theorem dX0_pointOf_52 : decode cX0_pointOf 52 = .ok (.getfield 138, 3) := dk_180 0 138 (dk_at dksX0_pointOf_2 4 rfl rfl)
theorem dX0_pointOf_55 : decode cX0_pointOf 55 = .ok (.iload_n 1, 1) := dk_27 (dk_at dksX0_pointOf_2 7 rfl rfl)
theorem dX0_pointOf_56 : decode cX0_pointOf 56 = .ok (.aaload, 1) := dk_50 (dk_at dksX0_pointOf_2 8 rfl rfl)
theorem dX0_pointOf_57 : decode cX0_pointOf 57 = .ok (.invokevirtual 142, 3) := dk_182 0 142 (dk_at dksX0_pointOf_2 9 rfl rfl)
theorem dX0_pointOf_60 : decode cX0_pointOf 60 = .ok (.ireturn, 1) := dk_172 (dk_at dksX0_pointOf_2 12 rfl rfl)
theorem dX0_pointOf_61 : decode cX0_pointOf 61 = .ok (.aload_n 0, 1) := dk_42 (dk_at dksX0_pointOf_2 13 rfl rfl)
theorem dX0_pointOf_62 : decode cX0_pointOf 62 = .ok (.getfield 10, 3) := dk_180 0 10 (dk_at dksX0_pointOf_2 14 rfl rfl)
theorem dX0_pointOf_65 : decode cX0_pointOf 65 = .ok (.getfield 138, 3) := dk_180 0 138 (dk_at dksX0_pointOf_2 17 rfl rfl)
theorem dX0_pointOf_68 : decode cX0_pointOf 68 = .ok (.iload_n 1, 1) := dk_27 (dk_at dksX0_pointOf_2 20 rfl rfl)
theorem dX0_pointOf_69 : decode cX0_pointOf 69 = .ok (.aaload, 1) := dk_50 (dk_at dksX0_pointOf_2 21 rfl rfl)
theorem dX0_pointOf_70 : decode cX0_pointOf 70 = .ok (.getfield 146, 3) := dk_180 0 146 (dk_at dksX0_pointOf_3 0 rfl rfl)
theorem dX0_pointOf_73 : decode cX0_pointOf 73 = .ok (.ireturn, 1) := dk_172 (dk_at dksX0_pointOf_3 3 rfl rfl)
theorem dX0_pointOf_74 : decode cX0_pointOf 74 = .ok (.aload_n 0, 1) := dk_42 (dk_at dksX0_pointOf_3 4 rfl rfl)
theorem dX0_pointOf_75 : decode cX0_pointOf 75 = .ok (.getfield 10, 3) := dk_180 0 10 (dk_at dksX0_pointOf_3 5 rfl rfl)
theorem dX0_pointOf_78 : decode cX0_pointOf 78 = .ok (.iload_n 1, 1) := dk_27 (dk_at dksX0_pointOf_3 8 rfl rfl)
theorem dX0_pointOf_79 : decode cX0_pointOf 79 = .ok (.invokevirtual 149, 3) := dk_182 0 149 (dk_at dksX0_pointOf_3 9 rfl rfl)
theorem dX0_pointOf_82 : decode cX0_pointOf 82 = .ok (.ireturn, 1) := dk_172 (dk_at dksX0_pointOf_3 12 rfl rfl)
theorem dX0_pointOf_83 : decode cX0_pointOf 83 = .ok (.aload_n 0, 1) := dk_42 (dk_at dksX0_pointOf_3 13 rfl rfl)
theorem dX0_pointOf_84 : decode cX0_pointOf 84 = .ok (.getfield 10, 3) := dk_180 0 10 (dk_at dksX0_pointOf_3 14 rfl rfl)
theorem dX0_pointOf_87 : decode cX0_pointOf 87 = .ok (.getfield 152, 3) := dk_180 0 152 (dk_at dksX0_pointOf_3 17 rfl rfl)
theorem dX0_pointOf_90 : decode cX0_pointOf 90 = .ok (.iload_n 1, 1) := dk_27 (dk_at dksX0_pointOf_3 20 rfl rfl)
theorem dX0_pointOf_91 : decode cX0_pointOf 91 = .ok (.iaload, 1) := dk_46 (dk_at dksX0_pointOf_3 21 rfl rfl)
theorem dX0_pointOf_92 : decode cX0_pointOf 92 = .ok (.ireturn, 1) := dk_172 (dk_at dksX0_pointOf_3 22 rfl rfl)
theorem dX0_pointOf_93 : decode cX0_pointOf 93 = .ok (.aload_n 0, 1) := dk_42 (dk_at dksX0_pointOf_3 23 rfl rfl)
theorem dX0_pointOf_94 : decode cX0_pointOf 94 = .ok (.getfield 10, 3) := dk_180 0 10 (dk_at dksX0_pointOf_4 0 rfl rfl)
theorem dX0_pointOf_97 : decode cX0_pointOf 97 = .ok (.getfield 152, 3) := dk_180 0 152 (dk_at dksX0_pointOf_4 3 rfl rfl)
theorem dX0_pointOf_100 : decode cX0_pointOf 100 = .ok (.iload_n 1, 1) := dk_27 (dk_at dksX0_pointOf_4 6 rfl rfl)
theorem dX0_pointOf_101 : decode cX0_pointOf 101 = .ok (.iaload, 1) := dk_46 (dk_at dksX0_pointOf_4 7 rfl rfl)
theorem dX0_pointOf_102 : decode cX0_pointOf 102 = .ok (.invokestatic 155, 3) := dk_184 0 155 (dk_at dksX0_pointOf_4 8 rfl rfl)
theorem dX0_pointOf_105 : decode cX0_pointOf 105 = .ok (.ireturn, 1) := dk_172 (dk_at dksX0_pointOf_4 11 rfl rfl)
theorem dX0_pointOf_106 : decode cX0_pointOf 106 = .ok (.bipush (-2), 2) := dk_16 254 (dk_at dksX0_pointOf_4 12 rfl rfl)
theorem dX0_pointOf_108 : decode cX0_pointOf 108 = .ok (.ireturn, 1) := dk_172 (dk_at dksX0_pointOf_4 14 rfl rfl)
abbrev cX0_change : ByteArray := prog_1_method_12_code
def yX0_change : MethodName := ⟨RX0, "change", "(III)I"⟩
def dkwX0_change_4 : List UInt8 := [154, 0, 11, 25, 4, 182, 0, 142, 167, 0, 8, 25, 4, 180, 0, 146, 172]
abbrev dktX0_change_4 : List UInt8 := dkwX0_change_4 ++ []
def dkwX0_change_3 : List UInt8 := [25, 4, 182, 0, 142, 27, 28, 154, 0, 11, 25, 4, 180, 0, 146, 167, 0, 4, 29, 184, 0, 158, 83, 28]
abbrev dktX0_change_3 : List UInt8 := dkwX0_change_3 ++ dktX0_change_4
def dkwX0_change_2 : List UInt8 := [180, 0, 138, 27, 50, 58, 4, 42, 180, 0, 10, 180, 0, 138, 27, 28, 154, 0, 7, 29, 167, 0, 8]
abbrev dktX0_change_2 : List UInt8 := dkwX0_change_2 ++ dktX0_change_3
def dkwX0_change_1 : List UInt8 := [154, 0, 7, 8, 167, 0, 5, 16, 9, 184, 0, 111, 154, 0, 6, 16, 254, 172, 42, 180, 0, 10]
abbrev dktX0_change_1 : List UInt8 := dkwX0_change_1 ++ dktX0_change_2
def dkwX0_change_0 : List UInt8 := [42, 180, 0, 10, 27, 182, 0, 123, 153, 0, 30, 28, 3, 4, 184, 0, 111, 153, 0, 21, 29, 28, 28]
abbrev dktX0_change_0 : List UInt8 := dkwX0_change_0 ++ dktX0_change_1
theorem dksX0_change_0 : cX0_change.data.toList.drop 0 = dktX0_change_0 := by decide +kernel
theorem dksX0_change_1 : cX0_change.data.toList.drop 23 = dktX0_change_1 := dk_seg dksX0_change_0 23 rfl rfl
theorem dksX0_change_2 : cX0_change.data.toList.drop 45 = dktX0_change_2 := dk_seg dksX0_change_1 22 rfl rfl
theorem dksX0_change_3 : cX0_change.data.toList.drop 68 = dktX0_change_3 := dk_seg dksX0_change_2 23 rfl rfl
theorem dksX0_change_4 : cX0_change.data.toList.drop 92 = dktX0_change_4 := dk_seg dksX0_change_3 24 rfl rfl
theorem dX0_change_0 : decode cX0_change 0 = .ok (.aload_n 0, 1) := dk_42 (dk_at dksX0_change_0 0 rfl rfl)
theorem dX0_change_1 : decode cX0_change 1 = .ok (.getfield 10, 3) := dk_180 0 10 (dk_at dksX0_change_0 1 rfl rfl)
theorem dX0_change_4 : decode cX0_change 4 = .ok (.iload_n 1, 1) := dk_27 (dk_at dksX0_change_0 4 rfl rfl)
theorem dX0_change_5 : decode cX0_change 5 = .ok (.invokevirtual 123, 3) := dk_182 0 123 (dk_at dksX0_change_0 5 rfl rfl)
theorem dX0_change_8 : decode cX0_change 8 = .ok (.ifCond .eq 30, 3) := dk_153 0 30 (dk_at dksX0_change_0 8 rfl rfl)
theorem dX0_change_11 : decode cX0_change 11 = .ok (.iload_n 2, 1) := dk_28 (dk_at dksX0_change_0 11 rfl rfl)
theorem dX0_change_12 : decode cX0_change 12 = .ok (.iconst 0, 1) := dk_3 (dk_at dksX0_change_0 12 rfl rfl)
theorem dX0_change_13 : decode cX0_change 13 = .ok (.iconst 1, 1) := dk_4 (dk_at dksX0_change_0 13 rfl rfl)
theorem dX0_change_14 : decode cX0_change 14 = .ok (.invokestatic 111, 3) := dk_184 0 111 (dk_at dksX0_change_0 14 rfl rfl)
theorem dX0_change_17 : decode cX0_change 17 = .ok (.ifCond .eq 21, 3) := dk_153 0 21 (dk_at dksX0_change_0 17 rfl rfl)
theorem dX0_change_20 : decode cX0_change 20 = .ok (.iload_n 3, 1) := dk_29 (dk_at dksX0_change_0 20 rfl rfl)
theorem dX0_change_21 : decode cX0_change 21 = .ok (.iload_n 2, 1) := dk_28 (dk_at dksX0_change_0 21 rfl rfl)
theorem dX0_change_22 : decode cX0_change 22 = .ok (.iload_n 2, 1) := dk_28 (dk_at dksX0_change_0 22 rfl rfl)
theorem dX0_change_23 : decode cX0_change 23 = .ok (.ifCond .ne 7, 3) := dk_154 0 7 (dk_at dksX0_change_1 0 rfl rfl)
theorem dX0_change_26 : decode cX0_change 26 = .ok (.iconst 5, 1) := dk_8 (dk_at dksX0_change_1 3 rfl rfl)
theorem dX0_change_27 : decode cX0_change 27 = .ok (.goto 5, 3) := dk_167 0 5 (dk_at dksX0_change_1 4 rfl rfl)
theorem dX0_change_30 : decode cX0_change 30 = .ok (.bipush 9, 2) := dk_16 9 (dk_at dksX0_change_1 7 rfl rfl)
theorem dX0_change_32 : decode cX0_change 32 = .ok (.invokestatic 111, 3) := dk_184 0 111 (dk_at dksX0_change_1 9 rfl rfl)
theorem dX0_change_35 : decode cX0_change 35 = .ok (.ifCond .ne 6, 3) := dk_154 0 6 (dk_at dksX0_change_1 12 rfl rfl)
theorem dX0_change_38 : decode cX0_change 38 = .ok (.bipush (-2), 2) := dk_16 254 (dk_at dksX0_change_1 15 rfl rfl)
theorem dX0_change_40 : decode cX0_change 40 = .ok (.ireturn, 1) := dk_172 (dk_at dksX0_change_1 17 rfl rfl)
theorem dX0_change_41 : decode cX0_change 41 = .ok (.aload_n 0, 1) := dk_42 (dk_at dksX0_change_1 18 rfl rfl)
theorem dX0_change_42 : decode cX0_change 42 = .ok (.getfield 10, 3) := dk_180 0 10 (dk_at dksX0_change_1 19 rfl rfl)
theorem dX0_change_45 : decode cX0_change 45 = .ok (.getfield 138, 3) := dk_180 0 138 (dk_at dksX0_change_2 0 rfl rfl)
theorem dX0_change_48 : decode cX0_change 48 = .ok (.iload_n 1, 1) := dk_27 (dk_at dksX0_change_2 3 rfl rfl)
theorem dX0_change_49 : decode cX0_change 49 = .ok (.aaload, 1) := dk_50 (dk_at dksX0_change_2 4 rfl rfl)
theorem dX0_change_50 : decode cX0_change 50 = .ok (.astore 4, 2) := dk_58 4 (dk_at dksX0_change_2 5 rfl rfl)
theorem dX0_change_52 : decode cX0_change 52 = .ok (.aload_n 0, 1) := dk_42 (dk_at dksX0_change_2 7 rfl rfl)
theorem dX0_change_53 : decode cX0_change 53 = .ok (.getfield 10, 3) := dk_180 0 10 (dk_at dksX0_change_2 8 rfl rfl)
theorem dX0_change_56 : decode cX0_change 56 = .ok (.getfield 138, 3) := dk_180 0 138 (dk_at dksX0_change_2 11 rfl rfl)
theorem dX0_change_59 : decode cX0_change 59 = .ok (.iload_n 1, 1) := dk_27 (dk_at dksX0_change_2 14 rfl rfl)
theorem dX0_change_60 : decode cX0_change 60 = .ok (.iload_n 2, 1) := dk_28 (dk_at dksX0_change_2 15 rfl rfl)
theorem dX0_change_61 : decode cX0_change 61 = .ok (.ifCond .ne 7, 3) := dk_154 0 7 (dk_at dksX0_change_2 16 rfl rfl)
theorem dX0_change_64 : decode cX0_change 64 = .ok (.iload_n 3, 1) := dk_29 (dk_at dksX0_change_2 19 rfl rfl)
theorem dX0_change_65 : decode cX0_change 65 = .ok (.goto 8, 3) := dk_167 0 8 (dk_at dksX0_change_2 20 rfl rfl)
theorem dX0_change_68 : decode cX0_change 68 = .ok (.aload 4, 2) := dk_25 4 (dk_at dksX0_change_3 0 rfl rfl)
theorem dX0_change_70 : decode cX0_change 70 = .ok (.invokevirtual 142, 3) := dk_182 0 142 (dk_at dksX0_change_3 2 rfl rfl)
theorem dX0_change_73 : decode cX0_change 73 = .ok (.iload_n 1, 1) := dk_27 (dk_at dksX0_change_3 5 rfl rfl)
theorem dX0_change_74 : decode cX0_change 74 = .ok (.iload_n 2, 1) := dk_28 (dk_at dksX0_change_3 6 rfl rfl)
theorem dX0_change_75 : decode cX0_change 75 = .ok (.ifCond .ne 11, 3) := dk_154 0 11 (dk_at dksX0_change_3 7 rfl rfl)
theorem dX0_change_78 : decode cX0_change 78 = .ok (.aload 4, 2) := dk_25 4 (dk_at dksX0_change_3 10 rfl rfl)
theorem dX0_change_80 : decode cX0_change 80 = .ok (.getfield 146, 3) := dk_180 0 146 (dk_at dksX0_change_3 12 rfl rfl)
theorem dX0_change_83 : decode cX0_change 83 = .ok (.goto 4, 3) := dk_167 0 4 (dk_at dksX0_change_3 15 rfl rfl)
theorem dX0_change_86 : decode cX0_change 86 = .ok (.iload_n 3, 1) := dk_29 (dk_at dksX0_change_3 18 rfl rfl)
theorem dX0_change_87 : decode cX0_change 87 = .ok (.invokestatic 158, 3) := dk_184 0 158 (dk_at dksX0_change_3 19 rfl rfl)
theorem dX0_change_90 : decode cX0_change 90 = .ok (.aastore, 1) := dk_83 (dk_at dksX0_change_3 22 rfl rfl)
theorem dX0_change_91 : decode cX0_change 91 = .ok (.iload_n 2, 1) := dk_28 (dk_at dksX0_change_3 23 rfl rfl)
theorem dX0_change_92 : decode cX0_change 92 = .ok (.ifCond .ne 11, 3) := dk_154 0 11 (dk_at dksX0_change_4 0 rfl rfl)
theorem dX0_change_95 : decode cX0_change 95 = .ok (.aload 4, 2) := dk_25 4 (dk_at dksX0_change_4 3 rfl rfl)
theorem dX0_change_97 : decode cX0_change 97 = .ok (.invokevirtual 142, 3) := dk_182 0 142 (dk_at dksX0_change_4 5 rfl rfl)
theorem dX0_change_100 : decode cX0_change 100 = .ok (.goto 8, 3) := dk_167 0 8 (dk_at dksX0_change_4 8 rfl rfl)
theorem dX0_change_103 : decode cX0_change 103 = .ok (.aload 4, 2) := dk_25 4 (dk_at dksX0_change_4 11 rfl rfl)
theorem dX0_change_105 : decode cX0_change 105 = .ok (.getfield 146, 3) := dk_180 0 146 (dk_at dksX0_change_4 13 rfl rfl)
theorem dX0_change_108 : decode cX0_change 108 = .ok (.ireturn, 1) := dk_172 (dk_at dksX0_change_4 16 rfl rfl)
abbrev cX0_count : ByteArray := prog_1_method_15_code
def yX0_count : MethodName := ⟨RX0, "count", "(I)I"⟩
def dkwX0_count_3 : List UInt8 := [180, 0, 10, 180, 0, 171, 172, 42, 180, 0, 174, 172, 16, 254, 172]
abbrev dktX0_count_3 : List UInt8 := dkwX0_count_3 ++ []
def dkwX0_count_2 : List UInt8 := [42, 180, 0, 10, 180, 0, 115, 172, 42, 182, 0, 162, 172, 42, 182, 0, 165, 172, 42, 180, 0, 168, 172, 42]
abbrev dktX0_count_2 : List UInt8 := dkwX0_count_2 ++ dktX0_count_3
def dkwX0_count_1 : List UInt8 := [170, 0, 0, 0, 0, 0, 75, 0, 0, 0, 0, 0, 0, 0, 5, 0, 0, 0, 39, 0, 0, 0, 47, 0, 0, 0, 52, 0, 0, 0, 57, 0, 0, 0, 62, 0, 0, 0, 70]
abbrev dktX0_count_1 : List UInt8 := dkwX0_count_1 ++ dktX0_count_2
def dkwX0_count_0 : List UInt8 := [27]
abbrev dktX0_count_0 : List UInt8 := dkwX0_count_0 ++ dktX0_count_1
theorem dksX0_count_0 : cX0_count.data.toList.drop 0 = dktX0_count_0 := by decide +kernel
theorem dksX0_count_1 : cX0_count.data.toList.drop 1 = dktX0_count_1 := dk_seg dksX0_count_0 1 rfl rfl
theorem dksX0_count_2 : cX0_count.data.toList.drop 40 = dktX0_count_2 := dk_seg dksX0_count_1 39 rfl rfl
theorem dksX0_count_3 : cX0_count.data.toList.drop 64 = dktX0_count_3 := dk_seg dksX0_count_2 24 rfl rfl
theorem dX0_count_0 : decode cX0_count 0 = .ok (.iload_n 1, 1) := dk_27 (dk_at dksX0_count_0 0 rfl rfl)
theorem dX0_count_1 : decode cX0_count 1 = .ok (.tableswitch 75 0 5 #[39, 47, 52, 57, 62, 70], 39) := by decide +kernel
theorem dX0_count_40 : decode cX0_count 40 = .ok (.aload_n 0, 1) := dk_42 (dk_at dksX0_count_2 0 rfl rfl)
theorem dX0_count_41 : decode cX0_count 41 = .ok (.getfield 10, 3) := dk_180 0 10 (dk_at dksX0_count_2 1 rfl rfl)
theorem dX0_count_44 : decode cX0_count 44 = .ok (.getfield 115, 3) := dk_180 0 115 (dk_at dksX0_count_2 4 rfl rfl)
theorem dX0_count_47 : decode cX0_count 47 = .ok (.ireturn, 1) := dk_172 (dk_at dksX0_count_2 7 rfl rfl)
theorem dX0_count_48 : decode cX0_count 48 = .ok (.aload_n 0, 1) := dk_42 (dk_at dksX0_count_2 8 rfl rfl)
theorem dX0_count_49 : decode cX0_count 49 = .ok (.invokevirtual 162, 3) := dk_182 0 162 (dk_at dksX0_count_2 9 rfl rfl)
theorem dX0_count_52 : decode cX0_count 52 = .ok (.ireturn, 1) := dk_172 (dk_at dksX0_count_2 12 rfl rfl)
theorem dX0_count_53 : decode cX0_count 53 = .ok (.aload_n 0, 1) := dk_42 (dk_at dksX0_count_2 13 rfl rfl)
theorem dX0_count_54 : decode cX0_count 54 = .ok (.invokevirtual 165, 3) := dk_182 0 165 (dk_at dksX0_count_2 14 rfl rfl)
theorem dX0_count_57 : decode cX0_count 57 = .ok (.ireturn, 1) := dk_172 (dk_at dksX0_count_2 17 rfl rfl)
theorem dX0_count_58 : decode cX0_count 58 = .ok (.aload_n 0, 1) := dk_42 (dk_at dksX0_count_2 18 rfl rfl)
theorem dX0_count_59 : decode cX0_count 59 = .ok (.getfield 168, 3) := dk_180 0 168 (dk_at dksX0_count_2 19 rfl rfl)
theorem dX0_count_62 : decode cX0_count 62 = .ok (.ireturn, 1) := dk_172 (dk_at dksX0_count_2 22 rfl rfl)
theorem dX0_count_63 : decode cX0_count 63 = .ok (.aload_n 0, 1) := dk_42 (dk_at dksX0_count_2 23 rfl rfl)
theorem dX0_count_64 : decode cX0_count 64 = .ok (.getfield 10, 3) := dk_180 0 10 (dk_at dksX0_count_3 0 rfl rfl)
theorem dX0_count_67 : decode cX0_count 67 = .ok (.getfield 171, 3) := dk_180 0 171 (dk_at dksX0_count_3 3 rfl rfl)
theorem dX0_count_70 : decode cX0_count 70 = .ok (.ireturn, 1) := dk_172 (dk_at dksX0_count_3 6 rfl rfl)
theorem dX0_count_71 : decode cX0_count 71 = .ok (.aload_n 0, 1) := dk_42 (dk_at dksX0_count_3 7 rfl rfl)
theorem dX0_count_72 : decode cX0_count 72 = .ok (.getfield 174, 3) := dk_180 0 174 (dk_at dksX0_count_3 8 rfl rfl)
theorem dX0_count_75 : decode cX0_count 75 = .ok (.ireturn, 1) := dk_172 (dk_at dksX0_count_3 11 rfl rfl)
theorem dX0_count_76 : decode cX0_count 76 = .ok (.bipush (-2), 2) := dk_16 254 (dk_at dksX0_count_3 12 rfl rfl)
theorem dX0_count_78 : decode cX0_count 78 = .ok (.ireturn, 1) := dk_172 (dk_at dksX0_count_3 14 rfl rfl)
abbrev cX0_lineCount : ByteArray := prog_1_method_13_code
def yX0_lineCount : MethodName := ⟨RX0, "lineCount", "()I"⟩
def dkwX0_lineCount_1 : List UInt8 := [46, 184, 0, 155, 96, 60, 132, 2, 1, 167, 255, 227, 27, 5, 108, 172]
abbrev dktX0_lineCount_1 : List UInt8 := dkwX0_lineCount_1 ++ []
def dkwX0_lineCount_0 : List UInt8 := [3, 60, 3, 61, 28, 42, 180, 0, 10, 180, 0, 115, 162, 0, 24, 27, 42, 180, 0, 10, 180, 0, 152, 28]
abbrev dktX0_lineCount_0 : List UInt8 := dkwX0_lineCount_0 ++ dktX0_lineCount_1
theorem dksX0_lineCount_0 : cX0_lineCount.data.toList.drop 0 = dktX0_lineCount_0 := by decide +kernel
theorem dksX0_lineCount_1 : cX0_lineCount.data.toList.drop 24 = dktX0_lineCount_1 := dk_seg dksX0_lineCount_0 24 rfl rfl
theorem dX0_lineCount_0 : decode cX0_lineCount 0 = .ok (.iconst 0, 1) := dk_3 (dk_at dksX0_lineCount_0 0 rfl rfl)
theorem dX0_lineCount_1 : decode cX0_lineCount 1 = .ok (.istore_n 1, 1) := dk_60 (dk_at dksX0_lineCount_0 1 rfl rfl)
theorem dX0_lineCount_2 : decode cX0_lineCount 2 = .ok (.iconst 0, 1) := dk_3 (dk_at dksX0_lineCount_0 2 rfl rfl)
theorem dX0_lineCount_3 : decode cX0_lineCount 3 = .ok (.istore_n 2, 1) := dk_61 (dk_at dksX0_lineCount_0 3 rfl rfl)
theorem dX0_lineCount_4 : decode cX0_lineCount 4 = .ok (.iload_n 2, 1) := dk_28 (dk_at dksX0_lineCount_0 4 rfl rfl)
theorem dX0_lineCount_5 : decode cX0_lineCount 5 = .ok (.aload_n 0, 1) := dk_42 (dk_at dksX0_lineCount_0 5 rfl rfl)
theorem dX0_lineCount_6 : decode cX0_lineCount 6 = .ok (.getfield 10, 3) := dk_180 0 10 (dk_at dksX0_lineCount_0 6 rfl rfl)
theorem dX0_lineCount_9 : decode cX0_lineCount 9 = .ok (.getfield 115, 3) := dk_180 0 115 (dk_at dksX0_lineCount_0 9 rfl rfl)
theorem dX0_lineCount_12 : decode cX0_lineCount 12 = .ok (.if_icmp .ge 24, 3) := dk_162 0 24 (dk_at dksX0_lineCount_0 12 rfl rfl)
theorem dX0_lineCount_15 : decode cX0_lineCount 15 = .ok (.iload_n 1, 1) := dk_27 (dk_at dksX0_lineCount_0 15 rfl rfl)
theorem dX0_lineCount_16 : decode cX0_lineCount 16 = .ok (.aload_n 0, 1) := dk_42 (dk_at dksX0_lineCount_0 16 rfl rfl)
theorem dX0_lineCount_17 : decode cX0_lineCount 17 = .ok (.getfield 10, 3) := dk_180 0 10 (dk_at dksX0_lineCount_0 17 rfl rfl)
theorem dX0_lineCount_20 : decode cX0_lineCount 20 = .ok (.getfield 152, 3) := dk_180 0 152 (dk_at dksX0_lineCount_0 20 rfl rfl)
theorem dX0_lineCount_23 : decode cX0_lineCount 23 = .ok (.iload_n 2, 1) := dk_28 (dk_at dksX0_lineCount_0 23 rfl rfl)
theorem dX0_lineCount_24 : decode cX0_lineCount 24 = .ok (.iaload, 1) := dk_46 (dk_at dksX0_lineCount_1 0 rfl rfl)
theorem dX0_lineCount_25 : decode cX0_lineCount 25 = .ok (.invokestatic 155, 3) := dk_184 0 155 (dk_at dksX0_lineCount_1 1 rfl rfl)
theorem dX0_lineCount_28 : decode cX0_lineCount 28 = .ok (.iadd, 1) := dk_96 (dk_at dksX0_lineCount_1 4 rfl rfl)
theorem dX0_lineCount_29 : decode cX0_lineCount 29 = .ok (.istore_n 1, 1) := dk_60 (dk_at dksX0_lineCount_1 5 rfl rfl)
theorem dX0_lineCount_30 : decode cX0_lineCount 30 = .ok (.iinc 2 1, 3) := dk_132 2 1 (dk_at dksX0_lineCount_1 6 rfl rfl)
theorem dX0_lineCount_33 : decode cX0_lineCount 33 = .ok (.goto (-29), 3) := dk_167 255 227 (dk_at dksX0_lineCount_1 9 rfl rfl)
theorem dX0_lineCount_36 : decode cX0_lineCount 36 = .ok (.iload_n 1, 1) := dk_27 (dk_at dksX0_lineCount_1 12 rfl rfl)
theorem dX0_lineCount_37 : decode cX0_lineCount 37 = .ok (.iconst 2, 1) := dk_5 (dk_at dksX0_lineCount_1 13 rfl rfl)
theorem dX0_lineCount_38 : decode cX0_lineCount 38 = .ok (.idiv, 1) := dk_108 (dk_at dksX0_lineCount_1 14 rfl rfl)
theorem dX0_lineCount_39 : decode cX0_lineCount 39 = .ok (.ireturn, 1) := dk_172 (dk_at dksX0_lineCount_1 15 rfl rfl)
abbrev cX0_lonely : ByteArray := prog_1_method_14_code
def yX0_lonely : MethodName := ⟨RX0, "lonely", "()I"⟩
def dkwX0_lonely_1 : List UInt8 := [46, 154, 0, 7, 4, 167, 0, 4, 3, 96, 60, 132, 2, 1, 167, 255, 222, 27, 172]
abbrev dktX0_lonely_1 : List UInt8 := dkwX0_lonely_1 ++ []
def dkwX0_lonely_0 : List UInt8 := [3, 60, 3, 61, 28, 42, 180, 0, 10, 180, 0, 115, 162, 0, 29, 27, 42, 180, 0, 10, 180, 0, 152, 28]
abbrev dktX0_lonely_0 : List UInt8 := dkwX0_lonely_0 ++ dktX0_lonely_1
theorem dksX0_lonely_0 : cX0_lonely.data.toList.drop 0 = dktX0_lonely_0 := by decide +kernel
theorem dksX0_lonely_1 : cX0_lonely.data.toList.drop 24 = dktX0_lonely_1 := dk_seg dksX0_lonely_0 24 rfl rfl
theorem dX0_lonely_0 : decode cX0_lonely 0 = .ok (.iconst 0, 1) := dk_3 (dk_at dksX0_lonely_0 0 rfl rfl)
theorem dX0_lonely_1 : decode cX0_lonely 1 = .ok (.istore_n 1, 1) := dk_60 (dk_at dksX0_lonely_0 1 rfl rfl)
theorem dX0_lonely_2 : decode cX0_lonely 2 = .ok (.iconst 0, 1) := dk_3 (dk_at dksX0_lonely_0 2 rfl rfl)
theorem dX0_lonely_3 : decode cX0_lonely 3 = .ok (.istore_n 2, 1) := dk_61 (dk_at dksX0_lonely_0 3 rfl rfl)
theorem dX0_lonely_4 : decode cX0_lonely 4 = .ok (.iload_n 2, 1) := dk_28 (dk_at dksX0_lonely_0 4 rfl rfl)
theorem dX0_lonely_5 : decode cX0_lonely 5 = .ok (.aload_n 0, 1) := dk_42 (dk_at dksX0_lonely_0 5 rfl rfl)
theorem dX0_lonely_6 : decode cX0_lonely 6 = .ok (.getfield 10, 3) := dk_180 0 10 (dk_at dksX0_lonely_0 6 rfl rfl)
theorem dX0_lonely_9 : decode cX0_lonely 9 = .ok (.getfield 115, 3) := dk_180 0 115 (dk_at dksX0_lonely_0 9 rfl rfl)
theorem dX0_lonely_12 : decode cX0_lonely 12 = .ok (.if_icmp .ge 29, 3) := dk_162 0 29 (dk_at dksX0_lonely_0 12 rfl rfl)
theorem dX0_lonely_15 : decode cX0_lonely 15 = .ok (.iload_n 1, 1) := dk_27 (dk_at dksX0_lonely_0 15 rfl rfl)
theorem dX0_lonely_16 : decode cX0_lonely 16 = .ok (.aload_n 0, 1) := dk_42 (dk_at dksX0_lonely_0 16 rfl rfl)
theorem dX0_lonely_17 : decode cX0_lonely 17 = .ok (.getfield 10, 3) := dk_180 0 10 (dk_at dksX0_lonely_0 17 rfl rfl)
theorem dX0_lonely_20 : decode cX0_lonely 20 = .ok (.getfield 152, 3) := dk_180 0 152 (dk_at dksX0_lonely_0 20 rfl rfl)
theorem dX0_lonely_23 : decode cX0_lonely 23 = .ok (.iload_n 2, 1) := dk_28 (dk_at dksX0_lonely_0 23 rfl rfl)
theorem dX0_lonely_24 : decode cX0_lonely 24 = .ok (.iaload, 1) := dk_46 (dk_at dksX0_lonely_1 0 rfl rfl)
theorem dX0_lonely_25 : decode cX0_lonely 25 = .ok (.ifCond .ne 7, 3) := dk_154 0 7 (dk_at dksX0_lonely_1 1 rfl rfl)
theorem dX0_lonely_28 : decode cX0_lonely 28 = .ok (.iconst 1, 1) := dk_4 (dk_at dksX0_lonely_1 4 rfl rfl)
theorem dX0_lonely_29 : decode cX0_lonely 29 = .ok (.goto 4, 3) := dk_167 0 4 (dk_at dksX0_lonely_1 5 rfl rfl)
theorem dX0_lonely_32 : decode cX0_lonely 32 = .ok (.iconst 0, 1) := dk_3 (dk_at dksX0_lonely_1 8 rfl rfl)
theorem dX0_lonely_33 : decode cX0_lonely 33 = .ok (.iadd, 1) := dk_96 (dk_at dksX0_lonely_1 9 rfl rfl)
theorem dX0_lonely_34 : decode cX0_lonely 34 = .ok (.istore_n 1, 1) := dk_60 (dk_at dksX0_lonely_1 10 rfl rfl)
theorem dX0_lonely_35 : decode cX0_lonely 35 = .ok (.iinc 2 1, 3) := dk_132 2 1 (dk_at dksX0_lonely_1 11 rfl rfl)
theorem dX0_lonely_38 : decode cX0_lonely 38 = .ok (.goto (-34), 3) := dk_167 255 222 (dk_at dksX0_lonely_1 14 rfl rfl)
theorem dX0_lonely_41 : decode cX0_lonely 41 = .ok (.iload_n 1, 1) := dk_27 (dk_at dksX0_lonely_1 17 rfl rfl)
theorem dX0_lonely_42 : decode cX0_lonely 42 = .ok (.ireturn, 1) := dk_172 (dk_at dksX0_lonely_1 18 rfl rfl)
abbrev cX0_isCover : ByteArray := prog_1_method_17_code
def yX0_isCover : MethodName := ⟨RX0, "isCover", "(I)I"⟩
def dkwX0_isCover_1 : List UInt8 := [167, 0, 19, 42, 180, 0, 10, 27, 182, 0, 186, 153, 0, 7, 4, 167, 0, 4, 3, 172]
abbrev dktX0_isCover_1 : List UInt8 := dkwX0_isCover_1 ++ []
def dkwX0_isCover_0 : List UInt8 := [42, 27, 182, 0, 180, 154, 0, 6, 16, 254, 172, 42, 180, 0, 10, 27, 182, 0, 183, 153, 0, 7, 5]
abbrev dktX0_isCover_0 : List UInt8 := dkwX0_isCover_0 ++ dktX0_isCover_1
theorem dksX0_isCover_0 : cX0_isCover.data.toList.drop 0 = dktX0_isCover_0 := by decide +kernel
theorem dksX0_isCover_1 : cX0_isCover.data.toList.drop 23 = dktX0_isCover_1 := dk_seg dksX0_isCover_0 23 rfl rfl
theorem dX0_isCover_0 : decode cX0_isCover 0 = .ok (.aload_n 0, 1) := dk_42 (dk_at dksX0_isCover_0 0 rfl rfl)
theorem dX0_isCover_1 : decode cX0_isCover 1 = .ok (.iload_n 1, 1) := dk_27 (dk_at dksX0_isCover_0 1 rfl rfl)
theorem dX0_isCover_2 : decode cX0_isCover 2 = .ok (.invokevirtual 180, 3) := dk_182 0 180 (dk_at dksX0_isCover_0 2 rfl rfl)
theorem dX0_isCover_5 : decode cX0_isCover 5 = .ok (.ifCond .ne 6, 3) := dk_154 0 6 (dk_at dksX0_isCover_0 5 rfl rfl)
theorem dX0_isCover_8 : decode cX0_isCover 8 = .ok (.bipush (-2), 2) := dk_16 254 (dk_at dksX0_isCover_0 8 rfl rfl)
theorem dX0_isCover_10 : decode cX0_isCover 10 = .ok (.ireturn, 1) := dk_172 (dk_at dksX0_isCover_0 10 rfl rfl)
theorem dX0_isCover_11 : decode cX0_isCover 11 = .ok (.aload_n 0, 1) := dk_42 (dk_at dksX0_isCover_0 11 rfl rfl)
theorem dX0_isCover_12 : decode cX0_isCover 12 = .ok (.getfield 10, 3) := dk_180 0 10 (dk_at dksX0_isCover_0 12 rfl rfl)
theorem dX0_isCover_15 : decode cX0_isCover 15 = .ok (.iload_n 1, 1) := dk_27 (dk_at dksX0_isCover_0 15 rfl rfl)
theorem dX0_isCover_16 : decode cX0_isCover 16 = .ok (.invokevirtual 183, 3) := dk_182 0 183 (dk_at dksX0_isCover_0 16 rfl rfl)
theorem dX0_isCover_19 : decode cX0_isCover 19 = .ok (.ifCond .eq 7, 3) := dk_153 0 7 (dk_at dksX0_isCover_0 19 rfl rfl)
theorem dX0_isCover_22 : decode cX0_isCover 22 = .ok (.iconst 2, 1) := dk_5 (dk_at dksX0_isCover_0 22 rfl rfl)
theorem dX0_isCover_23 : decode cX0_isCover 23 = .ok (.goto 19, 3) := dk_167 0 19 (dk_at dksX0_isCover_1 0 rfl rfl)
theorem dX0_isCover_26 : decode cX0_isCover 26 = .ok (.aload_n 0, 1) := dk_42 (dk_at dksX0_isCover_1 3 rfl rfl)
theorem dX0_isCover_27 : decode cX0_isCover 27 = .ok (.getfield 10, 3) := dk_180 0 10 (dk_at dksX0_isCover_1 4 rfl rfl)
theorem dX0_isCover_30 : decode cX0_isCover 30 = .ok (.iload_n 1, 1) := dk_27 (dk_at dksX0_isCover_1 7 rfl rfl)
theorem dX0_isCover_31 : decode cX0_isCover 31 = .ok (.invokevirtual 186, 3) := dk_182 0 186 (dk_at dksX0_isCover_1 8 rfl rfl)
theorem dX0_isCover_34 : decode cX0_isCover 34 = .ok (.ifCond .eq 7, 3) := dk_153 0 7 (dk_at dksX0_isCover_1 11 rfl rfl)
theorem dX0_isCover_37 : decode cX0_isCover 37 = .ok (.iconst 1, 1) := dk_4 (dk_at dksX0_isCover_1 14 rfl rfl)
theorem dX0_isCover_38 : decode cX0_isCover 38 = .ok (.goto 4, 3) := dk_167 0 4 (dk_at dksX0_isCover_1 15 rfl rfl)
theorem dX0_isCover_41 : decode cX0_isCover 41 = .ok (.iconst 0, 1) := dk_3 (dk_at dksX0_isCover_1 18 rfl rfl)
theorem dX0_isCover_42 : decode cX0_isCover 42 = .ok (.ireturn, 1) := dk_172 (dk_at dksX0_isCover_1 19 rfl rfl)
abbrev cX0_areSet : ByteArray := prog_1_method_16_code
def yX0_areSet : MethodName := ⟨RX0, "areSet", "(I)Z"⟩
def dkwX0_areSet_0 : List UInt8 := [27, 3, 42, 180, 0, 10, 182, 0, 177, 184, 0, 111, 172]
abbrev dktX0_areSet_0 : List UInt8 := dkwX0_areSet_0 ++ []
theorem dksX0_areSet_0 : cX0_areSet.data.toList.drop 0 = dktX0_areSet_0 := by decide +kernel
theorem dX0_areSet_0 : decode cX0_areSet 0 = .ok (.iload_n 1, 1) := dk_27 (dk_at dksX0_areSet_0 0 rfl rfl)
theorem dX0_areSet_1 : decode cX0_areSet 1 = .ok (.iconst 0, 1) := dk_3 (dk_at dksX0_areSet_0 1 rfl rfl)
theorem dX0_areSet_2 : decode cX0_areSet 2 = .ok (.aload_n 0, 1) := dk_42 (dk_at dksX0_areSet_0 2 rfl rfl)
theorem dX0_areSet_3 : decode cX0_areSet 3 = .ok (.getfield 10, 3) := dk_180 0 10 (dk_at dksX0_areSet_0 3 rfl rfl)
theorem dX0_areSet_6 : decode cX0_areSet 6 = .ok (.invokevirtual 177, 3) := dk_182 0 177 (dk_at dksX0_areSet_0 6 rfl rfl)
theorem dX0_areSet_9 : decode cX0_areSet 9 = .ok (.invokestatic 111, 3) := dk_184 0 111 (dk_at dksX0_areSet_0 9 rfl rfl)
theorem dX0_areSet_12 : decode cX0_areSet 12 = .ok (.ireturn, 1) := dk_172 (dk_at dksX0_areSet_0 12 rfl rfl)
abbrev cX0_costOf : ByteArray := prog_1_method_18_code
def yX0_costOf : MethodName := ⟨RX0, "costOf", "(I)I"⟩
def dkwX0_costOf_0 : List UInt8 := [42, 27, 182, 0, 180, 153, 0, 14, 42, 180, 0, 10, 27, 182, 0, 189, 167, 0, 5, 16, 254, 172]
abbrev dktX0_costOf_0 : List UInt8 := dkwX0_costOf_0 ++ []
theorem dksX0_costOf_0 : cX0_costOf.data.toList.drop 0 = dktX0_costOf_0 := by decide +kernel
theorem dX0_costOf_0 : decode cX0_costOf 0 = .ok (.aload_n 0, 1) := dk_42 (dk_at dksX0_costOf_0 0 rfl rfl)
theorem dX0_costOf_1 : decode cX0_costOf 1 = .ok (.iload_n 1, 1) := dk_27 (dk_at dksX0_costOf_0 1 rfl rfl)
theorem dX0_costOf_2 : decode cX0_costOf 2 = .ok (.invokevirtual 180, 3) := dk_182 0 180 (dk_at dksX0_costOf_0 2 rfl rfl)
theorem dX0_costOf_5 : decode cX0_costOf 5 = .ok (.ifCond .eq 14, 3) := dk_153 0 14 (dk_at dksX0_costOf_0 5 rfl rfl)
theorem dX0_costOf_8 : decode cX0_costOf 8 = .ok (.aload_n 0, 1) := dk_42 (dk_at dksX0_costOf_0 8 rfl rfl)
theorem dX0_costOf_9 : decode cX0_costOf 9 = .ok (.getfield 10, 3) := dk_180 0 10 (dk_at dksX0_costOf_0 9 rfl rfl)
theorem dX0_costOf_12 : decode cX0_costOf 12 = .ok (.iload_n 1, 1) := dk_27 (dk_at dksX0_costOf_0 12 rfl rfl)
theorem dX0_costOf_13 : decode cX0_costOf 13 = .ok (.invokevirtual 189, 3) := dk_182 0 189 (dk_at dksX0_costOf_0 13 rfl rfl)
theorem dX0_costOf_16 : decode cX0_costOf 16 = .ok (.goto 5, 3) := dk_167 0 5 (dk_at dksX0_costOf_0 16 rfl rfl)
theorem dX0_costOf_19 : decode cX0_costOf 19 = .ok (.bipush (-2), 2) := dk_16 254 (dk_at dksX0_costOf_0 19 rfl rfl)
theorem dX0_costOf_21 : decode cX0_costOf 21 = .ok (.ireturn, 1) := dk_172 (dk_at dksX0_costOf_0 21 rfl rfl)
abbrev cX0_fewest : ByteArray := prog_1_method_21_code
def yX0_fewest : MethodName := ⟨RX0, "fewest", "(I)I"⟩
def dkwX0_fewest_3 : List UInt8 := [180, 0, 10, 182, 0, 177, 44, 180, 0, 228, 2, 130, 126, 172]
abbrev dktX0_fewest_3 : List UInt8 := dkwX0_fewest_3 ++ []
def dkwX0_fewest_2 : List UInt8 := [160, 0, 10, 44, 180, 0, 222, 167, 0, 29, 27, 6, 160, 0, 10, 44, 180, 0, 225, 167, 0, 17, 42]
abbrev dktX0_fewest_2 : List UInt8 := dkwX0_fewest_2 ++ dktX0_fewest_3
def dkwX0_fewest_1 : List UInt8 := [154, 0, 10, 44, 180, 0, 216, 167, 0, 53, 27, 4, 160, 0, 10, 44, 180, 0, 219, 167, 0, 41, 27, 5]
abbrev dktX0_fewest_1 : List UInt8 := dkwX0_fewest_1 ++ dktX0_fewest_2
def dkwX0_fewest_0 : List UInt8 := [27, 3, 7, 184, 0, 111, 154, 0, 6, 16, 254, 172, 42, 186, 0, 208, 0, 0, 182, 0, 212, 77, 27]
abbrev dktX0_fewest_0 : List UInt8 := dkwX0_fewest_0 ++ dktX0_fewest_1
theorem dksX0_fewest_0 : cX0_fewest.data.toList.drop 0 = dktX0_fewest_0 := by decide +kernel
theorem dksX0_fewest_1 : cX0_fewest.data.toList.drop 23 = dktX0_fewest_1 := dk_seg dksX0_fewest_0 23 rfl rfl
theorem dksX0_fewest_2 : cX0_fewest.data.toList.drop 47 = dktX0_fewest_2 := dk_seg dksX0_fewest_1 24 rfl rfl
theorem dksX0_fewest_3 : cX0_fewest.data.toList.drop 70 = dktX0_fewest_3 := dk_seg dksX0_fewest_2 23 rfl rfl
theorem dX0_fewest_0 : decode cX0_fewest 0 = .ok (.iload_n 1, 1) := dk_27 (dk_at dksX0_fewest_0 0 rfl rfl)
theorem dX0_fewest_1 : decode cX0_fewest 1 = .ok (.iconst 0, 1) := dk_3 (dk_at dksX0_fewest_0 1 rfl rfl)
theorem dX0_fewest_2 : decode cX0_fewest 2 = .ok (.iconst 4, 1) := dk_7 (dk_at dksX0_fewest_0 2 rfl rfl)
theorem dX0_fewest_3 : decode cX0_fewest 3 = .ok (.invokestatic 111, 3) := dk_184 0 111 (dk_at dksX0_fewest_0 3 rfl rfl)
theorem dX0_fewest_6 : decode cX0_fewest 6 = .ok (.ifCond .ne 6, 3) := dk_154 0 6 (dk_at dksX0_fewest_0 6 rfl rfl)
theorem dX0_fewest_9 : decode cX0_fewest 9 = .ok (.bipush (-2), 2) := dk_16 254 (dk_at dksX0_fewest_0 9 rfl rfl)
theorem dX0_fewest_11 : decode cX0_fewest 11 = .ok (.ireturn, 1) := dk_172 (dk_at dksX0_fewest_0 11 rfl rfl)
theorem dX0_fewest_12 : decode cX0_fewest 12 = .ok (.aload_n 0, 1) := dk_42 (dk_at dksX0_fewest_0 12 rfl rfl)
theorem dX0_fewest_13 : decode cX0_fewest 13 = .ok (.invokedynamic 208, 5) := by decide +kernel
theorem dX0_fewest_18 : decode cX0_fewest 18 = .ok (.invokevirtual 212, 3) := dk_182 0 212 (dk_at dksX0_fewest_0 18 rfl rfl)
theorem dX0_fewest_21 : decode cX0_fewest 21 = .ok (.astore_n 2, 1) := dk_77 (dk_at dksX0_fewest_0 21 rfl rfl)
theorem dX0_fewest_22 : decode cX0_fewest 22 = .ok (.iload_n 1, 1) := dk_27 (dk_at dksX0_fewest_0 22 rfl rfl)
theorem dX0_fewest_23 : decode cX0_fewest 23 = .ok (.ifCond .ne 10, 3) := dk_154 0 10 (dk_at dksX0_fewest_1 0 rfl rfl)
theorem dX0_fewest_26 : decode cX0_fewest 26 = .ok (.aload_n 2, 1) := dk_44 (dk_at dksX0_fewest_1 3 rfl rfl)
theorem dX0_fewest_27 : decode cX0_fewest 27 = .ok (.getfield 216, 3) := dk_180 0 216 (dk_at dksX0_fewest_1 4 rfl rfl)
theorem dX0_fewest_30 : decode cX0_fewest 30 = .ok (.goto 53, 3) := dk_167 0 53 (dk_at dksX0_fewest_1 7 rfl rfl)
theorem dX0_fewest_33 : decode cX0_fewest 33 = .ok (.iload_n 1, 1) := dk_27 (dk_at dksX0_fewest_1 10 rfl rfl)
theorem dX0_fewest_34 : decode cX0_fewest 34 = .ok (.iconst 1, 1) := dk_4 (dk_at dksX0_fewest_1 11 rfl rfl)
theorem dX0_fewest_35 : decode cX0_fewest 35 = .ok (.if_icmp .ne 10, 3) := dk_160 0 10 (dk_at dksX0_fewest_1 12 rfl rfl)
theorem dX0_fewest_38 : decode cX0_fewest 38 = .ok (.aload_n 2, 1) := dk_44 (dk_at dksX0_fewest_1 15 rfl rfl)
theorem dX0_fewest_39 : decode cX0_fewest 39 = .ok (.getfield 219, 3) := dk_180 0 219 (dk_at dksX0_fewest_1 16 rfl rfl)
theorem dX0_fewest_42 : decode cX0_fewest 42 = .ok (.goto 41, 3) := dk_167 0 41 (dk_at dksX0_fewest_1 19 rfl rfl)
theorem dX0_fewest_45 : decode cX0_fewest 45 = .ok (.iload_n 1, 1) := dk_27 (dk_at dksX0_fewest_1 22 rfl rfl)
theorem dX0_fewest_46 : decode cX0_fewest 46 = .ok (.iconst 2, 1) := dk_5 (dk_at dksX0_fewest_1 23 rfl rfl)
theorem dX0_fewest_47 : decode cX0_fewest 47 = .ok (.if_icmp .ne 10, 3) := dk_160 0 10 (dk_at dksX0_fewest_2 0 rfl rfl)
theorem dX0_fewest_50 : decode cX0_fewest 50 = .ok (.aload_n 2, 1) := dk_44 (dk_at dksX0_fewest_2 3 rfl rfl)
theorem dX0_fewest_51 : decode cX0_fewest 51 = .ok (.getfield 222, 3) := dk_180 0 222 (dk_at dksX0_fewest_2 4 rfl rfl)
theorem dX0_fewest_54 : decode cX0_fewest 54 = .ok (.goto 29, 3) := dk_167 0 29 (dk_at dksX0_fewest_2 7 rfl rfl)
theorem dX0_fewest_57 : decode cX0_fewest 57 = .ok (.iload_n 1, 1) := dk_27 (dk_at dksX0_fewest_2 10 rfl rfl)
theorem dX0_fewest_58 : decode cX0_fewest 58 = .ok (.iconst 3, 1) := dk_6 (dk_at dksX0_fewest_2 11 rfl rfl)
theorem dX0_fewest_59 : decode cX0_fewest 59 = .ok (.if_icmp .ne 10, 3) := dk_160 0 10 (dk_at dksX0_fewest_2 12 rfl rfl)
theorem dX0_fewest_62 : decode cX0_fewest 62 = .ok (.aload_n 2, 1) := dk_44 (dk_at dksX0_fewest_2 15 rfl rfl)
theorem dX0_fewest_63 : decode cX0_fewest 63 = .ok (.getfield 225, 3) := dk_180 0 225 (dk_at dksX0_fewest_2 16 rfl rfl)
theorem dX0_fewest_66 : decode cX0_fewest 66 = .ok (.goto 17, 3) := dk_167 0 17 (dk_at dksX0_fewest_2 19 rfl rfl)
theorem dX0_fewest_69 : decode cX0_fewest 69 = .ok (.aload_n 0, 1) := dk_42 (dk_at dksX0_fewest_2 22 rfl rfl)
theorem dX0_fewest_70 : decode cX0_fewest 70 = .ok (.getfield 10, 3) := dk_180 0 10 (dk_at dksX0_fewest_3 0 rfl rfl)
theorem dX0_fewest_73 : decode cX0_fewest 73 = .ok (.invokevirtual 177, 3) := dk_182 0 177 (dk_at dksX0_fewest_3 3 rfl rfl)
theorem dX0_fewest_76 : decode cX0_fewest 76 = .ok (.aload_n 2, 1) := dk_44 (dk_at dksX0_fewest_3 6 rfl rfl)
theorem dX0_fewest_77 : decode cX0_fewest 77 = .ok (.getfield 228, 3) := dk_180 0 228 (dk_at dksX0_fewest_3 7 rfl rfl)
theorem dX0_fewest_80 : decode cX0_fewest 80 = .ok (.iconst (-1), 1) := dk_2 (dk_at dksX0_fewest_3 10 rfl rfl)
theorem dX0_fewest_81 : decode cX0_fewest 81 = .ok (.ixor, 1) := dk_130 (dk_at dksX0_fewest_3 11 rfl rfl)
theorem dX0_fewest_82 : decode cX0_fewest 82 = .ok (.iand, 1) := dk_126 (dk_at dksX0_fewest_3 12 rfl rfl)
theorem dX0_fewest_83 : decode cX0_fewest 83 = .ok (.ireturn, 1) := dk_172 (dk_at dksX0_fewest_3 13 rfl rfl)
abbrev cX0_cheapest : ByteArray := prog_1_method_19_code
def yX0_cheapest : MethodName := ⟨RX0, "cheapest", "(LLinesTouched$Worth;)LLinesTouched$Cheapest;"⟩
def dkwX0_cheapest_0 : List UInt8 := [187, 0, 192, 89, 42, 180, 0, 10, 43, 183, 0, 194, 77, 44, 182, 0, 197, 44, 176]
abbrev dktX0_cheapest_0 : List UInt8 := dkwX0_cheapest_0 ++ []
theorem dksX0_cheapest_0 : cX0_cheapest.data.toList.drop 0 = dktX0_cheapest_0 := by decide +kernel
theorem dX0_cheapest_0 : decode cX0_cheapest 0 = .ok (.new 192, 3) := dk_187 0 192 (dk_at dksX0_cheapest_0 0 rfl rfl)
theorem dX0_cheapest_3 : decode cX0_cheapest 3 = .ok (.dup, 1) := dk_89 (dk_at dksX0_cheapest_0 3 rfl rfl)
theorem dX0_cheapest_4 : decode cX0_cheapest 4 = .ok (.aload_n 0, 1) := dk_42 (dk_at dksX0_cheapest_0 4 rfl rfl)
theorem dX0_cheapest_5 : decode cX0_cheapest 5 = .ok (.getfield 10, 3) := dk_180 0 10 (dk_at dksX0_cheapest_0 5 rfl rfl)
theorem dX0_cheapest_8 : decode cX0_cheapest 8 = .ok (.aload_n 1, 1) := dk_43 (dk_at dksX0_cheapest_0 8 rfl rfl)
theorem dX0_cheapest_9 : decode cX0_cheapest 9 = .ok (.invokespecial 194, 3) := dk_183 0 194 (dk_at dksX0_cheapest_0 9 rfl rfl)
theorem dX0_cheapest_12 : decode cX0_cheapest 12 = .ok (.astore_n 2, 1) := dk_77 (dk_at dksX0_cheapest_0 12 rfl rfl)
theorem dX0_cheapest_13 : decode cX0_cheapest 13 = .ok (.aload_n 2, 1) := dk_44 (dk_at dksX0_cheapest_0 13 rfl rfl)
theorem dX0_cheapest_14 : decode cX0_cheapest 14 = .ok (.invokevirtual 197, 3) := dk_182 0 197 (dk_at dksX0_cheapest_0 14 rfl rfl)
theorem dX0_cheapest_17 : decode cX0_cheapest 17 = .ok (.aload_n 2, 1) := dk_44 (dk_at dksX0_cheapest_0 17 rfl rfl)
theorem dX0_cheapest_18 : decode cX0_cheapest 18 = .ok (.areturn, 1) := dk_176 (dk_at dksX0_cheapest_0 18 rfl rfl)
abbrev cX0_dear : ByteArray := prog_1_method_22_code
def yX0_dear : MethodName := ⟨RX0, "dear", "(I)I"⟩
def dkwX0_dear_2 : List UInt8 := [180, 0, 222, 172]
abbrev dktX0_dear_2 : List UInt8 := dkwX0_dear_2 ++ []
def dkwX0_dear_1 : List UInt8 := [154, 0, 10, 44, 180, 0, 216, 167, 0, 19, 27, 4, 160, 0, 10, 44, 180, 0, 219, 167, 0, 7, 44]
abbrev dktX0_dear_1 : List UInt8 := dkwX0_dear_1 ++ dktX0_dear_2
def dkwX0_dear_0 : List UInt8 := [27, 3, 5, 184, 0, 111, 154, 0, 6, 16, 254, 172, 42, 42, 186, 0, 231, 0, 0, 182, 0, 212, 77, 27]
abbrev dktX0_dear_0 : List UInt8 := dkwX0_dear_0 ++ dktX0_dear_1
theorem dksX0_dear_0 : cX0_dear.data.toList.drop 0 = dktX0_dear_0 := by decide +kernel
theorem dksX0_dear_1 : cX0_dear.data.toList.drop 24 = dktX0_dear_1 := dk_seg dksX0_dear_0 24 rfl rfl
theorem dksX0_dear_2 : cX0_dear.data.toList.drop 47 = dktX0_dear_2 := dk_seg dksX0_dear_1 23 rfl rfl
theorem dX0_dear_0 : decode cX0_dear 0 = .ok (.iload_n 1, 1) := dk_27 (dk_at dksX0_dear_0 0 rfl rfl)
theorem dX0_dear_1 : decode cX0_dear 1 = .ok (.iconst 0, 1) := dk_3 (dk_at dksX0_dear_0 1 rfl rfl)
theorem dX0_dear_2 : decode cX0_dear 2 = .ok (.iconst 2, 1) := dk_5 (dk_at dksX0_dear_0 2 rfl rfl)
theorem dX0_dear_3 : decode cX0_dear 3 = .ok (.invokestatic 111, 3) := dk_184 0 111 (dk_at dksX0_dear_0 3 rfl rfl)
theorem dX0_dear_6 : decode cX0_dear 6 = .ok (.ifCond .ne 6, 3) := dk_154 0 6 (dk_at dksX0_dear_0 6 rfl rfl)
theorem dX0_dear_9 : decode cX0_dear 9 = .ok (.bipush (-2), 2) := dk_16 254 (dk_at dksX0_dear_0 9 rfl rfl)
theorem dX0_dear_11 : decode cX0_dear 11 = .ok (.ireturn, 1) := dk_172 (dk_at dksX0_dear_0 11 rfl rfl)
theorem dX0_dear_12 : decode cX0_dear 12 = .ok (.aload_n 0, 1) := dk_42 (dk_at dksX0_dear_0 12 rfl rfl)
theorem dX0_dear_13 : decode cX0_dear 13 = .ok (.aload_n 0, 1) := dk_42 (dk_at dksX0_dear_0 13 rfl rfl)
theorem dX0_dear_14 : decode cX0_dear 14 = .ok (.invokedynamic 231, 5) := by decide +kernel
theorem dX0_dear_19 : decode cX0_dear 19 = .ok (.invokevirtual 212, 3) := dk_182 0 212 (dk_at dksX0_dear_0 19 rfl rfl)
theorem dX0_dear_22 : decode cX0_dear 22 = .ok (.astore_n 2, 1) := dk_77 (dk_at dksX0_dear_0 22 rfl rfl)
theorem dX0_dear_23 : decode cX0_dear 23 = .ok (.iload_n 1, 1) := dk_27 (dk_at dksX0_dear_0 23 rfl rfl)
theorem dX0_dear_24 : decode cX0_dear 24 = .ok (.ifCond .ne 10, 3) := dk_154 0 10 (dk_at dksX0_dear_1 0 rfl rfl)
theorem dX0_dear_27 : decode cX0_dear 27 = .ok (.aload_n 2, 1) := dk_44 (dk_at dksX0_dear_1 3 rfl rfl)
theorem dX0_dear_28 : decode cX0_dear 28 = .ok (.getfield 216, 3) := dk_180 0 216 (dk_at dksX0_dear_1 4 rfl rfl)
theorem dX0_dear_31 : decode cX0_dear 31 = .ok (.goto 19, 3) := dk_167 0 19 (dk_at dksX0_dear_1 7 rfl rfl)
theorem dX0_dear_34 : decode cX0_dear 34 = .ok (.iload_n 1, 1) := dk_27 (dk_at dksX0_dear_1 10 rfl rfl)
theorem dX0_dear_35 : decode cX0_dear 35 = .ok (.iconst 1, 1) := dk_4 (dk_at dksX0_dear_1 11 rfl rfl)
theorem dX0_dear_36 : decode cX0_dear 36 = .ok (.if_icmp .ne 10, 3) := dk_160 0 10 (dk_at dksX0_dear_1 12 rfl rfl)
theorem dX0_dear_39 : decode cX0_dear 39 = .ok (.aload_n 2, 1) := dk_44 (dk_at dksX0_dear_1 15 rfl rfl)
theorem dX0_dear_40 : decode cX0_dear 40 = .ok (.getfield 219, 3) := dk_180 0 219 (dk_at dksX0_dear_1 16 rfl rfl)
theorem dX0_dear_43 : decode cX0_dear 43 = .ok (.goto 7, 3) := dk_167 0 7 (dk_at dksX0_dear_1 19 rfl rfl)
theorem dX0_dear_46 : decode cX0_dear 46 = .ok (.aload_n 2, 1) := dk_44 (dk_at dksX0_dear_1 22 rfl rfl)
theorem dX0_dear_47 : decode cX0_dear 47 = .ok (.getfield 222, 3) := dk_180 0 222 (dk_at dksX0_dear_2 0 rfl rfl)
theorem dX0_dear_50 : decode cX0_dear 50 = .ok (.ireturn, 1) := dk_172 (dk_at dksX0_dear_2 3 rfl rfl)
abbrev cX0_lambda_dear_0 : ByteArray := prog_1_method_120_code
def yX0_lambda_dear_0 : MethodName := ⟨RX0, "lambda$dear$0", "(I)I"⟩
def dkwX0_lambda_dear_0_0 : List UInt8 := [42, 180, 0, 10, 27, 182, 0, 189, 172]
abbrev dktX0_lambda_dear_0_0 : List UInt8 := dkwX0_lambda_dear_0_0 ++ []
theorem dksX0_lambda_dear_0_0 : cX0_lambda_dear_0.data.toList.drop 0 = dktX0_lambda_dear_0_0 := by decide +kernel
theorem dX0_lambda_dear_0_0 : decode cX0_lambda_dear_0 0 = .ok (.aload_n 0, 1) := dk_42 (dk_at dksX0_lambda_dear_0_0 0 rfl rfl)
theorem dX0_lambda_dear_0_1 : decode cX0_lambda_dear_0 1 = .ok (.getfield 10, 3) := dk_180 0 10 (dk_at dksX0_lambda_dear_0_0 1 rfl rfl)
theorem dX0_lambda_dear_0_4 : decode cX0_lambda_dear_0 4 = .ok (.iload_n 1, 1) := dk_27 (dk_at dksX0_lambda_dear_0_0 4 rfl rfl)
theorem dX0_lambda_dear_0_5 : decode cX0_lambda_dear_0 5 = .ok (.invokevirtual 189, 3) := dk_182 0 189 (dk_at dksX0_lambda_dear_0_0 5 rfl rfl)
theorem dX0_lambda_dear_0_8 : decode cX0_lambda_dear_0 8 = .ok (.ireturn, 1) := dk_172 (dk_at dksX0_lambda_dear_0_0 8 rfl rfl)
abbrev cX0_sized : ByteArray := prog_1_method_23_code
def yX0_sized : MethodName := ⟨RX0, "sized", "(I)I"⟩
def dkwX0_sized_1 : List UInt8 := [180, 0, 242, 27, 46, 172]
abbrev dktX0_sized_1 : List UInt8 := dkwX0_sized_1 ++ []
def dkwX0_sized_0 : List UInt8 := [27, 3, 16, 12, 184, 0, 111, 154, 0, 6, 16, 254, 172, 42, 186, 0, 234, 0, 0, 182, 0, 238]
abbrev dktX0_sized_0 : List UInt8 := dkwX0_sized_0 ++ dktX0_sized_1
theorem dksX0_sized_0 : cX0_sized.data.toList.drop 0 = dktX0_sized_0 := by decide +kernel
theorem dksX0_sized_1 : cX0_sized.data.toList.drop 22 = dktX0_sized_1 := dk_seg dksX0_sized_0 22 rfl rfl
theorem dX0_sized_0 : decode cX0_sized 0 = .ok (.iload_n 1, 1) := dk_27 (dk_at dksX0_sized_0 0 rfl rfl)
theorem dX0_sized_1 : decode cX0_sized 1 = .ok (.iconst 0, 1) := dk_3 (dk_at dksX0_sized_0 1 rfl rfl)
theorem dX0_sized_2 : decode cX0_sized 2 = .ok (.bipush 12, 2) := dk_16 12 (dk_at dksX0_sized_0 2 rfl rfl)
theorem dX0_sized_4 : decode cX0_sized 4 = .ok (.invokestatic 111, 3) := dk_184 0 111 (dk_at dksX0_sized_0 4 rfl rfl)
theorem dX0_sized_7 : decode cX0_sized 7 = .ok (.ifCond .ne 6, 3) := dk_154 0 6 (dk_at dksX0_sized_0 7 rfl rfl)
theorem dX0_sized_10 : decode cX0_sized 10 = .ok (.bipush (-2), 2) := dk_16 254 (dk_at dksX0_sized_0 10 rfl rfl)
theorem dX0_sized_12 : decode cX0_sized 12 = .ok (.ireturn, 1) := dk_172 (dk_at dksX0_sized_0 12 rfl rfl)
theorem dX0_sized_13 : decode cX0_sized 13 = .ok (.aload_n 0, 1) := dk_42 (dk_at dksX0_sized_0 13 rfl rfl)
theorem dX0_sized_14 : decode cX0_sized 14 = .ok (.invokedynamic 234, 5) := by decide +kernel
theorem dX0_sized_19 : decode cX0_sized 19 = .ok (.invokevirtual 238, 3) := dk_182 0 238 (dk_at dksX0_sized_0 19 rfl rfl)
theorem dX0_sized_22 : decode cX0_sized 22 = .ok (.getfield 242, 3) := dk_180 0 242 (dk_at dksX0_sized_1 0 rfl rfl)
theorem dX0_sized_25 : decode cX0_sized 25 = .ok (.iload_n 1, 1) := dk_27 (dk_at dksX0_sized_1 3 rfl rfl)
theorem dX0_sized_26 : decode cX0_sized 26 = .ok (.iaload, 1) := dk_46 (dk_at dksX0_sized_1 4 rfl rfl)
theorem dX0_sized_27 : decode cX0_sized 27 = .ok (.ireturn, 1) := dk_172 (dk_at dksX0_sized_1 5 rfl rfl)
abbrev cX0_lambda_sized_1 : ByteArray := prog_1_method_119_code
def yX0_lambda_sized_1 : MethodName := ⟨RX0, "lambda$sized$1", "(I)Z"⟩
theorem dX0_lambda_sized_1_0 : decode cX0_lambda_sized_1 0 = .ok (.iconst 1, 1) := by decide +kernel
theorem dX0_lambda_sized_1_1 : decode cX0_lambda_sized_1 1 = .ok (.ireturn, 1) := by decide +kernel
abbrev cX0_picked : ByteArray := prog_1_method_20_code
def yX0_picked : MethodName := ⟨RX0, "picked", "(LLinesTouched$Meant;)LLinesTouched$Counting;"⟩
def dkwX0_picked_0 : List UInt8 := [187, 0, 200, 89, 42, 180, 0, 10, 43, 183, 0, 202, 77, 44, 182, 0, 205, 44, 176]
abbrev dktX0_picked_0 : List UInt8 := dkwX0_picked_0 ++ []
theorem dksX0_picked_0 : cX0_picked.data.toList.drop 0 = dktX0_picked_0 := by decide +kernel
theorem dX0_picked_0 : decode cX0_picked 0 = .ok (.new 200, 3) := dk_187 0 200 (dk_at dksX0_picked_0 0 rfl rfl)
theorem dX0_picked_3 : decode cX0_picked 3 = .ok (.dup, 1) := dk_89 (dk_at dksX0_picked_0 3 rfl rfl)
theorem dX0_picked_4 : decode cX0_picked 4 = .ok (.aload_n 0, 1) := dk_42 (dk_at dksX0_picked_0 4 rfl rfl)
theorem dX0_picked_5 : decode cX0_picked 5 = .ok (.getfield 10, 3) := dk_180 0 10 (dk_at dksX0_picked_0 5 rfl rfl)
theorem dX0_picked_8 : decode cX0_picked 8 = .ok (.aload_n 1, 1) := dk_43 (dk_at dksX0_picked_0 8 rfl rfl)
theorem dX0_picked_9 : decode cX0_picked 9 = .ok (.invokespecial 202, 3) := dk_183 0 202 (dk_at dksX0_picked_0 9 rfl rfl)
theorem dX0_picked_12 : decode cX0_picked 12 = .ok (.astore_n 2, 1) := dk_77 (dk_at dksX0_picked_0 12 rfl rfl)
theorem dX0_picked_13 : decode cX0_picked 13 = .ok (.aload_n 2, 1) := dk_44 (dk_at dksX0_picked_0 13 rfl rfl)
theorem dX0_picked_14 : decode cX0_picked 14 = .ok (.invokevirtual 205, 3) := dk_182 0 205 (dk_at dksX0_picked_0 14 rfl rfl)
theorem dX0_picked_17 : decode cX0_picked 17 = .ok (.aload_n 2, 1) := dk_44 (dk_at dksX0_picked_0 17 rfl rfl)
theorem dX0_picked_18 : decode cX0_picked 18 = .ok (.areturn, 1) := dk_176 (dk_at dksX0_picked_0 18 rfl rfl)
abbrev cX0_bare : ByteArray := prog_1_method_25_code
def yX0_bare : MethodName := ⟨RX0, "bare", "(I)I"⟩
def dkwX0_bare_2 : List UInt8 := [160, 0, 10, 42, 180, 1, 10, 167, 0, 7, 42, 180, 1, 13, 172]
abbrev dktX0_bare_2 : List UInt8 := dkwX0_bare_2 ++ []
def dkwX0_bare_1 : List UInt8 := [187, 0, 251, 89, 183, 1, 21, 182, 1, 3, 27, 154, 0, 10, 42, 180, 1, 7, 167, 0, 19, 27, 4]
abbrev dktX0_bare_1 : List UInt8 := dkwX0_bare_1 ++ dktX0_bare_2
def dkwX0_bare_0 : List UInt8 := [27, 3, 5, 184, 0, 111, 154, 0, 6, 16, 254, 172, 42, 3, 181, 1, 7, 42, 2, 181, 1, 10, 42, 3]
abbrev dktX0_bare_0 : List UInt8 := dkwX0_bare_0 ++ dktX0_bare_1
theorem dksX0_bare_0 : cX0_bare.data.toList.drop 0 = dktX0_bare_0 := by decide +kernel
theorem dksX0_bare_1 : cX0_bare.data.toList.drop 24 = dktX0_bare_1 := dk_seg dksX0_bare_0 24 rfl rfl
theorem dksX0_bare_2 : cX0_bare.data.toList.drop 47 = dktX0_bare_2 := dk_seg dksX0_bare_1 23 rfl rfl
theorem dX0_bare_0 : decode cX0_bare 0 = .ok (.iload_n 1, 1) := dk_27 (dk_at dksX0_bare_0 0 rfl rfl)
theorem dX0_bare_1 : decode cX0_bare 1 = .ok (.iconst 0, 1) := dk_3 (dk_at dksX0_bare_0 1 rfl rfl)
theorem dX0_bare_2 : decode cX0_bare 2 = .ok (.iconst 2, 1) := dk_5 (dk_at dksX0_bare_0 2 rfl rfl)
theorem dX0_bare_3 : decode cX0_bare 3 = .ok (.invokestatic 111, 3) := dk_184 0 111 (dk_at dksX0_bare_0 3 rfl rfl)
theorem dX0_bare_6 : decode cX0_bare 6 = .ok (.ifCond .ne 6, 3) := dk_154 0 6 (dk_at dksX0_bare_0 6 rfl rfl)
theorem dX0_bare_9 : decode cX0_bare 9 = .ok (.bipush (-2), 2) := dk_16 254 (dk_at dksX0_bare_0 9 rfl rfl)
theorem dX0_bare_11 : decode cX0_bare 11 = .ok (.ireturn, 1) := dk_172 (dk_at dksX0_bare_0 11 rfl rfl)
theorem dX0_bare_12 : decode cX0_bare 12 = .ok (.aload_n 0, 1) := dk_42 (dk_at dksX0_bare_0 12 rfl rfl)
theorem dX0_bare_13 : decode cX0_bare 13 = .ok (.iconst 0, 1) := dk_3 (dk_at dksX0_bare_0 13 rfl rfl)
theorem dX0_bare_14 : decode cX0_bare 14 = .ok (.putfield 263, 3) := dk_181 1 7 (dk_at dksX0_bare_0 14 rfl rfl)
theorem dX0_bare_17 : decode cX0_bare 17 = .ok (.aload_n 0, 1) := dk_42 (dk_at dksX0_bare_0 17 rfl rfl)
theorem dX0_bare_18 : decode cX0_bare 18 = .ok (.iconst (-1), 1) := dk_2 (dk_at dksX0_bare_0 18 rfl rfl)
theorem dX0_bare_19 : decode cX0_bare 19 = .ok (.putfield 266, 3) := dk_181 1 10 (dk_at dksX0_bare_0 19 rfl rfl)
theorem dX0_bare_22 : decode cX0_bare 22 = .ok (.aload_n 0, 1) := dk_42 (dk_at dksX0_bare_0 22 rfl rfl)
theorem dX0_bare_23 : decode cX0_bare 23 = .ok (.iconst 0, 1) := dk_3 (dk_at dksX0_bare_0 23 rfl rfl)
theorem dX0_bare_24 : decode cX0_bare 24 = .ok (.new 251, 3) := dk_187 0 251 (dk_at dksX0_bare_1 0 rfl rfl)
theorem dX0_bare_27 : decode cX0_bare 27 = .ok (.dup, 1) := dk_89 (dk_at dksX0_bare_1 3 rfl rfl)
theorem dX0_bare_28 : decode cX0_bare 28 = .ok (.invokespecial 277, 3) := dk_183 1 21 (dk_at dksX0_bare_1 4 rfl rfl)
theorem dX0_bare_31 : decode cX0_bare 31 = .ok (.invokevirtual 259, 3) := dk_182 1 3 (dk_at dksX0_bare_1 7 rfl rfl)
theorem dX0_bare_34 : decode cX0_bare 34 = .ok (.iload_n 1, 1) := dk_27 (dk_at dksX0_bare_1 10 rfl rfl)
theorem dX0_bare_35 : decode cX0_bare 35 = .ok (.ifCond .ne 10, 3) := dk_154 0 10 (dk_at dksX0_bare_1 11 rfl rfl)
theorem dX0_bare_38 : decode cX0_bare 38 = .ok (.aload_n 0, 1) := dk_42 (dk_at dksX0_bare_1 14 rfl rfl)
theorem dX0_bare_39 : decode cX0_bare 39 = .ok (.getfield 263, 3) := dk_180 1 7 (dk_at dksX0_bare_1 15 rfl rfl)
theorem dX0_bare_42 : decode cX0_bare 42 = .ok (.goto 19, 3) := dk_167 0 19 (dk_at dksX0_bare_1 18 rfl rfl)
theorem dX0_bare_45 : decode cX0_bare 45 = .ok (.iload_n 1, 1) := dk_27 (dk_at dksX0_bare_1 21 rfl rfl)
theorem dX0_bare_46 : decode cX0_bare 46 = .ok (.iconst 1, 1) := dk_4 (dk_at dksX0_bare_1 22 rfl rfl)
theorem dX0_bare_47 : decode cX0_bare 47 = .ok (.if_icmp .ne 10, 3) := dk_160 0 10 (dk_at dksX0_bare_2 0 rfl rfl)
theorem dX0_bare_50 : decode cX0_bare 50 = .ok (.aload_n 0, 1) := dk_42 (dk_at dksX0_bare_2 3 rfl rfl)
theorem dX0_bare_51 : decode cX0_bare 51 = .ok (.getfield 266, 3) := dk_180 1 10 (dk_at dksX0_bare_2 4 rfl rfl)
theorem dX0_bare_54 : decode cX0_bare 54 = .ok (.goto 7, 3) := dk_167 0 7 (dk_at dksX0_bare_2 7 rfl rfl)
theorem dX0_bare_57 : decode cX0_bare 57 = .ok (.aload_n 0, 1) := dk_42 (dk_at dksX0_bare_2 10 rfl rfl)
theorem dX0_bare_58 : decode cX0_bare 58 = .ok (.getfield 269, 3) := dk_180 1 13 (dk_at dksX0_bare_2 11 rfl rfl)
theorem dX0_bare_61 : decode cX0_bare 61 = .ok (.ireturn, 1) := dk_172 (dk_at dksX0_bare_2 14 rfl rfl)
abbrev cX0_findsBare : ByteArray := prog_1_method_24_code
def yX0_findsBare : MethodName := ⟨RX0, "findsBare", "(ILjava/util/HashSet;)V"⟩
def dkwX0_findsBare_7 : List UInt8 := [181, 1, 13, 42, 42, 180, 1, 10, 27, 184, 0, 155, 184, 1, 16, 181, 1, 10, 177]
abbrev dktX0_findsBare_7 : List UInt8 := dkwX0_findsBare_7 ++ []
def dkwX0_findsBare_6 : List UInt8 := [162, 0, 7, 4, 167, 0, 4, 3, 62, 42, 29, 153, 0, 7, 27, 167, 0, 7, 42, 180, 1, 13]
abbrev dktX0_findsBare_6 : List UInt8 := dkwX0_findsBare_6 ++ dktX0_findsBare_7
def dkwX0_findsBare_5 : List UInt8 := [42, 180, 1, 10, 163, 0, 22, 27, 184, 0, 155, 42, 180, 1, 10, 160, 0, 15, 27, 42, 180, 1, 13]
abbrev dktX0_findsBare_5 : List UInt8 := dkwX0_findsBare_5 ++ dktX0_findsBare_6
def dkwX0_findsBare_4 : List UInt8 := [180, 0, 10, 27, 182, 0, 183, 153, 0, 80, 42, 89, 180, 1, 7, 4, 96, 181, 1, 7, 27, 184, 0, 155]
abbrev dktX0_findsBare_4 : List UInt8 := dkwX0_findsBare_4 ++ dktX0_findsBare_5
def dkwX0_findsBare_3 : List UInt8 := [182, 1, 3, 42, 27, 21, 4, 21, 4, 116, 126, 128, 44, 182, 1, 3, 177, 132, 3, 1, 167, 255, 186, 42]
abbrev dktX0_findsBare_3 : List UInt8 := dkwX0_findsBare_3 ++ dktX0_findsBare_4
def dkwX0_findsBare_2 : List UInt8 := [180, 0, 152, 29, 46, 27, 2, 130, 126, 54, 4, 21, 4, 153, 0, 27, 42, 27, 4, 29, 120, 128, 44]
abbrev dktX0_findsBare_2 : List UInt8 := dkwX0_findsBare_2 ++ dktX0_findsBare_3
def dkwX0_findsBare_1 : List UInt8 := [180, 0, 115, 162, 0, 65, 27, 29, 184, 1, 0, 153, 0, 7, 3, 167, 0, 16, 42, 180, 0, 10]
abbrev dktX0_findsBare_1 : List UInt8 := dkwX0_findsBare_1 ++ dktX0_findsBare_2
def dkwX0_findsBare_0 : List UInt8 := [44, 187, 0, 245, 89, 27, 183, 0, 247, 182, 0, 250, 154, 0, 4, 177, 3, 62, 29, 42, 180, 0, 10]
abbrev dktX0_findsBare_0 : List UInt8 := dkwX0_findsBare_0 ++ dktX0_findsBare_1
theorem dksX0_findsBare_0 : cX0_findsBare.data.toList.drop 0 = dktX0_findsBare_0 := by decide +kernel
theorem dksX0_findsBare_1 : cX0_findsBare.data.toList.drop 23 = dktX0_findsBare_1 := dk_seg dksX0_findsBare_0 23 rfl rfl
theorem dksX0_findsBare_2 : cX0_findsBare.data.toList.drop 45 = dktX0_findsBare_2 := dk_seg dksX0_findsBare_1 22 rfl rfl
theorem dksX0_findsBare_3 : cX0_findsBare.data.toList.drop 68 = dktX0_findsBare_3 := dk_seg dksX0_findsBare_2 23 rfl rfl
theorem dksX0_findsBare_4 : cX0_findsBare.data.toList.drop 92 = dktX0_findsBare_4 := dk_seg dksX0_findsBare_3 24 rfl rfl
theorem dksX0_findsBare_5 : cX0_findsBare.data.toList.drop 116 = dktX0_findsBare_5 := dk_seg dksX0_findsBare_4 24 rfl rfl
theorem dksX0_findsBare_6 : cX0_findsBare.data.toList.drop 139 = dktX0_findsBare_6 := dk_seg dksX0_findsBare_5 23 rfl rfl
theorem dksX0_findsBare_7 : cX0_findsBare.data.toList.drop 161 = dktX0_findsBare_7 := dk_seg dksX0_findsBare_6 22 rfl rfl
theorem dX0_findsBare_0 : decode cX0_findsBare 0 = .ok (.aload_n 2, 1) := dk_44 (dk_at dksX0_findsBare_0 0 rfl rfl)
theorem dX0_findsBare_1 : decode cX0_findsBare 1 = .ok (.new 245, 3) := dk_187 0 245 (dk_at dksX0_findsBare_0 1 rfl rfl)
theorem dX0_findsBare_4 : decode cX0_findsBare 4 = .ok (.dup, 1) := dk_89 (dk_at dksX0_findsBare_0 4 rfl rfl)
theorem dX0_findsBare_5 : decode cX0_findsBare 5 = .ok (.iload_n 1, 1) := dk_27 (dk_at dksX0_findsBare_0 5 rfl rfl)
theorem dX0_findsBare_6 : decode cX0_findsBare 6 = .ok (.invokespecial 247, 3) := dk_183 0 247 (dk_at dksX0_findsBare_0 6 rfl rfl)
theorem dX0_findsBare_9 : decode cX0_findsBare 9 = .ok (.invokevirtual 250, 3) := dk_182 0 250 (dk_at dksX0_findsBare_0 9 rfl rfl)
theorem dX0_findsBare_12 : decode cX0_findsBare 12 = .ok (.ifCond .ne 4, 3) := dk_154 0 4 (dk_at dksX0_findsBare_0 12 rfl rfl)
theorem dX0_findsBare_15 : decode cX0_findsBare 15 = .ok (.return_, 1) := dk_177 (dk_at dksX0_findsBare_0 15 rfl rfl)
theorem dX0_findsBare_16 : decode cX0_findsBare 16 = .ok (.iconst 0, 1) := dk_3 (dk_at dksX0_findsBare_0 16 rfl rfl)
theorem dX0_findsBare_17 : decode cX0_findsBare 17 = .ok (.istore_n 3, 1) := dk_62 (dk_at dksX0_findsBare_0 17 rfl rfl)
theorem dX0_findsBare_18 : decode cX0_findsBare 18 = .ok (.iload_n 3, 1) := dk_29 (dk_at dksX0_findsBare_0 18 rfl rfl)
theorem dX0_findsBare_19 : decode cX0_findsBare 19 = .ok (.aload_n 0, 1) := dk_42 (dk_at dksX0_findsBare_0 19 rfl rfl)
theorem dX0_findsBare_20 : decode cX0_findsBare 20 = .ok (.getfield 10, 3) := dk_180 0 10 (dk_at dksX0_findsBare_0 20 rfl rfl)
theorem dX0_findsBare_23 : decode cX0_findsBare 23 = .ok (.getfield 115, 3) := dk_180 0 115 (dk_at dksX0_findsBare_1 0 rfl rfl)
theorem dX0_findsBare_26 : decode cX0_findsBare 26 = .ok (.if_icmp .ge 65, 3) := dk_162 0 65 (dk_at dksX0_findsBare_1 3 rfl rfl)
theorem dX0_findsBare_29 : decode cX0_findsBare 29 = .ok (.iload_n 1, 1) := dk_27 (dk_at dksX0_findsBare_1 6 rfl rfl)
theorem dX0_findsBare_30 : decode cX0_findsBare 30 = .ok (.iload_n 3, 1) := dk_29 (dk_at dksX0_findsBare_1 7 rfl rfl)
theorem dX0_findsBare_31 : decode cX0_findsBare 31 = .ok (.invokestatic 256, 3) := dk_184 1 0 (dk_at dksX0_findsBare_1 8 rfl rfl)
theorem dX0_findsBare_34 : decode cX0_findsBare 34 = .ok (.ifCond .eq 7, 3) := dk_153 0 7 (dk_at dksX0_findsBare_1 11 rfl rfl)
theorem dX0_findsBare_37 : decode cX0_findsBare 37 = .ok (.iconst 0, 1) := dk_3 (dk_at dksX0_findsBare_1 14 rfl rfl)
theorem dX0_findsBare_38 : decode cX0_findsBare 38 = .ok (.goto 16, 3) := dk_167 0 16 (dk_at dksX0_findsBare_1 15 rfl rfl)
theorem dX0_findsBare_41 : decode cX0_findsBare 41 = .ok (.aload_n 0, 1) := dk_42 (dk_at dksX0_findsBare_1 18 rfl rfl)
theorem dX0_findsBare_42 : decode cX0_findsBare 42 = .ok (.getfield 10, 3) := dk_180 0 10 (dk_at dksX0_findsBare_1 19 rfl rfl)
theorem dX0_findsBare_45 : decode cX0_findsBare 45 = .ok (.getfield 152, 3) := dk_180 0 152 (dk_at dksX0_findsBare_2 0 rfl rfl)
theorem dX0_findsBare_48 : decode cX0_findsBare 48 = .ok (.iload_n 3, 1) := dk_29 (dk_at dksX0_findsBare_2 3 rfl rfl)
theorem dX0_findsBare_49 : decode cX0_findsBare 49 = .ok (.iaload, 1) := dk_46 (dk_at dksX0_findsBare_2 4 rfl rfl)
theorem dX0_findsBare_50 : decode cX0_findsBare 50 = .ok (.iload_n 1, 1) := dk_27 (dk_at dksX0_findsBare_2 5 rfl rfl)
theorem dX0_findsBare_51 : decode cX0_findsBare 51 = .ok (.iconst (-1), 1) := dk_2 (dk_at dksX0_findsBare_2 6 rfl rfl)
theorem dX0_findsBare_52 : decode cX0_findsBare 52 = .ok (.ixor, 1) := dk_130 (dk_at dksX0_findsBare_2 7 rfl rfl)
theorem dX0_findsBare_53 : decode cX0_findsBare 53 = .ok (.iand, 1) := dk_126 (dk_at dksX0_findsBare_2 8 rfl rfl)
theorem dX0_findsBare_54 : decode cX0_findsBare 54 = .ok (.istore 4, 2) := dk_54 4 (dk_at dksX0_findsBare_2 9 rfl rfl)
theorem dX0_findsBare_56 : decode cX0_findsBare 56 = .ok (.iload 4, 2) := dk_21 4 (dk_at dksX0_findsBare_2 11 rfl rfl)
theorem dX0_findsBare_58 : decode cX0_findsBare 58 = .ok (.ifCond .eq 27, 3) := dk_153 0 27 (dk_at dksX0_findsBare_2 13 rfl rfl)
theorem dX0_findsBare_61 : decode cX0_findsBare 61 = .ok (.aload_n 0, 1) := dk_42 (dk_at dksX0_findsBare_2 16 rfl rfl)
theorem dX0_findsBare_62 : decode cX0_findsBare 62 = .ok (.iload_n 1, 1) := dk_27 (dk_at dksX0_findsBare_2 17 rfl rfl)
theorem dX0_findsBare_63 : decode cX0_findsBare 63 = .ok (.iconst 1, 1) := dk_4 (dk_at dksX0_findsBare_2 18 rfl rfl)
theorem dX0_findsBare_64 : decode cX0_findsBare 64 = .ok (.iload_n 3, 1) := dk_29 (dk_at dksX0_findsBare_2 19 rfl rfl)
theorem dX0_findsBare_65 : decode cX0_findsBare 65 = .ok (.ishl, 1) := dk_120 (dk_at dksX0_findsBare_2 20 rfl rfl)
theorem dX0_findsBare_66 : decode cX0_findsBare 66 = .ok (.ior, 1) := dk_128 (dk_at dksX0_findsBare_2 21 rfl rfl)
theorem dX0_findsBare_67 : decode cX0_findsBare 67 = .ok (.aload_n 2, 1) := dk_44 (dk_at dksX0_findsBare_2 22 rfl rfl)
theorem dX0_findsBare_68 : decode cX0_findsBare 68 = .ok (.invokevirtual 259, 3) := dk_182 1 3 (dk_at dksX0_findsBare_3 0 rfl rfl)
theorem dX0_findsBare_71 : decode cX0_findsBare 71 = .ok (.aload_n 0, 1) := dk_42 (dk_at dksX0_findsBare_3 3 rfl rfl)
theorem dX0_findsBare_72 : decode cX0_findsBare 72 = .ok (.iload_n 1, 1) := dk_27 (dk_at dksX0_findsBare_3 4 rfl rfl)
theorem dX0_findsBare_73 : decode cX0_findsBare 73 = .ok (.iload 4, 2) := dk_21 4 (dk_at dksX0_findsBare_3 5 rfl rfl)
theorem dX0_findsBare_75 : decode cX0_findsBare 75 = .ok (.iload 4, 2) := dk_21 4 (dk_at dksX0_findsBare_3 7 rfl rfl)
theorem dX0_findsBare_77 : decode cX0_findsBare 77 = .ok (.ineg, 1) := dk_116 (dk_at dksX0_findsBare_3 9 rfl rfl)
theorem dX0_findsBare_78 : decode cX0_findsBare 78 = .ok (.iand, 1) := dk_126 (dk_at dksX0_findsBare_3 10 rfl rfl)
theorem dX0_findsBare_79 : decode cX0_findsBare 79 = .ok (.ior, 1) := dk_128 (dk_at dksX0_findsBare_3 11 rfl rfl)
theorem dX0_findsBare_80 : decode cX0_findsBare 80 = .ok (.aload_n 2, 1) := dk_44 (dk_at dksX0_findsBare_3 12 rfl rfl)
theorem dX0_findsBare_81 : decode cX0_findsBare 81 = .ok (.invokevirtual 259, 3) := dk_182 1 3 (dk_at dksX0_findsBare_3 13 rfl rfl)
theorem dX0_findsBare_84 : decode cX0_findsBare 84 = .ok (.return_, 1) := dk_177 (dk_at dksX0_findsBare_3 16 rfl rfl)
theorem dX0_findsBare_85 : decode cX0_findsBare 85 = .ok (.iinc 3 1, 3) := dk_132 3 1 (dk_at dksX0_findsBare_3 17 rfl rfl)
theorem dX0_findsBare_88 : decode cX0_findsBare 88 = .ok (.goto (-70), 3) := dk_167 255 186 (dk_at dksX0_findsBare_3 20 rfl rfl)
theorem dX0_findsBare_91 : decode cX0_findsBare 91 = .ok (.aload_n 0, 1) := dk_42 (dk_at dksX0_findsBare_3 23 rfl rfl)
theorem dX0_findsBare_92 : decode cX0_findsBare 92 = .ok (.getfield 10, 3) := dk_180 0 10 (dk_at dksX0_findsBare_4 0 rfl rfl)
theorem dX0_findsBare_95 : decode cX0_findsBare 95 = .ok (.iload_n 1, 1) := dk_27 (dk_at dksX0_findsBare_4 3 rfl rfl)
theorem dX0_findsBare_96 : decode cX0_findsBare 96 = .ok (.invokevirtual 183, 3) := dk_182 0 183 (dk_at dksX0_findsBare_4 4 rfl rfl)
theorem dX0_findsBare_99 : decode cX0_findsBare 99 = .ok (.ifCond .eq 80, 3) := dk_153 0 80 (dk_at dksX0_findsBare_4 7 rfl rfl)
theorem dX0_findsBare_102 : decode cX0_findsBare 102 = .ok (.aload_n 0, 1) := dk_42 (dk_at dksX0_findsBare_4 10 rfl rfl)
theorem dX0_findsBare_103 : decode cX0_findsBare 103 = .ok (.dup, 1) := dk_89 (dk_at dksX0_findsBare_4 11 rfl rfl)
theorem dX0_findsBare_104 : decode cX0_findsBare 104 = .ok (.getfield 263, 3) := dk_180 1 7 (dk_at dksX0_findsBare_4 12 rfl rfl)
theorem dX0_findsBare_107 : decode cX0_findsBare 107 = .ok (.iconst 1, 1) := dk_4 (dk_at dksX0_findsBare_4 15 rfl rfl)
theorem dX0_findsBare_108 : decode cX0_findsBare 108 = .ok (.iadd, 1) := dk_96 (dk_at dksX0_findsBare_4 16 rfl rfl)
theorem dX0_findsBare_109 : decode cX0_findsBare 109 = .ok (.putfield 263, 3) := dk_181 1 7 (dk_at dksX0_findsBare_4 17 rfl rfl)
theorem dX0_findsBare_112 : decode cX0_findsBare 112 = .ok (.iload_n 1, 1) := dk_27 (dk_at dksX0_findsBare_4 20 rfl rfl)
theorem dX0_findsBare_113 : decode cX0_findsBare 113 = .ok (.invokestatic 155, 3) := dk_184 0 155 (dk_at dksX0_findsBare_4 21 rfl rfl)
theorem dX0_findsBare_116 : decode cX0_findsBare 116 = .ok (.aload_n 0, 1) := dk_42 (dk_at dksX0_findsBare_5 0 rfl rfl)
theorem dX0_findsBare_117 : decode cX0_findsBare 117 = .ok (.getfield 266, 3) := dk_180 1 10 (dk_at dksX0_findsBare_5 1 rfl rfl)
theorem dX0_findsBare_120 : decode cX0_findsBare 120 = .ok (.if_icmp .gt 22, 3) := dk_163 0 22 (dk_at dksX0_findsBare_5 4 rfl rfl)
theorem dX0_findsBare_123 : decode cX0_findsBare 123 = .ok (.iload_n 1, 1) := dk_27 (dk_at dksX0_findsBare_5 7 rfl rfl)
theorem dX0_findsBare_124 : decode cX0_findsBare 124 = .ok (.invokestatic 155, 3) := dk_184 0 155 (dk_at dksX0_findsBare_5 8 rfl rfl)
theorem dX0_findsBare_127 : decode cX0_findsBare 127 = .ok (.aload_n 0, 1) := dk_42 (dk_at dksX0_findsBare_5 11 rfl rfl)
theorem dX0_findsBare_128 : decode cX0_findsBare 128 = .ok (.getfield 266, 3) := dk_180 1 10 (dk_at dksX0_findsBare_5 12 rfl rfl)
theorem dX0_findsBare_131 : decode cX0_findsBare 131 = .ok (.if_icmp .ne 15, 3) := dk_160 0 15 (dk_at dksX0_findsBare_5 15 rfl rfl)
theorem dX0_findsBare_134 : decode cX0_findsBare 134 = .ok (.iload_n 1, 1) := dk_27 (dk_at dksX0_findsBare_5 18 rfl rfl)
theorem dX0_findsBare_135 : decode cX0_findsBare 135 = .ok (.aload_n 0, 1) := dk_42 (dk_at dksX0_findsBare_5 19 rfl rfl)
theorem dX0_findsBare_136 : decode cX0_findsBare 136 = .ok (.getfield 269, 3) := dk_180 1 13 (dk_at dksX0_findsBare_5 20 rfl rfl)
theorem dX0_findsBare_139 : decode cX0_findsBare 139 = .ok (.if_icmp .ge 7, 3) := dk_162 0 7 (dk_at dksX0_findsBare_6 0 rfl rfl)
theorem dX0_findsBare_142 : decode cX0_findsBare 142 = .ok (.iconst 1, 1) := dk_4 (dk_at dksX0_findsBare_6 3 rfl rfl)
theorem dX0_findsBare_143 : decode cX0_findsBare 143 = .ok (.goto 4, 3) := dk_167 0 4 (dk_at dksX0_findsBare_6 4 rfl rfl)
theorem dX0_findsBare_146 : decode cX0_findsBare 146 = .ok (.iconst 0, 1) := dk_3 (dk_at dksX0_findsBare_6 7 rfl rfl)
theorem dX0_findsBare_147 : decode cX0_findsBare 147 = .ok (.istore_n 3, 1) := dk_62 (dk_at dksX0_findsBare_6 8 rfl rfl)
theorem dX0_findsBare_148 : decode cX0_findsBare 148 = .ok (.aload_n 0, 1) := dk_42 (dk_at dksX0_findsBare_6 9 rfl rfl)
theorem dX0_findsBare_149 : decode cX0_findsBare 149 = .ok (.iload_n 3, 1) := dk_29 (dk_at dksX0_findsBare_6 10 rfl rfl)
theorem dX0_findsBare_150 : decode cX0_findsBare 150 = .ok (.ifCond .eq 7, 3) := dk_153 0 7 (dk_at dksX0_findsBare_6 11 rfl rfl)
theorem dX0_findsBare_153 : decode cX0_findsBare 153 = .ok (.iload_n 1, 1) := dk_27 (dk_at dksX0_findsBare_6 14 rfl rfl)
theorem dX0_findsBare_154 : decode cX0_findsBare 154 = .ok (.goto 7, 3) := dk_167 0 7 (dk_at dksX0_findsBare_6 15 rfl rfl)
theorem dX0_findsBare_157 : decode cX0_findsBare 157 = .ok (.aload_n 0, 1) := dk_42 (dk_at dksX0_findsBare_6 18 rfl rfl)
theorem dX0_findsBare_158 : decode cX0_findsBare 158 = .ok (.getfield 269, 3) := dk_180 1 13 (dk_at dksX0_findsBare_6 19 rfl rfl)
theorem dX0_findsBare_161 : decode cX0_findsBare 161 = .ok (.putfield 269, 3) := dk_181 1 13 (dk_at dksX0_findsBare_7 0 rfl rfl)
theorem dX0_findsBare_164 : decode cX0_findsBare 164 = .ok (.aload_n 0, 1) := dk_42 (dk_at dksX0_findsBare_7 3 rfl rfl)
theorem dX0_findsBare_165 : decode cX0_findsBare 165 = .ok (.aload_n 0, 1) := dk_42 (dk_at dksX0_findsBare_7 4 rfl rfl)
theorem dX0_findsBare_166 : decode cX0_findsBare 166 = .ok (.getfield 266, 3) := dk_180 1 10 (dk_at dksX0_findsBare_7 5 rfl rfl)
theorem dX0_findsBare_169 : decode cX0_findsBare 169 = .ok (.iload_n 1, 1) := dk_27 (dk_at dksX0_findsBare_7 8 rfl rfl)
theorem dX0_findsBare_170 : decode cX0_findsBare 170 = .ok (.invokestatic 155, 3) := dk_184 0 155 (dk_at dksX0_findsBare_7 9 rfl rfl)
theorem dX0_findsBare_173 : decode cX0_findsBare 173 = .ok (.invokestatic 272, 3) := dk_184 1 16 (dk_at dksX0_findsBare_7 12 rfl rfl)
theorem dX0_findsBare_176 : decode cX0_findsBare 176 = .ok (.putfield 266, 3) := dk_181 1 10 (dk_at dksX0_findsBare_7 15 rfl rfl)
theorem dX0_findsBare_179 : decode cX0_findsBare 179 = .ok (.return_, 1) := dk_177 (dk_at dksX0_findsBare_7 18 rfl rfl)
abbrev cX0_share : ByteArray := prog_1_method_26_code
def yX0_share : MethodName := ⟨RX0, "share", "(I)J"⟩
def dkwX0_share_2 : List UInt8 := [32, 4, 123, 65, 22, 4, 4, 123, 55, 4, 167, 255, 238, 27, 154, 0, 7, 32, 167, 0, 5, 22, 4, 173]
abbrev dktX0_share_2 : List UInt8 := dkwX0_share_2 ++ []
def dkwX0_share_1 : List UInt8 := [180, 1, 25, 133, 65, 10, 42, 180, 0, 10, 180, 0, 115, 121, 55, 4, 32, 10, 127, 9, 148, 154, 0, 16]
abbrev dktX0_share_1 : List UInt8 := dkwX0_share_1 ++ dktX0_share_2
def dkwX0_share_0 : List UInt8 := [27, 3, 4, 184, 0, 111, 154, 0, 7, 20, 1, 22, 173, 42, 186, 1, 24, 0, 0, 182, 0, 238]
abbrev dktX0_share_0 : List UInt8 := dkwX0_share_0 ++ dktX0_share_1
theorem dksX0_share_0 : cX0_share.data.toList.drop 0 = dktX0_share_0 := by decide +kernel
theorem dksX0_share_1 : cX0_share.data.toList.drop 22 = dktX0_share_1 := dk_seg dksX0_share_0 22 rfl rfl
theorem dksX0_share_2 : cX0_share.data.toList.drop 46 = dktX0_share_2 := dk_seg dksX0_share_1 24 rfl rfl
theorem dX0_share_0 : decode cX0_share 0 = .ok (.iload_n 1, 1) := dk_27 (dk_at dksX0_share_0 0 rfl rfl)
theorem dX0_share_1 : decode cX0_share 1 = .ok (.iconst 0, 1) := dk_3 (dk_at dksX0_share_0 1 rfl rfl)
theorem dX0_share_2 : decode cX0_share 2 = .ok (.iconst 1, 1) := dk_4 (dk_at dksX0_share_0 2 rfl rfl)
theorem dX0_share_3 : decode cX0_share 3 = .ok (.invokestatic 111, 3) := dk_184 0 111 (dk_at dksX0_share_0 3 rfl rfl)
theorem dX0_share_6 : decode cX0_share 6 = .ok (.ifCond .ne 7, 3) := dk_154 0 7 (dk_at dksX0_share_0 6 rfl rfl)
theorem dX0_share_9 : decode cX0_share 9 = .ok (.ldc2_w 278, 3) := dk_20 1 22 (dk_at dksX0_share_0 9 rfl rfl)
theorem dX0_share_12 : decode cX0_share 12 = .ok (.lreturn, 1) := dk_173 (dk_at dksX0_share_0 12 rfl rfl)
theorem dX0_share_13 : decode cX0_share 13 = .ok (.aload_n 0, 1) := dk_42 (dk_at dksX0_share_0 13 rfl rfl)
theorem dX0_share_14 : decode cX0_share 14 = .ok (.invokedynamic 280, 5) := by decide +kernel
theorem dX0_share_19 : decode cX0_share 19 = .ok (.invokevirtual 238, 3) := dk_182 0 238 (dk_at dksX0_share_0 19 rfl rfl)
theorem dX0_share_22 : decode cX0_share 22 = .ok (.getfield 281, 3) := dk_180 1 25 (dk_at dksX0_share_1 0 rfl rfl)
theorem dX0_share_25 : decode cX0_share 25 = .ok (.i2l, 1) := dk_133 (dk_at dksX0_share_1 3 rfl rfl)
theorem dX0_share_26 : decode cX0_share 26 = .ok (.lstore_n 2, 1) := dk_65 (dk_at dksX0_share_1 4 rfl rfl)
theorem dX0_share_27 : decode cX0_share 27 = .ok (.lconst 1, 1) := dk_10 (dk_at dksX0_share_1 5 rfl rfl)
theorem dX0_share_28 : decode cX0_share 28 = .ok (.aload_n 0, 1) := dk_42 (dk_at dksX0_share_1 6 rfl rfl)
theorem dX0_share_29 : decode cX0_share 29 = .ok (.getfield 10, 3) := dk_180 0 10 (dk_at dksX0_share_1 7 rfl rfl)
theorem dX0_share_32 : decode cX0_share 32 = .ok (.getfield 115, 3) := dk_180 0 115 (dk_at dksX0_share_1 10 rfl rfl)
theorem dX0_share_35 : decode cX0_share 35 = .ok (.lshl, 1) := dk_121 (dk_at dksX0_share_1 13 rfl rfl)
theorem dX0_share_36 : decode cX0_share 36 = .ok (.lstore 4, 2) := dk_55 4 (dk_at dksX0_share_1 14 rfl rfl)
theorem dX0_share_38 : decode cX0_share 38 = .ok (.lload_n 2, 1) := dk_32 (dk_at dksX0_share_1 16 rfl rfl)
theorem dX0_share_39 : decode cX0_share 39 = .ok (.lconst 1, 1) := dk_10 (dk_at dksX0_share_1 17 rfl rfl)
theorem dX0_share_40 : decode cX0_share 40 = .ok (.land, 1) := dk_127 (dk_at dksX0_share_1 18 rfl rfl)
theorem dX0_share_41 : decode cX0_share 41 = .ok (.lconst 0, 1) := dk_9 (dk_at dksX0_share_1 19 rfl rfl)
theorem dX0_share_42 : decode cX0_share 42 = .ok (.lcmp, 1) := dk_148 (dk_at dksX0_share_1 20 rfl rfl)
theorem dX0_share_43 : decode cX0_share 43 = .ok (.ifCond .ne 16, 3) := dk_154 0 16 (dk_at dksX0_share_1 21 rfl rfl)
theorem dX0_share_46 : decode cX0_share 46 = .ok (.lload_n 2, 1) := dk_32 (dk_at dksX0_share_2 0 rfl rfl)
theorem dX0_share_47 : decode cX0_share 47 = .ok (.iconst 1, 1) := dk_4 (dk_at dksX0_share_2 1 rfl rfl)
theorem dX0_share_48 : decode cX0_share 48 = .ok (.lshr, 1) := dk_123 (dk_at dksX0_share_2 2 rfl rfl)
theorem dX0_share_49 : decode cX0_share 49 = .ok (.lstore_n 2, 1) := dk_65 (dk_at dksX0_share_2 3 rfl rfl)
theorem dX0_share_50 : decode cX0_share 50 = .ok (.lload 4, 2) := dk_22 4 (dk_at dksX0_share_2 4 rfl rfl)
theorem dX0_share_52 : decode cX0_share 52 = .ok (.iconst 1, 1) := dk_4 (dk_at dksX0_share_2 6 rfl rfl)
theorem dX0_share_53 : decode cX0_share 53 = .ok (.lshr, 1) := dk_123 (dk_at dksX0_share_2 7 rfl rfl)
theorem dX0_share_54 : decode cX0_share 54 = .ok (.lstore 4, 2) := dk_55 4 (dk_at dksX0_share_2 8 rfl rfl)
theorem dX0_share_56 : decode cX0_share 56 = .ok (.goto (-18), 3) := dk_167 255 238 (dk_at dksX0_share_2 10 rfl rfl)
theorem dX0_share_59 : decode cX0_share 59 = .ok (.iload_n 1, 1) := dk_27 (dk_at dksX0_share_2 13 rfl rfl)
theorem dX0_share_60 : decode cX0_share 60 = .ok (.ifCond .ne 7, 3) := dk_154 0 7 (dk_at dksX0_share_2 14 rfl rfl)
theorem dX0_share_63 : decode cX0_share 63 = .ok (.lload_n 2, 1) := dk_32 (dk_at dksX0_share_2 17 rfl rfl)
theorem dX0_share_64 : decode cX0_share 64 = .ok (.goto 5, 3) := dk_167 0 5 (dk_at dksX0_share_2 18 rfl rfl)
theorem dX0_share_67 : decode cX0_share 67 = .ok (.lload 4, 2) := dk_22 4 (dk_at dksX0_share_2 21 rfl rfl)
theorem dX0_share_69 : decode cX0_share 69 = .ok (.lreturn, 1) := dk_173 (dk_at dksX0_share_2 23 rfl rfl)
abbrev cX0_lambda_share_2 : ByteArray := prog_1_method_118_code
def yX0_lambda_share_2 : MethodName := ⟨RX0, "lambda$share$2", "(I)Z"⟩
theorem dX0_lambda_share_2_0 : decode cX0_lambda_share_2 0 = .ok (.iconst 1, 1) := by decide +kernel
theorem dX0_lambda_share_2_1 : decode cX0_lambda_share_2 1 = .ok (.ireturn, 1) := by decide +kernel
abbrev cX0_halves : ByteArray := prog_1_method_36_code
def yX0_halves : MethodName := ⟨RX0, "halves", "(I)I"⟩
def dkwX0_halves_1 : List UInt8 := [27, 154, 0, 7, 28, 167, 0, 10, 42, 27, 4, 100, 182, 1, 67, 172]
abbrev dktX0_halves_1 : List UInt8 := dkwX0_halves_1 ++ []
def dkwX0_halves_0 : List UInt8 := [27, 3, 6, 184, 0, 111, 154, 0, 6, 16, 254, 172, 42, 42, 180, 0, 10, 182, 0, 177, 182, 1, 64, 61]
abbrev dktX0_halves_0 : List UInt8 := dkwX0_halves_0 ++ dktX0_halves_1
theorem dksX0_halves_0 : cX0_halves.data.toList.drop 0 = dktX0_halves_0 := by decide +kernel
theorem dksX0_halves_1 : cX0_halves.data.toList.drop 24 = dktX0_halves_1 := dk_seg dksX0_halves_0 24 rfl rfl
theorem dX0_halves_0 : decode cX0_halves 0 = .ok (.iload_n 1, 1) := dk_27 (dk_at dksX0_halves_0 0 rfl rfl)
theorem dX0_halves_1 : decode cX0_halves 1 = .ok (.iconst 0, 1) := dk_3 (dk_at dksX0_halves_0 1 rfl rfl)
theorem dX0_halves_2 : decode cX0_halves 2 = .ok (.iconst 3, 1) := dk_6 (dk_at dksX0_halves_0 2 rfl rfl)
theorem dX0_halves_3 : decode cX0_halves 3 = .ok (.invokestatic 111, 3) := dk_184 0 111 (dk_at dksX0_halves_0 3 rfl rfl)
theorem dX0_halves_6 : decode cX0_halves 6 = .ok (.ifCond .ne 6, 3) := dk_154 0 6 (dk_at dksX0_halves_0 6 rfl rfl)
theorem dX0_halves_9 : decode cX0_halves 9 = .ok (.bipush (-2), 2) := dk_16 254 (dk_at dksX0_halves_0 9 rfl rfl)
theorem dX0_halves_11 : decode cX0_halves 11 = .ok (.ireturn, 1) := dk_172 (dk_at dksX0_halves_0 11 rfl rfl)
theorem dX0_halves_12 : decode cX0_halves 12 = .ok (.aload_n 0, 1) := dk_42 (dk_at dksX0_halves_0 12 rfl rfl)
theorem dX0_halves_13 : decode cX0_halves 13 = .ok (.aload_n 0, 1) := dk_42 (dk_at dksX0_halves_0 13 rfl rfl)
theorem dX0_halves_14 : decode cX0_halves 14 = .ok (.getfield 10, 3) := dk_180 0 10 (dk_at dksX0_halves_0 14 rfl rfl)
theorem dX0_halves_17 : decode cX0_halves 17 = .ok (.invokevirtual 177, 3) := dk_182 0 177 (dk_at dksX0_halves_0 17 rfl rfl)
theorem dX0_halves_20 : decode cX0_halves 20 = .ok (.invokevirtual 320, 3) := dk_182 1 64 (dk_at dksX0_halves_0 20 rfl rfl)
theorem dX0_halves_23 : decode cX0_halves 23 = .ok (.istore_n 2, 1) := dk_61 (dk_at dksX0_halves_0 23 rfl rfl)
theorem dX0_halves_24 : decode cX0_halves 24 = .ok (.iload_n 1, 1) := dk_27 (dk_at dksX0_halves_1 0 rfl rfl)
theorem dX0_halves_25 : decode cX0_halves 25 = .ok (.ifCond .ne 7, 3) := dk_154 0 7 (dk_at dksX0_halves_1 1 rfl rfl)
theorem dX0_halves_28 : decode cX0_halves 28 = .ok (.iload_n 2, 1) := dk_28 (dk_at dksX0_halves_1 4 rfl rfl)
theorem dX0_halves_29 : decode cX0_halves 29 = .ok (.goto 10, 3) := dk_167 0 10 (dk_at dksX0_halves_1 5 rfl rfl)
theorem dX0_halves_32 : decode cX0_halves 32 = .ok (.aload_n 0, 1) := dk_42 (dk_at dksX0_halves_1 8 rfl rfl)
theorem dX0_halves_33 : decode cX0_halves 33 = .ok (.iload_n 1, 1) := dk_27 (dk_at dksX0_halves_1 9 rfl rfl)
theorem dX0_halves_34 : decode cX0_halves 34 = .ok (.iconst 1, 1) := dk_4 (dk_at dksX0_halves_1 10 rfl rfl)
theorem dX0_halves_35 : decode cX0_halves 35 = .ok (.isub, 1) := dk_100 (dk_at dksX0_halves_1 11 rfl rfl)
theorem dX0_halves_36 : decode cX0_halves 36 = .ok (.invokevirtual 323, 3) := dk_182 1 67 (dk_at dksX0_halves_1 12 rfl rfl)
theorem dX0_halves_39 : decode cX0_halves 39 = .ok (.ireturn, 1) := dk_172 (dk_at dksX0_halves_1 15 rfl rfl)
abbrev cX0_half : ByteArray := prog_1_method_37_code
def yX0_half : MethodName := ⟨RX0, "half", "(I)I"⟩
def dkwX0_half_1 : List UInt8 := [182, 1, 64, 87, 42, 180, 0, 26, 27, 51, 172]
abbrev dktX0_half_1 : List UInt8 := dkwX0_half_1 ++ []
def dkwX0_half_0 : List UInt8 := [42, 180, 0, 10, 27, 182, 0, 123, 154, 0, 6, 16, 254, 172, 42, 42, 180, 0, 10, 182, 0, 177]
abbrev dktX0_half_0 : List UInt8 := dkwX0_half_0 ++ dktX0_half_1
theorem dksX0_half_0 : cX0_half.data.toList.drop 0 = dktX0_half_0 := by decide +kernel
theorem dksX0_half_1 : cX0_half.data.toList.drop 22 = dktX0_half_1 := dk_seg dksX0_half_0 22 rfl rfl
theorem dX0_half_0 : decode cX0_half 0 = .ok (.aload_n 0, 1) := dk_42 (dk_at dksX0_half_0 0 rfl rfl)
theorem dX0_half_1 : decode cX0_half 1 = .ok (.getfield 10, 3) := dk_180 0 10 (dk_at dksX0_half_0 1 rfl rfl)
theorem dX0_half_4 : decode cX0_half 4 = .ok (.iload_n 1, 1) := dk_27 (dk_at dksX0_half_0 4 rfl rfl)
theorem dX0_half_5 : decode cX0_half 5 = .ok (.invokevirtual 123, 3) := dk_182 0 123 (dk_at dksX0_half_0 5 rfl rfl)
theorem dX0_half_8 : decode cX0_half 8 = .ok (.ifCond .ne 6, 3) := dk_154 0 6 (dk_at dksX0_half_0 8 rfl rfl)
theorem dX0_half_11 : decode cX0_half 11 = .ok (.bipush (-2), 2) := dk_16 254 (dk_at dksX0_half_0 11 rfl rfl)
theorem dX0_half_13 : decode cX0_half 13 = .ok (.ireturn, 1) := dk_172 (dk_at dksX0_half_0 13 rfl rfl)
theorem dX0_half_14 : decode cX0_half 14 = .ok (.aload_n 0, 1) := dk_42 (dk_at dksX0_half_0 14 rfl rfl)
theorem dX0_half_15 : decode cX0_half 15 = .ok (.aload_n 0, 1) := dk_42 (dk_at dksX0_half_0 15 rfl rfl)
theorem dX0_half_16 : decode cX0_half 16 = .ok (.getfield 10, 3) := dk_180 0 10 (dk_at dksX0_half_0 16 rfl rfl)
theorem dX0_half_19 : decode cX0_half 19 = .ok (.invokevirtual 177, 3) := dk_182 0 177 (dk_at dksX0_half_0 19 rfl rfl)
theorem dX0_half_22 : decode cX0_half 22 = .ok (.invokevirtual 320, 3) := dk_182 1 64 (dk_at dksX0_half_1 0 rfl rfl)
theorem dX0_half_25 : decode cX0_half 25 = .ok (.pop, 1) := dk_87 (dk_at dksX0_half_1 3 rfl rfl)
theorem dX0_half_26 : decode cX0_half 26 = .ok (.aload_n 0, 1) := dk_42 (dk_at dksX0_half_1 4 rfl rfl)
theorem dX0_half_27 : decode cX0_half 27 = .ok (.getfield 26, 3) := dk_180 0 26 (dk_at dksX0_half_1 5 rfl rfl)
theorem dX0_half_30 : decode cX0_half 30 = .ok (.iload_n 1, 1) := dk_27 (dk_at dksX0_half_1 8 rfl rfl)
theorem dX0_half_31 : decode cX0_half 31 = .ok (.baload, 1) := dk_51 (dk_at dksX0_half_1 9 rfl rfl)
theorem dX0_half_32 : decode cX0_half 32 = .ok (.ireturn, 1) := dk_172 (dk_at dksX0_half_1 10 rfl rfl)
abbrev cX0_mayHave : ByteArray := prog_1_method_38_code
def yX0_mayHave : MethodName := ⟨RX0, "mayHave", "(I)I"⟩
def dkwX0_mayHave_3 : List UInt8 := [167, 0, 4, 3, 128, 62, 132, 4, 1, 167, 255, 209, 29, 172]
abbrev dktX0_mayHave_3 : List UInt8 := dkwX0_mayHave_3 ++ []
def dkwX0_mayHave_2 : List UInt8 := [27, 21, 4, 184, 1, 57, 27, 21, 4, 184, 1, 61, 182, 1, 47, 28, 160, 0, 10, 4, 21, 4, 120]
abbrev dktX0_mayHave_2 : List UInt8 := dkwX0_mayHave_2 ++ dktX0_mayHave_3
def dkwX0_mayHave_1 : List UInt8 := [182, 1, 51, 61, 3, 62, 3, 54, 4, 21, 4, 6, 162, 0, 47, 29, 42, 42, 180, 0, 10, 182, 0, 177]
abbrev dktX0_mayHave_1 : List UInt8 := dkwX0_mayHave_1 ++ dktX0_mayHave_2
def dkwX0_mayHave_0 : List UInt8 := [42, 180, 0, 10, 27, 182, 0, 123, 154, 0, 6, 16, 254, 172, 42, 42, 180, 0, 10, 182, 0, 177]
abbrev dktX0_mayHave_0 : List UInt8 := dkwX0_mayHave_0 ++ dktX0_mayHave_1
theorem dksX0_mayHave_0 : cX0_mayHave.data.toList.drop 0 = dktX0_mayHave_0 := by decide +kernel
theorem dksX0_mayHave_1 : cX0_mayHave.data.toList.drop 22 = dktX0_mayHave_1 := dk_seg dksX0_mayHave_0 22 rfl rfl
theorem dksX0_mayHave_2 : cX0_mayHave.data.toList.drop 46 = dktX0_mayHave_2 := dk_seg dksX0_mayHave_1 24 rfl rfl
theorem dksX0_mayHave_3 : cX0_mayHave.data.toList.drop 69 = dktX0_mayHave_3 := dk_seg dksX0_mayHave_2 23 rfl rfl
theorem dX0_mayHave_0 : decode cX0_mayHave 0 = .ok (.aload_n 0, 1) := dk_42 (dk_at dksX0_mayHave_0 0 rfl rfl)
theorem dX0_mayHave_1 : decode cX0_mayHave 1 = .ok (.getfield 10, 3) := dk_180 0 10 (dk_at dksX0_mayHave_0 1 rfl rfl)
theorem dX0_mayHave_4 : decode cX0_mayHave 4 = .ok (.iload_n 1, 1) := dk_27 (dk_at dksX0_mayHave_0 4 rfl rfl)
theorem dX0_mayHave_5 : decode cX0_mayHave 5 = .ok (.invokevirtual 123, 3) := dk_182 0 123 (dk_at dksX0_mayHave_0 5 rfl rfl)
theorem dX0_mayHave_8 : decode cX0_mayHave 8 = .ok (.ifCond .ne 6, 3) := dk_154 0 6 (dk_at dksX0_mayHave_0 8 rfl rfl)
theorem dX0_mayHave_11 : decode cX0_mayHave 11 = .ok (.bipush (-2), 2) := dk_16 254 (dk_at dksX0_mayHave_0 11 rfl rfl)
theorem dX0_mayHave_13 : decode cX0_mayHave 13 = .ok (.ireturn, 1) := dk_172 (dk_at dksX0_mayHave_0 13 rfl rfl)
theorem dX0_mayHave_14 : decode cX0_mayHave 14 = .ok (.aload_n 0, 1) := dk_42 (dk_at dksX0_mayHave_0 14 rfl rfl)
theorem dX0_mayHave_15 : decode cX0_mayHave 15 = .ok (.aload_n 0, 1) := dk_42 (dk_at dksX0_mayHave_0 15 rfl rfl)
theorem dX0_mayHave_16 : decode cX0_mayHave 16 = .ok (.getfield 10, 3) := dk_180 0 10 (dk_at dksX0_mayHave_0 16 rfl rfl)
theorem dX0_mayHave_19 : decode cX0_mayHave 19 = .ok (.invokevirtual 177, 3) := dk_182 0 177 (dk_at dksX0_mayHave_0 19 rfl rfl)
theorem dX0_mayHave_22 : decode cX0_mayHave 22 = .ok (.invokevirtual 307, 3) := dk_182 1 51 (dk_at dksX0_mayHave_1 0 rfl rfl)
theorem dX0_mayHave_25 : decode cX0_mayHave 25 = .ok (.istore_n 2, 1) := dk_61 (dk_at dksX0_mayHave_1 3 rfl rfl)
theorem dX0_mayHave_26 : decode cX0_mayHave 26 = .ok (.iconst 0, 1) := dk_3 (dk_at dksX0_mayHave_1 4 rfl rfl)
theorem dX0_mayHave_27 : decode cX0_mayHave 27 = .ok (.istore_n 3, 1) := dk_62 (dk_at dksX0_mayHave_1 5 rfl rfl)
theorem dX0_mayHave_28 : decode cX0_mayHave 28 = .ok (.iconst 0, 1) := dk_3 (dk_at dksX0_mayHave_1 6 rfl rfl)
theorem dX0_mayHave_29 : decode cX0_mayHave 29 = .ok (.istore 4, 2) := dk_54 4 (dk_at dksX0_mayHave_1 7 rfl rfl)
theorem dX0_mayHave_31 : decode cX0_mayHave 31 = .ok (.iload 4, 2) := dk_21 4 (dk_at dksX0_mayHave_1 9 rfl rfl)
theorem dX0_mayHave_33 : decode cX0_mayHave 33 = .ok (.iconst 3, 1) := dk_6 (dk_at dksX0_mayHave_1 11 rfl rfl)
theorem dX0_mayHave_34 : decode cX0_mayHave 34 = .ok (.if_icmp .ge 47, 3) := dk_162 0 47 (dk_at dksX0_mayHave_1 12 rfl rfl)
theorem dX0_mayHave_37 : decode cX0_mayHave 37 = .ok (.iload_n 3, 1) := dk_29 (dk_at dksX0_mayHave_1 15 rfl rfl)
theorem dX0_mayHave_38 : decode cX0_mayHave 38 = .ok (.aload_n 0, 1) := dk_42 (dk_at dksX0_mayHave_1 16 rfl rfl)
theorem dX0_mayHave_39 : decode cX0_mayHave 39 = .ok (.aload_n 0, 1) := dk_42 (dk_at dksX0_mayHave_1 17 rfl rfl)
theorem dX0_mayHave_40 : decode cX0_mayHave 40 = .ok (.getfield 10, 3) := dk_180 0 10 (dk_at dksX0_mayHave_1 18 rfl rfl)
theorem dX0_mayHave_43 : decode cX0_mayHave 43 = .ok (.invokevirtual 177, 3) := dk_182 0 177 (dk_at dksX0_mayHave_1 21 rfl rfl)
theorem dX0_mayHave_46 : decode cX0_mayHave 46 = .ok (.iload_n 1, 1) := dk_27 (dk_at dksX0_mayHave_2 0 rfl rfl)
theorem dX0_mayHave_47 : decode cX0_mayHave 47 = .ok (.iload 4, 2) := dk_21 4 (dk_at dksX0_mayHave_2 1 rfl rfl)
theorem dX0_mayHave_49 : decode cX0_mayHave 49 = .ok (.invokestatic 313, 3) := dk_184 1 57 (dk_at dksX0_mayHave_2 3 rfl rfl)
theorem dX0_mayHave_52 : decode cX0_mayHave 52 = .ok (.iload_n 1, 1) := dk_27 (dk_at dksX0_mayHave_2 6 rfl rfl)
theorem dX0_mayHave_53 : decode cX0_mayHave 53 = .ok (.iload 4, 2) := dk_21 4 (dk_at dksX0_mayHave_2 7 rfl rfl)
theorem dX0_mayHave_55 : decode cX0_mayHave 55 = .ok (.invokestatic 317, 3) := dk_184 1 61 (dk_at dksX0_mayHave_2 9 rfl rfl)
theorem dX0_mayHave_58 : decode cX0_mayHave 58 = .ok (.invokevirtual 303, 3) := dk_182 1 47 (dk_at dksX0_mayHave_2 12 rfl rfl)
theorem dX0_mayHave_61 : decode cX0_mayHave 61 = .ok (.iload_n 2, 1) := dk_28 (dk_at dksX0_mayHave_2 15 rfl rfl)
theorem dX0_mayHave_62 : decode cX0_mayHave 62 = .ok (.if_icmp .ne 10, 3) := dk_160 0 10 (dk_at dksX0_mayHave_2 16 rfl rfl)
theorem dX0_mayHave_65 : decode cX0_mayHave 65 = .ok (.iconst 1, 1) := dk_4 (dk_at dksX0_mayHave_2 19 rfl rfl)
theorem dX0_mayHave_66 : decode cX0_mayHave 66 = .ok (.iload 4, 2) := dk_21 4 (dk_at dksX0_mayHave_2 20 rfl rfl)
theorem dX0_mayHave_68 : decode cX0_mayHave 68 = .ok (.ishl, 1) := dk_120 (dk_at dksX0_mayHave_2 22 rfl rfl)
theorem dX0_mayHave_69 : decode cX0_mayHave 69 = .ok (.goto 4, 3) := dk_167 0 4 (dk_at dksX0_mayHave_3 0 rfl rfl)
theorem dX0_mayHave_72 : decode cX0_mayHave 72 = .ok (.iconst 0, 1) := dk_3 (dk_at dksX0_mayHave_3 3 rfl rfl)
theorem dX0_mayHave_73 : decode cX0_mayHave 73 = .ok (.ior, 1) := dk_128 (dk_at dksX0_mayHave_3 4 rfl rfl)
theorem dX0_mayHave_74 : decode cX0_mayHave 74 = .ok (.istore_n 3, 1) := dk_62 (dk_at dksX0_mayHave_3 5 rfl rfl)
theorem dX0_mayHave_75 : decode cX0_mayHave 75 = .ok (.iinc 4 1, 3) := dk_132 4 1 (dk_at dksX0_mayHave_3 6 rfl rfl)
theorem dX0_mayHave_78 : decode cX0_mayHave 78 = .ok (.goto (-47), 3) := dk_167 255 209 (dk_at dksX0_mayHave_3 9 rfl rfl)
theorem dX0_mayHave_81 : decode cX0_mayHave 81 = .ok (.iload_n 3, 1) := dk_29 (dk_at dksX0_mayHave_3 12 rfl rfl)
theorem dX0_mayHave_82 : decode cX0_mayHave 82 = .ok (.ireturn, 1) := dk_172 (dk_at dksX0_mayHave_3 13 rfl rfl)
abbrev cX0_mate : ByteArray := prog_1_method_41_code
def yX0_mate : MethodName := ⟨RX0, "mate", "(I)I"⟩
def dkwX0_mate_2 : List UInt8 := [3, 182, 1, 67, 182, 1, 73, 172]
abbrev dktX0_mate_2 : List UInt8 := dkwX0_mate_2 ++ []
def dkwX0_mate_1 : List UInt8 := [182, 1, 64, 87, 42, 5, 182, 1, 67, 154, 0, 7, 2, 167, 0, 18, 42, 27, 42, 5, 182, 1, 67, 42]
abbrev dktX0_mate_1 : List UInt8 := dkwX0_mate_1 ++ dktX0_mate_2
def dkwX0_mate_0 : List UInt8 := [42, 180, 0, 10, 27, 182, 0, 123, 154, 0, 6, 16, 254, 172, 42, 42, 180, 0, 10, 182, 0, 177]
abbrev dktX0_mate_0 : List UInt8 := dkwX0_mate_0 ++ dktX0_mate_1
theorem dksX0_mate_0 : cX0_mate.data.toList.drop 0 = dktX0_mate_0 := by decide +kernel
theorem dksX0_mate_1 : cX0_mate.data.toList.drop 22 = dktX0_mate_1 := dk_seg dksX0_mate_0 22 rfl rfl
theorem dksX0_mate_2 : cX0_mate.data.toList.drop 46 = dktX0_mate_2 := dk_seg dksX0_mate_1 24 rfl rfl
theorem dX0_mate_0 : decode cX0_mate 0 = .ok (.aload_n 0, 1) := dk_42 (dk_at dksX0_mate_0 0 rfl rfl)
theorem dX0_mate_1 : decode cX0_mate 1 = .ok (.getfield 10, 3) := dk_180 0 10 (dk_at dksX0_mate_0 1 rfl rfl)
theorem dX0_mate_4 : decode cX0_mate 4 = .ok (.iload_n 1, 1) := dk_27 (dk_at dksX0_mate_0 4 rfl rfl)
theorem dX0_mate_5 : decode cX0_mate 5 = .ok (.invokevirtual 123, 3) := dk_182 0 123 (dk_at dksX0_mate_0 5 rfl rfl)
theorem dX0_mate_8 : decode cX0_mate 8 = .ok (.ifCond .ne 6, 3) := dk_154 0 6 (dk_at dksX0_mate_0 8 rfl rfl)
theorem dX0_mate_11 : decode cX0_mate 11 = .ok (.bipush (-2), 2) := dk_16 254 (dk_at dksX0_mate_0 11 rfl rfl)
theorem dX0_mate_13 : decode cX0_mate 13 = .ok (.ireturn, 1) := dk_172 (dk_at dksX0_mate_0 13 rfl rfl)
theorem dX0_mate_14 : decode cX0_mate 14 = .ok (.aload_n 0, 1) := dk_42 (dk_at dksX0_mate_0 14 rfl rfl)
theorem dX0_mate_15 : decode cX0_mate 15 = .ok (.aload_n 0, 1) := dk_42 (dk_at dksX0_mate_0 15 rfl rfl)
theorem dX0_mate_16 : decode cX0_mate 16 = .ok (.getfield 10, 3) := dk_180 0 10 (dk_at dksX0_mate_0 16 rfl rfl)
theorem dX0_mate_19 : decode cX0_mate 19 = .ok (.invokevirtual 177, 3) := dk_182 0 177 (dk_at dksX0_mate_0 19 rfl rfl)
theorem dX0_mate_22 : decode cX0_mate 22 = .ok (.invokevirtual 320, 3) := dk_182 1 64 (dk_at dksX0_mate_1 0 rfl rfl)
theorem dX0_mate_25 : decode cX0_mate 25 = .ok (.pop, 1) := dk_87 (dk_at dksX0_mate_1 3 rfl rfl)
theorem dX0_mate_26 : decode cX0_mate 26 = .ok (.aload_n 0, 1) := dk_42 (dk_at dksX0_mate_1 4 rfl rfl)
theorem dX0_mate_27 : decode cX0_mate 27 = .ok (.iconst 2, 1) := dk_5 (dk_at dksX0_mate_1 5 rfl rfl)
theorem dX0_mate_28 : decode cX0_mate 28 = .ok (.invokevirtual 323, 3) := dk_182 1 67 (dk_at dksX0_mate_1 6 rfl rfl)
theorem dX0_mate_31 : decode cX0_mate 31 = .ok (.ifCond .ne 7, 3) := dk_154 0 7 (dk_at dksX0_mate_1 9 rfl rfl)
theorem dX0_mate_34 : decode cX0_mate 34 = .ok (.iconst (-1), 1) := dk_2 (dk_at dksX0_mate_1 12 rfl rfl)
theorem dX0_mate_35 : decode cX0_mate 35 = .ok (.goto 18, 3) := dk_167 0 18 (dk_at dksX0_mate_1 13 rfl rfl)
theorem dX0_mate_38 : decode cX0_mate 38 = .ok (.aload_n 0, 1) := dk_42 (dk_at dksX0_mate_1 16 rfl rfl)
theorem dX0_mate_39 : decode cX0_mate 39 = .ok (.iload_n 1, 1) := dk_27 (dk_at dksX0_mate_1 17 rfl rfl)
theorem dX0_mate_40 : decode cX0_mate 40 = .ok (.aload_n 0, 1) := dk_42 (dk_at dksX0_mate_1 18 rfl rfl)
theorem dX0_mate_41 : decode cX0_mate 41 = .ok (.iconst 2, 1) := dk_5 (dk_at dksX0_mate_1 19 rfl rfl)
theorem dX0_mate_42 : decode cX0_mate 42 = .ok (.invokevirtual 323, 3) := dk_182 1 67 (dk_at dksX0_mate_1 20 rfl rfl)
theorem dX0_mate_45 : decode cX0_mate 45 = .ok (.aload_n 0, 1) := dk_42 (dk_at dksX0_mate_1 23 rfl rfl)
theorem dX0_mate_46 : decode cX0_mate 46 = .ok (.iconst 0, 1) := dk_3 (dk_at dksX0_mate_2 0 rfl rfl)
theorem dX0_mate_47 : decode cX0_mate 47 = .ok (.invokevirtual 323, 3) := dk_182 1 67 (dk_at dksX0_mate_2 1 rfl rfl)
theorem dX0_mate_50 : decode cX0_mate 50 = .ok (.invokevirtual 329, 3) := dk_182 1 73 (dk_at dksX0_mate_2 4 rfl rfl)
theorem dX0_mate_53 : decode cX0_mate 53 = .ok (.ireturn, 1) := dk_172 (dk_at dksX0_mate_2 7 rfl rfl)
abbrev cX0_mateIn : ByteArray := prog_1_method_40_code
def yX0_mateIn : MethodName := ⟨RX0, "mateIn", "(III)I"⟩
def dkwX0_mateIn_5 : List UInt8 := [167, 0, 5, 21, 6, 172, 21, 4, 154, 0, 5, 2, 172, 167, 255, 130]
abbrev dktX0_mateIn_5 : List UInt8 := dkwX0_mateIn_5 ++ []
def dkwX0_mateIn_4 : List UInt8 := [126, 54, 5, 21, 6, 27, 159, 0, 9, 21, 7, 27, 160, 0, 17, 21, 6, 27, 160, 0, 8, 21, 7]
abbrev dktX0_mateIn_4 : List UInt8 := dkwX0_mateIn_4 ++ dktX0_mateIn_5
def dkwX0_mateIn_3 : List UInt8 := [126, 2, 21, 7, 4, 96, 120, 126, 184, 1, 31, 54, 7, 167, 255, 213, 21, 5, 4, 21, 7, 120, 2, 130]
abbrev dktX0_mateIn_3 : List UInt8 := dkwX0_mateIn_3 ++ dktX0_mateIn_4
def dkwX0_mateIn_2 : List UInt8 := [21, 7, 120, 2, 130, 126, 182, 1, 70, 154, 0, 31, 42, 180, 0, 10, 180, 0, 152, 21, 6, 46, 21, 5]
abbrev dktX0_mateIn_2 : List UInt8 := dkwX0_mateIn_2 ++ dktX0_mateIn_3
def dkwX0_mateIn_1 : List UInt8 := [42, 180, 0, 10, 180, 0, 152, 21, 6, 46, 21, 5, 126, 184, 1, 31, 54, 7, 42, 21, 4, 21, 5, 4]
abbrev dktX0_mateIn_1 : List UInt8 := dkwX0_mateIn_1 ++ dktX0_mateIn_2
def dkwX0_mateIn_0 : List UInt8 := [28, 54, 4, 29, 54, 5, 21, 4, 184, 1, 31, 54, 6, 21, 4, 4, 21, 6, 120, 2, 130, 126, 54, 4]
abbrev dktX0_mateIn_0 : List UInt8 := dkwX0_mateIn_0 ++ dktX0_mateIn_1
theorem dksX0_mateIn_0 : cX0_mateIn.data.toList.drop 0 = dktX0_mateIn_0 := by decide +kernel
theorem dksX0_mateIn_1 : cX0_mateIn.data.toList.drop 24 = dktX0_mateIn_1 := dk_seg dksX0_mateIn_0 24 rfl rfl
theorem dksX0_mateIn_2 : cX0_mateIn.data.toList.drop 48 = dktX0_mateIn_2 := dk_seg dksX0_mateIn_1 24 rfl rfl
theorem dksX0_mateIn_3 : cX0_mateIn.data.toList.drop 72 = dktX0_mateIn_3 := dk_seg dksX0_mateIn_2 24 rfl rfl
theorem dksX0_mateIn_4 : cX0_mateIn.data.toList.drop 96 = dktX0_mateIn_4 := dk_seg dksX0_mateIn_3 24 rfl rfl
theorem dksX0_mateIn_5 : cX0_mateIn.data.toList.drop 119 = dktX0_mateIn_5 := dk_seg dksX0_mateIn_4 23 rfl rfl
theorem dX0_mateIn_0 : decode cX0_mateIn 0 = .ok (.iload_n 2, 1) := dk_28 (dk_at dksX0_mateIn_0 0 rfl rfl)
theorem dX0_mateIn_1 : decode cX0_mateIn 1 = .ok (.istore 4, 2) := dk_54 4 (dk_at dksX0_mateIn_0 1 rfl rfl)
theorem dX0_mateIn_3 : decode cX0_mateIn 3 = .ok (.iload_n 3, 1) := dk_29 (dk_at dksX0_mateIn_0 3 rfl rfl)
theorem dX0_mateIn_4 : decode cX0_mateIn 4 = .ok (.istore 5, 2) := dk_54 5 (dk_at dksX0_mateIn_0 4 rfl rfl)
theorem dX0_mateIn_6 : decode cX0_mateIn 6 = .ok (.iload 4, 2) := dk_21 4 (dk_at dksX0_mateIn_0 6 rfl rfl)
theorem dX0_mateIn_8 : decode cX0_mateIn 8 = .ok (.invokestatic 287, 3) := dk_184 1 31 (dk_at dksX0_mateIn_0 8 rfl rfl)
theorem dX0_mateIn_11 : decode cX0_mateIn 11 = .ok (.istore 6, 2) := dk_54 6 (dk_at dksX0_mateIn_0 11 rfl rfl)
theorem dX0_mateIn_13 : decode cX0_mateIn 13 = .ok (.iload 4, 2) := dk_21 4 (dk_at dksX0_mateIn_0 13 rfl rfl)
theorem dX0_mateIn_15 : decode cX0_mateIn 15 = .ok (.iconst 1, 1) := dk_4 (dk_at dksX0_mateIn_0 15 rfl rfl)
theorem dX0_mateIn_16 : decode cX0_mateIn 16 = .ok (.iload 6, 2) := dk_21 6 (dk_at dksX0_mateIn_0 16 rfl rfl)
theorem dX0_mateIn_18 : decode cX0_mateIn 18 = .ok (.ishl, 1) := dk_120 (dk_at dksX0_mateIn_0 18 rfl rfl)
theorem dX0_mateIn_19 : decode cX0_mateIn 19 = .ok (.iconst (-1), 1) := dk_2 (dk_at dksX0_mateIn_0 19 rfl rfl)
theorem dX0_mateIn_20 : decode cX0_mateIn 20 = .ok (.ixor, 1) := dk_130 (dk_at dksX0_mateIn_0 20 rfl rfl)
theorem dX0_mateIn_21 : decode cX0_mateIn 21 = .ok (.iand, 1) := dk_126 (dk_at dksX0_mateIn_0 21 rfl rfl)
theorem dX0_mateIn_22 : decode cX0_mateIn 22 = .ok (.istore 4, 2) := dk_54 4 (dk_at dksX0_mateIn_0 22 rfl rfl)
theorem dX0_mateIn_24 : decode cX0_mateIn 24 = .ok (.aload_n 0, 1) := dk_42 (dk_at dksX0_mateIn_1 0 rfl rfl)
theorem dX0_mateIn_25 : decode cX0_mateIn 25 = .ok (.getfield 10, 3) := dk_180 0 10 (dk_at dksX0_mateIn_1 1 rfl rfl)
theorem dX0_mateIn_28 : decode cX0_mateIn 28 = .ok (.getfield 152, 3) := dk_180 0 152 (dk_at dksX0_mateIn_1 4 rfl rfl)
theorem dX0_mateIn_31 : decode cX0_mateIn 31 = .ok (.iload 6, 2) := dk_21 6 (dk_at dksX0_mateIn_1 7 rfl rfl)
theorem dX0_mateIn_33 : decode cX0_mateIn 33 = .ok (.iaload, 1) := dk_46 (dk_at dksX0_mateIn_1 9 rfl rfl)
theorem dX0_mateIn_34 : decode cX0_mateIn 34 = .ok (.iload 5, 2) := dk_21 5 (dk_at dksX0_mateIn_1 10 rfl rfl)
theorem dX0_mateIn_36 : decode cX0_mateIn 36 = .ok (.iand, 1) := dk_126 (dk_at dksX0_mateIn_1 12 rfl rfl)
theorem dX0_mateIn_37 : decode cX0_mateIn 37 = .ok (.invokestatic 287, 3) := dk_184 1 31 (dk_at dksX0_mateIn_1 13 rfl rfl)
theorem dX0_mateIn_40 : decode cX0_mateIn 40 = .ok (.istore 7, 2) := dk_54 7 (dk_at dksX0_mateIn_1 16 rfl rfl)
theorem dX0_mateIn_42 : decode cX0_mateIn 42 = .ok (.aload_n 0, 1) := dk_42 (dk_at dksX0_mateIn_1 18 rfl rfl)
theorem dX0_mateIn_43 : decode cX0_mateIn 43 = .ok (.iload 4, 2) := dk_21 4 (dk_at dksX0_mateIn_1 19 rfl rfl)
theorem dX0_mateIn_45 : decode cX0_mateIn 45 = .ok (.iload 5, 2) := dk_21 5 (dk_at dksX0_mateIn_1 21 rfl rfl)
theorem dX0_mateIn_47 : decode cX0_mateIn 47 = .ok (.iconst 1, 1) := dk_4 (dk_at dksX0_mateIn_1 23 rfl rfl)
theorem dX0_mateIn_48 : decode cX0_mateIn 48 = .ok (.iload 7, 2) := dk_21 7 (dk_at dksX0_mateIn_2 0 rfl rfl)
theorem dX0_mateIn_50 : decode cX0_mateIn 50 = .ok (.ishl, 1) := dk_120 (dk_at dksX0_mateIn_2 2 rfl rfl)
theorem dX0_mateIn_51 : decode cX0_mateIn 51 = .ok (.iconst (-1), 1) := dk_2 (dk_at dksX0_mateIn_2 3 rfl rfl)
theorem dX0_mateIn_52 : decode cX0_mateIn 52 = .ok (.ixor, 1) := dk_130 (dk_at dksX0_mateIn_2 4 rfl rfl)
theorem dX0_mateIn_53 : decode cX0_mateIn 53 = .ok (.iand, 1) := dk_126 (dk_at dksX0_mateIn_2 5 rfl rfl)
theorem dX0_mateIn_54 : decode cX0_mateIn 54 = .ok (.invokevirtual 326, 3) := dk_182 1 70 (dk_at dksX0_mateIn_2 6 rfl rfl)
theorem dX0_mateIn_57 : decode cX0_mateIn 57 = .ok (.ifCond .ne 31, 3) := dk_154 0 31 (dk_at dksX0_mateIn_2 9 rfl rfl)
theorem dX0_mateIn_60 : decode cX0_mateIn 60 = .ok (.aload_n 0, 1) := dk_42 (dk_at dksX0_mateIn_2 12 rfl rfl)
theorem dX0_mateIn_61 : decode cX0_mateIn 61 = .ok (.getfield 10, 3) := dk_180 0 10 (dk_at dksX0_mateIn_2 13 rfl rfl)
theorem dX0_mateIn_64 : decode cX0_mateIn 64 = .ok (.getfield 152, 3) := dk_180 0 152 (dk_at dksX0_mateIn_2 16 rfl rfl)
theorem dX0_mateIn_67 : decode cX0_mateIn 67 = .ok (.iload 6, 2) := dk_21 6 (dk_at dksX0_mateIn_2 19 rfl rfl)
theorem dX0_mateIn_69 : decode cX0_mateIn 69 = .ok (.iaload, 1) := dk_46 (dk_at dksX0_mateIn_2 21 rfl rfl)
theorem dX0_mateIn_70 : decode cX0_mateIn 70 = .ok (.iload 5, 2) := dk_21 5 (dk_at dksX0_mateIn_2 22 rfl rfl)
theorem dX0_mateIn_72 : decode cX0_mateIn 72 = .ok (.iand, 1) := dk_126 (dk_at dksX0_mateIn_3 0 rfl rfl)
theorem dX0_mateIn_73 : decode cX0_mateIn 73 = .ok (.iconst (-1), 1) := dk_2 (dk_at dksX0_mateIn_3 1 rfl rfl)
theorem dX0_mateIn_74 : decode cX0_mateIn 74 = .ok (.iload 7, 2) := dk_21 7 (dk_at dksX0_mateIn_3 2 rfl rfl)
theorem dX0_mateIn_76 : decode cX0_mateIn 76 = .ok (.iconst 1, 1) := dk_4 (dk_at dksX0_mateIn_3 4 rfl rfl)
theorem dX0_mateIn_77 : decode cX0_mateIn 77 = .ok (.iadd, 1) := dk_96 (dk_at dksX0_mateIn_3 5 rfl rfl)
theorem dX0_mateIn_78 : decode cX0_mateIn 78 = .ok (.ishl, 1) := dk_120 (dk_at dksX0_mateIn_3 6 rfl rfl)
theorem dX0_mateIn_79 : decode cX0_mateIn 79 = .ok (.iand, 1) := dk_126 (dk_at dksX0_mateIn_3 7 rfl rfl)
theorem dX0_mateIn_80 : decode cX0_mateIn 80 = .ok (.invokestatic 287, 3) := dk_184 1 31 (dk_at dksX0_mateIn_3 8 rfl rfl)
theorem dX0_mateIn_83 : decode cX0_mateIn 83 = .ok (.istore 7, 2) := dk_54 7 (dk_at dksX0_mateIn_3 11 rfl rfl)
theorem dX0_mateIn_85 : decode cX0_mateIn 85 = .ok (.goto (-43), 3) := dk_167 255 213 (dk_at dksX0_mateIn_3 13 rfl rfl)
theorem dX0_mateIn_88 : decode cX0_mateIn 88 = .ok (.iload 5, 2) := dk_21 5 (dk_at dksX0_mateIn_3 16 rfl rfl)
theorem dX0_mateIn_90 : decode cX0_mateIn 90 = .ok (.iconst 1, 1) := dk_4 (dk_at dksX0_mateIn_3 18 rfl rfl)
theorem dX0_mateIn_91 : decode cX0_mateIn 91 = .ok (.iload 7, 2) := dk_21 7 (dk_at dksX0_mateIn_3 19 rfl rfl)
theorem dX0_mateIn_93 : decode cX0_mateIn 93 = .ok (.ishl, 1) := dk_120 (dk_at dksX0_mateIn_3 21 rfl rfl)
theorem dX0_mateIn_94 : decode cX0_mateIn 94 = .ok (.iconst (-1), 1) := dk_2 (dk_at dksX0_mateIn_3 22 rfl rfl)
theorem dX0_mateIn_95 : decode cX0_mateIn 95 = .ok (.ixor, 1) := dk_130 (dk_at dksX0_mateIn_3 23 rfl rfl)
theorem dX0_mateIn_96 : decode cX0_mateIn 96 = .ok (.iand, 1) := dk_126 (dk_at dksX0_mateIn_4 0 rfl rfl)
theorem dX0_mateIn_97 : decode cX0_mateIn 97 = .ok (.istore 5, 2) := dk_54 5 (dk_at dksX0_mateIn_4 1 rfl rfl)
theorem dX0_mateIn_99 : decode cX0_mateIn 99 = .ok (.iload 6, 2) := dk_21 6 (dk_at dksX0_mateIn_4 3 rfl rfl)
theorem dX0_mateIn_101 : decode cX0_mateIn 101 = .ok (.iload_n 1, 1) := dk_27 (dk_at dksX0_mateIn_4 5 rfl rfl)
theorem dX0_mateIn_102 : decode cX0_mateIn 102 = .ok (.if_icmp .eq 9, 3) := dk_159 0 9 (dk_at dksX0_mateIn_4 6 rfl rfl)
theorem dX0_mateIn_105 : decode cX0_mateIn 105 = .ok (.iload 7, 2) := dk_21 7 (dk_at dksX0_mateIn_4 9 rfl rfl)
theorem dX0_mateIn_107 : decode cX0_mateIn 107 = .ok (.iload_n 1, 1) := dk_27 (dk_at dksX0_mateIn_4 11 rfl rfl)
theorem dX0_mateIn_108 : decode cX0_mateIn 108 = .ok (.if_icmp .ne 17, 3) := dk_160 0 17 (dk_at dksX0_mateIn_4 12 rfl rfl)
theorem dX0_mateIn_111 : decode cX0_mateIn 111 = .ok (.iload 6, 2) := dk_21 6 (dk_at dksX0_mateIn_4 15 rfl rfl)
theorem dX0_mateIn_113 : decode cX0_mateIn 113 = .ok (.iload_n 1, 1) := dk_27 (dk_at dksX0_mateIn_4 17 rfl rfl)
theorem dX0_mateIn_114 : decode cX0_mateIn 114 = .ok (.if_icmp .ne 8, 3) := dk_160 0 8 (dk_at dksX0_mateIn_4 18 rfl rfl)
theorem dX0_mateIn_117 : decode cX0_mateIn 117 = .ok (.iload 7, 2) := dk_21 7 (dk_at dksX0_mateIn_4 21 rfl rfl)
theorem dX0_mateIn_119 : decode cX0_mateIn 119 = .ok (.goto 5, 3) := dk_167 0 5 (dk_at dksX0_mateIn_5 0 rfl rfl)
theorem dX0_mateIn_122 : decode cX0_mateIn 122 = .ok (.iload 6, 2) := dk_21 6 (dk_at dksX0_mateIn_5 3 rfl rfl)
theorem dX0_mateIn_124 : decode cX0_mateIn 124 = .ok (.ireturn, 1) := dk_172 (dk_at dksX0_mateIn_5 5 rfl rfl)
theorem dX0_mateIn_125 : decode cX0_mateIn 125 = .ok (.iload 4, 2) := dk_21 4 (dk_at dksX0_mateIn_5 6 rfl rfl)
theorem dX0_mateIn_127 : decode cX0_mateIn 127 = .ok (.ifCond .ne 5, 3) := dk_154 0 5 (dk_at dksX0_mateIn_5 8 rfl rfl)
theorem dX0_mateIn_130 : decode cX0_mateIn 130 = .ok (.iconst (-1), 1) := dk_2 (dk_at dksX0_mateIn_5 11 rfl rfl)
theorem dX0_mateIn_131 : decode cX0_mateIn 131 = .ok (.ireturn, 1) := dk_172 (dk_at dksX0_mateIn_5 12 rfl rfl)
theorem dX0_mateIn_132 : decode cX0_mateIn 132 = .ok (.goto (-126), 3) := dk_167 255 130 (dk_at dksX0_mateIn_5 13 rfl rfl)
abbrev cX0_canPair : ByteArray := prog_1_method_39_code
def yX0_canPair : MethodName := ⟨RX0, "canPair", "(II)Z"⟩
def dkwX0_canPair_0 : List UInt8 := [42, 27, 28, 182, 1, 44, 27, 184, 0, 155, 160, 0, 7, 4, 167, 0, 4, 3, 172]
abbrev dktX0_canPair_0 : List UInt8 := dkwX0_canPair_0 ++ []
theorem dksX0_canPair_0 : cX0_canPair.data.toList.drop 0 = dktX0_canPair_0 := by decide +kernel
theorem dX0_canPair_0 : decode cX0_canPair 0 = .ok (.aload_n 0, 1) := dk_42 (dk_at dksX0_canPair_0 0 rfl rfl)
theorem dX0_canPair_1 : decode cX0_canPair 1 = .ok (.iload_n 1, 1) := dk_27 (dk_at dksX0_canPair_0 1 rfl rfl)
theorem dX0_canPair_2 : decode cX0_canPair 2 = .ok (.iload_n 2, 1) := dk_28 (dk_at dksX0_canPair_0 2 rfl rfl)
theorem dX0_canPair_3 : decode cX0_canPair 3 = .ok (.invokevirtual 300, 3) := dk_182 1 44 (dk_at dksX0_canPair_0 3 rfl rfl)
theorem dX0_canPair_6 : decode cX0_canPair 6 = .ok (.iload_n 1, 1) := dk_27 (dk_at dksX0_canPair_0 6 rfl rfl)
theorem dX0_canPair_7 : decode cX0_canPair 7 = .ok (.invokestatic 155, 3) := dk_184 0 155 (dk_at dksX0_canPair_0 7 rfl rfl)
theorem dX0_canPair_10 : decode cX0_canPair 10 = .ok (.if_icmp .ne 7, 3) := dk_160 0 7 (dk_at dksX0_canPair_0 10 rfl rfl)
theorem dX0_canPair_13 : decode cX0_canPair 13 = .ok (.iconst 1, 1) := dk_4 (dk_at dksX0_canPair_0 13 rfl rfl)
theorem dX0_canPair_14 : decode cX0_canPair 14 = .ok (.goto 4, 3) := dk_167 0 4 (dk_at dksX0_canPair_0 14 rfl rfl)
theorem dX0_canPair_17 : decode cX0_canPair 17 = .ok (.iconst 0, 1) := dk_3 (dk_at dksX0_canPair_0 17 rfl rfl)
theorem dX0_canPair_18 : decode cX0_canPair 18 = .ok (.ireturn, 1) := dk_172 (dk_at dksX0_canPair_0 18 rfl rfl)
abbrev cX0_persists : ByteArray := prog_1_method_42_code
def yX0_persists : MethodName := ⟨RX0, "persists", "()I"⟩
def dkwX0_persists_2 : List UInt8 := [180, 1, 25, 172]
abbrev dktX0_persists_2 : List UInt8 := dkwX0_persists_2 ++ []
def dkwX0_persists_1 : List UInt8 := [42, 42, 180, 0, 10, 182, 0, 177, 182, 1, 77, 62, 42, 29, 27, 28, 186, 1, 80, 0, 0, 182, 0, 238]
abbrev dktX0_persists_1 : List UInt8 := dkwX0_persists_1 ++ dktX0_persists_2
def dkwX0_persists_0 : List UInt8 := [42, 42, 180, 0, 10, 182, 0, 177, 182, 1, 64, 87, 42, 5, 182, 1, 67, 60, 42, 3, 182, 1, 67, 61]
abbrev dktX0_persists_0 : List UInt8 := dkwX0_persists_0 ++ dktX0_persists_1
theorem dksX0_persists_0 : cX0_persists.data.toList.drop 0 = dktX0_persists_0 := by decide +kernel
theorem dksX0_persists_1 : cX0_persists.data.toList.drop 24 = dktX0_persists_1 := dk_seg dksX0_persists_0 24 rfl rfl
theorem dksX0_persists_2 : cX0_persists.data.toList.drop 48 = dktX0_persists_2 := dk_seg dksX0_persists_1 24 rfl rfl
theorem dX0_persists_0 : decode cX0_persists 0 = .ok (.aload_n 0, 1) := dk_42 (dk_at dksX0_persists_0 0 rfl rfl)
theorem dX0_persists_1 : decode cX0_persists 1 = .ok (.aload_n 0, 1) := dk_42 (dk_at dksX0_persists_0 1 rfl rfl)
theorem dX0_persists_2 : decode cX0_persists 2 = .ok (.getfield 10, 3) := dk_180 0 10 (dk_at dksX0_persists_0 2 rfl rfl)
theorem dX0_persists_5 : decode cX0_persists 5 = .ok (.invokevirtual 177, 3) := dk_182 0 177 (dk_at dksX0_persists_0 5 rfl rfl)
theorem dX0_persists_8 : decode cX0_persists 8 = .ok (.invokevirtual 320, 3) := dk_182 1 64 (dk_at dksX0_persists_0 8 rfl rfl)
theorem dX0_persists_11 : decode cX0_persists 11 = .ok (.pop, 1) := dk_87 (dk_at dksX0_persists_0 11 rfl rfl)
theorem dX0_persists_12 : decode cX0_persists 12 = .ok (.aload_n 0, 1) := dk_42 (dk_at dksX0_persists_0 12 rfl rfl)
theorem dX0_persists_13 : decode cX0_persists 13 = .ok (.iconst 2, 1) := dk_5 (dk_at dksX0_persists_0 13 rfl rfl)
theorem dX0_persists_14 : decode cX0_persists 14 = .ok (.invokevirtual 323, 3) := dk_182 1 67 (dk_at dksX0_persists_0 14 rfl rfl)
theorem dX0_persists_17 : decode cX0_persists 17 = .ok (.istore_n 1, 1) := dk_60 (dk_at dksX0_persists_0 17 rfl rfl)
theorem dX0_persists_18 : decode cX0_persists 18 = .ok (.aload_n 0, 1) := dk_42 (dk_at dksX0_persists_0 18 rfl rfl)
theorem dX0_persists_19 : decode cX0_persists 19 = .ok (.iconst 0, 1) := dk_3 (dk_at dksX0_persists_0 19 rfl rfl)
theorem dX0_persists_20 : decode cX0_persists 20 = .ok (.invokevirtual 323, 3) := dk_182 1 67 (dk_at dksX0_persists_0 20 rfl rfl)
theorem dX0_persists_23 : decode cX0_persists 23 = .ok (.istore_n 2, 1) := dk_61 (dk_at dksX0_persists_0 23 rfl rfl)
theorem dX0_persists_24 : decode cX0_persists 24 = .ok (.aload_n 0, 1) := dk_42 (dk_at dksX0_persists_1 0 rfl rfl)
theorem dX0_persists_25 : decode cX0_persists 25 = .ok (.aload_n 0, 1) := dk_42 (dk_at dksX0_persists_1 1 rfl rfl)
theorem dX0_persists_26 : decode cX0_persists 26 = .ok (.getfield 10, 3) := dk_180 0 10 (dk_at dksX0_persists_1 2 rfl rfl)
theorem dX0_persists_29 : decode cX0_persists 29 = .ok (.invokevirtual 177, 3) := dk_182 0 177 (dk_at dksX0_persists_1 5 rfl rfl)
theorem dX0_persists_32 : decode cX0_persists 32 = .ok (.invokevirtual 333, 3) := dk_182 1 77 (dk_at dksX0_persists_1 8 rfl rfl)
theorem dX0_persists_35 : decode cX0_persists 35 = .ok (.istore_n 3, 1) := dk_62 (dk_at dksX0_persists_1 11 rfl rfl)
theorem dX0_persists_36 : decode cX0_persists 36 = .ok (.aload_n 0, 1) := dk_42 (dk_at dksX0_persists_1 12 rfl rfl)
theorem dX0_persists_37 : decode cX0_persists 37 = .ok (.iload_n 3, 1) := dk_29 (dk_at dksX0_persists_1 13 rfl rfl)
theorem dX0_persists_38 : decode cX0_persists 38 = .ok (.iload_n 1, 1) := dk_27 (dk_at dksX0_persists_1 14 rfl rfl)
theorem dX0_persists_39 : decode cX0_persists 39 = .ok (.iload_n 2, 1) := dk_28 (dk_at dksX0_persists_1 15 rfl rfl)
theorem dX0_persists_40 : decode cX0_persists 40 = .ok (.invokedynamic 336, 5) := by decide +kernel
theorem dX0_persists_45 : decode cX0_persists 45 = .ok (.invokevirtual 238, 3) := dk_182 0 238 (dk_at dksX0_persists_1 21 rfl rfl)
theorem dX0_persists_48 : decode cX0_persists 48 = .ok (.getfield 281, 3) := dk_180 1 25 (dk_at dksX0_persists_2 0 rfl rfl)
theorem dX0_persists_51 : decode cX0_persists 51 = .ok (.ireturn, 1) := dk_172 (dk_at dksX0_persists_2 3 rfl rfl)
abbrev cX0_fewestOf : ByteArray := prog_1_method_58_code
def yX0_fewestOf : MethodName := ⟨RX0, "fewestOf", "(I)I"⟩
def dkwX0_fewestOf_3 : List UInt8 := [182, 1, 77, 96, 184, 1, 146, 172]
abbrev dktX0_fewestOf_3 : List UInt8 := dkwX0_fewestOf_3 ++ []
def dkwX0_fewestOf_2 : List UInt8 := [21, 4, 167, 0, 28, 21, 4, 29, 184, 0, 155, 42, 27, 29, 2, 130, 126, 4, 28, 120, 2, 130, 126]
abbrev dktX0_fewestOf_2 : List UInt8 := dkwX0_fewestOf_2 ++ dktX0_fewestOf_3
def dkwX0_fewestOf_1 : List UInt8 := [62, 4, 42, 27, 4, 28, 120, 2, 130, 126, 182, 1, 77, 96, 54, 4, 29, 184, 0, 155, 4, 160, 0, 8]
abbrev dktX0_fewestOf_1 : List UInt8 := dkwX0_fewestOf_1 ++ dktX0_fewestOf_2
def dkwX0_fewestOf_0 : List UInt8 := [42, 27, 182, 1, 143, 61, 28, 2, 160, 0, 5, 3, 172, 42, 180, 0, 10, 180, 0, 152, 28, 46, 27, 126]
abbrev dktX0_fewestOf_0 : List UInt8 := dkwX0_fewestOf_0 ++ dktX0_fewestOf_1
theorem dksX0_fewestOf_0 : cX0_fewestOf.data.toList.drop 0 = dktX0_fewestOf_0 := by decide +kernel
theorem dksX0_fewestOf_1 : cX0_fewestOf.data.toList.drop 24 = dktX0_fewestOf_1 := dk_seg dksX0_fewestOf_0 24 rfl rfl
theorem dksX0_fewestOf_2 : cX0_fewestOf.data.toList.drop 48 = dktX0_fewestOf_2 := dk_seg dksX0_fewestOf_1 24 rfl rfl
theorem dksX0_fewestOf_3 : cX0_fewestOf.data.toList.drop 71 = dktX0_fewestOf_3 := dk_seg dksX0_fewestOf_2 23 rfl rfl
theorem dX0_fewestOf_0 : decode cX0_fewestOf 0 = .ok (.aload_n 0, 1) := dk_42 (dk_at dksX0_fewestOf_0 0 rfl rfl)
theorem dX0_fewestOf_1 : decode cX0_fewestOf 1 = .ok (.iload_n 1, 1) := dk_27 (dk_at dksX0_fewestOf_0 1 rfl rfl)
theorem dX0_fewestOf_2 : decode cX0_fewestOf 2 = .ok (.invokevirtual 399, 3) := dk_182 1 143 (dk_at dksX0_fewestOf_0 2 rfl rfl)
theorem dX0_fewestOf_5 : decode cX0_fewestOf 5 = .ok (.istore_n 2, 1) := dk_61 (dk_at dksX0_fewestOf_0 5 rfl rfl)
theorem dX0_fewestOf_6 : decode cX0_fewestOf 6 = .ok (.iload_n 2, 1) := dk_28 (dk_at dksX0_fewestOf_0 6 rfl rfl)
theorem dX0_fewestOf_7 : decode cX0_fewestOf 7 = .ok (.iconst (-1), 1) := dk_2 (dk_at dksX0_fewestOf_0 7 rfl rfl)
theorem dX0_fewestOf_8 : decode cX0_fewestOf 8 = .ok (.if_icmp .ne 5, 3) := dk_160 0 5 (dk_at dksX0_fewestOf_0 8 rfl rfl)
theorem dX0_fewestOf_11 : decode cX0_fewestOf 11 = .ok (.iconst 0, 1) := dk_3 (dk_at dksX0_fewestOf_0 11 rfl rfl)
theorem dX0_fewestOf_12 : decode cX0_fewestOf 12 = .ok (.ireturn, 1) := dk_172 (dk_at dksX0_fewestOf_0 12 rfl rfl)
theorem dX0_fewestOf_13 : decode cX0_fewestOf 13 = .ok (.aload_n 0, 1) := dk_42 (dk_at dksX0_fewestOf_0 13 rfl rfl)
theorem dX0_fewestOf_14 : decode cX0_fewestOf 14 = .ok (.getfield 10, 3) := dk_180 0 10 (dk_at dksX0_fewestOf_0 14 rfl rfl)
theorem dX0_fewestOf_17 : decode cX0_fewestOf 17 = .ok (.getfield 152, 3) := dk_180 0 152 (dk_at dksX0_fewestOf_0 17 rfl rfl)
theorem dX0_fewestOf_20 : decode cX0_fewestOf 20 = .ok (.iload_n 2, 1) := dk_28 (dk_at dksX0_fewestOf_0 20 rfl rfl)
theorem dX0_fewestOf_21 : decode cX0_fewestOf 21 = .ok (.iaload, 1) := dk_46 (dk_at dksX0_fewestOf_0 21 rfl rfl)
theorem dX0_fewestOf_22 : decode cX0_fewestOf 22 = .ok (.iload_n 1, 1) := dk_27 (dk_at dksX0_fewestOf_0 22 rfl rfl)
theorem dX0_fewestOf_23 : decode cX0_fewestOf 23 = .ok (.iand, 1) := dk_126 (dk_at dksX0_fewestOf_0 23 rfl rfl)
theorem dX0_fewestOf_24 : decode cX0_fewestOf 24 = .ok (.istore_n 3, 1) := dk_62 (dk_at dksX0_fewestOf_1 0 rfl rfl)
theorem dX0_fewestOf_25 : decode cX0_fewestOf 25 = .ok (.iconst 1, 1) := dk_4 (dk_at dksX0_fewestOf_1 1 rfl rfl)
theorem dX0_fewestOf_26 : decode cX0_fewestOf 26 = .ok (.aload_n 0, 1) := dk_42 (dk_at dksX0_fewestOf_1 2 rfl rfl)
theorem dX0_fewestOf_27 : decode cX0_fewestOf 27 = .ok (.iload_n 1, 1) := dk_27 (dk_at dksX0_fewestOf_1 3 rfl rfl)
theorem dX0_fewestOf_28 : decode cX0_fewestOf 28 = .ok (.iconst 1, 1) := dk_4 (dk_at dksX0_fewestOf_1 4 rfl rfl)
theorem dX0_fewestOf_29 : decode cX0_fewestOf 29 = .ok (.iload_n 2, 1) := dk_28 (dk_at dksX0_fewestOf_1 5 rfl rfl)
theorem dX0_fewestOf_30 : decode cX0_fewestOf 30 = .ok (.ishl, 1) := dk_120 (dk_at dksX0_fewestOf_1 6 rfl rfl)
theorem dX0_fewestOf_31 : decode cX0_fewestOf 31 = .ok (.iconst (-1), 1) := dk_2 (dk_at dksX0_fewestOf_1 7 rfl rfl)
theorem dX0_fewestOf_32 : decode cX0_fewestOf 32 = .ok (.ixor, 1) := dk_130 (dk_at dksX0_fewestOf_1 8 rfl rfl)
theorem dX0_fewestOf_33 : decode cX0_fewestOf 33 = .ok (.iand, 1) := dk_126 (dk_at dksX0_fewestOf_1 9 rfl rfl)
theorem dX0_fewestOf_34 : decode cX0_fewestOf 34 = .ok (.invokevirtual 333, 3) := dk_182 1 77 (dk_at dksX0_fewestOf_1 10 rfl rfl)
theorem dX0_fewestOf_37 : decode cX0_fewestOf 37 = .ok (.iadd, 1) := dk_96 (dk_at dksX0_fewestOf_1 13 rfl rfl)
theorem dX0_fewestOf_38 : decode cX0_fewestOf 38 = .ok (.istore 4, 2) := dk_54 4 (dk_at dksX0_fewestOf_1 14 rfl rfl)
theorem dX0_fewestOf_40 : decode cX0_fewestOf 40 = .ok (.iload_n 3, 1) := dk_29 (dk_at dksX0_fewestOf_1 16 rfl rfl)
theorem dX0_fewestOf_41 : decode cX0_fewestOf 41 = .ok (.invokestatic 155, 3) := dk_184 0 155 (dk_at dksX0_fewestOf_1 17 rfl rfl)
theorem dX0_fewestOf_44 : decode cX0_fewestOf 44 = .ok (.iconst 1, 1) := dk_4 (dk_at dksX0_fewestOf_1 20 rfl rfl)
theorem dX0_fewestOf_45 : decode cX0_fewestOf 45 = .ok (.if_icmp .ne 8, 3) := dk_160 0 8 (dk_at dksX0_fewestOf_1 21 rfl rfl)
theorem dX0_fewestOf_48 : decode cX0_fewestOf 48 = .ok (.iload 4, 2) := dk_21 4 (dk_at dksX0_fewestOf_2 0 rfl rfl)
theorem dX0_fewestOf_50 : decode cX0_fewestOf 50 = .ok (.goto 28, 3) := dk_167 0 28 (dk_at dksX0_fewestOf_2 2 rfl rfl)
theorem dX0_fewestOf_53 : decode cX0_fewestOf 53 = .ok (.iload 4, 2) := dk_21 4 (dk_at dksX0_fewestOf_2 5 rfl rfl)
theorem dX0_fewestOf_55 : decode cX0_fewestOf 55 = .ok (.iload_n 3, 1) := dk_29 (dk_at dksX0_fewestOf_2 7 rfl rfl)
theorem dX0_fewestOf_56 : decode cX0_fewestOf 56 = .ok (.invokestatic 155, 3) := dk_184 0 155 (dk_at dksX0_fewestOf_2 8 rfl rfl)
theorem dX0_fewestOf_59 : decode cX0_fewestOf 59 = .ok (.aload_n 0, 1) := dk_42 (dk_at dksX0_fewestOf_2 11 rfl rfl)
theorem dX0_fewestOf_60 : decode cX0_fewestOf 60 = .ok (.iload_n 1, 1) := dk_27 (dk_at dksX0_fewestOf_2 12 rfl rfl)
theorem dX0_fewestOf_61 : decode cX0_fewestOf 61 = .ok (.iload_n 3, 1) := dk_29 (dk_at dksX0_fewestOf_2 13 rfl rfl)
theorem dX0_fewestOf_62 : decode cX0_fewestOf 62 = .ok (.iconst (-1), 1) := dk_2 (dk_at dksX0_fewestOf_2 14 rfl rfl)
theorem dX0_fewestOf_63 : decode cX0_fewestOf 63 = .ok (.ixor, 1) := dk_130 (dk_at dksX0_fewestOf_2 15 rfl rfl)
theorem dX0_fewestOf_64 : decode cX0_fewestOf 64 = .ok (.iand, 1) := dk_126 (dk_at dksX0_fewestOf_2 16 rfl rfl)
theorem dX0_fewestOf_65 : decode cX0_fewestOf 65 = .ok (.iconst 1, 1) := dk_4 (dk_at dksX0_fewestOf_2 17 rfl rfl)
theorem dX0_fewestOf_66 : decode cX0_fewestOf 66 = .ok (.iload_n 2, 1) := dk_28 (dk_at dksX0_fewestOf_2 18 rfl rfl)
theorem dX0_fewestOf_67 : decode cX0_fewestOf 67 = .ok (.ishl, 1) := dk_120 (dk_at dksX0_fewestOf_2 19 rfl rfl)
theorem dX0_fewestOf_68 : decode cX0_fewestOf 68 = .ok (.iconst (-1), 1) := dk_2 (dk_at dksX0_fewestOf_2 20 rfl rfl)
theorem dX0_fewestOf_69 : decode cX0_fewestOf 69 = .ok (.ixor, 1) := dk_130 (dk_at dksX0_fewestOf_2 21 rfl rfl)
theorem dX0_fewestOf_70 : decode cX0_fewestOf 70 = .ok (.iand, 1) := dk_126 (dk_at dksX0_fewestOf_2 22 rfl rfl)
theorem dX0_fewestOf_71 : decode cX0_fewestOf 71 = .ok (.invokevirtual 333, 3) := dk_182 1 77 (dk_at dksX0_fewestOf_3 0 rfl rfl)
theorem dX0_fewestOf_74 : decode cX0_fewestOf 74 = .ok (.iadd, 1) := dk_96 (dk_at dksX0_fewestOf_3 3 rfl rfl)
theorem dX0_fewestOf_75 : decode cX0_fewestOf 75 = .ok (.invokestatic 402, 3) := dk_184 1 146 (dk_at dksX0_fewestOf_3 4 rfl rfl)
theorem dX0_fewestOf_78 : decode cX0_fewestOf 78 = .ok (.ireturn, 1) := dk_172 (dk_at dksX0_fewestOf_3 7 rfl rfl)
abbrev cX0_busiest : ByteArray := prog_1_method_57_code
def yX0_busiest : MethodName := ⟨RX0, "busiest", "(I)I"⟩
def dkwX0_busiest_3 : List UInt8 := [28, 172]
abbrev dktX0_busiest_3 : List UInt8 := dkwX0_busiest_3 ++ []
def dkwX0_busiest_2 : List UInt8 := [29, 164, 0, 8, 21, 4, 167, 0, 4, 28, 61, 29, 21, 5, 184, 1, 16, 62, 132, 4, 1, 167, 255, 196]
abbrev dktX0_busiest_2 : List UInt8 := dkwX0_busiest_2 ++ dktX0_busiest_3
def dkwX0_busiest_1 : List UInt8 := [184, 1, 0, 153, 0, 16, 42, 180, 0, 10, 21, 4, 27, 182, 1, 89, 167, 0, 4, 3, 54, 5, 21, 5]
abbrev dktX0_busiest_1 : List UInt8 := dkwX0_busiest_1 ++ dktX0_busiest_2
def dkwX0_busiest_0 : List UInt8 := [2, 61, 3, 62, 3, 54, 4, 21, 4, 42, 180, 0, 10, 180, 0, 115, 162, 0, 54, 27, 21, 4]
abbrev dktX0_busiest_0 : List UInt8 := dkwX0_busiest_0 ++ dktX0_busiest_1
theorem dksX0_busiest_0 : cX0_busiest.data.toList.drop 0 = dktX0_busiest_0 := by decide +kernel
theorem dksX0_busiest_1 : cX0_busiest.data.toList.drop 22 = dktX0_busiest_1 := dk_seg dksX0_busiest_0 22 rfl rfl
theorem dksX0_busiest_2 : cX0_busiest.data.toList.drop 46 = dktX0_busiest_2 := dk_seg dksX0_busiest_1 24 rfl rfl
theorem dksX0_busiest_3 : cX0_busiest.data.toList.drop 70 = dktX0_busiest_3 := dk_seg dksX0_busiest_2 24 rfl rfl
theorem dX0_busiest_0 : decode cX0_busiest 0 = .ok (.iconst (-1), 1) := dk_2 (dk_at dksX0_busiest_0 0 rfl rfl)
theorem dX0_busiest_1 : decode cX0_busiest 1 = .ok (.istore_n 2, 1) := dk_61 (dk_at dksX0_busiest_0 1 rfl rfl)
theorem dX0_busiest_2 : decode cX0_busiest 2 = .ok (.iconst 0, 1) := dk_3 (dk_at dksX0_busiest_0 2 rfl rfl)
theorem dX0_busiest_3 : decode cX0_busiest 3 = .ok (.istore_n 3, 1) := dk_62 (dk_at dksX0_busiest_0 3 rfl rfl)
theorem dX0_busiest_4 : decode cX0_busiest 4 = .ok (.iconst 0, 1) := dk_3 (dk_at dksX0_busiest_0 4 rfl rfl)
theorem dX0_busiest_5 : decode cX0_busiest 5 = .ok (.istore 4, 2) := dk_54 4 (dk_at dksX0_busiest_0 5 rfl rfl)
theorem dX0_busiest_7 : decode cX0_busiest 7 = .ok (.iload 4, 2) := dk_21 4 (dk_at dksX0_busiest_0 7 rfl rfl)
theorem dX0_busiest_9 : decode cX0_busiest 9 = .ok (.aload_n 0, 1) := dk_42 (dk_at dksX0_busiest_0 9 rfl rfl)
theorem dX0_busiest_10 : decode cX0_busiest 10 = .ok (.getfield 10, 3) := dk_180 0 10 (dk_at dksX0_busiest_0 10 rfl rfl)
theorem dX0_busiest_13 : decode cX0_busiest 13 = .ok (.getfield 115, 3) := dk_180 0 115 (dk_at dksX0_busiest_0 13 rfl rfl)
theorem dX0_busiest_16 : decode cX0_busiest 16 = .ok (.if_icmp .ge 54, 3) := dk_162 0 54 (dk_at dksX0_busiest_0 16 rfl rfl)
theorem dX0_busiest_19 : decode cX0_busiest 19 = .ok (.iload_n 1, 1) := dk_27 (dk_at dksX0_busiest_0 19 rfl rfl)
theorem dX0_busiest_20 : decode cX0_busiest 20 = .ok (.iload 4, 2) := dk_21 4 (dk_at dksX0_busiest_0 20 rfl rfl)
theorem dX0_busiest_22 : decode cX0_busiest 22 = .ok (.invokestatic 256, 3) := dk_184 1 0 (dk_at dksX0_busiest_1 0 rfl rfl)
theorem dX0_busiest_25 : decode cX0_busiest 25 = .ok (.ifCond .eq 16, 3) := dk_153 0 16 (dk_at dksX0_busiest_1 3 rfl rfl)
theorem dX0_busiest_28 : decode cX0_busiest 28 = .ok (.aload_n 0, 1) := dk_42 (dk_at dksX0_busiest_1 6 rfl rfl)
theorem dX0_busiest_29 : decode cX0_busiest 29 = .ok (.getfield 10, 3) := dk_180 0 10 (dk_at dksX0_busiest_1 7 rfl rfl)
theorem dX0_busiest_32 : decode cX0_busiest 32 = .ok (.iload 4, 2) := dk_21 4 (dk_at dksX0_busiest_1 10 rfl rfl)
theorem dX0_busiest_34 : decode cX0_busiest 34 = .ok (.iload_n 1, 1) := dk_27 (dk_at dksX0_busiest_1 12 rfl rfl)
theorem dX0_busiest_35 : decode cX0_busiest 35 = .ok (.invokevirtual 345, 3) := dk_182 1 89 (dk_at dksX0_busiest_1 13 rfl rfl)
theorem dX0_busiest_38 : decode cX0_busiest 38 = .ok (.goto 4, 3) := dk_167 0 4 (dk_at dksX0_busiest_1 16 rfl rfl)
theorem dX0_busiest_41 : decode cX0_busiest 41 = .ok (.iconst 0, 1) := dk_3 (dk_at dksX0_busiest_1 19 rfl rfl)
theorem dX0_busiest_42 : decode cX0_busiest 42 = .ok (.istore 5, 2) := dk_54 5 (dk_at dksX0_busiest_1 20 rfl rfl)
theorem dX0_busiest_44 : decode cX0_busiest 44 = .ok (.iload 5, 2) := dk_21 5 (dk_at dksX0_busiest_1 22 rfl rfl)
theorem dX0_busiest_46 : decode cX0_busiest 46 = .ok (.iload_n 3, 1) := dk_29 (dk_at dksX0_busiest_2 0 rfl rfl)
theorem dX0_busiest_47 : decode cX0_busiest 47 = .ok (.if_icmp .le 8, 3) := dk_164 0 8 (dk_at dksX0_busiest_2 1 rfl rfl)
theorem dX0_busiest_50 : decode cX0_busiest 50 = .ok (.iload 4, 2) := dk_21 4 (dk_at dksX0_busiest_2 4 rfl rfl)
theorem dX0_busiest_52 : decode cX0_busiest 52 = .ok (.goto 4, 3) := dk_167 0 4 (dk_at dksX0_busiest_2 6 rfl rfl)
theorem dX0_busiest_55 : decode cX0_busiest 55 = .ok (.iload_n 2, 1) := dk_28 (dk_at dksX0_busiest_2 9 rfl rfl)
theorem dX0_busiest_56 : decode cX0_busiest 56 = .ok (.istore_n 2, 1) := dk_61 (dk_at dksX0_busiest_2 10 rfl rfl)
theorem dX0_busiest_57 : decode cX0_busiest 57 = .ok (.iload_n 3, 1) := dk_29 (dk_at dksX0_busiest_2 11 rfl rfl)
theorem dX0_busiest_58 : decode cX0_busiest 58 = .ok (.iload 5, 2) := dk_21 5 (dk_at dksX0_busiest_2 12 rfl rfl)
theorem dX0_busiest_60 : decode cX0_busiest 60 = .ok (.invokestatic 272, 3) := dk_184 1 16 (dk_at dksX0_busiest_2 14 rfl rfl)
theorem dX0_busiest_63 : decode cX0_busiest 63 = .ok (.istore_n 3, 1) := dk_62 (dk_at dksX0_busiest_2 17 rfl rfl)
theorem dX0_busiest_64 : decode cX0_busiest 64 = .ok (.iinc 4 1, 3) := dk_132 4 1 (dk_at dksX0_busiest_2 18 rfl rfl)
theorem dX0_busiest_67 : decode cX0_busiest 67 = .ok (.goto (-60), 3) := dk_167 255 196 (dk_at dksX0_busiest_2 21 rfl rfl)
theorem dX0_busiest_70 : decode cX0_busiest 70 = .ok (.iload_n 2, 1) := dk_28 (dk_at dksX0_busiest_3 0 rfl rfl)
theorem dX0_busiest_71 : decode cX0_busiest 71 = .ok (.ireturn, 1) := dk_172 (dk_at dksX0_busiest_3 1 rfl rfl)
abbrev cX0_lambda_persists_3 : ByteArray := prog_1_method_117_code
def yX0_lambda_persists_3 : MethodName := ⟨RX0, "lambda$persists$3", "(IIII)Z"⟩
def dkwX0_lambda_persists_3_1 : List UInt8 := [167, 0, 4, 3, 172]
abbrev dktX0_lambda_persists_3_1 : List UInt8 := dkwX0_lambda_persists_3_1 ++ []
def dkwX0_lambda_persists_3_0 : List UInt8 := [29, 184, 0, 155, 26, 160, 0, 21, 27, 29, 2, 130, 126, 154, 0, 13, 28, 29, 126, 154, 0, 7, 4]
abbrev dktX0_lambda_persists_3_0 : List UInt8 := dkwX0_lambda_persists_3_0 ++ dktX0_lambda_persists_3_1
theorem dksX0_lambda_persists_3_0 : cX0_lambda_persists_3.data.toList.drop 0 = dktX0_lambda_persists_3_0 := by decide +kernel
theorem dksX0_lambda_persists_3_1 : cX0_lambda_persists_3.data.toList.drop 23 = dktX0_lambda_persists_3_1 := dk_seg dksX0_lambda_persists_3_0 23 rfl rfl
theorem dX0_lambda_persists_3_0 : decode cX0_lambda_persists_3 0 = .ok (.iload_n 3, 1) := dk_29 (dk_at dksX0_lambda_persists_3_0 0 rfl rfl)
theorem dX0_lambda_persists_3_1 : decode cX0_lambda_persists_3 1 = .ok (.invokestatic 155, 3) := dk_184 0 155 (dk_at dksX0_lambda_persists_3_0 1 rfl rfl)
theorem dX0_lambda_persists_3_4 : decode cX0_lambda_persists_3 4 = .ok (.iload_n 0, 1) := dk_26 (dk_at dksX0_lambda_persists_3_0 4 rfl rfl)
theorem dX0_lambda_persists_3_5 : decode cX0_lambda_persists_3 5 = .ok (.if_icmp .ne 21, 3) := dk_160 0 21 (dk_at dksX0_lambda_persists_3_0 5 rfl rfl)
theorem dX0_lambda_persists_3_8 : decode cX0_lambda_persists_3 8 = .ok (.iload_n 1, 1) := dk_27 (dk_at dksX0_lambda_persists_3_0 8 rfl rfl)
theorem dX0_lambda_persists_3_9 : decode cX0_lambda_persists_3 9 = .ok (.iload_n 3, 1) := dk_29 (dk_at dksX0_lambda_persists_3_0 9 rfl rfl)
theorem dX0_lambda_persists_3_10 : decode cX0_lambda_persists_3 10 = .ok (.iconst (-1), 1) := dk_2 (dk_at dksX0_lambda_persists_3_0 10 rfl rfl)
theorem dX0_lambda_persists_3_11 : decode cX0_lambda_persists_3 11 = .ok (.ixor, 1) := dk_130 (dk_at dksX0_lambda_persists_3_0 11 rfl rfl)
theorem dX0_lambda_persists_3_12 : decode cX0_lambda_persists_3 12 = .ok (.iand, 1) := dk_126 (dk_at dksX0_lambda_persists_3_0 12 rfl rfl)
theorem dX0_lambda_persists_3_13 : decode cX0_lambda_persists_3 13 = .ok (.ifCond .ne 13, 3) := dk_154 0 13 (dk_at dksX0_lambda_persists_3_0 13 rfl rfl)
theorem dX0_lambda_persists_3_16 : decode cX0_lambda_persists_3 16 = .ok (.iload_n 2, 1) := dk_28 (dk_at dksX0_lambda_persists_3_0 16 rfl rfl)
theorem dX0_lambda_persists_3_17 : decode cX0_lambda_persists_3 17 = .ok (.iload_n 3, 1) := dk_29 (dk_at dksX0_lambda_persists_3_0 17 rfl rfl)
theorem dX0_lambda_persists_3_18 : decode cX0_lambda_persists_3 18 = .ok (.iand, 1) := dk_126 (dk_at dksX0_lambda_persists_3_0 18 rfl rfl)
theorem dX0_lambda_persists_3_19 : decode cX0_lambda_persists_3 19 = .ok (.ifCond .ne 7, 3) := dk_154 0 7 (dk_at dksX0_lambda_persists_3_0 19 rfl rfl)
theorem dX0_lambda_persists_3_22 : decode cX0_lambda_persists_3 22 = .ok (.iconst 1, 1) := dk_4 (dk_at dksX0_lambda_persists_3_0 22 rfl rfl)
theorem dX0_lambda_persists_3_23 : decode cX0_lambda_persists_3 23 = .ok (.goto 4, 3) := dk_167 0 4 (dk_at dksX0_lambda_persists_3_1 0 rfl rfl)
theorem dX0_lambda_persists_3_26 : decode cX0_lambda_persists_3 26 = .ok (.iconst 0, 1) := dk_3 (dk_at dksX0_lambda_persists_3_1 3 rfl rfl)
theorem dX0_lambda_persists_3_27 : decode cX0_lambda_persists_3 27 = .ok (.ireturn, 1) := dk_172 (dk_at dksX0_lambda_persists_3_1 4 rfl rfl)
abbrev cX0_isCrown : ByteArray := prog_1_method_44_code
def yX0_isCrown : MethodName := ⟨RX0, "isCrown", "(I)I"⟩
def dkwX0_isCrown_1 : List UInt8 := [167, 0, 4, 3, 172]
abbrev dktX0_isCrown_1 : List UInt8 := dkwX0_isCrown_1 ++ []
def dkwX0_isCrown_0 : List UInt8 := [42, 27, 182, 0, 180, 154, 0, 8, 16, 254, 167, 0, 16, 42, 27, 182, 1, 86, 153, 0, 7, 4]
abbrev dktX0_isCrown_0 : List UInt8 := dkwX0_isCrown_0 ++ dktX0_isCrown_1
theorem dksX0_isCrown_0 : cX0_isCrown.data.toList.drop 0 = dktX0_isCrown_0 := by decide +kernel
theorem dksX0_isCrown_1 : cX0_isCrown.data.toList.drop 22 = dktX0_isCrown_1 := dk_seg dksX0_isCrown_0 22 rfl rfl
theorem dX0_isCrown_0 : decode cX0_isCrown 0 = .ok (.aload_n 0, 1) := dk_42 (dk_at dksX0_isCrown_0 0 rfl rfl)
theorem dX0_isCrown_1 : decode cX0_isCrown 1 = .ok (.iload_n 1, 1) := dk_27 (dk_at dksX0_isCrown_0 1 rfl rfl)
theorem dX0_isCrown_2 : decode cX0_isCrown 2 = .ok (.invokevirtual 180, 3) := dk_182 0 180 (dk_at dksX0_isCrown_0 2 rfl rfl)
theorem dX0_isCrown_5 : decode cX0_isCrown 5 = .ok (.ifCond .ne 8, 3) := dk_154 0 8 (dk_at dksX0_isCrown_0 5 rfl rfl)
theorem dX0_isCrown_8 : decode cX0_isCrown 8 = .ok (.bipush (-2), 2) := dk_16 254 (dk_at dksX0_isCrown_0 8 rfl rfl)
theorem dX0_isCrown_10 : decode cX0_isCrown 10 = .ok (.goto 16, 3) := dk_167 0 16 (dk_at dksX0_isCrown_0 10 rfl rfl)
theorem dX0_isCrown_13 : decode cX0_isCrown 13 = .ok (.aload_n 0, 1) := dk_42 (dk_at dksX0_isCrown_0 13 rfl rfl)
theorem dX0_isCrown_14 : decode cX0_isCrown 14 = .ok (.iload_n 1, 1) := dk_27 (dk_at dksX0_isCrown_0 14 rfl rfl)
theorem dX0_isCrown_15 : decode cX0_isCrown 15 = .ok (.invokevirtual 342, 3) := dk_182 1 86 (dk_at dksX0_isCrown_0 15 rfl rfl)
theorem dX0_isCrown_18 : decode cX0_isCrown 18 = .ok (.ifCond .eq 7, 3) := dk_153 0 7 (dk_at dksX0_isCrown_0 18 rfl rfl)
theorem dX0_isCrown_21 : decode cX0_isCrown 21 = .ok (.iconst 1, 1) := dk_4 (dk_at dksX0_isCrown_0 21 rfl rfl)
theorem dX0_isCrown_22 : decode cX0_isCrown 22 = .ok (.goto 4, 3) := dk_167 0 4 (dk_at dksX0_isCrown_1 0 rfl rfl)
theorem dX0_isCrown_25 : decode cX0_isCrown 25 = .ok (.iconst 0, 1) := dk_3 (dk_at dksX0_isCrown_1 3 rfl rfl)
theorem dX0_isCrown_26 : decode cX0_isCrown 26 = .ok (.ireturn, 1) := dk_172 (dk_at dksX0_isCrown_1 4 rfl rfl)
abbrev cX0_areCrown : ByteArray := prog_1_method_43_code
def yX0_areCrown : MethodName := ⟨RX0, "areCrown", "(I)Z"⟩
def dkwX0_areCrown_1 : List UInt8 := [184, 0, 155, 163, 0, 16, 42, 28, 27, 182, 1, 70, 153, 0, 7, 4, 167, 0, 4, 3, 172]
abbrev dktX0_areCrown_1 : List UInt8 := dkwX0_areCrown_1 ++ []
def dkwX0_areCrown_0 : List UInt8 := [42, 180, 0, 10, 27, 182, 1, 83, 61, 27, 153, 0, 33, 28, 27, 126, 154, 0, 27, 28, 184, 0, 155, 27]
abbrev dktX0_areCrown_0 : List UInt8 := dkwX0_areCrown_0 ++ dktX0_areCrown_1
theorem dksX0_areCrown_0 : cX0_areCrown.data.toList.drop 0 = dktX0_areCrown_0 := by decide +kernel
theorem dksX0_areCrown_1 : cX0_areCrown.data.toList.drop 24 = dktX0_areCrown_1 := dk_seg dksX0_areCrown_0 24 rfl rfl
theorem dX0_areCrown_0 : decode cX0_areCrown 0 = .ok (.aload_n 0, 1) := dk_42 (dk_at dksX0_areCrown_0 0 rfl rfl)
theorem dX0_areCrown_1 : decode cX0_areCrown 1 = .ok (.getfield 10, 3) := dk_180 0 10 (dk_at dksX0_areCrown_0 1 rfl rfl)
theorem dX0_areCrown_4 : decode cX0_areCrown 4 = .ok (.iload_n 1, 1) := dk_27 (dk_at dksX0_areCrown_0 4 rfl rfl)
theorem dX0_areCrown_5 : decode cX0_areCrown 5 = .ok (.invokevirtual 339, 3) := dk_182 1 83 (dk_at dksX0_areCrown_0 5 rfl rfl)
theorem dX0_areCrown_8 : decode cX0_areCrown 8 = .ok (.istore_n 2, 1) := dk_61 (dk_at dksX0_areCrown_0 8 rfl rfl)
theorem dX0_areCrown_9 : decode cX0_areCrown 9 = .ok (.iload_n 1, 1) := dk_27 (dk_at dksX0_areCrown_0 9 rfl rfl)
theorem dX0_areCrown_10 : decode cX0_areCrown 10 = .ok (.ifCond .eq 33, 3) := dk_153 0 33 (dk_at dksX0_areCrown_0 10 rfl rfl)
theorem dX0_areCrown_13 : decode cX0_areCrown 13 = .ok (.iload_n 2, 1) := dk_28 (dk_at dksX0_areCrown_0 13 rfl rfl)
theorem dX0_areCrown_14 : decode cX0_areCrown 14 = .ok (.iload_n 1, 1) := dk_27 (dk_at dksX0_areCrown_0 14 rfl rfl)
theorem dX0_areCrown_15 : decode cX0_areCrown 15 = .ok (.iand, 1) := dk_126 (dk_at dksX0_areCrown_0 15 rfl rfl)
theorem dX0_areCrown_16 : decode cX0_areCrown 16 = .ok (.ifCond .ne 27, 3) := dk_154 0 27 (dk_at dksX0_areCrown_0 16 rfl rfl)
theorem dX0_areCrown_19 : decode cX0_areCrown 19 = .ok (.iload_n 2, 1) := dk_28 (dk_at dksX0_areCrown_0 19 rfl rfl)
theorem dX0_areCrown_20 : decode cX0_areCrown 20 = .ok (.invokestatic 155, 3) := dk_184 0 155 (dk_at dksX0_areCrown_0 20 rfl rfl)
theorem dX0_areCrown_23 : decode cX0_areCrown 23 = .ok (.iload_n 1, 1) := dk_27 (dk_at dksX0_areCrown_0 23 rfl rfl)
theorem dX0_areCrown_24 : decode cX0_areCrown 24 = .ok (.invokestatic 155, 3) := dk_184 0 155 (dk_at dksX0_areCrown_1 0 rfl rfl)
theorem dX0_areCrown_27 : decode cX0_areCrown 27 = .ok (.if_icmp .gt 16, 3) := dk_163 0 16 (dk_at dksX0_areCrown_1 3 rfl rfl)
theorem dX0_areCrown_30 : decode cX0_areCrown 30 = .ok (.aload_n 0, 1) := dk_42 (dk_at dksX0_areCrown_1 6 rfl rfl)
theorem dX0_areCrown_31 : decode cX0_areCrown 31 = .ok (.iload_n 2, 1) := dk_28 (dk_at dksX0_areCrown_1 7 rfl rfl)
theorem dX0_areCrown_32 : decode cX0_areCrown 32 = .ok (.iload_n 1, 1) := dk_27 (dk_at dksX0_areCrown_1 8 rfl rfl)
theorem dX0_areCrown_33 : decode cX0_areCrown 33 = .ok (.invokevirtual 326, 3) := dk_182 1 70 (dk_at dksX0_areCrown_1 9 rfl rfl)
theorem dX0_areCrown_36 : decode cX0_areCrown 36 = .ok (.ifCond .eq 7, 3) := dk_153 0 7 (dk_at dksX0_areCrown_1 12 rfl rfl)
theorem dX0_areCrown_39 : decode cX0_areCrown 39 = .ok (.iconst 1, 1) := dk_4 (dk_at dksX0_areCrown_1 15 rfl rfl)
theorem dX0_areCrown_40 : decode cX0_areCrown 40 = .ok (.goto 4, 3) := dk_167 0 4 (dk_at dksX0_areCrown_1 16 rfl rfl)
theorem dX0_areCrown_43 : decode cX0_areCrown 43 = .ok (.iconst 0, 1) := dk_3 (dk_at dksX0_areCrown_1 19 rfl rfl)
theorem dX0_areCrown_44 : decode cX0_areCrown 44 = .ok (.ireturn, 1) := dk_172 (dk_at dksX0_areCrown_1 20 rfl rfl)
abbrev cX0_crowns : ByteArray := prog_1_method_45_code
def yX0_crowns : MethodName := ⟨RX0, "crowns", "(I)I"⟩
def dkwX0_crowns_4 : List UInt8 := [167, 0, 11, 42, 180, 0, 10, 29, 182, 1, 83, 172]
abbrev dktX0_crowns_4 : List UInt8 := dkwX0_crowns_4 ++ []
def dkwX0_crowns_3 : List UInt8 := [167, 255, 207, 27, 154, 0, 5, 28, 172, 28, 154, 0, 7, 2, 167, 0, 20, 27, 4, 160, 0, 7, 29]
abbrev dktX0_crowns_3 : List UInt8 := dkwX0_crowns_3 ++ dktX0_crowns_4
def dkwX0_crowns_2 : List UInt8 := [21, 4, 184, 0, 155, 29, 184, 0, 155, 164, 0, 8, 21, 4, 167, 0, 4, 29, 62, 132, 4, 1]
abbrev dktX0_crowns_2 : List UInt8 := dkwX0_crowns_2 ++ dktX0_crowns_3
def dkwX0_crowns_1 : List UInt8 := [180, 0, 10, 182, 0, 177, 163, 0, 43, 42, 21, 4, 182, 1, 86, 154, 0, 6, 167, 0, 25, 132, 2, 1]
abbrev dktX0_crowns_1 : List UInt8 := dkwX0_crowns_1 ++ dktX0_crowns_2
def dkwX0_crowns_0 : List UInt8 := [27, 3, 5, 184, 0, 111, 154, 0, 6, 16, 254, 172, 3, 61, 3, 62, 4, 54, 4, 21, 4, 42]
abbrev dktX0_crowns_0 : List UInt8 := dkwX0_crowns_0 ++ dktX0_crowns_1
theorem dksX0_crowns_0 : cX0_crowns.data.toList.drop 0 = dktX0_crowns_0 := by decide +kernel
theorem dksX0_crowns_1 : cX0_crowns.data.toList.drop 22 = dktX0_crowns_1 := dk_seg dksX0_crowns_0 22 rfl rfl
theorem dksX0_crowns_2 : cX0_crowns.data.toList.drop 46 = dktX0_crowns_2 := dk_seg dksX0_crowns_1 24 rfl rfl
theorem dksX0_crowns_3 : cX0_crowns.data.toList.drop 68 = dktX0_crowns_3 := dk_seg dksX0_crowns_2 22 rfl rfl
theorem dksX0_crowns_4 : cX0_crowns.data.toList.drop 91 = dktX0_crowns_4 := dk_seg dksX0_crowns_3 23 rfl rfl
theorem dX0_crowns_0 : decode cX0_crowns 0 = .ok (.iload_n 1, 1) := dk_27 (dk_at dksX0_crowns_0 0 rfl rfl)
theorem dX0_crowns_1 : decode cX0_crowns 1 = .ok (.iconst 0, 1) := dk_3 (dk_at dksX0_crowns_0 1 rfl rfl)
theorem dX0_crowns_2 : decode cX0_crowns 2 = .ok (.iconst 2, 1) := dk_5 (dk_at dksX0_crowns_0 2 rfl rfl)
theorem dX0_crowns_3 : decode cX0_crowns 3 = .ok (.invokestatic 111, 3) := dk_184 0 111 (dk_at dksX0_crowns_0 3 rfl rfl)
theorem dX0_crowns_6 : decode cX0_crowns 6 = .ok (.ifCond .ne 6, 3) := dk_154 0 6 (dk_at dksX0_crowns_0 6 rfl rfl)
theorem dX0_crowns_9 : decode cX0_crowns 9 = .ok (.bipush (-2), 2) := dk_16 254 (dk_at dksX0_crowns_0 9 rfl rfl)
theorem dX0_crowns_11 : decode cX0_crowns 11 = .ok (.ireturn, 1) := dk_172 (dk_at dksX0_crowns_0 11 rfl rfl)
theorem dX0_crowns_12 : decode cX0_crowns 12 = .ok (.iconst 0, 1) := dk_3 (dk_at dksX0_crowns_0 12 rfl rfl)
theorem dX0_crowns_13 : decode cX0_crowns 13 = .ok (.istore_n 2, 1) := dk_61 (dk_at dksX0_crowns_0 13 rfl rfl)
theorem dX0_crowns_14 : decode cX0_crowns 14 = .ok (.iconst 0, 1) := dk_3 (dk_at dksX0_crowns_0 14 rfl rfl)
theorem dX0_crowns_15 : decode cX0_crowns 15 = .ok (.istore_n 3, 1) := dk_62 (dk_at dksX0_crowns_0 15 rfl rfl)
theorem dX0_crowns_16 : decode cX0_crowns 16 = .ok (.iconst 1, 1) := dk_4 (dk_at dksX0_crowns_0 16 rfl rfl)
theorem dX0_crowns_17 : decode cX0_crowns 17 = .ok (.istore 4, 2) := dk_54 4 (dk_at dksX0_crowns_0 17 rfl rfl)
theorem dX0_crowns_19 : decode cX0_crowns 19 = .ok (.iload 4, 2) := dk_21 4 (dk_at dksX0_crowns_0 19 rfl rfl)
theorem dX0_crowns_21 : decode cX0_crowns 21 = .ok (.aload_n 0, 1) := dk_42 (dk_at dksX0_crowns_0 21 rfl rfl)
theorem dX0_crowns_22 : decode cX0_crowns 22 = .ok (.getfield 10, 3) := dk_180 0 10 (dk_at dksX0_crowns_1 0 rfl rfl)
theorem dX0_crowns_25 : decode cX0_crowns 25 = .ok (.invokevirtual 177, 3) := dk_182 0 177 (dk_at dksX0_crowns_1 3 rfl rfl)
theorem dX0_crowns_28 : decode cX0_crowns 28 = .ok (.if_icmp .gt 43, 3) := dk_163 0 43 (dk_at dksX0_crowns_1 6 rfl rfl)
theorem dX0_crowns_31 : decode cX0_crowns 31 = .ok (.aload_n 0, 1) := dk_42 (dk_at dksX0_crowns_1 9 rfl rfl)
theorem dX0_crowns_32 : decode cX0_crowns 32 = .ok (.iload 4, 2) := dk_21 4 (dk_at dksX0_crowns_1 10 rfl rfl)
theorem dX0_crowns_34 : decode cX0_crowns 34 = .ok (.invokevirtual 342, 3) := dk_182 1 86 (dk_at dksX0_crowns_1 12 rfl rfl)
theorem dX0_crowns_37 : decode cX0_crowns 37 = .ok (.ifCond .ne 6, 3) := dk_154 0 6 (dk_at dksX0_crowns_1 15 rfl rfl)
theorem dX0_crowns_40 : decode cX0_crowns 40 = .ok (.goto 25, 3) := dk_167 0 25 (dk_at dksX0_crowns_1 18 rfl rfl)
theorem dX0_crowns_43 : decode cX0_crowns 43 = .ok (.iinc 2 1, 3) := dk_132 2 1 (dk_at dksX0_crowns_1 21 rfl rfl)
theorem dX0_crowns_46 : decode cX0_crowns 46 = .ok (.iload 4, 2) := dk_21 4 (dk_at dksX0_crowns_2 0 rfl rfl)
theorem dX0_crowns_48 : decode cX0_crowns 48 = .ok (.invokestatic 155, 3) := dk_184 0 155 (dk_at dksX0_crowns_2 2 rfl rfl)
theorem dX0_crowns_51 : decode cX0_crowns 51 = .ok (.iload_n 3, 1) := dk_29 (dk_at dksX0_crowns_2 5 rfl rfl)
theorem dX0_crowns_52 : decode cX0_crowns 52 = .ok (.invokestatic 155, 3) := dk_184 0 155 (dk_at dksX0_crowns_2 6 rfl rfl)
theorem dX0_crowns_55 : decode cX0_crowns 55 = .ok (.if_icmp .le 8, 3) := dk_164 0 8 (dk_at dksX0_crowns_2 9 rfl rfl)
theorem dX0_crowns_58 : decode cX0_crowns 58 = .ok (.iload 4, 2) := dk_21 4 (dk_at dksX0_crowns_2 12 rfl rfl)
theorem dX0_crowns_60 : decode cX0_crowns 60 = .ok (.goto 4, 3) := dk_167 0 4 (dk_at dksX0_crowns_2 14 rfl rfl)
theorem dX0_crowns_63 : decode cX0_crowns 63 = .ok (.iload_n 3, 1) := dk_29 (dk_at dksX0_crowns_2 17 rfl rfl)
theorem dX0_crowns_64 : decode cX0_crowns 64 = .ok (.istore_n 3, 1) := dk_62 (dk_at dksX0_crowns_2 18 rfl rfl)
theorem dX0_crowns_65 : decode cX0_crowns 65 = .ok (.iinc 4 1, 3) := dk_132 4 1 (dk_at dksX0_crowns_2 19 rfl rfl)
theorem dX0_crowns_68 : decode cX0_crowns 68 = .ok (.goto (-49), 3) := dk_167 255 207 (dk_at dksX0_crowns_3 0 rfl rfl)
theorem dX0_crowns_71 : decode cX0_crowns 71 = .ok (.iload_n 1, 1) := dk_27 (dk_at dksX0_crowns_3 3 rfl rfl)
theorem dX0_crowns_72 : decode cX0_crowns 72 = .ok (.ifCond .ne 5, 3) := dk_154 0 5 (dk_at dksX0_crowns_3 4 rfl rfl)
theorem dX0_crowns_75 : decode cX0_crowns 75 = .ok (.iload_n 2, 1) := dk_28 (dk_at dksX0_crowns_3 7 rfl rfl)
theorem dX0_crowns_76 : decode cX0_crowns 76 = .ok (.ireturn, 1) := dk_172 (dk_at dksX0_crowns_3 8 rfl rfl)
theorem dX0_crowns_77 : decode cX0_crowns 77 = .ok (.iload_n 2, 1) := dk_28 (dk_at dksX0_crowns_3 9 rfl rfl)
theorem dX0_crowns_78 : decode cX0_crowns 78 = .ok (.ifCond .ne 7, 3) := dk_154 0 7 (dk_at dksX0_crowns_3 10 rfl rfl)
theorem dX0_crowns_81 : decode cX0_crowns 81 = .ok (.iconst (-1), 1) := dk_2 (dk_at dksX0_crowns_3 13 rfl rfl)
theorem dX0_crowns_82 : decode cX0_crowns 82 = .ok (.goto 20, 3) := dk_167 0 20 (dk_at dksX0_crowns_3 14 rfl rfl)
theorem dX0_crowns_85 : decode cX0_crowns 85 = .ok (.iload_n 1, 1) := dk_27 (dk_at dksX0_crowns_3 17 rfl rfl)
theorem dX0_crowns_86 : decode cX0_crowns 86 = .ok (.iconst 1, 1) := dk_4 (dk_at dksX0_crowns_3 18 rfl rfl)
theorem dX0_crowns_87 : decode cX0_crowns 87 = .ok (.if_icmp .ne 7, 3) := dk_160 0 7 (dk_at dksX0_crowns_3 19 rfl rfl)
theorem dX0_crowns_90 : decode cX0_crowns 90 = .ok (.iload_n 3, 1) := dk_29 (dk_at dksX0_crowns_3 22 rfl rfl)
theorem dX0_crowns_91 : decode cX0_crowns 91 = .ok (.goto 11, 3) := dk_167 0 11 (dk_at dksX0_crowns_4 0 rfl rfl)
theorem dX0_crowns_94 : decode cX0_crowns 94 = .ok (.aload_n 0, 1) := dk_42 (dk_at dksX0_crowns_4 3 rfl rfl)
theorem dX0_crowns_95 : decode cX0_crowns 95 = .ok (.getfield 10, 3) := dk_180 0 10 (dk_at dksX0_crowns_4 4 rfl rfl)
theorem dX0_crowns_98 : decode cX0_crowns 98 = .ok (.iload_n 3, 1) := dk_29 (dk_at dksX0_crowns_4 7 rfl rfl)
theorem dX0_crowns_99 : decode cX0_crowns 99 = .ok (.invokevirtual 339, 3) := dk_182 1 83 (dk_at dksX0_crowns_4 8 rfl rfl)
theorem dX0_crowns_102 : decode cX0_crowns 102 = .ok (.ireturn, 1) := dk_172 (dk_at dksX0_crowns_4 11 rfl rfl)
abbrev cX0_kernel : ByteArray := prog_1_method_51_code
def yX0_kernel : MethodName := ⟨RX0, "kernel", "(II)I"⟩
def dkwX0_kernel_5 : List UInt8 := [172]
abbrev dktX0_kernel_5 : List UInt8 := dkwX0_kernel_5 ++ []
def dkwX0_kernel_4 : List UInt8 := [167, 0, 24, 28, 6, 160, 0, 10, 42, 180, 1, 104, 167, 0, 12, 29, 153, 0, 7, 4, 167, 0, 4, 3]
abbrev dktX0_kernel_4 : List UInt8 := dkwX0_kernel_4 ++ dktX0_kernel_5
def dkwX0_kernel_3 : List UInt8 := [160, 0, 10, 42, 180, 1, 98, 167, 0, 39, 28, 5, 160, 0, 13, 42, 180, 1, 101, 16, 20, 96]
abbrev dktX0_kernel_3 : List UInt8 := dkwX0_kernel_3 ++ dktX0_kernel_4
def dkwX0_kernel_2 : List UInt8 := [164, 0, 7, 4, 167, 0, 4, 3, 62, 28, 154, 0, 10, 42, 180, 1, 95, 167, 0, 51, 28, 4]
abbrev dktX0_kernel_2 : List UInt8 := dkwX0_kernel_2 ++ dktX0_kernel_3
def dkwX0_kernel_1 : List UInt8 := [182, 1, 116, 42, 180, 1, 101, 155, 0, 19, 42, 180, 1, 95, 184, 0, 155, 5, 42, 180, 1, 101, 104]
abbrev dktX0_kernel_1 : List UInt8 := dkwX0_kernel_1 ++ dktX0_kernel_2
def dkwX0_kernel_0 : List UInt8 := [27, 3, 16, 12, 184, 0, 111, 153, 0, 12, 28, 3, 7, 184, 0, 111, 154, 0, 6, 16, 254, 172, 42, 27]
abbrev dktX0_kernel_0 : List UInt8 := dkwX0_kernel_0 ++ dktX0_kernel_1
theorem dksX0_kernel_0 : cX0_kernel.data.toList.drop 0 = dktX0_kernel_0 := by decide +kernel
theorem dksX0_kernel_1 : cX0_kernel.data.toList.drop 24 = dktX0_kernel_1 := dk_seg dksX0_kernel_0 24 rfl rfl
theorem dksX0_kernel_2 : cX0_kernel.data.toList.drop 47 = dktX0_kernel_2 := dk_seg dksX0_kernel_1 23 rfl rfl
theorem dksX0_kernel_3 : cX0_kernel.data.toList.drop 69 = dktX0_kernel_3 := dk_seg dksX0_kernel_2 22 rfl rfl
theorem dksX0_kernel_4 : cX0_kernel.data.toList.drop 91 = dktX0_kernel_4 := dk_seg dksX0_kernel_3 22 rfl rfl
theorem dksX0_kernel_5 : cX0_kernel.data.toList.drop 115 = dktX0_kernel_5 := dk_seg dksX0_kernel_4 24 rfl rfl
theorem dX0_kernel_0 : decode cX0_kernel 0 = .ok (.iload_n 1, 1) := dk_27 (dk_at dksX0_kernel_0 0 rfl rfl)
theorem dX0_kernel_1 : decode cX0_kernel 1 = .ok (.iconst 0, 1) := dk_3 (dk_at dksX0_kernel_0 1 rfl rfl)
theorem dX0_kernel_2 : decode cX0_kernel 2 = .ok (.bipush 12, 2) := dk_16 12 (dk_at dksX0_kernel_0 2 rfl rfl)
theorem dX0_kernel_4 : decode cX0_kernel 4 = .ok (.invokestatic 111, 3) := dk_184 0 111 (dk_at dksX0_kernel_0 4 rfl rfl)
theorem dX0_kernel_7 : decode cX0_kernel 7 = .ok (.ifCond .eq 12, 3) := dk_153 0 12 (dk_at dksX0_kernel_0 7 rfl rfl)
theorem dX0_kernel_10 : decode cX0_kernel 10 = .ok (.iload_n 2, 1) := dk_28 (dk_at dksX0_kernel_0 10 rfl rfl)
theorem dX0_kernel_11 : decode cX0_kernel 11 = .ok (.iconst 0, 1) := dk_3 (dk_at dksX0_kernel_0 11 rfl rfl)
theorem dX0_kernel_12 : decode cX0_kernel 12 = .ok (.iconst 4, 1) := dk_7 (dk_at dksX0_kernel_0 12 rfl rfl)
theorem dX0_kernel_13 : decode cX0_kernel 13 = .ok (.invokestatic 111, 3) := dk_184 0 111 (dk_at dksX0_kernel_0 13 rfl rfl)
theorem dX0_kernel_16 : decode cX0_kernel 16 = .ok (.ifCond .ne 6, 3) := dk_154 0 6 (dk_at dksX0_kernel_0 16 rfl rfl)
theorem dX0_kernel_19 : decode cX0_kernel 19 = .ok (.bipush (-2), 2) := dk_16 254 (dk_at dksX0_kernel_0 19 rfl rfl)
theorem dX0_kernel_21 : decode cX0_kernel 21 = .ok (.ireturn, 1) := dk_172 (dk_at dksX0_kernel_0 21 rfl rfl)
theorem dX0_kernel_22 : decode cX0_kernel 22 = .ok (.aload_n 0, 1) := dk_42 (dk_at dksX0_kernel_0 22 rfl rfl)
theorem dX0_kernel_23 : decode cX0_kernel 23 = .ok (.iload_n 1, 1) := dk_27 (dk_at dksX0_kernel_0 23 rfl rfl)
theorem dX0_kernel_24 : decode cX0_kernel 24 = .ok (.invokevirtual 372, 3) := dk_182 1 116 (dk_at dksX0_kernel_1 0 rfl rfl)
theorem dX0_kernel_27 : decode cX0_kernel 27 = .ok (.aload_n 0, 1) := dk_42 (dk_at dksX0_kernel_1 3 rfl rfl)
theorem dX0_kernel_28 : decode cX0_kernel 28 = .ok (.getfield 357, 3) := dk_180 1 101 (dk_at dksX0_kernel_1 4 rfl rfl)
theorem dX0_kernel_31 : decode cX0_kernel 31 = .ok (.ifCond .lt 19, 3) := dk_155 0 19 (dk_at dksX0_kernel_1 7 rfl rfl)
theorem dX0_kernel_34 : decode cX0_kernel 34 = .ok (.aload_n 0, 1) := dk_42 (dk_at dksX0_kernel_1 10 rfl rfl)
theorem dX0_kernel_35 : decode cX0_kernel 35 = .ok (.getfield 351, 3) := dk_180 1 95 (dk_at dksX0_kernel_1 11 rfl rfl)
theorem dX0_kernel_38 : decode cX0_kernel 38 = .ok (.invokestatic 155, 3) := dk_184 0 155 (dk_at dksX0_kernel_1 14 rfl rfl)
theorem dX0_kernel_41 : decode cX0_kernel 41 = .ok (.iconst 2, 1) := dk_5 (dk_at dksX0_kernel_1 17 rfl rfl)
theorem dX0_kernel_42 : decode cX0_kernel 42 = .ok (.aload_n 0, 1) := dk_42 (dk_at dksX0_kernel_1 18 rfl rfl)
theorem dX0_kernel_43 : decode cX0_kernel 43 = .ok (.getfield 357, 3) := dk_180 1 101 (dk_at dksX0_kernel_1 19 rfl rfl)
theorem dX0_kernel_46 : decode cX0_kernel 46 = .ok (.imul, 1) := dk_104 (dk_at dksX0_kernel_1 22 rfl rfl)
theorem dX0_kernel_47 : decode cX0_kernel 47 = .ok (.if_icmp .le 7, 3) := dk_164 0 7 (dk_at dksX0_kernel_2 0 rfl rfl)
theorem dX0_kernel_50 : decode cX0_kernel 50 = .ok (.iconst 1, 1) := dk_4 (dk_at dksX0_kernel_2 3 rfl rfl)
theorem dX0_kernel_51 : decode cX0_kernel 51 = .ok (.goto 4, 3) := dk_167 0 4 (dk_at dksX0_kernel_2 4 rfl rfl)
theorem dX0_kernel_54 : decode cX0_kernel 54 = .ok (.iconst 0, 1) := dk_3 (dk_at dksX0_kernel_2 7 rfl rfl)
theorem dX0_kernel_55 : decode cX0_kernel 55 = .ok (.istore_n 3, 1) := dk_62 (dk_at dksX0_kernel_2 8 rfl rfl)
theorem dX0_kernel_56 : decode cX0_kernel 56 = .ok (.iload_n 2, 1) := dk_28 (dk_at dksX0_kernel_2 9 rfl rfl)
theorem dX0_kernel_57 : decode cX0_kernel 57 = .ok (.ifCond .ne 10, 3) := dk_154 0 10 (dk_at dksX0_kernel_2 10 rfl rfl)
theorem dX0_kernel_60 : decode cX0_kernel 60 = .ok (.aload_n 0, 1) := dk_42 (dk_at dksX0_kernel_2 13 rfl rfl)
theorem dX0_kernel_61 : decode cX0_kernel 61 = .ok (.getfield 351, 3) := dk_180 1 95 (dk_at dksX0_kernel_2 14 rfl rfl)
theorem dX0_kernel_64 : decode cX0_kernel 64 = .ok (.goto 51, 3) := dk_167 0 51 (dk_at dksX0_kernel_2 17 rfl rfl)
theorem dX0_kernel_67 : decode cX0_kernel 67 = .ok (.iload_n 2, 1) := dk_28 (dk_at dksX0_kernel_2 20 rfl rfl)
theorem dX0_kernel_68 : decode cX0_kernel 68 = .ok (.iconst 1, 1) := dk_4 (dk_at dksX0_kernel_2 21 rfl rfl)
theorem dX0_kernel_69 : decode cX0_kernel 69 = .ok (.if_icmp .ne 10, 3) := dk_160 0 10 (dk_at dksX0_kernel_3 0 rfl rfl)
theorem dX0_kernel_72 : decode cX0_kernel 72 = .ok (.aload_n 0, 1) := dk_42 (dk_at dksX0_kernel_3 3 rfl rfl)
theorem dX0_kernel_73 : decode cX0_kernel 73 = .ok (.getfield 354, 3) := dk_180 1 98 (dk_at dksX0_kernel_3 4 rfl rfl)
theorem dX0_kernel_76 : decode cX0_kernel 76 = .ok (.goto 39, 3) := dk_167 0 39 (dk_at dksX0_kernel_3 7 rfl rfl)
theorem dX0_kernel_79 : decode cX0_kernel 79 = .ok (.iload_n 2, 1) := dk_28 (dk_at dksX0_kernel_3 10 rfl rfl)
theorem dX0_kernel_80 : decode cX0_kernel 80 = .ok (.iconst 2, 1) := dk_5 (dk_at dksX0_kernel_3 11 rfl rfl)
theorem dX0_kernel_81 : decode cX0_kernel 81 = .ok (.if_icmp .ne 13, 3) := dk_160 0 13 (dk_at dksX0_kernel_3 12 rfl rfl)
theorem dX0_kernel_84 : decode cX0_kernel 84 = .ok (.aload_n 0, 1) := dk_42 (dk_at dksX0_kernel_3 15 rfl rfl)
theorem dX0_kernel_85 : decode cX0_kernel 85 = .ok (.getfield 357, 3) := dk_180 1 101 (dk_at dksX0_kernel_3 16 rfl rfl)
theorem dX0_kernel_88 : decode cX0_kernel 88 = .ok (.bipush 20, 2) := dk_16 20 (dk_at dksX0_kernel_3 19 rfl rfl)
theorem dX0_kernel_90 : decode cX0_kernel 90 = .ok (.iadd, 1) := dk_96 (dk_at dksX0_kernel_3 21 rfl rfl)
theorem dX0_kernel_91 : decode cX0_kernel 91 = .ok (.goto 24, 3) := dk_167 0 24 (dk_at dksX0_kernel_4 0 rfl rfl)
theorem dX0_kernel_94 : decode cX0_kernel 94 = .ok (.iload_n 2, 1) := dk_28 (dk_at dksX0_kernel_4 3 rfl rfl)
theorem dX0_kernel_95 : decode cX0_kernel 95 = .ok (.iconst 3, 1) := dk_6 (dk_at dksX0_kernel_4 4 rfl rfl)
theorem dX0_kernel_96 : decode cX0_kernel 96 = .ok (.if_icmp .ne 10, 3) := dk_160 0 10 (dk_at dksX0_kernel_4 5 rfl rfl)
theorem dX0_kernel_99 : decode cX0_kernel 99 = .ok (.aload_n 0, 1) := dk_42 (dk_at dksX0_kernel_4 8 rfl rfl)
theorem dX0_kernel_100 : decode cX0_kernel 100 = .ok (.getfield 360, 3) := dk_180 1 104 (dk_at dksX0_kernel_4 9 rfl rfl)
theorem dX0_kernel_103 : decode cX0_kernel 103 = .ok (.goto 12, 3) := dk_167 0 12 (dk_at dksX0_kernel_4 12 rfl rfl)
theorem dX0_kernel_106 : decode cX0_kernel 106 = .ok (.iload_n 3, 1) := dk_29 (dk_at dksX0_kernel_4 15 rfl rfl)
theorem dX0_kernel_107 : decode cX0_kernel 107 = .ok (.ifCond .eq 7, 3) := dk_153 0 7 (dk_at dksX0_kernel_4 16 rfl rfl)
theorem dX0_kernel_110 : decode cX0_kernel 110 = .ok (.iconst 1, 1) := dk_4 (dk_at dksX0_kernel_4 19 rfl rfl)
theorem dX0_kernel_111 : decode cX0_kernel 111 = .ok (.goto 4, 3) := dk_167 0 4 (dk_at dksX0_kernel_4 20 rfl rfl)
theorem dX0_kernel_114 : decode cX0_kernel 114 = .ok (.iconst 0, 1) := dk_3 (dk_at dksX0_kernel_4 23 rfl rfl)
theorem dX0_kernel_115 : decode cX0_kernel 115 = .ok (.ireturn, 1) := dk_172 (dk_at dksX0_kernel_5 0 rfl rfl)
abbrev cX0_findsKernel : ByteArray := prog_1_method_50_code
def yX0_findsKernel : MethodName := ⟨RX0, "findsKernel", "(I)V"⟩
def dkwX0_findsKernel_6 : List UInt8 := [184, 0, 155, 100, 181, 1, 101, 167, 255, 133, 132, 4, 1, 167, 255, 145, 167, 0, 3, 177]
abbrev dktX0_findsKernel_6 : List UInt8 := dkwX0_findsKernel_6 ++ []
def dkwX0_findsKernel_5 : List UInt8 := [42, 89, 180, 1, 98, 25, 6, 180, 1, 113, 128, 181, 1, 98, 42, 89, 180, 1, 101, 25, 6, 180, 1, 113]
abbrev dktX0_findsKernel_5 : List UInt8 := dkwX0_findsKernel_5 ++ dktX0_findsKernel_6
def dkwX0_findsKernel_4 : List UInt8 := [180, 1, 104, 4, 96, 181, 1, 104, 42, 89, 180, 1, 95, 25, 6, 180, 1, 110, 2, 130, 126, 181, 1, 95]
abbrev dktX0_findsKernel_4 : List UInt8 := dkwX0_findsKernel_4 ++ dktX0_findsKernel_5
def dkwX0_findsKernel_3 : List UInt8 := [58, 6, 25, 6, 199, 0, 6, 167, 0, 74, 42, 180, 0, 45, 42, 180, 1, 104, 25, 6, 83, 42, 89]
abbrev dktX0_findsKernel_3 : List UInt8 := dkwX0_findsKernel_3 ++ dktX0_findsKernel_4
def dkwX0_findsKernel_2 : List UInt8 := [162, 0, 111, 44, 21, 4, 50, 58, 5, 25, 5, 42, 180, 1, 95, 42, 180, 1, 101, 185, 1, 107, 3, 0]
abbrev dktX0_findsKernel_2 : List UInt8 := dkwX0_findsKernel_2 ++ dktX0_findsKernel_3
def dkwX0_findsKernel_1 : List UInt8 := [181, 1, 104, 42, 180, 1, 101, 155, 0, 131, 42, 180, 0, 39, 77, 44, 190, 62, 3, 54, 4, 21, 4, 29]
abbrev dktX0_findsKernel_1 : List UInt8 := dkwX0_findsKernel_1 ++ dktX0_findsKernel_2
def dkwX0_findsKernel_0 : List UInt8 := [42, 42, 180, 0, 10, 182, 0, 177, 181, 1, 95, 42, 3, 181, 1, 98, 42, 27, 181, 1, 101, 42, 3]
abbrev dktX0_findsKernel_0 : List UInt8 := dkwX0_findsKernel_0 ++ dktX0_findsKernel_1
theorem dksX0_findsKernel_0 : cX0_findsKernel.data.toList.drop 0 = dktX0_findsKernel_0 := by decide +kernel
theorem dksX0_findsKernel_1 : cX0_findsKernel.data.toList.drop 23 = dktX0_findsKernel_1 := dk_seg dksX0_findsKernel_0 23 rfl rfl
theorem dksX0_findsKernel_2 : cX0_findsKernel.data.toList.drop 47 = dktX0_findsKernel_2 := dk_seg dksX0_findsKernel_1 24 rfl rfl
theorem dksX0_findsKernel_3 : cX0_findsKernel.data.toList.drop 71 = dktX0_findsKernel_3 := dk_seg dksX0_findsKernel_2 24 rfl rfl
theorem dksX0_findsKernel_4 : cX0_findsKernel.data.toList.drop 94 = dktX0_findsKernel_4 := dk_seg dksX0_findsKernel_3 23 rfl rfl
theorem dksX0_findsKernel_5 : cX0_findsKernel.data.toList.drop 118 = dktX0_findsKernel_5 := dk_seg dksX0_findsKernel_4 24 rfl rfl
theorem dksX0_findsKernel_6 : cX0_findsKernel.data.toList.drop 142 = dktX0_findsKernel_6 := dk_seg dksX0_findsKernel_5 24 rfl rfl
theorem dX0_findsKernel_0 : decode cX0_findsKernel 0 = .ok (.aload_n 0, 1) := dk_42 (dk_at dksX0_findsKernel_0 0 rfl rfl)
theorem dX0_findsKernel_1 : decode cX0_findsKernel 1 = .ok (.aload_n 0, 1) := dk_42 (dk_at dksX0_findsKernel_0 1 rfl rfl)
theorem dX0_findsKernel_2 : decode cX0_findsKernel 2 = .ok (.getfield 10, 3) := dk_180 0 10 (dk_at dksX0_findsKernel_0 2 rfl rfl)
theorem dX0_findsKernel_5 : decode cX0_findsKernel 5 = .ok (.invokevirtual 177, 3) := dk_182 0 177 (dk_at dksX0_findsKernel_0 5 rfl rfl)
theorem dX0_findsKernel_8 : decode cX0_findsKernel 8 = .ok (.putfield 351, 3) := dk_181 1 95 (dk_at dksX0_findsKernel_0 8 rfl rfl)
theorem dX0_findsKernel_11 : decode cX0_findsKernel 11 = .ok (.aload_n 0, 1) := dk_42 (dk_at dksX0_findsKernel_0 11 rfl rfl)
theorem dX0_findsKernel_12 : decode cX0_findsKernel 12 = .ok (.iconst 0, 1) := dk_3 (dk_at dksX0_findsKernel_0 12 rfl rfl)
theorem dX0_findsKernel_13 : decode cX0_findsKernel 13 = .ok (.putfield 354, 3) := dk_181 1 98 (dk_at dksX0_findsKernel_0 13 rfl rfl)
theorem dX0_findsKernel_16 : decode cX0_findsKernel 16 = .ok (.aload_n 0, 1) := dk_42 (dk_at dksX0_findsKernel_0 16 rfl rfl)
theorem dX0_findsKernel_17 : decode cX0_findsKernel 17 = .ok (.iload_n 1, 1) := dk_27 (dk_at dksX0_findsKernel_0 17 rfl rfl)
theorem dX0_findsKernel_18 : decode cX0_findsKernel 18 = .ok (.putfield 357, 3) := dk_181 1 101 (dk_at dksX0_findsKernel_0 18 rfl rfl)
theorem dX0_findsKernel_21 : decode cX0_findsKernel 21 = .ok (.aload_n 0, 1) := dk_42 (dk_at dksX0_findsKernel_0 21 rfl rfl)
theorem dX0_findsKernel_22 : decode cX0_findsKernel 22 = .ok (.iconst 0, 1) := dk_3 (dk_at dksX0_findsKernel_0 22 rfl rfl)
theorem dX0_findsKernel_23 : decode cX0_findsKernel 23 = .ok (.putfield 360, 3) := dk_181 1 104 (dk_at dksX0_findsKernel_1 0 rfl rfl)
theorem dX0_findsKernel_26 : decode cX0_findsKernel 26 = .ok (.aload_n 0, 1) := dk_42 (dk_at dksX0_findsKernel_1 3 rfl rfl)
theorem dX0_findsKernel_27 : decode cX0_findsKernel 27 = .ok (.getfield 357, 3) := dk_180 1 101 (dk_at dksX0_findsKernel_1 4 rfl rfl)
theorem dX0_findsKernel_30 : decode cX0_findsKernel 30 = .ok (.ifCond .lt 131, 3) := dk_155 0 131 (dk_at dksX0_findsKernel_1 7 rfl rfl)
theorem dX0_findsKernel_33 : decode cX0_findsKernel 33 = .ok (.aload_n 0, 1) := dk_42 (dk_at dksX0_findsKernel_1 10 rfl rfl)
theorem dX0_findsKernel_34 : decode cX0_findsKernel 34 = .ok (.getfield 39, 3) := dk_180 0 39 (dk_at dksX0_findsKernel_1 11 rfl rfl)
theorem dX0_findsKernel_37 : decode cX0_findsKernel 37 = .ok (.astore_n 2, 1) := dk_77 (dk_at dksX0_findsKernel_1 14 rfl rfl)
theorem dX0_findsKernel_38 : decode cX0_findsKernel 38 = .ok (.aload_n 2, 1) := dk_44 (dk_at dksX0_findsKernel_1 15 rfl rfl)
theorem dX0_findsKernel_39 : decode cX0_findsKernel 39 = .ok (.arraylength, 1) := dk_190 (dk_at dksX0_findsKernel_1 16 rfl rfl)
theorem dX0_findsKernel_40 : decode cX0_findsKernel 40 = .ok (.istore_n 3, 1) := dk_62 (dk_at dksX0_findsKernel_1 17 rfl rfl)
theorem dX0_findsKernel_41 : decode cX0_findsKernel 41 = .ok (.iconst 0, 1) := dk_3 (dk_at dksX0_findsKernel_1 18 rfl rfl)
theorem dX0_findsKernel_42 : decode cX0_findsKernel 42 = .ok (.istore 4, 2) := dk_54 4 (dk_at dksX0_findsKernel_1 19 rfl rfl)
theorem dX0_findsKernel_44 : decode cX0_findsKernel 44 = .ok (.iload 4, 2) := dk_21 4 (dk_at dksX0_findsKernel_1 21 rfl rfl)
theorem dX0_findsKernel_46 : decode cX0_findsKernel 46 = .ok (.iload_n 3, 1) := dk_29 (dk_at dksX0_findsKernel_1 23 rfl rfl)
theorem dX0_findsKernel_47 : decode cX0_findsKernel 47 = .ok (.if_icmp .ge 111, 3) := dk_162 0 111 (dk_at dksX0_findsKernel_2 0 rfl rfl)
theorem dX0_findsKernel_50 : decode cX0_findsKernel 50 = .ok (.aload_n 2, 1) := dk_44 (dk_at dksX0_findsKernel_2 3 rfl rfl)
theorem dX0_findsKernel_51 : decode cX0_findsKernel 51 = .ok (.iload 4, 2) := dk_21 4 (dk_at dksX0_findsKernel_2 4 rfl rfl)
theorem dX0_findsKernel_53 : decode cX0_findsKernel 53 = .ok (.aaload, 1) := dk_50 (dk_at dksX0_findsKernel_2 6 rfl rfl)
theorem dX0_findsKernel_54 : decode cX0_findsKernel 54 = .ok (.astore 5, 2) := dk_58 5 (dk_at dksX0_findsKernel_2 7 rfl rfl)
theorem dX0_findsKernel_56 : decode cX0_findsKernel 56 = .ok (.aload 5, 2) := dk_25 5 (dk_at dksX0_findsKernel_2 9 rfl rfl)
theorem dX0_findsKernel_58 : decode cX0_findsKernel 58 = .ok (.aload_n 0, 1) := dk_42 (dk_at dksX0_findsKernel_2 11 rfl rfl)
theorem dX0_findsKernel_59 : decode cX0_findsKernel 59 = .ok (.getfield 351, 3) := dk_180 1 95 (dk_at dksX0_findsKernel_2 12 rfl rfl)
theorem dX0_findsKernel_62 : decode cX0_findsKernel 62 = .ok (.aload_n 0, 1) := dk_42 (dk_at dksX0_findsKernel_2 15 rfl rfl)
theorem dX0_findsKernel_63 : decode cX0_findsKernel 63 = .ok (.getfield 357, 3) := dk_180 1 101 (dk_at dksX0_findsKernel_2 16 rfl rfl)
theorem dX0_findsKernel_66 : decode cX0_findsKernel 66 = .ok (.invokeinterface 363 3, 5) := by decide +kernel
theorem dX0_findsKernel_71 : decode cX0_findsKernel 71 = .ok (.astore 6, 2) := dk_58 6 (dk_at dksX0_findsKernel_3 0 rfl rfl)
theorem dX0_findsKernel_73 : decode cX0_findsKernel 73 = .ok (.aload 6, 2) := dk_25 6 (dk_at dksX0_findsKernel_3 2 rfl rfl)
theorem dX0_findsKernel_75 : decode cX0_findsKernel 75 = .ok (.ifnonnull 6, 3) := dk_199 0 6 (dk_at dksX0_findsKernel_3 4 rfl rfl)
theorem dX0_findsKernel_78 : decode cX0_findsKernel 78 = .ok (.goto 74, 3) := dk_167 0 74 (dk_at dksX0_findsKernel_3 7 rfl rfl)
theorem dX0_findsKernel_81 : decode cX0_findsKernel 81 = .ok (.aload_n 0, 1) := dk_42 (dk_at dksX0_findsKernel_3 10 rfl rfl)
theorem dX0_findsKernel_82 : decode cX0_findsKernel 82 = .ok (.getfield 45, 3) := dk_180 0 45 (dk_at dksX0_findsKernel_3 11 rfl rfl)
theorem dX0_findsKernel_85 : decode cX0_findsKernel 85 = .ok (.aload_n 0, 1) := dk_42 (dk_at dksX0_findsKernel_3 14 rfl rfl)
theorem dX0_findsKernel_86 : decode cX0_findsKernel 86 = .ok (.getfield 360, 3) := dk_180 1 104 (dk_at dksX0_findsKernel_3 15 rfl rfl)
theorem dX0_findsKernel_89 : decode cX0_findsKernel 89 = .ok (.aload 6, 2) := dk_25 6 (dk_at dksX0_findsKernel_3 18 rfl rfl)
theorem dX0_findsKernel_91 : decode cX0_findsKernel 91 = .ok (.aastore, 1) := dk_83 (dk_at dksX0_findsKernel_3 20 rfl rfl)
theorem dX0_findsKernel_92 : decode cX0_findsKernel 92 = .ok (.aload_n 0, 1) := dk_42 (dk_at dksX0_findsKernel_3 21 rfl rfl)
theorem dX0_findsKernel_93 : decode cX0_findsKernel 93 = .ok (.dup, 1) := dk_89 (dk_at dksX0_findsKernel_3 22 rfl rfl)
theorem dX0_findsKernel_94 : decode cX0_findsKernel 94 = .ok (.getfield 360, 3) := dk_180 1 104 (dk_at dksX0_findsKernel_4 0 rfl rfl)
theorem dX0_findsKernel_97 : decode cX0_findsKernel 97 = .ok (.iconst 1, 1) := dk_4 (dk_at dksX0_findsKernel_4 3 rfl rfl)
theorem dX0_findsKernel_98 : decode cX0_findsKernel 98 = .ok (.iadd, 1) := dk_96 (dk_at dksX0_findsKernel_4 4 rfl rfl)
theorem dX0_findsKernel_99 : decode cX0_findsKernel 99 = .ok (.putfield 360, 3) := dk_181 1 104 (dk_at dksX0_findsKernel_4 5 rfl rfl)
theorem dX0_findsKernel_102 : decode cX0_findsKernel 102 = .ok (.aload_n 0, 1) := dk_42 (dk_at dksX0_findsKernel_4 8 rfl rfl)
theorem dX0_findsKernel_103 : decode cX0_findsKernel 103 = .ok (.dup, 1) := dk_89 (dk_at dksX0_findsKernel_4 9 rfl rfl)
theorem dX0_findsKernel_104 : decode cX0_findsKernel 104 = .ok (.getfield 351, 3) := dk_180 1 95 (dk_at dksX0_findsKernel_4 10 rfl rfl)
theorem dX0_findsKernel_107 : decode cX0_findsKernel 107 = .ok (.aload 6, 2) := dk_25 6 (dk_at dksX0_findsKernel_4 13 rfl rfl)
theorem dX0_findsKernel_109 : decode cX0_findsKernel 109 = .ok (.getfield 366, 3) := dk_180 1 110 (dk_at dksX0_findsKernel_4 15 rfl rfl)
theorem dX0_findsKernel_112 : decode cX0_findsKernel 112 = .ok (.iconst (-1), 1) := dk_2 (dk_at dksX0_findsKernel_4 18 rfl rfl)
theorem dX0_findsKernel_113 : decode cX0_findsKernel 113 = .ok (.ixor, 1) := dk_130 (dk_at dksX0_findsKernel_4 19 rfl rfl)
theorem dX0_findsKernel_114 : decode cX0_findsKernel 114 = .ok (.iand, 1) := dk_126 (dk_at dksX0_findsKernel_4 20 rfl rfl)
theorem dX0_findsKernel_115 : decode cX0_findsKernel 115 = .ok (.putfield 351, 3) := dk_181 1 95 (dk_at dksX0_findsKernel_4 21 rfl rfl)
theorem dX0_findsKernel_118 : decode cX0_findsKernel 118 = .ok (.aload_n 0, 1) := dk_42 (dk_at dksX0_findsKernel_5 0 rfl rfl)
theorem dX0_findsKernel_119 : decode cX0_findsKernel 119 = .ok (.dup, 1) := dk_89 (dk_at dksX0_findsKernel_5 1 rfl rfl)
theorem dX0_findsKernel_120 : decode cX0_findsKernel 120 = .ok (.getfield 354, 3) := dk_180 1 98 (dk_at dksX0_findsKernel_5 2 rfl rfl)
theorem dX0_findsKernel_123 : decode cX0_findsKernel 123 = .ok (.aload 6, 2) := dk_25 6 (dk_at dksX0_findsKernel_5 5 rfl rfl)
theorem dX0_findsKernel_125 : decode cX0_findsKernel 125 = .ok (.getfield 369, 3) := dk_180 1 113 (dk_at dksX0_findsKernel_5 7 rfl rfl)
theorem dX0_findsKernel_128 : decode cX0_findsKernel 128 = .ok (.ior, 1) := dk_128 (dk_at dksX0_findsKernel_5 10 rfl rfl)
theorem dX0_findsKernel_129 : decode cX0_findsKernel 129 = .ok (.putfield 354, 3) := dk_181 1 98 (dk_at dksX0_findsKernel_5 11 rfl rfl)
theorem dX0_findsKernel_132 : decode cX0_findsKernel 132 = .ok (.aload_n 0, 1) := dk_42 (dk_at dksX0_findsKernel_5 14 rfl rfl)
theorem dX0_findsKernel_133 : decode cX0_findsKernel 133 = .ok (.dup, 1) := dk_89 (dk_at dksX0_findsKernel_5 15 rfl rfl)
theorem dX0_findsKernel_134 : decode cX0_findsKernel 134 = .ok (.getfield 357, 3) := dk_180 1 101 (dk_at dksX0_findsKernel_5 16 rfl rfl)
theorem dX0_findsKernel_137 : decode cX0_findsKernel 137 = .ok (.aload 6, 2) := dk_25 6 (dk_at dksX0_findsKernel_5 19 rfl rfl)
theorem dX0_findsKernel_139 : decode cX0_findsKernel 139 = .ok (.getfield 369, 3) := dk_180 1 113 (dk_at dksX0_findsKernel_5 21 rfl rfl)
theorem dX0_findsKernel_142 : decode cX0_findsKernel 142 = .ok (.invokestatic 155, 3) := dk_184 0 155 (dk_at dksX0_findsKernel_6 0 rfl rfl)
theorem dX0_findsKernel_145 : decode cX0_findsKernel 145 = .ok (.isub, 1) := dk_100 (dk_at dksX0_findsKernel_6 3 rfl rfl)
theorem dX0_findsKernel_146 : decode cX0_findsKernel 146 = .ok (.putfield 357, 3) := dk_181 1 101 (dk_at dksX0_findsKernel_6 4 rfl rfl)
theorem dX0_findsKernel_149 : decode cX0_findsKernel 149 = .ok (.goto (-123), 3) := dk_167 255 133 (dk_at dksX0_findsKernel_6 7 rfl rfl)
theorem dX0_findsKernel_152 : decode cX0_findsKernel 152 = .ok (.iinc 4 1, 3) := dk_132 4 1 (dk_at dksX0_findsKernel_6 10 rfl rfl)
theorem dX0_findsKernel_155 : decode cX0_findsKernel 155 = .ok (.goto (-111), 3) := dk_167 255 145 (dk_at dksX0_findsKernel_6 13 rfl rfl)
theorem dX0_findsKernel_158 : decode cX0_findsKernel 158 = .ok (.goto 3, 3) := dk_167 0 3 (dk_at dksX0_findsKernel_6 16 rfl rfl)
theorem dX0_findsKernel_161 : decode cX0_findsKernel 161 = .ok (.return_, 1) := dk_177 (dk_at dksX0_findsKernel_6 19 rfl rfl)
abbrev cX0_round : ByteArray := prog_1_method_52_code
def yX0_round : MethodName := ⟨RX0, "round", "(III)I"⟩
def dkwX0_round_3 : List UInt8 := [180, 1, 110, 167, 0, 12, 42, 180, 0, 45, 28, 50, 180, 1, 113, 172]
abbrev dktX0_round_3 : List UInt8 := dkwX0_round_3 ++ []
def dkwX0_round_2 : List UInt8 := [42, 180, 0, 45, 28, 50, 180, 1, 119, 167, 0, 29, 29, 4, 160, 0, 15, 42, 180, 0, 45, 28, 50]
abbrev dktX0_round_2 : List UInt8 := dkwX0_round_2 ++ dktX0_round_3
def dkwX0_round_1 : List UInt8 := [182, 1, 116, 28, 3, 42, 180, 1, 104, 4, 100, 184, 0, 111, 154, 0, 6, 16, 254, 172, 29, 154, 0, 15]
abbrev dktX0_round_1 : List UInt8 := dkwX0_round_1 ++ dktX0_round_2
def dkwX0_round_0 : List UInt8 := [27, 3, 16, 12, 184, 0, 111, 153, 0, 12, 29, 3, 5, 184, 0, 111, 154, 0, 6, 16, 254, 172, 42, 27]
abbrev dktX0_round_0 : List UInt8 := dkwX0_round_0 ++ dktX0_round_1
theorem dksX0_round_0 : cX0_round.data.toList.drop 0 = dktX0_round_0 := by decide +kernel
theorem dksX0_round_1 : cX0_round.data.toList.drop 24 = dktX0_round_1 := dk_seg dksX0_round_0 24 rfl rfl
theorem dksX0_round_2 : cX0_round.data.toList.drop 48 = dktX0_round_2 := dk_seg dksX0_round_1 24 rfl rfl
theorem dksX0_round_3 : cX0_round.data.toList.drop 71 = dktX0_round_3 := dk_seg dksX0_round_2 23 rfl rfl
theorem dX0_round_0 : decode cX0_round 0 = .ok (.iload_n 1, 1) := dk_27 (dk_at dksX0_round_0 0 rfl rfl)
theorem dX0_round_1 : decode cX0_round 1 = .ok (.iconst 0, 1) := dk_3 (dk_at dksX0_round_0 1 rfl rfl)
theorem dX0_round_2 : decode cX0_round 2 = .ok (.bipush 12, 2) := dk_16 12 (dk_at dksX0_round_0 2 rfl rfl)
theorem dX0_round_4 : decode cX0_round 4 = .ok (.invokestatic 111, 3) := dk_184 0 111 (dk_at dksX0_round_0 4 rfl rfl)
theorem dX0_round_7 : decode cX0_round 7 = .ok (.ifCond .eq 12, 3) := dk_153 0 12 (dk_at dksX0_round_0 7 rfl rfl)
theorem dX0_round_10 : decode cX0_round 10 = .ok (.iload_n 3, 1) := dk_29 (dk_at dksX0_round_0 10 rfl rfl)
theorem dX0_round_11 : decode cX0_round 11 = .ok (.iconst 0, 1) := dk_3 (dk_at dksX0_round_0 11 rfl rfl)
theorem dX0_round_12 : decode cX0_round 12 = .ok (.iconst 2, 1) := dk_5 (dk_at dksX0_round_0 12 rfl rfl)
theorem dX0_round_13 : decode cX0_round 13 = .ok (.invokestatic 111, 3) := dk_184 0 111 (dk_at dksX0_round_0 13 rfl rfl)
theorem dX0_round_16 : decode cX0_round 16 = .ok (.ifCond .ne 6, 3) := dk_154 0 6 (dk_at dksX0_round_0 16 rfl rfl)
theorem dX0_round_19 : decode cX0_round 19 = .ok (.bipush (-2), 2) := dk_16 254 (dk_at dksX0_round_0 19 rfl rfl)
theorem dX0_round_21 : decode cX0_round 21 = .ok (.ireturn, 1) := dk_172 (dk_at dksX0_round_0 21 rfl rfl)
theorem dX0_round_22 : decode cX0_round 22 = .ok (.aload_n 0, 1) := dk_42 (dk_at dksX0_round_0 22 rfl rfl)
theorem dX0_round_23 : decode cX0_round 23 = .ok (.iload_n 1, 1) := dk_27 (dk_at dksX0_round_0 23 rfl rfl)
theorem dX0_round_24 : decode cX0_round 24 = .ok (.invokevirtual 372, 3) := dk_182 1 116 (dk_at dksX0_round_1 0 rfl rfl)
theorem dX0_round_27 : decode cX0_round 27 = .ok (.iload_n 2, 1) := dk_28 (dk_at dksX0_round_1 3 rfl rfl)
theorem dX0_round_28 : decode cX0_round 28 = .ok (.iconst 0, 1) := dk_3 (dk_at dksX0_round_1 4 rfl rfl)
theorem dX0_round_29 : decode cX0_round 29 = .ok (.aload_n 0, 1) := dk_42 (dk_at dksX0_round_1 5 rfl rfl)
theorem dX0_round_30 : decode cX0_round 30 = .ok (.getfield 360, 3) := dk_180 1 104 (dk_at dksX0_round_1 6 rfl rfl)
theorem dX0_round_33 : decode cX0_round 33 = .ok (.iconst 1, 1) := dk_4 (dk_at dksX0_round_1 9 rfl rfl)
theorem dX0_round_34 : decode cX0_round 34 = .ok (.isub, 1) := dk_100 (dk_at dksX0_round_1 10 rfl rfl)
theorem dX0_round_35 : decode cX0_round 35 = .ok (.invokestatic 111, 3) := dk_184 0 111 (dk_at dksX0_round_1 11 rfl rfl)
theorem dX0_round_38 : decode cX0_round 38 = .ok (.ifCond .ne 6, 3) := dk_154 0 6 (dk_at dksX0_round_1 14 rfl rfl)
theorem dX0_round_41 : decode cX0_round 41 = .ok (.bipush (-2), 2) := dk_16 254 (dk_at dksX0_round_1 17 rfl rfl)
theorem dX0_round_43 : decode cX0_round 43 = .ok (.ireturn, 1) := dk_172 (dk_at dksX0_round_1 19 rfl rfl)
theorem dX0_round_44 : decode cX0_round 44 = .ok (.iload_n 3, 1) := dk_29 (dk_at dksX0_round_1 20 rfl rfl)
theorem dX0_round_45 : decode cX0_round 45 = .ok (.ifCond .ne 15, 3) := dk_154 0 15 (dk_at dksX0_round_1 21 rfl rfl)
theorem dX0_round_48 : decode cX0_round 48 = .ok (.aload_n 0, 1) := dk_42 (dk_at dksX0_round_2 0 rfl rfl)
theorem dX0_round_49 : decode cX0_round 49 = .ok (.getfield 45, 3) := dk_180 0 45 (dk_at dksX0_round_2 1 rfl rfl)
theorem dX0_round_52 : decode cX0_round 52 = .ok (.iload_n 2, 1) := dk_28 (dk_at dksX0_round_2 4 rfl rfl)
theorem dX0_round_53 : decode cX0_round 53 = .ok (.aaload, 1) := dk_50 (dk_at dksX0_round_2 5 rfl rfl)
theorem dX0_round_54 : decode cX0_round 54 = .ok (.getfield 375, 3) := dk_180 1 119 (dk_at dksX0_round_2 6 rfl rfl)
theorem dX0_round_57 : decode cX0_round 57 = .ok (.goto 29, 3) := dk_167 0 29 (dk_at dksX0_round_2 9 rfl rfl)
theorem dX0_round_60 : decode cX0_round 60 = .ok (.iload_n 3, 1) := dk_29 (dk_at dksX0_round_2 12 rfl rfl)
theorem dX0_round_61 : decode cX0_round 61 = .ok (.iconst 1, 1) := dk_4 (dk_at dksX0_round_2 13 rfl rfl)
theorem dX0_round_62 : decode cX0_round 62 = .ok (.if_icmp .ne 15, 3) := dk_160 0 15 (dk_at dksX0_round_2 14 rfl rfl)
theorem dX0_round_65 : decode cX0_round 65 = .ok (.aload_n 0, 1) := dk_42 (dk_at dksX0_round_2 17 rfl rfl)
theorem dX0_round_66 : decode cX0_round 66 = .ok (.getfield 45, 3) := dk_180 0 45 (dk_at dksX0_round_2 18 rfl rfl)
theorem dX0_round_69 : decode cX0_round 69 = .ok (.iload_n 2, 1) := dk_28 (dk_at dksX0_round_2 21 rfl rfl)
theorem dX0_round_70 : decode cX0_round 70 = .ok (.aaload, 1) := dk_50 (dk_at dksX0_round_2 22 rfl rfl)
theorem dX0_round_71 : decode cX0_round 71 = .ok (.getfield 366, 3) := dk_180 1 110 (dk_at dksX0_round_3 0 rfl rfl)
theorem dX0_round_74 : decode cX0_round 74 = .ok (.goto 12, 3) := dk_167 0 12 (dk_at dksX0_round_3 3 rfl rfl)
theorem dX0_round_77 : decode cX0_round 77 = .ok (.aload_n 0, 1) := dk_42 (dk_at dksX0_round_3 6 rfl rfl)
theorem dX0_round_78 : decode cX0_round 78 = .ok (.getfield 45, 3) := dk_180 0 45 (dk_at dksX0_round_3 7 rfl rfl)
theorem dX0_round_81 : decode cX0_round 81 = .ok (.iload_n 2, 1) := dk_28 (dk_at dksX0_round_3 10 rfl rfl)
theorem dX0_round_82 : decode cX0_round 82 = .ok (.aaload, 1) := dk_50 (dk_at dksX0_round_3 11 rfl rfl)
theorem dX0_round_83 : decode cX0_round 83 = .ok (.getfield 369, 3) := dk_180 1 113 (dk_at dksX0_round_3 12 rfl rfl)
theorem dX0_round_86 : decode cX0_round 86 = .ok (.ireturn, 1) := dk_172 (dk_at dksX0_round_3 15 rfl rfl)
abbrev cX0_pack : ByteArray := prog_1_method_54_code
def yX0_pack : MethodName := ⟨RX0, "pack", "(I)I"⟩
def dkwX0_pack_3 : List UInt8 := [29, 167, 0, 9, 16, 16, 29, 104, 28, 100, 172]
abbrev dktX0_pack_3 : List UInt8 := dkwX0_pack_3 ++ []
def dkwX0_pack_2 : List UInt8 := [180, 0, 49, 42, 180, 0, 10, 182, 0, 177, 53, 61, 28, 16, 15, 96, 16, 16, 108, 62, 27, 154, 0, 7]
abbrev dktX0_pack_2 : List UInt8 := dkwX0_pack_2 ++ dktX0_pack_3
def dkwX0_pack_1 : List UInt8 := [163, 0, 21, 42, 180, 0, 49, 28, 42, 28, 182, 1, 122, 147, 86, 132, 2, 1, 167, 255, 230, 42]
abbrev dktX0_pack_1 : List UInt8 := dkwX0_pack_1 ++ dktX0_pack_2
def dkwX0_pack_0 : List UInt8 := [27, 3, 4, 184, 0, 111, 154, 0, 6, 16, 254, 172, 4, 61, 28, 42, 180, 0, 10, 182, 0, 177]
abbrev dktX0_pack_0 : List UInt8 := dkwX0_pack_0 ++ dktX0_pack_1
theorem dksX0_pack_0 : cX0_pack.data.toList.drop 0 = dktX0_pack_0 := by decide +kernel
theorem dksX0_pack_1 : cX0_pack.data.toList.drop 22 = dktX0_pack_1 := dk_seg dksX0_pack_0 22 rfl rfl
theorem dksX0_pack_2 : cX0_pack.data.toList.drop 44 = dktX0_pack_2 := dk_seg dksX0_pack_1 22 rfl rfl
theorem dksX0_pack_3 : cX0_pack.data.toList.drop 68 = dktX0_pack_3 := dk_seg dksX0_pack_2 24 rfl rfl
theorem dX0_pack_0 : decode cX0_pack 0 = .ok (.iload_n 1, 1) := dk_27 (dk_at dksX0_pack_0 0 rfl rfl)
theorem dX0_pack_1 : decode cX0_pack 1 = .ok (.iconst 0, 1) := dk_3 (dk_at dksX0_pack_0 1 rfl rfl)
theorem dX0_pack_2 : decode cX0_pack 2 = .ok (.iconst 1, 1) := dk_4 (dk_at dksX0_pack_0 2 rfl rfl)
theorem dX0_pack_3 : decode cX0_pack 3 = .ok (.invokestatic 111, 3) := dk_184 0 111 (dk_at dksX0_pack_0 3 rfl rfl)
theorem dX0_pack_6 : decode cX0_pack 6 = .ok (.ifCond .ne 6, 3) := dk_154 0 6 (dk_at dksX0_pack_0 6 rfl rfl)
theorem dX0_pack_9 : decode cX0_pack 9 = .ok (.bipush (-2), 2) := dk_16 254 (dk_at dksX0_pack_0 9 rfl rfl)
theorem dX0_pack_11 : decode cX0_pack 11 = .ok (.ireturn, 1) := dk_172 (dk_at dksX0_pack_0 11 rfl rfl)
theorem dX0_pack_12 : decode cX0_pack 12 = .ok (.iconst 1, 1) := dk_4 (dk_at dksX0_pack_0 12 rfl rfl)
theorem dX0_pack_13 : decode cX0_pack 13 = .ok (.istore_n 2, 1) := dk_61 (dk_at dksX0_pack_0 13 rfl rfl)
theorem dX0_pack_14 : decode cX0_pack 14 = .ok (.iload_n 2, 1) := dk_28 (dk_at dksX0_pack_0 14 rfl rfl)
theorem dX0_pack_15 : decode cX0_pack 15 = .ok (.aload_n 0, 1) := dk_42 (dk_at dksX0_pack_0 15 rfl rfl)
theorem dX0_pack_16 : decode cX0_pack 16 = .ok (.getfield 10, 3) := dk_180 0 10 (dk_at dksX0_pack_0 16 rfl rfl)
theorem dX0_pack_19 : decode cX0_pack 19 = .ok (.invokevirtual 177, 3) := dk_182 0 177 (dk_at dksX0_pack_0 19 rfl rfl)
theorem dX0_pack_22 : decode cX0_pack 22 = .ok (.if_icmp .gt 21, 3) := dk_163 0 21 (dk_at dksX0_pack_1 0 rfl rfl)
theorem dX0_pack_25 : decode cX0_pack 25 = .ok (.aload_n 0, 1) := dk_42 (dk_at dksX0_pack_1 3 rfl rfl)
theorem dX0_pack_26 : decode cX0_pack 26 = .ok (.getfield 49, 3) := dk_180 0 49 (dk_at dksX0_pack_1 4 rfl rfl)
theorem dX0_pack_29 : decode cX0_pack 29 = .ok (.iload_n 2, 1) := dk_28 (dk_at dksX0_pack_1 7 rfl rfl)
theorem dX0_pack_30 : decode cX0_pack 30 = .ok (.aload_n 0, 1) := dk_42 (dk_at dksX0_pack_1 8 rfl rfl)
theorem dX0_pack_31 : decode cX0_pack 31 = .ok (.iload_n 2, 1) := dk_28 (dk_at dksX0_pack_1 9 rfl rfl)
theorem dX0_pack_32 : decode cX0_pack 32 = .ok (.invokevirtual 378, 3) := dk_182 1 122 (dk_at dksX0_pack_1 10 rfl rfl)
theorem dX0_pack_35 : decode cX0_pack 35 = .ok (.i2s, 1) := dk_147 (dk_at dksX0_pack_1 13 rfl rfl)
theorem dX0_pack_36 : decode cX0_pack 36 = .ok (.sastore, 1) := dk_86 (dk_at dksX0_pack_1 14 rfl rfl)
theorem dX0_pack_37 : decode cX0_pack 37 = .ok (.iinc 2 1, 3) := dk_132 2 1 (dk_at dksX0_pack_1 15 rfl rfl)
theorem dX0_pack_40 : decode cX0_pack 40 = .ok (.goto (-26), 3) := dk_167 255 230 (dk_at dksX0_pack_1 18 rfl rfl)
theorem dX0_pack_43 : decode cX0_pack 43 = .ok (.aload_n 0, 1) := dk_42 (dk_at dksX0_pack_1 21 rfl rfl)
theorem dX0_pack_44 : decode cX0_pack 44 = .ok (.getfield 49, 3) := dk_180 0 49 (dk_at dksX0_pack_2 0 rfl rfl)
theorem dX0_pack_47 : decode cX0_pack 47 = .ok (.aload_n 0, 1) := dk_42 (dk_at dksX0_pack_2 3 rfl rfl)
theorem dX0_pack_48 : decode cX0_pack 48 = .ok (.getfield 10, 3) := dk_180 0 10 (dk_at dksX0_pack_2 4 rfl rfl)
theorem dX0_pack_51 : decode cX0_pack 51 = .ok (.invokevirtual 177, 3) := dk_182 0 177 (dk_at dksX0_pack_2 7 rfl rfl)
theorem dX0_pack_54 : decode cX0_pack 54 = .ok (.saload, 1) := dk_53 (dk_at dksX0_pack_2 10 rfl rfl)
theorem dX0_pack_55 : decode cX0_pack 55 = .ok (.istore_n 2, 1) := dk_61 (dk_at dksX0_pack_2 11 rfl rfl)
theorem dX0_pack_56 : decode cX0_pack 56 = .ok (.iload_n 2, 1) := dk_28 (dk_at dksX0_pack_2 12 rfl rfl)
theorem dX0_pack_57 : decode cX0_pack 57 = .ok (.bipush 15, 2) := dk_16 15 (dk_at dksX0_pack_2 13 rfl rfl)
theorem dX0_pack_59 : decode cX0_pack 59 = .ok (.iadd, 1) := dk_96 (dk_at dksX0_pack_2 15 rfl rfl)
theorem dX0_pack_60 : decode cX0_pack 60 = .ok (.bipush 16, 2) := dk_16 16 (dk_at dksX0_pack_2 16 rfl rfl)
theorem dX0_pack_62 : decode cX0_pack 62 = .ok (.idiv, 1) := dk_108 (dk_at dksX0_pack_2 18 rfl rfl)
theorem dX0_pack_63 : decode cX0_pack 63 = .ok (.istore_n 3, 1) := dk_62 (dk_at dksX0_pack_2 19 rfl rfl)
theorem dX0_pack_64 : decode cX0_pack 64 = .ok (.iload_n 1, 1) := dk_27 (dk_at dksX0_pack_2 20 rfl rfl)
theorem dX0_pack_65 : decode cX0_pack 65 = .ok (.ifCond .ne 7, 3) := dk_154 0 7 (dk_at dksX0_pack_2 21 rfl rfl)
theorem dX0_pack_68 : decode cX0_pack 68 = .ok (.iload_n 3, 1) := dk_29 (dk_at dksX0_pack_3 0 rfl rfl)
theorem dX0_pack_69 : decode cX0_pack 69 = .ok (.goto 9, 3) := dk_167 0 9 (dk_at dksX0_pack_3 1 rfl rfl)
theorem dX0_pack_72 : decode cX0_pack 72 = .ok (.bipush 16, 2) := dk_16 16 (dk_at dksX0_pack_3 4 rfl rfl)
theorem dX0_pack_74 : decode cX0_pack 74 = .ok (.iload_n 3, 1) := dk_29 (dk_at dksX0_pack_3 6 rfl rfl)
theorem dX0_pack_75 : decode cX0_pack 75 = .ok (.imul, 1) := dk_104 (dk_at dksX0_pack_3 7 rfl rfl)
theorem dX0_pack_76 : decode cX0_pack 76 = .ok (.iload_n 2, 1) := dk_28 (dk_at dksX0_pack_3 8 rfl rfl)
theorem dX0_pack_77 : decode cX0_pack 77 = .ok (.isub, 1) := dk_100 (dk_at dksX0_pack_3 9 rfl rfl)
theorem dX0_pack_78 : decode cX0_pack 78 = .ok (.ireturn, 1) := dk_172 (dk_at dksX0_pack_3 10 rfl rfl)
abbrev cX0_packOf : ByteArray := prog_1_method_53_code
def yX0_packOf : MethodName := ⟨RX0, "packOf", "(I)I"⟩
def dkwX0_packOf_7 : List UInt8 := [21, 4, 172]
abbrev dktX0_packOf_7 : List UInt8 := dkwX0_packOf_7 ++ []
def dkwX0_packOf_6 : List UInt8 := [184, 1, 16, 54, 4, 21, 7, 21, 7, 4, 100, 126, 54, 7, 167, 255, 216, 132, 5, 1, 167, 255, 119]
abbrev dktX0_packOf_6 : List UInt8 := dkwX0_packOf_6 ++ dktX0_packOf_7
def dkwX0_packOf_5 : List UInt8 := [153, 0, 41, 21, 4, 16, 31, 42, 180, 0, 49, 21, 6, 21, 7, 21, 7, 116, 126, 2, 130, 126, 53, 96]
abbrev dktX0_packOf_5 : List UInt8 := dkwX0_packOf_5 ++ dktX0_packOf_6
def dkwX0_packOf_4 : List UInt8 := [28, 46, 126, 42, 180, 0, 10, 180, 0, 152, 21, 5, 46, 126, 2, 21, 5, 120, 126, 54, 7, 21, 7]
abbrev dktX0_packOf_4 : List UInt8 := dkwX0_packOf_4 ++ dktX0_packOf_5
def dkwX0_packOf_3 : List UInt8 := [16, 15, 42, 180, 0, 49, 21, 6, 53, 96, 184, 1, 16, 54, 4, 21, 6, 42, 180, 0, 10, 180, 0, 152]
abbrev dktX0_packOf_3 : List UInt8 := dkwX0_packOf_3 ++ dktX0_packOf_4
def dkwX0_packOf_2 : List UInt8 := [21, 5, 184, 1, 0, 154, 0, 6, 167, 0, 103, 29, 4, 21, 5, 120, 2, 130, 126, 54, 6, 21, 4]
abbrev dktX0_packOf_2 : List UInt8 := dkwX0_packOf_2 ++ dktX0_packOf_3
def dkwX0_packOf_1 : List UInt8 := [21, 5, 42, 180, 0, 10, 180, 0, 115, 162, 0, 131, 29, 42, 180, 0, 10, 180, 0, 152, 28, 46, 126]
abbrev dktX0_packOf_1 : List UInt8 := dkwX0_packOf_1 ++ dktX0_packOf_2
def dkwX0_packOf_0 : List UInt8 := [27, 184, 1, 31, 61, 27, 27, 4, 100, 126, 62, 42, 180, 0, 49, 29, 53, 54, 4, 28, 4, 96, 54, 5]
abbrev dktX0_packOf_0 : List UInt8 := dkwX0_packOf_0 ++ dktX0_packOf_1
theorem dksX0_packOf_0 : cX0_packOf.data.toList.drop 0 = dktX0_packOf_0 := by decide +kernel
theorem dksX0_packOf_1 : cX0_packOf.data.toList.drop 24 = dktX0_packOf_1 := dk_seg dksX0_packOf_0 24 rfl rfl
theorem dksX0_packOf_2 : cX0_packOf.data.toList.drop 47 = dktX0_packOf_2 := dk_seg dksX0_packOf_1 23 rfl rfl
theorem dksX0_packOf_3 : cX0_packOf.data.toList.drop 70 = dktX0_packOf_3 := dk_seg dksX0_packOf_2 23 rfl rfl
theorem dksX0_packOf_4 : cX0_packOf.data.toList.drop 94 = dktX0_packOf_4 := dk_seg dksX0_packOf_3 24 rfl rfl
theorem dksX0_packOf_5 : cX0_packOf.data.toList.drop 117 = dktX0_packOf_5 := dk_seg dksX0_packOf_4 23 rfl rfl
theorem dksX0_packOf_6 : cX0_packOf.data.toList.drop 141 = dktX0_packOf_6 := dk_seg dksX0_packOf_5 24 rfl rfl
theorem dksX0_packOf_7 : cX0_packOf.data.toList.drop 164 = dktX0_packOf_7 := dk_seg dksX0_packOf_6 23 rfl rfl
theorem dX0_packOf_0 : decode cX0_packOf 0 = .ok (.iload_n 1, 1) := dk_27 (dk_at dksX0_packOf_0 0 rfl rfl)
theorem dX0_packOf_1 : decode cX0_packOf 1 = .ok (.invokestatic 287, 3) := dk_184 1 31 (dk_at dksX0_packOf_0 1 rfl rfl)
theorem dX0_packOf_4 : decode cX0_packOf 4 = .ok (.istore_n 2, 1) := dk_61 (dk_at dksX0_packOf_0 4 rfl rfl)
theorem dX0_packOf_5 : decode cX0_packOf 5 = .ok (.iload_n 1, 1) := dk_27 (dk_at dksX0_packOf_0 5 rfl rfl)
theorem dX0_packOf_6 : decode cX0_packOf 6 = .ok (.iload_n 1, 1) := dk_27 (dk_at dksX0_packOf_0 6 rfl rfl)
theorem dX0_packOf_7 : decode cX0_packOf 7 = .ok (.iconst 1, 1) := dk_4 (dk_at dksX0_packOf_0 7 rfl rfl)
theorem dX0_packOf_8 : decode cX0_packOf 8 = .ok (.isub, 1) := dk_100 (dk_at dksX0_packOf_0 8 rfl rfl)
theorem dX0_packOf_9 : decode cX0_packOf 9 = .ok (.iand, 1) := dk_126 (dk_at dksX0_packOf_0 9 rfl rfl)
theorem dX0_packOf_10 : decode cX0_packOf 10 = .ok (.istore_n 3, 1) := dk_62 (dk_at dksX0_packOf_0 10 rfl rfl)
theorem dX0_packOf_11 : decode cX0_packOf 11 = .ok (.aload_n 0, 1) := dk_42 (dk_at dksX0_packOf_0 11 rfl rfl)
theorem dX0_packOf_12 : decode cX0_packOf 12 = .ok (.getfield 49, 3) := dk_180 0 49 (dk_at dksX0_packOf_0 12 rfl rfl)
theorem dX0_packOf_15 : decode cX0_packOf 15 = .ok (.iload_n 3, 1) := dk_29 (dk_at dksX0_packOf_0 15 rfl rfl)
theorem dX0_packOf_16 : decode cX0_packOf 16 = .ok (.saload, 1) := dk_53 (dk_at dksX0_packOf_0 16 rfl rfl)
theorem dX0_packOf_17 : decode cX0_packOf 17 = .ok (.istore 4, 2) := dk_54 4 (dk_at dksX0_packOf_0 17 rfl rfl)
theorem dX0_packOf_19 : decode cX0_packOf 19 = .ok (.iload_n 2, 1) := dk_28 (dk_at dksX0_packOf_0 19 rfl rfl)
theorem dX0_packOf_20 : decode cX0_packOf 20 = .ok (.iconst 1, 1) := dk_4 (dk_at dksX0_packOf_0 20 rfl rfl)
theorem dX0_packOf_21 : decode cX0_packOf 21 = .ok (.iadd, 1) := dk_96 (dk_at dksX0_packOf_0 21 rfl rfl)
theorem dX0_packOf_22 : decode cX0_packOf 22 = .ok (.istore 5, 2) := dk_54 5 (dk_at dksX0_packOf_0 22 rfl rfl)
theorem dX0_packOf_24 : decode cX0_packOf 24 = .ok (.iload 5, 2) := dk_21 5 (dk_at dksX0_packOf_1 0 rfl rfl)
theorem dX0_packOf_26 : decode cX0_packOf 26 = .ok (.aload_n 0, 1) := dk_42 (dk_at dksX0_packOf_1 2 rfl rfl)
theorem dX0_packOf_27 : decode cX0_packOf 27 = .ok (.getfield 10, 3) := dk_180 0 10 (dk_at dksX0_packOf_1 3 rfl rfl)
theorem dX0_packOf_30 : decode cX0_packOf 30 = .ok (.getfield 115, 3) := dk_180 0 115 (dk_at dksX0_packOf_1 6 rfl rfl)
theorem dX0_packOf_33 : decode cX0_packOf 33 = .ok (.if_icmp .ge 131, 3) := dk_162 0 131 (dk_at dksX0_packOf_1 9 rfl rfl)
theorem dX0_packOf_36 : decode cX0_packOf 36 = .ok (.iload_n 3, 1) := dk_29 (dk_at dksX0_packOf_1 12 rfl rfl)
theorem dX0_packOf_37 : decode cX0_packOf 37 = .ok (.aload_n 0, 1) := dk_42 (dk_at dksX0_packOf_1 13 rfl rfl)
theorem dX0_packOf_38 : decode cX0_packOf 38 = .ok (.getfield 10, 3) := dk_180 0 10 (dk_at dksX0_packOf_1 14 rfl rfl)
theorem dX0_packOf_41 : decode cX0_packOf 41 = .ok (.getfield 152, 3) := dk_180 0 152 (dk_at dksX0_packOf_1 17 rfl rfl)
theorem dX0_packOf_44 : decode cX0_packOf 44 = .ok (.iload_n 2, 1) := dk_28 (dk_at dksX0_packOf_1 20 rfl rfl)
theorem dX0_packOf_45 : decode cX0_packOf 45 = .ok (.iaload, 1) := dk_46 (dk_at dksX0_packOf_1 21 rfl rfl)
theorem dX0_packOf_46 : decode cX0_packOf 46 = .ok (.iand, 1) := dk_126 (dk_at dksX0_packOf_1 22 rfl rfl)
theorem dX0_packOf_47 : decode cX0_packOf 47 = .ok (.iload 5, 2) := dk_21 5 (dk_at dksX0_packOf_2 0 rfl rfl)
theorem dX0_packOf_49 : decode cX0_packOf 49 = .ok (.invokestatic 256, 3) := dk_184 1 0 (dk_at dksX0_packOf_2 2 rfl rfl)
theorem dX0_packOf_52 : decode cX0_packOf 52 = .ok (.ifCond .ne 6, 3) := dk_154 0 6 (dk_at dksX0_packOf_2 5 rfl rfl)
theorem dX0_packOf_55 : decode cX0_packOf 55 = .ok (.goto 103, 3) := dk_167 0 103 (dk_at dksX0_packOf_2 8 rfl rfl)
theorem dX0_packOf_58 : decode cX0_packOf 58 = .ok (.iload_n 3, 1) := dk_29 (dk_at dksX0_packOf_2 11 rfl rfl)
theorem dX0_packOf_59 : decode cX0_packOf 59 = .ok (.iconst 1, 1) := dk_4 (dk_at dksX0_packOf_2 12 rfl rfl)
theorem dX0_packOf_60 : decode cX0_packOf 60 = .ok (.iload 5, 2) := dk_21 5 (dk_at dksX0_packOf_2 13 rfl rfl)
theorem dX0_packOf_62 : decode cX0_packOf 62 = .ok (.ishl, 1) := dk_120 (dk_at dksX0_packOf_2 15 rfl rfl)
theorem dX0_packOf_63 : decode cX0_packOf 63 = .ok (.iconst (-1), 1) := dk_2 (dk_at dksX0_packOf_2 16 rfl rfl)
theorem dX0_packOf_64 : decode cX0_packOf 64 = .ok (.ixor, 1) := dk_130 (dk_at dksX0_packOf_2 17 rfl rfl)
theorem dX0_packOf_65 : decode cX0_packOf 65 = .ok (.iand, 1) := dk_126 (dk_at dksX0_packOf_2 18 rfl rfl)
theorem dX0_packOf_66 : decode cX0_packOf 66 = .ok (.istore 6, 2) := dk_54 6 (dk_at dksX0_packOf_2 19 rfl rfl)
theorem dX0_packOf_68 : decode cX0_packOf 68 = .ok (.iload 4, 2) := dk_21 4 (dk_at dksX0_packOf_2 21 rfl rfl)
theorem dX0_packOf_70 : decode cX0_packOf 70 = .ok (.bipush 15, 2) := dk_16 15 (dk_at dksX0_packOf_3 0 rfl rfl)
theorem dX0_packOf_72 : decode cX0_packOf 72 = .ok (.aload_n 0, 1) := dk_42 (dk_at dksX0_packOf_3 2 rfl rfl)
theorem dX0_packOf_73 : decode cX0_packOf 73 = .ok (.getfield 49, 3) := dk_180 0 49 (dk_at dksX0_packOf_3 3 rfl rfl)
theorem dX0_packOf_76 : decode cX0_packOf 76 = .ok (.iload 6, 2) := dk_21 6 (dk_at dksX0_packOf_3 6 rfl rfl)
theorem dX0_packOf_78 : decode cX0_packOf 78 = .ok (.saload, 1) := dk_53 (dk_at dksX0_packOf_3 8 rfl rfl)
theorem dX0_packOf_79 : decode cX0_packOf 79 = .ok (.iadd, 1) := dk_96 (dk_at dksX0_packOf_3 9 rfl rfl)
theorem dX0_packOf_80 : decode cX0_packOf 80 = .ok (.invokestatic 272, 3) := dk_184 1 16 (dk_at dksX0_packOf_3 10 rfl rfl)
theorem dX0_packOf_83 : decode cX0_packOf 83 = .ok (.istore 4, 2) := dk_54 4 (dk_at dksX0_packOf_3 13 rfl rfl)
theorem dX0_packOf_85 : decode cX0_packOf 85 = .ok (.iload 6, 2) := dk_21 6 (dk_at dksX0_packOf_3 15 rfl rfl)
theorem dX0_packOf_87 : decode cX0_packOf 87 = .ok (.aload_n 0, 1) := dk_42 (dk_at dksX0_packOf_3 17 rfl rfl)
theorem dX0_packOf_88 : decode cX0_packOf 88 = .ok (.getfield 10, 3) := dk_180 0 10 (dk_at dksX0_packOf_3 18 rfl rfl)
theorem dX0_packOf_91 : decode cX0_packOf 91 = .ok (.getfield 152, 3) := dk_180 0 152 (dk_at dksX0_packOf_3 21 rfl rfl)
theorem dX0_packOf_94 : decode cX0_packOf 94 = .ok (.iload_n 2, 1) := dk_28 (dk_at dksX0_packOf_4 0 rfl rfl)
theorem dX0_packOf_95 : decode cX0_packOf 95 = .ok (.iaload, 1) := dk_46 (dk_at dksX0_packOf_4 1 rfl rfl)
theorem dX0_packOf_96 : decode cX0_packOf 96 = .ok (.iand, 1) := dk_126 (dk_at dksX0_packOf_4 2 rfl rfl)
theorem dX0_packOf_97 : decode cX0_packOf 97 = .ok (.aload_n 0, 1) := dk_42 (dk_at dksX0_packOf_4 3 rfl rfl)
theorem dX0_packOf_98 : decode cX0_packOf 98 = .ok (.getfield 10, 3) := dk_180 0 10 (dk_at dksX0_packOf_4 4 rfl rfl)
theorem dX0_packOf_101 : decode cX0_packOf 101 = .ok (.getfield 152, 3) := dk_180 0 152 (dk_at dksX0_packOf_4 7 rfl rfl)
theorem dX0_packOf_104 : decode cX0_packOf 104 = .ok (.iload 5, 2) := dk_21 5 (dk_at dksX0_packOf_4 10 rfl rfl)
theorem dX0_packOf_106 : decode cX0_packOf 106 = .ok (.iaload, 1) := dk_46 (dk_at dksX0_packOf_4 12 rfl rfl)
theorem dX0_packOf_107 : decode cX0_packOf 107 = .ok (.iand, 1) := dk_126 (dk_at dksX0_packOf_4 13 rfl rfl)
theorem dX0_packOf_108 : decode cX0_packOf 108 = .ok (.iconst (-1), 1) := dk_2 (dk_at dksX0_packOf_4 14 rfl rfl)
theorem dX0_packOf_109 : decode cX0_packOf 109 = .ok (.iload 5, 2) := dk_21 5 (dk_at dksX0_packOf_4 15 rfl rfl)
theorem dX0_packOf_111 : decode cX0_packOf 111 = .ok (.ishl, 1) := dk_120 (dk_at dksX0_packOf_4 17 rfl rfl)
theorem dX0_packOf_112 : decode cX0_packOf 112 = .ok (.iand, 1) := dk_126 (dk_at dksX0_packOf_4 18 rfl rfl)
theorem dX0_packOf_113 : decode cX0_packOf 113 = .ok (.istore 7, 2) := dk_54 7 (dk_at dksX0_packOf_4 19 rfl rfl)
theorem dX0_packOf_115 : decode cX0_packOf 115 = .ok (.iload 7, 2) := dk_21 7 (dk_at dksX0_packOf_4 21 rfl rfl)
theorem dX0_packOf_117 : decode cX0_packOf 117 = .ok (.ifCond .eq 41, 3) := dk_153 0 41 (dk_at dksX0_packOf_5 0 rfl rfl)
theorem dX0_packOf_120 : decode cX0_packOf 120 = .ok (.iload 4, 2) := dk_21 4 (dk_at dksX0_packOf_5 3 rfl rfl)
theorem dX0_packOf_122 : decode cX0_packOf 122 = .ok (.bipush 31, 2) := dk_16 31 (dk_at dksX0_packOf_5 5 rfl rfl)
theorem dX0_packOf_124 : decode cX0_packOf 124 = .ok (.aload_n 0, 1) := dk_42 (dk_at dksX0_packOf_5 7 rfl rfl)
theorem dX0_packOf_125 : decode cX0_packOf 125 = .ok (.getfield 49, 3) := dk_180 0 49 (dk_at dksX0_packOf_5 8 rfl rfl)
theorem dX0_packOf_128 : decode cX0_packOf 128 = .ok (.iload 6, 2) := dk_21 6 (dk_at dksX0_packOf_5 11 rfl rfl)
theorem dX0_packOf_130 : decode cX0_packOf 130 = .ok (.iload 7, 2) := dk_21 7 (dk_at dksX0_packOf_5 13 rfl rfl)
theorem dX0_packOf_132 : decode cX0_packOf 132 = .ok (.iload 7, 2) := dk_21 7 (dk_at dksX0_packOf_5 15 rfl rfl)
theorem dX0_packOf_134 : decode cX0_packOf 134 = .ok (.ineg, 1) := dk_116 (dk_at dksX0_packOf_5 17 rfl rfl)
theorem dX0_packOf_135 : decode cX0_packOf 135 = .ok (.iand, 1) := dk_126 (dk_at dksX0_packOf_5 18 rfl rfl)
theorem dX0_packOf_136 : decode cX0_packOf 136 = .ok (.iconst (-1), 1) := dk_2 (dk_at dksX0_packOf_5 19 rfl rfl)
theorem dX0_packOf_137 : decode cX0_packOf 137 = .ok (.ixor, 1) := dk_130 (dk_at dksX0_packOf_5 20 rfl rfl)
theorem dX0_packOf_138 : decode cX0_packOf 138 = .ok (.iand, 1) := dk_126 (dk_at dksX0_packOf_5 21 rfl rfl)
theorem dX0_packOf_139 : decode cX0_packOf 139 = .ok (.saload, 1) := dk_53 (dk_at dksX0_packOf_5 22 rfl rfl)
theorem dX0_packOf_140 : decode cX0_packOf 140 = .ok (.iadd, 1) := dk_96 (dk_at dksX0_packOf_5 23 rfl rfl)
theorem dX0_packOf_141 : decode cX0_packOf 141 = .ok (.invokestatic 272, 3) := dk_184 1 16 (dk_at dksX0_packOf_6 0 rfl rfl)
theorem dX0_packOf_144 : decode cX0_packOf 144 = .ok (.istore 4, 2) := dk_54 4 (dk_at dksX0_packOf_6 3 rfl rfl)
theorem dX0_packOf_146 : decode cX0_packOf 146 = .ok (.iload 7, 2) := dk_21 7 (dk_at dksX0_packOf_6 5 rfl rfl)
theorem dX0_packOf_148 : decode cX0_packOf 148 = .ok (.iload 7, 2) := dk_21 7 (dk_at dksX0_packOf_6 7 rfl rfl)
theorem dX0_packOf_150 : decode cX0_packOf 150 = .ok (.iconst 1, 1) := dk_4 (dk_at dksX0_packOf_6 9 rfl rfl)
theorem dX0_packOf_151 : decode cX0_packOf 151 = .ok (.isub, 1) := dk_100 (dk_at dksX0_packOf_6 10 rfl rfl)
theorem dX0_packOf_152 : decode cX0_packOf 152 = .ok (.iand, 1) := dk_126 (dk_at dksX0_packOf_6 11 rfl rfl)
theorem dX0_packOf_153 : decode cX0_packOf 153 = .ok (.istore 7, 2) := dk_54 7 (dk_at dksX0_packOf_6 12 rfl rfl)
theorem dX0_packOf_155 : decode cX0_packOf 155 = .ok (.goto (-40), 3) := dk_167 255 216 (dk_at dksX0_packOf_6 14 rfl rfl)
theorem dX0_packOf_158 : decode cX0_packOf 158 = .ok (.iinc 5 1, 3) := dk_132 5 1 (dk_at dksX0_packOf_6 17 rfl rfl)
theorem dX0_packOf_161 : decode cX0_packOf 161 = .ok (.goto (-137), 3) := dk_167 255 119 (dk_at dksX0_packOf_6 20 rfl rfl)
theorem dX0_packOf_164 : decode cX0_packOf 164 = .ok (.iload 4, 2) := dk_21 4 (dk_at dksX0_packOf_7 0 rfl rfl)
theorem dX0_packOf_166 : decode cX0_packOf 166 = .ok (.ireturn, 1) := dk_172 (dk_at dksX0_packOf_7 2 rfl rfl)
abbrev cX0_packs : ByteArray := prog_1_method_56_code
def yX0_packs : MethodName := ⟨RX0, "packs", "(I)I"⟩
def dkwX0_packs_4 : List UInt8 := [4, 100, 96, 54, 4, 132, 5, 1, 167, 255, 188, 21, 4, 172]
abbrev dktX0_packs_4 : List UInt8 := dkwX0_packs_4 ++ []
def dkwX0_packs_3 : List UInt8 := [182, 1, 140, 154, 0, 9, 16, 156, 21, 5, 100, 172, 29, 21, 6, 128, 62, 21, 4, 21, 6, 184, 0, 155]
abbrev dktX0_packs_3 : List UInt8 := dkwX0_packs_3 ++ dktX0_packs_4
def dkwX0_packs_2 : List UInt8 := [184, 1, 136, 54, 6, 42, 21, 6, 182, 0, 180, 153, 0, 19, 21, 6, 29, 126, 154, 0, 12, 42, 21, 6]
abbrev dktX0_packs_2 : List UInt8 := dkwX0_packs_2 ++ dktX0_packs_3
def dkwX0_packs_1 : List UInt8 := [16, 245, 172, 3, 62, 3, 54, 4, 3, 54, 5, 21, 5, 44, 184, 1, 132, 162, 0, 65, 44, 21, 5]
abbrev dktX0_packs_1 : List UInt8 := dkwX0_packs_1 ++ dktX0_packs_2
def dkwX0_packs_0 : List UInt8 := [27, 184, 1, 125, 154, 0, 6, 16, 254, 172, 42, 180, 0, 75, 27, 50, 180, 1, 128, 77, 44, 199, 0, 6]
abbrev dktX0_packs_0 : List UInt8 := dkwX0_packs_0 ++ dktX0_packs_1
theorem dksX0_packs_0 : cX0_packs.data.toList.drop 0 = dktX0_packs_0 := by decide +kernel
theorem dksX0_packs_1 : cX0_packs.data.toList.drop 24 = dktX0_packs_1 := dk_seg dksX0_packs_0 24 rfl rfl
theorem dksX0_packs_2 : cX0_packs.data.toList.drop 47 = dktX0_packs_2 := dk_seg dksX0_packs_1 23 rfl rfl
theorem dksX0_packs_3 : cX0_packs.data.toList.drop 71 = dktX0_packs_3 := dk_seg dksX0_packs_2 24 rfl rfl
theorem dksX0_packs_4 : cX0_packs.data.toList.drop 95 = dktX0_packs_4 := dk_seg dksX0_packs_3 24 rfl rfl
theorem dX0_packs_0 : decode cX0_packs 0 = .ok (.iload_n 1, 1) := dk_27 (dk_at dksX0_packs_0 0 rfl rfl)
theorem dX0_packs_1 : decode cX0_packs 1 = .ok (.invokestatic 381, 3) := dk_184 1 125 (dk_at dksX0_packs_0 1 rfl rfl)
theorem dX0_packs_4 : decode cX0_packs 4 = .ok (.ifCond .ne 6, 3) := dk_154 0 6 (dk_at dksX0_packs_0 4 rfl rfl)
theorem dX0_packs_7 : decode cX0_packs 7 = .ok (.bipush (-2), 2) := dk_16 254 (dk_at dksX0_packs_0 7 rfl rfl)
theorem dX0_packs_9 : decode cX0_packs 9 = .ok (.ireturn, 1) := dk_172 (dk_at dksX0_packs_0 9 rfl rfl)
theorem dX0_packs_10 : decode cX0_packs 10 = .ok (.aload_n 0, 1) := dk_42 (dk_at dksX0_packs_0 10 rfl rfl)
theorem dX0_packs_11 : decode cX0_packs 11 = .ok (.getfield 75, 3) := dk_180 0 75 (dk_at dksX0_packs_0 11 rfl rfl)
theorem dX0_packs_14 : decode cX0_packs 14 = .ok (.iload_n 1, 1) := dk_27 (dk_at dksX0_packs_0 14 rfl rfl)
theorem dX0_packs_15 : decode cX0_packs 15 = .ok (.aaload, 1) := dk_50 (dk_at dksX0_packs_0 15 rfl rfl)
theorem dX0_packs_16 : decode cX0_packs 16 = .ok (.getfield 384, 3) := dk_180 1 128 (dk_at dksX0_packs_0 16 rfl rfl)
theorem dX0_packs_19 : decode cX0_packs 19 = .ok (.astore_n 2, 1) := dk_77 (dk_at dksX0_packs_0 19 rfl rfl)
theorem dX0_packs_20 : decode cX0_packs 20 = .ok (.aload_n 2, 1) := dk_44 (dk_at dksX0_packs_0 20 rfl rfl)
theorem dX0_packs_21 : decode cX0_packs 21 = .ok (.ifnonnull 6, 3) := dk_199 0 6 (dk_at dksX0_packs_0 21 rfl rfl)
theorem dX0_packs_24 : decode cX0_packs 24 = .ok (.bipush (-11), 2) := dk_16 245 (dk_at dksX0_packs_1 0 rfl rfl)
theorem dX0_packs_26 : decode cX0_packs 26 = .ok (.ireturn, 1) := dk_172 (dk_at dksX0_packs_1 2 rfl rfl)
theorem dX0_packs_27 : decode cX0_packs 27 = .ok (.iconst 0, 1) := dk_3 (dk_at dksX0_packs_1 3 rfl rfl)
theorem dX0_packs_28 : decode cX0_packs 28 = .ok (.istore_n 3, 1) := dk_62 (dk_at dksX0_packs_1 4 rfl rfl)
theorem dX0_packs_29 : decode cX0_packs 29 = .ok (.iconst 0, 1) := dk_3 (dk_at dksX0_packs_1 5 rfl rfl)
theorem dX0_packs_30 : decode cX0_packs 30 = .ok (.istore 4, 2) := dk_54 4 (dk_at dksX0_packs_1 6 rfl rfl)
theorem dX0_packs_32 : decode cX0_packs 32 = .ok (.iconst 0, 1) := dk_3 (dk_at dksX0_packs_1 8 rfl rfl)
theorem dX0_packs_33 : decode cX0_packs 33 = .ok (.istore 5, 2) := dk_54 5 (dk_at dksX0_packs_1 9 rfl rfl)
theorem dX0_packs_35 : decode cX0_packs 35 = .ok (.iload 5, 2) := dk_21 5 (dk_at dksX0_packs_1 11 rfl rfl)
theorem dX0_packs_37 : decode cX0_packs 37 = .ok (.aload_n 2, 1) := dk_44 (dk_at dksX0_packs_1 13 rfl rfl)
theorem dX0_packs_38 : decode cX0_packs 38 = .ok (.invokestatic 388, 3) := dk_184 1 132 (dk_at dksX0_packs_1 14 rfl rfl)
theorem dX0_packs_41 : decode cX0_packs 41 = .ok (.if_icmp .ge 65, 3) := dk_162 0 65 (dk_at dksX0_packs_1 17 rfl rfl)
theorem dX0_packs_44 : decode cX0_packs 44 = .ok (.aload_n 2, 1) := dk_44 (dk_at dksX0_packs_1 20 rfl rfl)
theorem dX0_packs_45 : decode cX0_packs 45 = .ok (.iload 5, 2) := dk_21 5 (dk_at dksX0_packs_1 21 rfl rfl)
theorem dX0_packs_47 : decode cX0_packs 47 = .ok (.invokestatic 392, 3) := dk_184 1 136 (dk_at dksX0_packs_2 0 rfl rfl)
theorem dX0_packs_50 : decode cX0_packs 50 = .ok (.istore 6, 2) := dk_54 6 (dk_at dksX0_packs_2 3 rfl rfl)
theorem dX0_packs_52 : decode cX0_packs 52 = .ok (.aload_n 0, 1) := dk_42 (dk_at dksX0_packs_2 5 rfl rfl)
theorem dX0_packs_53 : decode cX0_packs 53 = .ok (.iload 6, 2) := dk_21 6 (dk_at dksX0_packs_2 6 rfl rfl)
theorem dX0_packs_55 : decode cX0_packs 55 = .ok (.invokevirtual 180, 3) := dk_182 0 180 (dk_at dksX0_packs_2 8 rfl rfl)
theorem dX0_packs_58 : decode cX0_packs 58 = .ok (.ifCond .eq 19, 3) := dk_153 0 19 (dk_at dksX0_packs_2 11 rfl rfl)
theorem dX0_packs_61 : decode cX0_packs 61 = .ok (.iload 6, 2) := dk_21 6 (dk_at dksX0_packs_2 14 rfl rfl)
theorem dX0_packs_63 : decode cX0_packs 63 = .ok (.iload_n 3, 1) := dk_29 (dk_at dksX0_packs_2 16 rfl rfl)
theorem dX0_packs_64 : decode cX0_packs 64 = .ok (.iand, 1) := dk_126 (dk_at dksX0_packs_2 17 rfl rfl)
theorem dX0_packs_65 : decode cX0_packs 65 = .ok (.ifCond .ne 12, 3) := dk_154 0 12 (dk_at dksX0_packs_2 18 rfl rfl)
theorem dX0_packs_68 : decode cX0_packs 68 = .ok (.aload_n 0, 1) := dk_42 (dk_at dksX0_packs_2 21 rfl rfl)
theorem dX0_packs_69 : decode cX0_packs 69 = .ok (.iload 6, 2) := dk_21 6 (dk_at dksX0_packs_2 22 rfl rfl)
theorem dX0_packs_71 : decode cX0_packs 71 = .ok (.invokevirtual 396, 3) := dk_182 1 140 (dk_at dksX0_packs_3 0 rfl rfl)
theorem dX0_packs_74 : decode cX0_packs 74 = .ok (.ifCond .ne 9, 3) := dk_154 0 9 (dk_at dksX0_packs_3 3 rfl rfl)
theorem dX0_packs_77 : decode cX0_packs 77 = .ok (.bipush (-100), 2) := dk_16 156 (dk_at dksX0_packs_3 6 rfl rfl)
theorem dX0_packs_79 : decode cX0_packs 79 = .ok (.iload 5, 2) := dk_21 5 (dk_at dksX0_packs_3 8 rfl rfl)
theorem dX0_packs_81 : decode cX0_packs 81 = .ok (.isub, 1) := dk_100 (dk_at dksX0_packs_3 10 rfl rfl)
theorem dX0_packs_82 : decode cX0_packs 82 = .ok (.ireturn, 1) := dk_172 (dk_at dksX0_packs_3 11 rfl rfl)
theorem dX0_packs_83 : decode cX0_packs 83 = .ok (.iload_n 3, 1) := dk_29 (dk_at dksX0_packs_3 12 rfl rfl)
theorem dX0_packs_84 : decode cX0_packs 84 = .ok (.iload 6, 2) := dk_21 6 (dk_at dksX0_packs_3 13 rfl rfl)
theorem dX0_packs_86 : decode cX0_packs 86 = .ok (.ior, 1) := dk_128 (dk_at dksX0_packs_3 15 rfl rfl)
theorem dX0_packs_87 : decode cX0_packs 87 = .ok (.istore_n 3, 1) := dk_62 (dk_at dksX0_packs_3 16 rfl rfl)
theorem dX0_packs_88 : decode cX0_packs 88 = .ok (.iload 4, 2) := dk_21 4 (dk_at dksX0_packs_3 17 rfl rfl)
theorem dX0_packs_90 : decode cX0_packs 90 = .ok (.iload 6, 2) := dk_21 6 (dk_at dksX0_packs_3 19 rfl rfl)
theorem dX0_packs_92 : decode cX0_packs 92 = .ok (.invokestatic 155, 3) := dk_184 0 155 (dk_at dksX0_packs_3 21 rfl rfl)
theorem dX0_packs_95 : decode cX0_packs 95 = .ok (.iconst 1, 1) := dk_4 (dk_at dksX0_packs_4 0 rfl rfl)
theorem dX0_packs_96 : decode cX0_packs 96 = .ok (.isub, 1) := dk_100 (dk_at dksX0_packs_4 1 rfl rfl)
theorem dX0_packs_97 : decode cX0_packs 97 = .ok (.iadd, 1) := dk_96 (dk_at dksX0_packs_4 2 rfl rfl)
theorem dX0_packs_98 : decode cX0_packs 98 = .ok (.istore 4, 2) := dk_54 4 (dk_at dksX0_packs_4 3 rfl rfl)
theorem dX0_packs_100 : decode cX0_packs 100 = .ok (.iinc 5 1, 3) := dk_132 5 1 (dk_at dksX0_packs_4 5 rfl rfl)
theorem dX0_packs_103 : decode cX0_packs 103 = .ok (.goto (-68), 3) := dk_167 255 188 (dk_at dksX0_packs_4 8 rfl rfl)
theorem dX0_packs_106 : decode cX0_packs 106 = .ok (.iload 4, 2) := dk_21 4 (dk_at dksX0_packs_4 11 rfl rfl)
theorem dX0_packs_108 : decode cX0_packs 108 = .ok (.ireturn, 1) := dk_172 (dk_at dksX0_packs_4 13 rfl rfl)
abbrev cX0_isSheet : ByteArray := prog_1_method_93_code
def yX0_isSheet : MethodName := ⟨RX0, "isSheet", "(I)Z"⟩
def dkwX0_isSheet_0 : List UInt8 := [26, 3, 6, 184, 0, 111, 172]
abbrev dktX0_isSheet_0 : List UInt8 := dkwX0_isSheet_0 ++ []
theorem dksX0_isSheet_0 : cX0_isSheet.data.toList.drop 0 = dktX0_isSheet_0 := by decide +kernel
theorem dX0_isSheet_0 : decode cX0_isSheet 0 = .ok (.iload_n 0, 1) := dk_26 (dk_at dksX0_isSheet_0 0 rfl rfl)
theorem dX0_isSheet_1 : decode cX0_isSheet 1 = .ok (.iconst 0, 1) := dk_3 (dk_at dksX0_isSheet_0 1 rfl rfl)
theorem dX0_isSheet_2 : decode cX0_isSheet 2 = .ok (.iconst 3, 1) := dk_6 (dk_at dksX0_isSheet_0 2 rfl rfl)
theorem dX0_isSheet_3 : decode cX0_isSheet 3 = .ok (.invokestatic 111, 3) := dk_184 0 111 (dk_at dksX0_isSheet_0 3 rfl rfl)
theorem dX0_isSheet_6 : decode cX0_isSheet 6 = .ok (.ireturn, 1) := dk_172 (dk_at dksX0_isSheet_0 6 rfl rfl)
abbrev cX0_length : ByteArray := prog_1_method_95_code
def yX0_length : MethodName := ⟨RX0, "length", "(Ljava/lang/Object;)I"⟩
def dkwX0_length_1 : List UInt8 := [192, 2, 117, 190, 167, 0, 8, 42, 192, 2, 118, 190, 172]
abbrev dktX0_length_1 : List UInt8 := dkwX0_length_1 ++ []
def dkwX0_length_0 : List UInt8 := [42, 193, 2, 116, 153, 0, 11, 42, 192, 2, 116, 190, 167, 0, 23, 42, 193, 2, 117, 153, 0, 11, 42]
abbrev dktX0_length_0 : List UInt8 := dkwX0_length_0 ++ dktX0_length_1
theorem dksX0_length_0 : cX0_length.data.toList.drop 0 = dktX0_length_0 := by decide +kernel
theorem dksX0_length_1 : cX0_length.data.toList.drop 23 = dktX0_length_1 := dk_seg dksX0_length_0 23 rfl rfl
theorem dX0_length_0 : decode cX0_length 0 = .ok (.aload_n 0, 1) := dk_42 (dk_at dksX0_length_0 0 rfl rfl)
theorem dX0_length_1 : decode cX0_length 1 = .ok (.instanceof 628, 3) := dk_193 2 116 (dk_at dksX0_length_0 1 rfl rfl)
theorem dX0_length_4 : decode cX0_length 4 = .ok (.ifCond .eq 11, 3) := dk_153 0 11 (dk_at dksX0_length_0 4 rfl rfl)
theorem dX0_length_7 : decode cX0_length 7 = .ok (.aload_n 0, 1) := dk_42 (dk_at dksX0_length_0 7 rfl rfl)
theorem dX0_length_8 : decode cX0_length 8 = .ok (.checkcast 628, 3) := dk_192 2 116 (dk_at dksX0_length_0 8 rfl rfl)
theorem dX0_length_11 : decode cX0_length 11 = .ok (.arraylength, 1) := dk_190 (dk_at dksX0_length_0 11 rfl rfl)
theorem dX0_length_12 : decode cX0_length 12 = .ok (.goto 23, 3) := dk_167 0 23 (dk_at dksX0_length_0 12 rfl rfl)
theorem dX0_length_15 : decode cX0_length 15 = .ok (.aload_n 0, 1) := dk_42 (dk_at dksX0_length_0 15 rfl rfl)
theorem dX0_length_16 : decode cX0_length 16 = .ok (.instanceof 629, 3) := dk_193 2 117 (dk_at dksX0_length_0 16 rfl rfl)
theorem dX0_length_19 : decode cX0_length 19 = .ok (.ifCond .eq 11, 3) := dk_153 0 11 (dk_at dksX0_length_0 19 rfl rfl)
theorem dX0_length_22 : decode cX0_length 22 = .ok (.aload_n 0, 1) := dk_42 (dk_at dksX0_length_0 22 rfl rfl)
theorem dX0_length_23 : decode cX0_length 23 = .ok (.checkcast 629, 3) := dk_192 2 117 (dk_at dksX0_length_1 0 rfl rfl)
theorem dX0_length_26 : decode cX0_length 26 = .ok (.arraylength, 1) := dk_190 (dk_at dksX0_length_1 3 rfl rfl)
theorem dX0_length_27 : decode cX0_length 27 = .ok (.goto 8, 3) := dk_167 0 8 (dk_at dksX0_length_1 4 rfl rfl)
theorem dX0_length_30 : decode cX0_length 30 = .ok (.aload_n 0, 1) := dk_42 (dk_at dksX0_length_1 7 rfl rfl)
theorem dX0_length_31 : decode cX0_length 31 = .ok (.checkcast 630, 3) := dk_192 2 118 (dk_at dksX0_length_1 8 rfl rfl)
theorem dX0_length_34 : decode cX0_length 34 = .ok (.arraylength, 1) := dk_190 (dk_at dksX0_length_1 11 rfl rfl)
theorem dX0_length_35 : decode cX0_length 35 = .ok (.ireturn, 1) := dk_172 (dk_at dksX0_length_1 12 rfl rfl)
abbrev cX0_number : ByteArray := prog_1_method_96_code
def yX0_number : MethodName := ⟨RX0, "number", "(Ljava/lang/Object;I)I"⟩
def dkwX0_number_1 : List UInt8 := [192, 2, 117, 27, 53, 167, 0, 9, 42, 192, 2, 118, 27, 46, 172]
abbrev dktX0_number_1 : List UInt8 := dkwX0_number_1 ++ []
def dkwX0_number_0 : List UInt8 := [42, 193, 2, 116, 153, 0, 12, 42, 192, 2, 116, 27, 51, 167, 0, 25, 42, 193, 2, 117, 153, 0, 12, 42]
abbrev dktX0_number_0 : List UInt8 := dkwX0_number_0 ++ dktX0_number_1
theorem dksX0_number_0 : cX0_number.data.toList.drop 0 = dktX0_number_0 := by decide +kernel
theorem dksX0_number_1 : cX0_number.data.toList.drop 24 = dktX0_number_1 := dk_seg dksX0_number_0 24 rfl rfl
theorem dX0_number_0 : decode cX0_number 0 = .ok (.aload_n 0, 1) := dk_42 (dk_at dksX0_number_0 0 rfl rfl)
theorem dX0_number_1 : decode cX0_number 1 = .ok (.instanceof 628, 3) := dk_193 2 116 (dk_at dksX0_number_0 1 rfl rfl)
theorem dX0_number_4 : decode cX0_number 4 = .ok (.ifCond .eq 12, 3) := dk_153 0 12 (dk_at dksX0_number_0 4 rfl rfl)
theorem dX0_number_7 : decode cX0_number 7 = .ok (.aload_n 0, 1) := dk_42 (dk_at dksX0_number_0 7 rfl rfl)
theorem dX0_number_8 : decode cX0_number 8 = .ok (.checkcast 628, 3) := dk_192 2 116 (dk_at dksX0_number_0 8 rfl rfl)
theorem dX0_number_11 : decode cX0_number 11 = .ok (.iload_n 1, 1) := dk_27 (dk_at dksX0_number_0 11 rfl rfl)
theorem dX0_number_12 : decode cX0_number 12 = .ok (.baload, 1) := dk_51 (dk_at dksX0_number_0 12 rfl rfl)
theorem dX0_number_13 : decode cX0_number 13 = .ok (.goto 25, 3) := dk_167 0 25 (dk_at dksX0_number_0 13 rfl rfl)
theorem dX0_number_16 : decode cX0_number 16 = .ok (.aload_n 0, 1) := dk_42 (dk_at dksX0_number_0 16 rfl rfl)
theorem dX0_number_17 : decode cX0_number 17 = .ok (.instanceof 629, 3) := dk_193 2 117 (dk_at dksX0_number_0 17 rfl rfl)
theorem dX0_number_20 : decode cX0_number 20 = .ok (.ifCond .eq 12, 3) := dk_153 0 12 (dk_at dksX0_number_0 20 rfl rfl)
theorem dX0_number_23 : decode cX0_number 23 = .ok (.aload_n 0, 1) := dk_42 (dk_at dksX0_number_0 23 rfl rfl)
theorem dX0_number_24 : decode cX0_number 24 = .ok (.checkcast 629, 3) := dk_192 2 117 (dk_at dksX0_number_1 0 rfl rfl)
theorem dX0_number_27 : decode cX0_number 27 = .ok (.iload_n 1, 1) := dk_27 (dk_at dksX0_number_1 3 rfl rfl)
theorem dX0_number_28 : decode cX0_number 28 = .ok (.saload, 1) := dk_53 (dk_at dksX0_number_1 4 rfl rfl)
theorem dX0_number_29 : decode cX0_number 29 = .ok (.goto 9, 3) := dk_167 0 9 (dk_at dksX0_number_1 5 rfl rfl)
theorem dX0_number_32 : decode cX0_number 32 = .ok (.aload_n 0, 1) := dk_42 (dk_at dksX0_number_1 8 rfl rfl)
theorem dX0_number_33 : decode cX0_number 33 = .ok (.checkcast 630, 3) := dk_192 2 118 (dk_at dksX0_number_1 9 rfl rfl)
theorem dX0_number_36 : decode cX0_number 36 = .ok (.iload_n 1, 1) := dk_27 (dk_at dksX0_number_1 12 rfl rfl)
theorem dX0_number_37 : decode cX0_number 37 = .ok (.iaload, 1) := dk_46 (dk_at dksX0_number_1 13 rfl rfl)
theorem dX0_number_38 : decode cX0_number 38 = .ok (.ireturn, 1) := dk_172 (dk_at dksX0_number_1 14 rfl rfl)
abbrev cX0_isKnot : ByteArray := prog_1_method_55_code
def yX0_isKnot : MethodName := ⟨RX0, "isKnot", "(I)Z"⟩
def dkwX0_isKnot_3 : List UInt8 := [172]
abbrev dktX0_isKnot_3 : List UInt8 := dkwX0_isKnot_3 ++ []
def dkwX0_isKnot_2 : List UInt8 := [180, 0, 152, 29, 46, 2, 130, 126, 154, 0, 7, 4, 167, 0, 4, 3, 61, 132, 3, 1, 167, 255, 202, 28]
abbrev dktX0_isKnot_2 : List UInt8 := dkwX0_isKnot_2 ++ dktX0_isKnot_3
def dkwX0_isKnot_1 : List UInt8 := [153, 0, 45, 27, 29, 184, 1, 0, 153, 0, 25, 27, 4, 29, 120, 2, 130, 126, 42, 180, 0, 10]
abbrev dktX0_isKnot_1 : List UInt8 := dkwX0_isKnot_1 ++ dktX0_isKnot_2
def dkwX0_isKnot_0 : List UInt8 := [27, 184, 0, 155, 5, 6, 184, 0, 111, 61, 3, 62, 29, 42, 180, 0, 10, 180, 0, 115, 162, 0, 49, 28]
abbrev dktX0_isKnot_0 : List UInt8 := dkwX0_isKnot_0 ++ dktX0_isKnot_1
theorem dksX0_isKnot_0 : cX0_isKnot.data.toList.drop 0 = dktX0_isKnot_0 := by decide +kernel
theorem dksX0_isKnot_1 : cX0_isKnot.data.toList.drop 24 = dktX0_isKnot_1 := dk_seg dksX0_isKnot_0 24 rfl rfl
theorem dksX0_isKnot_2 : cX0_isKnot.data.toList.drop 46 = dktX0_isKnot_2 := dk_seg dksX0_isKnot_1 22 rfl rfl
theorem dksX0_isKnot_3 : cX0_isKnot.data.toList.drop 70 = dktX0_isKnot_3 := dk_seg dksX0_isKnot_2 24 rfl rfl
theorem dX0_isKnot_0 : decode cX0_isKnot 0 = .ok (.iload_n 1, 1) := dk_27 (dk_at dksX0_isKnot_0 0 rfl rfl)
theorem dX0_isKnot_1 : decode cX0_isKnot 1 = .ok (.invokestatic 155, 3) := dk_184 0 155 (dk_at dksX0_isKnot_0 1 rfl rfl)
theorem dX0_isKnot_4 : decode cX0_isKnot 4 = .ok (.iconst 2, 1) := dk_5 (dk_at dksX0_isKnot_0 4 rfl rfl)
theorem dX0_isKnot_5 : decode cX0_isKnot 5 = .ok (.iconst 3, 1) := dk_6 (dk_at dksX0_isKnot_0 5 rfl rfl)
theorem dX0_isKnot_6 : decode cX0_isKnot 6 = .ok (.invokestatic 111, 3) := dk_184 0 111 (dk_at dksX0_isKnot_0 6 rfl rfl)
theorem dX0_isKnot_9 : decode cX0_isKnot 9 = .ok (.istore_n 2, 1) := dk_61 (dk_at dksX0_isKnot_0 9 rfl rfl)
theorem dX0_isKnot_10 : decode cX0_isKnot 10 = .ok (.iconst 0, 1) := dk_3 (dk_at dksX0_isKnot_0 10 rfl rfl)
theorem dX0_isKnot_11 : decode cX0_isKnot 11 = .ok (.istore_n 3, 1) := dk_62 (dk_at dksX0_isKnot_0 11 rfl rfl)
theorem dX0_isKnot_12 : decode cX0_isKnot 12 = .ok (.iload_n 3, 1) := dk_29 (dk_at dksX0_isKnot_0 12 rfl rfl)
theorem dX0_isKnot_13 : decode cX0_isKnot 13 = .ok (.aload_n 0, 1) := dk_42 (dk_at dksX0_isKnot_0 13 rfl rfl)
theorem dX0_isKnot_14 : decode cX0_isKnot 14 = .ok (.getfield 10, 3) := dk_180 0 10 (dk_at dksX0_isKnot_0 14 rfl rfl)
theorem dX0_isKnot_17 : decode cX0_isKnot 17 = .ok (.getfield 115, 3) := dk_180 0 115 (dk_at dksX0_isKnot_0 17 rfl rfl)
theorem dX0_isKnot_20 : decode cX0_isKnot 20 = .ok (.if_icmp .ge 49, 3) := dk_162 0 49 (dk_at dksX0_isKnot_0 20 rfl rfl)
theorem dX0_isKnot_23 : decode cX0_isKnot 23 = .ok (.iload_n 2, 1) := dk_28 (dk_at dksX0_isKnot_0 23 rfl rfl)
theorem dX0_isKnot_24 : decode cX0_isKnot 24 = .ok (.ifCond .eq 45, 3) := dk_153 0 45 (dk_at dksX0_isKnot_1 0 rfl rfl)
theorem dX0_isKnot_27 : decode cX0_isKnot 27 = .ok (.iload_n 1, 1) := dk_27 (dk_at dksX0_isKnot_1 3 rfl rfl)
theorem dX0_isKnot_28 : decode cX0_isKnot 28 = .ok (.iload_n 3, 1) := dk_29 (dk_at dksX0_isKnot_1 4 rfl rfl)
theorem dX0_isKnot_29 : decode cX0_isKnot 29 = .ok (.invokestatic 256, 3) := dk_184 1 0 (dk_at dksX0_isKnot_1 5 rfl rfl)
theorem dX0_isKnot_32 : decode cX0_isKnot 32 = .ok (.ifCond .eq 25, 3) := dk_153 0 25 (dk_at dksX0_isKnot_1 8 rfl rfl)
theorem dX0_isKnot_35 : decode cX0_isKnot 35 = .ok (.iload_n 1, 1) := dk_27 (dk_at dksX0_isKnot_1 11 rfl rfl)
theorem dX0_isKnot_36 : decode cX0_isKnot 36 = .ok (.iconst 1, 1) := dk_4 (dk_at dksX0_isKnot_1 12 rfl rfl)
theorem dX0_isKnot_37 : decode cX0_isKnot 37 = .ok (.iload_n 3, 1) := dk_29 (dk_at dksX0_isKnot_1 13 rfl rfl)
theorem dX0_isKnot_38 : decode cX0_isKnot 38 = .ok (.ishl, 1) := dk_120 (dk_at dksX0_isKnot_1 14 rfl rfl)
theorem dX0_isKnot_39 : decode cX0_isKnot 39 = .ok (.iconst (-1), 1) := dk_2 (dk_at dksX0_isKnot_1 15 rfl rfl)
theorem dX0_isKnot_40 : decode cX0_isKnot 40 = .ok (.ixor, 1) := dk_130 (dk_at dksX0_isKnot_1 16 rfl rfl)
theorem dX0_isKnot_41 : decode cX0_isKnot 41 = .ok (.iand, 1) := dk_126 (dk_at dksX0_isKnot_1 17 rfl rfl)
theorem dX0_isKnot_42 : decode cX0_isKnot 42 = .ok (.aload_n 0, 1) := dk_42 (dk_at dksX0_isKnot_1 18 rfl rfl)
theorem dX0_isKnot_43 : decode cX0_isKnot 43 = .ok (.getfield 10, 3) := dk_180 0 10 (dk_at dksX0_isKnot_1 19 rfl rfl)
theorem dX0_isKnot_46 : decode cX0_isKnot 46 = .ok (.getfield 152, 3) := dk_180 0 152 (dk_at dksX0_isKnot_2 0 rfl rfl)
theorem dX0_isKnot_49 : decode cX0_isKnot 49 = .ok (.iload_n 3, 1) := dk_29 (dk_at dksX0_isKnot_2 3 rfl rfl)
theorem dX0_isKnot_50 : decode cX0_isKnot 50 = .ok (.iaload, 1) := dk_46 (dk_at dksX0_isKnot_2 4 rfl rfl)
theorem dX0_isKnot_51 : decode cX0_isKnot 51 = .ok (.iconst (-1), 1) := dk_2 (dk_at dksX0_isKnot_2 5 rfl rfl)
theorem dX0_isKnot_52 : decode cX0_isKnot 52 = .ok (.ixor, 1) := dk_130 (dk_at dksX0_isKnot_2 6 rfl rfl)
theorem dX0_isKnot_53 : decode cX0_isKnot 53 = .ok (.iand, 1) := dk_126 (dk_at dksX0_isKnot_2 7 rfl rfl)
theorem dX0_isKnot_54 : decode cX0_isKnot 54 = .ok (.ifCond .ne 7, 3) := dk_154 0 7 (dk_at dksX0_isKnot_2 8 rfl rfl)
theorem dX0_isKnot_57 : decode cX0_isKnot 57 = .ok (.iconst 1, 1) := dk_4 (dk_at dksX0_isKnot_2 11 rfl rfl)
theorem dX0_isKnot_58 : decode cX0_isKnot 58 = .ok (.goto 4, 3) := dk_167 0 4 (dk_at dksX0_isKnot_2 12 rfl rfl)
theorem dX0_isKnot_61 : decode cX0_isKnot 61 = .ok (.iconst 0, 1) := dk_3 (dk_at dksX0_isKnot_2 15 rfl rfl)
theorem dX0_isKnot_62 : decode cX0_isKnot 62 = .ok (.istore_n 2, 1) := dk_61 (dk_at dksX0_isKnot_2 16 rfl rfl)
theorem dX0_isKnot_63 : decode cX0_isKnot 63 = .ok (.iinc 3 1, 3) := dk_132 3 1 (dk_at dksX0_isKnot_2 17 rfl rfl)
theorem dX0_isKnot_66 : decode cX0_isKnot 66 = .ok (.goto (-54), 3) := dk_167 255 202 (dk_at dksX0_isKnot_2 20 rfl rfl)
theorem dX0_isKnot_69 : decode cX0_isKnot 69 = .ok (.iload_n 2, 1) := dk_28 (dk_at dksX0_isKnot_2 23 rfl rfl)
theorem dX0_isKnot_70 : decode cX0_isKnot 70 = .ok (.ireturn, 1) := dk_172 (dk_at dksX0_isKnot_3 0 rfl rfl)
abbrev cX0_search : ByteArray := prog_1_method_66_code
def yX0_search : MethodName := ⟨RX0, "search", "(II)I"⟩
def dkwX0_search_4 : List UInt8 := [42, 182, 1, 202, 172]
abbrev dktX0_search_4 : List UInt8 := dkwX0_search_4 ++ []
def dkwX0_search_3 : List UInt8 := [29, 2, 160, 0, 7, 3, 167, 0, 4, 4, 172, 42, 180, 1, 163, 172, 29, 172, 42, 29, 182, 1, 199, 172]
abbrev dktX0_search_3 : List UInt8 := dkwX0_search_3 ++ dktX0_search_4
def dkwX0_search_2 : List UInt8 := [170, 0, 0, 0, 0, 0, 55, 0, 0, 0, 0, 0, 0, 0, 3, 0, 0, 0, 31, 0, 0, 0, 42, 0, 0, 0, 47, 0, 0, 0, 49]
abbrev dktX0_search_2 : List UInt8 := dkwX0_search_2 ++ dktX0_search_3
def dkwX0_search_1 : List UInt8 := [182, 1, 196, 62, 28]
abbrev dktX0_search_1 : List UInt8 := dkwX0_search_1 ++ dktX0_search_2
def dkwX0_search_0 : List UInt8 := [27, 3, 16, 12, 184, 0, 111, 153, 0, 12, 28, 3, 7, 184, 0, 111, 154, 0, 6, 16, 254, 172, 42, 27]
abbrev dktX0_search_0 : List UInt8 := dkwX0_search_0 ++ dktX0_search_1
theorem dksX0_search_0 : cX0_search.data.toList.drop 0 = dktX0_search_0 := by decide +kernel
theorem dksX0_search_1 : cX0_search.data.toList.drop 24 = dktX0_search_1 := dk_seg dksX0_search_0 24 rfl rfl
theorem dksX0_search_2 : cX0_search.data.toList.drop 29 = dktX0_search_2 := dk_seg dksX0_search_1 5 rfl rfl
theorem dksX0_search_3 : cX0_search.data.toList.drop 60 = dktX0_search_3 := dk_seg dksX0_search_2 31 rfl rfl
theorem dksX0_search_4 : cX0_search.data.toList.drop 84 = dktX0_search_4 := dk_seg dksX0_search_3 24 rfl rfl
theorem dX0_search_0 : decode cX0_search 0 = .ok (.iload_n 1, 1) := dk_27 (dk_at dksX0_search_0 0 rfl rfl)
theorem dX0_search_1 : decode cX0_search 1 = .ok (.iconst 0, 1) := dk_3 (dk_at dksX0_search_0 1 rfl rfl)
theorem dX0_search_2 : decode cX0_search 2 = .ok (.bipush 12, 2) := dk_16 12 (dk_at dksX0_search_0 2 rfl rfl)
theorem dX0_search_4 : decode cX0_search 4 = .ok (.invokestatic 111, 3) := dk_184 0 111 (dk_at dksX0_search_0 4 rfl rfl)
theorem dX0_search_7 : decode cX0_search 7 = .ok (.ifCond .eq 12, 3) := dk_153 0 12 (dk_at dksX0_search_0 7 rfl rfl)
theorem dX0_search_10 : decode cX0_search 10 = .ok (.iload_n 2, 1) := dk_28 (dk_at dksX0_search_0 10 rfl rfl)
theorem dX0_search_11 : decode cX0_search 11 = .ok (.iconst 0, 1) := dk_3 (dk_at dksX0_search_0 11 rfl rfl)
theorem dX0_search_12 : decode cX0_search 12 = .ok (.iconst 4, 1) := dk_7 (dk_at dksX0_search_0 12 rfl rfl)
theorem dX0_search_13 : decode cX0_search 13 = .ok (.invokestatic 111, 3) := dk_184 0 111 (dk_at dksX0_search_0 13 rfl rfl)
theorem dX0_search_16 : decode cX0_search 16 = .ok (.ifCond .ne 6, 3) := dk_154 0 6 (dk_at dksX0_search_0 16 rfl rfl)
theorem dX0_search_19 : decode cX0_search 19 = .ok (.bipush (-2), 2) := dk_16 254 (dk_at dksX0_search_0 19 rfl rfl)
theorem dX0_search_21 : decode cX0_search 21 = .ok (.ireturn, 1) := dk_172 (dk_at dksX0_search_0 21 rfl rfl)
theorem dX0_search_22 : decode cX0_search 22 = .ok (.aload_n 0, 1) := dk_42 (dk_at dksX0_search_0 22 rfl rfl)
theorem dX0_search_23 : decode cX0_search 23 = .ok (.iload_n 1, 1) := dk_27 (dk_at dksX0_search_0 23 rfl rfl)
theorem dX0_search_24 : decode cX0_search 24 = .ok (.invokevirtual 452, 3) := dk_182 1 196 (dk_at dksX0_search_1 0 rfl rfl)
theorem dX0_search_27 : decode cX0_search 27 = .ok (.istore_n 3, 1) := dk_62 (dk_at dksX0_search_1 3 rfl rfl)
theorem dX0_search_28 : decode cX0_search 28 = .ok (.iload_n 2, 1) := dk_28 (dk_at dksX0_search_1 4 rfl rfl)
theorem dX0_search_29 : decode cX0_search 29 = .ok (.tableswitch 55 0 3 #[31, 42, 47, 49], 31) := by decide +kernel
theorem dX0_search_60 : decode cX0_search 60 = .ok (.iload_n 3, 1) := dk_29 (dk_at dksX0_search_3 0 rfl rfl)
theorem dX0_search_61 : decode cX0_search 61 = .ok (.iconst (-1), 1) := dk_2 (dk_at dksX0_search_3 1 rfl rfl)
theorem dX0_search_62 : decode cX0_search 62 = .ok (.if_icmp .ne 7, 3) := dk_160 0 7 (dk_at dksX0_search_3 2 rfl rfl)
theorem dX0_search_65 : decode cX0_search 65 = .ok (.iconst 0, 1) := dk_3 (dk_at dksX0_search_3 5 rfl rfl)
theorem dX0_search_66 : decode cX0_search 66 = .ok (.goto 4, 3) := dk_167 0 4 (dk_at dksX0_search_3 6 rfl rfl)
theorem dX0_search_69 : decode cX0_search 69 = .ok (.iconst 1, 1) := dk_4 (dk_at dksX0_search_3 9 rfl rfl)
theorem dX0_search_70 : decode cX0_search 70 = .ok (.ireturn, 1) := dk_172 (dk_at dksX0_search_3 10 rfl rfl)
theorem dX0_search_71 : decode cX0_search 71 = .ok (.aload_n 0, 1) := dk_42 (dk_at dksX0_search_3 11 rfl rfl)
theorem dX0_search_72 : decode cX0_search 72 = .ok (.getfield 419, 3) := dk_180 1 163 (dk_at dksX0_search_3 12 rfl rfl)
theorem dX0_search_75 : decode cX0_search 75 = .ok (.ireturn, 1) := dk_172 (dk_at dksX0_search_3 15 rfl rfl)
theorem dX0_search_76 : decode cX0_search 76 = .ok (.iload_n 3, 1) := dk_29 (dk_at dksX0_search_3 16 rfl rfl)
theorem dX0_search_77 : decode cX0_search 77 = .ok (.ireturn, 1) := dk_172 (dk_at dksX0_search_3 17 rfl rfl)
theorem dX0_search_78 : decode cX0_search 78 = .ok (.aload_n 0, 1) := dk_42 (dk_at dksX0_search_3 18 rfl rfl)
theorem dX0_search_79 : decode cX0_search 79 = .ok (.iload_n 3, 1) := dk_29 (dk_at dksX0_search_3 19 rfl rfl)
theorem dX0_search_80 : decode cX0_search 80 = .ok (.invokevirtual 455, 3) := dk_182 1 199 (dk_at dksX0_search_3 20 rfl rfl)
theorem dX0_search_83 : decode cX0_search 83 = .ok (.ireturn, 1) := dk_172 (dk_at dksX0_search_3 23 rfl rfl)
theorem dX0_search_84 : decode cX0_search 84 = .ok (.aload_n 0, 1) := dk_42 (dk_at dksX0_search_4 0 rfl rfl)
theorem dX0_search_85 : decode cX0_search 85 = .ok (.invokevirtual 458, 3) := dk_182 1 202 (dk_at dksX0_search_4 1 rfl rfl)
theorem dX0_search_88 : decode cX0_search 88 = .ok (.ireturn, 1) := dk_172 (dk_at dksX0_search_4 4 rfl rfl)
abbrev cX0_searched : ByteArray := prog_1_method_63_code
def yX0_searched : MethodName := ⟨RX0, "searched", "(I)I"⟩
def dkwX0_searched_0 : List UInt8 := [42, 3, 181, 1, 163, 42, 27, 182, 1, 187, 42, 3, 182, 1, 180, 2, 172, 77, 44, 180, 1, 190, 172]
abbrev dktX0_searched_0 : List UInt8 := dkwX0_searched_0 ++ []
theorem dksX0_searched_0 : cX0_searched.data.toList.drop 0 = dktX0_searched_0 := by decide +kernel
theorem dX0_searched_0 : decode cX0_searched 0 = .ok (.aload_n 0, 1) := dk_42 (dk_at dksX0_searched_0 0 rfl rfl)
theorem dX0_searched_1 : decode cX0_searched 1 = .ok (.iconst 0, 1) := dk_3 (dk_at dksX0_searched_0 1 rfl rfl)
theorem dX0_searched_2 : decode cX0_searched 2 = .ok (.putfield 419, 3) := dk_181 1 163 (dk_at dksX0_searched_0 2 rfl rfl)
theorem dX0_searched_5 : decode cX0_searched 5 = .ok (.aload_n 0, 1) := dk_42 (dk_at dksX0_searched_0 5 rfl rfl)
theorem dX0_searched_6 : decode cX0_searched 6 = .ok (.iload_n 1, 1) := dk_27 (dk_at dksX0_searched_0 6 rfl rfl)
theorem dX0_searched_7 : decode cX0_searched 7 = .ok (.invokevirtual 443, 3) := dk_182 1 187 (dk_at dksX0_searched_0 7 rfl rfl)
theorem dX0_searched_10 : decode cX0_searched 10 = .ok (.aload_n 0, 1) := dk_42 (dk_at dksX0_searched_0 10 rfl rfl)
theorem dX0_searched_11 : decode cX0_searched 11 = .ok (.iconst 0, 1) := dk_3 (dk_at dksX0_searched_0 11 rfl rfl)
theorem dX0_searched_12 : decode cX0_searched 12 = .ok (.invokevirtual 436, 3) := dk_182 1 180 (dk_at dksX0_searched_0 12 rfl rfl)
theorem dX0_searched_15 : decode cX0_searched 15 = .ok (.iconst (-1), 1) := dk_2 (dk_at dksX0_searched_0 15 rfl rfl)
theorem dX0_searched_16 : decode cX0_searched 16 = .ok (.ireturn, 1) := dk_172 (dk_at dksX0_searched_0 16 rfl rfl)
theorem dX0_searched_17 : decode cX0_searched 17 = .ok (.astore_n 2, 1) := dk_77 (dk_at dksX0_searched_0 17 rfl rfl)
theorem dX0_searched_18 : decode cX0_searched 18 = .ok (.aload_n 2, 1) := dk_44 (dk_at dksX0_searched_0 18 rfl rfl)
theorem dX0_searched_19 : decode cX0_searched 19 = .ok (.getfield 446, 3) := dk_180 1 190 (dk_at dksX0_searched_0 19 rfl rfl)
theorem dX0_searched_22 : decode cX0_searched 22 = .ok (.ireturn, 1) := dk_172 (dk_at dksX0_searched_0 22 rfl rfl)
abbrev cX0_begins : ByteArray := prog_1_method_60_code
def yX0_begins : MethodName := ⟨RX0, "begins", "(I)V"⟩
def dkwX0_begins_0 : List UInt8 := [42, 42, 180, 0, 10, 182, 0, 177, 181, 1, 149, 42, 3, 181, 1, 152, 42, 27, 181, 1, 153, 177]
abbrev dktX0_begins_0 : List UInt8 := dkwX0_begins_0 ++ []
theorem dksX0_begins_0 : cX0_begins.data.toList.drop 0 = dktX0_begins_0 := by decide +kernel
theorem dX0_begins_0 : decode cX0_begins 0 = .ok (.aload_n 0, 1) := dk_42 (dk_at dksX0_begins_0 0 rfl rfl)
theorem dX0_begins_1 : decode cX0_begins 1 = .ok (.aload_n 0, 1) := dk_42 (dk_at dksX0_begins_0 1 rfl rfl)
theorem dX0_begins_2 : decode cX0_begins 2 = .ok (.getfield 10, 3) := dk_180 0 10 (dk_at dksX0_begins_0 2 rfl rfl)
theorem dX0_begins_5 : decode cX0_begins 5 = .ok (.invokevirtual 177, 3) := dk_182 0 177 (dk_at dksX0_begins_0 5 rfl rfl)
theorem dX0_begins_8 : decode cX0_begins 8 = .ok (.putfield 405, 3) := dk_181 1 149 (dk_at dksX0_begins_0 8 rfl rfl)
theorem dX0_begins_11 : decode cX0_begins 11 = .ok (.aload_n 0, 1) := dk_42 (dk_at dksX0_begins_0 11 rfl rfl)
theorem dX0_begins_12 : decode cX0_begins 12 = .ok (.iconst 0, 1) := dk_3 (dk_at dksX0_begins_0 12 rfl rfl)
theorem dX0_begins_13 : decode cX0_begins 13 = .ok (.putfield 408, 3) := dk_181 1 152 (dk_at dksX0_begins_0 13 rfl rfl)
theorem dX0_begins_16 : decode cX0_begins 16 = .ok (.aload_n 0, 1) := dk_42 (dk_at dksX0_begins_0 16 rfl rfl)
theorem dX0_begins_17 : decode cX0_begins 17 = .ok (.iload_n 1, 1) := dk_27 (dk_at dksX0_begins_0 17 rfl rfl)
theorem dX0_begins_18 : decode cX0_begins 18 = .ok (.putfield 409, 3) := dk_181 1 153 (dk_at dksX0_begins_0 18 rfl rfl)
theorem dX0_begins_21 : decode cX0_begins 21 = .ok (.return_, 1) := dk_177 (dk_at dksX0_begins_0 21 rfl rfl)
abbrev cX0_searches : ByteArray := prog_1_method_62_code
def yX0_searches : MethodName := ⟨RX0, "searches", "(I)V"⟩
def dkwX0_searches_6 : List UInt8 := [58, 6, 25, 4, 185, 1, 183, 1, 0, 25, 6, 191, 132, 5, 1, 167, 255, 199, 177]
abbrev dktX0_searches_6 : List UInt8 := dkwX0_searches_6 ++ []
def dkwX0_searches_5 : List UInt8 := [167, 0, 4, 3, 182, 1, 176, 42, 27, 4, 96, 182, 1, 180, 25, 4, 185, 1, 183, 1, 0, 167, 0, 15]
abbrev dktX0_searches_5 : List UInt8 := dkwX0_searches_5 ++ dktX0_searches_6
def dkwX0_searches_4 : List UInt8 := [58, 4, 27, 54, 5, 21, 5, 27, 5, 96, 162, 0, 55, 42, 29, 21, 5, 5, 112, 154, 0, 7, 4]
abbrev dktX0_searches_4 : List UInt8 := dkwX0_searches_4 ++ dktX0_searches_5
def dkwX0_searches_3 : List UInt8 := [160, 0, 15, 187, 1, 166, 89, 42, 180, 1, 152, 183, 1, 168, 191, 44, 29, 181, 1, 169, 42, 182, 1, 172]
abbrev dktX0_searches_3 : List UInt8 := dkwX0_searches_3 ++ dktX0_searches_4
def dkwX0_searches_2 : List UInt8 := [182, 1, 51, 5, 42, 180, 1, 153, 104, 164, 0, 4, 177, 42, 42, 180, 1, 149, 182, 1, 143, 62, 29, 2]
abbrev dktX0_searches_2 : List UInt8 := dkwX0_searches_2 ++ dktX0_searches_3
def dkwX0_searches_1 : List UInt8 := [180, 0, 55, 42, 180, 1, 163, 44, 83, 42, 89, 180, 1, 163, 4, 96, 181, 1, 163, 42, 42, 180, 1, 149]
abbrev dktX0_searches_1 : List UInt8 := dkwX0_searches_1 ++ dktX0_searches_2
def dkwX0_searches_0 : List UInt8 := [187, 0, 53, 89, 42, 180, 1, 149, 42, 180, 1, 152, 42, 180, 1, 153, 27, 183, 1, 160, 77, 42]
abbrev dktX0_searches_0 : List UInt8 := dkwX0_searches_0 ++ dktX0_searches_1
theorem dksX0_searches_0 : cX0_searches.data.toList.drop 0 = dktX0_searches_0 := by decide +kernel
theorem dksX0_searches_1 : cX0_searches.data.toList.drop 22 = dktX0_searches_1 := dk_seg dksX0_searches_0 22 rfl rfl
theorem dksX0_searches_2 : cX0_searches.data.toList.drop 46 = dktX0_searches_2 := dk_seg dksX0_searches_1 24 rfl rfl
theorem dksX0_searches_3 : cX0_searches.data.toList.drop 70 = dktX0_searches_3 := dk_seg dksX0_searches_2 24 rfl rfl
theorem dksX0_searches_4 : cX0_searches.data.toList.drop 94 = dktX0_searches_4 := dk_seg dksX0_searches_3 24 rfl rfl
theorem dksX0_searches_5 : cX0_searches.data.toList.drop 117 = dktX0_searches_5 := dk_seg dksX0_searches_4 23 rfl rfl
theorem dksX0_searches_6 : cX0_searches.data.toList.drop 141 = dktX0_searches_6 := dk_seg dksX0_searches_5 24 rfl rfl
theorem dX0_searches_0 : decode cX0_searches 0 = .ok (.new 53, 3) := dk_187 0 53 (dk_at dksX0_searches_0 0 rfl rfl)
theorem dX0_searches_3 : decode cX0_searches 3 = .ok (.dup, 1) := dk_89 (dk_at dksX0_searches_0 3 rfl rfl)
theorem dX0_searches_4 : decode cX0_searches 4 = .ok (.aload_n 0, 1) := dk_42 (dk_at dksX0_searches_0 4 rfl rfl)
theorem dX0_searches_5 : decode cX0_searches 5 = .ok (.getfield 405, 3) := dk_180 1 149 (dk_at dksX0_searches_0 5 rfl rfl)
theorem dX0_searches_8 : decode cX0_searches 8 = .ok (.aload_n 0, 1) := dk_42 (dk_at dksX0_searches_0 8 rfl rfl)
theorem dX0_searches_9 : decode cX0_searches 9 = .ok (.getfield 408, 3) := dk_180 1 152 (dk_at dksX0_searches_0 9 rfl rfl)
theorem dX0_searches_12 : decode cX0_searches 12 = .ok (.aload_n 0, 1) := dk_42 (dk_at dksX0_searches_0 12 rfl rfl)
theorem dX0_searches_13 : decode cX0_searches 13 = .ok (.getfield 409, 3) := dk_180 1 153 (dk_at dksX0_searches_0 13 rfl rfl)
theorem dX0_searches_16 : decode cX0_searches 16 = .ok (.iload_n 1, 1) := dk_27 (dk_at dksX0_searches_0 16 rfl rfl)
theorem dX0_searches_17 : decode cX0_searches 17 = .ok (.invokespecial 416, 3) := dk_183 1 160 (dk_at dksX0_searches_0 17 rfl rfl)
theorem dX0_searches_20 : decode cX0_searches 20 = .ok (.astore_n 2, 1) := dk_77 (dk_at dksX0_searches_0 20 rfl rfl)
theorem dX0_searches_21 : decode cX0_searches 21 = .ok (.aload_n 0, 1) := dk_42 (dk_at dksX0_searches_0 21 rfl rfl)
theorem dX0_searches_22 : decode cX0_searches 22 = .ok (.getfield 55, 3) := dk_180 0 55 (dk_at dksX0_searches_1 0 rfl rfl)
theorem dX0_searches_25 : decode cX0_searches 25 = .ok (.aload_n 0, 1) := dk_42 (dk_at dksX0_searches_1 3 rfl rfl)
theorem dX0_searches_26 : decode cX0_searches 26 = .ok (.getfield 419, 3) := dk_180 1 163 (dk_at dksX0_searches_1 4 rfl rfl)
theorem dX0_searches_29 : decode cX0_searches 29 = .ok (.aload_n 2, 1) := dk_44 (dk_at dksX0_searches_1 7 rfl rfl)
theorem dX0_searches_30 : decode cX0_searches 30 = .ok (.aastore, 1) := dk_83 (dk_at dksX0_searches_1 8 rfl rfl)
theorem dX0_searches_31 : decode cX0_searches 31 = .ok (.aload_n 0, 1) := dk_42 (dk_at dksX0_searches_1 9 rfl rfl)
theorem dX0_searches_32 : decode cX0_searches 32 = .ok (.dup, 1) := dk_89 (dk_at dksX0_searches_1 10 rfl rfl)
theorem dX0_searches_33 : decode cX0_searches 33 = .ok (.getfield 419, 3) := dk_180 1 163 (dk_at dksX0_searches_1 11 rfl rfl)
theorem dX0_searches_36 : decode cX0_searches 36 = .ok (.iconst 1, 1) := dk_4 (dk_at dksX0_searches_1 14 rfl rfl)
theorem dX0_searches_37 : decode cX0_searches 37 = .ok (.iadd, 1) := dk_96 (dk_at dksX0_searches_1 15 rfl rfl)
theorem dX0_searches_38 : decode cX0_searches 38 = .ok (.putfield 419, 3) := dk_181 1 163 (dk_at dksX0_searches_1 16 rfl rfl)
theorem dX0_searches_41 : decode cX0_searches 41 = .ok (.aload_n 0, 1) := dk_42 (dk_at dksX0_searches_1 19 rfl rfl)
theorem dX0_searches_42 : decode cX0_searches 42 = .ok (.aload_n 0, 1) := dk_42 (dk_at dksX0_searches_1 20 rfl rfl)
theorem dX0_searches_43 : decode cX0_searches 43 = .ok (.getfield 405, 3) := dk_180 1 149 (dk_at dksX0_searches_1 21 rfl rfl)
theorem dX0_searches_46 : decode cX0_searches 46 = .ok (.invokevirtual 307, 3) := dk_182 1 51 (dk_at dksX0_searches_2 0 rfl rfl)
theorem dX0_searches_49 : decode cX0_searches 49 = .ok (.iconst 2, 1) := dk_5 (dk_at dksX0_searches_2 3 rfl rfl)
theorem dX0_searches_50 : decode cX0_searches 50 = .ok (.aload_n 0, 1) := dk_42 (dk_at dksX0_searches_2 4 rfl rfl)
theorem dX0_searches_51 : decode cX0_searches 51 = .ok (.getfield 409, 3) := dk_180 1 153 (dk_at dksX0_searches_2 5 rfl rfl)
theorem dX0_searches_54 : decode cX0_searches 54 = .ok (.imul, 1) := dk_104 (dk_at dksX0_searches_2 8 rfl rfl)
theorem dX0_searches_55 : decode cX0_searches 55 = .ok (.if_icmp .le 4, 3) := dk_164 0 4 (dk_at dksX0_searches_2 9 rfl rfl)
theorem dX0_searches_58 : decode cX0_searches 58 = .ok (.return_, 1) := dk_177 (dk_at dksX0_searches_2 12 rfl rfl)
theorem dX0_searches_59 : decode cX0_searches 59 = .ok (.aload_n 0, 1) := dk_42 (dk_at dksX0_searches_2 13 rfl rfl)
theorem dX0_searches_60 : decode cX0_searches 60 = .ok (.aload_n 0, 1) := dk_42 (dk_at dksX0_searches_2 14 rfl rfl)
theorem dX0_searches_61 : decode cX0_searches 61 = .ok (.getfield 405, 3) := dk_180 1 149 (dk_at dksX0_searches_2 15 rfl rfl)
theorem dX0_searches_64 : decode cX0_searches 64 = .ok (.invokevirtual 399, 3) := dk_182 1 143 (dk_at dksX0_searches_2 18 rfl rfl)
theorem dX0_searches_67 : decode cX0_searches 67 = .ok (.istore_n 3, 1) := dk_62 (dk_at dksX0_searches_2 21 rfl rfl)
theorem dX0_searches_68 : decode cX0_searches 68 = .ok (.iload_n 3, 1) := dk_29 (dk_at dksX0_searches_2 22 rfl rfl)
theorem dX0_searches_69 : decode cX0_searches 69 = .ok (.iconst (-1), 1) := dk_2 (dk_at dksX0_searches_2 23 rfl rfl)
theorem dX0_searches_70 : decode cX0_searches 70 = .ok (.if_icmp .ne 15, 3) := dk_160 0 15 (dk_at dksX0_searches_3 0 rfl rfl)
theorem dX0_searches_73 : decode cX0_searches 73 = .ok (.new 422, 3) := dk_187 1 166 (dk_at dksX0_searches_3 3 rfl rfl)
theorem dX0_searches_76 : decode cX0_searches 76 = .ok (.dup, 1) := dk_89 (dk_at dksX0_searches_3 6 rfl rfl)
theorem dX0_searches_77 : decode cX0_searches 77 = .ok (.aload_n 0, 1) := dk_42 (dk_at dksX0_searches_3 7 rfl rfl)
theorem dX0_searches_78 : decode cX0_searches 78 = .ok (.getfield 408, 3) := dk_180 1 152 (dk_at dksX0_searches_3 8 rfl rfl)
theorem dX0_searches_81 : decode cX0_searches 81 = .ok (.invokespecial 424, 3) := dk_183 1 168 (dk_at dksX0_searches_3 11 rfl rfl)
theorem dX0_searches_84 : decode cX0_searches 84 = .ok (.athrow, 1) := dk_191 (dk_at dksX0_searches_3 14 rfl rfl)
theorem dX0_searches_85 : decode cX0_searches 85 = .ok (.aload_n 2, 1) := dk_44 (dk_at dksX0_searches_3 15 rfl rfl)
theorem dX0_searches_86 : decode cX0_searches 86 = .ok (.iload_n 3, 1) := dk_29 (dk_at dksX0_searches_3 16 rfl rfl)
theorem dX0_searches_87 : decode cX0_searches 87 = .ok (.putfield 425, 3) := dk_181 1 169 (dk_at dksX0_searches_3 17 rfl rfl)
theorem dX0_searches_90 : decode cX0_searches 90 = .ok (.aload_n 0, 1) := dk_42 (dk_at dksX0_searches_3 20 rfl rfl)
theorem dX0_searches_91 : decode cX0_searches 91 = .ok (.invokevirtual 428, 3) := dk_182 1 172 (dk_at dksX0_searches_3 21 rfl rfl)
theorem dX0_searches_94 : decode cX0_searches 94 = .ok (.astore 4, 2) := dk_58 4 (dk_at dksX0_searches_4 0 rfl rfl)
theorem dX0_searches_96 : decode cX0_searches 96 = .ok (.iload_n 1, 1) := dk_27 (dk_at dksX0_searches_4 2 rfl rfl)
theorem dX0_searches_97 : decode cX0_searches 97 = .ok (.istore 5, 2) := dk_54 5 (dk_at dksX0_searches_4 3 rfl rfl)
theorem dX0_searches_99 : decode cX0_searches 99 = .ok (.iload 5, 2) := dk_21 5 (dk_at dksX0_searches_4 5 rfl rfl)
theorem dX0_searches_101 : decode cX0_searches 101 = .ok (.iload_n 1, 1) := dk_27 (dk_at dksX0_searches_4 7 rfl rfl)
theorem dX0_searches_102 : decode cX0_searches 102 = .ok (.iconst 2, 1) := dk_5 (dk_at dksX0_searches_4 8 rfl rfl)
theorem dX0_searches_103 : decode cX0_searches 103 = .ok (.iadd, 1) := dk_96 (dk_at dksX0_searches_4 9 rfl rfl)
theorem dX0_searches_104 : decode cX0_searches 104 = .ok (.if_icmp .ge 55, 3) := dk_162 0 55 (dk_at dksX0_searches_4 10 rfl rfl)
theorem dX0_searches_107 : decode cX0_searches 107 = .ok (.aload_n 0, 1) := dk_42 (dk_at dksX0_searches_4 13 rfl rfl)
theorem dX0_searches_108 : decode cX0_searches 108 = .ok (.iload_n 3, 1) := dk_29 (dk_at dksX0_searches_4 14 rfl rfl)
theorem dX0_searches_109 : decode cX0_searches 109 = .ok (.iload 5, 2) := dk_21 5 (dk_at dksX0_searches_4 15 rfl rfl)
theorem dX0_searches_111 : decode cX0_searches 111 = .ok (.iconst 2, 1) := dk_5 (dk_at dksX0_searches_4 17 rfl rfl)
theorem dX0_searches_112 : decode cX0_searches 112 = .ok (.irem, 1) := dk_112 (dk_at dksX0_searches_4 18 rfl rfl)
theorem dX0_searches_113 : decode cX0_searches 113 = .ok (.ifCond .ne 7, 3) := dk_154 0 7 (dk_at dksX0_searches_4 19 rfl rfl)
theorem dX0_searches_116 : decode cX0_searches 116 = .ok (.iconst 1, 1) := dk_4 (dk_at dksX0_searches_4 22 rfl rfl)
theorem dX0_searches_117 : decode cX0_searches 117 = .ok (.goto 4, 3) := dk_167 0 4 (dk_at dksX0_searches_5 0 rfl rfl)
theorem dX0_searches_120 : decode cX0_searches 120 = .ok (.iconst 0, 1) := dk_3 (dk_at dksX0_searches_5 3 rfl rfl)
theorem dX0_searches_121 : decode cX0_searches 121 = .ok (.invokevirtual 432, 3) := dk_182 1 176 (dk_at dksX0_searches_5 4 rfl rfl)
theorem dX0_searches_124 : decode cX0_searches 124 = .ok (.aload_n 0, 1) := dk_42 (dk_at dksX0_searches_5 7 rfl rfl)
theorem dX0_searches_125 : decode cX0_searches 125 = .ok (.iload_n 1, 1) := dk_27 (dk_at dksX0_searches_5 8 rfl rfl)
theorem dX0_searches_126 : decode cX0_searches 126 = .ok (.iconst 1, 1) := dk_4 (dk_at dksX0_searches_5 9 rfl rfl)
theorem dX0_searches_127 : decode cX0_searches 127 = .ok (.iadd, 1) := dk_96 (dk_at dksX0_searches_5 10 rfl rfl)
theorem dX0_searches_128 : decode cX0_searches 128 = .ok (.invokevirtual 436, 3) := dk_182 1 180 (dk_at dksX0_searches_5 11 rfl rfl)
theorem dX0_searches_131 : decode cX0_searches 131 = .ok (.aload 4, 2) := dk_25 4 (dk_at dksX0_searches_5 14 rfl rfl)
theorem dX0_searches_133 : decode cX0_searches 133 = .ok (.invokeinterface 439 1, 5) := by decide +kernel
theorem dX0_searches_138 : decode cX0_searches 138 = .ok (.goto 15, 3) := dk_167 0 15 (dk_at dksX0_searches_5 21 rfl rfl)
theorem dX0_searches_141 : decode cX0_searches 141 = .ok (.astore 6, 2) := dk_58 6 (dk_at dksX0_searches_6 0 rfl rfl)
theorem dX0_searches_143 : decode cX0_searches 143 = .ok (.aload 4, 2) := dk_25 4 (dk_at dksX0_searches_6 2 rfl rfl)
theorem dX0_searches_145 : decode cX0_searches 145 = .ok (.invokeinterface 439 1, 5) := by decide +kernel
theorem dX0_searches_150 : decode cX0_searches 150 = .ok (.aload 6, 2) := dk_25 6 (dk_at dksX0_searches_6 9 rfl rfl)
theorem dX0_searches_152 : decode cX0_searches 152 = .ok (.athrow, 1) := dk_191 (dk_at dksX0_searches_6 11 rfl rfl)
theorem dX0_searches_153 : decode cX0_searches 153 = .ok (.iinc 5 1, 3) := dk_132 5 1 (dk_at dksX0_searches_6 12 rfl rfl)
theorem dX0_searches_156 : decode cX0_searches 156 = .ok (.goto (-57), 3) := dk_167 255 199 (dk_at dksX0_searches_6 15 rfl rfl)
theorem dX0_searches_159 : decode cX0_searches 159 = .ok (.return_, 1) := dk_177 (dk_at dksX0_searches_6 18 rfl rfl)
abbrev cX0_caught : ByteArray := prog_1_method_59_code
def yX0_caught : MethodName := ⟨RX0, "caught", "()LLinesTouched$Undo;"⟩
def dkwX0_caught_1 : List UInt8 := [176]
abbrev dktX0_caught_1 : List UInt8 := dkwX0_caught_1 ++ []
def dkwX0_caught_0 : List UInt8 := [42, 180, 1, 149, 60, 42, 180, 1, 152, 61, 42, 180, 1, 153, 62, 42, 27, 28, 29, 186, 1, 156, 0, 0]
abbrev dktX0_caught_0 : List UInt8 := dkwX0_caught_0 ++ dktX0_caught_1
theorem dksX0_caught_0 : cX0_caught.data.toList.drop 0 = dktX0_caught_0 := by decide +kernel
theorem dksX0_caught_1 : cX0_caught.data.toList.drop 24 = dktX0_caught_1 := dk_seg dksX0_caught_0 24 rfl rfl
theorem dX0_caught_0 : decode cX0_caught 0 = .ok (.aload_n 0, 1) := dk_42 (dk_at dksX0_caught_0 0 rfl rfl)
theorem dX0_caught_1 : decode cX0_caught 1 = .ok (.getfield 405, 3) := dk_180 1 149 (dk_at dksX0_caught_0 1 rfl rfl)
theorem dX0_caught_4 : decode cX0_caught 4 = .ok (.istore_n 1, 1) := dk_60 (dk_at dksX0_caught_0 4 rfl rfl)
theorem dX0_caught_5 : decode cX0_caught 5 = .ok (.aload_n 0, 1) := dk_42 (dk_at dksX0_caught_0 5 rfl rfl)
theorem dX0_caught_6 : decode cX0_caught 6 = .ok (.getfield 408, 3) := dk_180 1 152 (dk_at dksX0_caught_0 6 rfl rfl)
theorem dX0_caught_9 : decode cX0_caught 9 = .ok (.istore_n 2, 1) := dk_61 (dk_at dksX0_caught_0 9 rfl rfl)
theorem dX0_caught_10 : decode cX0_caught 10 = .ok (.aload_n 0, 1) := dk_42 (dk_at dksX0_caught_0 10 rfl rfl)
theorem dX0_caught_11 : decode cX0_caught 11 = .ok (.getfield 409, 3) := dk_180 1 153 (dk_at dksX0_caught_0 11 rfl rfl)
theorem dX0_caught_14 : decode cX0_caught 14 = .ok (.istore_n 3, 1) := dk_62 (dk_at dksX0_caught_0 14 rfl rfl)
theorem dX0_caught_15 : decode cX0_caught 15 = .ok (.aload_n 0, 1) := dk_42 (dk_at dksX0_caught_0 15 rfl rfl)
theorem dX0_caught_16 : decode cX0_caught 16 = .ok (.iload_n 1, 1) := dk_27 (dk_at dksX0_caught_0 16 rfl rfl)
theorem dX0_caught_17 : decode cX0_caught 17 = .ok (.iload_n 2, 1) := dk_28 (dk_at dksX0_caught_0 17 rfl rfl)
theorem dX0_caught_18 : decode cX0_caught 18 = .ok (.iload_n 3, 1) := dk_29 (dk_at dksX0_caught_0 18 rfl rfl)
theorem dX0_caught_19 : decode cX0_caught 19 = .ok (.invokedynamic 412, 5) := by decide +kernel
theorem dX0_caught_24 : decode cX0_caught 24 = .ok (.areturn, 1) := dk_176 (dk_at dksX0_caught_1 0 rfl rfl)
abbrev cX0_lambda_caught_4 : ByteArray := prog_1_method_116_code
def yX0_lambda_caught_4 : MethodName := ⟨RX0, "lambda$caught$4", "(III)V"⟩
def dkwX0_lambda_caught_4_0 : List UInt8 := [42, 27, 181, 1, 149, 42, 28, 181, 1, 152, 42, 29, 181, 1, 153, 177]
abbrev dktX0_lambda_caught_4_0 : List UInt8 := dkwX0_lambda_caught_4_0 ++ []
theorem dksX0_lambda_caught_4_0 : cX0_lambda_caught_4.data.toList.drop 0 = dktX0_lambda_caught_4_0 := by decide +kernel
theorem dX0_lambda_caught_4_0 : decode cX0_lambda_caught_4 0 = .ok (.aload_n 0, 1) := dk_42 (dk_at dksX0_lambda_caught_4_0 0 rfl rfl)
theorem dX0_lambda_caught_4_1 : decode cX0_lambda_caught_4 1 = .ok (.iload_n 1, 1) := dk_27 (dk_at dksX0_lambda_caught_4_0 1 rfl rfl)
theorem dX0_lambda_caught_4_2 : decode cX0_lambda_caught_4 2 = .ok (.putfield 405, 3) := dk_181 1 149 (dk_at dksX0_lambda_caught_4_0 2 rfl rfl)
theorem dX0_lambda_caught_4_5 : decode cX0_lambda_caught_4 5 = .ok (.aload_n 0, 1) := dk_42 (dk_at dksX0_lambda_caught_4_0 5 rfl rfl)
theorem dX0_lambda_caught_4_6 : decode cX0_lambda_caught_4 6 = .ok (.iload_n 2, 1) := dk_28 (dk_at dksX0_lambda_caught_4_0 6 rfl rfl)
theorem dX0_lambda_caught_4_7 : decode cX0_lambda_caught_4 7 = .ok (.putfield 408, 3) := dk_181 1 152 (dk_at dksX0_lambda_caught_4_0 7 rfl rfl)
theorem dX0_lambda_caught_4_10 : decode cX0_lambda_caught_4 10 = .ok (.aload_n 0, 1) := dk_42 (dk_at dksX0_lambda_caught_4_0 10 rfl rfl)
theorem dX0_lambda_caught_4_11 : decode cX0_lambda_caught_4 11 = .ok (.iload_n 3, 1) := dk_29 (dk_at dksX0_lambda_caught_4_0 11 rfl rfl)
theorem dX0_lambda_caught_4_12 : decode cX0_lambda_caught_4 12 = .ok (.putfield 409, 3) := dk_181 1 153 (dk_at dksX0_lambda_caught_4_0 12 rfl rfl)
theorem dX0_lambda_caught_4_15 : decode cX0_lambda_caught_4 15 = .ok (.return_, 1) := dk_177 (dk_at dksX0_lambda_caught_4_0 15 rfl rfl)
abbrev cX0_takes : ByteArray := prog_1_method_61_code
def yX0_takes : MethodName := ⟨RX0, "takes", "(IZ)V"⟩
def dkwX0_takes_2 : List UInt8 := [181, 1, 152, 42, 89, 180, 1, 153, 29, 184, 0, 155, 100, 181, 1, 153, 177]
abbrev dktX0_takes_2 : List UInt8 := dkwX0_takes_2 ++ []
def dkwX0_takes_1 : List UInt8 := [62, 42, 89, 180, 1, 149, 29, 4, 27, 120, 128, 2, 130, 126, 181, 1, 149, 42, 89, 180, 1, 152, 29, 128]
abbrev dktX0_takes_1 : List UInt8 := dkwX0_takes_1 ++ dktX0_takes_2
def dkwX0_takes_0 : List UInt8 := [28, 153, 0, 9, 4, 27, 120, 167, 0, 17, 42, 180, 0, 10, 180, 0, 152, 27, 46, 42, 180, 1, 149, 126]
abbrev dktX0_takes_0 : List UInt8 := dkwX0_takes_0 ++ dktX0_takes_1
theorem dksX0_takes_0 : cX0_takes.data.toList.drop 0 = dktX0_takes_0 := by decide +kernel
theorem dksX0_takes_1 : cX0_takes.data.toList.drop 24 = dktX0_takes_1 := dk_seg dksX0_takes_0 24 rfl rfl
theorem dksX0_takes_2 : cX0_takes.data.toList.drop 48 = dktX0_takes_2 := dk_seg dksX0_takes_1 24 rfl rfl
theorem dX0_takes_0 : decode cX0_takes 0 = .ok (.iload_n 2, 1) := dk_28 (dk_at dksX0_takes_0 0 rfl rfl)
theorem dX0_takes_1 : decode cX0_takes 1 = .ok (.ifCond .eq 9, 3) := dk_153 0 9 (dk_at dksX0_takes_0 1 rfl rfl)
theorem dX0_takes_4 : decode cX0_takes 4 = .ok (.iconst 1, 1) := dk_4 (dk_at dksX0_takes_0 4 rfl rfl)
theorem dX0_takes_5 : decode cX0_takes 5 = .ok (.iload_n 1, 1) := dk_27 (dk_at dksX0_takes_0 5 rfl rfl)
theorem dX0_takes_6 : decode cX0_takes 6 = .ok (.ishl, 1) := dk_120 (dk_at dksX0_takes_0 6 rfl rfl)
theorem dX0_takes_7 : decode cX0_takes 7 = .ok (.goto 17, 3) := dk_167 0 17 (dk_at dksX0_takes_0 7 rfl rfl)
theorem dX0_takes_10 : decode cX0_takes 10 = .ok (.aload_n 0, 1) := dk_42 (dk_at dksX0_takes_0 10 rfl rfl)
theorem dX0_takes_11 : decode cX0_takes 11 = .ok (.getfield 10, 3) := dk_180 0 10 (dk_at dksX0_takes_0 11 rfl rfl)
theorem dX0_takes_14 : decode cX0_takes 14 = .ok (.getfield 152, 3) := dk_180 0 152 (dk_at dksX0_takes_0 14 rfl rfl)
theorem dX0_takes_17 : decode cX0_takes 17 = .ok (.iload_n 1, 1) := dk_27 (dk_at dksX0_takes_0 17 rfl rfl)
theorem dX0_takes_18 : decode cX0_takes 18 = .ok (.iaload, 1) := dk_46 (dk_at dksX0_takes_0 18 rfl rfl)
theorem dX0_takes_19 : decode cX0_takes 19 = .ok (.aload_n 0, 1) := dk_42 (dk_at dksX0_takes_0 19 rfl rfl)
theorem dX0_takes_20 : decode cX0_takes 20 = .ok (.getfield 405, 3) := dk_180 1 149 (dk_at dksX0_takes_0 20 rfl rfl)
theorem dX0_takes_23 : decode cX0_takes 23 = .ok (.iand, 1) := dk_126 (dk_at dksX0_takes_0 23 rfl rfl)
theorem dX0_takes_24 : decode cX0_takes 24 = .ok (.istore_n 3, 1) := dk_62 (dk_at dksX0_takes_1 0 rfl rfl)
theorem dX0_takes_25 : decode cX0_takes 25 = .ok (.aload_n 0, 1) := dk_42 (dk_at dksX0_takes_1 1 rfl rfl)
theorem dX0_takes_26 : decode cX0_takes 26 = .ok (.dup, 1) := dk_89 (dk_at dksX0_takes_1 2 rfl rfl)
theorem dX0_takes_27 : decode cX0_takes 27 = .ok (.getfield 405, 3) := dk_180 1 149 (dk_at dksX0_takes_1 3 rfl rfl)
theorem dX0_takes_30 : decode cX0_takes 30 = .ok (.iload_n 3, 1) := dk_29 (dk_at dksX0_takes_1 6 rfl rfl)
theorem dX0_takes_31 : decode cX0_takes 31 = .ok (.iconst 1, 1) := dk_4 (dk_at dksX0_takes_1 7 rfl rfl)
theorem dX0_takes_32 : decode cX0_takes 32 = .ok (.iload_n 1, 1) := dk_27 (dk_at dksX0_takes_1 8 rfl rfl)
theorem dX0_takes_33 : decode cX0_takes 33 = .ok (.ishl, 1) := dk_120 (dk_at dksX0_takes_1 9 rfl rfl)
theorem dX0_takes_34 : decode cX0_takes 34 = .ok (.ior, 1) := dk_128 (dk_at dksX0_takes_1 10 rfl rfl)
theorem dX0_takes_35 : decode cX0_takes 35 = .ok (.iconst (-1), 1) := dk_2 (dk_at dksX0_takes_1 11 rfl rfl)
theorem dX0_takes_36 : decode cX0_takes 36 = .ok (.ixor, 1) := dk_130 (dk_at dksX0_takes_1 12 rfl rfl)
theorem dX0_takes_37 : decode cX0_takes 37 = .ok (.iand, 1) := dk_126 (dk_at dksX0_takes_1 13 rfl rfl)
theorem dX0_takes_38 : decode cX0_takes 38 = .ok (.putfield 405, 3) := dk_181 1 149 (dk_at dksX0_takes_1 14 rfl rfl)
theorem dX0_takes_41 : decode cX0_takes 41 = .ok (.aload_n 0, 1) := dk_42 (dk_at dksX0_takes_1 17 rfl rfl)
theorem dX0_takes_42 : decode cX0_takes 42 = .ok (.dup, 1) := dk_89 (dk_at dksX0_takes_1 18 rfl rfl)
theorem dX0_takes_43 : decode cX0_takes 43 = .ok (.getfield 408, 3) := dk_180 1 152 (dk_at dksX0_takes_1 19 rfl rfl)
theorem dX0_takes_46 : decode cX0_takes 46 = .ok (.iload_n 3, 1) := dk_29 (dk_at dksX0_takes_1 22 rfl rfl)
theorem dX0_takes_47 : decode cX0_takes 47 = .ok (.ior, 1) := dk_128 (dk_at dksX0_takes_1 23 rfl rfl)
theorem dX0_takes_48 : decode cX0_takes 48 = .ok (.putfield 408, 3) := dk_181 1 152 (dk_at dksX0_takes_2 0 rfl rfl)
theorem dX0_takes_51 : decode cX0_takes 51 = .ok (.aload_n 0, 1) := dk_42 (dk_at dksX0_takes_2 3 rfl rfl)
theorem dX0_takes_52 : decode cX0_takes 52 = .ok (.dup, 1) := dk_89 (dk_at dksX0_takes_2 4 rfl rfl)
theorem dX0_takes_53 : decode cX0_takes 53 = .ok (.getfield 409, 3) := dk_180 1 153 (dk_at dksX0_takes_2 5 rfl rfl)
theorem dX0_takes_56 : decode cX0_takes 56 = .ok (.iload_n 3, 1) := dk_29 (dk_at dksX0_takes_2 8 rfl rfl)
theorem dX0_takes_57 : decode cX0_takes 57 = .ok (.invokestatic 155, 3) := dk_184 0 155 (dk_at dksX0_takes_2 9 rfl rfl)
theorem dX0_takes_60 : decode cX0_takes 60 = .ok (.isub, 1) := dk_100 (dk_at dksX0_takes_2 12 rfl rfl)
theorem dX0_takes_61 : decode cX0_takes 61 = .ok (.putfield 409, 3) := dk_181 1 153 (dk_at dksX0_takes_2 13 rfl rfl)
theorem dX0_takes_64 : decode cX0_takes 64 = .ok (.return_, 1) := dk_177 (dk_at dksX0_takes_2 16 rfl rfl)
abbrev cX0_refusedMany : ByteArray := prog_1_method_64_code
def yX0_refusedMany : MethodName := ⟨RX0, "refusedMany", "(I)I"⟩
def dkwX0_refusedMany_2 : List UInt8 := [167, 255, 224, 28, 172]
abbrev dktX0_refusedMany_2 : List UInt8 := dkwX0_refusedMany_2 ++ []
def dkwX0_refusedMany_1 : List UInt8 := [180, 0, 55, 29, 50, 180, 1, 169, 2, 160, 0, 7, 4, 167, 0, 4, 3, 96, 61, 132, 3, 1]
abbrev dktX0_refusedMany_1 : List UInt8 := dkwX0_refusedMany_1 ++ dktX0_refusedMany_2
def dkwX0_refusedMany_0 : List UInt8 := [27, 2, 160, 0, 7, 3, 167, 0, 4, 2, 61, 3, 62, 29, 42, 180, 1, 163, 162, 0, 30, 28, 42]
abbrev dktX0_refusedMany_0 : List UInt8 := dkwX0_refusedMany_0 ++ dktX0_refusedMany_1
theorem dksX0_refusedMany_0 : cX0_refusedMany.data.toList.drop 0 = dktX0_refusedMany_0 := by decide +kernel
theorem dksX0_refusedMany_1 : cX0_refusedMany.data.toList.drop 23 = dktX0_refusedMany_1 := dk_seg dksX0_refusedMany_0 23 rfl rfl
theorem dksX0_refusedMany_2 : cX0_refusedMany.data.toList.drop 45 = dktX0_refusedMany_2 := dk_seg dksX0_refusedMany_1 22 rfl rfl
theorem dX0_refusedMany_0 : decode cX0_refusedMany 0 = .ok (.iload_n 1, 1) := dk_27 (dk_at dksX0_refusedMany_0 0 rfl rfl)
theorem dX0_refusedMany_1 : decode cX0_refusedMany 1 = .ok (.iconst (-1), 1) := dk_2 (dk_at dksX0_refusedMany_0 1 rfl rfl)
theorem dX0_refusedMany_2 : decode cX0_refusedMany 2 = .ok (.if_icmp .ne 7, 3) := dk_160 0 7 (dk_at dksX0_refusedMany_0 2 rfl rfl)
theorem dX0_refusedMany_5 : decode cX0_refusedMany 5 = .ok (.iconst 0, 1) := dk_3 (dk_at dksX0_refusedMany_0 5 rfl rfl)
theorem dX0_refusedMany_6 : decode cX0_refusedMany 6 = .ok (.goto 4, 3) := dk_167 0 4 (dk_at dksX0_refusedMany_0 6 rfl rfl)
theorem dX0_refusedMany_9 : decode cX0_refusedMany 9 = .ok (.iconst (-1), 1) := dk_2 (dk_at dksX0_refusedMany_0 9 rfl rfl)
theorem dX0_refusedMany_10 : decode cX0_refusedMany 10 = .ok (.istore_n 2, 1) := dk_61 (dk_at dksX0_refusedMany_0 10 rfl rfl)
theorem dX0_refusedMany_11 : decode cX0_refusedMany 11 = .ok (.iconst 0, 1) := dk_3 (dk_at dksX0_refusedMany_0 11 rfl rfl)
theorem dX0_refusedMany_12 : decode cX0_refusedMany 12 = .ok (.istore_n 3, 1) := dk_62 (dk_at dksX0_refusedMany_0 12 rfl rfl)
theorem dX0_refusedMany_13 : decode cX0_refusedMany 13 = .ok (.iload_n 3, 1) := dk_29 (dk_at dksX0_refusedMany_0 13 rfl rfl)
theorem dX0_refusedMany_14 : decode cX0_refusedMany 14 = .ok (.aload_n 0, 1) := dk_42 (dk_at dksX0_refusedMany_0 14 rfl rfl)
theorem dX0_refusedMany_15 : decode cX0_refusedMany 15 = .ok (.getfield 419, 3) := dk_180 1 163 (dk_at dksX0_refusedMany_0 15 rfl rfl)
theorem dX0_refusedMany_18 : decode cX0_refusedMany 18 = .ok (.if_icmp .ge 30, 3) := dk_162 0 30 (dk_at dksX0_refusedMany_0 18 rfl rfl)
theorem dX0_refusedMany_21 : decode cX0_refusedMany 21 = .ok (.iload_n 2, 1) := dk_28 (dk_at dksX0_refusedMany_0 21 rfl rfl)
theorem dX0_refusedMany_22 : decode cX0_refusedMany 22 = .ok (.aload_n 0, 1) := dk_42 (dk_at dksX0_refusedMany_0 22 rfl rfl)
theorem dX0_refusedMany_23 : decode cX0_refusedMany 23 = .ok (.getfield 55, 3) := dk_180 0 55 (dk_at dksX0_refusedMany_1 0 rfl rfl)
theorem dX0_refusedMany_26 : decode cX0_refusedMany 26 = .ok (.iload_n 3, 1) := dk_29 (dk_at dksX0_refusedMany_1 3 rfl rfl)
theorem dX0_refusedMany_27 : decode cX0_refusedMany 27 = .ok (.aaload, 1) := dk_50 (dk_at dksX0_refusedMany_1 4 rfl rfl)
theorem dX0_refusedMany_28 : decode cX0_refusedMany 28 = .ok (.getfield 425, 3) := dk_180 1 169 (dk_at dksX0_refusedMany_1 5 rfl rfl)
theorem dX0_refusedMany_31 : decode cX0_refusedMany 31 = .ok (.iconst (-1), 1) := dk_2 (dk_at dksX0_refusedMany_1 8 rfl rfl)
theorem dX0_refusedMany_32 : decode cX0_refusedMany 32 = .ok (.if_icmp .ne 7, 3) := dk_160 0 7 (dk_at dksX0_refusedMany_1 9 rfl rfl)
theorem dX0_refusedMany_35 : decode cX0_refusedMany 35 = .ok (.iconst 1, 1) := dk_4 (dk_at dksX0_refusedMany_1 12 rfl rfl)
theorem dX0_refusedMany_36 : decode cX0_refusedMany 36 = .ok (.goto 4, 3) := dk_167 0 4 (dk_at dksX0_refusedMany_1 13 rfl rfl)
theorem dX0_refusedMany_39 : decode cX0_refusedMany 39 = .ok (.iconst 0, 1) := dk_3 (dk_at dksX0_refusedMany_1 16 rfl rfl)
theorem dX0_refusedMany_40 : decode cX0_refusedMany 40 = .ok (.iadd, 1) := dk_96 (dk_at dksX0_refusedMany_1 17 rfl rfl)
theorem dX0_refusedMany_41 : decode cX0_refusedMany 41 = .ok (.istore_n 2, 1) := dk_61 (dk_at dksX0_refusedMany_1 18 rfl rfl)
theorem dX0_refusedMany_42 : decode cX0_refusedMany 42 = .ok (.iinc 3 1, 3) := dk_132 3 1 (dk_at dksX0_refusedMany_1 19 rfl rfl)
theorem dX0_refusedMany_45 : decode cX0_refusedMany 45 = .ok (.goto (-32), 3) := dk_167 255 224 (dk_at dksX0_refusedMany_2 0 rfl rfl)
theorem dX0_refusedMany_48 : decode cX0_refusedMany 48 = .ok (.iload_n 2, 1) := dk_28 (dk_at dksX0_refusedMany_2 3 rfl rfl)
theorem dX0_refusedMany_49 : decode cX0_refusedMany 49 = .ok (.ireturn, 1) := dk_172 (dk_at dksX0_refusedMany_2 4 rfl rfl)
abbrev cX0_deepest : ByteArray := prog_1_method_65_code
def yX0_deepest : MethodName := ⟨RX0, "deepest", "()I"⟩
def dkwX0_deepest_1 : List UInt8 := [184, 1, 16, 60, 132, 2, 1, 167, 255, 231, 27, 172]
abbrev dktX0_deepest_1 : List UInt8 := dkwX0_deepest_1 ++ []
def dkwX0_deepest_0 : List UInt8 := [3, 60, 3, 61, 28, 42, 180, 1, 163, 162, 0, 23, 27, 42, 180, 0, 55, 28, 50, 180, 1, 193]
abbrev dktX0_deepest_0 : List UInt8 := dkwX0_deepest_0 ++ dktX0_deepest_1
theorem dksX0_deepest_0 : cX0_deepest.data.toList.drop 0 = dktX0_deepest_0 := by decide +kernel
theorem dksX0_deepest_1 : cX0_deepest.data.toList.drop 22 = dktX0_deepest_1 := dk_seg dksX0_deepest_0 22 rfl rfl
theorem dX0_deepest_0 : decode cX0_deepest 0 = .ok (.iconst 0, 1) := dk_3 (dk_at dksX0_deepest_0 0 rfl rfl)
theorem dX0_deepest_1 : decode cX0_deepest 1 = .ok (.istore_n 1, 1) := dk_60 (dk_at dksX0_deepest_0 1 rfl rfl)
theorem dX0_deepest_2 : decode cX0_deepest 2 = .ok (.iconst 0, 1) := dk_3 (dk_at dksX0_deepest_0 2 rfl rfl)
theorem dX0_deepest_3 : decode cX0_deepest 3 = .ok (.istore_n 2, 1) := dk_61 (dk_at dksX0_deepest_0 3 rfl rfl)
theorem dX0_deepest_4 : decode cX0_deepest 4 = .ok (.iload_n 2, 1) := dk_28 (dk_at dksX0_deepest_0 4 rfl rfl)
theorem dX0_deepest_5 : decode cX0_deepest 5 = .ok (.aload_n 0, 1) := dk_42 (dk_at dksX0_deepest_0 5 rfl rfl)
theorem dX0_deepest_6 : decode cX0_deepest 6 = .ok (.getfield 419, 3) := dk_180 1 163 (dk_at dksX0_deepest_0 6 rfl rfl)
theorem dX0_deepest_9 : decode cX0_deepest 9 = .ok (.if_icmp .ge 23, 3) := dk_162 0 23 (dk_at dksX0_deepest_0 9 rfl rfl)
theorem dX0_deepest_12 : decode cX0_deepest 12 = .ok (.iload_n 1, 1) := dk_27 (dk_at dksX0_deepest_0 12 rfl rfl)
theorem dX0_deepest_13 : decode cX0_deepest 13 = .ok (.aload_n 0, 1) := dk_42 (dk_at dksX0_deepest_0 13 rfl rfl)
theorem dX0_deepest_14 : decode cX0_deepest 14 = .ok (.getfield 55, 3) := dk_180 0 55 (dk_at dksX0_deepest_0 14 rfl rfl)
theorem dX0_deepest_17 : decode cX0_deepest 17 = .ok (.iload_n 2, 1) := dk_28 (dk_at dksX0_deepest_0 17 rfl rfl)
theorem dX0_deepest_18 : decode cX0_deepest 18 = .ok (.aaload, 1) := dk_50 (dk_at dksX0_deepest_0 18 rfl rfl)
theorem dX0_deepest_19 : decode cX0_deepest 19 = .ok (.getfield 449, 3) := dk_180 1 193 (dk_at dksX0_deepest_0 19 rfl rfl)
theorem dX0_deepest_22 : decode cX0_deepest 22 = .ok (.invokestatic 272, 3) := dk_184 1 16 (dk_at dksX0_deepest_1 0 rfl rfl)
theorem dX0_deepest_25 : decode cX0_deepest 25 = .ok (.istore_n 1, 1) := dk_60 (dk_at dksX0_deepest_1 3 rfl rfl)
theorem dX0_deepest_26 : decode cX0_deepest 26 = .ok (.iinc 2 1, 3) := dk_132 2 1 (dk_at dksX0_deepest_1 4 rfl rfl)
theorem dX0_deepest_29 : decode cX0_deepest 29 = .ok (.goto (-25), 3) := dk_167 255 231 (dk_at dksX0_deepest_1 7 rfl rfl)
theorem dX0_deepest_32 : decode cX0_deepest 32 = .ok (.iload_n 1, 1) := dk_27 (dk_at dksX0_deepest_1 10 rfl rfl)
theorem dX0_deepest_33 : decode cX0_deepest 33 = .ok (.ireturn, 1) := dk_172 (dk_at dksX0_deepest_1 11 rfl rfl)
abbrev cX0_node : ByteArray := prog_1_method_67_code
def yX0_node : MethodName := ⟨RX0, "node", "(III)I"⟩
def dkwX0_node_4 : List UInt8 := [160, 0, 14, 25, 4, 180, 1, 207, 16, 20, 96, 167, 0, 8, 25, 4, 180, 1, 193, 172]
abbrev dktX0_node_4 : List UInt8 := dkwX0_node_4 ++ []
def dkwX0_node_3 : List UInt8 := [25, 4, 180, 1, 205, 167, 0, 37, 29, 5, 160, 0, 11, 25, 4, 180, 1, 206, 167, 0, 24, 29, 6]
abbrev dktX0_node_3 : List UInt8 := dkwX0_node_3 ++ dktX0_node_4
def dkwX0_node_2 : List UInt8 := [180, 0, 55, 28, 50, 58, 4, 29, 154, 0, 11, 25, 4, 180, 1, 169, 167, 0, 50, 29, 4, 160, 0, 11]
abbrev dktX0_node_2 : List UInt8 := dkwX0_node_2 ++ dktX0_node_3
def dkwX0_node_1 : List UInt8 := [182, 1, 196, 87, 28, 3, 42, 180, 1, 163, 4, 100, 184, 0, 111, 154, 0, 6, 16, 254, 172, 42]
abbrev dktX0_node_1 : List UInt8 := dkwX0_node_1 ++ dktX0_node_2
def dkwX0_node_0 : List UInt8 := [27, 3, 16, 12, 184, 0, 111, 153, 0, 12, 29, 3, 7, 184, 0, 111, 154, 0, 6, 16, 254, 172, 42, 27]
abbrev dktX0_node_0 : List UInt8 := dkwX0_node_0 ++ dktX0_node_1
theorem dksX0_node_0 : cX0_node.data.toList.drop 0 = dktX0_node_0 := by decide +kernel
theorem dksX0_node_1 : cX0_node.data.toList.drop 24 = dktX0_node_1 := dk_seg dksX0_node_0 24 rfl rfl
theorem dksX0_node_2 : cX0_node.data.toList.drop 46 = dktX0_node_2 := dk_seg dksX0_node_1 22 rfl rfl
theorem dksX0_node_3 : cX0_node.data.toList.drop 70 = dktX0_node_3 := dk_seg dksX0_node_2 24 rfl rfl
theorem dksX0_node_4 : cX0_node.data.toList.drop 93 = dktX0_node_4 := dk_seg dksX0_node_3 23 rfl rfl
theorem dX0_node_0 : decode cX0_node 0 = .ok (.iload_n 1, 1) := dk_27 (dk_at dksX0_node_0 0 rfl rfl)
theorem dX0_node_1 : decode cX0_node 1 = .ok (.iconst 0, 1) := dk_3 (dk_at dksX0_node_0 1 rfl rfl)
theorem dX0_node_2 : decode cX0_node 2 = .ok (.bipush 12, 2) := dk_16 12 (dk_at dksX0_node_0 2 rfl rfl)
theorem dX0_node_4 : decode cX0_node 4 = .ok (.invokestatic 111, 3) := dk_184 0 111 (dk_at dksX0_node_0 4 rfl rfl)
theorem dX0_node_7 : decode cX0_node 7 = .ok (.ifCond .eq 12, 3) := dk_153 0 12 (dk_at dksX0_node_0 7 rfl rfl)
theorem dX0_node_10 : decode cX0_node 10 = .ok (.iload_n 3, 1) := dk_29 (dk_at dksX0_node_0 10 rfl rfl)
theorem dX0_node_11 : decode cX0_node 11 = .ok (.iconst 0, 1) := dk_3 (dk_at dksX0_node_0 11 rfl rfl)
theorem dX0_node_12 : decode cX0_node 12 = .ok (.iconst 4, 1) := dk_7 (dk_at dksX0_node_0 12 rfl rfl)
theorem dX0_node_13 : decode cX0_node 13 = .ok (.invokestatic 111, 3) := dk_184 0 111 (dk_at dksX0_node_0 13 rfl rfl)
theorem dX0_node_16 : decode cX0_node 16 = .ok (.ifCond .ne 6, 3) := dk_154 0 6 (dk_at dksX0_node_0 16 rfl rfl)
theorem dX0_node_19 : decode cX0_node 19 = .ok (.bipush (-2), 2) := dk_16 254 (dk_at dksX0_node_0 19 rfl rfl)
theorem dX0_node_21 : decode cX0_node 21 = .ok (.ireturn, 1) := dk_172 (dk_at dksX0_node_0 21 rfl rfl)
theorem dX0_node_22 : decode cX0_node 22 = .ok (.aload_n 0, 1) := dk_42 (dk_at dksX0_node_0 22 rfl rfl)
theorem dX0_node_23 : decode cX0_node 23 = .ok (.iload_n 1, 1) := dk_27 (dk_at dksX0_node_0 23 rfl rfl)
theorem dX0_node_24 : decode cX0_node 24 = .ok (.invokevirtual 452, 3) := dk_182 1 196 (dk_at dksX0_node_1 0 rfl rfl)
theorem dX0_node_27 : decode cX0_node 27 = .ok (.pop, 1) := dk_87 (dk_at dksX0_node_1 3 rfl rfl)
theorem dX0_node_28 : decode cX0_node 28 = .ok (.iload_n 2, 1) := dk_28 (dk_at dksX0_node_1 4 rfl rfl)
theorem dX0_node_29 : decode cX0_node 29 = .ok (.iconst 0, 1) := dk_3 (dk_at dksX0_node_1 5 rfl rfl)
theorem dX0_node_30 : decode cX0_node 30 = .ok (.aload_n 0, 1) := dk_42 (dk_at dksX0_node_1 6 rfl rfl)
theorem dX0_node_31 : decode cX0_node 31 = .ok (.getfield 419, 3) := dk_180 1 163 (dk_at dksX0_node_1 7 rfl rfl)
theorem dX0_node_34 : decode cX0_node 34 = .ok (.iconst 1, 1) := dk_4 (dk_at dksX0_node_1 10 rfl rfl)
theorem dX0_node_35 : decode cX0_node 35 = .ok (.isub, 1) := dk_100 (dk_at dksX0_node_1 11 rfl rfl)
theorem dX0_node_36 : decode cX0_node 36 = .ok (.invokestatic 111, 3) := dk_184 0 111 (dk_at dksX0_node_1 12 rfl rfl)
theorem dX0_node_39 : decode cX0_node 39 = .ok (.ifCond .ne 6, 3) := dk_154 0 6 (dk_at dksX0_node_1 15 rfl rfl)
theorem dX0_node_42 : decode cX0_node 42 = .ok (.bipush (-2), 2) := dk_16 254 (dk_at dksX0_node_1 18 rfl rfl)
theorem dX0_node_44 : decode cX0_node 44 = .ok (.ireturn, 1) := dk_172 (dk_at dksX0_node_1 20 rfl rfl)
theorem dX0_node_45 : decode cX0_node 45 = .ok (.aload_n 0, 1) := dk_42 (dk_at dksX0_node_1 21 rfl rfl)
theorem dX0_node_46 : decode cX0_node 46 = .ok (.getfield 55, 3) := dk_180 0 55 (dk_at dksX0_node_2 0 rfl rfl)
theorem dX0_node_49 : decode cX0_node 49 = .ok (.iload_n 2, 1) := dk_28 (dk_at dksX0_node_2 3 rfl rfl)
theorem dX0_node_50 : decode cX0_node 50 = .ok (.aaload, 1) := dk_50 (dk_at dksX0_node_2 4 rfl rfl)
theorem dX0_node_51 : decode cX0_node 51 = .ok (.astore 4, 2) := dk_58 4 (dk_at dksX0_node_2 5 rfl rfl)
theorem dX0_node_53 : decode cX0_node 53 = .ok (.iload_n 3, 1) := dk_29 (dk_at dksX0_node_2 7 rfl rfl)
theorem dX0_node_54 : decode cX0_node 54 = .ok (.ifCond .ne 11, 3) := dk_154 0 11 (dk_at dksX0_node_2 8 rfl rfl)
theorem dX0_node_57 : decode cX0_node 57 = .ok (.aload 4, 2) := dk_25 4 (dk_at dksX0_node_2 11 rfl rfl)
theorem dX0_node_59 : decode cX0_node 59 = .ok (.getfield 425, 3) := dk_180 1 169 (dk_at dksX0_node_2 13 rfl rfl)
theorem dX0_node_62 : decode cX0_node 62 = .ok (.goto 50, 3) := dk_167 0 50 (dk_at dksX0_node_2 16 rfl rfl)
theorem dX0_node_65 : decode cX0_node 65 = .ok (.iload_n 3, 1) := dk_29 (dk_at dksX0_node_2 19 rfl rfl)
theorem dX0_node_66 : decode cX0_node 66 = .ok (.iconst 1, 1) := dk_4 (dk_at dksX0_node_2 20 rfl rfl)
theorem dX0_node_67 : decode cX0_node 67 = .ok (.if_icmp .ne 11, 3) := dk_160 0 11 (dk_at dksX0_node_2 21 rfl rfl)
theorem dX0_node_70 : decode cX0_node 70 = .ok (.aload 4, 2) := dk_25 4 (dk_at dksX0_node_3 0 rfl rfl)
theorem dX0_node_72 : decode cX0_node 72 = .ok (.getfield 461, 3) := dk_180 1 205 (dk_at dksX0_node_3 2 rfl rfl)
theorem dX0_node_75 : decode cX0_node 75 = .ok (.goto 37, 3) := dk_167 0 37 (dk_at dksX0_node_3 5 rfl rfl)
theorem dX0_node_78 : decode cX0_node 78 = .ok (.iload_n 3, 1) := dk_29 (dk_at dksX0_node_3 8 rfl rfl)
theorem dX0_node_79 : decode cX0_node 79 = .ok (.iconst 2, 1) := dk_5 (dk_at dksX0_node_3 9 rfl rfl)
theorem dX0_node_80 : decode cX0_node 80 = .ok (.if_icmp .ne 11, 3) := dk_160 0 11 (dk_at dksX0_node_3 10 rfl rfl)
theorem dX0_node_83 : decode cX0_node 83 = .ok (.aload 4, 2) := dk_25 4 (dk_at dksX0_node_3 13 rfl rfl)
theorem dX0_node_85 : decode cX0_node 85 = .ok (.getfield 462, 3) := dk_180 1 206 (dk_at dksX0_node_3 15 rfl rfl)
theorem dX0_node_88 : decode cX0_node 88 = .ok (.goto 24, 3) := dk_167 0 24 (dk_at dksX0_node_3 18 rfl rfl)
theorem dX0_node_91 : decode cX0_node 91 = .ok (.iload_n 3, 1) := dk_29 (dk_at dksX0_node_3 21 rfl rfl)
theorem dX0_node_92 : decode cX0_node 92 = .ok (.iconst 3, 1) := dk_6 (dk_at dksX0_node_3 22 rfl rfl)
theorem dX0_node_93 : decode cX0_node 93 = .ok (.if_icmp .ne 14, 3) := dk_160 0 14 (dk_at dksX0_node_4 0 rfl rfl)
theorem dX0_node_96 : decode cX0_node 96 = .ok (.aload 4, 2) := dk_25 4 (dk_at dksX0_node_4 3 rfl rfl)
theorem dX0_node_98 : decode cX0_node 98 = .ok (.getfield 463, 3) := dk_180 1 207 (dk_at dksX0_node_4 5 rfl rfl)
theorem dX0_node_101 : decode cX0_node 101 = .ok (.bipush 20, 2) := dk_16 20 (dk_at dksX0_node_4 8 rfl rfl)
theorem dX0_node_103 : decode cX0_node 103 = .ok (.iadd, 1) := dk_96 (dk_at dksX0_node_4 10 rfl rfl)
theorem dX0_node_104 : decode cX0_node 104 = .ok (.goto 8, 3) := dk_167 0 8 (dk_at dksX0_node_4 11 rfl rfl)
theorem dX0_node_107 : decode cX0_node 107 = .ok (.aload 4, 2) := dk_25 4 (dk_at dksX0_node_4 14 rfl rfl)
theorem dX0_node_109 : decode cX0_node 109 = .ok (.getfield 449, 3) := dk_180 1 193 (dk_at dksX0_node_4 16 rfl rfl)
theorem dX0_node_112 : decode cX0_node 112 = .ok (.ireturn, 1) := dk_172 (dk_at dksX0_node_4 19 rfl rfl)
abbrev cX0_prove : ByteArray := prog_1_method_68_code
def yX0_prove : MethodName := ⟨RX0, "prove", "(II)I"⟩
def dkwX0_prove_4 : List UInt8 := [181, 1, 128, 42, 180, 1, 163, 172]
abbrev dktX0_prove_4 : List UInt8 := dkwX0_prove_4 ++ []
def dkwX0_prove_3 : List UInt8 := [180, 0, 55, 21, 4, 50, 180, 1, 169, 147, 86, 132, 4, 1, 167, 255, 229, 42, 180, 0, 75, 27, 50, 45]
abbrev dktX0_prove_3 : List UInt8 := dkwX0_prove_3 ++ dktX0_prove_4
def dkwX0_prove_2 : List UInt8 := [180, 1, 163, 188, 9, 78, 3, 54, 4, 21, 4, 42, 180, 1, 163, 162, 0, 24, 45, 21, 4, 42]
abbrev dktX0_prove_2 : List UInt8 := dkwX0_prove_2 ++ dktX0_prove_3
def dkwX0_prove_1 : List UInt8 := [182, 1, 196, 2, 159, 0, 5, 2, 172, 42, 180, 1, 163, 16, 60, 164, 0, 6, 16, 252, 172, 42]
abbrev dktX0_prove_1 : List UInt8 := dkwX0_prove_1 ++ dktX0_prove_2
def dkwX0_prove_0 : List UInt8 := [27, 184, 1, 125, 153, 0, 13, 28, 3, 16, 12, 184, 0, 111, 154, 0, 6, 16, 254, 172, 42, 28]
abbrev dktX0_prove_0 : List UInt8 := dkwX0_prove_0 ++ dktX0_prove_1
theorem dksX0_prove_0 : cX0_prove.data.toList.drop 0 = dktX0_prove_0 := by decide +kernel
theorem dksX0_prove_1 : cX0_prove.data.toList.drop 22 = dktX0_prove_1 := dk_seg dksX0_prove_0 22 rfl rfl
theorem dksX0_prove_2 : cX0_prove.data.toList.drop 44 = dktX0_prove_2 := dk_seg dksX0_prove_1 22 rfl rfl
theorem dksX0_prove_3 : cX0_prove.data.toList.drop 66 = dktX0_prove_3 := dk_seg dksX0_prove_2 22 rfl rfl
theorem dksX0_prove_4 : cX0_prove.data.toList.drop 90 = dktX0_prove_4 := dk_seg dksX0_prove_3 24 rfl rfl
theorem dX0_prove_0 : decode cX0_prove 0 = .ok (.iload_n 1, 1) := dk_27 (dk_at dksX0_prove_0 0 rfl rfl)
theorem dX0_prove_1 : decode cX0_prove 1 = .ok (.invokestatic 381, 3) := dk_184 1 125 (dk_at dksX0_prove_0 1 rfl rfl)
theorem dX0_prove_4 : decode cX0_prove 4 = .ok (.ifCond .eq 13, 3) := dk_153 0 13 (dk_at dksX0_prove_0 4 rfl rfl)
theorem dX0_prove_7 : decode cX0_prove 7 = .ok (.iload_n 2, 1) := dk_28 (dk_at dksX0_prove_0 7 rfl rfl)
theorem dX0_prove_8 : decode cX0_prove 8 = .ok (.iconst 0, 1) := dk_3 (dk_at dksX0_prove_0 8 rfl rfl)
theorem dX0_prove_9 : decode cX0_prove 9 = .ok (.bipush 12, 2) := dk_16 12 (dk_at dksX0_prove_0 9 rfl rfl)
theorem dX0_prove_11 : decode cX0_prove 11 = .ok (.invokestatic 111, 3) := dk_184 0 111 (dk_at dksX0_prove_0 11 rfl rfl)
theorem dX0_prove_14 : decode cX0_prove 14 = .ok (.ifCond .ne 6, 3) := dk_154 0 6 (dk_at dksX0_prove_0 14 rfl rfl)
theorem dX0_prove_17 : decode cX0_prove 17 = .ok (.bipush (-2), 2) := dk_16 254 (dk_at dksX0_prove_0 17 rfl rfl)
theorem dX0_prove_19 : decode cX0_prove 19 = .ok (.ireturn, 1) := dk_172 (dk_at dksX0_prove_0 19 rfl rfl)
theorem dX0_prove_20 : decode cX0_prove 20 = .ok (.aload_n 0, 1) := dk_42 (dk_at dksX0_prove_0 20 rfl rfl)
theorem dX0_prove_21 : decode cX0_prove 21 = .ok (.iload_n 2, 1) := dk_28 (dk_at dksX0_prove_0 21 rfl rfl)
theorem dX0_prove_22 : decode cX0_prove 22 = .ok (.invokevirtual 452, 3) := dk_182 1 196 (dk_at dksX0_prove_1 0 rfl rfl)
theorem dX0_prove_25 : decode cX0_prove 25 = .ok (.iconst (-1), 1) := dk_2 (dk_at dksX0_prove_1 3 rfl rfl)
theorem dX0_prove_26 : decode cX0_prove 26 = .ok (.if_icmp .eq 5, 3) := dk_159 0 5 (dk_at dksX0_prove_1 4 rfl rfl)
theorem dX0_prove_29 : decode cX0_prove 29 = .ok (.iconst (-1), 1) := dk_2 (dk_at dksX0_prove_1 7 rfl rfl)
theorem dX0_prove_30 : decode cX0_prove 30 = .ok (.ireturn, 1) := dk_172 (dk_at dksX0_prove_1 8 rfl rfl)
theorem dX0_prove_31 : decode cX0_prove 31 = .ok (.aload_n 0, 1) := dk_42 (dk_at dksX0_prove_1 9 rfl rfl)
theorem dX0_prove_32 : decode cX0_prove 32 = .ok (.getfield 419, 3) := dk_180 1 163 (dk_at dksX0_prove_1 10 rfl rfl)
theorem dX0_prove_35 : decode cX0_prove 35 = .ok (.bipush 60, 2) := dk_16 60 (dk_at dksX0_prove_1 13 rfl rfl)
theorem dX0_prove_37 : decode cX0_prove 37 = .ok (.if_icmp .le 6, 3) := dk_164 0 6 (dk_at dksX0_prove_1 15 rfl rfl)
theorem dX0_prove_40 : decode cX0_prove 40 = .ok (.bipush (-4), 2) := dk_16 252 (dk_at dksX0_prove_1 18 rfl rfl)
theorem dX0_prove_42 : decode cX0_prove 42 = .ok (.ireturn, 1) := dk_172 (dk_at dksX0_prove_1 20 rfl rfl)
theorem dX0_prove_43 : decode cX0_prove 43 = .ok (.aload_n 0, 1) := dk_42 (dk_at dksX0_prove_1 21 rfl rfl)
theorem dX0_prove_44 : decode cX0_prove 44 = .ok (.getfield 419, 3) := dk_180 1 163 (dk_at dksX0_prove_2 0 rfl rfl)
theorem dX0_prove_47 : decode cX0_prove 47 = .ok (.newarray .short, 2) := dk_188_9 (dk_at dksX0_prove_2 3 rfl rfl)
theorem dX0_prove_49 : decode cX0_prove 49 = .ok (.astore_n 3, 1) := dk_78 (dk_at dksX0_prove_2 5 rfl rfl)
theorem dX0_prove_50 : decode cX0_prove 50 = .ok (.iconst 0, 1) := dk_3 (dk_at dksX0_prove_2 6 rfl rfl)
theorem dX0_prove_51 : decode cX0_prove 51 = .ok (.istore 4, 2) := dk_54 4 (dk_at dksX0_prove_2 7 rfl rfl)
theorem dX0_prove_53 : decode cX0_prove 53 = .ok (.iload 4, 2) := dk_21 4 (dk_at dksX0_prove_2 9 rfl rfl)
theorem dX0_prove_55 : decode cX0_prove 55 = .ok (.aload_n 0, 1) := dk_42 (dk_at dksX0_prove_2 11 rfl rfl)
theorem dX0_prove_56 : decode cX0_prove 56 = .ok (.getfield 419, 3) := dk_180 1 163 (dk_at dksX0_prove_2 12 rfl rfl)
theorem dX0_prove_59 : decode cX0_prove 59 = .ok (.if_icmp .ge 24, 3) := dk_162 0 24 (dk_at dksX0_prove_2 15 rfl rfl)
theorem dX0_prove_62 : decode cX0_prove 62 = .ok (.aload_n 3, 1) := dk_45 (dk_at dksX0_prove_2 18 rfl rfl)
theorem dX0_prove_63 : decode cX0_prove 63 = .ok (.iload 4, 2) := dk_21 4 (dk_at dksX0_prove_2 19 rfl rfl)
theorem dX0_prove_65 : decode cX0_prove 65 = .ok (.aload_n 0, 1) := dk_42 (dk_at dksX0_prove_2 21 rfl rfl)
theorem dX0_prove_66 : decode cX0_prove 66 = .ok (.getfield 55, 3) := dk_180 0 55 (dk_at dksX0_prove_3 0 rfl rfl)
theorem dX0_prove_69 : decode cX0_prove 69 = .ok (.iload 4, 2) := dk_21 4 (dk_at dksX0_prove_3 3 rfl rfl)
theorem dX0_prove_71 : decode cX0_prove 71 = .ok (.aaload, 1) := dk_50 (dk_at dksX0_prove_3 5 rfl rfl)
theorem dX0_prove_72 : decode cX0_prove 72 = .ok (.getfield 425, 3) := dk_180 1 169 (dk_at dksX0_prove_3 6 rfl rfl)
theorem dX0_prove_75 : decode cX0_prove 75 = .ok (.i2s, 1) := dk_147 (dk_at dksX0_prove_3 9 rfl rfl)
theorem dX0_prove_76 : decode cX0_prove 76 = .ok (.sastore, 1) := dk_86 (dk_at dksX0_prove_3 10 rfl rfl)
theorem dX0_prove_77 : decode cX0_prove 77 = .ok (.iinc 4 1, 3) := dk_132 4 1 (dk_at dksX0_prove_3 11 rfl rfl)
theorem dX0_prove_80 : decode cX0_prove 80 = .ok (.goto (-27), 3) := dk_167 255 229 (dk_at dksX0_prove_3 14 rfl rfl)
theorem dX0_prove_83 : decode cX0_prove 83 = .ok (.aload_n 0, 1) := dk_42 (dk_at dksX0_prove_3 17 rfl rfl)
theorem dX0_prove_84 : decode cX0_prove 84 = .ok (.getfield 75, 3) := dk_180 0 75 (dk_at dksX0_prove_3 18 rfl rfl)
theorem dX0_prove_87 : decode cX0_prove 87 = .ok (.iload_n 1, 1) := dk_27 (dk_at dksX0_prove_3 21 rfl rfl)
theorem dX0_prove_88 : decode cX0_prove 88 = .ok (.aaload, 1) := dk_50 (dk_at dksX0_prove_3 22 rfl rfl)
theorem dX0_prove_89 : decode cX0_prove 89 = .ok (.aload_n 3, 1) := dk_45 (dk_at dksX0_prove_3 23 rfl rfl)
theorem dX0_prove_90 : decode cX0_prove 90 = .ok (.putfield 384, 3) := dk_181 1 128 (dk_at dksX0_prove_4 0 rfl rfl)
theorem dX0_prove_93 : decode cX0_prove 93 = .ok (.aload_n 0, 1) := dk_42 (dk_at dksX0_prove_4 3 rfl rfl)
theorem dX0_prove_94 : decode cX0_prove 94 = .ok (.getfield 419, 3) := dk_180 1 163 (dk_at dksX0_prove_4 4 rfl rfl)
theorem dX0_prove_97 : decode cX0_prove 97 = .ok (.ireturn, 1) := dk_172 (dk_at dksX0_prove_4 7 rfl rfl)
abbrev cX0_proves : ByteArray := prog_1_method_70_code
def yX0_proves : MethodName := ⟨RX0, "proves", "(II)I"⟩
def dkwX0_proves_3 : List UInt8 := [180, 1, 210, 96, 172, 58, 4, 4, 42, 180, 1, 210, 96, 172, 58, 4, 4, 42, 180, 1, 210, 96, 172]
abbrev dktX0_proves_3 : List UInt8 := dkwX0_proves_3 ++ []
def dkwX0_proves_2 : List UInt8 := [45, 3, 182, 1, 216, 42, 180, 1, 210, 45, 184, 1, 132, 160, 0, 7, 3, 167, 0, 9, 4, 42]
abbrev dktX0_proves_2 : List UInt8 := dkwX0_proves_2 ++ dktX0_proves_3
def dkwX0_proves_1 : List UInt8 := [27, 50, 180, 1, 128, 78, 45, 199, 0, 6, 16, 245, 172, 42, 3, 181, 1, 210, 42, 28, 182, 1, 187, 42]
abbrev dktX0_proves_1 : List UInt8 := dkwX0_proves_1 ++ dktX0_proves_2
def dkwX0_proves_0 : List UInt8 := [27, 184, 1, 125, 153, 0, 13, 28, 3, 16, 12, 184, 0, 111, 154, 0, 6, 16, 254, 172, 42, 180, 0, 75]
abbrev dktX0_proves_0 : List UInt8 := dkwX0_proves_0 ++ dktX0_proves_1
theorem dksX0_proves_0 : cX0_proves.data.toList.drop 0 = dktX0_proves_0 := by decide +kernel
theorem dksX0_proves_1 : cX0_proves.data.toList.drop 24 = dktX0_proves_1 := dk_seg dksX0_proves_0 24 rfl rfl
theorem dksX0_proves_2 : cX0_proves.data.toList.drop 48 = dktX0_proves_2 := dk_seg dksX0_proves_1 24 rfl rfl
theorem dksX0_proves_3 : cX0_proves.data.toList.drop 70 = dktX0_proves_3 := dk_seg dksX0_proves_2 22 rfl rfl
theorem dX0_proves_0 : decode cX0_proves 0 = .ok (.iload_n 1, 1) := dk_27 (dk_at dksX0_proves_0 0 rfl rfl)
theorem dX0_proves_1 : decode cX0_proves 1 = .ok (.invokestatic 381, 3) := dk_184 1 125 (dk_at dksX0_proves_0 1 rfl rfl)
theorem dX0_proves_4 : decode cX0_proves 4 = .ok (.ifCond .eq 13, 3) := dk_153 0 13 (dk_at dksX0_proves_0 4 rfl rfl)
theorem dX0_proves_7 : decode cX0_proves 7 = .ok (.iload_n 2, 1) := dk_28 (dk_at dksX0_proves_0 7 rfl rfl)
theorem dX0_proves_8 : decode cX0_proves 8 = .ok (.iconst 0, 1) := dk_3 (dk_at dksX0_proves_0 8 rfl rfl)
theorem dX0_proves_9 : decode cX0_proves 9 = .ok (.bipush 12, 2) := dk_16 12 (dk_at dksX0_proves_0 9 rfl rfl)
theorem dX0_proves_11 : decode cX0_proves 11 = .ok (.invokestatic 111, 3) := dk_184 0 111 (dk_at dksX0_proves_0 11 rfl rfl)
theorem dX0_proves_14 : decode cX0_proves 14 = .ok (.ifCond .ne 6, 3) := dk_154 0 6 (dk_at dksX0_proves_0 14 rfl rfl)
theorem dX0_proves_17 : decode cX0_proves 17 = .ok (.bipush (-2), 2) := dk_16 254 (dk_at dksX0_proves_0 17 rfl rfl)
theorem dX0_proves_19 : decode cX0_proves 19 = .ok (.ireturn, 1) := dk_172 (dk_at dksX0_proves_0 19 rfl rfl)
theorem dX0_proves_20 : decode cX0_proves 20 = .ok (.aload_n 0, 1) := dk_42 (dk_at dksX0_proves_0 20 rfl rfl)
theorem dX0_proves_21 : decode cX0_proves 21 = .ok (.getfield 75, 3) := dk_180 0 75 (dk_at dksX0_proves_0 21 rfl rfl)
theorem dX0_proves_24 : decode cX0_proves 24 = .ok (.iload_n 1, 1) := dk_27 (dk_at dksX0_proves_1 0 rfl rfl)
theorem dX0_proves_25 : decode cX0_proves 25 = .ok (.aaload, 1) := dk_50 (dk_at dksX0_proves_1 1 rfl rfl)
theorem dX0_proves_26 : decode cX0_proves 26 = .ok (.getfield 384, 3) := dk_180 1 128 (dk_at dksX0_proves_1 2 rfl rfl)
theorem dX0_proves_29 : decode cX0_proves 29 = .ok (.astore_n 3, 1) := dk_78 (dk_at dksX0_proves_1 5 rfl rfl)
theorem dX0_proves_30 : decode cX0_proves 30 = .ok (.aload_n 3, 1) := dk_45 (dk_at dksX0_proves_1 6 rfl rfl)
theorem dX0_proves_31 : decode cX0_proves 31 = .ok (.ifnonnull 6, 3) := dk_199 0 6 (dk_at dksX0_proves_1 7 rfl rfl)
theorem dX0_proves_34 : decode cX0_proves 34 = .ok (.bipush (-11), 2) := dk_16 245 (dk_at dksX0_proves_1 10 rfl rfl)
theorem dX0_proves_36 : decode cX0_proves 36 = .ok (.ireturn, 1) := dk_172 (dk_at dksX0_proves_1 12 rfl rfl)
theorem dX0_proves_37 : decode cX0_proves 37 = .ok (.aload_n 0, 1) := dk_42 (dk_at dksX0_proves_1 13 rfl rfl)
theorem dX0_proves_38 : decode cX0_proves 38 = .ok (.iconst 0, 1) := dk_3 (dk_at dksX0_proves_1 14 rfl rfl)
theorem dX0_proves_39 : decode cX0_proves 39 = .ok (.putfield 466, 3) := dk_181 1 210 (dk_at dksX0_proves_1 15 rfl rfl)
theorem dX0_proves_42 : decode cX0_proves 42 = .ok (.aload_n 0, 1) := dk_42 (dk_at dksX0_proves_1 18 rfl rfl)
theorem dX0_proves_43 : decode cX0_proves 43 = .ok (.iload_n 2, 1) := dk_28 (dk_at dksX0_proves_1 19 rfl rfl)
theorem dX0_proves_44 : decode cX0_proves 44 = .ok (.invokevirtual 443, 3) := dk_182 1 187 (dk_at dksX0_proves_1 20 rfl rfl)
theorem dX0_proves_47 : decode cX0_proves 47 = .ok (.aload_n 0, 1) := dk_42 (dk_at dksX0_proves_1 23 rfl rfl)
theorem dX0_proves_48 : decode cX0_proves 48 = .ok (.aload_n 3, 1) := dk_45 (dk_at dksX0_proves_2 0 rfl rfl)
theorem dX0_proves_49 : decode cX0_proves 49 = .ok (.iconst 0, 1) := dk_3 (dk_at dksX0_proves_2 1 rfl rfl)
theorem dX0_proves_50 : decode cX0_proves 50 = .ok (.invokevirtual 472, 3) := dk_182 1 216 (dk_at dksX0_proves_2 2 rfl rfl)
theorem dX0_proves_53 : decode cX0_proves 53 = .ok (.aload_n 0, 1) := dk_42 (dk_at dksX0_proves_2 5 rfl rfl)
theorem dX0_proves_54 : decode cX0_proves 54 = .ok (.getfield 466, 3) := dk_180 1 210 (dk_at dksX0_proves_2 6 rfl rfl)
theorem dX0_proves_57 : decode cX0_proves 57 = .ok (.aload_n 3, 1) := dk_45 (dk_at dksX0_proves_2 9 rfl rfl)
theorem dX0_proves_58 : decode cX0_proves 58 = .ok (.invokestatic 388, 3) := dk_184 1 132 (dk_at dksX0_proves_2 10 rfl rfl)
theorem dX0_proves_61 : decode cX0_proves 61 = .ok (.if_icmp .ne 7, 3) := dk_160 0 7 (dk_at dksX0_proves_2 13 rfl rfl)
theorem dX0_proves_64 : decode cX0_proves 64 = .ok (.iconst 0, 1) := dk_3 (dk_at dksX0_proves_2 16 rfl rfl)
theorem dX0_proves_65 : decode cX0_proves 65 = .ok (.goto 9, 3) := dk_167 0 9 (dk_at dksX0_proves_2 17 rfl rfl)
theorem dX0_proves_68 : decode cX0_proves 68 = .ok (.iconst 1, 1) := dk_4 (dk_at dksX0_proves_2 20 rfl rfl)
theorem dX0_proves_69 : decode cX0_proves 69 = .ok (.aload_n 0, 1) := dk_42 (dk_at dksX0_proves_2 21 rfl rfl)
theorem dX0_proves_70 : decode cX0_proves 70 = .ok (.getfield 466, 3) := dk_180 1 210 (dk_at dksX0_proves_3 0 rfl rfl)
theorem dX0_proves_73 : decode cX0_proves 73 = .ok (.iadd, 1) := dk_96 (dk_at dksX0_proves_3 3 rfl rfl)
theorem dX0_proves_74 : decode cX0_proves 74 = .ok (.ireturn, 1) := dk_172 (dk_at dksX0_proves_3 4 rfl rfl)
theorem dX0_proves_75 : decode cX0_proves 75 = .ok (.astore 4, 2) := dk_58 4 (dk_at dksX0_proves_3 5 rfl rfl)
theorem dX0_proves_77 : decode cX0_proves 77 = .ok (.iconst 1, 1) := dk_4 (dk_at dksX0_proves_3 7 rfl rfl)
theorem dX0_proves_78 : decode cX0_proves 78 = .ok (.aload_n 0, 1) := dk_42 (dk_at dksX0_proves_3 8 rfl rfl)
theorem dX0_proves_79 : decode cX0_proves 79 = .ok (.getfield 466, 3) := dk_180 1 210 (dk_at dksX0_proves_3 9 rfl rfl)
theorem dX0_proves_82 : decode cX0_proves 82 = .ok (.iadd, 1) := dk_96 (dk_at dksX0_proves_3 12 rfl rfl)
theorem dX0_proves_83 : decode cX0_proves 83 = .ok (.ireturn, 1) := dk_172 (dk_at dksX0_proves_3 13 rfl rfl)
theorem dX0_proves_84 : decode cX0_proves 84 = .ok (.astore 4, 2) := dk_58 4 (dk_at dksX0_proves_3 14 rfl rfl)
theorem dX0_proves_86 : decode cX0_proves 86 = .ok (.iconst 1, 1) := dk_4 (dk_at dksX0_proves_3 16 rfl rfl)
theorem dX0_proves_87 : decode cX0_proves 87 = .ok (.aload_n 0, 1) := dk_42 (dk_at dksX0_proves_3 17 rfl rfl)
theorem dX0_proves_88 : decode cX0_proves 88 = .ok (.getfield 466, 3) := dk_180 1 210 (dk_at dksX0_proves_3 18 rfl rfl)
theorem dX0_proves_91 : decode cX0_proves 91 = .ok (.iadd, 1) := dk_96 (dk_at dksX0_proves_3 21 rfl rfl)
theorem dX0_proves_92 : decode cX0_proves 92 = .ok (.ireturn, 1) := dk_172 (dk_at dksX0_proves_3 22 rfl rfl)
abbrev cX0_reads : ByteArray := prog_1_method_69_code
def yX0_reads : MethodName := ⟨RX0, "reads", "(Ljava/lang/Object;I)V"⟩
def dkwX0_reads_8 : List UInt8 := [132, 7, 1, 167, 255, 193, 177]
abbrev dktX0_reads_8 : List UInt8 := dkwX0_reads_8 ++ []
def dkwX0_reads_7 : List UInt8 := [25, 6, 185, 1, 183, 1, 0, 167, 0, 15, 58, 8, 25, 6, 185, 1, 183, 1, 0, 25, 8, 191]
abbrev dktX0_reads_7 : List UInt8 := dkwX0_reads_7 ++ dktX0_reads_8
def dkwX0_reads_6 : List UInt8 := [21, 7, 5, 112, 154, 0, 7, 4, 167, 0, 4, 3, 182, 1, 176, 42, 43, 28, 4, 96, 182, 1, 216]
abbrev dktX0_reads_6 : List UInt8 := dkwX0_reads_6 ++ dktX0_reads_7
def dkwX0_reads_5 : List UInt8 := [182, 1, 172, 58, 6, 28, 54, 7, 21, 7, 28, 5, 96, 162, 0, 61, 21, 4, 153, 0, 56, 42, 29]
abbrev dktX0_reads_5 : List UInt8 := dkwX0_reads_5 ++ dktX0_reads_6
def dkwX0_reads_4 : List UInt8 := [21, 5, 154, 0, 11, 187, 1, 213, 89, 183, 1, 215, 191, 42, 89, 180, 1, 210, 4, 96, 181, 1, 210, 42]
abbrev dktX0_reads_4 : List UInt8 := dkwX0_reads_4 ++ dktX0_reads_5
def dkwX0_reads_3 : List UInt8 := [42, 180, 1, 149, 182, 1, 51, 5, 42, 180, 1, 153, 104, 164, 0, 7, 4, 167, 0, 4, 3, 54, 5]
abbrev dktX0_reads_3 : List UInt8 := dkwX0_reads_3 ++ dktX0_reads_4
def dkwX0_reads_2 : List UInt8 := [42, 180, 0, 10, 29, 42, 180, 1, 149, 182, 1, 89, 158, 0, 7, 4, 167, 0, 29, 3, 167, 0, 25, 42]
abbrev dktX0_reads_2 : List UInt8 := dkwX0_reads_2 ++ dktX0_reads_3
def dkwX0_reads_1 : List UInt8 := [153, 0, 47, 29, 3, 16, 11, 184, 0, 111, 153, 0, 33, 42, 180, 1, 149, 29, 184, 1, 0, 153, 0, 22]
abbrev dktX0_reads_1 : List UInt8 := dkwX0_reads_1 ++ dktX0_reads_2
def dkwX0_reads_0 : List UInt8 := [43, 42, 180, 1, 210, 184, 1, 136, 62, 29, 2, 159, 0, 7, 4, 167, 0, 4, 3, 54, 4, 21, 4]
abbrev dktX0_reads_0 : List UInt8 := dkwX0_reads_0 ++ dktX0_reads_1
theorem dksX0_reads_0 : cX0_reads.data.toList.drop 0 = dktX0_reads_0 := by decide +kernel
theorem dksX0_reads_1 : cX0_reads.data.toList.drop 23 = dktX0_reads_1 := dk_seg dksX0_reads_0 23 rfl rfl
theorem dksX0_reads_2 : cX0_reads.data.toList.drop 47 = dktX0_reads_2 := dk_seg dksX0_reads_1 24 rfl rfl
theorem dksX0_reads_3 : cX0_reads.data.toList.drop 71 = dktX0_reads_3 := dk_seg dksX0_reads_2 24 rfl rfl
theorem dksX0_reads_4 : cX0_reads.data.toList.drop 94 = dktX0_reads_4 := dk_seg dksX0_reads_3 23 rfl rfl
theorem dksX0_reads_5 : cX0_reads.data.toList.drop 118 = dktX0_reads_5 := dk_seg dksX0_reads_4 24 rfl rfl
theorem dksX0_reads_6 : cX0_reads.data.toList.drop 141 = dktX0_reads_6 := dk_seg dksX0_reads_5 23 rfl rfl
theorem dksX0_reads_7 : cX0_reads.data.toList.drop 164 = dktX0_reads_7 := dk_seg dksX0_reads_6 23 rfl rfl
theorem dksX0_reads_8 : cX0_reads.data.toList.drop 186 = dktX0_reads_8 := dk_seg dksX0_reads_7 22 rfl rfl
theorem dX0_reads_0 : decode cX0_reads 0 = .ok (.aload_n 1, 1) := dk_43 (dk_at dksX0_reads_0 0 rfl rfl)
theorem dX0_reads_1 : decode cX0_reads 1 = .ok (.aload_n 0, 1) := dk_42 (dk_at dksX0_reads_0 1 rfl rfl)
theorem dX0_reads_2 : decode cX0_reads 2 = .ok (.getfield 466, 3) := dk_180 1 210 (dk_at dksX0_reads_0 2 rfl rfl)
theorem dX0_reads_5 : decode cX0_reads 5 = .ok (.invokestatic 392, 3) := dk_184 1 136 (dk_at dksX0_reads_0 5 rfl rfl)
theorem dX0_reads_8 : decode cX0_reads 8 = .ok (.istore_n 3, 1) := dk_62 (dk_at dksX0_reads_0 8 rfl rfl)
theorem dX0_reads_9 : decode cX0_reads 9 = .ok (.iload_n 3, 1) := dk_29 (dk_at dksX0_reads_0 9 rfl rfl)
theorem dX0_reads_10 : decode cX0_reads 10 = .ok (.iconst (-1), 1) := dk_2 (dk_at dksX0_reads_0 10 rfl rfl)
theorem dX0_reads_11 : decode cX0_reads 11 = .ok (.if_icmp .eq 7, 3) := dk_159 0 7 (dk_at dksX0_reads_0 11 rfl rfl)
theorem dX0_reads_14 : decode cX0_reads 14 = .ok (.iconst 1, 1) := dk_4 (dk_at dksX0_reads_0 14 rfl rfl)
theorem dX0_reads_15 : decode cX0_reads 15 = .ok (.goto 4, 3) := dk_167 0 4 (dk_at dksX0_reads_0 15 rfl rfl)
theorem dX0_reads_18 : decode cX0_reads 18 = .ok (.iconst 0, 1) := dk_3 (dk_at dksX0_reads_0 18 rfl rfl)
theorem dX0_reads_19 : decode cX0_reads 19 = .ok (.istore 4, 2) := dk_54 4 (dk_at dksX0_reads_0 19 rfl rfl)
theorem dX0_reads_21 : decode cX0_reads 21 = .ok (.iload 4, 2) := dk_21 4 (dk_at dksX0_reads_0 21 rfl rfl)
theorem dX0_reads_23 : decode cX0_reads 23 = .ok (.ifCond .eq 47, 3) := dk_153 0 47 (dk_at dksX0_reads_1 0 rfl rfl)
theorem dX0_reads_26 : decode cX0_reads 26 = .ok (.iload_n 3, 1) := dk_29 (dk_at dksX0_reads_1 3 rfl rfl)
theorem dX0_reads_27 : decode cX0_reads 27 = .ok (.iconst 0, 1) := dk_3 (dk_at dksX0_reads_1 4 rfl rfl)
theorem dX0_reads_28 : decode cX0_reads 28 = .ok (.bipush 11, 2) := dk_16 11 (dk_at dksX0_reads_1 5 rfl rfl)
theorem dX0_reads_30 : decode cX0_reads 30 = .ok (.invokestatic 111, 3) := dk_184 0 111 (dk_at dksX0_reads_1 7 rfl rfl)
theorem dX0_reads_33 : decode cX0_reads 33 = .ok (.ifCond .eq 33, 3) := dk_153 0 33 (dk_at dksX0_reads_1 10 rfl rfl)
theorem dX0_reads_36 : decode cX0_reads 36 = .ok (.aload_n 0, 1) := dk_42 (dk_at dksX0_reads_1 13 rfl rfl)
theorem dX0_reads_37 : decode cX0_reads 37 = .ok (.getfield 405, 3) := dk_180 1 149 (dk_at dksX0_reads_1 14 rfl rfl)
theorem dX0_reads_40 : decode cX0_reads 40 = .ok (.iload_n 3, 1) := dk_29 (dk_at dksX0_reads_1 17 rfl rfl)
theorem dX0_reads_41 : decode cX0_reads 41 = .ok (.invokestatic 256, 3) := dk_184 1 0 (dk_at dksX0_reads_1 18 rfl rfl)
theorem dX0_reads_44 : decode cX0_reads 44 = .ok (.ifCond .eq 22, 3) := dk_153 0 22 (dk_at dksX0_reads_1 21 rfl rfl)
theorem dX0_reads_47 : decode cX0_reads 47 = .ok (.aload_n 0, 1) := dk_42 (dk_at dksX0_reads_2 0 rfl rfl)
theorem dX0_reads_48 : decode cX0_reads 48 = .ok (.getfield 10, 3) := dk_180 0 10 (dk_at dksX0_reads_2 1 rfl rfl)
theorem dX0_reads_51 : decode cX0_reads 51 = .ok (.iload_n 3, 1) := dk_29 (dk_at dksX0_reads_2 4 rfl rfl)
theorem dX0_reads_52 : decode cX0_reads 52 = .ok (.aload_n 0, 1) := dk_42 (dk_at dksX0_reads_2 5 rfl rfl)
theorem dX0_reads_53 : decode cX0_reads 53 = .ok (.getfield 405, 3) := dk_180 1 149 (dk_at dksX0_reads_2 6 rfl rfl)
theorem dX0_reads_56 : decode cX0_reads 56 = .ok (.invokevirtual 345, 3) := dk_182 1 89 (dk_at dksX0_reads_2 9 rfl rfl)
theorem dX0_reads_59 : decode cX0_reads 59 = .ok (.ifCond .le 7, 3) := dk_158 0 7 (dk_at dksX0_reads_2 12 rfl rfl)
theorem dX0_reads_62 : decode cX0_reads 62 = .ok (.iconst 1, 1) := dk_4 (dk_at dksX0_reads_2 15 rfl rfl)
theorem dX0_reads_63 : decode cX0_reads 63 = .ok (.goto 29, 3) := dk_167 0 29 (dk_at dksX0_reads_2 16 rfl rfl)
theorem dX0_reads_66 : decode cX0_reads 66 = .ok (.iconst 0, 1) := dk_3 (dk_at dksX0_reads_2 19 rfl rfl)
theorem dX0_reads_67 : decode cX0_reads 67 = .ok (.goto 25, 3) := dk_167 0 25 (dk_at dksX0_reads_2 20 rfl rfl)
theorem dX0_reads_70 : decode cX0_reads 70 = .ok (.aload_n 0, 1) := dk_42 (dk_at dksX0_reads_2 23 rfl rfl)
theorem dX0_reads_71 : decode cX0_reads 71 = .ok (.aload_n 0, 1) := dk_42 (dk_at dksX0_reads_3 0 rfl rfl)
theorem dX0_reads_72 : decode cX0_reads 72 = .ok (.getfield 405, 3) := dk_180 1 149 (dk_at dksX0_reads_3 1 rfl rfl)
theorem dX0_reads_75 : decode cX0_reads 75 = .ok (.invokevirtual 307, 3) := dk_182 1 51 (dk_at dksX0_reads_3 4 rfl rfl)
theorem dX0_reads_78 : decode cX0_reads 78 = .ok (.iconst 2, 1) := dk_5 (dk_at dksX0_reads_3 7 rfl rfl)
theorem dX0_reads_79 : decode cX0_reads 79 = .ok (.aload_n 0, 1) := dk_42 (dk_at dksX0_reads_3 8 rfl rfl)
theorem dX0_reads_80 : decode cX0_reads 80 = .ok (.getfield 409, 3) := dk_180 1 153 (dk_at dksX0_reads_3 9 rfl rfl)
theorem dX0_reads_83 : decode cX0_reads 83 = .ok (.imul, 1) := dk_104 (dk_at dksX0_reads_3 12 rfl rfl)
theorem dX0_reads_84 : decode cX0_reads 84 = .ok (.if_icmp .le 7, 3) := dk_164 0 7 (dk_at dksX0_reads_3 13 rfl rfl)
theorem dX0_reads_87 : decode cX0_reads 87 = .ok (.iconst 1, 1) := dk_4 (dk_at dksX0_reads_3 16 rfl rfl)
theorem dX0_reads_88 : decode cX0_reads 88 = .ok (.goto 4, 3) := dk_167 0 4 (dk_at dksX0_reads_3 17 rfl rfl)
theorem dX0_reads_91 : decode cX0_reads 91 = .ok (.iconst 0, 1) := dk_3 (dk_at dksX0_reads_3 20 rfl rfl)
theorem dX0_reads_92 : decode cX0_reads 92 = .ok (.istore 5, 2) := dk_54 5 (dk_at dksX0_reads_3 21 rfl rfl)
theorem dX0_reads_94 : decode cX0_reads 94 = .ok (.iload 5, 2) := dk_21 5 (dk_at dksX0_reads_4 0 rfl rfl)
theorem dX0_reads_96 : decode cX0_reads 96 = .ok (.ifCond .ne 11, 3) := dk_154 0 11 (dk_at dksX0_reads_4 2 rfl rfl)
theorem dX0_reads_99 : decode cX0_reads 99 = .ok (.new 469, 3) := dk_187 1 213 (dk_at dksX0_reads_4 5 rfl rfl)
theorem dX0_reads_102 : decode cX0_reads 102 = .ok (.dup, 1) := dk_89 (dk_at dksX0_reads_4 8 rfl rfl)
theorem dX0_reads_103 : decode cX0_reads 103 = .ok (.invokespecial 471, 3) := dk_183 1 215 (dk_at dksX0_reads_4 9 rfl rfl)
theorem dX0_reads_106 : decode cX0_reads 106 = .ok (.athrow, 1) := dk_191 (dk_at dksX0_reads_4 12 rfl rfl)
theorem dX0_reads_107 : decode cX0_reads 107 = .ok (.aload_n 0, 1) := dk_42 (dk_at dksX0_reads_4 13 rfl rfl)
theorem dX0_reads_108 : decode cX0_reads 108 = .ok (.dup, 1) := dk_89 (dk_at dksX0_reads_4 14 rfl rfl)
theorem dX0_reads_109 : decode cX0_reads 109 = .ok (.getfield 466, 3) := dk_180 1 210 (dk_at dksX0_reads_4 15 rfl rfl)
theorem dX0_reads_112 : decode cX0_reads 112 = .ok (.iconst 1, 1) := dk_4 (dk_at dksX0_reads_4 18 rfl rfl)
theorem dX0_reads_113 : decode cX0_reads 113 = .ok (.iadd, 1) := dk_96 (dk_at dksX0_reads_4 19 rfl rfl)
theorem dX0_reads_114 : decode cX0_reads 114 = .ok (.putfield 466, 3) := dk_181 1 210 (dk_at dksX0_reads_4 20 rfl rfl)
theorem dX0_reads_117 : decode cX0_reads 117 = .ok (.aload_n 0, 1) := dk_42 (dk_at dksX0_reads_4 23 rfl rfl)
theorem dX0_reads_118 : decode cX0_reads 118 = .ok (.invokevirtual 428, 3) := dk_182 1 172 (dk_at dksX0_reads_5 0 rfl rfl)
theorem dX0_reads_121 : decode cX0_reads 121 = .ok (.astore 6, 2) := dk_58 6 (dk_at dksX0_reads_5 3 rfl rfl)
theorem dX0_reads_123 : decode cX0_reads 123 = .ok (.iload_n 2, 1) := dk_28 (dk_at dksX0_reads_5 5 rfl rfl)
theorem dX0_reads_124 : decode cX0_reads 124 = .ok (.istore 7, 2) := dk_54 7 (dk_at dksX0_reads_5 6 rfl rfl)
theorem dX0_reads_126 : decode cX0_reads 126 = .ok (.iload 7, 2) := dk_21 7 (dk_at dksX0_reads_5 8 rfl rfl)
theorem dX0_reads_128 : decode cX0_reads 128 = .ok (.iload_n 2, 1) := dk_28 (dk_at dksX0_reads_5 10 rfl rfl)
theorem dX0_reads_129 : decode cX0_reads 129 = .ok (.iconst 2, 1) := dk_5 (dk_at dksX0_reads_5 11 rfl rfl)
theorem dX0_reads_130 : decode cX0_reads 130 = .ok (.iadd, 1) := dk_96 (dk_at dksX0_reads_5 12 rfl rfl)
theorem dX0_reads_131 : decode cX0_reads 131 = .ok (.if_icmp .ge 61, 3) := dk_162 0 61 (dk_at dksX0_reads_5 13 rfl rfl)
theorem dX0_reads_134 : decode cX0_reads 134 = .ok (.iload 4, 2) := dk_21 4 (dk_at dksX0_reads_5 16 rfl rfl)
theorem dX0_reads_136 : decode cX0_reads 136 = .ok (.ifCond .eq 56, 3) := dk_153 0 56 (dk_at dksX0_reads_5 18 rfl rfl)
theorem dX0_reads_139 : decode cX0_reads 139 = .ok (.aload_n 0, 1) := dk_42 (dk_at dksX0_reads_5 21 rfl rfl)
theorem dX0_reads_140 : decode cX0_reads 140 = .ok (.iload_n 3, 1) := dk_29 (dk_at dksX0_reads_5 22 rfl rfl)
theorem dX0_reads_141 : decode cX0_reads 141 = .ok (.iload 7, 2) := dk_21 7 (dk_at dksX0_reads_6 0 rfl rfl)
theorem dX0_reads_143 : decode cX0_reads 143 = .ok (.iconst 2, 1) := dk_5 (dk_at dksX0_reads_6 2 rfl rfl)
theorem dX0_reads_144 : decode cX0_reads 144 = .ok (.irem, 1) := dk_112 (dk_at dksX0_reads_6 3 rfl rfl)
theorem dX0_reads_145 : decode cX0_reads 145 = .ok (.ifCond .ne 7, 3) := dk_154 0 7 (dk_at dksX0_reads_6 4 rfl rfl)
theorem dX0_reads_148 : decode cX0_reads 148 = .ok (.iconst 1, 1) := dk_4 (dk_at dksX0_reads_6 7 rfl rfl)
theorem dX0_reads_149 : decode cX0_reads 149 = .ok (.goto 4, 3) := dk_167 0 4 (dk_at dksX0_reads_6 8 rfl rfl)
theorem dX0_reads_152 : decode cX0_reads 152 = .ok (.iconst 0, 1) := dk_3 (dk_at dksX0_reads_6 11 rfl rfl)
theorem dX0_reads_153 : decode cX0_reads 153 = .ok (.invokevirtual 432, 3) := dk_182 1 176 (dk_at dksX0_reads_6 12 rfl rfl)
theorem dX0_reads_156 : decode cX0_reads 156 = .ok (.aload_n 0, 1) := dk_42 (dk_at dksX0_reads_6 15 rfl rfl)
theorem dX0_reads_157 : decode cX0_reads 157 = .ok (.aload_n 1, 1) := dk_43 (dk_at dksX0_reads_6 16 rfl rfl)
theorem dX0_reads_158 : decode cX0_reads 158 = .ok (.iload_n 2, 1) := dk_28 (dk_at dksX0_reads_6 17 rfl rfl)
theorem dX0_reads_159 : decode cX0_reads 159 = .ok (.iconst 1, 1) := dk_4 (dk_at dksX0_reads_6 18 rfl rfl)
theorem dX0_reads_160 : decode cX0_reads 160 = .ok (.iadd, 1) := dk_96 (dk_at dksX0_reads_6 19 rfl rfl)
theorem dX0_reads_161 : decode cX0_reads 161 = .ok (.invokevirtual 472, 3) := dk_182 1 216 (dk_at dksX0_reads_6 20 rfl rfl)
theorem dX0_reads_164 : decode cX0_reads 164 = .ok (.aload 6, 2) := dk_25 6 (dk_at dksX0_reads_7 0 rfl rfl)
theorem dX0_reads_166 : decode cX0_reads 166 = .ok (.invokeinterface 439 1, 5) := by decide +kernel
theorem dX0_reads_171 : decode cX0_reads 171 = .ok (.goto 15, 3) := dk_167 0 15 (dk_at dksX0_reads_7 7 rfl rfl)
theorem dX0_reads_174 : decode cX0_reads 174 = .ok (.astore 8, 2) := dk_58 8 (dk_at dksX0_reads_7 10 rfl rfl)
theorem dX0_reads_176 : decode cX0_reads 176 = .ok (.aload 6, 2) := dk_25 6 (dk_at dksX0_reads_7 12 rfl rfl)
theorem dX0_reads_178 : decode cX0_reads 178 = .ok (.invokeinterface 439 1, 5) := by decide +kernel
theorem dX0_reads_183 : decode cX0_reads 183 = .ok (.aload 8, 2) := dk_25 8 (dk_at dksX0_reads_7 19 rfl rfl)
theorem dX0_reads_185 : decode cX0_reads 185 = .ok (.athrow, 1) := dk_191 (dk_at dksX0_reads_7 21 rfl rfl)
theorem dX0_reads_186 : decode cX0_reads 186 = .ok (.iinc 7 1, 3) := dk_132 7 1 (dk_at dksX0_reads_8 0 rfl rfl)
theorem dX0_reads_189 : decode cX0_reads 189 = .ok (.goto (-63), 3) := dk_167 255 193 (dk_at dksX0_reads_8 3 rfl rfl)
theorem dX0_reads_192 : decode cX0_reads 192 = .ok (.return_, 1) := dk_177 (dk_at dksX0_reads_8 6 rfl rfl)
abbrev cX0_without : ByteArray := prog_1_method_71_code
def yX0_without : MethodName := ⟨RX0, "without", "(I)I"⟩
def dkwX0_without_1 : List UInt8 := [126, 182, 1, 77, 167, 0, 5, 16, 254, 172]
abbrev dktX0_without_1 : List UInt8 := dkwX0_without_1 ++ []
def dkwX0_without_0 : List UInt8 := [42, 180, 0, 10, 27, 182, 0, 123, 153, 0, 23, 42, 42, 180, 0, 10, 182, 0, 177, 4, 27, 120, 2, 130]
abbrev dktX0_without_0 : List UInt8 := dkwX0_without_0 ++ dktX0_without_1
theorem dksX0_without_0 : cX0_without.data.toList.drop 0 = dktX0_without_0 := by decide +kernel
theorem dksX0_without_1 : cX0_without.data.toList.drop 24 = dktX0_without_1 := dk_seg dksX0_without_0 24 rfl rfl
theorem dX0_without_0 : decode cX0_without 0 = .ok (.aload_n 0, 1) := dk_42 (dk_at dksX0_without_0 0 rfl rfl)
theorem dX0_without_1 : decode cX0_without 1 = .ok (.getfield 10, 3) := dk_180 0 10 (dk_at dksX0_without_0 1 rfl rfl)
theorem dX0_without_4 : decode cX0_without 4 = .ok (.iload_n 1, 1) := dk_27 (dk_at dksX0_without_0 4 rfl rfl)
theorem dX0_without_5 : decode cX0_without 5 = .ok (.invokevirtual 123, 3) := dk_182 0 123 (dk_at dksX0_without_0 5 rfl rfl)
theorem dX0_without_8 : decode cX0_without 8 = .ok (.ifCond .eq 23, 3) := dk_153 0 23 (dk_at dksX0_without_0 8 rfl rfl)
theorem dX0_without_11 : decode cX0_without 11 = .ok (.aload_n 0, 1) := dk_42 (dk_at dksX0_without_0 11 rfl rfl)
theorem dX0_without_12 : decode cX0_without 12 = .ok (.aload_n 0, 1) := dk_42 (dk_at dksX0_without_0 12 rfl rfl)
theorem dX0_without_13 : decode cX0_without 13 = .ok (.getfield 10, 3) := dk_180 0 10 (dk_at dksX0_without_0 13 rfl rfl)
theorem dX0_without_16 : decode cX0_without 16 = .ok (.invokevirtual 177, 3) := dk_182 0 177 (dk_at dksX0_without_0 16 rfl rfl)
theorem dX0_without_19 : decode cX0_without 19 = .ok (.iconst 1, 1) := dk_4 (dk_at dksX0_without_0 19 rfl rfl)
theorem dX0_without_20 : decode cX0_without 20 = .ok (.iload_n 1, 1) := dk_27 (dk_at dksX0_without_0 20 rfl rfl)
theorem dX0_without_21 : decode cX0_without 21 = .ok (.ishl, 1) := dk_120 (dk_at dksX0_without_0 21 rfl rfl)
theorem dX0_without_22 : decode cX0_without 22 = .ok (.iconst (-1), 1) := dk_2 (dk_at dksX0_without_0 22 rfl rfl)
theorem dX0_without_23 : decode cX0_without 23 = .ok (.ixor, 1) := dk_130 (dk_at dksX0_without_0 23 rfl rfl)
theorem dX0_without_24 : decode cX0_without 24 = .ok (.iand, 1) := dk_126 (dk_at dksX0_without_1 0 rfl rfl)
theorem dX0_without_25 : decode cX0_without 25 = .ok (.invokevirtual 333, 3) := dk_182 1 77 (dk_at dksX0_without_1 1 rfl rfl)
theorem dX0_without_28 : decode cX0_without 28 = .ok (.goto 5, 3) := dk_167 0 5 (dk_at dksX0_without_1 4 rfl rfl)
theorem dX0_without_31 : decode cX0_without 31 = .ok (.bipush (-2), 2) := dk_16 254 (dk_at dksX0_without_1 7 rfl rfl)
theorem dX0_without_33 : decode cX0_without 33 = .ok (.ireturn, 1) := dk_172 (dk_at dksX0_without_1 9 rfl rfl)
abbrev cX0_cut : ByteArray := prog_1_method_73_code
def yX0_cut : MethodName := ⟨RX0, "cut", "(I)I"⟩
def dkwX0_cut_1 : List UInt8 := [180, 1, 222, 167, 0, 4, 28, 172]
abbrev dktX0_cut_1 : List UInt8 := dkwX0_cut_1 ++ []
def dkwX0_cut_0 : List UInt8 := [27, 3, 4, 184, 0, 111, 154, 0, 6, 16, 254, 172, 42, 4, 182, 1, 231, 61, 27, 154, 0, 10, 42]
abbrev dktX0_cut_0 : List UInt8 := dkwX0_cut_0 ++ dktX0_cut_1
theorem dksX0_cut_0 : cX0_cut.data.toList.drop 0 = dktX0_cut_0 := by decide +kernel
theorem dksX0_cut_1 : cX0_cut.data.toList.drop 23 = dktX0_cut_1 := dk_seg dksX0_cut_0 23 rfl rfl
theorem dX0_cut_0 : decode cX0_cut 0 = .ok (.iload_n 1, 1) := dk_27 (dk_at dksX0_cut_0 0 rfl rfl)
theorem dX0_cut_1 : decode cX0_cut 1 = .ok (.iconst 0, 1) := dk_3 (dk_at dksX0_cut_0 1 rfl rfl)
theorem dX0_cut_2 : decode cX0_cut 2 = .ok (.iconst 1, 1) := dk_4 (dk_at dksX0_cut_0 2 rfl rfl)
theorem dX0_cut_3 : decode cX0_cut 3 = .ok (.invokestatic 111, 3) := dk_184 0 111 (dk_at dksX0_cut_0 3 rfl rfl)
theorem dX0_cut_6 : decode cX0_cut 6 = .ok (.ifCond .ne 6, 3) := dk_154 0 6 (dk_at dksX0_cut_0 6 rfl rfl)
theorem dX0_cut_9 : decode cX0_cut 9 = .ok (.bipush (-2), 2) := dk_16 254 (dk_at dksX0_cut_0 9 rfl rfl)
theorem dX0_cut_11 : decode cX0_cut 11 = .ok (.ireturn, 1) := dk_172 (dk_at dksX0_cut_0 11 rfl rfl)
theorem dX0_cut_12 : decode cX0_cut 12 = .ok (.aload_n 0, 1) := dk_42 (dk_at dksX0_cut_0 12 rfl rfl)
theorem dX0_cut_13 : decode cX0_cut 13 = .ok (.iconst 1, 1) := dk_4 (dk_at dksX0_cut_0 13 rfl rfl)
theorem dX0_cut_14 : decode cX0_cut 14 = .ok (.invokevirtual 487, 3) := dk_182 1 231 (dk_at dksX0_cut_0 14 rfl rfl)
theorem dX0_cut_17 : decode cX0_cut 17 = .ok (.istore_n 2, 1) := dk_61 (dk_at dksX0_cut_0 17 rfl rfl)
theorem dX0_cut_18 : decode cX0_cut 18 = .ok (.iload_n 1, 1) := dk_27 (dk_at dksX0_cut_0 18 rfl rfl)
theorem dX0_cut_19 : decode cX0_cut 19 = .ok (.ifCond .ne 10, 3) := dk_154 0 10 (dk_at dksX0_cut_0 19 rfl rfl)
theorem dX0_cut_22 : decode cX0_cut 22 = .ok (.aload_n 0, 1) := dk_42 (dk_at dksX0_cut_0 22 rfl rfl)
theorem dX0_cut_23 : decode cX0_cut 23 = .ok (.getfield 478, 3) := dk_180 1 222 (dk_at dksX0_cut_1 0 rfl rfl)
theorem dX0_cut_26 : decode cX0_cut 26 = .ok (.goto 4, 3) := dk_167 0 4 (dk_at dksX0_cut_1 3 rfl rfl)
theorem dX0_cut_29 : decode cX0_cut 29 = .ok (.iload_n 2, 1) := dk_28 (dk_at dksX0_cut_1 6 rfl rfl)
theorem dX0_cut_30 : decode cX0_cut 30 = .ok (.ireturn, 1) := dk_172 (dk_at dksX0_cut_1 7 rfl rfl)
abbrev cX0_changing : ByteArray := prog_1_method_72_code
def yX0_changing : MethodName := ⟨RX0, "changing", "(Z)I"⟩
def dkwX0_changing_8 : List UInt8 := [132, 5, 1, 167, 255, 109, 132, 4, 1, 167, 255, 85, 29, 172]
abbrev dktX0_changing_8 : List UInt8 := dkwX0_changing_8 ++ []
def dkwX0_changing_7 : List UInt8 := [21, 4, 21, 5, 183, 1, 227, 182, 1, 228, 167, 0, 7, 42, 180, 1, 222, 181, 1, 222, 132, 3, 1]
abbrev dktX0_changing_7 : List UInt8 := dkwX0_changing_7 ++ dktX0_changing_8
def dkwX0_changing_6 : List UInt8 := [180, 0, 10, 21, 4, 21, 5, 27, 182, 0, 134, 25, 6, 191, 42, 29, 154, 0, 20, 187, 1, 225, 89]
abbrev dktX0_changing_6 : List UInt8 := dkwX0_changing_6 ++ dktX0_changing_7
def dkwX0_changing_5 : List UInt8 := [182, 0, 134, 167, 0, 67, 42, 180, 0, 10, 21, 4, 21, 5, 27, 182, 0, 134, 167, 0, 20, 58, 6, 42]
abbrev dktX0_changing_5 : List UInt8 := dkwX0_changing_5 ++ dktX0_changing_6
def dkwX0_changing_4 : List UInt8 := [180, 0, 10, 182, 0, 177, 182, 1, 77, 28, 160, 0, 18, 42, 180, 0, 10, 21, 4, 21, 5, 27]
abbrev dktX0_changing_4 : List UInt8 := dkwX0_changing_4 ++ dktX0_changing_5
def dkwX0_changing_3 : List UInt8 := [42, 180, 0, 10, 21, 4, 21, 5, 27, 154, 0, 7, 4, 167, 0, 4, 3, 182, 0, 134, 42, 42]
abbrev dktX0_changing_3 : List UInt8 := dkwX0_changing_3 ++ dktX0_changing_4
def dkwX0_changing_2 : List UInt8 := [180, 0, 115, 162, 0, 141, 42, 180, 0, 10, 21, 4, 21, 5, 182, 0, 131, 27, 159, 0, 6, 167, 0, 117]
abbrev dktX0_changing_2 : List UInt8 := dkwX0_changing_2 ++ dktX0_changing_3
def dkwX0_changing_1 : List UInt8 := [42, 180, 0, 10, 180, 0, 115, 162, 0, 165, 21, 4, 4, 96, 54, 5, 21, 5, 42, 180, 0, 10]
abbrev dktX0_changing_1 : List UInt8 := dkwX0_changing_1 ++ dktX0_changing_2
def dkwX0_changing_0 : List UInt8 := [42, 42, 180, 0, 10, 182, 0, 177, 182, 1, 77, 61, 3, 62, 42, 2, 181, 1, 222, 3, 54, 4, 21, 4]
abbrev dktX0_changing_0 : List UInt8 := dkwX0_changing_0 ++ dktX0_changing_1
theorem dksX0_changing_0 : cX0_changing.data.toList.drop 0 = dktX0_changing_0 := by decide +kernel
theorem dksX0_changing_1 : cX0_changing.data.toList.drop 24 = dktX0_changing_1 := dk_seg dksX0_changing_0 24 rfl rfl
theorem dksX0_changing_2 : cX0_changing.data.toList.drop 46 = dktX0_changing_2 := dk_seg dksX0_changing_1 22 rfl rfl
theorem dksX0_changing_3 : cX0_changing.data.toList.drop 70 = dktX0_changing_3 := dk_seg dksX0_changing_2 24 rfl rfl
theorem dksX0_changing_4 : cX0_changing.data.toList.drop 92 = dktX0_changing_4 := dk_seg dksX0_changing_3 22 rfl rfl
theorem dksX0_changing_5 : cX0_changing.data.toList.drop 114 = dktX0_changing_5 := dk_seg dksX0_changing_4 22 rfl rfl
theorem dksX0_changing_6 : cX0_changing.data.toList.drop 138 = dktX0_changing_6 := dk_seg dksX0_changing_5 24 rfl rfl
theorem dksX0_changing_7 : cX0_changing.data.toList.drop 161 = dktX0_changing_7 := dk_seg dksX0_changing_6 23 rfl rfl
theorem dksX0_changing_8 : cX0_changing.data.toList.drop 184 = dktX0_changing_8 := dk_seg dksX0_changing_7 23 rfl rfl
theorem dX0_changing_0 : decode cX0_changing 0 = .ok (.aload_n 0, 1) := dk_42 (dk_at dksX0_changing_0 0 rfl rfl)
theorem dX0_changing_1 : decode cX0_changing 1 = .ok (.aload_n 0, 1) := dk_42 (dk_at dksX0_changing_0 1 rfl rfl)
theorem dX0_changing_2 : decode cX0_changing 2 = .ok (.getfield 10, 3) := dk_180 0 10 (dk_at dksX0_changing_0 2 rfl rfl)
theorem dX0_changing_5 : decode cX0_changing 5 = .ok (.invokevirtual 177, 3) := dk_182 0 177 (dk_at dksX0_changing_0 5 rfl rfl)
theorem dX0_changing_8 : decode cX0_changing 8 = .ok (.invokevirtual 333, 3) := dk_182 1 77 (dk_at dksX0_changing_0 8 rfl rfl)
theorem dX0_changing_11 : decode cX0_changing 11 = .ok (.istore_n 2, 1) := dk_61 (dk_at dksX0_changing_0 11 rfl rfl)
theorem dX0_changing_12 : decode cX0_changing 12 = .ok (.iconst 0, 1) := dk_3 (dk_at dksX0_changing_0 12 rfl rfl)
theorem dX0_changing_13 : decode cX0_changing 13 = .ok (.istore_n 3, 1) := dk_62 (dk_at dksX0_changing_0 13 rfl rfl)
theorem dX0_changing_14 : decode cX0_changing 14 = .ok (.aload_n 0, 1) := dk_42 (dk_at dksX0_changing_0 14 rfl rfl)
theorem dX0_changing_15 : decode cX0_changing 15 = .ok (.iconst (-1), 1) := dk_2 (dk_at dksX0_changing_0 15 rfl rfl)
theorem dX0_changing_16 : decode cX0_changing 16 = .ok (.putfield 478, 3) := dk_181 1 222 (dk_at dksX0_changing_0 16 rfl rfl)
theorem dX0_changing_19 : decode cX0_changing 19 = .ok (.iconst 0, 1) := dk_3 (dk_at dksX0_changing_0 19 rfl rfl)
theorem dX0_changing_20 : decode cX0_changing 20 = .ok (.istore 4, 2) := dk_54 4 (dk_at dksX0_changing_0 20 rfl rfl)
theorem dX0_changing_22 : decode cX0_changing 22 = .ok (.iload 4, 2) := dk_21 4 (dk_at dksX0_changing_0 22 rfl rfl)
theorem dX0_changing_24 : decode cX0_changing 24 = .ok (.aload_n 0, 1) := dk_42 (dk_at dksX0_changing_1 0 rfl rfl)
theorem dX0_changing_25 : decode cX0_changing 25 = .ok (.getfield 10, 3) := dk_180 0 10 (dk_at dksX0_changing_1 1 rfl rfl)
theorem dX0_changing_28 : decode cX0_changing 28 = .ok (.getfield 115, 3) := dk_180 0 115 (dk_at dksX0_changing_1 4 rfl rfl)
theorem dX0_changing_31 : decode cX0_changing 31 = .ok (.if_icmp .ge 165, 3) := dk_162 0 165 (dk_at dksX0_changing_1 7 rfl rfl)
theorem dX0_changing_34 : decode cX0_changing 34 = .ok (.iload 4, 2) := dk_21 4 (dk_at dksX0_changing_1 10 rfl rfl)
theorem dX0_changing_36 : decode cX0_changing 36 = .ok (.iconst 1, 1) := dk_4 (dk_at dksX0_changing_1 12 rfl rfl)
theorem dX0_changing_37 : decode cX0_changing 37 = .ok (.iadd, 1) := dk_96 (dk_at dksX0_changing_1 13 rfl rfl)
theorem dX0_changing_38 : decode cX0_changing 38 = .ok (.istore 5, 2) := dk_54 5 (dk_at dksX0_changing_1 14 rfl rfl)
theorem dX0_changing_40 : decode cX0_changing 40 = .ok (.iload 5, 2) := dk_21 5 (dk_at dksX0_changing_1 16 rfl rfl)
theorem dX0_changing_42 : decode cX0_changing 42 = .ok (.aload_n 0, 1) := dk_42 (dk_at dksX0_changing_1 18 rfl rfl)
theorem dX0_changing_43 : decode cX0_changing 43 = .ok (.getfield 10, 3) := dk_180 0 10 (dk_at dksX0_changing_1 19 rfl rfl)
theorem dX0_changing_46 : decode cX0_changing 46 = .ok (.getfield 115, 3) := dk_180 0 115 (dk_at dksX0_changing_2 0 rfl rfl)
theorem dX0_changing_49 : decode cX0_changing 49 = .ok (.if_icmp .ge 141, 3) := dk_162 0 141 (dk_at dksX0_changing_2 3 rfl rfl)
theorem dX0_changing_52 : decode cX0_changing 52 = .ok (.aload_n 0, 1) := dk_42 (dk_at dksX0_changing_2 6 rfl rfl)
theorem dX0_changing_53 : decode cX0_changing 53 = .ok (.getfield 10, 3) := dk_180 0 10 (dk_at dksX0_changing_2 7 rfl rfl)
theorem dX0_changing_56 : decode cX0_changing 56 = .ok (.iload 4, 2) := dk_21 4 (dk_at dksX0_changing_2 10 rfl rfl)
theorem dX0_changing_58 : decode cX0_changing 58 = .ok (.iload 5, 2) := dk_21 5 (dk_at dksX0_changing_2 12 rfl rfl)
theorem dX0_changing_60 : decode cX0_changing 60 = .ok (.invokevirtual 131, 3) := dk_182 0 131 (dk_at dksX0_changing_2 14 rfl rfl)
theorem dX0_changing_63 : decode cX0_changing 63 = .ok (.iload_n 1, 1) := dk_27 (dk_at dksX0_changing_2 17 rfl rfl)
theorem dX0_changing_64 : decode cX0_changing 64 = .ok (.if_icmp .eq 6, 3) := dk_159 0 6 (dk_at dksX0_changing_2 18 rfl rfl)
theorem dX0_changing_67 : decode cX0_changing 67 = .ok (.goto 117, 3) := dk_167 0 117 (dk_at dksX0_changing_2 21 rfl rfl)
theorem dX0_changing_70 : decode cX0_changing 70 = .ok (.aload_n 0, 1) := dk_42 (dk_at dksX0_changing_3 0 rfl rfl)
theorem dX0_changing_71 : decode cX0_changing 71 = .ok (.getfield 10, 3) := dk_180 0 10 (dk_at dksX0_changing_3 1 rfl rfl)
theorem dX0_changing_74 : decode cX0_changing 74 = .ok (.iload 4, 2) := dk_21 4 (dk_at dksX0_changing_3 4 rfl rfl)
theorem dX0_changing_76 : decode cX0_changing 76 = .ok (.iload 5, 2) := dk_21 5 (dk_at dksX0_changing_3 6 rfl rfl)
theorem dX0_changing_78 : decode cX0_changing 78 = .ok (.iload_n 1, 1) := dk_27 (dk_at dksX0_changing_3 8 rfl rfl)
theorem dX0_changing_79 : decode cX0_changing 79 = .ok (.ifCond .ne 7, 3) := dk_154 0 7 (dk_at dksX0_changing_3 9 rfl rfl)
theorem dX0_changing_82 : decode cX0_changing 82 = .ok (.iconst 1, 1) := dk_4 (dk_at dksX0_changing_3 12 rfl rfl)
theorem dX0_changing_83 : decode cX0_changing 83 = .ok (.goto 4, 3) := dk_167 0 4 (dk_at dksX0_changing_3 13 rfl rfl)
theorem dX0_changing_86 : decode cX0_changing 86 = .ok (.iconst 0, 1) := dk_3 (dk_at dksX0_changing_3 16 rfl rfl)
theorem dX0_changing_87 : decode cX0_changing 87 = .ok (.invokevirtual 134, 3) := dk_182 0 134 (dk_at dksX0_changing_3 17 rfl rfl)
theorem dX0_changing_90 : decode cX0_changing 90 = .ok (.aload_n 0, 1) := dk_42 (dk_at dksX0_changing_3 20 rfl rfl)
theorem dX0_changing_91 : decode cX0_changing 91 = .ok (.aload_n 0, 1) := dk_42 (dk_at dksX0_changing_3 21 rfl rfl)
theorem dX0_changing_92 : decode cX0_changing 92 = .ok (.getfield 10, 3) := dk_180 0 10 (dk_at dksX0_changing_4 0 rfl rfl)
theorem dX0_changing_95 : decode cX0_changing 95 = .ok (.invokevirtual 177, 3) := dk_182 0 177 (dk_at dksX0_changing_4 3 rfl rfl)
theorem dX0_changing_98 : decode cX0_changing 98 = .ok (.invokevirtual 333, 3) := dk_182 1 77 (dk_at dksX0_changing_4 6 rfl rfl)
theorem dX0_changing_101 : decode cX0_changing 101 = .ok (.iload_n 2, 1) := dk_28 (dk_at dksX0_changing_4 9 rfl rfl)
theorem dX0_changing_102 : decode cX0_changing 102 = .ok (.if_icmp .ne 18, 3) := dk_160 0 18 (dk_at dksX0_changing_4 10 rfl rfl)
theorem dX0_changing_105 : decode cX0_changing 105 = .ok (.aload_n 0, 1) := dk_42 (dk_at dksX0_changing_4 13 rfl rfl)
theorem dX0_changing_106 : decode cX0_changing 106 = .ok (.getfield 10, 3) := dk_180 0 10 (dk_at dksX0_changing_4 14 rfl rfl)
theorem dX0_changing_109 : decode cX0_changing 109 = .ok (.iload 4, 2) := dk_21 4 (dk_at dksX0_changing_4 17 rfl rfl)
theorem dX0_changing_111 : decode cX0_changing 111 = .ok (.iload 5, 2) := dk_21 5 (dk_at dksX0_changing_4 19 rfl rfl)
theorem dX0_changing_113 : decode cX0_changing 113 = .ok (.iload_n 1, 1) := dk_27 (dk_at dksX0_changing_4 21 rfl rfl)
theorem dX0_changing_114 : decode cX0_changing 114 = .ok (.invokevirtual 134, 3) := dk_182 0 134 (dk_at dksX0_changing_5 0 rfl rfl)
theorem dX0_changing_117 : decode cX0_changing 117 = .ok (.goto 67, 3) := dk_167 0 67 (dk_at dksX0_changing_5 3 rfl rfl)
theorem dX0_changing_120 : decode cX0_changing 120 = .ok (.aload_n 0, 1) := dk_42 (dk_at dksX0_changing_5 6 rfl rfl)
theorem dX0_changing_121 : decode cX0_changing 121 = .ok (.getfield 10, 3) := dk_180 0 10 (dk_at dksX0_changing_5 7 rfl rfl)
theorem dX0_changing_124 : decode cX0_changing 124 = .ok (.iload 4, 2) := dk_21 4 (dk_at dksX0_changing_5 10 rfl rfl)
theorem dX0_changing_126 : decode cX0_changing 126 = .ok (.iload 5, 2) := dk_21 5 (dk_at dksX0_changing_5 12 rfl rfl)
theorem dX0_changing_128 : decode cX0_changing 128 = .ok (.iload_n 1, 1) := dk_27 (dk_at dksX0_changing_5 14 rfl rfl)
theorem dX0_changing_129 : decode cX0_changing 129 = .ok (.invokevirtual 134, 3) := dk_182 0 134 (dk_at dksX0_changing_5 15 rfl rfl)
theorem dX0_changing_132 : decode cX0_changing 132 = .ok (.goto 20, 3) := dk_167 0 20 (dk_at dksX0_changing_5 18 rfl rfl)
theorem dX0_changing_135 : decode cX0_changing 135 = .ok (.astore 6, 2) := dk_58 6 (dk_at dksX0_changing_5 21 rfl rfl)
theorem dX0_changing_137 : decode cX0_changing 137 = .ok (.aload_n 0, 1) := dk_42 (dk_at dksX0_changing_5 23 rfl rfl)
theorem dX0_changing_138 : decode cX0_changing 138 = .ok (.getfield 10, 3) := dk_180 0 10 (dk_at dksX0_changing_6 0 rfl rfl)
theorem dX0_changing_141 : decode cX0_changing 141 = .ok (.iload 4, 2) := dk_21 4 (dk_at dksX0_changing_6 3 rfl rfl)
theorem dX0_changing_143 : decode cX0_changing 143 = .ok (.iload 5, 2) := dk_21 5 (dk_at dksX0_changing_6 5 rfl rfl)
theorem dX0_changing_145 : decode cX0_changing 145 = .ok (.iload_n 1, 1) := dk_27 (dk_at dksX0_changing_6 7 rfl rfl)
theorem dX0_changing_146 : decode cX0_changing 146 = .ok (.invokevirtual 134, 3) := dk_182 0 134 (dk_at dksX0_changing_6 8 rfl rfl)
theorem dX0_changing_149 : decode cX0_changing 149 = .ok (.aload 6, 2) := dk_25 6 (dk_at dksX0_changing_6 11 rfl rfl)
theorem dX0_changing_151 : decode cX0_changing 151 = .ok (.athrow, 1) := dk_191 (dk_at dksX0_changing_6 13 rfl rfl)
theorem dX0_changing_152 : decode cX0_changing 152 = .ok (.aload_n 0, 1) := dk_42 (dk_at dksX0_changing_6 14 rfl rfl)
theorem dX0_changing_153 : decode cX0_changing 153 = .ok (.iload_n 3, 1) := dk_29 (dk_at dksX0_changing_6 15 rfl rfl)
theorem dX0_changing_154 : decode cX0_changing 154 = .ok (.ifCond .ne 20, 3) := dk_154 0 20 (dk_at dksX0_changing_6 16 rfl rfl)
theorem dX0_changing_157 : decode cX0_changing 157 = .ok (.new 481, 3) := dk_187 1 225 (dk_at dksX0_changing_6 19 rfl rfl)
theorem dX0_changing_160 : decode cX0_changing 160 = .ok (.dup, 1) := dk_89 (dk_at dksX0_changing_6 22 rfl rfl)
theorem dX0_changing_161 : decode cX0_changing 161 = .ok (.iload 4, 2) := dk_21 4 (dk_at dksX0_changing_7 0 rfl rfl)
theorem dX0_changing_163 : decode cX0_changing 163 = .ok (.iload 5, 2) := dk_21 5 (dk_at dksX0_changing_7 2 rfl rfl)
theorem dX0_changing_165 : decode cX0_changing 165 = .ok (.invokespecial 483, 3) := dk_183 1 227 (dk_at dksX0_changing_7 4 rfl rfl)
theorem dX0_changing_168 : decode cX0_changing 168 = .ok (.invokevirtual 484, 3) := dk_182 1 228 (dk_at dksX0_changing_7 7 rfl rfl)
theorem dX0_changing_171 : decode cX0_changing 171 = .ok (.goto 7, 3) := dk_167 0 7 (dk_at dksX0_changing_7 10 rfl rfl)
theorem dX0_changing_174 : decode cX0_changing 174 = .ok (.aload_n 0, 1) := dk_42 (dk_at dksX0_changing_7 13 rfl rfl)
theorem dX0_changing_175 : decode cX0_changing 175 = .ok (.getfield 478, 3) := dk_180 1 222 (dk_at dksX0_changing_7 14 rfl rfl)
theorem dX0_changing_178 : decode cX0_changing 178 = .ok (.putfield 478, 3) := dk_181 1 222 (dk_at dksX0_changing_7 17 rfl rfl)
theorem dX0_changing_181 : decode cX0_changing 181 = .ok (.iinc 3 1, 3) := dk_132 3 1 (dk_at dksX0_changing_7 20 rfl rfl)
theorem dX0_changing_184 : decode cX0_changing 184 = .ok (.iinc 5 1, 3) := dk_132 5 1 (dk_at dksX0_changing_8 0 rfl rfl)
theorem dX0_changing_187 : decode cX0_changing 187 = .ok (.goto (-147), 3) := dk_167 255 109 (dk_at dksX0_changing_8 3 rfl rfl)
theorem dX0_changing_190 : decode cX0_changing 190 = .ok (.iinc 4 1, 3) := dk_132 4 1 (dk_at dksX0_changing_8 6 rfl rfl)
theorem dX0_changing_193 : decode cX0_changing 193 = .ok (.goto (-171), 3) := dk_167 255 85 (dk_at dksX0_changing_8 9 rfl rfl)
theorem dX0_changing_196 : decode cX0_changing 196 = .ok (.iload_n 3, 1) := dk_29 (dk_at dksX0_changing_8 12 rfl rfl)
theorem dX0_changing_197 : decode cX0_changing 197 = .ok (.ireturn, 1) := dk_172 (dk_at dksX0_changing_8 13 rfl rfl)
abbrev cX0_joins : ByteArray := prog_1_method_74_code
def yX0_joins : MethodName := ⟨RX0, "joins", "(I)I"⟩
def dkwX0_joins_1 : List UInt8 := [180, 1, 222, 167, 0, 4, 28, 172]
abbrev dktX0_joins_1 : List UInt8 := dkwX0_joins_1 ++ []
def dkwX0_joins_0 : List UInt8 := [27, 3, 4, 184, 0, 111, 154, 0, 6, 16, 254, 172, 42, 3, 182, 1, 231, 61, 27, 154, 0, 10, 42]
abbrev dktX0_joins_0 : List UInt8 := dkwX0_joins_0 ++ dktX0_joins_1
theorem dksX0_joins_0 : cX0_joins.data.toList.drop 0 = dktX0_joins_0 := by decide +kernel
theorem dksX0_joins_1 : cX0_joins.data.toList.drop 23 = dktX0_joins_1 := dk_seg dksX0_joins_0 23 rfl rfl
theorem dX0_joins_0 : decode cX0_joins 0 = .ok (.iload_n 1, 1) := dk_27 (dk_at dksX0_joins_0 0 rfl rfl)
theorem dX0_joins_1 : decode cX0_joins 1 = .ok (.iconst 0, 1) := dk_3 (dk_at dksX0_joins_0 1 rfl rfl)
theorem dX0_joins_2 : decode cX0_joins 2 = .ok (.iconst 1, 1) := dk_4 (dk_at dksX0_joins_0 2 rfl rfl)
theorem dX0_joins_3 : decode cX0_joins 3 = .ok (.invokestatic 111, 3) := dk_184 0 111 (dk_at dksX0_joins_0 3 rfl rfl)
theorem dX0_joins_6 : decode cX0_joins 6 = .ok (.ifCond .ne 6, 3) := dk_154 0 6 (dk_at dksX0_joins_0 6 rfl rfl)
theorem dX0_joins_9 : decode cX0_joins 9 = .ok (.bipush (-2), 2) := dk_16 254 (dk_at dksX0_joins_0 9 rfl rfl)
theorem dX0_joins_11 : decode cX0_joins 11 = .ok (.ireturn, 1) := dk_172 (dk_at dksX0_joins_0 11 rfl rfl)
theorem dX0_joins_12 : decode cX0_joins 12 = .ok (.aload_n 0, 1) := dk_42 (dk_at dksX0_joins_0 12 rfl rfl)
theorem dX0_joins_13 : decode cX0_joins 13 = .ok (.iconst 0, 1) := dk_3 (dk_at dksX0_joins_0 13 rfl rfl)
theorem dX0_joins_14 : decode cX0_joins 14 = .ok (.invokevirtual 487, 3) := dk_182 1 231 (dk_at dksX0_joins_0 14 rfl rfl)
theorem dX0_joins_17 : decode cX0_joins 17 = .ok (.istore_n 2, 1) := dk_61 (dk_at dksX0_joins_0 17 rfl rfl)
theorem dX0_joins_18 : decode cX0_joins 18 = .ok (.iload_n 1, 1) := dk_27 (dk_at dksX0_joins_0 18 rfl rfl)
theorem dX0_joins_19 : decode cX0_joins 19 = .ok (.ifCond .ne 10, 3) := dk_154 0 10 (dk_at dksX0_joins_0 19 rfl rfl)
theorem dX0_joins_22 : decode cX0_joins 22 = .ok (.aload_n 0, 1) := dk_42 (dk_at dksX0_joins_0 22 rfl rfl)
theorem dX0_joins_23 : decode cX0_joins 23 = .ok (.getfield 478, 3) := dk_180 1 222 (dk_at dksX0_joins_1 0 rfl rfl)
theorem dX0_joins_26 : decode cX0_joins 26 = .ok (.goto 4, 3) := dk_167 0 4 (dk_at dksX0_joins_1 3 rfl rfl)
theorem dX0_joins_29 : decode cX0_joins 29 = .ok (.iload_n 2, 1) := dk_28 (dk_at dksX0_joins_1 6 rfl rfl)
theorem dX0_joins_30 : decode cX0_joins 30 = .ok (.ireturn, 1) := dk_172 (dk_at dksX0_joins_1 7 rfl rfl)
abbrev cX0_pays : ByteArray := prog_1_method_77_code
def yX0_pays : MethodName := ⟨RX0, "pays", "(I)I"⟩
def dkwX0_pays_3 : List UInt8 := [27, 4, 160, 0, 10, 42, 182, 2, 15, 167, 0, 14, 42, 180, 0, 10, 42, 182, 2, 15, 182, 0, 189, 172]
abbrev dktX0_pays_3 : List UInt8 := dkwX0_pays_3 ++ []
def dkwX0_pays_2 : List UInt8 := [192, 0, 83, 182, 2, 12, 54, 4, 28, 21, 4, 96, 61, 167, 255, 228, 27, 154, 0, 7, 28, 167, 0, 26]
abbrev dktX0_pays_2 : List UInt8 := dkwX0_pays_2 ++ dktX0_pays_3
def dkwX0_pays_1 : List UInt8 := [182, 1, 249, 185, 1, 253, 1, 0, 78, 45, 185, 2, 3, 1, 0, 153, 0, 25, 45, 185, 2, 9, 1, 0]
abbrev dktX0_pays_1 : List UInt8 := dkwX0_pays_1 ++ dktX0_pays_2
def dkwX0_pays_0 : List UInt8 := [27, 3, 5, 184, 0, 111, 154, 0, 6, 16, 254, 172, 42, 182, 1, 246, 3, 61, 42, 180, 0, 62]
abbrev dktX0_pays_0 : List UInt8 := dkwX0_pays_0 ++ dktX0_pays_1
theorem dksX0_pays_0 : cX0_pays.data.toList.drop 0 = dktX0_pays_0 := by decide +kernel
theorem dksX0_pays_1 : cX0_pays.data.toList.drop 22 = dktX0_pays_1 := dk_seg dksX0_pays_0 22 rfl rfl
theorem dksX0_pays_2 : cX0_pays.data.toList.drop 46 = dktX0_pays_2 := dk_seg dksX0_pays_1 24 rfl rfl
theorem dksX0_pays_3 : cX0_pays.data.toList.drop 70 = dktX0_pays_3 := dk_seg dksX0_pays_2 24 rfl rfl
theorem dX0_pays_0 : decode cX0_pays 0 = .ok (.iload_n 1, 1) := dk_27 (dk_at dksX0_pays_0 0 rfl rfl)
theorem dX0_pays_1 : decode cX0_pays 1 = .ok (.iconst 0, 1) := dk_3 (dk_at dksX0_pays_0 1 rfl rfl)
theorem dX0_pays_2 : decode cX0_pays 2 = .ok (.iconst 2, 1) := dk_5 (dk_at dksX0_pays_0 2 rfl rfl)
theorem dX0_pays_3 : decode cX0_pays 3 = .ok (.invokestatic 111, 3) := dk_184 0 111 (dk_at dksX0_pays_0 3 rfl rfl)
theorem dX0_pays_6 : decode cX0_pays 6 = .ok (.ifCond .ne 6, 3) := dk_154 0 6 (dk_at dksX0_pays_0 6 rfl rfl)
theorem dX0_pays_9 : decode cX0_pays 9 = .ok (.bipush (-2), 2) := dk_16 254 (dk_at dksX0_pays_0 9 rfl rfl)
theorem dX0_pays_11 : decode cX0_pays 11 = .ok (.ireturn, 1) := dk_172 (dk_at dksX0_pays_0 11 rfl rfl)
theorem dX0_pays_12 : decode cX0_pays 12 = .ok (.aload_n 0, 1) := dk_42 (dk_at dksX0_pays_0 12 rfl rfl)
theorem dX0_pays_13 : decode cX0_pays 13 = .ok (.invokevirtual 502, 3) := dk_182 1 246 (dk_at dksX0_pays_0 13 rfl rfl)
theorem dX0_pays_16 : decode cX0_pays 16 = .ok (.iconst 0, 1) := dk_3 (dk_at dksX0_pays_0 16 rfl rfl)
theorem dX0_pays_17 : decode cX0_pays 17 = .ok (.istore_n 2, 1) := dk_61 (dk_at dksX0_pays_0 17 rfl rfl)
theorem dX0_pays_18 : decode cX0_pays 18 = .ok (.aload_n 0, 1) := dk_42 (dk_at dksX0_pays_0 18 rfl rfl)
theorem dX0_pays_19 : decode cX0_pays 19 = .ok (.getfield 62, 3) := dk_180 0 62 (dk_at dksX0_pays_0 19 rfl rfl)
theorem dX0_pays_22 : decode cX0_pays 22 = .ok (.invokevirtual 505, 3) := dk_182 1 249 (dk_at dksX0_pays_1 0 rfl rfl)
theorem dX0_pays_25 : decode cX0_pays 25 = .ok (.invokeinterface 509 1, 5) := by decide +kernel
theorem dX0_pays_30 : decode cX0_pays 30 = .ok (.astore_n 3, 1) := dk_78 (dk_at dksX0_pays_1 8 rfl rfl)
theorem dX0_pays_31 : decode cX0_pays 31 = .ok (.aload_n 3, 1) := dk_45 (dk_at dksX0_pays_1 9 rfl rfl)
theorem dX0_pays_32 : decode cX0_pays 32 = .ok (.invokeinterface 515 1, 5) := by decide +kernel
theorem dX0_pays_37 : decode cX0_pays 37 = .ok (.ifCond .eq 25, 3) := dk_153 0 25 (dk_at dksX0_pays_1 15 rfl rfl)
theorem dX0_pays_40 : decode cX0_pays 40 = .ok (.aload_n 3, 1) := dk_45 (dk_at dksX0_pays_1 18 rfl rfl)
theorem dX0_pays_41 : decode cX0_pays 41 = .ok (.invokeinterface 521 1, 5) := by decide +kernel
theorem dX0_pays_46 : decode cX0_pays 46 = .ok (.checkcast 83, 3) := dk_192 0 83 (dk_at dksX0_pays_2 0 rfl rfl)
theorem dX0_pays_49 : decode cX0_pays 49 = .ok (.invokevirtual 524, 3) := dk_182 2 12 (dk_at dksX0_pays_2 3 rfl rfl)
theorem dX0_pays_52 : decode cX0_pays 52 = .ok (.istore 4, 2) := dk_54 4 (dk_at dksX0_pays_2 6 rfl rfl)
theorem dX0_pays_54 : decode cX0_pays 54 = .ok (.iload_n 2, 1) := dk_28 (dk_at dksX0_pays_2 8 rfl rfl)
theorem dX0_pays_55 : decode cX0_pays 55 = .ok (.iload 4, 2) := dk_21 4 (dk_at dksX0_pays_2 9 rfl rfl)
theorem dX0_pays_57 : decode cX0_pays 57 = .ok (.iadd, 1) := dk_96 (dk_at dksX0_pays_2 11 rfl rfl)
theorem dX0_pays_58 : decode cX0_pays 58 = .ok (.istore_n 2, 1) := dk_61 (dk_at dksX0_pays_2 12 rfl rfl)
theorem dX0_pays_59 : decode cX0_pays 59 = .ok (.goto (-28), 3) := dk_167 255 228 (dk_at dksX0_pays_2 13 rfl rfl)
theorem dX0_pays_62 : decode cX0_pays 62 = .ok (.iload_n 1, 1) := dk_27 (dk_at dksX0_pays_2 16 rfl rfl)
theorem dX0_pays_63 : decode cX0_pays 63 = .ok (.ifCond .ne 7, 3) := dk_154 0 7 (dk_at dksX0_pays_2 17 rfl rfl)
theorem dX0_pays_66 : decode cX0_pays 66 = .ok (.iload_n 2, 1) := dk_28 (dk_at dksX0_pays_2 20 rfl rfl)
theorem dX0_pays_67 : decode cX0_pays 67 = .ok (.goto 26, 3) := dk_167 0 26 (dk_at dksX0_pays_2 21 rfl rfl)
theorem dX0_pays_70 : decode cX0_pays 70 = .ok (.iload_n 1, 1) := dk_27 (dk_at dksX0_pays_3 0 rfl rfl)
theorem dX0_pays_71 : decode cX0_pays 71 = .ok (.iconst 1, 1) := dk_4 (dk_at dksX0_pays_3 1 rfl rfl)
theorem dX0_pays_72 : decode cX0_pays 72 = .ok (.if_icmp .ne 10, 3) := dk_160 0 10 (dk_at dksX0_pays_3 2 rfl rfl)
theorem dX0_pays_75 : decode cX0_pays 75 = .ok (.aload_n 0, 1) := dk_42 (dk_at dksX0_pays_3 5 rfl rfl)
theorem dX0_pays_76 : decode cX0_pays 76 = .ok (.invokevirtual 527, 3) := dk_182 2 15 (dk_at dksX0_pays_3 6 rfl rfl)
theorem dX0_pays_79 : decode cX0_pays 79 = .ok (.goto 14, 3) := dk_167 0 14 (dk_at dksX0_pays_3 9 rfl rfl)
theorem dX0_pays_82 : decode cX0_pays 82 = .ok (.aload_n 0, 1) := dk_42 (dk_at dksX0_pays_3 12 rfl rfl)
theorem dX0_pays_83 : decode cX0_pays 83 = .ok (.getfield 10, 3) := dk_180 0 10 (dk_at dksX0_pays_3 13 rfl rfl)
theorem dX0_pays_86 : decode cX0_pays 86 = .ok (.aload_n 0, 1) := dk_42 (dk_at dksX0_pays_3 16 rfl rfl)
theorem dX0_pays_87 : decode cX0_pays 87 = .ok (.invokevirtual 527, 3) := dk_182 2 15 (dk_at dksX0_pays_3 17 rfl rfl)
theorem dX0_pays_90 : decode cX0_pays 90 = .ok (.invokevirtual 189, 3) := dk_182 0 189 (dk_at dksX0_pays_3 20 rfl rfl)
theorem dX0_pays_93 : decode cX0_pays 93 = .ok (.ireturn, 1) := dk_172 (dk_at dksX0_pays_3 23 rfl rfl)
abbrev cX0_allPay : ByteArray := prog_1_method_75_code
def yX0_allPay : MethodName := ⟨RX0, "allPay", "()V"⟩
def dkwX0_allPay_6 : List UInt8 := [132, 2, 1, 167, 255, 170, 132, 1, 1, 167, 255, 149, 177]
abbrev dktX0_allPay_6 : List UInt8 := dkwX0_allPay_6 ++ []
def dkwX0_allPay_5 : List UInt8 := [100, 79, 42, 180, 0, 62, 187, 1, 225, 89, 27, 28, 183, 1, 227, 29, 184, 1, 238, 182, 1, 242, 87]
abbrev dktX0_allPay_5 : List UInt8 := dkwX0_allPay_5 ++ dktX0_allPay_6
def dkwX0_allPay_4 : List UInt8 := [28, 46, 184, 1, 146, 62, 42, 180, 0, 66, 27, 92, 46, 29, 100, 79, 42, 180, 0, 66, 28, 92, 46, 29]
abbrev dktX0_allPay_4 : List UInt8 := dkwX0_allPay_4 ++ dktX0_allPay_5
def dkwX0_allPay_3 : List UInt8 := [180, 0, 10, 27, 28, 182, 0, 131, 154, 0, 6, 167, 0, 60, 42, 180, 0, 66, 27, 46, 42, 180, 0, 66]
abbrev dktX0_allPay_3 : List UInt8 := dkwX0_allPay_3 ++ dktX0_allPay_4
def dkwX0_allPay_2 : List UInt8 := [180, 0, 115, 162, 0, 102, 27, 4, 96, 61, 28, 42, 180, 0, 10, 180, 0, 115, 162, 0, 81, 42]
abbrev dktX0_allPay_2 : List UInt8 := dkwX0_allPay_2 ++ dktX0_allPay_3
def dkwX0_allPay_1 : List UInt8 := [27, 42, 180, 0, 10, 27, 182, 0, 149, 79, 132, 1, 1, 167, 255, 228, 3, 60, 27, 42, 180, 0, 10]
abbrev dktX0_allPay_1 : List UInt8 := dkwX0_allPay_1 ++ dktX0_allPay_2
def dkwX0_allPay_0 : List UInt8 := [42, 180, 0, 62, 182, 1, 235, 3, 60, 27, 42, 180, 0, 10, 180, 0, 115, 162, 0, 23, 42, 180, 0, 66]
abbrev dktX0_allPay_0 : List UInt8 := dkwX0_allPay_0 ++ dktX0_allPay_1
theorem dksX0_allPay_0 : cX0_allPay.data.toList.drop 0 = dktX0_allPay_0 := by decide +kernel
theorem dksX0_allPay_1 : cX0_allPay.data.toList.drop 24 = dktX0_allPay_1 := dk_seg dksX0_allPay_0 24 rfl rfl
theorem dksX0_allPay_2 : cX0_allPay.data.toList.drop 47 = dktX0_allPay_2 := dk_seg dksX0_allPay_1 23 rfl rfl
theorem dksX0_allPay_3 : cX0_allPay.data.toList.drop 69 = dktX0_allPay_3 := dk_seg dksX0_allPay_2 22 rfl rfl
theorem dksX0_allPay_4 : cX0_allPay.data.toList.drop 93 = dktX0_allPay_4 := dk_seg dksX0_allPay_3 24 rfl rfl
theorem dksX0_allPay_5 : cX0_allPay.data.toList.drop 117 = dktX0_allPay_5 := dk_seg dksX0_allPay_4 24 rfl rfl
theorem dksX0_allPay_6 : cX0_allPay.data.toList.drop 140 = dktX0_allPay_6 := dk_seg dksX0_allPay_5 23 rfl rfl
theorem dX0_allPay_0 : decode cX0_allPay 0 = .ok (.aload_n 0, 1) := dk_42 (dk_at dksX0_allPay_0 0 rfl rfl)
theorem dX0_allPay_1 : decode cX0_allPay 1 = .ok (.getfield 62, 3) := dk_180 0 62 (dk_at dksX0_allPay_0 1 rfl rfl)
theorem dX0_allPay_4 : decode cX0_allPay 4 = .ok (.invokevirtual 491, 3) := dk_182 1 235 (dk_at dksX0_allPay_0 4 rfl rfl)
theorem dX0_allPay_7 : decode cX0_allPay 7 = .ok (.iconst 0, 1) := dk_3 (dk_at dksX0_allPay_0 7 rfl rfl)
theorem dX0_allPay_8 : decode cX0_allPay 8 = .ok (.istore_n 1, 1) := dk_60 (dk_at dksX0_allPay_0 8 rfl rfl)
theorem dX0_allPay_9 : decode cX0_allPay 9 = .ok (.iload_n 1, 1) := dk_27 (dk_at dksX0_allPay_0 9 rfl rfl)
theorem dX0_allPay_10 : decode cX0_allPay 10 = .ok (.aload_n 0, 1) := dk_42 (dk_at dksX0_allPay_0 10 rfl rfl)
theorem dX0_allPay_11 : decode cX0_allPay 11 = .ok (.getfield 10, 3) := dk_180 0 10 (dk_at dksX0_allPay_0 11 rfl rfl)
theorem dX0_allPay_14 : decode cX0_allPay 14 = .ok (.getfield 115, 3) := dk_180 0 115 (dk_at dksX0_allPay_0 14 rfl rfl)
theorem dX0_allPay_17 : decode cX0_allPay 17 = .ok (.if_icmp .ge 23, 3) := dk_162 0 23 (dk_at dksX0_allPay_0 17 rfl rfl)
theorem dX0_allPay_20 : decode cX0_allPay 20 = .ok (.aload_n 0, 1) := dk_42 (dk_at dksX0_allPay_0 20 rfl rfl)
theorem dX0_allPay_21 : decode cX0_allPay 21 = .ok (.getfield 66, 3) := dk_180 0 66 (dk_at dksX0_allPay_0 21 rfl rfl)
theorem dX0_allPay_24 : decode cX0_allPay 24 = .ok (.iload_n 1, 1) := dk_27 (dk_at dksX0_allPay_1 0 rfl rfl)
theorem dX0_allPay_25 : decode cX0_allPay 25 = .ok (.aload_n 0, 1) := dk_42 (dk_at dksX0_allPay_1 1 rfl rfl)
theorem dX0_allPay_26 : decode cX0_allPay 26 = .ok (.getfield 10, 3) := dk_180 0 10 (dk_at dksX0_allPay_1 2 rfl rfl)
theorem dX0_allPay_29 : decode cX0_allPay 29 = .ok (.iload_n 1, 1) := dk_27 (dk_at dksX0_allPay_1 5 rfl rfl)
theorem dX0_allPay_30 : decode cX0_allPay 30 = .ok (.invokevirtual 149, 3) := dk_182 0 149 (dk_at dksX0_allPay_1 6 rfl rfl)
theorem dX0_allPay_33 : decode cX0_allPay 33 = .ok (.iastore, 1) := dk_79 (dk_at dksX0_allPay_1 9 rfl rfl)
theorem dX0_allPay_34 : decode cX0_allPay 34 = .ok (.iinc 1 1, 3) := dk_132 1 1 (dk_at dksX0_allPay_1 10 rfl rfl)
theorem dX0_allPay_37 : decode cX0_allPay 37 = .ok (.goto (-28), 3) := dk_167 255 228 (dk_at dksX0_allPay_1 13 rfl rfl)
theorem dX0_allPay_40 : decode cX0_allPay 40 = .ok (.iconst 0, 1) := dk_3 (dk_at dksX0_allPay_1 16 rfl rfl)
theorem dX0_allPay_41 : decode cX0_allPay 41 = .ok (.istore_n 1, 1) := dk_60 (dk_at dksX0_allPay_1 17 rfl rfl)
theorem dX0_allPay_42 : decode cX0_allPay 42 = .ok (.iload_n 1, 1) := dk_27 (dk_at dksX0_allPay_1 18 rfl rfl)
theorem dX0_allPay_43 : decode cX0_allPay 43 = .ok (.aload_n 0, 1) := dk_42 (dk_at dksX0_allPay_1 19 rfl rfl)
theorem dX0_allPay_44 : decode cX0_allPay 44 = .ok (.getfield 10, 3) := dk_180 0 10 (dk_at dksX0_allPay_1 20 rfl rfl)
theorem dX0_allPay_47 : decode cX0_allPay 47 = .ok (.getfield 115, 3) := dk_180 0 115 (dk_at dksX0_allPay_2 0 rfl rfl)
theorem dX0_allPay_50 : decode cX0_allPay 50 = .ok (.if_icmp .ge 102, 3) := dk_162 0 102 (dk_at dksX0_allPay_2 3 rfl rfl)
theorem dX0_allPay_53 : decode cX0_allPay 53 = .ok (.iload_n 1, 1) := dk_27 (dk_at dksX0_allPay_2 6 rfl rfl)
theorem dX0_allPay_54 : decode cX0_allPay 54 = .ok (.iconst 1, 1) := dk_4 (dk_at dksX0_allPay_2 7 rfl rfl)
theorem dX0_allPay_55 : decode cX0_allPay 55 = .ok (.iadd, 1) := dk_96 (dk_at dksX0_allPay_2 8 rfl rfl)
theorem dX0_allPay_56 : decode cX0_allPay 56 = .ok (.istore_n 2, 1) := dk_61 (dk_at dksX0_allPay_2 9 rfl rfl)
theorem dX0_allPay_57 : decode cX0_allPay 57 = .ok (.iload_n 2, 1) := dk_28 (dk_at dksX0_allPay_2 10 rfl rfl)
theorem dX0_allPay_58 : decode cX0_allPay 58 = .ok (.aload_n 0, 1) := dk_42 (dk_at dksX0_allPay_2 11 rfl rfl)
theorem dX0_allPay_59 : decode cX0_allPay 59 = .ok (.getfield 10, 3) := dk_180 0 10 (dk_at dksX0_allPay_2 12 rfl rfl)
theorem dX0_allPay_62 : decode cX0_allPay 62 = .ok (.getfield 115, 3) := dk_180 0 115 (dk_at dksX0_allPay_2 15 rfl rfl)
theorem dX0_allPay_65 : decode cX0_allPay 65 = .ok (.if_icmp .ge 81, 3) := dk_162 0 81 (dk_at dksX0_allPay_2 18 rfl rfl)
theorem dX0_allPay_68 : decode cX0_allPay 68 = .ok (.aload_n 0, 1) := dk_42 (dk_at dksX0_allPay_2 21 rfl rfl)
theorem dX0_allPay_69 : decode cX0_allPay 69 = .ok (.getfield 10, 3) := dk_180 0 10 (dk_at dksX0_allPay_3 0 rfl rfl)
theorem dX0_allPay_72 : decode cX0_allPay 72 = .ok (.iload_n 1, 1) := dk_27 (dk_at dksX0_allPay_3 3 rfl rfl)
theorem dX0_allPay_73 : decode cX0_allPay 73 = .ok (.iload_n 2, 1) := dk_28 (dk_at dksX0_allPay_3 4 rfl rfl)
theorem dX0_allPay_74 : decode cX0_allPay 74 = .ok (.invokevirtual 131, 3) := dk_182 0 131 (dk_at dksX0_allPay_3 5 rfl rfl)
theorem dX0_allPay_77 : decode cX0_allPay 77 = .ok (.ifCond .ne 6, 3) := dk_154 0 6 (dk_at dksX0_allPay_3 8 rfl rfl)
theorem dX0_allPay_80 : decode cX0_allPay 80 = .ok (.goto 60, 3) := dk_167 0 60 (dk_at dksX0_allPay_3 11 rfl rfl)
theorem dX0_allPay_83 : decode cX0_allPay 83 = .ok (.aload_n 0, 1) := dk_42 (dk_at dksX0_allPay_3 14 rfl rfl)
theorem dX0_allPay_84 : decode cX0_allPay 84 = .ok (.getfield 66, 3) := dk_180 0 66 (dk_at dksX0_allPay_3 15 rfl rfl)
theorem dX0_allPay_87 : decode cX0_allPay 87 = .ok (.iload_n 1, 1) := dk_27 (dk_at dksX0_allPay_3 18 rfl rfl)
theorem dX0_allPay_88 : decode cX0_allPay 88 = .ok (.iaload, 1) := dk_46 (dk_at dksX0_allPay_3 19 rfl rfl)
theorem dX0_allPay_89 : decode cX0_allPay 89 = .ok (.aload_n 0, 1) := dk_42 (dk_at dksX0_allPay_3 20 rfl rfl)
theorem dX0_allPay_90 : decode cX0_allPay 90 = .ok (.getfield 66, 3) := dk_180 0 66 (dk_at dksX0_allPay_3 21 rfl rfl)
theorem dX0_allPay_93 : decode cX0_allPay 93 = .ok (.iload_n 2, 1) := dk_28 (dk_at dksX0_allPay_4 0 rfl rfl)
theorem dX0_allPay_94 : decode cX0_allPay 94 = .ok (.iaload, 1) := dk_46 (dk_at dksX0_allPay_4 1 rfl rfl)
theorem dX0_allPay_95 : decode cX0_allPay 95 = .ok (.invokestatic 402, 3) := dk_184 1 146 (dk_at dksX0_allPay_4 2 rfl rfl)
theorem dX0_allPay_98 : decode cX0_allPay 98 = .ok (.istore_n 3, 1) := dk_62 (dk_at dksX0_allPay_4 5 rfl rfl)
theorem dX0_allPay_99 : decode cX0_allPay 99 = .ok (.aload_n 0, 1) := dk_42 (dk_at dksX0_allPay_4 6 rfl rfl)
theorem dX0_allPay_100 : decode cX0_allPay 100 = .ok (.getfield 66, 3) := dk_180 0 66 (dk_at dksX0_allPay_4 7 rfl rfl)
theorem dX0_allPay_103 : decode cX0_allPay 103 = .ok (.iload_n 1, 1) := dk_27 (dk_at dksX0_allPay_4 10 rfl rfl)
theorem dX0_allPay_104 : decode cX0_allPay 104 = .ok (.dup2, 1) := dk_92 (dk_at dksX0_allPay_4 11 rfl rfl)
theorem dX0_allPay_105 : decode cX0_allPay 105 = .ok (.iaload, 1) := dk_46 (dk_at dksX0_allPay_4 12 rfl rfl)
theorem dX0_allPay_106 : decode cX0_allPay 106 = .ok (.iload_n 3, 1) := dk_29 (dk_at dksX0_allPay_4 13 rfl rfl)
theorem dX0_allPay_107 : decode cX0_allPay 107 = .ok (.isub, 1) := dk_100 (dk_at dksX0_allPay_4 14 rfl rfl)
theorem dX0_allPay_108 : decode cX0_allPay 108 = .ok (.iastore, 1) := dk_79 (dk_at dksX0_allPay_4 15 rfl rfl)
theorem dX0_allPay_109 : decode cX0_allPay 109 = .ok (.aload_n 0, 1) := dk_42 (dk_at dksX0_allPay_4 16 rfl rfl)
theorem dX0_allPay_110 : decode cX0_allPay 110 = .ok (.getfield 66, 3) := dk_180 0 66 (dk_at dksX0_allPay_4 17 rfl rfl)
theorem dX0_allPay_113 : decode cX0_allPay 113 = .ok (.iload_n 2, 1) := dk_28 (dk_at dksX0_allPay_4 20 rfl rfl)
theorem dX0_allPay_114 : decode cX0_allPay 114 = .ok (.dup2, 1) := dk_92 (dk_at dksX0_allPay_4 21 rfl rfl)
theorem dX0_allPay_115 : decode cX0_allPay 115 = .ok (.iaload, 1) := dk_46 (dk_at dksX0_allPay_4 22 rfl rfl)
theorem dX0_allPay_116 : decode cX0_allPay 116 = .ok (.iload_n 3, 1) := dk_29 (dk_at dksX0_allPay_4 23 rfl rfl)
theorem dX0_allPay_117 : decode cX0_allPay 117 = .ok (.isub, 1) := dk_100 (dk_at dksX0_allPay_5 0 rfl rfl)
theorem dX0_allPay_118 : decode cX0_allPay 118 = .ok (.iastore, 1) := dk_79 (dk_at dksX0_allPay_5 1 rfl rfl)
theorem dX0_allPay_119 : decode cX0_allPay 119 = .ok (.aload_n 0, 1) := dk_42 (dk_at dksX0_allPay_5 2 rfl rfl)
theorem dX0_allPay_120 : decode cX0_allPay 120 = .ok (.getfield 62, 3) := dk_180 0 62 (dk_at dksX0_allPay_5 3 rfl rfl)
theorem dX0_allPay_123 : decode cX0_allPay 123 = .ok (.new 481, 3) := dk_187 1 225 (dk_at dksX0_allPay_5 6 rfl rfl)
theorem dX0_allPay_126 : decode cX0_allPay 126 = .ok (.dup, 1) := dk_89 (dk_at dksX0_allPay_5 9 rfl rfl)
theorem dX0_allPay_127 : decode cX0_allPay 127 = .ok (.iload_n 1, 1) := dk_27 (dk_at dksX0_allPay_5 10 rfl rfl)
theorem dX0_allPay_128 : decode cX0_allPay 128 = .ok (.iload_n 2, 1) := dk_28 (dk_at dksX0_allPay_5 11 rfl rfl)
theorem dX0_allPay_129 : decode cX0_allPay 129 = .ok (.invokespecial 483, 3) := dk_183 1 227 (dk_at dksX0_allPay_5 12 rfl rfl)
theorem dX0_allPay_132 : decode cX0_allPay 132 = .ok (.iload_n 3, 1) := dk_29 (dk_at dksX0_allPay_5 15 rfl rfl)
theorem dX0_allPay_133 : decode cX0_allPay 133 = .ok (.invokestatic 494, 3) := dk_184 1 238 (dk_at dksX0_allPay_5 16 rfl rfl)
theorem dX0_allPay_136 : decode cX0_allPay 136 = .ok (.invokevirtual 498, 3) := dk_182 1 242 (dk_at dksX0_allPay_5 19 rfl rfl)
theorem dX0_allPay_139 : decode cX0_allPay 139 = .ok (.pop, 1) := dk_87 (dk_at dksX0_allPay_5 22 rfl rfl)
theorem dX0_allPay_140 : decode cX0_allPay 140 = .ok (.iinc 2 1, 3) := dk_132 2 1 (dk_at dksX0_allPay_6 0 rfl rfl)
theorem dX0_allPay_143 : decode cX0_allPay 143 = .ok (.goto (-86), 3) := dk_167 255 170 (dk_at dksX0_allPay_6 3 rfl rfl)
theorem dX0_allPay_146 : decode cX0_allPay 146 = .ok (.iinc 1 1, 3) := dk_132 1 1 (dk_at dksX0_allPay_6 6 rfl rfl)
theorem dX0_allPay_149 : decode cX0_allPay 149 = .ok (.goto (-107), 3) := dk_167 255 149 (dk_at dksX0_allPay_6 9 rfl rfl)
theorem dX0_allPay_152 : decode cX0_allPay 152 = .ok (.return_, 1) := dk_177 (dk_at dksX0_allPay_6 12 rfl rfl)
abbrev cX0_spent : ByteArray := prog_1_method_76_code
def yX0_spent : MethodName := ⟨RX0, "spent", "()I"⟩
def dkwX0_spent_1 : List UInt8 := [154, 0, 9, 4, 28, 120, 167, 0, 4, 3, 128, 60, 132, 2, 1, 167, 255, 223, 27, 172]
abbrev dktX0_spent_1 : List UInt8 := dkwX0_spent_1 ++ []
def dkwX0_spent_0 : List UInt8 := [3, 60, 3, 61, 28, 42, 180, 0, 10, 180, 0, 115, 162, 0, 28, 27, 42, 180, 0, 66, 28, 46]
abbrev dktX0_spent_0 : List UInt8 := dkwX0_spent_0 ++ dktX0_spent_1
theorem dksX0_spent_0 : cX0_spent.data.toList.drop 0 = dktX0_spent_0 := by decide +kernel
theorem dksX0_spent_1 : cX0_spent.data.toList.drop 22 = dktX0_spent_1 := dk_seg dksX0_spent_0 22 rfl rfl
theorem dX0_spent_0 : decode cX0_spent 0 = .ok (.iconst 0, 1) := dk_3 (dk_at dksX0_spent_0 0 rfl rfl)
theorem dX0_spent_1 : decode cX0_spent 1 = .ok (.istore_n 1, 1) := dk_60 (dk_at dksX0_spent_0 1 rfl rfl)
theorem dX0_spent_2 : decode cX0_spent 2 = .ok (.iconst 0, 1) := dk_3 (dk_at dksX0_spent_0 2 rfl rfl)
theorem dX0_spent_3 : decode cX0_spent 3 = .ok (.istore_n 2, 1) := dk_61 (dk_at dksX0_spent_0 3 rfl rfl)
theorem dX0_spent_4 : decode cX0_spent 4 = .ok (.iload_n 2, 1) := dk_28 (dk_at dksX0_spent_0 4 rfl rfl)
theorem dX0_spent_5 : decode cX0_spent 5 = .ok (.aload_n 0, 1) := dk_42 (dk_at dksX0_spent_0 5 rfl rfl)
theorem dX0_spent_6 : decode cX0_spent 6 = .ok (.getfield 10, 3) := dk_180 0 10 (dk_at dksX0_spent_0 6 rfl rfl)
theorem dX0_spent_9 : decode cX0_spent 9 = .ok (.getfield 115, 3) := dk_180 0 115 (dk_at dksX0_spent_0 9 rfl rfl)
theorem dX0_spent_12 : decode cX0_spent 12 = .ok (.if_icmp .ge 28, 3) := dk_162 0 28 (dk_at dksX0_spent_0 12 rfl rfl)
theorem dX0_spent_15 : decode cX0_spent 15 = .ok (.iload_n 1, 1) := dk_27 (dk_at dksX0_spent_0 15 rfl rfl)
theorem dX0_spent_16 : decode cX0_spent 16 = .ok (.aload_n 0, 1) := dk_42 (dk_at dksX0_spent_0 16 rfl rfl)
theorem dX0_spent_17 : decode cX0_spent 17 = .ok (.getfield 66, 3) := dk_180 0 66 (dk_at dksX0_spent_0 17 rfl rfl)
theorem dX0_spent_20 : decode cX0_spent 20 = .ok (.iload_n 2, 1) := dk_28 (dk_at dksX0_spent_0 20 rfl rfl)
theorem dX0_spent_21 : decode cX0_spent 21 = .ok (.iaload, 1) := dk_46 (dk_at dksX0_spent_0 21 rfl rfl)
theorem dX0_spent_22 : decode cX0_spent 22 = .ok (.ifCond .ne 9, 3) := dk_154 0 9 (dk_at dksX0_spent_1 0 rfl rfl)
theorem dX0_spent_25 : decode cX0_spent 25 = .ok (.iconst 1, 1) := dk_4 (dk_at dksX0_spent_1 3 rfl rfl)
theorem dX0_spent_26 : decode cX0_spent 26 = .ok (.iload_n 2, 1) := dk_28 (dk_at dksX0_spent_1 4 rfl rfl)
theorem dX0_spent_27 : decode cX0_spent 27 = .ok (.ishl, 1) := dk_120 (dk_at dksX0_spent_1 5 rfl rfl)
theorem dX0_spent_28 : decode cX0_spent 28 = .ok (.goto 4, 3) := dk_167 0 4 (dk_at dksX0_spent_1 6 rfl rfl)
theorem dX0_spent_31 : decode cX0_spent 31 = .ok (.iconst 0, 1) := dk_3 (dk_at dksX0_spent_1 9 rfl rfl)
theorem dX0_spent_32 : decode cX0_spent 32 = .ok (.ior, 1) := dk_128 (dk_at dksX0_spent_1 10 rfl rfl)
theorem dX0_spent_33 : decode cX0_spent 33 = .ok (.istore_n 1, 1) := dk_60 (dk_at dksX0_spent_1 11 rfl rfl)
theorem dX0_spent_34 : decode cX0_spent 34 = .ok (.iinc 2 1, 3) := dk_132 2 1 (dk_at dksX0_spent_1 12 rfl rfl)
theorem dX0_spent_37 : decode cX0_spent 37 = .ok (.goto (-33), 3) := dk_167 255 223 (dk_at dksX0_spent_1 15 rfl rfl)
theorem dX0_spent_40 : decode cX0_spent 40 = .ok (.iload_n 1, 1) := dk_27 (dk_at dksX0_spent_1 18 rfl rfl)
theorem dX0_spent_41 : decode cX0_spent 41 = .ok (.ireturn, 1) := dk_172 (dk_at dksX0_spent_1 19 rfl rfl)
abbrev cX0_paid : ByteArray := prog_1_method_78_code
def yX0_paid : MethodName := ⟨RX0, "paid", "(II)I"⟩
def dkwX0_paid_2 : List UInt8 := [172]
abbrev dktX0_paid_2 : List UInt8 := dkwX0_paid_2 ++ []
def dkwX0_paid_1 : List UInt8 := [27, 28, 183, 1, 227, 182, 2, 18, 192, 0, 83, 78, 45, 199, 0, 7, 2, 167, 0, 7, 45, 182, 2, 12]
abbrev dktX0_paid_1 : List UInt8 := dkwX0_paid_1 ++ dktX0_paid_2
def dkwX0_paid_0 : List UInt8 := [42, 27, 28, 182, 0, 127, 154, 0, 6, 16, 254, 172, 42, 182, 1, 246, 42, 180, 0, 62, 187, 1, 225, 89]
abbrev dktX0_paid_0 : List UInt8 := dkwX0_paid_0 ++ dktX0_paid_1
theorem dksX0_paid_0 : cX0_paid.data.toList.drop 0 = dktX0_paid_0 := by decide +kernel
theorem dksX0_paid_1 : cX0_paid.data.toList.drop 24 = dktX0_paid_1 := dk_seg dksX0_paid_0 24 rfl rfl
theorem dksX0_paid_2 : cX0_paid.data.toList.drop 48 = dktX0_paid_2 := dk_seg dksX0_paid_1 24 rfl rfl
theorem dX0_paid_0 : decode cX0_paid 0 = .ok (.aload_n 0, 1) := dk_42 (dk_at dksX0_paid_0 0 rfl rfl)
theorem dX0_paid_1 : decode cX0_paid 1 = .ok (.iload_n 1, 1) := dk_27 (dk_at dksX0_paid_0 1 rfl rfl)
theorem dX0_paid_2 : decode cX0_paid 2 = .ok (.iload_n 2, 1) := dk_28 (dk_at dksX0_paid_0 2 rfl rfl)
theorem dX0_paid_3 : decode cX0_paid 3 = .ok (.invokevirtual 127, 3) := dk_182 0 127 (dk_at dksX0_paid_0 3 rfl rfl)
theorem dX0_paid_6 : decode cX0_paid 6 = .ok (.ifCond .ne 6, 3) := dk_154 0 6 (dk_at dksX0_paid_0 6 rfl rfl)
theorem dX0_paid_9 : decode cX0_paid 9 = .ok (.bipush (-2), 2) := dk_16 254 (dk_at dksX0_paid_0 9 rfl rfl)
theorem dX0_paid_11 : decode cX0_paid 11 = .ok (.ireturn, 1) := dk_172 (dk_at dksX0_paid_0 11 rfl rfl)
theorem dX0_paid_12 : decode cX0_paid 12 = .ok (.aload_n 0, 1) := dk_42 (dk_at dksX0_paid_0 12 rfl rfl)
theorem dX0_paid_13 : decode cX0_paid 13 = .ok (.invokevirtual 502, 3) := dk_182 1 246 (dk_at dksX0_paid_0 13 rfl rfl)
theorem dX0_paid_16 : decode cX0_paid 16 = .ok (.aload_n 0, 1) := dk_42 (dk_at dksX0_paid_0 16 rfl rfl)
theorem dX0_paid_17 : decode cX0_paid 17 = .ok (.getfield 62, 3) := dk_180 0 62 (dk_at dksX0_paid_0 17 rfl rfl)
theorem dX0_paid_20 : decode cX0_paid 20 = .ok (.new 481, 3) := dk_187 1 225 (dk_at dksX0_paid_0 20 rfl rfl)
theorem dX0_paid_23 : decode cX0_paid 23 = .ok (.dup, 1) := dk_89 (dk_at dksX0_paid_0 23 rfl rfl)
theorem dX0_paid_24 : decode cX0_paid 24 = .ok (.iload_n 1, 1) := dk_27 (dk_at dksX0_paid_1 0 rfl rfl)
theorem dX0_paid_25 : decode cX0_paid 25 = .ok (.iload_n 2, 1) := dk_28 (dk_at dksX0_paid_1 1 rfl rfl)
theorem dX0_paid_26 : decode cX0_paid 26 = .ok (.invokespecial 483, 3) := dk_183 1 227 (dk_at dksX0_paid_1 2 rfl rfl)
theorem dX0_paid_29 : decode cX0_paid 29 = .ok (.invokevirtual 530, 3) := dk_182 2 18 (dk_at dksX0_paid_1 5 rfl rfl)
theorem dX0_paid_32 : decode cX0_paid 32 = .ok (.checkcast 83, 3) := dk_192 0 83 (dk_at dksX0_paid_1 8 rfl rfl)
theorem dX0_paid_35 : decode cX0_paid 35 = .ok (.astore_n 3, 1) := dk_78 (dk_at dksX0_paid_1 11 rfl rfl)
theorem dX0_paid_36 : decode cX0_paid 36 = .ok (.aload_n 3, 1) := dk_45 (dk_at dksX0_paid_1 12 rfl rfl)
theorem dX0_paid_37 : decode cX0_paid 37 = .ok (.ifnonnull 7, 3) := dk_199 0 7 (dk_at dksX0_paid_1 13 rfl rfl)
theorem dX0_paid_40 : decode cX0_paid 40 = .ok (.iconst (-1), 1) := dk_2 (dk_at dksX0_paid_1 16 rfl rfl)
theorem dX0_paid_41 : decode cX0_paid 41 = .ok (.goto 7, 3) := dk_167 0 7 (dk_at dksX0_paid_1 17 rfl rfl)
theorem dX0_paid_44 : decode cX0_paid 44 = .ok (.aload_n 3, 1) := dk_45 (dk_at dksX0_paid_1 20 rfl rfl)
theorem dX0_paid_45 : decode cX0_paid 45 = .ok (.invokevirtual 524, 3) := dk_182 2 12 (dk_at dksX0_paid_1 21 rfl rfl)
theorem dX0_paid_48 : decode cX0_paid 48 = .ok (.ireturn, 1) := dk_172 (dk_at dksX0_paid_2 0 rfl rfl)
abbrev cX0_feed : ByteArray := prog_1_method_83_code
def yX0_feed : MethodName := ⟨RX0, "feed", "(II)I"⟩
def dkwX0_feed_2 : List UInt8 := [122, 145, 84, 42, 89, 180, 0, 168, 4, 96, 181, 0, 168, 132, 3, 255, 167, 255, 223, 42, 180, 0, 168, 172]
abbrev dktX0_feed_2 : List UInt8 := dkwX0_feed_2 ++ []
def dkwX0_feed_1 : List UInt8 := [16, 252, 172, 28, 4, 100, 62, 29, 155, 0, 35, 42, 180, 0, 69, 42, 180, 0, 168, 27, 16, 8, 29, 104]
abbrev dktX0_feed_1 : List UInt8 := dkwX0_feed_1 ++ dktX0_feed_2
def dkwX0_feed_0 : List UInt8 := [28, 4, 7, 184, 0, 111, 154, 0, 6, 16, 254, 172, 42, 180, 0, 168, 28, 96, 17, 0, 200, 164, 0, 6]
abbrev dktX0_feed_0 : List UInt8 := dkwX0_feed_0 ++ dktX0_feed_1
theorem dksX0_feed_0 : cX0_feed.data.toList.drop 0 = dktX0_feed_0 := by decide +kernel
theorem dksX0_feed_1 : cX0_feed.data.toList.drop 24 = dktX0_feed_1 := dk_seg dksX0_feed_0 24 rfl rfl
theorem dksX0_feed_2 : cX0_feed.data.toList.drop 48 = dktX0_feed_2 := dk_seg dksX0_feed_1 24 rfl rfl
theorem dX0_feed_0 : decode cX0_feed 0 = .ok (.iload_n 2, 1) := dk_28 (dk_at dksX0_feed_0 0 rfl rfl)
theorem dX0_feed_1 : decode cX0_feed 1 = .ok (.iconst 1, 1) := dk_4 (dk_at dksX0_feed_0 1 rfl rfl)
theorem dX0_feed_2 : decode cX0_feed 2 = .ok (.iconst 4, 1) := dk_7 (dk_at dksX0_feed_0 2 rfl rfl)
theorem dX0_feed_3 : decode cX0_feed 3 = .ok (.invokestatic 111, 3) := dk_184 0 111 (dk_at dksX0_feed_0 3 rfl rfl)
theorem dX0_feed_6 : decode cX0_feed 6 = .ok (.ifCond .ne 6, 3) := dk_154 0 6 (dk_at dksX0_feed_0 6 rfl rfl)
theorem dX0_feed_9 : decode cX0_feed 9 = .ok (.bipush (-2), 2) := dk_16 254 (dk_at dksX0_feed_0 9 rfl rfl)
theorem dX0_feed_11 : decode cX0_feed 11 = .ok (.ireturn, 1) := dk_172 (dk_at dksX0_feed_0 11 rfl rfl)
theorem dX0_feed_12 : decode cX0_feed 12 = .ok (.aload_n 0, 1) := dk_42 (dk_at dksX0_feed_0 12 rfl rfl)
theorem dX0_feed_13 : decode cX0_feed 13 = .ok (.getfield 168, 3) := dk_180 0 168 (dk_at dksX0_feed_0 13 rfl rfl)
theorem dX0_feed_16 : decode cX0_feed 16 = .ok (.iload_n 2, 1) := dk_28 (dk_at dksX0_feed_0 16 rfl rfl)
theorem dX0_feed_17 : decode cX0_feed 17 = .ok (.iadd, 1) := dk_96 (dk_at dksX0_feed_0 17 rfl rfl)
theorem dX0_feed_18 : decode cX0_feed 18 = .ok (.sipush 200, 3) := dk_17 0 200 (dk_at dksX0_feed_0 18 rfl rfl)
theorem dX0_feed_21 : decode cX0_feed 21 = .ok (.if_icmp .le 6, 3) := dk_164 0 6 (dk_at dksX0_feed_0 21 rfl rfl)
theorem dX0_feed_24 : decode cX0_feed 24 = .ok (.bipush (-4), 2) := dk_16 252 (dk_at dksX0_feed_1 0 rfl rfl)
theorem dX0_feed_26 : decode cX0_feed 26 = .ok (.ireturn, 1) := dk_172 (dk_at dksX0_feed_1 2 rfl rfl)
theorem dX0_feed_27 : decode cX0_feed 27 = .ok (.iload_n 2, 1) := dk_28 (dk_at dksX0_feed_1 3 rfl rfl)
theorem dX0_feed_28 : decode cX0_feed 28 = .ok (.iconst 1, 1) := dk_4 (dk_at dksX0_feed_1 4 rfl rfl)
theorem dX0_feed_29 : decode cX0_feed 29 = .ok (.isub, 1) := dk_100 (dk_at dksX0_feed_1 5 rfl rfl)
theorem dX0_feed_30 : decode cX0_feed 30 = .ok (.istore_n 3, 1) := dk_62 (dk_at dksX0_feed_1 6 rfl rfl)
theorem dX0_feed_31 : decode cX0_feed 31 = .ok (.iload_n 3, 1) := dk_29 (dk_at dksX0_feed_1 7 rfl rfl)
theorem dX0_feed_32 : decode cX0_feed 32 = .ok (.ifCond .lt 35, 3) := dk_155 0 35 (dk_at dksX0_feed_1 8 rfl rfl)
theorem dX0_feed_35 : decode cX0_feed 35 = .ok (.aload_n 0, 1) := dk_42 (dk_at dksX0_feed_1 11 rfl rfl)
theorem dX0_feed_36 : decode cX0_feed 36 = .ok (.getfield 69, 3) := dk_180 0 69 (dk_at dksX0_feed_1 12 rfl rfl)
theorem dX0_feed_39 : decode cX0_feed 39 = .ok (.aload_n 0, 1) := dk_42 (dk_at dksX0_feed_1 15 rfl rfl)
theorem dX0_feed_40 : decode cX0_feed 40 = .ok (.getfield 168, 3) := dk_180 0 168 (dk_at dksX0_feed_1 16 rfl rfl)
theorem dX0_feed_43 : decode cX0_feed 43 = .ok (.iload_n 1, 1) := dk_27 (dk_at dksX0_feed_1 19 rfl rfl)
theorem dX0_feed_44 : decode cX0_feed 44 = .ok (.bipush 8, 2) := dk_16 8 (dk_at dksX0_feed_1 20 rfl rfl)
theorem dX0_feed_46 : decode cX0_feed 46 = .ok (.iload_n 3, 1) := dk_29 (dk_at dksX0_feed_1 22 rfl rfl)
theorem dX0_feed_47 : decode cX0_feed 47 = .ok (.imul, 1) := dk_104 (dk_at dksX0_feed_1 23 rfl rfl)
theorem dX0_feed_48 : decode cX0_feed 48 = .ok (.ishr, 1) := dk_122 (dk_at dksX0_feed_2 0 rfl rfl)
theorem dX0_feed_49 : decode cX0_feed 49 = .ok (.i2b, 1) := dk_145 (dk_at dksX0_feed_2 1 rfl rfl)
theorem dX0_feed_50 : decode cX0_feed 50 = .ok (.bastore, 1) := dk_84 (dk_at dksX0_feed_2 2 rfl rfl)
theorem dX0_feed_51 : decode cX0_feed 51 = .ok (.aload_n 0, 1) := dk_42 (dk_at dksX0_feed_2 3 rfl rfl)
theorem dX0_feed_52 : decode cX0_feed 52 = .ok (.dup, 1) := dk_89 (dk_at dksX0_feed_2 4 rfl rfl)
theorem dX0_feed_53 : decode cX0_feed 53 = .ok (.getfield 168, 3) := dk_180 0 168 (dk_at dksX0_feed_2 5 rfl rfl)
theorem dX0_feed_56 : decode cX0_feed 56 = .ok (.iconst 1, 1) := dk_4 (dk_at dksX0_feed_2 8 rfl rfl)
theorem dX0_feed_57 : decode cX0_feed 57 = .ok (.iadd, 1) := dk_96 (dk_at dksX0_feed_2 9 rfl rfl)
theorem dX0_feed_58 : decode cX0_feed 58 = .ok (.putfield 168, 3) := dk_181 0 168 (dk_at dksX0_feed_2 10 rfl rfl)
theorem dX0_feed_61 : decode cX0_feed 61 = .ok (.iinc 3 (-1), 3) := dk_132 3 255 (dk_at dksX0_feed_2 13 rfl rfl)
theorem dX0_feed_64 : decode cX0_feed 64 = .ok (.goto (-33), 3) := dk_167 255 223 (dk_at dksX0_feed_2 16 rfl rfl)
theorem dX0_feed_67 : decode cX0_feed 67 = .ok (.aload_n 0, 1) := dk_42 (dk_at dksX0_feed_2 19 rfl rfl)
theorem dX0_feed_68 : decode cX0_feed 68 = .ok (.getfield 168, 3) := dk_180 0 168 (dk_at dksX0_feed_2 20 rfl rfl)
theorem dX0_feed_71 : decode cX0_feed 71 = .ok (.ireturn, 1) := dk_172 (dk_at dksX0_feed_2 23 rfl rfl)
abbrev cX0_wipe : ByteArray := prog_1_method_84_code
def yX0_wipe : MethodName := ⟨RX0, "wipe", "()I"⟩
def dkwX0_wipe_0 : List UInt8 := [42, 180, 0, 168, 60, 42, 3, 181, 0, 168, 27, 172]
abbrev dktX0_wipe_0 : List UInt8 := dkwX0_wipe_0 ++ []
theorem dksX0_wipe_0 : cX0_wipe.data.toList.drop 0 = dktX0_wipe_0 := by decide +kernel
theorem dX0_wipe_0 : decode cX0_wipe 0 = .ok (.aload_n 0, 1) := dk_42 (dk_at dksX0_wipe_0 0 rfl rfl)
theorem dX0_wipe_1 : decode cX0_wipe 1 = .ok (.getfield 168, 3) := dk_180 0 168 (dk_at dksX0_wipe_0 1 rfl rfl)
theorem dX0_wipe_4 : decode cX0_wipe 4 = .ok (.istore_n 1, 1) := dk_60 (dk_at dksX0_wipe_0 4 rfl rfl)
theorem dX0_wipe_5 : decode cX0_wipe 5 = .ok (.aload_n 0, 1) := dk_42 (dk_at dksX0_wipe_0 5 rfl rfl)
theorem dX0_wipe_6 : decode cX0_wipe 6 = .ok (.iconst 0, 1) := dk_3 (dk_at dksX0_wipe_0 6 rfl rfl)
theorem dX0_wipe_7 : decode cX0_wipe 7 = .ok (.putfield 168, 3) := dk_181 0 168 (dk_at dksX0_wipe_0 7 rfl rfl)
theorem dX0_wipe_10 : decode cX0_wipe 10 = .ok (.iload_n 1, 1) := dk_27 (dk_at dksX0_wipe_0 10 rfl rfl)
theorem dX0_wipe_11 : decode cX0_wipe 11 = .ok (.ireturn, 1) := dk_172 (dk_at dksX0_wipe_0 11 rfl rfl)
abbrev cX0_text : ByteArray := prog_1_method_85_code
def yX0_text : MethodName := ⟨RX0, "text", "()I"⟩
def dkwX0_text_3 : List UInt8 := [181, 0, 168, 25, 4, 191]
abbrev dktX0_text_3 : List UInt8 := dkwX0_text_3 ++ []
def dkwX0_text_2 : List UInt8 := [28, 172, 77, 16, 156, 44, 180, 2, 71, 100, 62, 42, 3, 181, 0, 168, 29, 172, 58, 4, 42, 3]
abbrev dktX0_text_2 : List UInt8 := dkwX0_text_2 ++ dktX0_text_3
def dkwX0_text_1 : List UInt8 := [180, 2, 67, 181, 2, 56, 42, 43, 180, 2, 68, 181, 0, 174, 42, 180, 0, 174, 61, 42, 3, 181, 0, 168]
abbrev dktX0_text_1 : List UInt8 := dkwX0_text_1 ++ dktX0_text_2
def dkwX0_text_0 : List UInt8 := [187, 2, 60, 89, 42, 180, 0, 69, 42, 180, 0, 168, 183, 2, 62, 76, 43, 182, 2, 65, 42, 43]
abbrev dktX0_text_0 : List UInt8 := dkwX0_text_0 ++ dktX0_text_1
theorem dksX0_text_0 : cX0_text.data.toList.drop 0 = dktX0_text_0 := by decide +kernel
theorem dksX0_text_1 : cX0_text.data.toList.drop 22 = dktX0_text_1 := dk_seg dksX0_text_0 22 rfl rfl
theorem dksX0_text_2 : cX0_text.data.toList.drop 46 = dktX0_text_2 := dk_seg dksX0_text_1 24 rfl rfl
theorem dksX0_text_3 : cX0_text.data.toList.drop 68 = dktX0_text_3 := dk_seg dksX0_text_2 22 rfl rfl
theorem dX0_text_0 : decode cX0_text 0 = .ok (.new 572, 3) := dk_187 2 60 (dk_at dksX0_text_0 0 rfl rfl)
theorem dX0_text_3 : decode cX0_text 3 = .ok (.dup, 1) := dk_89 (dk_at dksX0_text_0 3 rfl rfl)
theorem dX0_text_4 : decode cX0_text 4 = .ok (.aload_n 0, 1) := dk_42 (dk_at dksX0_text_0 4 rfl rfl)
theorem dX0_text_5 : decode cX0_text 5 = .ok (.getfield 69, 3) := dk_180 0 69 (dk_at dksX0_text_0 5 rfl rfl)
theorem dX0_text_8 : decode cX0_text 8 = .ok (.aload_n 0, 1) := dk_42 (dk_at dksX0_text_0 8 rfl rfl)
theorem dX0_text_9 : decode cX0_text 9 = .ok (.getfield 168, 3) := dk_180 0 168 (dk_at dksX0_text_0 9 rfl rfl)
theorem dX0_text_12 : decode cX0_text 12 = .ok (.invokespecial 574, 3) := dk_183 2 62 (dk_at dksX0_text_0 12 rfl rfl)
theorem dX0_text_15 : decode cX0_text 15 = .ok (.astore_n 1, 1) := dk_76 (dk_at dksX0_text_0 15 rfl rfl)
theorem dX0_text_16 : decode cX0_text 16 = .ok (.aload_n 1, 1) := dk_43 (dk_at dksX0_text_0 16 rfl rfl)
theorem dX0_text_17 : decode cX0_text 17 = .ok (.invokevirtual 577, 3) := dk_182 2 65 (dk_at dksX0_text_0 17 rfl rfl)
theorem dX0_text_20 : decode cX0_text 20 = .ok (.aload_n 0, 1) := dk_42 (dk_at dksX0_text_0 20 rfl rfl)
theorem dX0_text_21 : decode cX0_text 21 = .ok (.aload_n 1, 1) := dk_43 (dk_at dksX0_text_0 21 rfl rfl)
theorem dX0_text_22 : decode cX0_text 22 = .ok (.getfield 579, 3) := dk_180 2 67 (dk_at dksX0_text_1 0 rfl rfl)
theorem dX0_text_25 : decode cX0_text 25 = .ok (.putfield 568, 3) := dk_181 2 56 (dk_at dksX0_text_1 3 rfl rfl)
theorem dX0_text_28 : decode cX0_text 28 = .ok (.aload_n 0, 1) := dk_42 (dk_at dksX0_text_1 6 rfl rfl)
theorem dX0_text_29 : decode cX0_text 29 = .ok (.aload_n 1, 1) := dk_43 (dk_at dksX0_text_1 7 rfl rfl)
theorem dX0_text_30 : decode cX0_text 30 = .ok (.getfield 580, 3) := dk_180 2 68 (dk_at dksX0_text_1 8 rfl rfl)
theorem dX0_text_33 : decode cX0_text 33 = .ok (.putfield 174, 3) := dk_181 0 174 (dk_at dksX0_text_1 11 rfl rfl)
theorem dX0_text_36 : decode cX0_text 36 = .ok (.aload_n 0, 1) := dk_42 (dk_at dksX0_text_1 14 rfl rfl)
theorem dX0_text_37 : decode cX0_text 37 = .ok (.getfield 174, 3) := dk_180 0 174 (dk_at dksX0_text_1 15 rfl rfl)
theorem dX0_text_40 : decode cX0_text 40 = .ok (.istore_n 2, 1) := dk_61 (dk_at dksX0_text_1 18 rfl rfl)
theorem dX0_text_41 : decode cX0_text 41 = .ok (.aload_n 0, 1) := dk_42 (dk_at dksX0_text_1 19 rfl rfl)
theorem dX0_text_42 : decode cX0_text 42 = .ok (.iconst 0, 1) := dk_3 (dk_at dksX0_text_1 20 rfl rfl)
theorem dX0_text_43 : decode cX0_text 43 = .ok (.putfield 168, 3) := dk_181 0 168 (dk_at dksX0_text_1 21 rfl rfl)
theorem dX0_text_46 : decode cX0_text 46 = .ok (.iload_n 2, 1) := dk_28 (dk_at dksX0_text_2 0 rfl rfl)
theorem dX0_text_47 : decode cX0_text 47 = .ok (.ireturn, 1) := dk_172 (dk_at dksX0_text_2 1 rfl rfl)
theorem dX0_text_48 : decode cX0_text 48 = .ok (.astore_n 2, 1) := dk_77 (dk_at dksX0_text_2 2 rfl rfl)
theorem dX0_text_49 : decode cX0_text 49 = .ok (.bipush (-100), 2) := dk_16 156 (dk_at dksX0_text_2 3 rfl rfl)
theorem dX0_text_51 : decode cX0_text 51 = .ok (.aload_n 2, 1) := dk_44 (dk_at dksX0_text_2 5 rfl rfl)
theorem dX0_text_52 : decode cX0_text 52 = .ok (.getfield 583, 3) := dk_180 2 71 (dk_at dksX0_text_2 6 rfl rfl)
theorem dX0_text_55 : decode cX0_text 55 = .ok (.isub, 1) := dk_100 (dk_at dksX0_text_2 9 rfl rfl)
theorem dX0_text_56 : decode cX0_text 56 = .ok (.istore_n 3, 1) := dk_62 (dk_at dksX0_text_2 10 rfl rfl)
theorem dX0_text_57 : decode cX0_text 57 = .ok (.aload_n 0, 1) := dk_42 (dk_at dksX0_text_2 11 rfl rfl)
theorem dX0_text_58 : decode cX0_text 58 = .ok (.iconst 0, 1) := dk_3 (dk_at dksX0_text_2 12 rfl rfl)
theorem dX0_text_59 : decode cX0_text 59 = .ok (.putfield 168, 3) := dk_181 0 168 (dk_at dksX0_text_2 13 rfl rfl)
theorem dX0_text_62 : decode cX0_text 62 = .ok (.iload_n 3, 1) := dk_29 (dk_at dksX0_text_2 16 rfl rfl)
theorem dX0_text_63 : decode cX0_text 63 = .ok (.ireturn, 1) := dk_172 (dk_at dksX0_text_2 17 rfl rfl)
theorem dX0_text_64 : decode cX0_text 64 = .ok (.astore 4, 2) := dk_58 4 (dk_at dksX0_text_2 18 rfl rfl)
theorem dX0_text_66 : decode cX0_text 66 = .ok (.aload_n 0, 1) := dk_42 (dk_at dksX0_text_2 20 rfl rfl)
theorem dX0_text_67 : decode cX0_text 67 = .ok (.iconst 0, 1) := dk_3 (dk_at dksX0_text_2 21 rfl rfl)
theorem dX0_text_68 : decode cX0_text 68 = .ok (.putfield 168, 3) := dk_181 0 168 (dk_at dksX0_text_3 0 rfl rfl)
theorem dX0_text_71 : decode cX0_text 71 = .ok (.aload 4, 2) := dk_25 4 (dk_at dksX0_text_3 3 rfl rfl)
theorem dX0_text_73 : decode cX0_text 73 = .ok (.athrow, 1) := dk_191 (dk_at dksX0_text_3 5 rfl rfl)
abbrev cX0_tree : ByteArray := prog_1_method_86_code
def yX0_tree : MethodName := ⟨RX0, "tree", "(I)J"⟩
def dkwX0_tree_7 : List UInt8 := [180, 2, 83, 173, 42, 182, 2, 89, 173]
abbrev dktX0_tree_7 : List UInt8 := dkwX0_tree_7 ++ []
def dkwX0_tree_6 : List UInt8 := [182, 2, 77, 180, 2, 81, 133, 173, 42, 42, 180, 2, 56, 3, 50, 186, 2, 88, 0, 0, 182, 2, 77]
abbrev dktX0_tree_6 : List UInt8 := dkwX0_tree_6 ++ dktX0_tree_7
def dkwX0_tree_5 : List UInt8 := [186, 2, 86, 0, 0, 182, 2, 77, 180, 2, 83, 173, 42, 42, 180, 2, 56, 3, 50, 186, 2, 87, 0, 0]
abbrev dktX0_tree_5 : List UInt8 := dkwX0_tree_5 ++ dktX0_tree_6
def dkwX0_tree_4 : List UInt8 := [180, 2, 56, 3, 50, 186, 2, 82, 0, 0, 182, 2, 77, 180, 2, 83, 173, 42, 42, 180, 2, 56, 3, 50]
abbrev dktX0_tree_4 : List UInt8 := dkwX0_tree_4 ++ dktX0_tree_5
def dkwX0_tree_3 : List UInt8 := [42, 42, 180, 2, 56, 3, 50, 186, 2, 74, 0, 0, 182, 2, 77, 180, 2, 81, 133, 173, 42, 42]
abbrev dktX0_tree_3 : List UInt8 := dkwX0_tree_3 ++ dktX0_tree_4
def dkwX0_tree_2 : List UInt8 := [170, 0, 0, 0, 0, 0, 132, 0, 0, 0, 0, 0, 0, 0, 4, 0, 0, 0, 35, 0, 0, 0, 55, 0, 0, 0, 74, 0, 0, 0, 93, 0, 0, 0, 113]
abbrev dktX0_tree_2 : List UInt8 := dkwX0_tree_2 ++ dktX0_tree_3
def dkwX0_tree_1 : List UInt8 := [27]
abbrev dktX0_tree_1 : List UInt8 := dkwX0_tree_1 ++ dktX0_tree_2
def dkwX0_tree_0 : List UInt8 := [27, 3, 8, 184, 0, 111, 154, 0, 7, 20, 1, 22, 173, 42, 180, 0, 174, 154, 0, 7, 20, 1, 37, 173]
abbrev dktX0_tree_0 : List UInt8 := dkwX0_tree_0 ++ dktX0_tree_1
theorem dksX0_tree_0 : cX0_tree.data.toList.drop 0 = dktX0_tree_0 := by decide +kernel
theorem dksX0_tree_1 : cX0_tree.data.toList.drop 24 = dktX0_tree_1 := dk_seg dksX0_tree_0 24 rfl rfl
theorem dksX0_tree_2 : cX0_tree.data.toList.drop 25 = dktX0_tree_2 := dk_seg dksX0_tree_1 1 rfl rfl
theorem dksX0_tree_3 : cX0_tree.data.toList.drop 60 = dktX0_tree_3 := dk_seg dksX0_tree_2 35 rfl rfl
theorem dksX0_tree_4 : cX0_tree.data.toList.drop 82 = dktX0_tree_4 := dk_seg dksX0_tree_3 22 rfl rfl
theorem dksX0_tree_5 : cX0_tree.data.toList.drop 106 = dktX0_tree_5 := dk_seg dksX0_tree_4 24 rfl rfl
theorem dksX0_tree_6 : cX0_tree.data.toList.drop 130 = dktX0_tree_6 := dk_seg dksX0_tree_5 24 rfl rfl
theorem dksX0_tree_7 : cX0_tree.data.toList.drop 153 = dktX0_tree_7 := dk_seg dksX0_tree_6 23 rfl rfl
theorem dX0_tree_0 : decode cX0_tree 0 = .ok (.iload_n 1, 1) := dk_27 (dk_at dksX0_tree_0 0 rfl rfl)
theorem dX0_tree_1 : decode cX0_tree 1 = .ok (.iconst 0, 1) := dk_3 (dk_at dksX0_tree_0 1 rfl rfl)
theorem dX0_tree_2 : decode cX0_tree 2 = .ok (.iconst 5, 1) := dk_8 (dk_at dksX0_tree_0 2 rfl rfl)
theorem dX0_tree_3 : decode cX0_tree 3 = .ok (.invokestatic 111, 3) := dk_184 0 111 (dk_at dksX0_tree_0 3 rfl rfl)
theorem dX0_tree_6 : decode cX0_tree 6 = .ok (.ifCond .ne 7, 3) := dk_154 0 7 (dk_at dksX0_tree_0 6 rfl rfl)
theorem dX0_tree_9 : decode cX0_tree 9 = .ok (.ldc2_w 278, 3) := dk_20 1 22 (dk_at dksX0_tree_0 9 rfl rfl)
theorem dX0_tree_12 : decode cX0_tree 12 = .ok (.lreturn, 1) := dk_173 (dk_at dksX0_tree_0 12 rfl rfl)
theorem dX0_tree_13 : decode cX0_tree 13 = .ok (.aload_n 0, 1) := dk_42 (dk_at dksX0_tree_0 13 rfl rfl)
theorem dX0_tree_14 : decode cX0_tree 14 = .ok (.getfield 174, 3) := dk_180 0 174 (dk_at dksX0_tree_0 14 rfl rfl)
theorem dX0_tree_17 : decode cX0_tree 17 = .ok (.ifCond .ne 7, 3) := dk_154 0 7 (dk_at dksX0_tree_0 17 rfl rfl)
theorem dX0_tree_20 : decode cX0_tree 20 = .ok (.ldc2_w 293, 3) := dk_20 1 37 (dk_at dksX0_tree_0 20 rfl rfl)
theorem dX0_tree_23 : decode cX0_tree 23 = .ok (.lreturn, 1) := dk_173 (dk_at dksX0_tree_0 23 rfl rfl)
theorem dX0_tree_24 : decode cX0_tree 24 = .ok (.iload_n 1, 1) := dk_27 (dk_at dksX0_tree_1 0 rfl rfl)
theorem dX0_tree_25 : decode cX0_tree 25 = .ok (.tableswitch 132 0 4 #[35, 55, 74, 93, 113], 35) := by decide +kernel
theorem dX0_tree_60 : decode cX0_tree 60 = .ok (.aload_n 0, 1) := dk_42 (dk_at dksX0_tree_3 0 rfl rfl)
theorem dX0_tree_61 : decode cX0_tree 61 = .ok (.aload_n 0, 1) := dk_42 (dk_at dksX0_tree_3 1 rfl rfl)
theorem dX0_tree_62 : decode cX0_tree 62 = .ok (.getfield 568, 3) := dk_180 2 56 (dk_at dksX0_tree_3 2 rfl rfl)
theorem dX0_tree_65 : decode cX0_tree 65 = .ok (.iconst 0, 1) := dk_3 (dk_at dksX0_tree_3 5 rfl rfl)
theorem dX0_tree_66 : decode cX0_tree 66 = .ok (.aaload, 1) := dk_50 (dk_at dksX0_tree_3 6 rfl rfl)
theorem dX0_tree_67 : decode cX0_tree 67 = .ok (.invokedynamic 586, 5) := by decide +kernel
theorem dX0_tree_72 : decode cX0_tree 72 = .ok (.invokevirtual 589, 3) := dk_182 2 77 (dk_at dksX0_tree_3 12 rfl rfl)
theorem dX0_tree_75 : decode cX0_tree 75 = .ok (.getfield 593, 3) := dk_180 2 81 (dk_at dksX0_tree_3 15 rfl rfl)
theorem dX0_tree_78 : decode cX0_tree 78 = .ok (.i2l, 1) := dk_133 (dk_at dksX0_tree_3 18 rfl rfl)
theorem dX0_tree_79 : decode cX0_tree 79 = .ok (.lreturn, 1) := dk_173 (dk_at dksX0_tree_3 19 rfl rfl)
theorem dX0_tree_80 : decode cX0_tree 80 = .ok (.aload_n 0, 1) := dk_42 (dk_at dksX0_tree_3 20 rfl rfl)
theorem dX0_tree_81 : decode cX0_tree 81 = .ok (.aload_n 0, 1) := dk_42 (dk_at dksX0_tree_3 21 rfl rfl)
theorem dX0_tree_82 : decode cX0_tree 82 = .ok (.getfield 568, 3) := dk_180 2 56 (dk_at dksX0_tree_4 0 rfl rfl)
theorem dX0_tree_85 : decode cX0_tree 85 = .ok (.iconst 0, 1) := dk_3 (dk_at dksX0_tree_4 3 rfl rfl)
theorem dX0_tree_86 : decode cX0_tree 86 = .ok (.aaload, 1) := dk_50 (dk_at dksX0_tree_4 4 rfl rfl)
theorem dX0_tree_87 : decode cX0_tree 87 = .ok (.invokedynamic 594, 5) := by decide +kernel
theorem dX0_tree_92 : decode cX0_tree 92 = .ok (.invokevirtual 589, 3) := dk_182 2 77 (dk_at dksX0_tree_4 10 rfl rfl)
theorem dX0_tree_95 : decode cX0_tree 95 = .ok (.getfield 595, 3) := dk_180 2 83 (dk_at dksX0_tree_4 13 rfl rfl)
theorem dX0_tree_98 : decode cX0_tree 98 = .ok (.lreturn, 1) := dk_173 (dk_at dksX0_tree_4 16 rfl rfl)
theorem dX0_tree_99 : decode cX0_tree 99 = .ok (.aload_n 0, 1) := dk_42 (dk_at dksX0_tree_4 17 rfl rfl)
theorem dX0_tree_100 : decode cX0_tree 100 = .ok (.aload_n 0, 1) := dk_42 (dk_at dksX0_tree_4 18 rfl rfl)
theorem dX0_tree_101 : decode cX0_tree 101 = .ok (.getfield 568, 3) := dk_180 2 56 (dk_at dksX0_tree_4 19 rfl rfl)
theorem dX0_tree_104 : decode cX0_tree 104 = .ok (.iconst 0, 1) := dk_3 (dk_at dksX0_tree_4 22 rfl rfl)
theorem dX0_tree_105 : decode cX0_tree 105 = .ok (.aaload, 1) := dk_50 (dk_at dksX0_tree_4 23 rfl rfl)
theorem dX0_tree_106 : decode cX0_tree 106 = .ok (.invokedynamic 598, 5) := by decide +kernel
theorem dX0_tree_111 : decode cX0_tree 111 = .ok (.invokevirtual 589, 3) := dk_182 2 77 (dk_at dksX0_tree_5 5 rfl rfl)
theorem dX0_tree_114 : decode cX0_tree 114 = .ok (.getfield 595, 3) := dk_180 2 83 (dk_at dksX0_tree_5 8 rfl rfl)
theorem dX0_tree_117 : decode cX0_tree 117 = .ok (.lreturn, 1) := dk_173 (dk_at dksX0_tree_5 11 rfl rfl)
theorem dX0_tree_118 : decode cX0_tree 118 = .ok (.aload_n 0, 1) := dk_42 (dk_at dksX0_tree_5 12 rfl rfl)
theorem dX0_tree_119 : decode cX0_tree 119 = .ok (.aload_n 0, 1) := dk_42 (dk_at dksX0_tree_5 13 rfl rfl)
theorem dX0_tree_120 : decode cX0_tree 120 = .ok (.getfield 568, 3) := dk_180 2 56 (dk_at dksX0_tree_5 14 rfl rfl)
theorem dX0_tree_123 : decode cX0_tree 123 = .ok (.iconst 0, 1) := dk_3 (dk_at dksX0_tree_5 17 rfl rfl)
theorem dX0_tree_124 : decode cX0_tree 124 = .ok (.aaload, 1) := dk_50 (dk_at dksX0_tree_5 18 rfl rfl)
theorem dX0_tree_125 : decode cX0_tree 125 = .ok (.invokedynamic 599, 5) := by decide +kernel
theorem dX0_tree_130 : decode cX0_tree 130 = .ok (.invokevirtual 589, 3) := dk_182 2 77 (dk_at dksX0_tree_6 0 rfl rfl)
theorem dX0_tree_133 : decode cX0_tree 133 = .ok (.getfield 593, 3) := dk_180 2 81 (dk_at dksX0_tree_6 3 rfl rfl)
theorem dX0_tree_136 : decode cX0_tree 136 = .ok (.i2l, 1) := dk_133 (dk_at dksX0_tree_6 6 rfl rfl)
theorem dX0_tree_137 : decode cX0_tree 137 = .ok (.lreturn, 1) := dk_173 (dk_at dksX0_tree_6 7 rfl rfl)
theorem dX0_tree_138 : decode cX0_tree 138 = .ok (.aload_n 0, 1) := dk_42 (dk_at dksX0_tree_6 8 rfl rfl)
theorem dX0_tree_139 : decode cX0_tree 139 = .ok (.aload_n 0, 1) := dk_42 (dk_at dksX0_tree_6 9 rfl rfl)
theorem dX0_tree_140 : decode cX0_tree 140 = .ok (.getfield 568, 3) := dk_180 2 56 (dk_at dksX0_tree_6 10 rfl rfl)
theorem dX0_tree_143 : decode cX0_tree 143 = .ok (.iconst 0, 1) := dk_3 (dk_at dksX0_tree_6 13 rfl rfl)
theorem dX0_tree_144 : decode cX0_tree 144 = .ok (.aaload, 1) := dk_50 (dk_at dksX0_tree_6 14 rfl rfl)
theorem dX0_tree_145 : decode cX0_tree 145 = .ok (.invokedynamic 600, 5) := by decide +kernel
theorem dX0_tree_150 : decode cX0_tree 150 = .ok (.invokevirtual 589, 3) := dk_182 2 77 (dk_at dksX0_tree_6 20 rfl rfl)
theorem dX0_tree_153 : decode cX0_tree 153 = .ok (.getfield 595, 3) := dk_180 2 83 (dk_at dksX0_tree_7 0 rfl rfl)
theorem dX0_tree_156 : decode cX0_tree 156 = .ok (.lreturn, 1) := dk_173 (dk_at dksX0_tree_7 3 rfl rfl)
theorem dX0_tree_157 : decode cX0_tree 157 = .ok (.aload_n 0, 1) := dk_42 (dk_at dksX0_tree_7 4 rfl rfl)
theorem dX0_tree_158 : decode cX0_tree 158 = .ok (.invokevirtual 601, 3) := dk_182 2 89 (dk_at dksX0_tree_7 5 rfl rfl)
theorem dX0_tree_161 : decode cX0_tree 161 = .ok (.lreturn, 1) := dk_173 (dk_at dksX0_tree_7 8 rfl rfl)
abbrev cX0_lambda_tree_5 : ByteArray := prog_1_method_115_code
def yX0_lambda_tree_5 : MethodName := ⟨RX0, "lambda$tree$5", "(LLinesTouched$Twig;)I"⟩
theorem dX0_lambda_tree_5_0 : decode cX0_lambda_tree_5 0 = .ok (.iconst 1, 1) := by decide +kernel
theorem dX0_lambda_tree_5_1 : decode cX0_lambda_tree_5 1 = .ok (.ireturn, 1) := by decide +kernel
abbrev cX0_either : ByteArray := prog_1_method_80_code
def yX0_either : MethodName := ⟨RX0, "either", "(LLinesTouched$Twig;LLinesTouched$Counted;)LLinesTouched$Tally;"⟩
def dkwX0_either_0 : List UInt8 := [43, 44, 184, 2, 38, 78, 45, 3, 50, 45, 4, 50, 182, 2, 46, 176]
abbrev dktX0_either_0 : List UInt8 := dkwX0_either_0 ++ []
theorem dksX0_either_0 : cX0_either.data.toList.drop 0 = dktX0_either_0 := by decide +kernel
theorem dX0_either_0 : decode cX0_either 0 = .ok (.aload_n 1, 1) := dk_43 (dk_at dksX0_either_0 0 rfl rfl)
theorem dX0_either_1 : decode cX0_either 1 = .ok (.aload_n 2, 1) := dk_44 (dk_at dksX0_either_0 1 rfl rfl)
theorem dX0_either_2 : decode cX0_either 2 = .ok (.invokestatic 550, 3) := dk_184 2 38 (dk_at dksX0_either_0 2 rfl rfl)
theorem dX0_either_5 : decode cX0_either 5 = .ok (.astore_n 3, 1) := dk_78 (dk_at dksX0_either_0 5 rfl rfl)
theorem dX0_either_6 : decode cX0_either 6 = .ok (.aload_n 3, 1) := dk_45 (dk_at dksX0_either_0 6 rfl rfl)
theorem dX0_either_7 : decode cX0_either 7 = .ok (.iconst 0, 1) := dk_3 (dk_at dksX0_either_0 7 rfl rfl)
theorem dX0_either_8 : decode cX0_either 8 = .ok (.aaload, 1) := dk_50 (dk_at dksX0_either_0 8 rfl rfl)
theorem dX0_either_9 : decode cX0_either 9 = .ok (.aload_n 3, 1) := dk_45 (dk_at dksX0_either_0 9 rfl rfl)
theorem dX0_either_10 : decode cX0_either 10 = .ok (.iconst 1, 1) := dk_4 (dk_at dksX0_either_0 10 rfl rfl)
theorem dX0_either_11 : decode cX0_either 11 = .ok (.aaload, 1) := dk_50 (dk_at dksX0_either_0 11 rfl rfl)
theorem dX0_either_12 : decode cX0_either 12 = .ok (.invokevirtual 558, 3) := dk_182 2 46 (dk_at dksX0_either_0 12 rfl rfl)
theorem dX0_either_15 : decode cX0_either 15 = .ok (.areturn, 1) := dk_176 (dk_at dksX0_either_0 15 rfl rfl)
abbrev cX0_both : ByteArray := prog_1_method_79_code
def yX0_both : MethodName := ⟨RX0, "both", "(LLinesTouched$Twig;LLinesTouched$Counted;)[LLinesTouched$Tally;"⟩
def dkwX0_both_3 : List UInt8 := [25, 4, 180, 2, 49, 58, 4, 167, 255, 211, 5, 189, 2, 22, 89, 3, 44, 83, 89, 4, 45, 83, 176]
abbrev dktX0_both_3 : List UInt8 := dkwX0_both_3 ++ []
def dkwX0_both_2 : List UInt8 := [25, 5, 4, 50, 182, 2, 42, 77, 45, 25, 5, 3, 50, 25, 5, 4, 50, 182, 2, 46, 182, 2, 42, 78]
abbrev dktX0_both_2 : List UInt8 := dkwX0_both_2 ++ dktX0_both_3
def dkwX0_both_1 : List UInt8 := [183, 2, 24, 78, 42, 180, 2, 33, 58, 4, 25, 4, 198, 0, 46, 25, 4, 43, 184, 2, 38, 58, 5, 44]
abbrev dktX0_both_1 : List UInt8 := dkwX0_both_1 ++ dktX0_both_2
def dkwX0_both_0 : List UInt8 := [187, 2, 22, 89, 3, 10, 183, 2, 24, 77, 187, 2, 22, 89, 43, 42, 185, 2, 27, 2, 0, 10]
abbrev dktX0_both_0 : List UInt8 := dkwX0_both_0 ++ dktX0_both_1
theorem dksX0_both_0 : cX0_both.data.toList.drop 0 = dktX0_both_0 := by decide +kernel
theorem dksX0_both_1 : cX0_both.data.toList.drop 22 = dktX0_both_1 := dk_seg dksX0_both_0 22 rfl rfl
theorem dksX0_both_2 : cX0_both.data.toList.drop 46 = dktX0_both_2 := dk_seg dksX0_both_1 24 rfl rfl
theorem dksX0_both_3 : cX0_both.data.toList.drop 70 = dktX0_both_3 := dk_seg dksX0_both_2 24 rfl rfl
theorem dX0_both_0 : decode cX0_both 0 = .ok (.new 534, 3) := dk_187 2 22 (dk_at dksX0_both_0 0 rfl rfl)
theorem dX0_both_3 : decode cX0_both 3 = .ok (.dup, 1) := dk_89 (dk_at dksX0_both_0 3 rfl rfl)
theorem dX0_both_4 : decode cX0_both 4 = .ok (.iconst 0, 1) := dk_3 (dk_at dksX0_both_0 4 rfl rfl)
theorem dX0_both_5 : decode cX0_both 5 = .ok (.lconst 1, 1) := dk_10 (dk_at dksX0_both_0 5 rfl rfl)
theorem dX0_both_6 : decode cX0_both 6 = .ok (.invokespecial 536, 3) := dk_183 2 24 (dk_at dksX0_both_0 6 rfl rfl)
theorem dX0_both_9 : decode cX0_both 9 = .ok (.astore_n 2, 1) := dk_77 (dk_at dksX0_both_0 9 rfl rfl)
theorem dX0_both_10 : decode cX0_both 10 = .ok (.new 534, 3) := dk_187 2 22 (dk_at dksX0_both_0 10 rfl rfl)
theorem dX0_both_13 : decode cX0_both 13 = .ok (.dup, 1) := dk_89 (dk_at dksX0_both_0 13 rfl rfl)
theorem dX0_both_14 : decode cX0_both 14 = .ok (.aload_n 1, 1) := dk_43 (dk_at dksX0_both_0 14 rfl rfl)
theorem dX0_both_15 : decode cX0_both 15 = .ok (.aload_n 0, 1) := dk_42 (dk_at dksX0_both_0 15 rfl rfl)
theorem dX0_both_16 : decode cX0_both 16 = .ok (.invokeinterface 539 2, 5) := by decide +kernel
theorem dX0_both_21 : decode cX0_both 21 = .ok (.lconst 1, 1) := dk_10 (dk_at dksX0_both_0 21 rfl rfl)
theorem dX0_both_22 : decode cX0_both 22 = .ok (.invokespecial 536, 3) := dk_183 2 24 (dk_at dksX0_both_1 0 rfl rfl)
theorem dX0_both_25 : decode cX0_both 25 = .ok (.astore_n 3, 1) := dk_78 (dk_at dksX0_both_1 3 rfl rfl)
theorem dX0_both_26 : decode cX0_both 26 = .ok (.aload_n 0, 1) := dk_42 (dk_at dksX0_both_1 4 rfl rfl)
theorem dX0_both_27 : decode cX0_both 27 = .ok (.getfield 545, 3) := dk_180 2 33 (dk_at dksX0_both_1 5 rfl rfl)
theorem dX0_both_30 : decode cX0_both 30 = .ok (.astore 4, 2) := dk_58 4 (dk_at dksX0_both_1 8 rfl rfl)
theorem dX0_both_32 : decode cX0_both 32 = .ok (.aload 4, 2) := dk_25 4 (dk_at dksX0_both_1 10 rfl rfl)
theorem dX0_both_34 : decode cX0_both 34 = .ok (.ifnull 46, 3) := dk_198 0 46 (dk_at dksX0_both_1 12 rfl rfl)
theorem dX0_both_37 : decode cX0_both 37 = .ok (.aload 4, 2) := dk_25 4 (dk_at dksX0_both_1 15 rfl rfl)
theorem dX0_both_39 : decode cX0_both 39 = .ok (.aload_n 1, 1) := dk_43 (dk_at dksX0_both_1 17 rfl rfl)
theorem dX0_both_40 : decode cX0_both 40 = .ok (.invokestatic 550, 3) := dk_184 2 38 (dk_at dksX0_both_1 18 rfl rfl)
theorem dX0_both_43 : decode cX0_both 43 = .ok (.astore 5, 2) := dk_58 5 (dk_at dksX0_both_1 21 rfl rfl)
theorem dX0_both_45 : decode cX0_both 45 = .ok (.aload_n 2, 1) := dk_44 (dk_at dksX0_both_1 23 rfl rfl)
theorem dX0_both_46 : decode cX0_both 46 = .ok (.aload 5, 2) := dk_25 5 (dk_at dksX0_both_2 0 rfl rfl)
theorem dX0_both_48 : decode cX0_both 48 = .ok (.iconst 1, 1) := dk_4 (dk_at dksX0_both_2 2 rfl rfl)
theorem dX0_both_49 : decode cX0_both 49 = .ok (.aaload, 1) := dk_50 (dk_at dksX0_both_2 3 rfl rfl)
theorem dX0_both_50 : decode cX0_both 50 = .ok (.invokevirtual 554, 3) := dk_182 2 42 (dk_at dksX0_both_2 4 rfl rfl)
theorem dX0_both_53 : decode cX0_both 53 = .ok (.astore_n 2, 1) := dk_77 (dk_at dksX0_both_2 7 rfl rfl)
theorem dX0_both_54 : decode cX0_both 54 = .ok (.aload_n 3, 1) := dk_45 (dk_at dksX0_both_2 8 rfl rfl)
theorem dX0_both_55 : decode cX0_both 55 = .ok (.aload 5, 2) := dk_25 5 (dk_at dksX0_both_2 9 rfl rfl)
theorem dX0_both_57 : decode cX0_both 57 = .ok (.iconst 0, 1) := dk_3 (dk_at dksX0_both_2 11 rfl rfl)
theorem dX0_both_58 : decode cX0_both 58 = .ok (.aaload, 1) := dk_50 (dk_at dksX0_both_2 12 rfl rfl)
theorem dX0_both_59 : decode cX0_both 59 = .ok (.aload 5, 2) := dk_25 5 (dk_at dksX0_both_2 13 rfl rfl)
theorem dX0_both_61 : decode cX0_both 61 = .ok (.iconst 1, 1) := dk_4 (dk_at dksX0_both_2 15 rfl rfl)
theorem dX0_both_62 : decode cX0_both 62 = .ok (.aaload, 1) := dk_50 (dk_at dksX0_both_2 16 rfl rfl)
theorem dX0_both_63 : decode cX0_both 63 = .ok (.invokevirtual 558, 3) := dk_182 2 46 (dk_at dksX0_both_2 17 rfl rfl)
theorem dX0_both_66 : decode cX0_both 66 = .ok (.invokevirtual 554, 3) := dk_182 2 42 (dk_at dksX0_both_2 20 rfl rfl)
theorem dX0_both_69 : decode cX0_both 69 = .ok (.astore_n 3, 1) := dk_78 (dk_at dksX0_both_2 23 rfl rfl)
theorem dX0_both_70 : decode cX0_both 70 = .ok (.aload 4, 2) := dk_25 4 (dk_at dksX0_both_3 0 rfl rfl)
theorem dX0_both_72 : decode cX0_both 72 = .ok (.getfield 561, 3) := dk_180 2 49 (dk_at dksX0_both_3 2 rfl rfl)
theorem dX0_both_75 : decode cX0_both 75 = .ok (.astore 4, 2) := dk_58 4 (dk_at dksX0_both_3 5 rfl rfl)
theorem dX0_both_77 : decode cX0_both 77 = .ok (.goto (-45), 3) := dk_167 255 211 (dk_at dksX0_both_3 7 rfl rfl)
theorem dX0_both_80 : decode cX0_both 80 = .ok (.iconst 2, 1) := dk_5 (dk_at dksX0_both_3 10 rfl rfl)
theorem dX0_both_81 : decode cX0_both 81 = .ok (.anewarray 534, 3) := dk_189 2 22 (dk_at dksX0_both_3 11 rfl rfl)
theorem dX0_both_84 : decode cX0_both 84 = .ok (.dup, 1) := dk_89 (dk_at dksX0_both_3 14 rfl rfl)
theorem dX0_both_85 : decode cX0_both 85 = .ok (.iconst 0, 1) := dk_3 (dk_at dksX0_both_3 15 rfl rfl)
theorem dX0_both_86 : decode cX0_both 86 = .ok (.aload_n 2, 1) := dk_44 (dk_at dksX0_both_3 16 rfl rfl)
theorem dX0_both_87 : decode cX0_both 87 = .ok (.aastore, 1) := dk_83 (dk_at dksX0_both_3 17 rfl rfl)
theorem dX0_both_88 : decode cX0_both 88 = .ok (.dup, 1) := dk_89 (dk_at dksX0_both_3 18 rfl rfl)
theorem dX0_both_89 : decode cX0_both 89 = .ok (.iconst 1, 1) := dk_4 (dk_at dksX0_both_3 19 rfl rfl)
theorem dX0_both_90 : decode cX0_both 90 = .ok (.aload_n 3, 1) := dk_45 (dk_at dksX0_both_3 20 rfl rfl)
theorem dX0_both_91 : decode cX0_both 91 = .ok (.aastore, 1) := dk_83 (dk_at dksX0_both_3 21 rfl rfl)
theorem dX0_both_92 : decode cX0_both 92 = .ok (.areturn, 1) := dk_176 (dk_at dksX0_both_3 22 rfl rfl)
abbrev cX0_lambda_tree_6 : ByteArray := prog_1_method_114_code
def yX0_lambda_tree_6 : MethodName := ⟨RX0, "lambda$tree$6", "(LLinesTouched$Twig;)I"⟩
theorem dX0_lambda_tree_6_0 : decode cX0_lambda_tree_6 0 = .ok (.iconst 0, 1) := by decide +kernel
theorem dX0_lambda_tree_6_1 : decode cX0_lambda_tree_6 1 = .ok (.ireturn, 1) := by decide +kernel
abbrev cX0_lambda_tree_7 : ByteArray := prog_1_method_113_code
def yX0_lambda_tree_7 : MethodName := ⟨RX0, "lambda$tree$7", "(LLinesTouched$Twig;)I"⟩
theorem dX0_lambda_tree_7_0 : decode cX0_lambda_tree_7 0 = .ok (.iconst 1, 1) := by decide +kernel
theorem dX0_lambda_tree_7_1 : decode cX0_lambda_tree_7 1 = .ok (.ireturn, 1) := by decide +kernel
abbrev cX0_lambda_tree_8 : ByteArray := prog_1_method_112_code
def yX0_lambda_tree_8 : MethodName := ⟨RX0, "lambda$tree$8", "(LLinesTouched$Twig;)I"⟩
theorem dX0_lambda_tree_8_0 : decode cX0_lambda_tree_8 0 = .ok (.aload_n 0, 1) := by decide +kernel
theorem dX0_lambda_tree_8_1 : decode cX0_lambda_tree_8 1 = .ok (.invokevirtual 616, 3) := by decide +kernel
theorem dX0_lambda_tree_8_4 : decode cX0_lambda_tree_8 4 = .ok (.ireturn, 1) := by decide +kernel
abbrev cX0_lambda_tree_9 : ByteArray := prog_1_method_111_code
def yX0_lambda_tree_9 : MethodName := ⟨RX0, "lambda$tree$9", "(LLinesTouched$Twig;)I"⟩
theorem dX0_lambda_tree_9_0 : decode cX0_lambda_tree_9 0 = .ok (.aload_n 0, 1) := by decide +kernel
theorem dX0_lambda_tree_9_1 : decode cX0_lambda_tree_9 1 = .ok (.invokevirtual 616, 3) := by decide +kernel
theorem dX0_lambda_tree_9_4 : decode cX0_lambda_tree_9 4 = .ok (.ireturn, 1) := by decide +kernel
abbrev cX0_bareTree : ByteArray := prog_1_method_82_code
def yX0_bareTree : MethodName := ⟨RX0, "bareTree", "()J"⟩
def dkwX0_bareTree_0 : List UInt8 := [6, 188, 11, 76, 42, 42, 180, 2, 56, 3, 50, 43, 182, 2, 52, 43, 3, 47, 43, 4, 47, 97, 173]
abbrev dktX0_bareTree_0 : List UInt8 := dkwX0_bareTree_0 ++ []
theorem dksX0_bareTree_0 : cX0_bareTree.data.toList.drop 0 = dktX0_bareTree_0 := by decide +kernel
theorem dX0_bareTree_0 : decode cX0_bareTree 0 = .ok (.iconst 3, 1) := dk_6 (dk_at dksX0_bareTree_0 0 rfl rfl)
theorem dX0_bareTree_1 : decode cX0_bareTree 1 = .ok (.newarray .long, 2) := dk_188_11 (dk_at dksX0_bareTree_0 1 rfl rfl)
theorem dX0_bareTree_3 : decode cX0_bareTree 3 = .ok (.astore_n 1, 1) := dk_76 (dk_at dksX0_bareTree_0 3 rfl rfl)
theorem dX0_bareTree_4 : decode cX0_bareTree 4 = .ok (.aload_n 0, 1) := dk_42 (dk_at dksX0_bareTree_0 4 rfl rfl)
theorem dX0_bareTree_5 : decode cX0_bareTree 5 = .ok (.aload_n 0, 1) := dk_42 (dk_at dksX0_bareTree_0 5 rfl rfl)
theorem dX0_bareTree_6 : decode cX0_bareTree 6 = .ok (.getfield 568, 3) := dk_180 2 56 (dk_at dksX0_bareTree_0 6 rfl rfl)
theorem dX0_bareTree_9 : decode cX0_bareTree 9 = .ok (.iconst 0, 1) := dk_3 (dk_at dksX0_bareTree_0 9 rfl rfl)
theorem dX0_bareTree_10 : decode cX0_bareTree 10 = .ok (.aaload, 1) := dk_50 (dk_at dksX0_bareTree_0 10 rfl rfl)
theorem dX0_bareTree_11 : decode cX0_bareTree 11 = .ok (.aload_n 1, 1) := dk_43 (dk_at dksX0_bareTree_0 11 rfl rfl)
theorem dX0_bareTree_12 : decode cX0_bareTree 12 = .ok (.invokevirtual 564, 3) := dk_182 2 52 (dk_at dksX0_bareTree_0 12 rfl rfl)
theorem dX0_bareTree_15 : decode cX0_bareTree 15 = .ok (.aload_n 1, 1) := dk_43 (dk_at dksX0_bareTree_0 15 rfl rfl)
theorem dX0_bareTree_16 : decode cX0_bareTree 16 = .ok (.iconst 0, 1) := dk_3 (dk_at dksX0_bareTree_0 16 rfl rfl)
theorem dX0_bareTree_17 : decode cX0_bareTree 17 = .ok (.laload, 1) := dk_47 (dk_at dksX0_bareTree_0 17 rfl rfl)
theorem dX0_bareTree_18 : decode cX0_bareTree 18 = .ok (.aload_n 1, 1) := dk_43 (dk_at dksX0_bareTree_0 18 rfl rfl)
theorem dX0_bareTree_19 : decode cX0_bareTree 19 = .ok (.iconst 1, 1) := dk_4 (dk_at dksX0_bareTree_0 19 rfl rfl)
theorem dX0_bareTree_20 : decode cX0_bareTree 20 = .ok (.laload, 1) := dk_47 (dk_at dksX0_bareTree_0 20 rfl rfl)
theorem dX0_bareTree_21 : decode cX0_bareTree 21 = .ok (.ladd, 1) := dk_97 (dk_at dksX0_bareTree_0 21 rfl rfl)
theorem dX0_bareTree_22 : decode cX0_bareTree 22 = .ok (.lreturn, 1) := dk_173 (dk_at dksX0_bareTree_0 22 rfl rfl)
abbrev cX0_bareOf : ByteArray := prog_1_method_81_code
def yX0_bareOf : MethodName := ⟨RX0, "bareOf", "(LLinesTouched$Twig;[J)V"⟩
def dkwX0_bareOf_3 : List UInt8 := [58, 9, 167, 255, 196, 44, 3, 33, 80, 44, 4, 22, 5, 22, 7, 101, 80, 44, 5, 22, 7, 80, 177]
abbrev dktX0_bareOf_3 : List UInt8 := dkwX0_bareOf_3 ++ []
def dkwX0_bareOf_2 : List UInt8 := [3, 47, 25, 10, 4, 47, 97, 105, 55, 5, 22, 7, 25, 10, 4, 47, 105, 55, 7, 25, 9, 180, 2, 49]
abbrev dktX0_bareOf_2 : List UInt8 := dkwX0_bareOf_2 ++ dktX0_bareOf_3
def dkwX0_bareOf_1 : List UInt8 := [42, 25, 9, 25, 10, 182, 2, 52, 33, 25, 10, 4, 47, 25, 10, 5, 47, 97, 105, 66, 22, 5, 25, 10]
abbrev dktX0_bareOf_1 : List UInt8 := dkwX0_bareOf_1 ++ dktX0_bareOf_2
def dkwX0_bareOf_0 : List UInt8 := [10, 66, 10, 55, 5, 10, 55, 7, 43, 180, 2, 33, 58, 9, 25, 9, 198, 0, 61, 6, 188, 11, 58, 10]
abbrev dktX0_bareOf_0 : List UInt8 := dkwX0_bareOf_0 ++ dktX0_bareOf_1
theorem dksX0_bareOf_0 : cX0_bareOf.data.toList.drop 0 = dktX0_bareOf_0 := by decide +kernel
theorem dksX0_bareOf_1 : cX0_bareOf.data.toList.drop 24 = dktX0_bareOf_1 := dk_seg dksX0_bareOf_0 24 rfl rfl
theorem dksX0_bareOf_2 : cX0_bareOf.data.toList.drop 48 = dktX0_bareOf_2 := dk_seg dksX0_bareOf_1 24 rfl rfl
theorem dksX0_bareOf_3 : cX0_bareOf.data.toList.drop 72 = dktX0_bareOf_3 := dk_seg dksX0_bareOf_2 24 rfl rfl
theorem dX0_bareOf_0 : decode cX0_bareOf 0 = .ok (.lconst 1, 1) := dk_10 (dk_at dksX0_bareOf_0 0 rfl rfl)
theorem dX0_bareOf_1 : decode cX0_bareOf 1 = .ok (.lstore_n 3, 1) := dk_66 (dk_at dksX0_bareOf_0 1 rfl rfl)
theorem dX0_bareOf_2 : decode cX0_bareOf 2 = .ok (.lconst 1, 1) := dk_10 (dk_at dksX0_bareOf_0 2 rfl rfl)
theorem dX0_bareOf_3 : decode cX0_bareOf 3 = .ok (.lstore 5, 2) := dk_55 5 (dk_at dksX0_bareOf_0 3 rfl rfl)
theorem dX0_bareOf_5 : decode cX0_bareOf 5 = .ok (.lconst 1, 1) := dk_10 (dk_at dksX0_bareOf_0 5 rfl rfl)
theorem dX0_bareOf_6 : decode cX0_bareOf 6 = .ok (.lstore 7, 2) := dk_55 7 (dk_at dksX0_bareOf_0 6 rfl rfl)
theorem dX0_bareOf_8 : decode cX0_bareOf 8 = .ok (.aload_n 1, 1) := dk_43 (dk_at dksX0_bareOf_0 8 rfl rfl)
theorem dX0_bareOf_9 : decode cX0_bareOf 9 = .ok (.getfield 545, 3) := dk_180 2 33 (dk_at dksX0_bareOf_0 9 rfl rfl)
theorem dX0_bareOf_12 : decode cX0_bareOf 12 = .ok (.astore 9, 2) := dk_58 9 (dk_at dksX0_bareOf_0 12 rfl rfl)
theorem dX0_bareOf_14 : decode cX0_bareOf 14 = .ok (.aload 9, 2) := dk_25 9 (dk_at dksX0_bareOf_0 14 rfl rfl)
theorem dX0_bareOf_16 : decode cX0_bareOf 16 = .ok (.ifnull 61, 3) := dk_198 0 61 (dk_at dksX0_bareOf_0 16 rfl rfl)
theorem dX0_bareOf_19 : decode cX0_bareOf 19 = .ok (.iconst 3, 1) := dk_6 (dk_at dksX0_bareOf_0 19 rfl rfl)
theorem dX0_bareOf_20 : decode cX0_bareOf 20 = .ok (.newarray .long, 2) := dk_188_11 (dk_at dksX0_bareOf_0 20 rfl rfl)
theorem dX0_bareOf_22 : decode cX0_bareOf 22 = .ok (.astore 10, 2) := dk_58 10 (dk_at dksX0_bareOf_0 22 rfl rfl)
theorem dX0_bareOf_24 : decode cX0_bareOf 24 = .ok (.aload_n 0, 1) := dk_42 (dk_at dksX0_bareOf_1 0 rfl rfl)
theorem dX0_bareOf_25 : decode cX0_bareOf 25 = .ok (.aload 9, 2) := dk_25 9 (dk_at dksX0_bareOf_1 1 rfl rfl)
theorem dX0_bareOf_27 : decode cX0_bareOf 27 = .ok (.aload 10, 2) := dk_25 10 (dk_at dksX0_bareOf_1 3 rfl rfl)
theorem dX0_bareOf_29 : decode cX0_bareOf 29 = .ok (.invokevirtual 564, 3) := dk_182 2 52 (dk_at dksX0_bareOf_1 5 rfl rfl)
theorem dX0_bareOf_32 : decode cX0_bareOf 32 = .ok (.lload_n 3, 1) := dk_33 (dk_at dksX0_bareOf_1 8 rfl rfl)
theorem dX0_bareOf_33 : decode cX0_bareOf 33 = .ok (.aload 10, 2) := dk_25 10 (dk_at dksX0_bareOf_1 9 rfl rfl)
theorem dX0_bareOf_35 : decode cX0_bareOf 35 = .ok (.iconst 1, 1) := dk_4 (dk_at dksX0_bareOf_1 11 rfl rfl)
theorem dX0_bareOf_36 : decode cX0_bareOf 36 = .ok (.laload, 1) := dk_47 (dk_at dksX0_bareOf_1 12 rfl rfl)
theorem dX0_bareOf_37 : decode cX0_bareOf 37 = .ok (.aload 10, 2) := dk_25 10 (dk_at dksX0_bareOf_1 13 rfl rfl)
theorem dX0_bareOf_39 : decode cX0_bareOf 39 = .ok (.iconst 2, 1) := dk_5 (dk_at dksX0_bareOf_1 15 rfl rfl)
theorem dX0_bareOf_40 : decode cX0_bareOf 40 = .ok (.laload, 1) := dk_47 (dk_at dksX0_bareOf_1 16 rfl rfl)
theorem dX0_bareOf_41 : decode cX0_bareOf 41 = .ok (.ladd, 1) := dk_97 (dk_at dksX0_bareOf_1 17 rfl rfl)
theorem dX0_bareOf_42 : decode cX0_bareOf 42 = .ok (.lmul, 1) := dk_105 (dk_at dksX0_bareOf_1 18 rfl rfl)
theorem dX0_bareOf_43 : decode cX0_bareOf 43 = .ok (.lstore_n 3, 1) := dk_66 (dk_at dksX0_bareOf_1 19 rfl rfl)
theorem dX0_bareOf_44 : decode cX0_bareOf 44 = .ok (.lload 5, 2) := dk_22 5 (dk_at dksX0_bareOf_1 20 rfl rfl)
theorem dX0_bareOf_46 : decode cX0_bareOf 46 = .ok (.aload 10, 2) := dk_25 10 (dk_at dksX0_bareOf_1 22 rfl rfl)
theorem dX0_bareOf_48 : decode cX0_bareOf 48 = .ok (.iconst 0, 1) := dk_3 (dk_at dksX0_bareOf_2 0 rfl rfl)
theorem dX0_bareOf_49 : decode cX0_bareOf 49 = .ok (.laload, 1) := dk_47 (dk_at dksX0_bareOf_2 1 rfl rfl)
theorem dX0_bareOf_50 : decode cX0_bareOf 50 = .ok (.aload 10, 2) := dk_25 10 (dk_at dksX0_bareOf_2 2 rfl rfl)
theorem dX0_bareOf_52 : decode cX0_bareOf 52 = .ok (.iconst 1, 1) := dk_4 (dk_at dksX0_bareOf_2 4 rfl rfl)
theorem dX0_bareOf_53 : decode cX0_bareOf 53 = .ok (.laload, 1) := dk_47 (dk_at dksX0_bareOf_2 5 rfl rfl)
theorem dX0_bareOf_54 : decode cX0_bareOf 54 = .ok (.ladd, 1) := dk_97 (dk_at dksX0_bareOf_2 6 rfl rfl)
theorem dX0_bareOf_55 : decode cX0_bareOf 55 = .ok (.lmul, 1) := dk_105 (dk_at dksX0_bareOf_2 7 rfl rfl)
theorem dX0_bareOf_56 : decode cX0_bareOf 56 = .ok (.lstore 5, 2) := dk_55 5 (dk_at dksX0_bareOf_2 8 rfl rfl)
theorem dX0_bareOf_58 : decode cX0_bareOf 58 = .ok (.lload 7, 2) := dk_22 7 (dk_at dksX0_bareOf_2 10 rfl rfl)
theorem dX0_bareOf_60 : decode cX0_bareOf 60 = .ok (.aload 10, 2) := dk_25 10 (dk_at dksX0_bareOf_2 12 rfl rfl)
theorem dX0_bareOf_62 : decode cX0_bareOf 62 = .ok (.iconst 1, 1) := dk_4 (dk_at dksX0_bareOf_2 14 rfl rfl)
theorem dX0_bareOf_63 : decode cX0_bareOf 63 = .ok (.laload, 1) := dk_47 (dk_at dksX0_bareOf_2 15 rfl rfl)
theorem dX0_bareOf_64 : decode cX0_bareOf 64 = .ok (.lmul, 1) := dk_105 (dk_at dksX0_bareOf_2 16 rfl rfl)
theorem dX0_bareOf_65 : decode cX0_bareOf 65 = .ok (.lstore 7, 2) := dk_55 7 (dk_at dksX0_bareOf_2 17 rfl rfl)
theorem dX0_bareOf_67 : decode cX0_bareOf 67 = .ok (.aload 9, 2) := dk_25 9 (dk_at dksX0_bareOf_2 19 rfl rfl)
theorem dX0_bareOf_69 : decode cX0_bareOf 69 = .ok (.getfield 561, 3) := dk_180 2 49 (dk_at dksX0_bareOf_2 21 rfl rfl)
theorem dX0_bareOf_72 : decode cX0_bareOf 72 = .ok (.astore 9, 2) := dk_58 9 (dk_at dksX0_bareOf_3 0 rfl rfl)
theorem dX0_bareOf_74 : decode cX0_bareOf 74 = .ok (.goto (-60), 3) := dk_167 255 196 (dk_at dksX0_bareOf_3 2 rfl rfl)
theorem dX0_bareOf_77 : decode cX0_bareOf 77 = .ok (.aload_n 2, 1) := dk_44 (dk_at dksX0_bareOf_3 5 rfl rfl)
theorem dX0_bareOf_78 : decode cX0_bareOf 78 = .ok (.iconst 0, 1) := dk_3 (dk_at dksX0_bareOf_3 6 rfl rfl)
theorem dX0_bareOf_79 : decode cX0_bareOf 79 = .ok (.lload_n 3, 1) := dk_33 (dk_at dksX0_bareOf_3 7 rfl rfl)
theorem dX0_bareOf_80 : decode cX0_bareOf 80 = .ok (.lastore, 1) := dk_80 (dk_at dksX0_bareOf_3 8 rfl rfl)
theorem dX0_bareOf_81 : decode cX0_bareOf 81 = .ok (.aload_n 2, 1) := dk_44 (dk_at dksX0_bareOf_3 9 rfl rfl)
theorem dX0_bareOf_82 : decode cX0_bareOf 82 = .ok (.iconst 1, 1) := dk_4 (dk_at dksX0_bareOf_3 10 rfl rfl)
theorem dX0_bareOf_83 : decode cX0_bareOf 83 = .ok (.lload 5, 2) := dk_22 5 (dk_at dksX0_bareOf_3 11 rfl rfl)
theorem dX0_bareOf_85 : decode cX0_bareOf 85 = .ok (.lload 7, 2) := dk_22 7 (dk_at dksX0_bareOf_3 13 rfl rfl)
theorem dX0_bareOf_87 : decode cX0_bareOf 87 = .ok (.lsub, 1) := dk_101 (dk_at dksX0_bareOf_3 15 rfl rfl)
theorem dX0_bareOf_88 : decode cX0_bareOf 88 = .ok (.lastore, 1) := dk_80 (dk_at dksX0_bareOf_3 16 rfl rfl)
theorem dX0_bareOf_89 : decode cX0_bareOf 89 = .ok (.aload_n 2, 1) := dk_44 (dk_at dksX0_bareOf_3 17 rfl rfl)
theorem dX0_bareOf_90 : decode cX0_bareOf 90 = .ok (.iconst 2, 1) := dk_5 (dk_at dksX0_bareOf_3 18 rfl rfl)
theorem dX0_bareOf_91 : decode cX0_bareOf 91 = .ok (.lload 7, 2) := dk_22 7 (dk_at dksX0_bareOf_3 19 rfl rfl)
theorem dX0_bareOf_93 : decode cX0_bareOf 93 = .ok (.lastore, 1) := dk_80 (dk_at dksX0_bareOf_3 21 rfl rfl)
theorem dX0_bareOf_94 : decode cX0_bareOf 94 = .ok (.return_, 1) := dk_177 (dk_at dksX0_bareOf_3 22 rfl rfl)
abbrev cX0_treeOf : ByteArray := prog_1_method_88_code
def yX0_treeOf : MethodName := ⟨RX0, "treeOf", "(II)I"⟩
def dkwX0_treeOf_5 : List UInt8 := [42, 27, 182, 2, 106, 153, 0, 7, 4, 167, 0, 4, 3, 172, 16, 254, 172]
abbrev dktX0_treeOf_5 : List UInt8 := dkwX0_treeOf_5 ++ []
def dkwX0_treeOf_4 : List UInt8 := [167, 0, 13, 45, 180, 2, 93, 180, 2, 96, 180, 2, 99, 172, 45, 180, 2, 101, 172, 45, 182, 2, 104, 172]
abbrev dktX0_treeOf_4 : List UInt8 := dkwX0_treeOf_4 ++ dktX0_treeOf_5
def dkwX0_treeOf_3 : List UInt8 := [45, 180, 2, 96, 182, 0, 142, 172, 45, 180, 2, 96, 180, 0, 146, 172, 45, 180, 2, 93, 199, 0, 7, 2]
abbrev dktX0_treeOf_3 : List UInt8 := dkwX0_treeOf_3 ++ dktX0_treeOf_4
def dkwX0_treeOf_2 : List UInt8 := [170, 0, 0, 0, 0, 0, 101, 0, 0, 0, 0, 0, 0, 0, 5, 0, 0, 0, 39, 0, 0, 0, 47, 0, 0, 0, 55, 0, 0, 0, 77, 0, 0, 0, 82, 0, 0, 0, 87]
abbrev dktX0_treeOf_2 : List UInt8 := dkwX0_treeOf_2 ++ dktX0_treeOf_3
def dkwX0_treeOf_1 : List UInt8 := [28]
abbrev dktX0_treeOf_1 : List UInt8 := dkwX0_treeOf_1 ++ dktX0_treeOf_2
def dkwX0_treeOf_0 : List UInt8 := [27, 3, 42, 180, 0, 174, 4, 100, 184, 0, 111, 154, 0, 6, 16, 254, 172, 42, 180, 2, 56, 27, 50, 78]
abbrev dktX0_treeOf_0 : List UInt8 := dkwX0_treeOf_0 ++ dktX0_treeOf_1
theorem dksX0_treeOf_0 : cX0_treeOf.data.toList.drop 0 = dktX0_treeOf_0 := by decide +kernel
theorem dksX0_treeOf_1 : cX0_treeOf.data.toList.drop 24 = dktX0_treeOf_1 := dk_seg dksX0_treeOf_0 24 rfl rfl
theorem dksX0_treeOf_2 : cX0_treeOf.data.toList.drop 25 = dktX0_treeOf_2 := dk_seg dksX0_treeOf_1 1 rfl rfl
theorem dksX0_treeOf_3 : cX0_treeOf.data.toList.drop 64 = dktX0_treeOf_3 := dk_seg dksX0_treeOf_2 39 rfl rfl
theorem dksX0_treeOf_4 : cX0_treeOf.data.toList.drop 88 = dktX0_treeOf_4 := dk_seg dksX0_treeOf_3 24 rfl rfl
theorem dksX0_treeOf_5 : cX0_treeOf.data.toList.drop 112 = dktX0_treeOf_5 := dk_seg dksX0_treeOf_4 24 rfl rfl
theorem dX0_treeOf_0 : decode cX0_treeOf 0 = .ok (.iload_n 1, 1) := dk_27 (dk_at dksX0_treeOf_0 0 rfl rfl)
theorem dX0_treeOf_1 : decode cX0_treeOf 1 = .ok (.iconst 0, 1) := dk_3 (dk_at dksX0_treeOf_0 1 rfl rfl)
theorem dX0_treeOf_2 : decode cX0_treeOf 2 = .ok (.aload_n 0, 1) := dk_42 (dk_at dksX0_treeOf_0 2 rfl rfl)
theorem dX0_treeOf_3 : decode cX0_treeOf 3 = .ok (.getfield 174, 3) := dk_180 0 174 (dk_at dksX0_treeOf_0 3 rfl rfl)
theorem dX0_treeOf_6 : decode cX0_treeOf 6 = .ok (.iconst 1, 1) := dk_4 (dk_at dksX0_treeOf_0 6 rfl rfl)
theorem dX0_treeOf_7 : decode cX0_treeOf 7 = .ok (.isub, 1) := dk_100 (dk_at dksX0_treeOf_0 7 rfl rfl)
theorem dX0_treeOf_8 : decode cX0_treeOf 8 = .ok (.invokestatic 111, 3) := dk_184 0 111 (dk_at dksX0_treeOf_0 8 rfl rfl)
theorem dX0_treeOf_11 : decode cX0_treeOf 11 = .ok (.ifCond .ne 6, 3) := dk_154 0 6 (dk_at dksX0_treeOf_0 11 rfl rfl)
theorem dX0_treeOf_14 : decode cX0_treeOf 14 = .ok (.bipush (-2), 2) := dk_16 254 (dk_at dksX0_treeOf_0 14 rfl rfl)
theorem dX0_treeOf_16 : decode cX0_treeOf 16 = .ok (.ireturn, 1) := dk_172 (dk_at dksX0_treeOf_0 16 rfl rfl)
theorem dX0_treeOf_17 : decode cX0_treeOf 17 = .ok (.aload_n 0, 1) := dk_42 (dk_at dksX0_treeOf_0 17 rfl rfl)
theorem dX0_treeOf_18 : decode cX0_treeOf 18 = .ok (.getfield 568, 3) := dk_180 2 56 (dk_at dksX0_treeOf_0 18 rfl rfl)
theorem dX0_treeOf_21 : decode cX0_treeOf 21 = .ok (.iload_n 1, 1) := dk_27 (dk_at dksX0_treeOf_0 21 rfl rfl)
theorem dX0_treeOf_22 : decode cX0_treeOf 22 = .ok (.aaload, 1) := dk_50 (dk_at dksX0_treeOf_0 22 rfl rfl)
theorem dX0_treeOf_23 : decode cX0_treeOf 23 = .ok (.astore_n 3, 1) := dk_78 (dk_at dksX0_treeOf_0 23 rfl rfl)
theorem dX0_treeOf_24 : decode cX0_treeOf 24 = .ok (.iload_n 2, 1) := dk_28 (dk_at dksX0_treeOf_1 0 rfl rfl)
theorem dX0_treeOf_25 : decode cX0_treeOf 25 = .ok (.tableswitch 101 0 5 #[39, 47, 55, 77, 82, 87], 39) := by decide +kernel
theorem dX0_treeOf_64 : decode cX0_treeOf 64 = .ok (.aload_n 3, 1) := dk_45 (dk_at dksX0_treeOf_3 0 rfl rfl)
theorem dX0_treeOf_65 : decode cX0_treeOf 65 = .ok (.getfield 608, 3) := dk_180 2 96 (dk_at dksX0_treeOf_3 1 rfl rfl)
theorem dX0_treeOf_68 : decode cX0_treeOf 68 = .ok (.invokevirtual 142, 3) := dk_182 0 142 (dk_at dksX0_treeOf_3 4 rfl rfl)
theorem dX0_treeOf_71 : decode cX0_treeOf 71 = .ok (.ireturn, 1) := dk_172 (dk_at dksX0_treeOf_3 7 rfl rfl)
theorem dX0_treeOf_72 : decode cX0_treeOf 72 = .ok (.aload_n 3, 1) := dk_45 (dk_at dksX0_treeOf_3 8 rfl rfl)
theorem dX0_treeOf_73 : decode cX0_treeOf 73 = .ok (.getfield 608, 3) := dk_180 2 96 (dk_at dksX0_treeOf_3 9 rfl rfl)
theorem dX0_treeOf_76 : decode cX0_treeOf 76 = .ok (.getfield 146, 3) := dk_180 0 146 (dk_at dksX0_treeOf_3 12 rfl rfl)
theorem dX0_treeOf_79 : decode cX0_treeOf 79 = .ok (.ireturn, 1) := dk_172 (dk_at dksX0_treeOf_3 15 rfl rfl)
theorem dX0_treeOf_80 : decode cX0_treeOf 80 = .ok (.aload_n 3, 1) := dk_45 (dk_at dksX0_treeOf_3 16 rfl rfl)
theorem dX0_treeOf_81 : decode cX0_treeOf 81 = .ok (.getfield 605, 3) := dk_180 2 93 (dk_at dksX0_treeOf_3 17 rfl rfl)
theorem dX0_treeOf_84 : decode cX0_treeOf 84 = .ok (.ifnonnull 7, 3) := dk_199 0 7 (dk_at dksX0_treeOf_3 20 rfl rfl)
theorem dX0_treeOf_87 : decode cX0_treeOf 87 = .ok (.iconst (-1), 1) := dk_2 (dk_at dksX0_treeOf_3 23 rfl rfl)
theorem dX0_treeOf_88 : decode cX0_treeOf 88 = .ok (.goto 13, 3) := dk_167 0 13 (dk_at dksX0_treeOf_4 0 rfl rfl)
theorem dX0_treeOf_91 : decode cX0_treeOf 91 = .ok (.aload_n 3, 1) := dk_45 (dk_at dksX0_treeOf_4 3 rfl rfl)
theorem dX0_treeOf_92 : decode cX0_treeOf 92 = .ok (.getfield 605, 3) := dk_180 2 93 (dk_at dksX0_treeOf_4 4 rfl rfl)
theorem dX0_treeOf_95 : decode cX0_treeOf 95 = .ok (.getfield 608, 3) := dk_180 2 96 (dk_at dksX0_treeOf_4 7 rfl rfl)
theorem dX0_treeOf_98 : decode cX0_treeOf 98 = .ok (.getfield 611, 3) := dk_180 2 99 (dk_at dksX0_treeOf_4 10 rfl rfl)
theorem dX0_treeOf_101 : decode cX0_treeOf 101 = .ok (.ireturn, 1) := dk_172 (dk_at dksX0_treeOf_4 13 rfl rfl)
theorem dX0_treeOf_102 : decode cX0_treeOf 102 = .ok (.aload_n 3, 1) := dk_45 (dk_at dksX0_treeOf_4 14 rfl rfl)
theorem dX0_treeOf_103 : decode cX0_treeOf 103 = .ok (.getfield 613, 3) := dk_180 2 101 (dk_at dksX0_treeOf_4 15 rfl rfl)
theorem dX0_treeOf_106 : decode cX0_treeOf 106 = .ok (.ireturn, 1) := dk_172 (dk_at dksX0_treeOf_4 18 rfl rfl)
theorem dX0_treeOf_107 : decode cX0_treeOf 107 = .ok (.aload_n 3, 1) := dk_45 (dk_at dksX0_treeOf_4 19 rfl rfl)
theorem dX0_treeOf_108 : decode cX0_treeOf 108 = .ok (.invokevirtual 616, 3) := dk_182 2 104 (dk_at dksX0_treeOf_4 20 rfl rfl)
theorem dX0_treeOf_111 : decode cX0_treeOf 111 = .ok (.ireturn, 1) := dk_172 (dk_at dksX0_treeOf_4 23 rfl rfl)
theorem dX0_treeOf_112 : decode cX0_treeOf 112 = .ok (.aload_n 0, 1) := dk_42 (dk_at dksX0_treeOf_5 0 rfl rfl)
theorem dX0_treeOf_113 : decode cX0_treeOf 113 = .ok (.iload_n 1, 1) := dk_27 (dk_at dksX0_treeOf_5 1 rfl rfl)
theorem dX0_treeOf_114 : decode cX0_treeOf 114 = .ok (.invokevirtual 618, 3) := dk_182 2 106 (dk_at dksX0_treeOf_5 2 rfl rfl)
theorem dX0_treeOf_117 : decode cX0_treeOf 117 = .ok (.ifCond .eq 7, 3) := dk_153 0 7 (dk_at dksX0_treeOf_5 5 rfl rfl)
theorem dX0_treeOf_120 : decode cX0_treeOf 120 = .ok (.iconst 1, 1) := dk_4 (dk_at dksX0_treeOf_5 8 rfl rfl)
theorem dX0_treeOf_121 : decode cX0_treeOf 121 = .ok (.goto 4, 3) := dk_167 0 4 (dk_at dksX0_treeOf_5 9 rfl rfl)
theorem dX0_treeOf_124 : decode cX0_treeOf 124 = .ok (.iconst 0, 1) := dk_3 (dk_at dksX0_treeOf_5 12 rfl rfl)
theorem dX0_treeOf_125 : decode cX0_treeOf 125 = .ok (.ireturn, 1) := dk_172 (dk_at dksX0_treeOf_5 13 rfl rfl)
theorem dX0_treeOf_126 : decode cX0_treeOf 126 = .ok (.bipush (-2), 2) := dk_16 254 (dk_at dksX0_treeOf_5 14 rfl rfl)
theorem dX0_treeOf_128 : decode cX0_treeOf 128 = .ok (.ireturn, 1) := dk_172 (dk_at dksX0_treeOf_5 16 rfl rfl)
abbrev cX0_isMarked : ByteArray := prog_1_method_87_code
def yX0_isMarked : MethodName := ⟨RX0, "isMarked", "(I)Z"⟩
def dkwX0_isMarked_2 : List UInt8 := [167, 0, 4, 3, 128, 84, 132, 3, 255, 167, 255, 214, 44, 27, 51, 172]
abbrev dktX0_isMarked_2 : List UInt8 := dkwX0_isMarked_2 ++ []
def dkwX0_isMarked_1 : List UInt8 := [180, 2, 93, 180, 2, 96, 180, 2, 99, 54, 4, 44, 21, 4, 92, 51, 44, 29, 51, 154, 0, 7, 4]
abbrev dktX0_isMarked_1 : List UInt8 := dkwX0_isMarked_1 ++ dktX0_isMarked_2
def dkwX0_isMarked_0 : List UInt8 := [16, 60, 188, 4, 77, 42, 180, 0, 174, 4, 100, 62, 29, 158, 0, 44, 42, 180, 2, 56, 29, 50]
abbrev dktX0_isMarked_0 : List UInt8 := dkwX0_isMarked_0 ++ dktX0_isMarked_1
theorem dksX0_isMarked_0 : cX0_isMarked.data.toList.drop 0 = dktX0_isMarked_0 := by decide +kernel
theorem dksX0_isMarked_1 : cX0_isMarked.data.toList.drop 22 = dktX0_isMarked_1 := dk_seg dksX0_isMarked_0 22 rfl rfl
theorem dksX0_isMarked_2 : cX0_isMarked.data.toList.drop 45 = dktX0_isMarked_2 := dk_seg dksX0_isMarked_1 23 rfl rfl
theorem dX0_isMarked_0 : decode cX0_isMarked 0 = .ok (.bipush 60, 2) := dk_16 60 (dk_at dksX0_isMarked_0 0 rfl rfl)
theorem dX0_isMarked_2 : decode cX0_isMarked 2 = .ok (.newarray .boolean, 2) := dk_188_4 (dk_at dksX0_isMarked_0 2 rfl rfl)
theorem dX0_isMarked_4 : decode cX0_isMarked 4 = .ok (.astore_n 2, 1) := dk_77 (dk_at dksX0_isMarked_0 4 rfl rfl)
theorem dX0_isMarked_5 : decode cX0_isMarked 5 = .ok (.aload_n 0, 1) := dk_42 (dk_at dksX0_isMarked_0 5 rfl rfl)
theorem dX0_isMarked_6 : decode cX0_isMarked 6 = .ok (.getfield 174, 3) := dk_180 0 174 (dk_at dksX0_isMarked_0 6 rfl rfl)
theorem dX0_isMarked_9 : decode cX0_isMarked 9 = .ok (.iconst 1, 1) := dk_4 (dk_at dksX0_isMarked_0 9 rfl rfl)
theorem dX0_isMarked_10 : decode cX0_isMarked 10 = .ok (.isub, 1) := dk_100 (dk_at dksX0_isMarked_0 10 rfl rfl)
theorem dX0_isMarked_11 : decode cX0_isMarked 11 = .ok (.istore_n 3, 1) := dk_62 (dk_at dksX0_isMarked_0 11 rfl rfl)
theorem dX0_isMarked_12 : decode cX0_isMarked 12 = .ok (.iload_n 3, 1) := dk_29 (dk_at dksX0_isMarked_0 12 rfl rfl)
theorem dX0_isMarked_13 : decode cX0_isMarked 13 = .ok (.ifCond .le 44, 3) := dk_158 0 44 (dk_at dksX0_isMarked_0 13 rfl rfl)
theorem dX0_isMarked_16 : decode cX0_isMarked 16 = .ok (.aload_n 0, 1) := dk_42 (dk_at dksX0_isMarked_0 16 rfl rfl)
theorem dX0_isMarked_17 : decode cX0_isMarked 17 = .ok (.getfield 568, 3) := dk_180 2 56 (dk_at dksX0_isMarked_0 17 rfl rfl)
theorem dX0_isMarked_20 : decode cX0_isMarked 20 = .ok (.iload_n 3, 1) := dk_29 (dk_at dksX0_isMarked_0 20 rfl rfl)
theorem dX0_isMarked_21 : decode cX0_isMarked 21 = .ok (.aaload, 1) := dk_50 (dk_at dksX0_isMarked_0 21 rfl rfl)
theorem dX0_isMarked_22 : decode cX0_isMarked 22 = .ok (.getfield 605, 3) := dk_180 2 93 (dk_at dksX0_isMarked_1 0 rfl rfl)
theorem dX0_isMarked_25 : decode cX0_isMarked 25 = .ok (.getfield 608, 3) := dk_180 2 96 (dk_at dksX0_isMarked_1 3 rfl rfl)
theorem dX0_isMarked_28 : decode cX0_isMarked 28 = .ok (.getfield 611, 3) := dk_180 2 99 (dk_at dksX0_isMarked_1 6 rfl rfl)
theorem dX0_isMarked_31 : decode cX0_isMarked 31 = .ok (.istore 4, 2) := dk_54 4 (dk_at dksX0_isMarked_1 9 rfl rfl)
theorem dX0_isMarked_33 : decode cX0_isMarked 33 = .ok (.aload_n 2, 1) := dk_44 (dk_at dksX0_isMarked_1 11 rfl rfl)
theorem dX0_isMarked_34 : decode cX0_isMarked 34 = .ok (.iload 4, 2) := dk_21 4 (dk_at dksX0_isMarked_1 12 rfl rfl)
theorem dX0_isMarked_36 : decode cX0_isMarked 36 = .ok (.dup2, 1) := dk_92 (dk_at dksX0_isMarked_1 14 rfl rfl)
theorem dX0_isMarked_37 : decode cX0_isMarked 37 = .ok (.baload, 1) := dk_51 (dk_at dksX0_isMarked_1 15 rfl rfl)
theorem dX0_isMarked_38 : decode cX0_isMarked 38 = .ok (.aload_n 2, 1) := dk_44 (dk_at dksX0_isMarked_1 16 rfl rfl)
theorem dX0_isMarked_39 : decode cX0_isMarked 39 = .ok (.iload_n 3, 1) := dk_29 (dk_at dksX0_isMarked_1 17 rfl rfl)
theorem dX0_isMarked_40 : decode cX0_isMarked 40 = .ok (.baload, 1) := dk_51 (dk_at dksX0_isMarked_1 18 rfl rfl)
theorem dX0_isMarked_41 : decode cX0_isMarked 41 = .ok (.ifCond .ne 7, 3) := dk_154 0 7 (dk_at dksX0_isMarked_1 19 rfl rfl)
theorem dX0_isMarked_44 : decode cX0_isMarked 44 = .ok (.iconst 1, 1) := dk_4 (dk_at dksX0_isMarked_1 22 rfl rfl)
theorem dX0_isMarked_45 : decode cX0_isMarked 45 = .ok (.goto 4, 3) := dk_167 0 4 (dk_at dksX0_isMarked_2 0 rfl rfl)
theorem dX0_isMarked_48 : decode cX0_isMarked 48 = .ok (.iconst 0, 1) := dk_3 (dk_at dksX0_isMarked_2 3 rfl rfl)
theorem dX0_isMarked_49 : decode cX0_isMarked 49 = .ok (.ior, 1) := dk_128 (dk_at dksX0_isMarked_2 4 rfl rfl)
theorem dX0_isMarked_50 : decode cX0_isMarked 50 = .ok (.bastore, 1) := dk_84 (dk_at dksX0_isMarked_2 5 rfl rfl)
theorem dX0_isMarked_51 : decode cX0_isMarked 51 = .ok (.iinc 3 (-1), 3) := dk_132 3 255 (dk_at dksX0_isMarked_2 6 rfl rfl)
theorem dX0_isMarked_54 : decode cX0_isMarked 54 = .ok (.goto (-42), 3) := dk_167 255 214 (dk_at dksX0_isMarked_2 9 rfl rfl)
theorem dX0_isMarked_57 : decode cX0_isMarked 57 = .ok (.aload_n 2, 1) := dk_44 (dk_at dksX0_isMarked_2 12 rfl rfl)
theorem dX0_isMarked_58 : decode cX0_isMarked 58 = .ok (.iload_n 1, 1) := dk_27 (dk_at dksX0_isMarked_2 13 rfl rfl)
theorem dX0_isMarked_59 : decode cX0_isMarked 59 = .ok (.baload, 1) := dk_51 (dk_at dksX0_isMarked_2 14 rfl rfl)
theorem dX0_isMarked_60 : decode cX0_isMarked 60 = .ok (.ireturn, 1) := dk_172 (dk_at dksX0_isMarked_2 15 rfl rfl)
abbrev cX0_plant : ByteArray := prog_1_method_89_code
def yX0_plant : MethodName := ⟨RX0, "plant", "()I"⟩
def dkwX0_plant_4 : List UInt8 := [182, 0, 134, 132, 1, 1, 167, 255, 190, 42, 180, 0, 174, 172]
abbrev dktX0_plant_4 : List UInt8 := dkwX0_plant_4 ++ []
def dkwX0_plant_3 : List UInt8 := [180, 2, 93, 198, 0, 22, 42, 180, 0, 10, 29, 44, 180, 2, 93, 180, 2, 96, 180, 2, 99, 4]
abbrev dktX0_plant_3 : List UInt8 := dkwX0_plant_3 ++ dktX0_plant_4
def dkwX0_plant_2 : List UInt8 := [42, 180, 0, 10, 44, 180, 2, 96, 182, 0, 142, 44, 180, 2, 96, 180, 0, 146, 182, 0, 119, 62, 44]
abbrev dktX0_plant_2 : List UInt8 := dkwX0_plant_2 ++ dktX0_plant_3
def dkwX0_plant_1 : List UInt8 := [180, 0, 10, 3, 181, 0, 115, 3, 60, 27, 42, 180, 0, 174, 162, 0, 64, 42, 180, 2, 56, 27, 50, 77]
abbrev dktX0_plant_1 : List UInt8 := dkwX0_plant_1 ++ dktX0_plant_2
def dkwX0_plant_0 : List UInt8 := [42, 180, 0, 174, 154, 0, 5, 2, 172, 42, 180, 0, 174, 16, 12, 164, 0, 6, 16, 253, 172, 42]
abbrev dktX0_plant_0 : List UInt8 := dkwX0_plant_0 ++ dktX0_plant_1
theorem dksX0_plant_0 : cX0_plant.data.toList.drop 0 = dktX0_plant_0 := by decide +kernel
theorem dksX0_plant_1 : cX0_plant.data.toList.drop 22 = dktX0_plant_1 := dk_seg dksX0_plant_0 22 rfl rfl
theorem dksX0_plant_2 : cX0_plant.data.toList.drop 46 = dktX0_plant_2 := dk_seg dksX0_plant_1 24 rfl rfl
theorem dksX0_plant_3 : cX0_plant.data.toList.drop 69 = dktX0_plant_3 := dk_seg dksX0_plant_2 23 rfl rfl
theorem dksX0_plant_4 : cX0_plant.data.toList.drop 91 = dktX0_plant_4 := dk_seg dksX0_plant_3 22 rfl rfl
theorem dX0_plant_0 : decode cX0_plant 0 = .ok (.aload_n 0, 1) := dk_42 (dk_at dksX0_plant_0 0 rfl rfl)
theorem dX0_plant_1 : decode cX0_plant 1 = .ok (.getfield 174, 3) := dk_180 0 174 (dk_at dksX0_plant_0 1 rfl rfl)
theorem dX0_plant_4 : decode cX0_plant 4 = .ok (.ifCond .ne 5, 3) := dk_154 0 5 (dk_at dksX0_plant_0 4 rfl rfl)
theorem dX0_plant_7 : decode cX0_plant 7 = .ok (.iconst (-1), 1) := dk_2 (dk_at dksX0_plant_0 7 rfl rfl)
theorem dX0_plant_8 : decode cX0_plant 8 = .ok (.ireturn, 1) := dk_172 (dk_at dksX0_plant_0 8 rfl rfl)
theorem dX0_plant_9 : decode cX0_plant 9 = .ok (.aload_n 0, 1) := dk_42 (dk_at dksX0_plant_0 9 rfl rfl)
theorem dX0_plant_10 : decode cX0_plant 10 = .ok (.getfield 174, 3) := dk_180 0 174 (dk_at dksX0_plant_0 10 rfl rfl)
theorem dX0_plant_13 : decode cX0_plant 13 = .ok (.bipush 12, 2) := dk_16 12 (dk_at dksX0_plant_0 13 rfl rfl)
theorem dX0_plant_15 : decode cX0_plant 15 = .ok (.if_icmp .le 6, 3) := dk_164 0 6 (dk_at dksX0_plant_0 15 rfl rfl)
theorem dX0_plant_18 : decode cX0_plant 18 = .ok (.bipush (-3), 2) := dk_16 253 (dk_at dksX0_plant_0 18 rfl rfl)
theorem dX0_plant_20 : decode cX0_plant 20 = .ok (.ireturn, 1) := dk_172 (dk_at dksX0_plant_0 20 rfl rfl)
theorem dX0_plant_21 : decode cX0_plant 21 = .ok (.aload_n 0, 1) := dk_42 (dk_at dksX0_plant_0 21 rfl rfl)
theorem dX0_plant_22 : decode cX0_plant 22 = .ok (.getfield 10, 3) := dk_180 0 10 (dk_at dksX0_plant_1 0 rfl rfl)
theorem dX0_plant_25 : decode cX0_plant 25 = .ok (.iconst 0, 1) := dk_3 (dk_at dksX0_plant_1 3 rfl rfl)
theorem dX0_plant_26 : decode cX0_plant 26 = .ok (.putfield 115, 3) := dk_181 0 115 (dk_at dksX0_plant_1 4 rfl rfl)
theorem dX0_plant_29 : decode cX0_plant 29 = .ok (.iconst 0, 1) := dk_3 (dk_at dksX0_plant_1 7 rfl rfl)
theorem dX0_plant_30 : decode cX0_plant 30 = .ok (.istore_n 1, 1) := dk_60 (dk_at dksX0_plant_1 8 rfl rfl)
theorem dX0_plant_31 : decode cX0_plant 31 = .ok (.iload_n 1, 1) := dk_27 (dk_at dksX0_plant_1 9 rfl rfl)
theorem dX0_plant_32 : decode cX0_plant 32 = .ok (.aload_n 0, 1) := dk_42 (dk_at dksX0_plant_1 10 rfl rfl)
theorem dX0_plant_33 : decode cX0_plant 33 = .ok (.getfield 174, 3) := dk_180 0 174 (dk_at dksX0_plant_1 11 rfl rfl)
theorem dX0_plant_36 : decode cX0_plant 36 = .ok (.if_icmp .ge 64, 3) := dk_162 0 64 (dk_at dksX0_plant_1 14 rfl rfl)
theorem dX0_plant_39 : decode cX0_plant 39 = .ok (.aload_n 0, 1) := dk_42 (dk_at dksX0_plant_1 17 rfl rfl)
theorem dX0_plant_40 : decode cX0_plant 40 = .ok (.getfield 568, 3) := dk_180 2 56 (dk_at dksX0_plant_1 18 rfl rfl)
theorem dX0_plant_43 : decode cX0_plant 43 = .ok (.iload_n 1, 1) := dk_27 (dk_at dksX0_plant_1 21 rfl rfl)
theorem dX0_plant_44 : decode cX0_plant 44 = .ok (.aaload, 1) := dk_50 (dk_at dksX0_plant_1 22 rfl rfl)
theorem dX0_plant_45 : decode cX0_plant 45 = .ok (.astore_n 2, 1) := dk_77 (dk_at dksX0_plant_1 23 rfl rfl)
theorem dX0_plant_46 : decode cX0_plant 46 = .ok (.aload_n 0, 1) := dk_42 (dk_at dksX0_plant_2 0 rfl rfl)
theorem dX0_plant_47 : decode cX0_plant 47 = .ok (.getfield 10, 3) := dk_180 0 10 (dk_at dksX0_plant_2 1 rfl rfl)
theorem dX0_plant_50 : decode cX0_plant 50 = .ok (.aload_n 2, 1) := dk_44 (dk_at dksX0_plant_2 4 rfl rfl)
theorem dX0_plant_51 : decode cX0_plant 51 = .ok (.getfield 608, 3) := dk_180 2 96 (dk_at dksX0_plant_2 5 rfl rfl)
theorem dX0_plant_54 : decode cX0_plant 54 = .ok (.invokevirtual 142, 3) := dk_182 0 142 (dk_at dksX0_plant_2 8 rfl rfl)
theorem dX0_plant_57 : decode cX0_plant 57 = .ok (.aload_n 2, 1) := dk_44 (dk_at dksX0_plant_2 11 rfl rfl)
theorem dX0_plant_58 : decode cX0_plant 58 = .ok (.getfield 608, 3) := dk_180 2 96 (dk_at dksX0_plant_2 12 rfl rfl)
theorem dX0_plant_61 : decode cX0_plant 61 = .ok (.getfield 146, 3) := dk_180 0 146 (dk_at dksX0_plant_2 15 rfl rfl)
theorem dX0_plant_64 : decode cX0_plant 64 = .ok (.invokevirtual 119, 3) := dk_182 0 119 (dk_at dksX0_plant_2 18 rfl rfl)
theorem dX0_plant_67 : decode cX0_plant 67 = .ok (.istore_n 3, 1) := dk_62 (dk_at dksX0_plant_2 21 rfl rfl)
theorem dX0_plant_68 : decode cX0_plant 68 = .ok (.aload_n 2, 1) := dk_44 (dk_at dksX0_plant_2 22 rfl rfl)
theorem dX0_plant_69 : decode cX0_plant 69 = .ok (.getfield 605, 3) := dk_180 2 93 (dk_at dksX0_plant_3 0 rfl rfl)
theorem dX0_plant_72 : decode cX0_plant 72 = .ok (.ifnull 22, 3) := dk_198 0 22 (dk_at dksX0_plant_3 3 rfl rfl)
theorem dX0_plant_75 : decode cX0_plant 75 = .ok (.aload_n 0, 1) := dk_42 (dk_at dksX0_plant_3 6 rfl rfl)
theorem dX0_plant_76 : decode cX0_plant 76 = .ok (.getfield 10, 3) := dk_180 0 10 (dk_at dksX0_plant_3 7 rfl rfl)
theorem dX0_plant_79 : decode cX0_plant 79 = .ok (.iload_n 3, 1) := dk_29 (dk_at dksX0_plant_3 10 rfl rfl)
theorem dX0_plant_80 : decode cX0_plant 80 = .ok (.aload_n 2, 1) := dk_44 (dk_at dksX0_plant_3 11 rfl rfl)
theorem dX0_plant_81 : decode cX0_plant 81 = .ok (.getfield 605, 3) := dk_180 2 93 (dk_at dksX0_plant_3 12 rfl rfl)
theorem dX0_plant_84 : decode cX0_plant 84 = .ok (.getfield 608, 3) := dk_180 2 96 (dk_at dksX0_plant_3 15 rfl rfl)
theorem dX0_plant_87 : decode cX0_plant 87 = .ok (.getfield 611, 3) := dk_180 2 99 (dk_at dksX0_plant_3 18 rfl rfl)
theorem dX0_plant_90 : decode cX0_plant 90 = .ok (.iconst 1, 1) := dk_4 (dk_at dksX0_plant_3 21 rfl rfl)
theorem dX0_plant_91 : decode cX0_plant 91 = .ok (.invokevirtual 134, 3) := dk_182 0 134 (dk_at dksX0_plant_4 0 rfl rfl)
theorem dX0_plant_94 : decode cX0_plant 94 = .ok (.iinc 1 1, 3) := dk_132 1 1 (dk_at dksX0_plant_4 3 rfl rfl)
theorem dX0_plant_97 : decode cX0_plant 97 = .ok (.goto (-66), 3) := dk_167 255 190 (dk_at dksX0_plant_4 6 rfl rfl)
theorem dX0_plant_100 : decode cX0_plant 100 = .ok (.aload_n 0, 1) := dk_42 (dk_at dksX0_plant_4 9 rfl rfl)
theorem dX0_plant_101 : decode cX0_plant 101 = .ok (.getfield 174, 3) := dk_180 0 174 (dk_at dksX0_plant_4 10 rfl rfl)
theorem dX0_plant_104 : decode cX0_plant 104 = .ok (.ireturn, 1) := dk_172 (dk_at dksX0_plant_4 13 rfl rfl)
abbrev cX0_seed : ByteArray := prog_1_method_90_code
def yX0_seed : MethodName := ⟨RX0, "seed", "(I)I"⟩
def dkwX0_seed_0 : List UInt8 := [42, 180, 0, 10, 180, 0, 171, 61, 42, 180, 0, 10, 27, 181, 0, 171, 28, 172]
abbrev dktX0_seed_0 : List UInt8 := dkwX0_seed_0 ++ []
theorem dksX0_seed_0 : cX0_seed.data.toList.drop 0 = dktX0_seed_0 := by decide +kernel
theorem dX0_seed_0 : decode cX0_seed 0 = .ok (.aload_n 0, 1) := dk_42 (dk_at dksX0_seed_0 0 rfl rfl)
theorem dX0_seed_1 : decode cX0_seed 1 = .ok (.getfield 10, 3) := dk_180 0 10 (dk_at dksX0_seed_0 1 rfl rfl)
theorem dX0_seed_4 : decode cX0_seed 4 = .ok (.getfield 171, 3) := dk_180 0 171 (dk_at dksX0_seed_0 4 rfl rfl)
theorem dX0_seed_7 : decode cX0_seed 7 = .ok (.istore_n 2, 1) := dk_61 (dk_at dksX0_seed_0 7 rfl rfl)
theorem dX0_seed_8 : decode cX0_seed 8 = .ok (.aload_n 0, 1) := dk_42 (dk_at dksX0_seed_0 8 rfl rfl)
theorem dX0_seed_9 : decode cX0_seed 9 = .ok (.getfield 10, 3) := dk_180 0 10 (dk_at dksX0_seed_0 9 rfl rfl)
theorem dX0_seed_12 : decode cX0_seed 12 = .ok (.iload_n 1, 1) := dk_27 (dk_at dksX0_seed_0 12 rfl rfl)
theorem dX0_seed_13 : decode cX0_seed 13 = .ok (.putfield 171, 3) := dk_181 0 171 (dk_at dksX0_seed_0 13 rfl rfl)
theorem dX0_seed_16 : decode cX0_seed 16 = .ok (.iload_n 2, 1) := dk_28 (dk_at dksX0_seed_0 16 rfl rfl)
theorem dX0_seed_17 : decode cX0_seed 17 = .ok (.ireturn, 1) := dk_172 (dk_at dksX0_seed_0 17 rfl rfl)
abbrev cX0_deal : ByteArray := prog_1_method_91_code
def yX0_deal : MethodName := ⟨RX0, "deal", "(II)I"⟩
def dkwX0_deal_1 : List UInt8 := [27, 28, 182, 2, 109, 167, 0, 5, 16, 254, 172]
abbrev dktX0_deal_1 : List UInt8 := dkwX0_deal_1 ++ []
def dkwX0_deal_0 : List UInt8 := [27, 3, 16, 12, 184, 0, 111, 153, 0, 25, 28, 3, 16, 10, 184, 0, 111, 153, 0, 15, 42, 180, 0, 10]
abbrev dktX0_deal_0 : List UInt8 := dkwX0_deal_0 ++ dktX0_deal_1
theorem dksX0_deal_0 : cX0_deal.data.toList.drop 0 = dktX0_deal_0 := by decide +kernel
theorem dksX0_deal_1 : cX0_deal.data.toList.drop 24 = dktX0_deal_1 := dk_seg dksX0_deal_0 24 rfl rfl
theorem dX0_deal_0 : decode cX0_deal 0 = .ok (.iload_n 1, 1) := dk_27 (dk_at dksX0_deal_0 0 rfl rfl)
theorem dX0_deal_1 : decode cX0_deal 1 = .ok (.iconst 0, 1) := dk_3 (dk_at dksX0_deal_0 1 rfl rfl)
theorem dX0_deal_2 : decode cX0_deal 2 = .ok (.bipush 12, 2) := dk_16 12 (dk_at dksX0_deal_0 2 rfl rfl)
theorem dX0_deal_4 : decode cX0_deal 4 = .ok (.invokestatic 111, 3) := dk_184 0 111 (dk_at dksX0_deal_0 4 rfl rfl)
theorem dX0_deal_7 : decode cX0_deal 7 = .ok (.ifCond .eq 25, 3) := dk_153 0 25 (dk_at dksX0_deal_0 7 rfl rfl)
theorem dX0_deal_10 : decode cX0_deal 10 = .ok (.iload_n 2, 1) := dk_28 (dk_at dksX0_deal_0 10 rfl rfl)
theorem dX0_deal_11 : decode cX0_deal 11 = .ok (.iconst 0, 1) := dk_3 (dk_at dksX0_deal_0 11 rfl rfl)
theorem dX0_deal_12 : decode cX0_deal 12 = .ok (.bipush 10, 2) := dk_16 10 (dk_at dksX0_deal_0 12 rfl rfl)
theorem dX0_deal_14 : decode cX0_deal 14 = .ok (.invokestatic 111, 3) := dk_184 0 111 (dk_at dksX0_deal_0 14 rfl rfl)
theorem dX0_deal_17 : decode cX0_deal 17 = .ok (.ifCond .eq 15, 3) := dk_153 0 15 (dk_at dksX0_deal_0 17 rfl rfl)
theorem dX0_deal_20 : decode cX0_deal 20 = .ok (.aload_n 0, 1) := dk_42 (dk_at dksX0_deal_0 20 rfl rfl)
theorem dX0_deal_21 : decode cX0_deal 21 = .ok (.getfield 10, 3) := dk_180 0 10 (dk_at dksX0_deal_0 21 rfl rfl)
theorem dX0_deal_24 : decode cX0_deal 24 = .ok (.iload_n 1, 1) := dk_27 (dk_at dksX0_deal_1 0 rfl rfl)
theorem dX0_deal_25 : decode cX0_deal 25 = .ok (.iload_n 2, 1) := dk_28 (dk_at dksX0_deal_1 1 rfl rfl)
theorem dX0_deal_26 : decode cX0_deal 26 = .ok (.invokevirtual 621, 3) := dk_182 2 109 (dk_at dksX0_deal_1 2 rfl rfl)
theorem dX0_deal_29 : decode cX0_deal 29 = .ok (.goto 5, 3) := dk_167 0 5 (dk_at dksX0_deal_1 5 rfl rfl)
theorem dX0_deal_32 : decode cX0_deal 32 = .ok (.bipush (-2), 2) := dk_16 254 (dk_at dksX0_deal_1 8 rfl rfl)
theorem dX0_deal_34 : decode cX0_deal 34 = .ok (.ireturn, 1) := dk_172 (dk_at dksX0_deal_1 10 rfl rfl)
abbrev cX0_times : ByteArray := prog_1_method_92_code
def yX0_times : MethodName := ⟨RX0, "times", "(IIII)I"⟩
def dkwX0_times_5 : List UInt8 := [21, 6, 172, 58, 7, 42, 180, 0, 10, 42, 180, 0, 19, 182, 2, 112, 25, 7, 191]
abbrev dktX0_times_5 : List UInt8 := dkwX0_times_5 ++ []
def dkwX0_times_4 : List UInt8 := [54, 5, 132, 6, 1, 167, 255, 217, 21, 5, 54, 6, 42, 180, 0, 10, 42, 180, 0, 19, 182, 2, 112]
abbrev dktX0_times_4 : List UInt8 := dkwX0_times_4 ++ dktX0_times_5
def dkwX0_times_3 : List UInt8 := [29, 182, 2, 109, 87, 21, 5, 42, 21, 4, 182, 1, 196, 2, 160, 0, 7, 3, 167, 0, 4, 4, 96]
abbrev dktX0_times_3 : List UInt8 := dkwX0_times_3 ++ dktX0_times_4
def dkwX0_times_2 : List UInt8 := [42, 180, 0, 10, 182, 2, 112, 3, 54, 5, 3, 54, 6, 21, 6, 27, 162, 0, 39, 42, 180, 0, 10, 28]
abbrev dktX0_times_2 : List UInt8 := dkwX0_times_2 ++ dktX0_times_3
def dkwX0_times_1 : List UInt8 := [184, 0, 111, 153, 0, 14, 21, 4, 3, 16, 12, 184, 0, 111, 154, 0, 6, 16, 254, 172, 42, 180, 0, 19]
abbrev dktX0_times_1 : List UInt8 := dkwX0_times_1 ++ dktX0_times_2
def dkwX0_times_0 : List UInt8 := [27, 4, 16, 20, 184, 0, 111, 153, 0, 34, 28, 3, 16, 12, 184, 0, 111, 153, 0, 24, 29, 3, 16, 10]
abbrev dktX0_times_0 : List UInt8 := dkwX0_times_0 ++ dktX0_times_1
theorem dksX0_times_0 : cX0_times.data.toList.drop 0 = dktX0_times_0 := by decide +kernel
theorem dksX0_times_1 : cX0_times.data.toList.drop 24 = dktX0_times_1 := dk_seg dksX0_times_0 24 rfl rfl
theorem dksX0_times_2 : cX0_times.data.toList.drop 48 = dktX0_times_2 := dk_seg dksX0_times_1 24 rfl rfl
theorem dksX0_times_3 : cX0_times.data.toList.drop 72 = dktX0_times_3 := dk_seg dksX0_times_2 24 rfl rfl
theorem dksX0_times_4 : cX0_times.data.toList.drop 95 = dktX0_times_4 := dk_seg dksX0_times_3 23 rfl rfl
theorem dksX0_times_5 : cX0_times.data.toList.drop 118 = dktX0_times_5 := dk_seg dksX0_times_4 23 rfl rfl
theorem dX0_times_0 : decode cX0_times 0 = .ok (.iload_n 1, 1) := dk_27 (dk_at dksX0_times_0 0 rfl rfl)
theorem dX0_times_1 : decode cX0_times 1 = .ok (.iconst 1, 1) := dk_4 (dk_at dksX0_times_0 1 rfl rfl)
theorem dX0_times_2 : decode cX0_times 2 = .ok (.bipush 20, 2) := dk_16 20 (dk_at dksX0_times_0 2 rfl rfl)
theorem dX0_times_4 : decode cX0_times 4 = .ok (.invokestatic 111, 3) := dk_184 0 111 (dk_at dksX0_times_0 4 rfl rfl)
theorem dX0_times_7 : decode cX0_times 7 = .ok (.ifCond .eq 34, 3) := dk_153 0 34 (dk_at dksX0_times_0 7 rfl rfl)
theorem dX0_times_10 : decode cX0_times 10 = .ok (.iload_n 2, 1) := dk_28 (dk_at dksX0_times_0 10 rfl rfl)
theorem dX0_times_11 : decode cX0_times 11 = .ok (.iconst 0, 1) := dk_3 (dk_at dksX0_times_0 11 rfl rfl)
theorem dX0_times_12 : decode cX0_times 12 = .ok (.bipush 12, 2) := dk_16 12 (dk_at dksX0_times_0 12 rfl rfl)
theorem dX0_times_14 : decode cX0_times 14 = .ok (.invokestatic 111, 3) := dk_184 0 111 (dk_at dksX0_times_0 14 rfl rfl)
theorem dX0_times_17 : decode cX0_times 17 = .ok (.ifCond .eq 24, 3) := dk_153 0 24 (dk_at dksX0_times_0 17 rfl rfl)
theorem dX0_times_20 : decode cX0_times 20 = .ok (.iload_n 3, 1) := dk_29 (dk_at dksX0_times_0 20 rfl rfl)
theorem dX0_times_21 : decode cX0_times 21 = .ok (.iconst 0, 1) := dk_3 (dk_at dksX0_times_0 21 rfl rfl)
theorem dX0_times_22 : decode cX0_times 22 = .ok (.bipush 10, 2) := dk_16 10 (dk_at dksX0_times_0 22 rfl rfl)
theorem dX0_times_24 : decode cX0_times 24 = .ok (.invokestatic 111, 3) := dk_184 0 111 (dk_at dksX0_times_1 0 rfl rfl)
theorem dX0_times_27 : decode cX0_times 27 = .ok (.ifCond .eq 14, 3) := dk_153 0 14 (dk_at dksX0_times_1 3 rfl rfl)
theorem dX0_times_30 : decode cX0_times 30 = .ok (.iload 4, 2) := dk_21 4 (dk_at dksX0_times_1 6 rfl rfl)
theorem dX0_times_32 : decode cX0_times 32 = .ok (.iconst 0, 1) := dk_3 (dk_at dksX0_times_1 8 rfl rfl)
theorem dX0_times_33 : decode cX0_times 33 = .ok (.bipush 12, 2) := dk_16 12 (dk_at dksX0_times_1 9 rfl rfl)
theorem dX0_times_35 : decode cX0_times 35 = .ok (.invokestatic 111, 3) := dk_184 0 111 (dk_at dksX0_times_1 11 rfl rfl)
theorem dX0_times_38 : decode cX0_times 38 = .ok (.ifCond .ne 6, 3) := dk_154 0 6 (dk_at dksX0_times_1 14 rfl rfl)
theorem dX0_times_41 : decode cX0_times 41 = .ok (.bipush (-2), 2) := dk_16 254 (dk_at dksX0_times_1 17 rfl rfl)
theorem dX0_times_43 : decode cX0_times 43 = .ok (.ireturn, 1) := dk_172 (dk_at dksX0_times_1 19 rfl rfl)
theorem dX0_times_44 : decode cX0_times 44 = .ok (.aload_n 0, 1) := dk_42 (dk_at dksX0_times_1 20 rfl rfl)
theorem dX0_times_45 : decode cX0_times 45 = .ok (.getfield 19, 3) := dk_180 0 19 (dk_at dksX0_times_1 21 rfl rfl)
theorem dX0_times_48 : decode cX0_times 48 = .ok (.aload_n 0, 1) := dk_42 (dk_at dksX0_times_2 0 rfl rfl)
theorem dX0_times_49 : decode cX0_times 49 = .ok (.getfield 10, 3) := dk_180 0 10 (dk_at dksX0_times_2 1 rfl rfl)
theorem dX0_times_52 : decode cX0_times 52 = .ok (.invokevirtual 624, 3) := dk_182 2 112 (dk_at dksX0_times_2 4 rfl rfl)
theorem dX0_times_55 : decode cX0_times 55 = .ok (.iconst 0, 1) := dk_3 (dk_at dksX0_times_2 7 rfl rfl)
theorem dX0_times_56 : decode cX0_times 56 = .ok (.istore 5, 2) := dk_54 5 (dk_at dksX0_times_2 8 rfl rfl)
theorem dX0_times_58 : decode cX0_times 58 = .ok (.iconst 0, 1) := dk_3 (dk_at dksX0_times_2 10 rfl rfl)
theorem dX0_times_59 : decode cX0_times 59 = .ok (.istore 6, 2) := dk_54 6 (dk_at dksX0_times_2 11 rfl rfl)
theorem dX0_times_61 : decode cX0_times 61 = .ok (.iload 6, 2) := dk_21 6 (dk_at dksX0_times_2 13 rfl rfl)
theorem dX0_times_63 : decode cX0_times 63 = .ok (.iload_n 1, 1) := dk_27 (dk_at dksX0_times_2 15 rfl rfl)
theorem dX0_times_64 : decode cX0_times 64 = .ok (.if_icmp .ge 39, 3) := dk_162 0 39 (dk_at dksX0_times_2 16 rfl rfl)
theorem dX0_times_67 : decode cX0_times 67 = .ok (.aload_n 0, 1) := dk_42 (dk_at dksX0_times_2 19 rfl rfl)
theorem dX0_times_68 : decode cX0_times 68 = .ok (.getfield 10, 3) := dk_180 0 10 (dk_at dksX0_times_2 20 rfl rfl)
theorem dX0_times_71 : decode cX0_times 71 = .ok (.iload_n 2, 1) := dk_28 (dk_at dksX0_times_2 23 rfl rfl)
theorem dX0_times_72 : decode cX0_times 72 = .ok (.iload_n 3, 1) := dk_29 (dk_at dksX0_times_3 0 rfl rfl)
theorem dX0_times_73 : decode cX0_times 73 = .ok (.invokevirtual 621, 3) := dk_182 2 109 (dk_at dksX0_times_3 1 rfl rfl)
theorem dX0_times_76 : decode cX0_times 76 = .ok (.pop, 1) := dk_87 (dk_at dksX0_times_3 4 rfl rfl)
theorem dX0_times_77 : decode cX0_times 77 = .ok (.iload 5, 2) := dk_21 5 (dk_at dksX0_times_3 5 rfl rfl)
theorem dX0_times_79 : decode cX0_times 79 = .ok (.aload_n 0, 1) := dk_42 (dk_at dksX0_times_3 7 rfl rfl)
theorem dX0_times_80 : decode cX0_times 80 = .ok (.iload 4, 2) := dk_21 4 (dk_at dksX0_times_3 8 rfl rfl)
theorem dX0_times_82 : decode cX0_times 82 = .ok (.invokevirtual 452, 3) := dk_182 1 196 (dk_at dksX0_times_3 10 rfl rfl)
theorem dX0_times_85 : decode cX0_times 85 = .ok (.iconst (-1), 1) := dk_2 (dk_at dksX0_times_3 13 rfl rfl)
theorem dX0_times_86 : decode cX0_times 86 = .ok (.if_icmp .ne 7, 3) := dk_160 0 7 (dk_at dksX0_times_3 14 rfl rfl)
theorem dX0_times_89 : decode cX0_times 89 = .ok (.iconst 0, 1) := dk_3 (dk_at dksX0_times_3 17 rfl rfl)
theorem dX0_times_90 : decode cX0_times 90 = .ok (.goto 4, 3) := dk_167 0 4 (dk_at dksX0_times_3 18 rfl rfl)
theorem dX0_times_93 : decode cX0_times 93 = .ok (.iconst 1, 1) := dk_4 (dk_at dksX0_times_3 21 rfl rfl)
theorem dX0_times_94 : decode cX0_times 94 = .ok (.iadd, 1) := dk_96 (dk_at dksX0_times_3 22 rfl rfl)
theorem dX0_times_95 : decode cX0_times 95 = .ok (.istore 5, 2) := dk_54 5 (dk_at dksX0_times_4 0 rfl rfl)
theorem dX0_times_97 : decode cX0_times 97 = .ok (.iinc 6 1, 3) := dk_132 6 1 (dk_at dksX0_times_4 2 rfl rfl)
theorem dX0_times_100 : decode cX0_times 100 = .ok (.goto (-39), 3) := dk_167 255 217 (dk_at dksX0_times_4 5 rfl rfl)
theorem dX0_times_103 : decode cX0_times 103 = .ok (.iload 5, 2) := dk_21 5 (dk_at dksX0_times_4 8 rfl rfl)
theorem dX0_times_105 : decode cX0_times 105 = .ok (.istore 6, 2) := dk_54 6 (dk_at dksX0_times_4 10 rfl rfl)
theorem dX0_times_107 : decode cX0_times 107 = .ok (.aload_n 0, 1) := dk_42 (dk_at dksX0_times_4 12 rfl rfl)
theorem dX0_times_108 : decode cX0_times 108 = .ok (.getfield 10, 3) := dk_180 0 10 (dk_at dksX0_times_4 13 rfl rfl)
theorem dX0_times_111 : decode cX0_times 111 = .ok (.aload_n 0, 1) := dk_42 (dk_at dksX0_times_4 16 rfl rfl)
theorem dX0_times_112 : decode cX0_times 112 = .ok (.getfield 19, 3) := dk_180 0 19 (dk_at dksX0_times_4 17 rfl rfl)
theorem dX0_times_115 : decode cX0_times 115 = .ok (.invokevirtual 624, 3) := dk_182 2 112 (dk_at dksX0_times_4 20 rfl rfl)
theorem dX0_times_118 : decode cX0_times 118 = .ok (.iload 6, 2) := dk_21 6 (dk_at dksX0_times_5 0 rfl rfl)
theorem dX0_times_120 : decode cX0_times 120 = .ok (.ireturn, 1) := dk_172 (dk_at dksX0_times_5 2 rfl rfl)
theorem dX0_times_121 : decode cX0_times 121 = .ok (.astore 7, 2) := dk_58 7 (dk_at dksX0_times_5 3 rfl rfl)
theorem dX0_times_123 : decode cX0_times 123 = .ok (.aload_n 0, 1) := dk_42 (dk_at dksX0_times_5 5 rfl rfl)
theorem dX0_times_124 : decode cX0_times 124 = .ok (.getfield 10, 3) := dk_180 0 10 (dk_at dksX0_times_5 6 rfl rfl)
theorem dX0_times_127 : decode cX0_times 127 = .ok (.aload_n 0, 1) := dk_42 (dk_at dksX0_times_5 9 rfl rfl)
theorem dX0_times_128 : decode cX0_times 128 = .ok (.getfield 19, 3) := dk_180 0 19 (dk_at dksX0_times_5 10 rfl rfl)
theorem dX0_times_131 : decode cX0_times 131 = .ok (.invokevirtual 624, 3) := dk_182 2 112 (dk_at dksX0_times_5 13 rfl rfl)
theorem dX0_times_134 : decode cX0_times 134 = .ok (.aload 7, 2) := dk_25 7 (dk_at dksX0_times_5 16 rfl rfl)
theorem dX0_times_136 : decode cX0_times 136 = .ok (.athrow, 1) := dk_191 (dk_at dksX0_times_5 18 rfl rfl)
abbrev cX0_sheet : ByteArray := prog_1_method_98_code
def yX0_sheet : MethodName := ⟨RX0, "sheet", "(III)I"⟩
def dkwX0_sheet_3 : List UInt8 := [172, 58, 4, 16, 242, 172]
abbrev dktX0_sheet_3 : List UInt8 := dkwX0_sheet_3 ++ []
def dkwX0_sheet_2 : List UInt8 := [29, 188, 8, 167, 0, 17, 28, 4, 160, 0, 9, 29, 188, 9, 167, 0, 6, 29, 188, 10, 181, 1, 128, 4]
abbrev dktX0_sheet_2 : List UInt8 := dkwX0_sheet_2 ++ dktX0_sheet_3
def dkwX0_sheet_1 : List UInt8 := [164, 0, 6, 16, 254, 172, 42, 180, 0, 75, 27, 50, 28, 156, 0, 7, 1, 167, 0, 27, 28, 154, 0, 9]
abbrev dktX0_sheet_1 : List UInt8 := dkwX0_sheet_1 ++ dktX0_sheet_2
def dkwX0_sheet_0 : List UInt8 := [27, 184, 1, 125, 153, 0, 22, 28, 2, 5, 184, 0, 111, 153, 0, 13, 28, 155, 0, 12, 29, 16, 60]
abbrev dktX0_sheet_0 : List UInt8 := dkwX0_sheet_0 ++ dktX0_sheet_1
theorem dksX0_sheet_0 : cX0_sheet.data.toList.drop 0 = dktX0_sheet_0 := by decide +kernel
theorem dksX0_sheet_1 : cX0_sheet.data.toList.drop 23 = dktX0_sheet_1 := dk_seg dksX0_sheet_0 23 rfl rfl
theorem dksX0_sheet_2 : cX0_sheet.data.toList.drop 47 = dktX0_sheet_2 := dk_seg dksX0_sheet_1 24 rfl rfl
theorem dksX0_sheet_3 : cX0_sheet.data.toList.drop 71 = dktX0_sheet_3 := dk_seg dksX0_sheet_2 24 rfl rfl
theorem dX0_sheet_0 : decode cX0_sheet 0 = .ok (.iload_n 1, 1) := dk_27 (dk_at dksX0_sheet_0 0 rfl rfl)
theorem dX0_sheet_1 : decode cX0_sheet 1 = .ok (.invokestatic 381, 3) := dk_184 1 125 (dk_at dksX0_sheet_0 1 rfl rfl)
theorem dX0_sheet_4 : decode cX0_sheet 4 = .ok (.ifCond .eq 22, 3) := dk_153 0 22 (dk_at dksX0_sheet_0 4 rfl rfl)
theorem dX0_sheet_7 : decode cX0_sheet 7 = .ok (.iload_n 2, 1) := dk_28 (dk_at dksX0_sheet_0 7 rfl rfl)
theorem dX0_sheet_8 : decode cX0_sheet 8 = .ok (.iconst (-1), 1) := dk_2 (dk_at dksX0_sheet_0 8 rfl rfl)
theorem dX0_sheet_9 : decode cX0_sheet 9 = .ok (.iconst 2, 1) := dk_5 (dk_at dksX0_sheet_0 9 rfl rfl)
theorem dX0_sheet_10 : decode cX0_sheet 10 = .ok (.invokestatic 111, 3) := dk_184 0 111 (dk_at dksX0_sheet_0 10 rfl rfl)
theorem dX0_sheet_13 : decode cX0_sheet 13 = .ok (.ifCond .eq 13, 3) := dk_153 0 13 (dk_at dksX0_sheet_0 13 rfl rfl)
theorem dX0_sheet_16 : decode cX0_sheet 16 = .ok (.iload_n 2, 1) := dk_28 (dk_at dksX0_sheet_0 16 rfl rfl)
theorem dX0_sheet_17 : decode cX0_sheet 17 = .ok (.ifCond .lt 12, 3) := dk_155 0 12 (dk_at dksX0_sheet_0 17 rfl rfl)
theorem dX0_sheet_20 : decode cX0_sheet 20 = .ok (.iload_n 3, 1) := dk_29 (dk_at dksX0_sheet_0 20 rfl rfl)
theorem dX0_sheet_21 : decode cX0_sheet 21 = .ok (.bipush 60, 2) := dk_16 60 (dk_at dksX0_sheet_0 21 rfl rfl)
theorem dX0_sheet_23 : decode cX0_sheet 23 = .ok (.if_icmp .le 6, 3) := dk_164 0 6 (dk_at dksX0_sheet_1 0 rfl rfl)
theorem dX0_sheet_26 : decode cX0_sheet 26 = .ok (.bipush (-2), 2) := dk_16 254 (dk_at dksX0_sheet_1 3 rfl rfl)
theorem dX0_sheet_28 : decode cX0_sheet 28 = .ok (.ireturn, 1) := dk_172 (dk_at dksX0_sheet_1 5 rfl rfl)
theorem dX0_sheet_29 : decode cX0_sheet 29 = .ok (.aload_n 0, 1) := dk_42 (dk_at dksX0_sheet_1 6 rfl rfl)
theorem dX0_sheet_30 : decode cX0_sheet 30 = .ok (.getfield 75, 3) := dk_180 0 75 (dk_at dksX0_sheet_1 7 rfl rfl)
theorem dX0_sheet_33 : decode cX0_sheet 33 = .ok (.iload_n 1, 1) := dk_27 (dk_at dksX0_sheet_1 10 rfl rfl)
theorem dX0_sheet_34 : decode cX0_sheet 34 = .ok (.aaload, 1) := dk_50 (dk_at dksX0_sheet_1 11 rfl rfl)
theorem dX0_sheet_35 : decode cX0_sheet 35 = .ok (.iload_n 2, 1) := dk_28 (dk_at dksX0_sheet_1 12 rfl rfl)
theorem dX0_sheet_36 : decode cX0_sheet 36 = .ok (.ifCond .ge 7, 3) := dk_156 0 7 (dk_at dksX0_sheet_1 13 rfl rfl)
theorem dX0_sheet_39 : decode cX0_sheet 39 = .ok (.aconst_null, 1) := dk_1 (dk_at dksX0_sheet_1 16 rfl rfl)
theorem dX0_sheet_40 : decode cX0_sheet 40 = .ok (.goto 27, 3) := dk_167 0 27 (dk_at dksX0_sheet_1 17 rfl rfl)
theorem dX0_sheet_43 : decode cX0_sheet 43 = .ok (.iload_n 2, 1) := dk_28 (dk_at dksX0_sheet_1 20 rfl rfl)
theorem dX0_sheet_44 : decode cX0_sheet 44 = .ok (.ifCond .ne 9, 3) := dk_154 0 9 (dk_at dksX0_sheet_1 21 rfl rfl)
theorem dX0_sheet_47 : decode cX0_sheet 47 = .ok (.iload_n 3, 1) := dk_29 (dk_at dksX0_sheet_2 0 rfl rfl)
theorem dX0_sheet_48 : decode cX0_sheet 48 = .ok (.newarray .byte, 2) := dk_188_8 (dk_at dksX0_sheet_2 1 rfl rfl)
theorem dX0_sheet_50 : decode cX0_sheet 50 = .ok (.goto 17, 3) := dk_167 0 17 (dk_at dksX0_sheet_2 3 rfl rfl)
theorem dX0_sheet_53 : decode cX0_sheet 53 = .ok (.iload_n 2, 1) := dk_28 (dk_at dksX0_sheet_2 6 rfl rfl)
theorem dX0_sheet_54 : decode cX0_sheet 54 = .ok (.iconst 1, 1) := dk_4 (dk_at dksX0_sheet_2 7 rfl rfl)
theorem dX0_sheet_55 : decode cX0_sheet 55 = .ok (.if_icmp .ne 9, 3) := dk_160 0 9 (dk_at dksX0_sheet_2 8 rfl rfl)
theorem dX0_sheet_58 : decode cX0_sheet 58 = .ok (.iload_n 3, 1) := dk_29 (dk_at dksX0_sheet_2 11 rfl rfl)
theorem dX0_sheet_59 : decode cX0_sheet 59 = .ok (.newarray .short, 2) := dk_188_9 (dk_at dksX0_sheet_2 12 rfl rfl)
theorem dX0_sheet_61 : decode cX0_sheet 61 = .ok (.goto 6, 3) := dk_167 0 6 (dk_at dksX0_sheet_2 14 rfl rfl)
theorem dX0_sheet_64 : decode cX0_sheet 64 = .ok (.iload_n 3, 1) := dk_29 (dk_at dksX0_sheet_2 17 rfl rfl)
theorem dX0_sheet_65 : decode cX0_sheet 65 = .ok (.newarray .int, 2) := dk_188_10 (dk_at dksX0_sheet_2 18 rfl rfl)
theorem dX0_sheet_67 : decode cX0_sheet 67 = .ok (.putfield 384, 3) := dk_181 1 128 (dk_at dksX0_sheet_2 20 rfl rfl)
theorem dX0_sheet_70 : decode cX0_sheet 70 = .ok (.iconst 1, 1) := dk_4 (dk_at dksX0_sheet_2 23 rfl rfl)
theorem dX0_sheet_71 : decode cX0_sheet 71 = .ok (.ireturn, 1) := dk_172 (dk_at dksX0_sheet_3 0 rfl rfl)
theorem dX0_sheet_72 : decode cX0_sheet 72 = .ok (.astore 4, 2) := dk_58 4 (dk_at dksX0_sheet_3 1 rfl rfl)
theorem dX0_sheet_74 : decode cX0_sheet 74 = .ok (.bipush (-14), 2) := dk_16 242 (dk_at dksX0_sheet_3 3 rfl rfl)
theorem dX0_sheet_76 : decode cX0_sheet 76 = .ok (.ireturn, 1) := dk_172 (dk_at dksX0_sheet_3 5 rfl rfl)
abbrev cX0_write : ByteArray := prog_1_method_99_code
def yX0_write : MethodName := ⟨RX0, "write", "(III)I"⟩
def dkwX0_write_1 : List UInt8 := [4, 172, 58, 4, 16, 245, 172, 58, 4, 16, 244, 172]
abbrev dktX0_write_1 : List UInt8 := dkwX0_write_1 ++ []
def dkwX0_write_0 : List UInt8 := [27, 184, 1, 125, 154, 0, 6, 16, 254, 172, 42, 180, 0, 75, 27, 50, 180, 1, 128, 28, 29, 184, 2, 121]
abbrev dktX0_write_0 : List UInt8 := dkwX0_write_0 ++ dktX0_write_1
theorem dksX0_write_0 : cX0_write.data.toList.drop 0 = dktX0_write_0 := by decide +kernel
theorem dksX0_write_1 : cX0_write.data.toList.drop 24 = dktX0_write_1 := dk_seg dksX0_write_0 24 rfl rfl
theorem dX0_write_0 : decode cX0_write 0 = .ok (.iload_n 1, 1) := dk_27 (dk_at dksX0_write_0 0 rfl rfl)
theorem dX0_write_1 : decode cX0_write 1 = .ok (.invokestatic 381, 3) := dk_184 1 125 (dk_at dksX0_write_0 1 rfl rfl)
theorem dX0_write_4 : decode cX0_write 4 = .ok (.ifCond .ne 6, 3) := dk_154 0 6 (dk_at dksX0_write_0 4 rfl rfl)
theorem dX0_write_7 : decode cX0_write 7 = .ok (.bipush (-2), 2) := dk_16 254 (dk_at dksX0_write_0 7 rfl rfl)
theorem dX0_write_9 : decode cX0_write 9 = .ok (.ireturn, 1) := dk_172 (dk_at dksX0_write_0 9 rfl rfl)
theorem dX0_write_10 : decode cX0_write 10 = .ok (.aload_n 0, 1) := dk_42 (dk_at dksX0_write_0 10 rfl rfl)
theorem dX0_write_11 : decode cX0_write 11 = .ok (.getfield 75, 3) := dk_180 0 75 (dk_at dksX0_write_0 11 rfl rfl)
theorem dX0_write_14 : decode cX0_write 14 = .ok (.iload_n 1, 1) := dk_27 (dk_at dksX0_write_0 14 rfl rfl)
theorem dX0_write_15 : decode cX0_write 15 = .ok (.aaload, 1) := dk_50 (dk_at dksX0_write_0 15 rfl rfl)
theorem dX0_write_16 : decode cX0_write 16 = .ok (.getfield 384, 3) := dk_180 1 128 (dk_at dksX0_write_0 16 rfl rfl)
theorem dX0_write_19 : decode cX0_write 19 = .ok (.iload_n 2, 1) := dk_28 (dk_at dksX0_write_0 19 rfl rfl)
theorem dX0_write_20 : decode cX0_write 20 = .ok (.iload_n 3, 1) := dk_29 (dk_at dksX0_write_0 20 rfl rfl)
theorem dX0_write_21 : decode cX0_write 21 = .ok (.invokestatic 633, 3) := dk_184 2 121 (dk_at dksX0_write_0 21 rfl rfl)
theorem dX0_write_24 : decode cX0_write 24 = .ok (.iconst 1, 1) := dk_4 (dk_at dksX0_write_1 0 rfl rfl)
theorem dX0_write_25 : decode cX0_write 25 = .ok (.ireturn, 1) := dk_172 (dk_at dksX0_write_1 1 rfl rfl)
theorem dX0_write_26 : decode cX0_write 26 = .ok (.astore 4, 2) := dk_58 4 (dk_at dksX0_write_1 2 rfl rfl)
theorem dX0_write_28 : decode cX0_write 28 = .ok (.bipush (-11), 2) := dk_16 245 (dk_at dksX0_write_1 4 rfl rfl)
theorem dX0_write_30 : decode cX0_write 30 = .ok (.ireturn, 1) := dk_172 (dk_at dksX0_write_1 6 rfl rfl)
theorem dX0_write_31 : decode cX0_write 31 = .ok (.astore 4, 2) := dk_58 4 (dk_at dksX0_write_1 7 rfl rfl)
theorem dX0_write_33 : decode cX0_write 33 = .ok (.bipush (-12), 2) := dk_16 244 (dk_at dksX0_write_1 9 rfl rfl)
theorem dX0_write_35 : decode cX0_write 35 = .ok (.ireturn, 1) := dk_172 (dk_at dksX0_write_1 11 rfl rfl)
abbrev cX0_lays : ByteArray := prog_1_method_97_code
def yX0_lays : MethodName := ⟨RX0, "lays", "(Ljava/lang/Object;II)V"⟩
def dkwX0_lays_1 : List UInt8 := [153, 0, 14, 42, 192, 2, 117, 27, 28, 147, 86, 167, 0, 10, 42, 192, 2, 118, 27, 28, 79, 177]
abbrev dktX0_lays_1 : List UInt8 := dkwX0_lays_1 ++ []
def dkwX0_lays_0 : List UInt8 := [42, 193, 2, 116, 153, 0, 14, 42, 192, 2, 116, 27, 28, 145, 84, 167, 0, 28, 42, 193, 2, 117]
abbrev dktX0_lays_0 : List UInt8 := dkwX0_lays_0 ++ dktX0_lays_1
theorem dksX0_lays_0 : cX0_lays.data.toList.drop 0 = dktX0_lays_0 := by decide +kernel
theorem dksX0_lays_1 : cX0_lays.data.toList.drop 22 = dktX0_lays_1 := dk_seg dksX0_lays_0 22 rfl rfl
theorem dX0_lays_0 : decode cX0_lays 0 = .ok (.aload_n 0, 1) := dk_42 (dk_at dksX0_lays_0 0 rfl rfl)
theorem dX0_lays_1 : decode cX0_lays 1 = .ok (.instanceof 628, 3) := dk_193 2 116 (dk_at dksX0_lays_0 1 rfl rfl)
theorem dX0_lays_4 : decode cX0_lays 4 = .ok (.ifCond .eq 14, 3) := dk_153 0 14 (dk_at dksX0_lays_0 4 rfl rfl)
theorem dX0_lays_7 : decode cX0_lays 7 = .ok (.aload_n 0, 1) := dk_42 (dk_at dksX0_lays_0 7 rfl rfl)
theorem dX0_lays_8 : decode cX0_lays 8 = .ok (.checkcast 628, 3) := dk_192 2 116 (dk_at dksX0_lays_0 8 rfl rfl)
theorem dX0_lays_11 : decode cX0_lays 11 = .ok (.iload_n 1, 1) := dk_27 (dk_at dksX0_lays_0 11 rfl rfl)
theorem dX0_lays_12 : decode cX0_lays 12 = .ok (.iload_n 2, 1) := dk_28 (dk_at dksX0_lays_0 12 rfl rfl)
theorem dX0_lays_13 : decode cX0_lays 13 = .ok (.i2b, 1) := dk_145 (dk_at dksX0_lays_0 13 rfl rfl)
theorem dX0_lays_14 : decode cX0_lays 14 = .ok (.bastore, 1) := dk_84 (dk_at dksX0_lays_0 14 rfl rfl)
theorem dX0_lays_15 : decode cX0_lays 15 = .ok (.goto 28, 3) := dk_167 0 28 (dk_at dksX0_lays_0 15 rfl rfl)
theorem dX0_lays_18 : decode cX0_lays 18 = .ok (.aload_n 0, 1) := dk_42 (dk_at dksX0_lays_0 18 rfl rfl)
theorem dX0_lays_19 : decode cX0_lays 19 = .ok (.instanceof 629, 3) := dk_193 2 117 (dk_at dksX0_lays_0 19 rfl rfl)
theorem dX0_lays_22 : decode cX0_lays 22 = .ok (.ifCond .eq 14, 3) := dk_153 0 14 (dk_at dksX0_lays_1 0 rfl rfl)
theorem dX0_lays_25 : decode cX0_lays 25 = .ok (.aload_n 0, 1) := dk_42 (dk_at dksX0_lays_1 3 rfl rfl)
theorem dX0_lays_26 : decode cX0_lays 26 = .ok (.checkcast 629, 3) := dk_192 2 117 (dk_at dksX0_lays_1 4 rfl rfl)
theorem dX0_lays_29 : decode cX0_lays 29 = .ok (.iload_n 1, 1) := dk_27 (dk_at dksX0_lays_1 7 rfl rfl)
theorem dX0_lays_30 : decode cX0_lays 30 = .ok (.iload_n 2, 1) := dk_28 (dk_at dksX0_lays_1 8 rfl rfl)
theorem dX0_lays_31 : decode cX0_lays 31 = .ok (.i2s, 1) := dk_147 (dk_at dksX0_lays_1 9 rfl rfl)
theorem dX0_lays_32 : decode cX0_lays 32 = .ok (.sastore, 1) := dk_86 (dk_at dksX0_lays_1 10 rfl rfl)
theorem dX0_lays_33 : decode cX0_lays 33 = .ok (.goto 10, 3) := dk_167 0 10 (dk_at dksX0_lays_1 11 rfl rfl)
theorem dX0_lays_36 : decode cX0_lays 36 = .ok (.aload_n 0, 1) := dk_42 (dk_at dksX0_lays_1 14 rfl rfl)
theorem dX0_lays_37 : decode cX0_lays 37 = .ok (.checkcast 630, 3) := dk_192 2 118 (dk_at dksX0_lays_1 15 rfl rfl)
theorem dX0_lays_40 : decode cX0_lays 40 = .ok (.iload_n 1, 1) := dk_27 (dk_at dksX0_lays_1 18 rfl rfl)
theorem dX0_lays_41 : decode cX0_lays 41 = .ok (.iload_n 2, 1) := dk_28 (dk_at dksX0_lays_1 19 rfl rfl)
theorem dX0_lays_42 : decode cX0_lays 42 = .ok (.iastore, 1) := dk_79 (dk_at dksX0_lays_1 20 rfl rfl)
theorem dX0_lays_43 : decode cX0_lays 43 = .ok (.return_, 1) := dk_177 (dk_at dksX0_lays_1 21 rfl rfl)
abbrev cX0_item : ByteArray := prog_1_method_100_code
def yX0_item : MethodName := ⟨RX0, "item", "(II)I"⟩
def dkwX0_item_1 : List UInt8 := [78, 16, 245, 172, 78, 16, 244, 172]
abbrev dktX0_item_1 : List UInt8 := dkwX0_item_1 ++ []
def dkwX0_item_0 : List UInt8 := [27, 184, 1, 125, 154, 0, 6, 16, 254, 172, 42, 180, 0, 75, 27, 50, 180, 1, 128, 28, 184, 1, 136, 172]
abbrev dktX0_item_0 : List UInt8 := dkwX0_item_0 ++ dktX0_item_1
theorem dksX0_item_0 : cX0_item.data.toList.drop 0 = dktX0_item_0 := by decide +kernel
theorem dksX0_item_1 : cX0_item.data.toList.drop 24 = dktX0_item_1 := dk_seg dksX0_item_0 24 rfl rfl
theorem dX0_item_0 : decode cX0_item 0 = .ok (.iload_n 1, 1) := dk_27 (dk_at dksX0_item_0 0 rfl rfl)
theorem dX0_item_1 : decode cX0_item 1 = .ok (.invokestatic 381, 3) := dk_184 1 125 (dk_at dksX0_item_0 1 rfl rfl)
theorem dX0_item_4 : decode cX0_item 4 = .ok (.ifCond .ne 6, 3) := dk_154 0 6 (dk_at dksX0_item_0 4 rfl rfl)
theorem dX0_item_7 : decode cX0_item 7 = .ok (.bipush (-2), 2) := dk_16 254 (dk_at dksX0_item_0 7 rfl rfl)
theorem dX0_item_9 : decode cX0_item 9 = .ok (.ireturn, 1) := dk_172 (dk_at dksX0_item_0 9 rfl rfl)
theorem dX0_item_10 : decode cX0_item 10 = .ok (.aload_n 0, 1) := dk_42 (dk_at dksX0_item_0 10 rfl rfl)
theorem dX0_item_11 : decode cX0_item 11 = .ok (.getfield 75, 3) := dk_180 0 75 (dk_at dksX0_item_0 11 rfl rfl)
theorem dX0_item_14 : decode cX0_item 14 = .ok (.iload_n 1, 1) := dk_27 (dk_at dksX0_item_0 14 rfl rfl)
theorem dX0_item_15 : decode cX0_item 15 = .ok (.aaload, 1) := dk_50 (dk_at dksX0_item_0 15 rfl rfl)
theorem dX0_item_16 : decode cX0_item 16 = .ok (.getfield 384, 3) := dk_180 1 128 (dk_at dksX0_item_0 16 rfl rfl)
theorem dX0_item_19 : decode cX0_item 19 = .ok (.iload_n 2, 1) := dk_28 (dk_at dksX0_item_0 19 rfl rfl)
theorem dX0_item_20 : decode cX0_item 20 = .ok (.invokestatic 392, 3) := dk_184 1 136 (dk_at dksX0_item_0 20 rfl rfl)
theorem dX0_item_23 : decode cX0_item 23 = .ok (.ireturn, 1) := dk_172 (dk_at dksX0_item_0 23 rfl rfl)
theorem dX0_item_24 : decode cX0_item 24 = .ok (.astore_n 3, 1) := dk_78 (dk_at dksX0_item_1 0 rfl rfl)
theorem dX0_item_25 : decode cX0_item 25 = .ok (.bipush (-11), 2) := dk_16 245 (dk_at dksX0_item_1 1 rfl rfl)
theorem dX0_item_27 : decode cX0_item 27 = .ok (.ireturn, 1) := dk_172 (dk_at dksX0_item_1 3 rfl rfl)
theorem dX0_item_28 : decode cX0_item 28 = .ok (.astore_n 3, 1) := dk_78 (dk_at dksX0_item_1 4 rfl rfl)
theorem dX0_item_29 : decode cX0_item 29 = .ok (.bipush (-12), 2) := dk_16 244 (dk_at dksX0_item_1 5 rfl rfl)
theorem dX0_item_31 : decode cX0_item 31 = .ok (.ireturn, 1) := dk_172 (dk_at dksX0_item_1 7 rfl rfl)
abbrev cX0_copy : ByteArray := prog_1_method_101_code
def yX0_copy : MethodName := ⟨RX0, "copy", "(IIIII)I"⟩
def dkwX0_copy_3 : List UInt8 := [28, 25, 7, 21, 4, 21, 5, 184, 2, 130, 21, 5, 172, 58, 8, 16, 244, 172]
abbrev dktX0_copy_3 : List UInt8 := dkwX0_copy_3 ++ []
def dkwX0_copy_2 : List UInt8 := [199, 0, 6, 16, 245, 172, 25, 6, 184, 2, 127, 25, 7, 184, 2, 127, 159, 0, 6, 16, 243, 172, 25, 6]
abbrev dktX0_copy_2 : List UInt8 := dkwX0_copy_2 ++ dktX0_copy_3
def dkwX0_copy_1 : List UInt8 := [180, 1, 128, 58, 6, 42, 180, 0, 75, 29, 50, 180, 1, 128, 58, 7, 25, 6, 198, 0, 8, 25, 7]
abbrev dktX0_copy_1 : List UInt8 := dkwX0_copy_1 ++ dktX0_copy_2
def dkwX0_copy_0 : List UInt8 := [27, 184, 1, 125, 153, 0, 10, 29, 184, 1, 125, 154, 0, 6, 16, 254, 172, 42, 180, 0, 75, 27, 50]
abbrev dktX0_copy_0 : List UInt8 := dkwX0_copy_0 ++ dktX0_copy_1
theorem dksX0_copy_0 : cX0_copy.data.toList.drop 0 = dktX0_copy_0 := by decide +kernel
theorem dksX0_copy_1 : cX0_copy.data.toList.drop 23 = dktX0_copy_1 := dk_seg dksX0_copy_0 23 rfl rfl
theorem dksX0_copy_2 : cX0_copy.data.toList.drop 46 = dktX0_copy_2 := dk_seg dksX0_copy_1 23 rfl rfl
theorem dksX0_copy_3 : cX0_copy.data.toList.drop 70 = dktX0_copy_3 := dk_seg dksX0_copy_2 24 rfl rfl
theorem dX0_copy_0 : decode cX0_copy 0 = .ok (.iload_n 1, 1) := dk_27 (dk_at dksX0_copy_0 0 rfl rfl)
theorem dX0_copy_1 : decode cX0_copy 1 = .ok (.invokestatic 381, 3) := dk_184 1 125 (dk_at dksX0_copy_0 1 rfl rfl)
theorem dX0_copy_4 : decode cX0_copy 4 = .ok (.ifCond .eq 10, 3) := dk_153 0 10 (dk_at dksX0_copy_0 4 rfl rfl)
theorem dX0_copy_7 : decode cX0_copy 7 = .ok (.iload_n 3, 1) := dk_29 (dk_at dksX0_copy_0 7 rfl rfl)
theorem dX0_copy_8 : decode cX0_copy 8 = .ok (.invokestatic 381, 3) := dk_184 1 125 (dk_at dksX0_copy_0 8 rfl rfl)
theorem dX0_copy_11 : decode cX0_copy 11 = .ok (.ifCond .ne 6, 3) := dk_154 0 6 (dk_at dksX0_copy_0 11 rfl rfl)
theorem dX0_copy_14 : decode cX0_copy 14 = .ok (.bipush (-2), 2) := dk_16 254 (dk_at dksX0_copy_0 14 rfl rfl)
theorem dX0_copy_16 : decode cX0_copy 16 = .ok (.ireturn, 1) := dk_172 (dk_at dksX0_copy_0 16 rfl rfl)
theorem dX0_copy_17 : decode cX0_copy 17 = .ok (.aload_n 0, 1) := dk_42 (dk_at dksX0_copy_0 17 rfl rfl)
theorem dX0_copy_18 : decode cX0_copy 18 = .ok (.getfield 75, 3) := dk_180 0 75 (dk_at dksX0_copy_0 18 rfl rfl)
theorem dX0_copy_21 : decode cX0_copy 21 = .ok (.iload_n 1, 1) := dk_27 (dk_at dksX0_copy_0 21 rfl rfl)
theorem dX0_copy_22 : decode cX0_copy 22 = .ok (.aaload, 1) := dk_50 (dk_at dksX0_copy_0 22 rfl rfl)
theorem dX0_copy_23 : decode cX0_copy 23 = .ok (.getfield 384, 3) := dk_180 1 128 (dk_at dksX0_copy_1 0 rfl rfl)
theorem dX0_copy_26 : decode cX0_copy 26 = .ok (.astore 6, 2) := dk_58 6 (dk_at dksX0_copy_1 3 rfl rfl)
theorem dX0_copy_28 : decode cX0_copy 28 = .ok (.aload_n 0, 1) := dk_42 (dk_at dksX0_copy_1 5 rfl rfl)
theorem dX0_copy_29 : decode cX0_copy 29 = .ok (.getfield 75, 3) := dk_180 0 75 (dk_at dksX0_copy_1 6 rfl rfl)
theorem dX0_copy_32 : decode cX0_copy 32 = .ok (.iload_n 3, 1) := dk_29 (dk_at dksX0_copy_1 9 rfl rfl)
theorem dX0_copy_33 : decode cX0_copy 33 = .ok (.aaload, 1) := dk_50 (dk_at dksX0_copy_1 10 rfl rfl)
theorem dX0_copy_34 : decode cX0_copy 34 = .ok (.getfield 384, 3) := dk_180 1 128 (dk_at dksX0_copy_1 11 rfl rfl)
theorem dX0_copy_37 : decode cX0_copy 37 = .ok (.astore 7, 2) := dk_58 7 (dk_at dksX0_copy_1 14 rfl rfl)
theorem dX0_copy_39 : decode cX0_copy 39 = .ok (.aload 6, 2) := dk_25 6 (dk_at dksX0_copy_1 16 rfl rfl)
theorem dX0_copy_41 : decode cX0_copy 41 = .ok (.ifnull 8, 3) := dk_198 0 8 (dk_at dksX0_copy_1 18 rfl rfl)
theorem dX0_copy_44 : decode cX0_copy 44 = .ok (.aload 7, 2) := dk_25 7 (dk_at dksX0_copy_1 21 rfl rfl)
theorem dX0_copy_46 : decode cX0_copy 46 = .ok (.ifnonnull 6, 3) := dk_199 0 6 (dk_at dksX0_copy_2 0 rfl rfl)
theorem dX0_copy_49 : decode cX0_copy 49 = .ok (.bipush (-11), 2) := dk_16 245 (dk_at dksX0_copy_2 3 rfl rfl)
theorem dX0_copy_51 : decode cX0_copy 51 = .ok (.ireturn, 1) := dk_172 (dk_at dksX0_copy_2 5 rfl rfl)
theorem dX0_copy_52 : decode cX0_copy 52 = .ok (.aload 6, 2) := dk_25 6 (dk_at dksX0_copy_2 6 rfl rfl)
theorem dX0_copy_54 : decode cX0_copy 54 = .ok (.invokestatic 639, 3) := dk_184 2 127 (dk_at dksX0_copy_2 8 rfl rfl)
theorem dX0_copy_57 : decode cX0_copy 57 = .ok (.aload 7, 2) := dk_25 7 (dk_at dksX0_copy_2 11 rfl rfl)
theorem dX0_copy_59 : decode cX0_copy 59 = .ok (.invokestatic 639, 3) := dk_184 2 127 (dk_at dksX0_copy_2 13 rfl rfl)
theorem dX0_copy_62 : decode cX0_copy 62 = .ok (.if_icmp .eq 6, 3) := dk_159 0 6 (dk_at dksX0_copy_2 16 rfl rfl)
theorem dX0_copy_65 : decode cX0_copy 65 = .ok (.bipush (-13), 2) := dk_16 243 (dk_at dksX0_copy_2 19 rfl rfl)
theorem dX0_copy_67 : decode cX0_copy 67 = .ok (.ireturn, 1) := dk_172 (dk_at dksX0_copy_2 21 rfl rfl)
theorem dX0_copy_68 : decode cX0_copy 68 = .ok (.aload 6, 2) := dk_25 6 (dk_at dksX0_copy_2 22 rfl rfl)
theorem dX0_copy_70 : decode cX0_copy 70 = .ok (.iload_n 2, 1) := dk_28 (dk_at dksX0_copy_3 0 rfl rfl)
theorem dX0_copy_71 : decode cX0_copy 71 = .ok (.aload 7, 2) := dk_25 7 (dk_at dksX0_copy_3 1 rfl rfl)
theorem dX0_copy_73 : decode cX0_copy 73 = .ok (.iload 4, 2) := dk_21 4 (dk_at dksX0_copy_3 3 rfl rfl)
theorem dX0_copy_75 : decode cX0_copy 75 = .ok (.iload 5, 2) := dk_21 5 (dk_at dksX0_copy_3 5 rfl rfl)
theorem dX0_copy_77 : decode cX0_copy 77 = .ok (.invokestatic 642, 3) := dk_184 2 130 (dk_at dksX0_copy_3 7 rfl rfl)
theorem dX0_copy_80 : decode cX0_copy 80 = .ok (.iload 5, 2) := dk_21 5 (dk_at dksX0_copy_3 10 rfl rfl)
theorem dX0_copy_82 : decode cX0_copy 82 = .ok (.ireturn, 1) := dk_172 (dk_at dksX0_copy_3 12 rfl rfl)
theorem dX0_copy_83 : decode cX0_copy 83 = .ok (.astore 8, 2) := dk_58 8 (dk_at dksX0_copy_3 13 rfl rfl)
theorem dX0_copy_85 : decode cX0_copy 85 = .ok (.bipush (-12), 2) := dk_16 244 (dk_at dksX0_copy_3 15 rfl rfl)
theorem dX0_copy_87 : decode cX0_copy 87 = .ok (.ireturn, 1) := dk_172 (dk_at dksX0_copy_3 17 rfl rfl)
abbrev cX0_sortOf : ByteArray := prog_1_method_94_code
def yX0_sortOf : MethodName := ⟨RX0, "sortOf", "(Ljava/lang/Object;)I"⟩
def dkwX0_sortOf_1 : List UInt8 := [193, 2, 118, 153, 0, 7, 5, 167, 0, 4, 2, 172]
abbrev dktX0_sortOf_1 : List UInt8 := dkwX0_sortOf_1 ++ []
def dkwX0_sortOf_0 : List UInt8 := [42, 193, 2, 116, 153, 0, 7, 3, 167, 0, 26, 42, 193, 2, 117, 153, 0, 7, 4, 167, 0, 15, 42]
abbrev dktX0_sortOf_0 : List UInt8 := dkwX0_sortOf_0 ++ dktX0_sortOf_1
theorem dksX0_sortOf_0 : cX0_sortOf.data.toList.drop 0 = dktX0_sortOf_0 := by decide +kernel
theorem dksX0_sortOf_1 : cX0_sortOf.data.toList.drop 23 = dktX0_sortOf_1 := dk_seg dksX0_sortOf_0 23 rfl rfl
theorem dX0_sortOf_0 : decode cX0_sortOf 0 = .ok (.aload_n 0, 1) := dk_42 (dk_at dksX0_sortOf_0 0 rfl rfl)
theorem dX0_sortOf_1 : decode cX0_sortOf 1 = .ok (.instanceof 628, 3) := dk_193 2 116 (dk_at dksX0_sortOf_0 1 rfl rfl)
theorem dX0_sortOf_4 : decode cX0_sortOf 4 = .ok (.ifCond .eq 7, 3) := dk_153 0 7 (dk_at dksX0_sortOf_0 4 rfl rfl)
theorem dX0_sortOf_7 : decode cX0_sortOf 7 = .ok (.iconst 0, 1) := dk_3 (dk_at dksX0_sortOf_0 7 rfl rfl)
theorem dX0_sortOf_8 : decode cX0_sortOf 8 = .ok (.goto 26, 3) := dk_167 0 26 (dk_at dksX0_sortOf_0 8 rfl rfl)
theorem dX0_sortOf_11 : decode cX0_sortOf 11 = .ok (.aload_n 0, 1) := dk_42 (dk_at dksX0_sortOf_0 11 rfl rfl)
theorem dX0_sortOf_12 : decode cX0_sortOf 12 = .ok (.instanceof 629, 3) := dk_193 2 117 (dk_at dksX0_sortOf_0 12 rfl rfl)
theorem dX0_sortOf_15 : decode cX0_sortOf 15 = .ok (.ifCond .eq 7, 3) := dk_153 0 7 (dk_at dksX0_sortOf_0 15 rfl rfl)
theorem dX0_sortOf_18 : decode cX0_sortOf 18 = .ok (.iconst 1, 1) := dk_4 (dk_at dksX0_sortOf_0 18 rfl rfl)
theorem dX0_sortOf_19 : decode cX0_sortOf 19 = .ok (.goto 15, 3) := dk_167 0 15 (dk_at dksX0_sortOf_0 19 rfl rfl)
theorem dX0_sortOf_22 : decode cX0_sortOf 22 = .ok (.aload_n 0, 1) := dk_42 (dk_at dksX0_sortOf_0 22 rfl rfl)
theorem dX0_sortOf_23 : decode cX0_sortOf 23 = .ok (.instanceof 630, 3) := dk_193 2 118 (dk_at dksX0_sortOf_1 0 rfl rfl)
theorem dX0_sortOf_26 : decode cX0_sortOf 26 = .ok (.ifCond .eq 7, 3) := dk_153 0 7 (dk_at dksX0_sortOf_1 3 rfl rfl)
theorem dX0_sortOf_29 : decode cX0_sortOf 29 = .ok (.iconst 2, 1) := dk_5 (dk_at dksX0_sortOf_1 6 rfl rfl)
theorem dX0_sortOf_30 : decode cX0_sortOf 30 = .ok (.goto 4, 3) := dk_167 0 4 (dk_at dksX0_sortOf_1 7 rfl rfl)
theorem dX0_sortOf_33 : decode cX0_sortOf 33 = .ok (.iconst (-1), 1) := dk_2 (dk_at dksX0_sortOf_1 10 rfl rfl)
theorem dX0_sortOf_34 : decode cX0_sortOf 34 = .ok (.ireturn, 1) := dk_172 (dk_at dksX0_sortOf_1 11 rfl rfl)
abbrev cX0_load : ByteArray := prog_1_method_102_code
def yX0_load : MethodName := ⟨RX0, "load", "(I)I"⟩
def dkwX0_load_4 : List UInt8 := [167, 255, 190, 29, 172]
abbrev dktX0_load_4 : List UInt8 := dkwX0_load_4 ++ []
def dkwX0_load_3 : List UInt8 := [180, 0, 10, 180, 0, 138, 29, 50, 182, 0, 142, 29, 44, 29, 184, 1, 136, 184, 0, 158, 83, 132, 3, 1]
abbrev dktX0_load_3 : List UInt8 := dkwX0_load_3 ++ dktX0_load_4
def dkwX0_load_2 : List UInt8 := [44, 29, 184, 1, 136, 4, 16, 9, 184, 0, 111, 153, 0, 39, 42, 180, 0, 10, 180, 0, 138, 29, 42]
abbrev dktX0_load_2 : List UInt8 := dkwX0_load_2 ++ dktX0_load_3
def dkwX0_load_1 : List UInt8 := [16, 245, 172, 3, 62, 29, 44, 184, 1, 132, 162, 0, 64, 42, 180, 0, 10, 29, 182, 0, 123, 153, 0, 53]
abbrev dktX0_load_1 : List UInt8 := dkwX0_load_1 ++ dktX0_load_2
def dkwX0_load_0 : List UInt8 := [27, 184, 1, 125, 154, 0, 6, 16, 254, 172, 42, 180, 0, 75, 27, 50, 180, 1, 128, 77, 44, 199, 0, 6]
abbrev dktX0_load_0 : List UInt8 := dkwX0_load_0 ++ dktX0_load_1
theorem dksX0_load_0 : cX0_load.data.toList.drop 0 = dktX0_load_0 := by decide +kernel
theorem dksX0_load_1 : cX0_load.data.toList.drop 24 = dktX0_load_1 := dk_seg dksX0_load_0 24 rfl rfl
theorem dksX0_load_2 : cX0_load.data.toList.drop 48 = dktX0_load_2 := dk_seg dksX0_load_1 24 rfl rfl
theorem dksX0_load_3 : cX0_load.data.toList.drop 71 = dktX0_load_3 := dk_seg dksX0_load_2 23 rfl rfl
theorem dksX0_load_4 : cX0_load.data.toList.drop 95 = dktX0_load_4 := dk_seg dksX0_load_3 24 rfl rfl
theorem dX0_load_0 : decode cX0_load 0 = .ok (.iload_n 1, 1) := dk_27 (dk_at dksX0_load_0 0 rfl rfl)
theorem dX0_load_1 : decode cX0_load 1 = .ok (.invokestatic 381, 3) := dk_184 1 125 (dk_at dksX0_load_0 1 rfl rfl)
theorem dX0_load_4 : decode cX0_load 4 = .ok (.ifCond .ne 6, 3) := dk_154 0 6 (dk_at dksX0_load_0 4 rfl rfl)
theorem dX0_load_7 : decode cX0_load 7 = .ok (.bipush (-2), 2) := dk_16 254 (dk_at dksX0_load_0 7 rfl rfl)
theorem dX0_load_9 : decode cX0_load 9 = .ok (.ireturn, 1) := dk_172 (dk_at dksX0_load_0 9 rfl rfl)
theorem dX0_load_10 : decode cX0_load 10 = .ok (.aload_n 0, 1) := dk_42 (dk_at dksX0_load_0 10 rfl rfl)
theorem dX0_load_11 : decode cX0_load 11 = .ok (.getfield 75, 3) := dk_180 0 75 (dk_at dksX0_load_0 11 rfl rfl)
theorem dX0_load_14 : decode cX0_load 14 = .ok (.iload_n 1, 1) := dk_27 (dk_at dksX0_load_0 14 rfl rfl)
theorem dX0_load_15 : decode cX0_load 15 = .ok (.aaload, 1) := dk_50 (dk_at dksX0_load_0 15 rfl rfl)
theorem dX0_load_16 : decode cX0_load 16 = .ok (.getfield 384, 3) := dk_180 1 128 (dk_at dksX0_load_0 16 rfl rfl)
theorem dX0_load_19 : decode cX0_load 19 = .ok (.astore_n 2, 1) := dk_77 (dk_at dksX0_load_0 19 rfl rfl)
theorem dX0_load_20 : decode cX0_load 20 = .ok (.aload_n 2, 1) := dk_44 (dk_at dksX0_load_0 20 rfl rfl)
theorem dX0_load_21 : decode cX0_load 21 = .ok (.ifnonnull 6, 3) := dk_199 0 6 (dk_at dksX0_load_0 21 rfl rfl)
theorem dX0_load_24 : decode cX0_load 24 = .ok (.bipush (-11), 2) := dk_16 245 (dk_at dksX0_load_1 0 rfl rfl)
theorem dX0_load_26 : decode cX0_load 26 = .ok (.ireturn, 1) := dk_172 (dk_at dksX0_load_1 2 rfl rfl)
theorem dX0_load_27 : decode cX0_load 27 = .ok (.iconst 0, 1) := dk_3 (dk_at dksX0_load_1 3 rfl rfl)
theorem dX0_load_28 : decode cX0_load 28 = .ok (.istore_n 3, 1) := dk_62 (dk_at dksX0_load_1 4 rfl rfl)
theorem dX0_load_29 : decode cX0_load 29 = .ok (.iload_n 3, 1) := dk_29 (dk_at dksX0_load_1 5 rfl rfl)
theorem dX0_load_30 : decode cX0_load 30 = .ok (.aload_n 2, 1) := dk_44 (dk_at dksX0_load_1 6 rfl rfl)
theorem dX0_load_31 : decode cX0_load 31 = .ok (.invokestatic 388, 3) := dk_184 1 132 (dk_at dksX0_load_1 7 rfl rfl)
theorem dX0_load_34 : decode cX0_load 34 = .ok (.if_icmp .ge 64, 3) := dk_162 0 64 (dk_at dksX0_load_1 10 rfl rfl)
theorem dX0_load_37 : decode cX0_load 37 = .ok (.aload_n 0, 1) := dk_42 (dk_at dksX0_load_1 13 rfl rfl)
theorem dX0_load_38 : decode cX0_load 38 = .ok (.getfield 10, 3) := dk_180 0 10 (dk_at dksX0_load_1 14 rfl rfl)
theorem dX0_load_41 : decode cX0_load 41 = .ok (.iload_n 3, 1) := dk_29 (dk_at dksX0_load_1 17 rfl rfl)
theorem dX0_load_42 : decode cX0_load 42 = .ok (.invokevirtual 123, 3) := dk_182 0 123 (dk_at dksX0_load_1 18 rfl rfl)
theorem dX0_load_45 : decode cX0_load 45 = .ok (.ifCond .eq 53, 3) := dk_153 0 53 (dk_at dksX0_load_1 21 rfl rfl)
theorem dX0_load_48 : decode cX0_load 48 = .ok (.aload_n 2, 1) := dk_44 (dk_at dksX0_load_2 0 rfl rfl)
theorem dX0_load_49 : decode cX0_load 49 = .ok (.iload_n 3, 1) := dk_29 (dk_at dksX0_load_2 1 rfl rfl)
theorem dX0_load_50 : decode cX0_load 50 = .ok (.invokestatic 392, 3) := dk_184 1 136 (dk_at dksX0_load_2 2 rfl rfl)
theorem dX0_load_53 : decode cX0_load 53 = .ok (.iconst 1, 1) := dk_4 (dk_at dksX0_load_2 5 rfl rfl)
theorem dX0_load_54 : decode cX0_load 54 = .ok (.bipush 9, 2) := dk_16 9 (dk_at dksX0_load_2 6 rfl rfl)
theorem dX0_load_56 : decode cX0_load 56 = .ok (.invokestatic 111, 3) := dk_184 0 111 (dk_at dksX0_load_2 8 rfl rfl)
theorem dX0_load_59 : decode cX0_load 59 = .ok (.ifCond .eq 39, 3) := dk_153 0 39 (dk_at dksX0_load_2 11 rfl rfl)
theorem dX0_load_62 : decode cX0_load 62 = .ok (.aload_n 0, 1) := dk_42 (dk_at dksX0_load_2 14 rfl rfl)
theorem dX0_load_63 : decode cX0_load 63 = .ok (.getfield 10, 3) := dk_180 0 10 (dk_at dksX0_load_2 15 rfl rfl)
theorem dX0_load_66 : decode cX0_load 66 = .ok (.getfield 138, 3) := dk_180 0 138 (dk_at dksX0_load_2 18 rfl rfl)
theorem dX0_load_69 : decode cX0_load 69 = .ok (.iload_n 3, 1) := dk_29 (dk_at dksX0_load_2 21 rfl rfl)
theorem dX0_load_70 : decode cX0_load 70 = .ok (.aload_n 0, 1) := dk_42 (dk_at dksX0_load_2 22 rfl rfl)
theorem dX0_load_71 : decode cX0_load 71 = .ok (.getfield 10, 3) := dk_180 0 10 (dk_at dksX0_load_3 0 rfl rfl)
theorem dX0_load_74 : decode cX0_load 74 = .ok (.getfield 138, 3) := dk_180 0 138 (dk_at dksX0_load_3 3 rfl rfl)
theorem dX0_load_77 : decode cX0_load 77 = .ok (.iload_n 3, 1) := dk_29 (dk_at dksX0_load_3 6 rfl rfl)
theorem dX0_load_78 : decode cX0_load 78 = .ok (.aaload, 1) := dk_50 (dk_at dksX0_load_3 7 rfl rfl)
theorem dX0_load_79 : decode cX0_load 79 = .ok (.invokevirtual 142, 3) := dk_182 0 142 (dk_at dksX0_load_3 8 rfl rfl)
theorem dX0_load_82 : decode cX0_load 82 = .ok (.iload_n 3, 1) := dk_29 (dk_at dksX0_load_3 11 rfl rfl)
theorem dX0_load_83 : decode cX0_load 83 = .ok (.aload_n 2, 1) := dk_44 (dk_at dksX0_load_3 12 rfl rfl)
theorem dX0_load_84 : decode cX0_load 84 = .ok (.iload_n 3, 1) := dk_29 (dk_at dksX0_load_3 13 rfl rfl)
theorem dX0_load_85 : decode cX0_load 85 = .ok (.invokestatic 392, 3) := dk_184 1 136 (dk_at dksX0_load_3 14 rfl rfl)
theorem dX0_load_88 : decode cX0_load 88 = .ok (.invokestatic 158, 3) := dk_184 0 158 (dk_at dksX0_load_3 17 rfl rfl)
theorem dX0_load_91 : decode cX0_load 91 = .ok (.aastore, 1) := dk_83 (dk_at dksX0_load_3 20 rfl rfl)
theorem dX0_load_92 : decode cX0_load 92 = .ok (.iinc 3 1, 3) := dk_132 3 1 (dk_at dksX0_load_3 21 rfl rfl)
theorem dX0_load_95 : decode cX0_load 95 = .ok (.goto (-66), 3) := dk_167 255 190 (dk_at dksX0_load_4 0 rfl rfl)
theorem dX0_load_98 : decode cX0_load 98 = .ok (.iload_n 3, 1) := dk_29 (dk_at dksX0_load_4 3 rfl rfl)
theorem dX0_load_99 : decode cX0_load 99 = .ok (.ireturn, 1) := dk_172 (dk_at dksX0_load_4 4 rfl rfl)
abbrev cX0_judge : ByteArray := prog_1_method_104_code
def yX0_judge : MethodName := ⟨RX0, "judge", "(I)I"⟩
def dkwX0_judge_4 : List UInt8 := [182, 1, 51, 160, 0, 7, 3, 167, 0, 5, 16, 100, 172]
abbrev dktX0_judge_4 : List UInt8 := dkwX0_judge_4 ++ []
def dkwX0_judge_3 : List UInt8 := [184, 1, 132, 42, 180, 0, 10, 180, 0, 115, 160, 0, 22, 29, 42, 42, 180, 0, 10, 182, 0, 177]
abbrev dktX0_judge_3 : List UInt8 := dkwX0_judge_3 ++ dktX0_judge_4
def dkwX0_judge_2 : List UInt8 := [154, 0, 8, 4, 21, 4, 96, 172, 29, 44, 21, 4, 184, 1, 136, 96, 62, 132, 4, 1, 167, 255, 220, 44]
abbrev dktX0_judge_2 : List UInt8 := dkwX0_judge_2 ++ dktX0_judge_3
def dkwX0_judge_1 : List UInt8 := [16, 245, 172, 3, 62, 3, 54, 4, 21, 4, 44, 184, 1, 132, 162, 0, 33, 42, 44, 21, 4, 182, 2, 136]
abbrev dktX0_judge_1 : List UInt8 := dkwX0_judge_1 ++ dktX0_judge_2
def dkwX0_judge_0 : List UInt8 := [27, 184, 1, 125, 154, 0, 6, 16, 254, 172, 42, 180, 0, 75, 27, 50, 180, 1, 128, 77, 44, 199, 0, 6]
abbrev dktX0_judge_0 : List UInt8 := dkwX0_judge_0 ++ dktX0_judge_1
theorem dksX0_judge_0 : cX0_judge.data.toList.drop 0 = dktX0_judge_0 := by decide +kernel
theorem dksX0_judge_1 : cX0_judge.data.toList.drop 24 = dktX0_judge_1 := dk_seg dksX0_judge_0 24 rfl rfl
theorem dksX0_judge_2 : cX0_judge.data.toList.drop 48 = dktX0_judge_2 := dk_seg dksX0_judge_1 24 rfl rfl
theorem dksX0_judge_3 : cX0_judge.data.toList.drop 72 = dktX0_judge_3 := dk_seg dksX0_judge_2 24 rfl rfl
theorem dksX0_judge_4 : cX0_judge.data.toList.drop 94 = dktX0_judge_4 := dk_seg dksX0_judge_3 22 rfl rfl
theorem dX0_judge_0 : decode cX0_judge 0 = .ok (.iload_n 1, 1) := dk_27 (dk_at dksX0_judge_0 0 rfl rfl)
theorem dX0_judge_1 : decode cX0_judge 1 = .ok (.invokestatic 381, 3) := dk_184 1 125 (dk_at dksX0_judge_0 1 rfl rfl)
theorem dX0_judge_4 : decode cX0_judge 4 = .ok (.ifCond .ne 6, 3) := dk_154 0 6 (dk_at dksX0_judge_0 4 rfl rfl)
theorem dX0_judge_7 : decode cX0_judge 7 = .ok (.bipush (-2), 2) := dk_16 254 (dk_at dksX0_judge_0 7 rfl rfl)
theorem dX0_judge_9 : decode cX0_judge 9 = .ok (.ireturn, 1) := dk_172 (dk_at dksX0_judge_0 9 rfl rfl)
theorem dX0_judge_10 : decode cX0_judge 10 = .ok (.aload_n 0, 1) := dk_42 (dk_at dksX0_judge_0 10 rfl rfl)
theorem dX0_judge_11 : decode cX0_judge 11 = .ok (.getfield 75, 3) := dk_180 0 75 (dk_at dksX0_judge_0 11 rfl rfl)
theorem dX0_judge_14 : decode cX0_judge 14 = .ok (.iload_n 1, 1) := dk_27 (dk_at dksX0_judge_0 14 rfl rfl)
theorem dX0_judge_15 : decode cX0_judge 15 = .ok (.aaload, 1) := dk_50 (dk_at dksX0_judge_0 15 rfl rfl)
theorem dX0_judge_16 : decode cX0_judge 16 = .ok (.getfield 384, 3) := dk_180 1 128 (dk_at dksX0_judge_0 16 rfl rfl)
theorem dX0_judge_19 : decode cX0_judge 19 = .ok (.astore_n 2, 1) := dk_77 (dk_at dksX0_judge_0 19 rfl rfl)
theorem dX0_judge_20 : decode cX0_judge 20 = .ok (.aload_n 2, 1) := dk_44 (dk_at dksX0_judge_0 20 rfl rfl)
theorem dX0_judge_21 : decode cX0_judge 21 = .ok (.ifnonnull 6, 3) := dk_199 0 6 (dk_at dksX0_judge_0 21 rfl rfl)
theorem dX0_judge_24 : decode cX0_judge 24 = .ok (.bipush (-11), 2) := dk_16 245 (dk_at dksX0_judge_1 0 rfl rfl)
theorem dX0_judge_26 : decode cX0_judge 26 = .ok (.ireturn, 1) := dk_172 (dk_at dksX0_judge_1 2 rfl rfl)
theorem dX0_judge_27 : decode cX0_judge 27 = .ok (.iconst 0, 1) := dk_3 (dk_at dksX0_judge_1 3 rfl rfl)
theorem dX0_judge_28 : decode cX0_judge 28 = .ok (.istore_n 3, 1) := dk_62 (dk_at dksX0_judge_1 4 rfl rfl)
theorem dX0_judge_29 : decode cX0_judge 29 = .ok (.iconst 0, 1) := dk_3 (dk_at dksX0_judge_1 5 rfl rfl)
theorem dX0_judge_30 : decode cX0_judge 30 = .ok (.istore 4, 2) := dk_54 4 (dk_at dksX0_judge_1 6 rfl rfl)
theorem dX0_judge_32 : decode cX0_judge 32 = .ok (.iload 4, 2) := dk_21 4 (dk_at dksX0_judge_1 8 rfl rfl)
theorem dX0_judge_34 : decode cX0_judge 34 = .ok (.aload_n 2, 1) := dk_44 (dk_at dksX0_judge_1 10 rfl rfl)
theorem dX0_judge_35 : decode cX0_judge 35 = .ok (.invokestatic 388, 3) := dk_184 1 132 (dk_at dksX0_judge_1 11 rfl rfl)
theorem dX0_judge_38 : decode cX0_judge 38 = .ok (.if_icmp .ge 33, 3) := dk_162 0 33 (dk_at dksX0_judge_1 14 rfl rfl)
theorem dX0_judge_41 : decode cX0_judge 41 = .ok (.aload_n 0, 1) := dk_42 (dk_at dksX0_judge_1 17 rfl rfl)
theorem dX0_judge_42 : decode cX0_judge 42 = .ok (.aload_n 2, 1) := dk_44 (dk_at dksX0_judge_1 18 rfl rfl)
theorem dX0_judge_43 : decode cX0_judge 43 = .ok (.iload 4, 2) := dk_21 4 (dk_at dksX0_judge_1 19 rfl rfl)
theorem dX0_judge_45 : decode cX0_judge 45 = .ok (.invokevirtual 648, 3) := dk_182 2 136 (dk_at dksX0_judge_1 21 rfl rfl)
theorem dX0_judge_48 : decode cX0_judge 48 = .ok (.ifCond .ne 8, 3) := dk_154 0 8 (dk_at dksX0_judge_2 0 rfl rfl)
theorem dX0_judge_51 : decode cX0_judge 51 = .ok (.iconst 1, 1) := dk_4 (dk_at dksX0_judge_2 3 rfl rfl)
theorem dX0_judge_52 : decode cX0_judge 52 = .ok (.iload 4, 2) := dk_21 4 (dk_at dksX0_judge_2 4 rfl rfl)
theorem dX0_judge_54 : decode cX0_judge 54 = .ok (.iadd, 1) := dk_96 (dk_at dksX0_judge_2 6 rfl rfl)
theorem dX0_judge_55 : decode cX0_judge 55 = .ok (.ireturn, 1) := dk_172 (dk_at dksX0_judge_2 7 rfl rfl)
theorem dX0_judge_56 : decode cX0_judge 56 = .ok (.iload_n 3, 1) := dk_29 (dk_at dksX0_judge_2 8 rfl rfl)
theorem dX0_judge_57 : decode cX0_judge 57 = .ok (.aload_n 2, 1) := dk_44 (dk_at dksX0_judge_2 9 rfl rfl)
theorem dX0_judge_58 : decode cX0_judge 58 = .ok (.iload 4, 2) := dk_21 4 (dk_at dksX0_judge_2 10 rfl rfl)
theorem dX0_judge_60 : decode cX0_judge 60 = .ok (.invokestatic 392, 3) := dk_184 1 136 (dk_at dksX0_judge_2 12 rfl rfl)
theorem dX0_judge_63 : decode cX0_judge 63 = .ok (.iadd, 1) := dk_96 (dk_at dksX0_judge_2 15 rfl rfl)
theorem dX0_judge_64 : decode cX0_judge 64 = .ok (.istore_n 3, 1) := dk_62 (dk_at dksX0_judge_2 16 rfl rfl)
theorem dX0_judge_65 : decode cX0_judge 65 = .ok (.iinc 4 1, 3) := dk_132 4 1 (dk_at dksX0_judge_2 17 rfl rfl)
theorem dX0_judge_68 : decode cX0_judge 68 = .ok (.goto (-36), 3) := dk_167 255 220 (dk_at dksX0_judge_2 20 rfl rfl)
theorem dX0_judge_71 : decode cX0_judge 71 = .ok (.aload_n 2, 1) := dk_44 (dk_at dksX0_judge_2 23 rfl rfl)
theorem dX0_judge_72 : decode cX0_judge 72 = .ok (.invokestatic 388, 3) := dk_184 1 132 (dk_at dksX0_judge_3 0 rfl rfl)
theorem dX0_judge_75 : decode cX0_judge 75 = .ok (.aload_n 0, 1) := dk_42 (dk_at dksX0_judge_3 3 rfl rfl)
theorem dX0_judge_76 : decode cX0_judge 76 = .ok (.getfield 10, 3) := dk_180 0 10 (dk_at dksX0_judge_3 4 rfl rfl)
theorem dX0_judge_79 : decode cX0_judge 79 = .ok (.getfield 115, 3) := dk_180 0 115 (dk_at dksX0_judge_3 7 rfl rfl)
theorem dX0_judge_82 : decode cX0_judge 82 = .ok (.if_icmp .ne 22, 3) := dk_160 0 22 (dk_at dksX0_judge_3 10 rfl rfl)
theorem dX0_judge_85 : decode cX0_judge 85 = .ok (.iload_n 3, 1) := dk_29 (dk_at dksX0_judge_3 13 rfl rfl)
theorem dX0_judge_86 : decode cX0_judge 86 = .ok (.aload_n 0, 1) := dk_42 (dk_at dksX0_judge_3 14 rfl rfl)
theorem dX0_judge_87 : decode cX0_judge 87 = .ok (.aload_n 0, 1) := dk_42 (dk_at dksX0_judge_3 15 rfl rfl)
theorem dX0_judge_88 : decode cX0_judge 88 = .ok (.getfield 10, 3) := dk_180 0 10 (dk_at dksX0_judge_3 16 rfl rfl)
theorem dX0_judge_91 : decode cX0_judge 91 = .ok (.invokevirtual 177, 3) := dk_182 0 177 (dk_at dksX0_judge_3 19 rfl rfl)
theorem dX0_judge_94 : decode cX0_judge 94 = .ok (.invokevirtual 307, 3) := dk_182 1 51 (dk_at dksX0_judge_4 0 rfl rfl)
theorem dX0_judge_97 : decode cX0_judge 97 = .ok (.if_icmp .ne 7, 3) := dk_160 0 7 (dk_at dksX0_judge_4 3 rfl rfl)
theorem dX0_judge_100 : decode cX0_judge 100 = .ok (.iconst 0, 1) := dk_3 (dk_at dksX0_judge_4 6 rfl rfl)
theorem dX0_judge_101 : decode cX0_judge 101 = .ok (.goto 5, 3) := dk_167 0 5 (dk_at dksX0_judge_4 7 rfl rfl)
theorem dX0_judge_104 : decode cX0_judge 104 = .ok (.bipush 100, 2) := dk_16 100 (dk_at dksX0_judge_4 10 rfl rfl)
theorem dX0_judge_106 : decode cX0_judge 106 = .ok (.ireturn, 1) := dk_172 (dk_at dksX0_judge_4 12 rfl rfl)
abbrev cX0_isHalf : ByteArray := prog_1_method_103_code
def yX0_isHalf : MethodName := ⟨RX0, "isHalf", "(Ljava/lang/Object;I)Z"⟩
def dkwX0_isHalf_3 : List UInt8 := [161, 0, 7, 4, 167, 0, 4, 3, 54, 4, 132, 5, 1, 167, 255, 210, 21, 4, 172]
abbrev dktX0_isHalf_3 : List UInt8 := dkwX0_isHalf_3 ++ []
def dkwX0_isHalf_2 : List UInt8 := [42, 180, 0, 10, 21, 5, 28, 182, 0, 131, 153, 0, 15, 29, 43, 21, 5, 184, 1, 136, 96, 5]
abbrev dktX0_isHalf_2 : List UInt8 := dkwX0_isHalf_2 ++ dktX0_isHalf_3
def dkwX0_isHalf_1 : List UInt8 := [153, 0, 7, 4, 167, 0, 4, 3, 54, 4, 3, 54, 5, 21, 5, 28, 162, 0, 46, 21, 4, 153, 0, 41]
abbrev dktX0_isHalf_1 : List UInt8 := dkwX0_isHalf_1 ++ dktX0_isHalf_2
def dkwX0_isHalf_0 : List UInt8 := [43, 28, 184, 1, 136, 62, 29, 3, 5, 184, 0, 111, 153, 0, 18, 42, 180, 0, 10, 28, 182, 0, 123]
abbrev dktX0_isHalf_0 : List UInt8 := dkwX0_isHalf_0 ++ dktX0_isHalf_1
theorem dksX0_isHalf_0 : cX0_isHalf.data.toList.drop 0 = dktX0_isHalf_0 := by decide +kernel
theorem dksX0_isHalf_1 : cX0_isHalf.data.toList.drop 23 = dktX0_isHalf_1 := dk_seg dksX0_isHalf_0 23 rfl rfl
theorem dksX0_isHalf_2 : cX0_isHalf.data.toList.drop 47 = dktX0_isHalf_2 := dk_seg dksX0_isHalf_1 24 rfl rfl
theorem dksX0_isHalf_3 : cX0_isHalf.data.toList.drop 69 = dktX0_isHalf_3 := dk_seg dksX0_isHalf_2 22 rfl rfl
theorem dX0_isHalf_0 : decode cX0_isHalf 0 = .ok (.aload_n 1, 1) := dk_43 (dk_at dksX0_isHalf_0 0 rfl rfl)
theorem dX0_isHalf_1 : decode cX0_isHalf 1 = .ok (.iload_n 2, 1) := dk_28 (dk_at dksX0_isHalf_0 1 rfl rfl)
theorem dX0_isHalf_2 : decode cX0_isHalf 2 = .ok (.invokestatic 392, 3) := dk_184 1 136 (dk_at dksX0_isHalf_0 2 rfl rfl)
theorem dX0_isHalf_5 : decode cX0_isHalf 5 = .ok (.istore_n 3, 1) := dk_62 (dk_at dksX0_isHalf_0 5 rfl rfl)
theorem dX0_isHalf_6 : decode cX0_isHalf 6 = .ok (.iload_n 3, 1) := dk_29 (dk_at dksX0_isHalf_0 6 rfl rfl)
theorem dX0_isHalf_7 : decode cX0_isHalf 7 = .ok (.iconst 0, 1) := dk_3 (dk_at dksX0_isHalf_0 7 rfl rfl)
theorem dX0_isHalf_8 : decode cX0_isHalf 8 = .ok (.iconst 2, 1) := dk_5 (dk_at dksX0_isHalf_0 8 rfl rfl)
theorem dX0_isHalf_9 : decode cX0_isHalf 9 = .ok (.invokestatic 111, 3) := dk_184 0 111 (dk_at dksX0_isHalf_0 9 rfl rfl)
theorem dX0_isHalf_12 : decode cX0_isHalf 12 = .ok (.ifCond .eq 18, 3) := dk_153 0 18 (dk_at dksX0_isHalf_0 12 rfl rfl)
theorem dX0_isHalf_15 : decode cX0_isHalf 15 = .ok (.aload_n 0, 1) := dk_42 (dk_at dksX0_isHalf_0 15 rfl rfl)
theorem dX0_isHalf_16 : decode cX0_isHalf 16 = .ok (.getfield 10, 3) := dk_180 0 10 (dk_at dksX0_isHalf_0 16 rfl rfl)
theorem dX0_isHalf_19 : decode cX0_isHalf 19 = .ok (.iload_n 2, 1) := dk_28 (dk_at dksX0_isHalf_0 19 rfl rfl)
theorem dX0_isHalf_20 : decode cX0_isHalf 20 = .ok (.invokevirtual 123, 3) := dk_182 0 123 (dk_at dksX0_isHalf_0 20 rfl rfl)
theorem dX0_isHalf_23 : decode cX0_isHalf 23 = .ok (.ifCond .eq 7, 3) := dk_153 0 7 (dk_at dksX0_isHalf_1 0 rfl rfl)
theorem dX0_isHalf_26 : decode cX0_isHalf 26 = .ok (.iconst 1, 1) := dk_4 (dk_at dksX0_isHalf_1 3 rfl rfl)
theorem dX0_isHalf_27 : decode cX0_isHalf 27 = .ok (.goto 4, 3) := dk_167 0 4 (dk_at dksX0_isHalf_1 4 rfl rfl)
theorem dX0_isHalf_30 : decode cX0_isHalf 30 = .ok (.iconst 0, 1) := dk_3 (dk_at dksX0_isHalf_1 7 rfl rfl)
theorem dX0_isHalf_31 : decode cX0_isHalf 31 = .ok (.istore 4, 2) := dk_54 4 (dk_at dksX0_isHalf_1 8 rfl rfl)
theorem dX0_isHalf_33 : decode cX0_isHalf 33 = .ok (.iconst 0, 1) := dk_3 (dk_at dksX0_isHalf_1 10 rfl rfl)
theorem dX0_isHalf_34 : decode cX0_isHalf 34 = .ok (.istore 5, 2) := dk_54 5 (dk_at dksX0_isHalf_1 11 rfl rfl)
theorem dX0_isHalf_36 : decode cX0_isHalf 36 = .ok (.iload 5, 2) := dk_21 5 (dk_at dksX0_isHalf_1 13 rfl rfl)
theorem dX0_isHalf_38 : decode cX0_isHalf 38 = .ok (.iload_n 2, 1) := dk_28 (dk_at dksX0_isHalf_1 15 rfl rfl)
theorem dX0_isHalf_39 : decode cX0_isHalf 39 = .ok (.if_icmp .ge 46, 3) := dk_162 0 46 (dk_at dksX0_isHalf_1 16 rfl rfl)
theorem dX0_isHalf_42 : decode cX0_isHalf 42 = .ok (.iload 4, 2) := dk_21 4 (dk_at dksX0_isHalf_1 19 rfl rfl)
theorem dX0_isHalf_44 : decode cX0_isHalf 44 = .ok (.ifCond .eq 41, 3) := dk_153 0 41 (dk_at dksX0_isHalf_1 21 rfl rfl)
theorem dX0_isHalf_47 : decode cX0_isHalf 47 = .ok (.aload_n 0, 1) := dk_42 (dk_at dksX0_isHalf_2 0 rfl rfl)
theorem dX0_isHalf_48 : decode cX0_isHalf 48 = .ok (.getfield 10, 3) := dk_180 0 10 (dk_at dksX0_isHalf_2 1 rfl rfl)
theorem dX0_isHalf_51 : decode cX0_isHalf 51 = .ok (.iload 5, 2) := dk_21 5 (dk_at dksX0_isHalf_2 4 rfl rfl)
theorem dX0_isHalf_53 : decode cX0_isHalf 53 = .ok (.iload_n 2, 1) := dk_28 (dk_at dksX0_isHalf_2 6 rfl rfl)
theorem dX0_isHalf_54 : decode cX0_isHalf 54 = .ok (.invokevirtual 131, 3) := dk_182 0 131 (dk_at dksX0_isHalf_2 7 rfl rfl)
theorem dX0_isHalf_57 : decode cX0_isHalf 57 = .ok (.ifCond .eq 15, 3) := dk_153 0 15 (dk_at dksX0_isHalf_2 10 rfl rfl)
theorem dX0_isHalf_60 : decode cX0_isHalf 60 = .ok (.iload_n 3, 1) := dk_29 (dk_at dksX0_isHalf_2 13 rfl rfl)
theorem dX0_isHalf_61 : decode cX0_isHalf 61 = .ok (.aload_n 1, 1) := dk_43 (dk_at dksX0_isHalf_2 14 rfl rfl)
theorem dX0_isHalf_62 : decode cX0_isHalf 62 = .ok (.iload 5, 2) := dk_21 5 (dk_at dksX0_isHalf_2 15 rfl rfl)
theorem dX0_isHalf_64 : decode cX0_isHalf 64 = .ok (.invokestatic 392, 3) := dk_184 1 136 (dk_at dksX0_isHalf_2 17 rfl rfl)
theorem dX0_isHalf_67 : decode cX0_isHalf 67 = .ok (.iadd, 1) := dk_96 (dk_at dksX0_isHalf_2 20 rfl rfl)
theorem dX0_isHalf_68 : decode cX0_isHalf 68 = .ok (.iconst 2, 1) := dk_5 (dk_at dksX0_isHalf_2 21 rfl rfl)
theorem dX0_isHalf_69 : decode cX0_isHalf 69 = .ok (.if_icmp .lt 7, 3) := dk_161 0 7 (dk_at dksX0_isHalf_3 0 rfl rfl)
theorem dX0_isHalf_72 : decode cX0_isHalf 72 = .ok (.iconst 1, 1) := dk_4 (dk_at dksX0_isHalf_3 3 rfl rfl)
theorem dX0_isHalf_73 : decode cX0_isHalf 73 = .ok (.goto 4, 3) := dk_167 0 4 (dk_at dksX0_isHalf_3 4 rfl rfl)
theorem dX0_isHalf_76 : decode cX0_isHalf 76 = .ok (.iconst 0, 1) := dk_3 (dk_at dksX0_isHalf_3 7 rfl rfl)
theorem dX0_isHalf_77 : decode cX0_isHalf 77 = .ok (.istore 4, 2) := dk_54 4 (dk_at dksX0_isHalf_3 8 rfl rfl)
theorem dX0_isHalf_79 : decode cX0_isHalf 79 = .ok (.iinc 5 1, 3) := dk_132 5 1 (dk_at dksX0_isHalf_3 10 rfl rfl)
theorem dX0_isHalf_82 : decode cX0_isHalf 82 = .ok (.goto (-46), 3) := dk_167 255 210 (dk_at dksX0_isHalf_3 13 rfl rfl)
theorem dX0_isHalf_85 : decode cX0_isHalf 85 = .ok (.iload 4, 2) := dk_21 4 (dk_at dksX0_isHalf_3 16 rfl rfl)
theorem dX0_isHalf_87 : decode cX0_isHalf 87 = .ok (.ireturn, 1) := dk_172 (dk_at dksX0_isHalf_3 18 rfl rfl)
abbrev cX0_shelf : ByteArray := prog_1_method_105_code
def yX0_shelf : MethodName := ⟨RX0, "shelf", "(III)I"⟩
def dkwX0_shelf_3 : List UInt8 := [160, 0, 15, 42, 180, 0, 75, 29, 50, 180, 1, 128, 167, 0, 4, 1, 181, 1, 128, 4, 172]
abbrev dktX0_shelf_3 : List UInt8 := dkwX0_shelf_3 ++ []
def dkwX0_shelf_2 : List UInt8 := [172, 42, 180, 0, 79, 27, 50, 28, 154, 0, 14, 187, 2, 140, 89, 29, 183, 2, 142, 167, 0, 21, 28, 4]
abbrev dktX0_shelf_2 : List UInt8 := dkwX0_shelf_2 ++ dktX0_shelf_3
def dkwX0_shelf_1 : List UInt8 := [180, 0, 10, 29, 182, 0, 123, 153, 0, 15, 28, 4, 160, 0, 13, 29, 184, 1, 125, 154, 0, 6, 16, 254]
abbrev dktX0_shelf_1 : List UInt8 := dkwX0_shelf_1 ++ dktX0_shelf_2
def dkwX0_shelf_0 : List UInt8 := [27, 3, 6, 184, 0, 111, 153, 0, 39, 28, 3, 5, 184, 0, 111, 153, 0, 30, 28, 154, 0, 14, 42]
abbrev dktX0_shelf_0 : List UInt8 := dkwX0_shelf_0 ++ dktX0_shelf_1
theorem dksX0_shelf_0 : cX0_shelf.data.toList.drop 0 = dktX0_shelf_0 := by decide +kernel
theorem dksX0_shelf_1 : cX0_shelf.data.toList.drop 23 = dktX0_shelf_1 := dk_seg dksX0_shelf_0 23 rfl rfl
theorem dksX0_shelf_2 : cX0_shelf.data.toList.drop 47 = dktX0_shelf_2 := dk_seg dksX0_shelf_1 24 rfl rfl
theorem dksX0_shelf_3 : cX0_shelf.data.toList.drop 71 = dktX0_shelf_3 := dk_seg dksX0_shelf_2 24 rfl rfl
theorem dX0_shelf_0 : decode cX0_shelf 0 = .ok (.iload_n 1, 1) := dk_27 (dk_at dksX0_shelf_0 0 rfl rfl)
theorem dX0_shelf_1 : decode cX0_shelf 1 = .ok (.iconst 0, 1) := dk_3 (dk_at dksX0_shelf_0 1 rfl rfl)
theorem dX0_shelf_2 : decode cX0_shelf 2 = .ok (.iconst 3, 1) := dk_6 (dk_at dksX0_shelf_0 2 rfl rfl)
theorem dX0_shelf_3 : decode cX0_shelf 3 = .ok (.invokestatic 111, 3) := dk_184 0 111 (dk_at dksX0_shelf_0 3 rfl rfl)
theorem dX0_shelf_6 : decode cX0_shelf 6 = .ok (.ifCond .eq 39, 3) := dk_153 0 39 (dk_at dksX0_shelf_0 6 rfl rfl)
theorem dX0_shelf_9 : decode cX0_shelf 9 = .ok (.iload_n 2, 1) := dk_28 (dk_at dksX0_shelf_0 9 rfl rfl)
theorem dX0_shelf_10 : decode cX0_shelf 10 = .ok (.iconst 0, 1) := dk_3 (dk_at dksX0_shelf_0 10 rfl rfl)
theorem dX0_shelf_11 : decode cX0_shelf 11 = .ok (.iconst 2, 1) := dk_5 (dk_at dksX0_shelf_0 11 rfl rfl)
theorem dX0_shelf_12 : decode cX0_shelf 12 = .ok (.invokestatic 111, 3) := dk_184 0 111 (dk_at dksX0_shelf_0 12 rfl rfl)
theorem dX0_shelf_15 : decode cX0_shelf 15 = .ok (.ifCond .eq 30, 3) := dk_153 0 30 (dk_at dksX0_shelf_0 15 rfl rfl)
theorem dX0_shelf_18 : decode cX0_shelf 18 = .ok (.iload_n 2, 1) := dk_28 (dk_at dksX0_shelf_0 18 rfl rfl)
theorem dX0_shelf_19 : decode cX0_shelf 19 = .ok (.ifCond .ne 14, 3) := dk_154 0 14 (dk_at dksX0_shelf_0 19 rfl rfl)
theorem dX0_shelf_22 : decode cX0_shelf 22 = .ok (.aload_n 0, 1) := dk_42 (dk_at dksX0_shelf_0 22 rfl rfl)
theorem dX0_shelf_23 : decode cX0_shelf 23 = .ok (.getfield 10, 3) := dk_180 0 10 (dk_at dksX0_shelf_1 0 rfl rfl)
theorem dX0_shelf_26 : decode cX0_shelf 26 = .ok (.iload_n 3, 1) := dk_29 (dk_at dksX0_shelf_1 3 rfl rfl)
theorem dX0_shelf_27 : decode cX0_shelf 27 = .ok (.invokevirtual 123, 3) := dk_182 0 123 (dk_at dksX0_shelf_1 4 rfl rfl)
theorem dX0_shelf_30 : decode cX0_shelf 30 = .ok (.ifCond .eq 15, 3) := dk_153 0 15 (dk_at dksX0_shelf_1 7 rfl rfl)
theorem dX0_shelf_33 : decode cX0_shelf 33 = .ok (.iload_n 2, 1) := dk_28 (dk_at dksX0_shelf_1 10 rfl rfl)
theorem dX0_shelf_34 : decode cX0_shelf 34 = .ok (.iconst 1, 1) := dk_4 (dk_at dksX0_shelf_1 11 rfl rfl)
theorem dX0_shelf_35 : decode cX0_shelf 35 = .ok (.if_icmp .ne 13, 3) := dk_160 0 13 (dk_at dksX0_shelf_1 12 rfl rfl)
theorem dX0_shelf_38 : decode cX0_shelf 38 = .ok (.iload_n 3, 1) := dk_29 (dk_at dksX0_shelf_1 15 rfl rfl)
theorem dX0_shelf_39 : decode cX0_shelf 39 = .ok (.invokestatic 381, 3) := dk_184 1 125 (dk_at dksX0_shelf_1 16 rfl rfl)
theorem dX0_shelf_42 : decode cX0_shelf 42 = .ok (.ifCond .ne 6, 3) := dk_154 0 6 (dk_at dksX0_shelf_1 19 rfl rfl)
theorem dX0_shelf_45 : decode cX0_shelf 45 = .ok (.bipush (-2), 2) := dk_16 254 (dk_at dksX0_shelf_1 22 rfl rfl)
theorem dX0_shelf_47 : decode cX0_shelf 47 = .ok (.ireturn, 1) := dk_172 (dk_at dksX0_shelf_2 0 rfl rfl)
theorem dX0_shelf_48 : decode cX0_shelf 48 = .ok (.aload_n 0, 1) := dk_42 (dk_at dksX0_shelf_2 1 rfl rfl)
theorem dX0_shelf_49 : decode cX0_shelf 49 = .ok (.getfield 79, 3) := dk_180 0 79 (dk_at dksX0_shelf_2 2 rfl rfl)
theorem dX0_shelf_52 : decode cX0_shelf 52 = .ok (.iload_n 1, 1) := dk_27 (dk_at dksX0_shelf_2 5 rfl rfl)
theorem dX0_shelf_53 : decode cX0_shelf 53 = .ok (.aaload, 1) := dk_50 (dk_at dksX0_shelf_2 6 rfl rfl)
theorem dX0_shelf_54 : decode cX0_shelf 54 = .ok (.iload_n 2, 1) := dk_28 (dk_at dksX0_shelf_2 7 rfl rfl)
theorem dX0_shelf_55 : decode cX0_shelf 55 = .ok (.ifCond .ne 14, 3) := dk_154 0 14 (dk_at dksX0_shelf_2 8 rfl rfl)
theorem dX0_shelf_58 : decode cX0_shelf 58 = .ok (.new 652, 3) := dk_187 2 140 (dk_at dksX0_shelf_2 11 rfl rfl)
theorem dX0_shelf_61 : decode cX0_shelf 61 = .ok (.dup, 1) := dk_89 (dk_at dksX0_shelf_2 14 rfl rfl)
theorem dX0_shelf_62 : decode cX0_shelf 62 = .ok (.iload_n 3, 1) := dk_29 (dk_at dksX0_shelf_2 15 rfl rfl)
theorem dX0_shelf_63 : decode cX0_shelf 63 = .ok (.invokespecial 654, 3) := dk_183 2 142 (dk_at dksX0_shelf_2 16 rfl rfl)
theorem dX0_shelf_66 : decode cX0_shelf 66 = .ok (.goto 21, 3) := dk_167 0 21 (dk_at dksX0_shelf_2 19 rfl rfl)
theorem dX0_shelf_69 : decode cX0_shelf 69 = .ok (.iload_n 2, 1) := dk_28 (dk_at dksX0_shelf_2 22 rfl rfl)
theorem dX0_shelf_70 : decode cX0_shelf 70 = .ok (.iconst 1, 1) := dk_4 (dk_at dksX0_shelf_2 23 rfl rfl)
theorem dX0_shelf_71 : decode cX0_shelf 71 = .ok (.if_icmp .ne 15, 3) := dk_160 0 15 (dk_at dksX0_shelf_3 0 rfl rfl)
theorem dX0_shelf_74 : decode cX0_shelf 74 = .ok (.aload_n 0, 1) := dk_42 (dk_at dksX0_shelf_3 3 rfl rfl)
theorem dX0_shelf_75 : decode cX0_shelf 75 = .ok (.getfield 75, 3) := dk_180 0 75 (dk_at dksX0_shelf_3 4 rfl rfl)
theorem dX0_shelf_78 : decode cX0_shelf 78 = .ok (.iload_n 3, 1) := dk_29 (dk_at dksX0_shelf_3 7 rfl rfl)
theorem dX0_shelf_79 : decode cX0_shelf 79 = .ok (.aaload, 1) := dk_50 (dk_at dksX0_shelf_3 8 rfl rfl)
theorem dX0_shelf_80 : decode cX0_shelf 80 = .ok (.getfield 384, 3) := dk_180 1 128 (dk_at dksX0_shelf_3 9 rfl rfl)
theorem dX0_shelf_83 : decode cX0_shelf 83 = .ok (.goto 4, 3) := dk_167 0 4 (dk_at dksX0_shelf_3 12 rfl rfl)
theorem dX0_shelf_86 : decode cX0_shelf 86 = .ok (.aconst_null, 1) := dk_1 (dk_at dksX0_shelf_3 15 rfl rfl)
theorem dX0_shelf_87 : decode cX0_shelf 87 = .ok (.putfield 384, 3) := dk_181 1 128 (dk_at dksX0_shelf_3 16 rfl rfl)
theorem dX0_shelf_90 : decode cX0_shelf 90 = .ok (.iconst 1, 1) := dk_4 (dk_at dksX0_shelf_3 19 rfl rfl)
theorem dX0_shelf_91 : decode cX0_shelf 91 = .ok (.ireturn, 1) := dk_172 (dk_at dksX0_shelf_3 20 rfl rfl)
abbrev cX0_taken : ByteArray := prog_1_method_108_code
def yX0_taken : MethodName := ⟨RX0, "taken", "(II)I"⟩
def dkwX0_taken_3 : List UInt8 := [16, 243, 172]
abbrev dktX0_taken_3 : List UInt8 := dkwX0_taken_3 ++ []
def dkwX0_taken_2 : List UInt8 := [180, 2, 99, 167, 0, 15, 42, 27, 182, 2, 144, 28, 16, 10, 100, 184, 2, 151, 172, 78, 16, 245, 172, 78]
abbrev dktX0_taken_2 : List UInt8 := dkwX0_taken_2 ++ dktX0_taken_3
def dkwX0_taken_1 : List UInt8 := [184, 0, 111, 154, 0, 6, 16, 254, 172, 28, 16, 10, 162, 0, 18, 42, 27, 182, 2, 144, 28, 184, 2, 148]
abbrev dktX0_taken_1 : List UInt8 := dkwX0_taken_1 ++ dktX0_taken_2
def dkwX0_taken_0 : List UInt8 := [27, 3, 6, 184, 0, 111, 153, 0, 23, 28, 3, 8, 184, 0, 111, 154, 0, 17, 28, 16, 10, 16, 12]
abbrev dktX0_taken_0 : List UInt8 := dkwX0_taken_0 ++ dktX0_taken_1
theorem dksX0_taken_0 : cX0_taken.data.toList.drop 0 = dktX0_taken_0 := by decide +kernel
theorem dksX0_taken_1 : cX0_taken.data.toList.drop 23 = dktX0_taken_1 := dk_seg dksX0_taken_0 23 rfl rfl
theorem dksX0_taken_2 : cX0_taken.data.toList.drop 47 = dktX0_taken_2 := dk_seg dksX0_taken_1 24 rfl rfl
theorem dksX0_taken_3 : cX0_taken.data.toList.drop 71 = dktX0_taken_3 := dk_seg dksX0_taken_2 24 rfl rfl
theorem dX0_taken_0 : decode cX0_taken 0 = .ok (.iload_n 1, 1) := dk_27 (dk_at dksX0_taken_0 0 rfl rfl)
theorem dX0_taken_1 : decode cX0_taken 1 = .ok (.iconst 0, 1) := dk_3 (dk_at dksX0_taken_0 1 rfl rfl)
theorem dX0_taken_2 : decode cX0_taken 2 = .ok (.iconst 3, 1) := dk_6 (dk_at dksX0_taken_0 2 rfl rfl)
theorem dX0_taken_3 : decode cX0_taken 3 = .ok (.invokestatic 111, 3) := dk_184 0 111 (dk_at dksX0_taken_0 3 rfl rfl)
theorem dX0_taken_6 : decode cX0_taken 6 = .ok (.ifCond .eq 23, 3) := dk_153 0 23 (dk_at dksX0_taken_0 6 rfl rfl)
theorem dX0_taken_9 : decode cX0_taken 9 = .ok (.iload_n 2, 1) := dk_28 (dk_at dksX0_taken_0 9 rfl rfl)
theorem dX0_taken_10 : decode cX0_taken 10 = .ok (.iconst 0, 1) := dk_3 (dk_at dksX0_taken_0 10 rfl rfl)
theorem dX0_taken_11 : decode cX0_taken 11 = .ok (.iconst 5, 1) := dk_8 (dk_at dksX0_taken_0 11 rfl rfl)
theorem dX0_taken_12 : decode cX0_taken 12 = .ok (.invokestatic 111, 3) := dk_184 0 111 (dk_at dksX0_taken_0 12 rfl rfl)
theorem dX0_taken_15 : decode cX0_taken 15 = .ok (.ifCond .ne 17, 3) := dk_154 0 17 (dk_at dksX0_taken_0 15 rfl rfl)
theorem dX0_taken_18 : decode cX0_taken 18 = .ok (.iload_n 2, 1) := dk_28 (dk_at dksX0_taken_0 18 rfl rfl)
theorem dX0_taken_19 : decode cX0_taken 19 = .ok (.bipush 10, 2) := dk_16 10 (dk_at dksX0_taken_0 19 rfl rfl)
theorem dX0_taken_21 : decode cX0_taken 21 = .ok (.bipush 12, 2) := dk_16 12 (dk_at dksX0_taken_0 21 rfl rfl)
theorem dX0_taken_23 : decode cX0_taken 23 = .ok (.invokestatic 111, 3) := dk_184 0 111 (dk_at dksX0_taken_1 0 rfl rfl)
theorem dX0_taken_26 : decode cX0_taken 26 = .ok (.ifCond .ne 6, 3) := dk_154 0 6 (dk_at dksX0_taken_1 3 rfl rfl)
theorem dX0_taken_29 : decode cX0_taken 29 = .ok (.bipush (-2), 2) := dk_16 254 (dk_at dksX0_taken_1 6 rfl rfl)
theorem dX0_taken_31 : decode cX0_taken 31 = .ok (.ireturn, 1) := dk_172 (dk_at dksX0_taken_1 8 rfl rfl)
theorem dX0_taken_32 : decode cX0_taken 32 = .ok (.iload_n 2, 1) := dk_28 (dk_at dksX0_taken_1 9 rfl rfl)
theorem dX0_taken_33 : decode cX0_taken 33 = .ok (.bipush 10, 2) := dk_16 10 (dk_at dksX0_taken_1 10 rfl rfl)
theorem dX0_taken_35 : decode cX0_taken 35 = .ok (.if_icmp .ge 18, 3) := dk_162 0 18 (dk_at dksX0_taken_1 12 rfl rfl)
theorem dX0_taken_38 : decode cX0_taken 38 = .ok (.aload_n 0, 1) := dk_42 (dk_at dksX0_taken_1 15 rfl rfl)
theorem dX0_taken_39 : decode cX0_taken 39 = .ok (.iload_n 1, 1) := dk_27 (dk_at dksX0_taken_1 16 rfl rfl)
theorem dX0_taken_40 : decode cX0_taken 40 = .ok (.invokevirtual 656, 3) := dk_182 2 144 (dk_at dksX0_taken_1 17 rfl rfl)
theorem dX0_taken_43 : decode cX0_taken 43 = .ok (.iload_n 2, 1) := dk_28 (dk_at dksX0_taken_1 20 rfl rfl)
theorem dX0_taken_44 : decode cX0_taken 44 = .ok (.invokestatic 660, 3) := dk_184 2 148 (dk_at dksX0_taken_1 21 rfl rfl)
theorem dX0_taken_47 : decode cX0_taken 47 = .ok (.getfield 611, 3) := dk_180 2 99 (dk_at dksX0_taken_2 0 rfl rfl)
theorem dX0_taken_50 : decode cX0_taken 50 = .ok (.goto 15, 3) := dk_167 0 15 (dk_at dksX0_taken_2 3 rfl rfl)
theorem dX0_taken_53 : decode cX0_taken 53 = .ok (.aload_n 0, 1) := dk_42 (dk_at dksX0_taken_2 6 rfl rfl)
theorem dX0_taken_54 : decode cX0_taken 54 = .ok (.iload_n 1, 1) := dk_27 (dk_at dksX0_taken_2 7 rfl rfl)
theorem dX0_taken_55 : decode cX0_taken 55 = .ok (.invokevirtual 656, 3) := dk_182 2 144 (dk_at dksX0_taken_2 8 rfl rfl)
theorem dX0_taken_58 : decode cX0_taken 58 = .ok (.iload_n 2, 1) := dk_28 (dk_at dksX0_taken_2 11 rfl rfl)
theorem dX0_taken_59 : decode cX0_taken 59 = .ok (.bipush 10, 2) := dk_16 10 (dk_at dksX0_taken_2 12 rfl rfl)
theorem dX0_taken_61 : decode cX0_taken 61 = .ok (.isub, 1) := dk_100 (dk_at dksX0_taken_2 14 rfl rfl)
theorem dX0_taken_62 : decode cX0_taken 62 = .ok (.invokestatic 663, 3) := dk_184 2 151 (dk_at dksX0_taken_2 15 rfl rfl)
theorem dX0_taken_65 : decode cX0_taken 65 = .ok (.ireturn, 1) := dk_172 (dk_at dksX0_taken_2 18 rfl rfl)
theorem dX0_taken_66 : decode cX0_taken 66 = .ok (.astore_n 3, 1) := dk_78 (dk_at dksX0_taken_2 19 rfl rfl)
theorem dX0_taken_67 : decode cX0_taken 67 = .ok (.bipush (-11), 2) := dk_16 245 (dk_at dksX0_taken_2 20 rfl rfl)
theorem dX0_taken_69 : decode cX0_taken 69 = .ok (.ireturn, 1) := dk_172 (dk_at dksX0_taken_2 22 rfl rfl)
theorem dX0_taken_70 : decode cX0_taken 70 = .ok (.astore_n 3, 1) := dk_78 (dk_at dksX0_taken_2 23 rfl rfl)
theorem dX0_taken_71 : decode cX0_taken 71 = .ok (.bipush (-13), 2) := dk_16 243 (dk_at dksX0_taken_3 0 rfl rfl)
theorem dX0_taken_73 : decode cX0_taken 73 = .ok (.ireturn, 1) := dk_172 (dk_at dksX0_taken_3 2 rfl rfl)
abbrev cX0_heldOn : ByteArray := prog_1_method_106_code
def yX0_heldOn : MethodName := ⟨RX0, "heldOn", "(I)Ljava/lang/Object;"⟩
def dkwX0_heldOn_2 : List UInt8 := [167, 0, 4, 1, 176]
abbrev dktX0_heldOn_2 : List UInt8 := dkwX0_heldOn_2 ++ []
def dkwX0_heldOn_1 : List UInt8 := [180, 2, 143, 62, 42, 180, 0, 10, 29, 182, 0, 123, 153, 0, 15, 42, 180, 0, 10, 180, 0, 138, 29, 50]
abbrev dktX0_heldOn_1 : List UInt8 := dkwX0_heldOn_1 ++ dktX0_heldOn_2
def dkwX0_heldOn_0 : List UInt8 := [42, 180, 0, 79, 27, 50, 180, 1, 128, 77, 44, 193, 2, 140, 154, 0, 5, 44, 176, 44, 192, 2, 140]
abbrev dktX0_heldOn_0 : List UInt8 := dkwX0_heldOn_0 ++ dktX0_heldOn_1
theorem dksX0_heldOn_0 : cX0_heldOn.data.toList.drop 0 = dktX0_heldOn_0 := by decide +kernel
theorem dksX0_heldOn_1 : cX0_heldOn.data.toList.drop 23 = dktX0_heldOn_1 := dk_seg dksX0_heldOn_0 23 rfl rfl
theorem dksX0_heldOn_2 : cX0_heldOn.data.toList.drop 47 = dktX0_heldOn_2 := dk_seg dksX0_heldOn_1 24 rfl rfl
theorem dX0_heldOn_0 : decode cX0_heldOn 0 = .ok (.aload_n 0, 1) := dk_42 (dk_at dksX0_heldOn_0 0 rfl rfl)
theorem dX0_heldOn_1 : decode cX0_heldOn 1 = .ok (.getfield 79, 3) := dk_180 0 79 (dk_at dksX0_heldOn_0 1 rfl rfl)
theorem dX0_heldOn_4 : decode cX0_heldOn 4 = .ok (.iload_n 1, 1) := dk_27 (dk_at dksX0_heldOn_0 4 rfl rfl)
theorem dX0_heldOn_5 : decode cX0_heldOn 5 = .ok (.aaload, 1) := dk_50 (dk_at dksX0_heldOn_0 5 rfl rfl)
theorem dX0_heldOn_6 : decode cX0_heldOn 6 = .ok (.getfield 384, 3) := dk_180 1 128 (dk_at dksX0_heldOn_0 6 rfl rfl)
theorem dX0_heldOn_9 : decode cX0_heldOn 9 = .ok (.astore_n 2, 1) := dk_77 (dk_at dksX0_heldOn_0 9 rfl rfl)
theorem dX0_heldOn_10 : decode cX0_heldOn 10 = .ok (.aload_n 2, 1) := dk_44 (dk_at dksX0_heldOn_0 10 rfl rfl)
theorem dX0_heldOn_11 : decode cX0_heldOn 11 = .ok (.instanceof 652, 3) := dk_193 2 140 (dk_at dksX0_heldOn_0 11 rfl rfl)
theorem dX0_heldOn_14 : decode cX0_heldOn 14 = .ok (.ifCond .ne 5, 3) := dk_154 0 5 (dk_at dksX0_heldOn_0 14 rfl rfl)
theorem dX0_heldOn_17 : decode cX0_heldOn 17 = .ok (.aload_n 2, 1) := dk_44 (dk_at dksX0_heldOn_0 17 rfl rfl)
theorem dX0_heldOn_18 : decode cX0_heldOn 18 = .ok (.areturn, 1) := dk_176 (dk_at dksX0_heldOn_0 18 rfl rfl)
theorem dX0_heldOn_19 : decode cX0_heldOn 19 = .ok (.aload_n 2, 1) := dk_44 (dk_at dksX0_heldOn_0 19 rfl rfl)
theorem dX0_heldOn_20 : decode cX0_heldOn 20 = .ok (.checkcast 652, 3) := dk_192 2 140 (dk_at dksX0_heldOn_0 20 rfl rfl)
theorem dX0_heldOn_23 : decode cX0_heldOn 23 = .ok (.getfield 655, 3) := dk_180 2 143 (dk_at dksX0_heldOn_1 0 rfl rfl)
theorem dX0_heldOn_26 : decode cX0_heldOn 26 = .ok (.istore_n 3, 1) := dk_62 (dk_at dksX0_heldOn_1 3 rfl rfl)
theorem dX0_heldOn_27 : decode cX0_heldOn 27 = .ok (.aload_n 0, 1) := dk_42 (dk_at dksX0_heldOn_1 4 rfl rfl)
theorem dX0_heldOn_28 : decode cX0_heldOn 28 = .ok (.getfield 10, 3) := dk_180 0 10 (dk_at dksX0_heldOn_1 5 rfl rfl)
theorem dX0_heldOn_31 : decode cX0_heldOn 31 = .ok (.iload_n 3, 1) := dk_29 (dk_at dksX0_heldOn_1 8 rfl rfl)
theorem dX0_heldOn_32 : decode cX0_heldOn 32 = .ok (.invokevirtual 123, 3) := dk_182 0 123 (dk_at dksX0_heldOn_1 9 rfl rfl)
theorem dX0_heldOn_35 : decode cX0_heldOn 35 = .ok (.ifCond .eq 15, 3) := dk_153 0 15 (dk_at dksX0_heldOn_1 12 rfl rfl)
theorem dX0_heldOn_38 : decode cX0_heldOn 38 = .ok (.aload_n 0, 1) := dk_42 (dk_at dksX0_heldOn_1 15 rfl rfl)
theorem dX0_heldOn_39 : decode cX0_heldOn 39 = .ok (.getfield 10, 3) := dk_180 0 10 (dk_at dksX0_heldOn_1 16 rfl rfl)
theorem dX0_heldOn_42 : decode cX0_heldOn 42 = .ok (.getfield 138, 3) := dk_180 0 138 (dk_at dksX0_heldOn_1 19 rfl rfl)
theorem dX0_heldOn_45 : decode cX0_heldOn 45 = .ok (.iload_n 3, 1) := dk_29 (dk_at dksX0_heldOn_1 22 rfl rfl)
theorem dX0_heldOn_46 : decode cX0_heldOn 46 = .ok (.aaload, 1) := dk_50 (dk_at dksX0_heldOn_1 23 rfl rfl)
theorem dX0_heldOn_47 : decode cX0_heldOn 47 = .ok (.goto 4, 3) := dk_167 0 4 (dk_at dksX0_heldOn_2 0 rfl rfl)
theorem dX0_heldOn_50 : decode cX0_heldOn 50 = .ok (.aconst_null, 1) := dk_1 (dk_at dksX0_heldOn_2 3 rfl rfl)
theorem dX0_heldOn_51 : decode cX0_heldOn 51 = .ok (.areturn, 1) := dk_176 (dk_at dksX0_heldOn_2 4 rfl rfl)
abbrev cX0_taken_2 : ByteArray := prog_1_method_7_code
def yX0_taken_2 : MethodName := ⟨RX0, "taken", "(Ljava/lang/Object;I)LLinesTouched$Point;"⟩
def dkwX0_taken_2_3 : List UInt8 := [176, 42, 192, 0, 108, 176]
abbrev dktX0_taken_2_3 : List UInt8 := dkwX0_taken_2_3 ++ []
def dkwX0_taken_2_2 : List UInt8 := [42, 192, 0, 91, 176, 42, 192, 0, 96, 176, 42, 192, 0, 99, 176, 42, 192, 0, 102, 176, 42, 192, 0, 105]
abbrev dktX0_taken_2_2 : List UInt8 := dkwX0_taken_2_2 ++ dktX0_taken_2_3
def dkwX0_taken_2_1 : List UInt8 := [170, 0, 0, 0, 0, 0, 60, 0, 0, 0, 0, 0, 0, 0, 4, 0, 0, 0, 35, 0, 0, 0, 40, 0, 0, 0, 45, 0, 0, 0, 50, 0, 0, 0, 55]
abbrev dktX0_taken_2_1 : List UInt8 := dkwX0_taken_2_1 ++ dktX0_taken_2_2
def dkwX0_taken_2_0 : List UInt8 := [27]
abbrev dktX0_taken_2_0 : List UInt8 := dkwX0_taken_2_0 ++ dktX0_taken_2_1
theorem dksX0_taken_2_0 : cX0_taken_2.data.toList.drop 0 = dktX0_taken_2_0 := by decide +kernel
theorem dksX0_taken_2_1 : cX0_taken_2.data.toList.drop 1 = dktX0_taken_2_1 := dk_seg dksX0_taken_2_0 1 rfl rfl
theorem dksX0_taken_2_2 : cX0_taken_2.data.toList.drop 36 = dktX0_taken_2_2 := dk_seg dksX0_taken_2_1 35 rfl rfl
theorem dksX0_taken_2_3 : cX0_taken_2.data.toList.drop 60 = dktX0_taken_2_3 := dk_seg dksX0_taken_2_2 24 rfl rfl
theorem dX0_taken_2_0 : decode cX0_taken_2 0 = .ok (.iload_n 1, 1) := dk_27 (dk_at dksX0_taken_2_0 0 rfl rfl)
theorem dX0_taken_2_1 : decode cX0_taken_2 1 = .ok (.tableswitch 60 0 4 #[35, 40, 45, 50, 55], 35) := by decide +kernel
theorem dX0_taken_2_36 : decode cX0_taken_2 36 = .ok (.aload_n 0, 1) := dk_42 (dk_at dksX0_taken_2_2 0 rfl rfl)
theorem dX0_taken_2_37 : decode cX0_taken_2 37 = .ok (.checkcast 91, 3) := dk_192 0 91 (dk_at dksX0_taken_2_2 1 rfl rfl)
theorem dX0_taken_2_40 : decode cX0_taken_2 40 = .ok (.areturn, 1) := dk_176 (dk_at dksX0_taken_2_2 4 rfl rfl)
theorem dX0_taken_2_41 : decode cX0_taken_2 41 = .ok (.aload_n 0, 1) := dk_42 (dk_at dksX0_taken_2_2 5 rfl rfl)
theorem dX0_taken_2_42 : decode cX0_taken_2 42 = .ok (.checkcast 96, 3) := dk_192 0 96 (dk_at dksX0_taken_2_2 6 rfl rfl)
theorem dX0_taken_2_45 : decode cX0_taken_2 45 = .ok (.areturn, 1) := dk_176 (dk_at dksX0_taken_2_2 9 rfl rfl)
theorem dX0_taken_2_46 : decode cX0_taken_2 46 = .ok (.aload_n 0, 1) := dk_42 (dk_at dksX0_taken_2_2 10 rfl rfl)
theorem dX0_taken_2_47 : decode cX0_taken_2 47 = .ok (.checkcast 99, 3) := dk_192 0 99 (dk_at dksX0_taken_2_2 11 rfl rfl)
theorem dX0_taken_2_50 : decode cX0_taken_2 50 = .ok (.areturn, 1) := dk_176 (dk_at dksX0_taken_2_2 14 rfl rfl)
theorem dX0_taken_2_51 : decode cX0_taken_2 51 = .ok (.aload_n 0, 1) := dk_42 (dk_at dksX0_taken_2_2 15 rfl rfl)
theorem dX0_taken_2_52 : decode cX0_taken_2 52 = .ok (.checkcast 102, 3) := dk_192 0 102 (dk_at dksX0_taken_2_2 16 rfl rfl)
theorem dX0_taken_2_55 : decode cX0_taken_2 55 = .ok (.areturn, 1) := dk_176 (dk_at dksX0_taken_2_2 19 rfl rfl)
theorem dX0_taken_2_56 : decode cX0_taken_2 56 = .ok (.aload_n 0, 1) := dk_42 (dk_at dksX0_taken_2_2 20 rfl rfl)
theorem dX0_taken_2_57 : decode cX0_taken_2 57 = .ok (.checkcast 105, 3) := dk_192 0 105 (dk_at dksX0_taken_2_2 21 rfl rfl)
theorem dX0_taken_2_60 : decode cX0_taken_2 60 = .ok (.areturn, 1) := dk_176 (dk_at dksX0_taken_2_3 0 rfl rfl)
theorem dX0_taken_2_61 : decode cX0_taken_2 61 = .ok (.aload_n 0, 1) := dk_42 (dk_at dksX0_taken_2_3 1 rfl rfl)
theorem dX0_taken_2_62 : decode cX0_taken_2 62 = .ok (.checkcast 108, 3) := dk_192 0 108 (dk_at dksX0_taken_2_3 2 rfl rfl)
theorem dX0_taken_2_65 : decode cX0_taken_2 65 = .ok (.areturn, 1) := dk_176 (dk_at dksX0_taken_2_3 5 rfl rfl)
abbrev cX0_lengthAs : ByteArray := prog_1_method_107_code
def yX0_lengthAs : MethodName := ⟨RX0, "lengthAs", "(Ljava/lang/Object;I)I"⟩
def dkwX0_lengthAs_1 : List UInt8 := [167, 0, 8, 42, 192, 2, 118, 190, 172]
abbrev dktX0_lengthAs_1 : List UInt8 := dkwX0_lengthAs_1 ++ []
def dkwX0_lengthAs_0 : List UInt8 := [27, 154, 0, 11, 42, 192, 2, 116, 190, 167, 0, 21, 27, 4, 160, 0, 11, 42, 192, 2, 117, 190]
abbrev dktX0_lengthAs_0 : List UInt8 := dkwX0_lengthAs_0 ++ dktX0_lengthAs_1
theorem dksX0_lengthAs_0 : cX0_lengthAs.data.toList.drop 0 = dktX0_lengthAs_0 := by decide +kernel
theorem dksX0_lengthAs_1 : cX0_lengthAs.data.toList.drop 22 = dktX0_lengthAs_1 := dk_seg dksX0_lengthAs_0 22 rfl rfl
theorem dX0_lengthAs_0 : decode cX0_lengthAs 0 = .ok (.iload_n 1, 1) := dk_27 (dk_at dksX0_lengthAs_0 0 rfl rfl)
theorem dX0_lengthAs_1 : decode cX0_lengthAs 1 = .ok (.ifCond .ne 11, 3) := dk_154 0 11 (dk_at dksX0_lengthAs_0 1 rfl rfl)
theorem dX0_lengthAs_4 : decode cX0_lengthAs 4 = .ok (.aload_n 0, 1) := dk_42 (dk_at dksX0_lengthAs_0 4 rfl rfl)
theorem dX0_lengthAs_5 : decode cX0_lengthAs 5 = .ok (.checkcast 628, 3) := dk_192 2 116 (dk_at dksX0_lengthAs_0 5 rfl rfl)
theorem dX0_lengthAs_8 : decode cX0_lengthAs 8 = .ok (.arraylength, 1) := dk_190 (dk_at dksX0_lengthAs_0 8 rfl rfl)
theorem dX0_lengthAs_9 : decode cX0_lengthAs 9 = .ok (.goto 21, 3) := dk_167 0 21 (dk_at dksX0_lengthAs_0 9 rfl rfl)
theorem dX0_lengthAs_12 : decode cX0_lengthAs 12 = .ok (.iload_n 1, 1) := dk_27 (dk_at dksX0_lengthAs_0 12 rfl rfl)
theorem dX0_lengthAs_13 : decode cX0_lengthAs 13 = .ok (.iconst 1, 1) := dk_4 (dk_at dksX0_lengthAs_0 13 rfl rfl)
theorem dX0_lengthAs_14 : decode cX0_lengthAs 14 = .ok (.if_icmp .ne 11, 3) := dk_160 0 11 (dk_at dksX0_lengthAs_0 14 rfl rfl)
theorem dX0_lengthAs_17 : decode cX0_lengthAs 17 = .ok (.aload_n 0, 1) := dk_42 (dk_at dksX0_lengthAs_0 17 rfl rfl)
theorem dX0_lengthAs_18 : decode cX0_lengthAs 18 = .ok (.checkcast 629, 3) := dk_192 2 117 (dk_at dksX0_lengthAs_0 18 rfl rfl)
theorem dX0_lengthAs_21 : decode cX0_lengthAs 21 = .ok (.arraylength, 1) := dk_190 (dk_at dksX0_lengthAs_0 21 rfl rfl)
theorem dX0_lengthAs_22 : decode cX0_lengthAs 22 = .ok (.goto 8, 3) := dk_167 0 8 (dk_at dksX0_lengthAs_1 0 rfl rfl)
theorem dX0_lengthAs_25 : decode cX0_lengthAs 25 = .ok (.aload_n 0, 1) := dk_42 (dk_at dksX0_lengthAs_1 3 rfl rfl)
theorem dX0_lengthAs_26 : decode cX0_lengthAs 26 = .ok (.checkcast 630, 3) := dk_192 2 118 (dk_at dksX0_lengthAs_1 4 rfl rfl)
theorem dX0_lengthAs_29 : decode cX0_lengthAs 29 = .ok (.arraylength, 1) := dk_190 (dk_at dksX0_lengthAs_1 7 rfl rfl)
theorem dX0_lengthAs_30 : decode cX0_lengthAs 30 = .ok (.ireturn, 1) := dk_172 (dk_at dksX0_lengthAs_1 8 rfl rfl)
abbrev cX0_image : ByteArray := prog_1_method_109_code
def yX0_image : MethodName := ⟨RX0, "image", "()I"⟩
def dkwX0_image_0 : List UInt8 := [42, 180, 0, 16, 42, 180, 0, 10, 182, 2, 112, 42, 4, 181, 2, 156, 42, 180, 0, 10, 180, 0, 115, 172]
abbrev dktX0_image_0 : List UInt8 := dkwX0_image_0 ++ []
theorem dksX0_image_0 : cX0_image.data.toList.drop 0 = dktX0_image_0 := by decide +kernel
theorem dX0_image_0 : decode cX0_image 0 = .ok (.aload_n 0, 1) := dk_42 (dk_at dksX0_image_0 0 rfl rfl)
theorem dX0_image_1 : decode cX0_image 1 = .ok (.getfield 16, 3) := dk_180 0 16 (dk_at dksX0_image_0 1 rfl rfl)
theorem dX0_image_4 : decode cX0_image 4 = .ok (.aload_n 0, 1) := dk_42 (dk_at dksX0_image_0 4 rfl rfl)
theorem dX0_image_5 : decode cX0_image 5 = .ok (.getfield 10, 3) := dk_180 0 10 (dk_at dksX0_image_0 5 rfl rfl)
theorem dX0_image_8 : decode cX0_image 8 = .ok (.invokevirtual 624, 3) := dk_182 2 112 (dk_at dksX0_image_0 8 rfl rfl)
theorem dX0_image_11 : decode cX0_image 11 = .ok (.aload_n 0, 1) := dk_42 (dk_at dksX0_image_0 11 rfl rfl)
theorem dX0_image_12 : decode cX0_image 12 = .ok (.iconst 1, 1) := dk_4 (dk_at dksX0_image_0 12 rfl rfl)
theorem dX0_image_13 : decode cX0_image 13 = .ok (.putfield 668, 3) := dk_181 2 156 (dk_at dksX0_image_0 13 rfl rfl)
theorem dX0_image_16 : decode cX0_image 16 = .ok (.aload_n 0, 1) := dk_42 (dk_at dksX0_image_0 16 rfl rfl)
theorem dX0_image_17 : decode cX0_image 17 = .ok (.getfield 10, 3) := dk_180 0 10 (dk_at dksX0_image_0 17 rfl rfl)
theorem dX0_image_20 : decode cX0_image 20 = .ok (.getfield 115, 3) := dk_180 0 115 (dk_at dksX0_image_0 20 rfl rfl)
theorem dX0_image_23 : decode cX0_image 23 = .ok (.ireturn, 1) := dk_172 (dk_at dksX0_image_0 23 rfl rfl)
abbrev cX0_back : ByteArray := prog_1_method_110_code
def yX0_back : MethodName := ⟨RX0, "back", "()I"⟩
def dkwX0_back_1 : List UInt8 := [180, 0, 10, 180, 0, 115, 172]
abbrev dktX0_back_1 : List UInt8 := dkwX0_back_1 ++ []
def dkwX0_back_0 : List UInt8 := [42, 180, 2, 156, 154, 0, 6, 16, 253, 172, 42, 180, 0, 10, 42, 180, 0, 16, 182, 2, 112, 42]
abbrev dktX0_back_0 : List UInt8 := dkwX0_back_0 ++ dktX0_back_1
theorem dksX0_back_0 : cX0_back.data.toList.drop 0 = dktX0_back_0 := by decide +kernel
theorem dksX0_back_1 : cX0_back.data.toList.drop 22 = dktX0_back_1 := dk_seg dksX0_back_0 22 rfl rfl
theorem dX0_back_0 : decode cX0_back 0 = .ok (.aload_n 0, 1) := dk_42 (dk_at dksX0_back_0 0 rfl rfl)
theorem dX0_back_1 : decode cX0_back 1 = .ok (.getfield 668, 3) := dk_180 2 156 (dk_at dksX0_back_0 1 rfl rfl)
theorem dX0_back_4 : decode cX0_back 4 = .ok (.ifCond .ne 6, 3) := dk_154 0 6 (dk_at dksX0_back_0 4 rfl rfl)
theorem dX0_back_7 : decode cX0_back 7 = .ok (.bipush (-3), 2) := dk_16 253 (dk_at dksX0_back_0 7 rfl rfl)
theorem dX0_back_9 : decode cX0_back 9 = .ok (.ireturn, 1) := dk_172 (dk_at dksX0_back_0 9 rfl rfl)
theorem dX0_back_10 : decode cX0_back 10 = .ok (.aload_n 0, 1) := dk_42 (dk_at dksX0_back_0 10 rfl rfl)
theorem dX0_back_11 : decode cX0_back 11 = .ok (.getfield 10, 3) := dk_180 0 10 (dk_at dksX0_back_0 11 rfl rfl)
theorem dX0_back_14 : decode cX0_back 14 = .ok (.aload_n 0, 1) := dk_42 (dk_at dksX0_back_0 14 rfl rfl)
theorem dX0_back_15 : decode cX0_back 15 = .ok (.getfield 16, 3) := dk_180 0 16 (dk_at dksX0_back_0 15 rfl rfl)
theorem dX0_back_18 : decode cX0_back 18 = .ok (.invokevirtual 624, 3) := dk_182 2 112 (dk_at dksX0_back_0 18 rfl rfl)
theorem dX0_back_21 : decode cX0_back 21 = .ok (.aload_n 0, 1) := dk_42 (dk_at dksX0_back_0 21 rfl rfl)
theorem dX0_back_22 : decode cX0_back 22 = .ok (.getfield 10, 3) := dk_180 0 10 (dk_at dksX0_back_1 0 rfl rfl)
theorem dX0_back_25 : decode cX0_back 25 = .ok (.getfield 115, 3) := dk_180 0 115 (dk_at dksX0_back_1 3 rfl rfl)
theorem dX0_back_28 : decode cX0_back 28 = .ok (.ireturn, 1) := dk_172 (dk_at dksX0_back_1 6 rfl rfl)
theorem q106 : (Jvm.Cond.initialized "LinesTouched") ∈ lw_all := lw_g (lw_at lw_m1 1 rfl) rfl
theorem q170 : (Jvm.Cond.instantiable "LinesTouched" (32 : Nat)) ∈ lw_all := lw_g (lw_at lw_m1 65 rfl) rfl
theorem q172 : (Jvm.Cond.instanceMethod ({ cls := "LinesTouched", name := "<init>", desc := "()V" } : Jvm.MethodName)) ∈ lw_all := lw_g (lw_at lw_m1 67 rfl) rfl
theorem q173 : (Jvm.Cond.code ({ cls := "LinesTouched", name := "<init>", desc := "()V" } : Jvm.MethodName) prog_1_method_1_code (1 : Nat) (Option.none : Option Jvm.ClassFile.FieldType)) ∈ lw_all := lw_g (lw_at lw_m1 68 rfl) rfl
theorem q174 : (Jvm.Cond.methodLink "LinesTouched" (1 : Nat) ({ cls := "java/lang/Object", name := "<init>", desc := "()V" } : Jvm.MethodName)) ∈ lw_all := lw_g (lw_at lw_m1 69 rfl) rfl
theorem q177 : (Jvm.Cond.classLink "LinesTouched" (7 : Nat) "LinesTouched$Net") ∈ lw_all := lw_g (lw_at lw_m1 72 rfl) rfl
theorem q179 : (Jvm.Cond.methodLinkNest "LinesTouched" (9 : Nat) ({ cls := "LinesTouched$Net", name := "<init>", desc := "()V" } : Jvm.MethodName) "LinesTouched") ∈ lw_tbl := lw_at lw_m1 74 rfl
theorem q186 : (Jvm.Cond.fieldLinkNest "LinesTouched" (138 : Nat) "LinesTouched$Net" "point" "[LLinesTouched$Point;" "LinesTouched") ∈ lw_tbl := lw_at lw_m1 81 rfl
theorem q189 : (Jvm.Cond.fieldLinkNest "LinesTouched" (152 : Nat) "LinesTouched$Net" "next" "[I" "LinesTouched") ∈ lw_tbl := lw_at lw_m1 84 rfl
theorem q192 : (Jvm.Cond.fieldLinkNest "LinesTouched" (115 : Nat) "LinesTouched$Net" "points" "I" "LinesTouched") ∈ lw_tbl := lw_at lw_m1 87 rfl
theorem q194 : (Jvm.Cond.fieldLinkNest "LinesTouched" (171 : Nat) "LinesTouched$Net" "z" "I" "LinesTouched") ∈ lw_tbl := lw_at lw_m1 89 rfl
theorem q205 : (Jvm.Cond.classLink "LinesTouched" (30 : Nat) "LinesTouched$Rule") ∈ lw_all := lw_g (lw_at lw_m1 100 rfl) rfl
theorem q207 : (Jvm.Cond.privateMethod ({ cls := "LinesTouched", name := "lonelyRound", desc := "(II)LLinesTouched$Round;" } : Jvm.MethodName)) ∈ lw_tbl := lw_at lw_m1 102 rfl
theorem q208 : (Jvm.Cond.instanceMethod ({ cls := "LinesTouched", name := "lonelyRound", desc := "(II)LLinesTouched$Round;" } : Jvm.MethodName)) ∈ lw_all := lw_g (lw_at lw_m1 103 rfl) rfl
theorem q209 : (Jvm.Cond.code ({ cls := "LinesTouched", name := "lonelyRound", desc := "(II)LLinesTouched$Round;" } : Jvm.MethodName) prog_1_method_46_code (4 : Nat) (Option.some (Jvm.ClassFile.FieldType.object "LinesTouched$Round"))) ∈ lw_all := lw_g (lw_at lw_m1 104 rfl) rfl
theorem q210 : (Jvm.Cond.methodLink "LinesTouched" (256 : Nat) ({ cls := "LinesTouched", name := "has", desc := "(II)Z" } : Jvm.MethodName)) ∈ lw_all := lw_g (lw_at lw_m1 105 rfl) rfl
theorem q211 : (Jvm.Cond.static ({ cls := "LinesTouched", name := "has", desc := "(II)Z" } : Jvm.MethodName)) ∈ lw_all := lw_g (lw_at lw_m1 106 rfl) rfl
theorem q212 : (Jvm.Cond.code ({ cls := "LinesTouched", name := "has", desc := "(II)Z" } : Jvm.MethodName) prog_1_method_3_code (2 : Nat) (Option.some Jvm.ClassFile.FieldType.boolean)) ∈ lw_all := lw_g (lw_at lw_m1 107 rfl) rfl
theorem q213 : (Jvm.Cond.methodLink "LinesTouched" (345 : Nat) ({ cls := "LinesTouched$Net", name := "lines", desc := "(II)I" } : Jvm.MethodName)) ∈ lw_all := lw_g (lw_at lw_m1 108 rfl) rfl
theorem q218 : (Jvm.Cond.static ({ cls := "LinesTouched", name := "ones", desc := "(I)I" } : Jvm.MethodName)) ∈ lw_all := lw_g (lw_at lw_m1 113 rfl) rfl
theorem q219 : (Jvm.Cond.code ({ cls := "LinesTouched", name := "ones", desc := "(I)I" } : Jvm.MethodName) prog_1_method_4_code (1 : Nat) (Option.some Jvm.ClassFile.FieldType.int)) ∈ lw_all := lw_g (lw_at lw_m1 114 rfl) rfl
theorem q220 : (Jvm.Cond.methodLink "LinesTouched" (82 : Nat) ({ cls := "java/lang/Integer", name := "bitCount", desc := "(I)I" } : Jvm.MethodName)) ∈ lw_all := lw_g (lw_at lw_m1 115 rfl) rfl
theorem q226 : (Jvm.Cond.classLink "LinesTouched" (43 : Nat) "LinesTouched$Round") ∈ lw_all := lw_g (lw_at lw_m1 121 rfl) rfl
theorem q228 : (Jvm.Cond.methodLink "LinesTouched" (348 : Nat) ({ cls := "LinesTouched$Round", name := "<init>", desc := "(III)V" } : Jvm.MethodName)) ∈ lw_all := lw_g (lw_at lw_m1 123 rfl) rfl
theorem q233 : (Jvm.Cond.fieldLinkNest "LinesTouched" (375 : Nat) "LinesTouched$Round" "rule" "I" "LinesTouched") ∈ lw_tbl := lw_at lw_m1 128 rfl
theorem q235 : (Jvm.Cond.fieldLinkNest "LinesTouched" (366 : Nat) "LinesTouched$Round" "goes" "I" "LinesTouched") ∈ lw_tbl := lw_at lw_m1 130 rfl
theorem q237 : (Jvm.Cond.fieldLinkNest "LinesTouched" (369 : Nat) "LinesTouched$Round" "taken" "I" "LinesTouched") ∈ lw_tbl := lw_at lw_m1 132 rfl
theorem q246 : (Jvm.Cond.privateMethod ({ cls := "LinesTouched", name := "crowdedRound", desc := "(II)LLinesTouched$Round;" } : Jvm.MethodName)) ∈ lw_tbl := lw_at lw_m1 141 rfl
theorem q247 : (Jvm.Cond.instanceMethod ({ cls := "LinesTouched", name := "crowdedRound", desc := "(II)LLinesTouched$Round;" } : Jvm.MethodName)) ∈ lw_all := lw_g (lw_at lw_m1 142 rfl) rfl
theorem q248 : (Jvm.Cond.code ({ cls := "LinesTouched", name := "crowdedRound", desc := "(II)LLinesTouched$Round;" } : Jvm.MethodName) prog_1_method_47_code (4 : Nat) (Option.some (Jvm.ClassFile.FieldType.object "LinesTouched$Round"))) ∈ lw_all := lw_g (lw_at lw_m1 143 rfl) rfl
theorem q249 : (Jvm.Cond.privateMethod ({ cls := "LinesTouched", name := "hangingRound", desc := "(II)LLinesTouched$Round;" } : Jvm.MethodName)) ∈ lw_tbl := lw_at lw_m1 144 rfl
theorem q250 : (Jvm.Cond.instanceMethod ({ cls := "LinesTouched", name := "hangingRound", desc := "(II)LLinesTouched$Round;" } : Jvm.MethodName)) ∈ lw_all := lw_g (lw_at lw_m1 145 rfl) rfl
theorem q251 : (Jvm.Cond.code ({ cls := "LinesTouched", name := "hangingRound", desc := "(II)LLinesTouched$Round;" } : Jvm.MethodName) prog_1_method_48_code (4 : Nat) (Option.some (Jvm.ClassFile.FieldType.object "LinesTouched$Round"))) ∈ lw_all := lw_g (lw_at lw_m1 146 rfl) rfl
theorem q252 : (Jvm.Cond.privateMethod ({ cls := "LinesTouched", name := "crownRound", desc := "(II)LLinesTouched$Round;" } : Jvm.MethodName)) ∈ lw_tbl := lw_at lw_m1 147 rfl
theorem q253 : (Jvm.Cond.instanceMethod ({ cls := "LinesTouched", name := "crownRound", desc := "(II)LLinesTouched$Round;" } : Jvm.MethodName)) ∈ lw_all := lw_g (lw_at lw_m1 148 rfl) rfl
theorem q254 : (Jvm.Cond.code ({ cls := "LinesTouched", name := "crownRound", desc := "(II)LLinesTouched$Round;" } : Jvm.MethodName) prog_1_method_49_code (3 : Nat) (Option.some (Jvm.ClassFile.FieldType.object "LinesTouched$Round"))) ∈ lw_all := lw_g (lw_at lw_m1 149 rfl) rfl
theorem q255 : (Jvm.Cond.methodLink "LinesTouched" (320 : Nat) ({ cls := "LinesTouched", name := "findsHalves", desc := "(I)I" } : Jvm.MethodName)) ∈ lw_all := lw_g (lw_at lw_m1 150 rfl) rfl
theorem q256 : (Jvm.Cond.privateMethod ({ cls := "LinesTouched", name := "findsHalves", desc := "(I)I" } : Jvm.MethodName)) ∈ lw_tbl := lw_at lw_m1 151 rfl
theorem q257 : (Jvm.Cond.instanceMethod ({ cls := "LinesTouched", name := "findsHalves", desc := "(I)I" } : Jvm.MethodName)) ∈ lw_all := lw_g (lw_at lw_m1 152 rfl) rfl
theorem q258 : (Jvm.Cond.code ({ cls := "LinesTouched", name := "findsHalves", desc := "(I)I" } : Jvm.MethodName) prog_1_method_34_code (10 : Nat) (Option.some Jvm.ClassFile.FieldType.int)) ∈ lw_all := lw_g (lw_at lw_m1 153 rfl) rfl
theorem q259 : (Jvm.Cond.methodLink "LinesTouched" (307 : Nat) ({ cls := "LinesTouched", name := "halvesOf", desc := "(I)I" } : Jvm.MethodName)) ∈ lw_all := lw_g (lw_at lw_m1 154 rfl) rfl
theorem q260 : (Jvm.Cond.privateMethod ({ cls := "LinesTouched", name := "halvesOf", desc := "(I)I" } : Jvm.MethodName)) ∈ lw_tbl := lw_at lw_m1 155 rfl
theorem q261 : (Jvm.Cond.instanceMethod ({ cls := "LinesTouched", name := "halvesOf", desc := "(I)I" } : Jvm.MethodName)) ∈ lw_all := lw_g (lw_at lw_m1 156 rfl) rfl
theorem q262 : (Jvm.Cond.code ({ cls := "LinesTouched", name := "halvesOf", desc := "(I)I" } : Jvm.MethodName) prog_1_method_33_code (2 : Nat) (Option.some Jvm.ClassFile.FieldType.int)) ∈ lw_all := lw_g (lw_at lw_m1 157 rfl) rfl
theorem q263 : (Jvm.Cond.methodLink "LinesTouched" (303 : Nat) ({ cls := "LinesTouched", name := "halvesBy", desc := "(IJJ)I" } : Jvm.MethodName)) ∈ lw_all := lw_g (lw_at lw_m1 158 rfl) rfl
theorem q264 : (Jvm.Cond.privateMethod ({ cls := "LinesTouched", name := "halvesBy", desc := "(IJJ)I" } : Jvm.MethodName)) ∈ lw_tbl := lw_at lw_m1 159 rfl
theorem q265 : (Jvm.Cond.instanceMethod ({ cls := "LinesTouched", name := "halvesBy", desc := "(IJJ)I" } : Jvm.MethodName)) ∈ lw_all := lw_g (lw_at lw_m1 160 rfl) rfl
theorem q266 : (Jvm.Cond.code ({ cls := "LinesTouched", name := "halvesBy", desc := "(IJJ)I" } : Jvm.MethodName) prog_1_method_32_code (11 : Nat) (Option.some Jvm.ClassFile.FieldType.int)) ∈ lw_all := lw_g (lw_at lw_m1 161 rfl) rfl
theorem q267 : (Jvm.Cond.constantLong "LinesTouched" (293 : Nat) (-1 : Int64)) ∈ lw_all := lw_g (lw_at lw_m1 162 rfl) rfl
theorem q268 : (Jvm.Cond.methodLink "LinesTouched" (295 : Nat) ({ cls := "java/lang/Long", name := "bitCount", desc := "(J)I" } : Jvm.MethodName)) ∈ lw_all := lw_g (lw_at lw_m1 163 rfl) rfl
theorem q274 : (Jvm.Cond.methodLink "LinesTouched" (300 : Nat) ({ cls := "LinesTouched", name := "paired", desc := "(II)I" } : Jvm.MethodName)) ∈ lw_all := lw_g (lw_at lw_m1 169 rfl) rfl
theorem q275 : (Jvm.Cond.privateMethod ({ cls := "LinesTouched", name := "paired", desc := "(II)I" } : Jvm.MethodName)) ∈ lw_tbl := lw_at lw_m1 170 rfl
theorem q276 : (Jvm.Cond.instanceMethod ({ cls := "LinesTouched", name := "paired", desc := "(II)I" } : Jvm.MethodName)) ∈ lw_all := lw_g (lw_at lw_m1 171 rfl) rfl
theorem q277 : (Jvm.Cond.code ({ cls := "LinesTouched", name := "paired", desc := "(II)I" } : Jvm.MethodName) prog_1_method_31_code (5 : Nat) (Option.some Jvm.ClassFile.FieldType.int)) ∈ lw_all := lw_g (lw_at lw_m1 172 rfl) rfl
theorem q278 : (Jvm.Cond.methodLink "LinesTouched" (290 : Nat) ({ cls := "LinesTouched", name := "pairs", desc := "(II)Z" } : Jvm.MethodName)) ∈ lw_all := lw_g (lw_at lw_m1 173 rfl) rfl
theorem q279 : (Jvm.Cond.privateMethod ({ cls := "LinesTouched", name := "pairs", desc := "(II)Z" } : Jvm.MethodName)) ∈ lw_tbl := lw_at lw_m1 174 rfl
theorem q280 : (Jvm.Cond.instanceMethod ({ cls := "LinesTouched", name := "pairs", desc := "(II)Z" } : Jvm.MethodName)) ∈ lw_all := lw_g (lw_at lw_m1 175 rfl) rfl
theorem q281 : (Jvm.Cond.code ({ cls := "LinesTouched", name := "pairs", desc := "(II)Z" } : Jvm.MethodName) prog_1_method_30_code (4 : Nat) (Option.some Jvm.ClassFile.FieldType.boolean)) ∈ lw_all := lw_g (lw_at lw_m1 176 rfl) rfl
theorem q282 : (Jvm.Cond.methodLink "LinesTouched" (287 : Nat) ({ cls := "LinesTouched", name := "leastOf", desc := "(I)I" } : Jvm.MethodName)) ∈ lw_all := lw_g (lw_at lw_m1 177 rfl) rfl
theorem q283 : (Jvm.Cond.static ({ cls := "LinesTouched", name := "leastOf", desc := "(I)I" } : Jvm.MethodName)) ∈ lw_all := lw_g (lw_at lw_m1 178 rfl) rfl
theorem q284 : (Jvm.Cond.code ({ cls := "LinesTouched", name := "leastOf", desc := "(I)I" } : Jvm.MethodName) prog_1_method_5_code (1 : Nat) (Option.some Jvm.ClassFile.FieldType.int)) ∈ lw_all := lw_g (lw_at lw_m1 179 rfl) rfl
theorem q285 : (Jvm.Cond.methodLink "LinesTouched" (88 : Nat) ({ cls := "java/lang/Integer", name := "numberOfTrailingZeros", desc := "(I)I" } : Jvm.MethodName)) ∈ lw_all := lw_g (lw_at lw_m1 180 rfl) rfl
theorem q289 : (Jvm.Cond.methodLink "LinesTouched" (310 : Nat) ({ cls := "LinesTouched", name := "order", desc := "(I)I" } : Jvm.MethodName)) ∈ lw_all := lw_g (lw_at lw_m1 184 rfl) rfl
theorem q290 : (Jvm.Cond.static ({ cls := "LinesTouched", name := "order", desc := "(I)I" } : Jvm.MethodName)) ∈ lw_all := lw_g (lw_at lw_m1 185 rfl) rfl
theorem q291 : (Jvm.Cond.code ({ cls := "LinesTouched", name := "order", desc := "(I)I" } : Jvm.MethodName) prog_1_method_27_code (1 : Nat) (Option.some Jvm.ClassFile.FieldType.int)) ∈ lw_all := lw_g (lw_at lw_m1 186 rfl) rfl
theorem q292 : (Jvm.Cond.methodLink "LinesTouched" (313 : Nat) ({ cls := "LinesTouched", name := "inBy", desc := "(II)J" } : Jvm.MethodName)) ∈ lw_all := lw_g (lw_at lw_m1 187 rfl) rfl
theorem q293 : (Jvm.Cond.static ({ cls := "LinesTouched", name := "inBy", desc := "(II)J" } : Jvm.MethodName)) ∈ lw_all := lw_g (lw_at lw_m1 188 rfl) rfl
theorem q294 : (Jvm.Cond.code ({ cls := "LinesTouched", name := "inBy", desc := "(II)J" } : Jvm.MethodName) prog_1_method_28_code (2 : Nat) (Option.some Jvm.ClassFile.FieldType.long)) ∈ lw_all := lw_g (lw_at lw_m1 189 rfl) rfl
theorem q295 : (Jvm.Cond.methodLink "LinesTouched" (317 : Nat) ({ cls := "LinesTouched", name := "outBy", desc := "(II)J" } : Jvm.MethodName)) ∈ lw_all := lw_g (lw_at lw_m1 190 rfl) rfl
theorem q296 : (Jvm.Cond.static ({ cls := "LinesTouched", name := "outBy", desc := "(II)J" } : Jvm.MethodName)) ∈ lw_all := lw_g (lw_at lw_m1 191 rfl) rfl
theorem q297 : (Jvm.Cond.code ({ cls := "LinesTouched", name := "outBy", desc := "(II)J" } : Jvm.MethodName) prog_1_method_29_code (2 : Nat) (Option.some Jvm.ClassFile.FieldType.long)) ∈ lw_all := lw_g (lw_at lw_m1 192 rfl) rfl
theorem q298 : (Jvm.Cond.methodLink "LinesTouched" (323 : Nat) ({ cls := "LinesTouched", name := "with", desc := "(I)I" } : Jvm.MethodName)) ∈ lw_all := lw_g (lw_at lw_m1 193 rfl) rfl
theorem q299 : (Jvm.Cond.privateMethod ({ cls := "LinesTouched", name := "with", desc := "(I)I" } : Jvm.MethodName)) ∈ lw_tbl := lw_at lw_m1 194 rfl
theorem q300 : (Jvm.Cond.instanceMethod ({ cls := "LinesTouched", name := "with", desc := "(I)I" } : Jvm.MethodName)) ∈ lw_all := lw_g (lw_at lw_m1 195 rfl) rfl
theorem q301 : (Jvm.Cond.code ({ cls := "LinesTouched", name := "with", desc := "(I)I" } : Jvm.MethodName) prog_1_method_35_code (4 : Nat) (Option.some Jvm.ClassFile.FieldType.int)) ∈ lw_all := lw_g (lw_at lw_m1 196 rfl) rfl
theorem q303 : (Jvm.Cond.classLink "LinesTouched" (53 : Nat) "LinesTouched$Node") ∈ lw_all := lw_g (lw_at lw_m1 198 rfl) rfl
theorem q305 : (Jvm.Cond.classLink "LinesTouched" (59 : Nat) "java/util/LinkedHashMap") ∈ lw_all := lw_g (lw_at lw_m1 200 rfl) rfl
theorem q307 : (Jvm.Cond.methodLink "LinesTouched" (61 : Nat) ({ cls := "java/util/LinkedHashMap", name := "<init>", desc := "()V" } : Jvm.MethodName)) ∈ lw_all := lw_g (lw_at lw_m1 202 rfl) rfl
theorem q367 : (Jvm.Cond.classLink "LinesTouched" (72 : Nat) "LinesTouched$Slot") ∈ lw_all := lw_g (lw_at lw_m2 22 rfl) rfl
theorem q370 : (Jvm.Cond.methodLinkNest "LinesTouched" (74 : Nat) ({ cls := "LinesTouched$Slot", name := "<init>", desc := "()V" } : Jvm.MethodName) "LinesTouched") ∈ lw_tbl := lw_at lw_m2 25 rfl
theorem q374 : (Jvm.Cond.fieldLinkNest "LinesTouched" (384 : Nat) "LinesTouched$Slot" "held" "Ljava/lang/Object;" "LinesTouched") ∈ lw_tbl := lw_at lw_m2 29 rfl
theorem q378 : (Jvm.Cond.fieldLink "LinesTouched" (10 : Nat) "LinesTouched" "net" "LLinesTouched$Net;") ∈ lw_all := lw_g (lw_at lw_m2 33 rfl) rfl
theorem q379 : (Jvm.Cond.fieldLink "LinesTouched" (16 : Nat) "LinesTouched" "kept" "LLinesTouched$Net;") ∈ lw_all := lw_g (lw_at lw_m2 34 rfl) rfl
theorem q380 : (Jvm.Cond.fieldLink "LinesTouched" (19 : Nat) "LinesTouched" "aside" "LLinesTouched$Net;") ∈ lw_all := lw_g (lw_at lw_m2 35 rfl) rfl
theorem q381 : (Jvm.Cond.fieldLink "LinesTouched" (668 : Nat) "LinesTouched" "isKept" "Z") ∈ lw_all := lw_g (lw_at lw_m2 36 rfl) rfl
theorem q382 : (Jvm.Cond.fieldLink "LinesTouched" (263 : Nat) "LinesTouched" "bareMany" "I") ∈ lw_all := lw_g (lw_at lw_m2 37 rfl) rfl
theorem q383 : (Jvm.Cond.fieldLink "LinesTouched" (266 : Nat) "LinesTouched" "bareMost" "I") ∈ lw_all := lw_g (lw_at lw_m2 38 rfl) rfl
theorem q384 : (Jvm.Cond.fieldLink "LinesTouched" (269 : Nat) "LinesTouched" "bareFirst" "I") ∈ lw_all := lw_g (lw_at lw_m2 39 rfl) rfl
theorem q385 : (Jvm.Cond.fieldLink "LinesTouched" (22 : Nat) "LinesTouched" "pairOf" "[I") ∈ lw_all := lw_g (lw_at lw_m2 40 rfl) rfl
theorem q386 : (Jvm.Cond.fieldLink "LinesTouched" (284 : Nat) "LinesTouched" "asked" "I") ∈ lw_all := lw_g (lw_at lw_m2 41 rfl) rfl
theorem q387 : (Jvm.Cond.fieldLink "LinesTouched" (26 : Nat) "LinesTouched" "halves" "[B") ∈ lw_all := lw_g (lw_at lw_m2 42 rfl) rfl
theorem q388 : (Jvm.Cond.fieldLink "LinesTouched" (39 : Nat) "LinesTouched" "rules" "[LLinesTouched$Rule;") ∈ lw_all := lw_g (lw_at lw_m2 43 rfl) rfl
theorem q389 : (Jvm.Cond.fieldLink "LinesTouched" (45 : Nat) "LinesTouched" "rounds" "[LLinesTouched$Round;") ∈ lw_all := lw_g (lw_at lw_m2 44 rfl) rfl
theorem q390 : (Jvm.Cond.fieldLink "LinesTouched" (360 : Nat) "LinesTouched" "roundMany" "I") ∈ lw_all := lw_g (lw_at lw_m2 45 rfl) rfl
theorem q391 : (Jvm.Cond.fieldLink "LinesTouched" (351 : Nat) "LinesTouched" "kernelLeft" "I") ∈ lw_all := lw_g (lw_at lw_m2 46 rfl) rfl
theorem q392 : (Jvm.Cond.fieldLink "LinesTouched" (354 : Nat) "LinesTouched" "kernelTaken" "I") ∈ lw_all := lw_g (lw_at lw_m2 47 rfl) rfl
theorem q393 : (Jvm.Cond.fieldLink "LinesTouched" (357 : Nat) "LinesTouched" "kernelK" "I") ∈ lw_all := lw_g (lw_at lw_m2 48 rfl) rfl
theorem q394 : (Jvm.Cond.fieldLink "LinesTouched" (49 : Nat) "LinesTouched" "bestPack" "[S") ∈ lw_all := lw_g (lw_at lw_m2 49 rfl) rfl
theorem q395 : (Jvm.Cond.fieldLink "LinesTouched" (55 : Nat) "LinesTouched" "nodeRow" "[LLinesTouched$Node;") ∈ lw_all := lw_g (lw_at lw_m2 50 rfl) rfl
theorem q396 : (Jvm.Cond.fieldLink "LinesTouched" (419 : Nat) "LinesTouched" "nodeMany" "I") ∈ lw_all := lw_g (lw_at lw_m2 51 rfl) rfl
theorem q397 : (Jvm.Cond.fieldLink "LinesTouched" (405 : Nat) "LinesTouched" "left" "I") ∈ lw_all := lw_g (lw_at lw_m2 52 rfl) rfl
theorem q398 : (Jvm.Cond.fieldLink "LinesTouched" (408 : Nat) "LinesTouched" "taken" "I") ∈ lw_all := lw_g (lw_at lw_m2 53 rfl) rfl
theorem q399 : (Jvm.Cond.fieldLink "LinesTouched" (409 : Nat) "LinesTouched" "may" "I") ∈ lw_all := lw_g (lw_at lw_m2 54 rfl) rfl
theorem q400 : (Jvm.Cond.fieldLink "LinesTouched" (466 : Nat) "LinesTouched" "readAt" "I") ∈ lw_all := lw_g (lw_at lw_m2 55 rfl) rfl
theorem q401 : (Jvm.Cond.fieldLink "LinesTouched" (478 : Nat) "LinesTouched" "firstTwo" "I") ∈ lw_all := lw_g (lw_at lw_m2 56 rfl) rfl
theorem q402 : (Jvm.Cond.fieldLink "LinesTouched" (62 : Nat) "LinesTouched" "paid" "Ljava/util/LinkedHashMap;") ∈ lw_all := lw_g (lw_at lw_m2 57 rfl) rfl
theorem q403 : (Jvm.Cond.fieldLink "LinesTouched" (66 : Nat) "LinesTouched" "rest" "[I") ∈ lw_all := lw_g (lw_at lw_m2 58 rfl) rfl
theorem q404 : (Jvm.Cond.fieldLink "LinesTouched" (69 : Nat) "LinesTouched" "tape" "[B") ∈ lw_all := lw_g (lw_at lw_m2 59 rfl) rfl
theorem q405 : (Jvm.Cond.fieldLink "LinesTouched" (168 : Nat) "LinesTouched" "taped" "I") ∈ lw_all := lw_g (lw_at lw_m2 60 rfl) rfl
theorem q406 : (Jvm.Cond.fieldLink "LinesTouched" (568 : Nat) "LinesTouched" "twigs" "[LLinesTouched$Twig;") ∈ lw_all := lw_g (lw_at lw_m2 61 rfl) rfl
theorem q407 : (Jvm.Cond.fieldLink "LinesTouched" (174 : Nat) "LinesTouched" "nodes" "I") ∈ lw_all := lw_g (lw_at lw_m2 62 rfl) rfl
theorem q408 : (Jvm.Cond.fieldLink "LinesTouched" (75 : Nat) "LinesTouched" "sheets" "[LLinesTouched$Slot;") ∈ lw_all := lw_g (lw_at lw_m2 63 rfl) rfl
theorem q409 : (Jvm.Cond.fieldLink "LinesTouched" (79 : Nat) "LinesTouched" "shelves" "[LLinesTouched$Slot;") ∈ lw_all := lw_g (lw_at lw_m2 64 rfl) rfl
theorem q410 : (Jvm.Cond.laysFinal "LinesTouched" "LinesTouched" "net" "LLinesTouched$Net;") ∈ lw_all := lw_g (lw_at lw_m2 65 rfl) rfl
theorem q411 : (Jvm.Cond.soleField "LinesTouched" "net") ∈ lw_all := lw_g (lw_at lw_m2 66 rfl) rfl
theorem q412 : (Jvm.Cond.laysFinal "LinesTouched" "LinesTouched" "kept" "LLinesTouched$Net;") ∈ lw_all := lw_g (lw_at lw_m2 67 rfl) rfl
theorem q413 : (Jvm.Cond.soleField "LinesTouched" "kept") ∈ lw_all := lw_g (lw_at lw_m2 68 rfl) rfl
theorem q414 : (Jvm.Cond.laysFinal "LinesTouched" "LinesTouched" "aside" "LLinesTouched$Net;") ∈ lw_all := lw_g (lw_at lw_m2 69 rfl) rfl
theorem q415 : (Jvm.Cond.soleField "LinesTouched" "aside") ∈ lw_all := lw_g (lw_at lw_m2 70 rfl) rfl
theorem q416 : (Jvm.Cond.lays "LinesTouched" "LinesTouched" "isKept" "Z") ∈ lw_all := lw_g (lw_at lw_m2 71 rfl) rfl
theorem q417 : (Jvm.Cond.soleField "LinesTouched" "isKept") ∈ lw_all := lw_g (lw_at lw_m2 72 rfl) rfl
theorem q418 : (Jvm.Cond.lays "LinesTouched" "LinesTouched" "bareMany" "I") ∈ lw_all := lw_g (lw_at lw_m2 73 rfl) rfl
theorem q419 : (Jvm.Cond.soleField "LinesTouched" "bareMany") ∈ lw_all := lw_g (lw_at lw_m2 74 rfl) rfl
theorem q420 : (Jvm.Cond.lays "LinesTouched" "LinesTouched" "bareMost" "I") ∈ lw_all := lw_g (lw_at lw_m2 75 rfl) rfl
theorem q421 : (Jvm.Cond.soleField "LinesTouched" "bareMost") ∈ lw_all := lw_g (lw_at lw_m2 76 rfl) rfl
theorem q422 : (Jvm.Cond.lays "LinesTouched" "LinesTouched" "bareFirst" "I") ∈ lw_all := lw_g (lw_at lw_m2 77 rfl) rfl
theorem q423 : (Jvm.Cond.soleField "LinesTouched" "bareFirst") ∈ lw_all := lw_g (lw_at lw_m2 78 rfl) rfl
theorem q424 : (Jvm.Cond.laysFinal "LinesTouched" "LinesTouched" "pairOf" "[I") ∈ lw_all := lw_g (lw_at lw_m2 79 rfl) rfl
theorem q425 : (Jvm.Cond.soleField "LinesTouched" "pairOf") ∈ lw_all := lw_g (lw_at lw_m2 80 rfl) rfl
theorem q426 : (Jvm.Cond.lays "LinesTouched" "LinesTouched" "asked" "I") ∈ lw_all := lw_g (lw_at lw_m2 81 rfl) rfl
theorem q427 : (Jvm.Cond.soleField "LinesTouched" "asked") ∈ lw_all := lw_g (lw_at lw_m2 82 rfl) rfl
theorem q428 : (Jvm.Cond.laysFinal "LinesTouched" "LinesTouched" "halves" "[B") ∈ lw_all := lw_g (lw_at lw_m2 83 rfl) rfl
theorem q429 : (Jvm.Cond.soleField "LinesTouched" "halves") ∈ lw_all := lw_g (lw_at lw_m2 84 rfl) rfl
theorem q430 : (Jvm.Cond.laysFinal "LinesTouched" "LinesTouched" "rules" "[LLinesTouched$Rule;") ∈ lw_all := lw_g (lw_at lw_m2 85 rfl) rfl
theorem q431 : (Jvm.Cond.soleField "LinesTouched" "rules") ∈ lw_all := lw_g (lw_at lw_m2 86 rfl) rfl
theorem q432 : (Jvm.Cond.laysFinal "LinesTouched" "LinesTouched" "rounds" "[LLinesTouched$Round;") ∈ lw_all := lw_g (lw_at lw_m2 87 rfl) rfl
theorem q433 : (Jvm.Cond.soleField "LinesTouched" "rounds") ∈ lw_all := lw_g (lw_at lw_m2 88 rfl) rfl
theorem q434 : (Jvm.Cond.lays "LinesTouched" "LinesTouched" "roundMany" "I") ∈ lw_all := lw_g (lw_at lw_m2 89 rfl) rfl
theorem q435 : (Jvm.Cond.soleField "LinesTouched" "roundMany") ∈ lw_all := lw_g (lw_at lw_m2 90 rfl) rfl
theorem q436 : (Jvm.Cond.lays "LinesTouched" "LinesTouched" "kernelLeft" "I") ∈ lw_all := lw_g (lw_at lw_m2 91 rfl) rfl
theorem q437 : (Jvm.Cond.soleField "LinesTouched" "kernelLeft") ∈ lw_all := lw_g (lw_at lw_m2 92 rfl) rfl
theorem q438 : (Jvm.Cond.lays "LinesTouched" "LinesTouched" "kernelTaken" "I") ∈ lw_all := lw_g (lw_at lw_m2 93 rfl) rfl
theorem q439 : (Jvm.Cond.soleField "LinesTouched" "kernelTaken") ∈ lw_all := lw_g (lw_at lw_m2 94 rfl) rfl
theorem q440 : (Jvm.Cond.lays "LinesTouched" "LinesTouched" "kernelK" "I") ∈ lw_all := lw_g (lw_at lw_m2 95 rfl) rfl
theorem q441 : (Jvm.Cond.soleField "LinesTouched" "kernelK") ∈ lw_all := lw_g (lw_at lw_m2 96 rfl) rfl
theorem q442 : (Jvm.Cond.laysFinal "LinesTouched" "LinesTouched" "bestPack" "[S") ∈ lw_all := lw_g (lw_at lw_m2 97 rfl) rfl
theorem q443 : (Jvm.Cond.soleField "LinesTouched" "bestPack") ∈ lw_all := lw_g (lw_at lw_m2 98 rfl) rfl
theorem q444 : (Jvm.Cond.laysFinal "LinesTouched" "LinesTouched" "nodeRow" "[LLinesTouched$Node;") ∈ lw_all := lw_g (lw_at lw_m2 99 rfl) rfl
theorem q445 : (Jvm.Cond.soleField "LinesTouched" "nodeRow") ∈ lw_all := lw_g (lw_at lw_m2 100 rfl) rfl
theorem q446 : (Jvm.Cond.lays "LinesTouched" "LinesTouched" "nodeMany" "I") ∈ lw_all := lw_g (lw_at lw_m2 101 rfl) rfl
theorem q447 : (Jvm.Cond.soleField "LinesTouched" "nodeMany") ∈ lw_all := lw_g (lw_at lw_m2 102 rfl) rfl
theorem q448 : (Jvm.Cond.lays "LinesTouched" "LinesTouched" "left" "I") ∈ lw_all := lw_g (lw_at lw_m2 103 rfl) rfl
theorem q449 : (Jvm.Cond.soleField "LinesTouched" "left") ∈ lw_all := lw_g (lw_at lw_m2 104 rfl) rfl
theorem q450 : (Jvm.Cond.lays "LinesTouched" "LinesTouched" "taken" "I") ∈ lw_all := lw_g (lw_at lw_m2 105 rfl) rfl
theorem q451 : (Jvm.Cond.soleField "LinesTouched" "taken") ∈ lw_all := lw_g (lw_at lw_m2 106 rfl) rfl
theorem q452 : (Jvm.Cond.lays "LinesTouched" "LinesTouched" "may" "I") ∈ lw_all := lw_g (lw_at lw_m2 107 rfl) rfl
theorem q453 : (Jvm.Cond.soleField "LinesTouched" "may") ∈ lw_all := lw_g (lw_at lw_m2 108 rfl) rfl
theorem q454 : (Jvm.Cond.lays "LinesTouched" "LinesTouched" "readAt" "I") ∈ lw_all := lw_g (lw_at lw_m2 109 rfl) rfl
theorem q455 : (Jvm.Cond.soleField "LinesTouched" "readAt") ∈ lw_all := lw_g (lw_at lw_m2 110 rfl) rfl
theorem q456 : (Jvm.Cond.lays "LinesTouched" "LinesTouched" "firstTwo" "I") ∈ lw_all := lw_g (lw_at lw_m2 111 rfl) rfl
theorem q457 : (Jvm.Cond.soleField "LinesTouched" "firstTwo") ∈ lw_all := lw_g (lw_at lw_m2 112 rfl) rfl
theorem q458 : (Jvm.Cond.laysFinal "LinesTouched" "LinesTouched" "paid" "Ljava/util/LinkedHashMap;") ∈ lw_all := lw_g (lw_at lw_m2 113 rfl) rfl
theorem q459 : (Jvm.Cond.soleField "LinesTouched" "paid") ∈ lw_all := lw_g (lw_at lw_m2 114 rfl) rfl
theorem q460 : (Jvm.Cond.laysFinal "LinesTouched" "LinesTouched" "rest" "[I") ∈ lw_all := lw_g (lw_at lw_m2 115 rfl) rfl
theorem q461 : (Jvm.Cond.soleField "LinesTouched" "rest") ∈ lw_all := lw_g (lw_at lw_m2 116 rfl) rfl
theorem q462 : (Jvm.Cond.laysFinal "LinesTouched" "LinesTouched" "tape" "[B") ∈ lw_all := lw_g (lw_at lw_m2 117 rfl) rfl
theorem q463 : (Jvm.Cond.soleField "LinesTouched" "tape") ∈ lw_all := lw_g (lw_at lw_m2 118 rfl) rfl
theorem q464 : (Jvm.Cond.lays "LinesTouched" "LinesTouched" "taped" "I") ∈ lw_all := lw_g (lw_at lw_m2 119 rfl) rfl
theorem q465 : (Jvm.Cond.soleField "LinesTouched" "taped") ∈ lw_all := lw_g (lw_at lw_m2 120 rfl) rfl
theorem q466 : (Jvm.Cond.lays "LinesTouched" "LinesTouched" "twigs" "[LLinesTouched$Twig;") ∈ lw_all := lw_g (lw_at lw_m2 121 rfl) rfl
theorem q467 : (Jvm.Cond.soleField "LinesTouched" "twigs") ∈ lw_all := lw_g (lw_at lw_m2 122 rfl) rfl
theorem q468 : (Jvm.Cond.lays "LinesTouched" "LinesTouched" "nodes" "I") ∈ lw_all := lw_g (lw_at lw_m2 123 rfl) rfl
theorem q469 : (Jvm.Cond.soleField "LinesTouched" "nodes") ∈ lw_all := lw_g (lw_at lw_m2 124 rfl) rfl
theorem q470 : (Jvm.Cond.laysFinal "LinesTouched" "LinesTouched" "sheets" "[LLinesTouched$Slot;") ∈ lw_all := lw_g (lw_at lw_m2 125 rfl) rfl
theorem q471 : (Jvm.Cond.soleField "LinesTouched" "sheets") ∈ lw_all := lw_g (lw_at lw_m2 126 rfl) rfl
theorem q472 : (Jvm.Cond.laysFinal "LinesTouched" "LinesTouched" "shelves" "[LLinesTouched$Slot;") ∈ lw_all := lw_g (lw_at lw_m2 127 rfl) rfl
theorem q473 : (Jvm.Cond.soleField "LinesTouched" "shelves") ∈ lw_all := lw_g (lw_at lw_m2 128 rfl) rfl
theorem q474 : (Jvm.Cond.superclass "LinesTouched" "java/lang/Object") ∈ lw_all := lw_g (lw_at lw_m2 129 rfl) rfl
theorem q476 : (Jvm.Cond.instanceMethod ({ cls := "LinesTouched", name := "point", desc := "(II)I" } : Jvm.MethodName)) ∈ lw_all := lw_g (lw_at lw_m2 131 rfl) rfl
theorem q477 : (Jvm.Cond.selects "LinesTouched" ({ cls := "LinesTouched", name := "point", desc := "(II)I" } : Jvm.MethodName) ({ cls := "LinesTouched", name := "point", desc := "(II)I" } : Jvm.MethodName)) ∈ lw_all := lw_g (lw_at lw_m2 132 rfl) rfl
theorem q478 : (Jvm.Cond.code ({ cls := "LinesTouched", name := "point", desc := "(II)I" } : Jvm.MethodName) prog_1_method_8_code (3 : Nat) (Option.some Jvm.ClassFile.FieldType.int)) ∈ lw_all := lw_g (lw_at lw_m2 133 rfl) rfl
theorem q479 : (Jvm.Cond.methodLink "LinesTouched" (111 : Nat) ({ cls := "LinesTouched", name := "in", desc := "(III)Z" } : Jvm.MethodName)) ∈ lw_all := lw_g (lw_at lw_m2 134 rfl) rfl
theorem q480 : (Jvm.Cond.static ({ cls := "LinesTouched", name := "in", desc := "(III)Z" } : Jvm.MethodName)) ∈ lw_all := lw_g (lw_at lw_m2 135 rfl) rfl
theorem q481 : (Jvm.Cond.code ({ cls := "LinesTouched", name := "in", desc := "(III)Z" } : Jvm.MethodName) prog_1_method_2_code (3 : Nat) (Option.some Jvm.ClassFile.FieldType.boolean)) ∈ lw_all := lw_g (lw_at lw_m2 136 rfl) rfl
theorem q482 : (Jvm.Cond.methodLink "LinesTouched" (119 : Nat) ({ cls := "LinesTouched$Net", name := "comes", desc := "(II)I" } : Jvm.MethodName)) ∈ lw_all := lw_g (lw_at lw_m2 137 rfl) rfl
theorem q487 : (Jvm.Cond.static ({ cls := "LinesTouched", name := "made", desc := "(III)LLinesTouched$Point;" } : Jvm.MethodName)) ∈ lw_all := lw_g (lw_at lw_m2 142 rfl) rfl
theorem q488 : (Jvm.Cond.code ({ cls := "LinesTouched", name := "made", desc := "(III)LLinesTouched$Point;" } : Jvm.MethodName) prog_1_method_6_code (3 : Nat) (Option.some (Jvm.ClassFile.FieldType.object "LinesTouched$Point"))) ∈ lw_all := lw_g (lw_at lw_m2 143 rfl) rfl
theorem q489 : (Jvm.Cond.classLink "LinesTouched" (91 : Nat) "LinesTouched$Point") ∈ lw_all := lw_g (lw_at lw_m2 144 rfl) rfl
theorem q491 : (Jvm.Cond.methodLink "LinesTouched" (93 : Nat) ({ cls := "LinesTouched$Point", name := "<init>", desc := "(II)V" } : Jvm.MethodName)) ∈ lw_all := lw_g (lw_at lw_m2 146 rfl) rfl
theorem q498 : (Jvm.Cond.fieldLink "LinesTouched" (611 : Nat) "LinesTouched$Point" "number" "I") ∈ lw_all := lw_g (lw_at lw_m2 153 rfl) rfl
theorem q500 : (Jvm.Cond.fieldLink "LinesTouched" (146 : Nat) "LinesTouched$Point" "weight" "I") ∈ lw_all := lw_g (lw_at lw_m2 155 rfl) rfl
theorem q506 : (Jvm.Cond.classLink "LinesTouched" (96 : Nat) "LinesTouched$Toll") ∈ lw_all := lw_g (lw_at lw_m2 161 rfl) rfl
theorem q508 : (Jvm.Cond.methodLink "LinesTouched" (98 : Nat) ({ cls := "LinesTouched$Toll", name := "<init>", desc := "(II)V" } : Jvm.MethodName)) ∈ lw_all := lw_g (lw_at lw_m2 163 rfl) rfl
theorem q515 : (Jvm.Cond.classLink "LinesTouched" (99 : Nat) "LinesTouched$Club") ∈ lw_all := lw_g (lw_at lw_m2 170 rfl) rfl
theorem q517 : (Jvm.Cond.methodLink "LinesTouched" (101 : Nat) ({ cls := "LinesTouched$Club", name := "<init>", desc := "(II)V" } : Jvm.MethodName)) ∈ lw_all := lw_g (lw_at lw_m2 172 rfl) rfl
theorem q524 : (Jvm.Cond.classLink "LinesTouched" (102 : Nat) "LinesTouched$Keeper") ∈ lw_all := lw_g (lw_at lw_m2 179 rfl) rfl
theorem q526 : (Jvm.Cond.methodLink "LinesTouched" (104 : Nat) ({ cls := "LinesTouched$Keeper", name := "<init>", desc := "(II)V" } : Jvm.MethodName)) ∈ lw_all := lw_g (lw_at lw_m2 181 rfl) rfl
theorem q533 : (Jvm.Cond.classLink "LinesTouched" (105 : Nat) "LinesTouched$Guild") ∈ lw_all := lw_g (lw_at lw_m2 188 rfl) rfl
theorem q535 : (Jvm.Cond.methodLink "LinesTouched" (107 : Nat) ({ cls := "LinesTouched$Guild", name := "<init>", desc := "(II)V" } : Jvm.MethodName)) ∈ lw_all := lw_g (lw_at lw_m2 190 rfl) rfl
theorem q542 : (Jvm.Cond.classLink "LinesTouched" (108 : Nat) "LinesTouched$Warden") ∈ lw_all := lw_g (lw_at lw_m2 197 rfl) rfl
theorem q544 : (Jvm.Cond.methodLink "LinesTouched" (110 : Nat) ({ cls := "LinesTouched$Warden", name := "<init>", desc := "(II)V" } : Jvm.MethodName)) ∈ lw_all := lw_g (lw_at lw_m2 199 rfl) rfl
theorem q552 : (Jvm.Cond.instanceMethod ({ cls := "LinesTouched", name := "line", desc := "(III)I" } : Jvm.MethodName)) ∈ lw_all := lw_g (lw_at lw_m2 207 rfl) rfl
theorem q553 : (Jvm.Cond.selects "LinesTouched" ({ cls := "LinesTouched", name := "line", desc := "(III)I" } : Jvm.MethodName) ({ cls := "LinesTouched", name := "line", desc := "(III)I" } : Jvm.MethodName)) ∈ lw_all := lw_g (lw_at lw_m2 208 rfl) rfl
theorem q554 : (Jvm.Cond.code ({ cls := "LinesTouched", name := "line", desc := "(III)I" } : Jvm.MethodName) prog_1_method_10_code (5 : Nat) (Option.some Jvm.ClassFile.FieldType.int)) ∈ lw_all := lw_g (lw_at lw_m2 209 rfl) rfl
theorem q555 : (Jvm.Cond.methodLink "LinesTouched" (127 : Nat) ({ cls := "LinesTouched", name := "areTwo", desc := "(II)Z" } : Jvm.MethodName)) ∈ lw_all := lw_g (lw_at lw_m2 210 rfl) rfl
theorem q556 : (Jvm.Cond.privateMethod ({ cls := "LinesTouched", name := "areTwo", desc := "(II)Z" } : Jvm.MethodName)) ∈ lw_tbl := lw_at lw_m2 211 rfl
theorem q557 : (Jvm.Cond.instanceMethod ({ cls := "LinesTouched", name := "areTwo", desc := "(II)Z" } : Jvm.MethodName)) ∈ lw_all := lw_g (lw_at lw_m2 212 rfl) rfl
theorem q558 : (Jvm.Cond.code ({ cls := "LinesTouched", name := "areTwo", desc := "(II)Z" } : Jvm.MethodName) prog_1_method_9_code (3 : Nat) (Option.some Jvm.ClassFile.FieldType.boolean)) ∈ lw_all := lw_g (lw_at lw_m2 213 rfl) rfl
theorem q559 : (Jvm.Cond.methodLink "LinesTouched" (123 : Nat) ({ cls := "LinesTouched$Net", name := "isPoint", desc := "(I)Z" } : Jvm.MethodName)) ∈ lw_all := lw_g (lw_at lw_m2 214 rfl) rfl
theorem q564 : (Jvm.Cond.methodLink "LinesTouched" (131 : Nat) ({ cls := "LinesTouched$Net", name := "areJoined", desc := "(II)Z" } : Jvm.MethodName)) ∈ lw_all := lw_g (lw_at lw_m2 219 rfl) rfl
theorem q569 : (Jvm.Cond.methodLink "LinesTouched" (134 : Nat) ({ cls := "LinesTouched$Net", name := "joins", desc := "(IIZ)V" } : Jvm.MethodName)) ∈ lw_all := lw_g (lw_at lw_m2 224 rfl) rfl
theorem q574 : (Jvm.Cond.instanceMethod ({ cls := "LinesTouched", name := "pointOf", desc := "(II)I" } : Jvm.MethodName)) ∈ lw_all := lw_g (lw_at lw_m2 229 rfl) rfl
theorem q575 : (Jvm.Cond.selects "LinesTouched" ({ cls := "LinesTouched", name := "pointOf", desc := "(II)I" } : Jvm.MethodName) ({ cls := "LinesTouched", name := "pointOf", desc := "(II)I" } : Jvm.MethodName)) ∈ lw_all := lw_g (lw_at lw_m2 230 rfl) rfl
theorem q576 : (Jvm.Cond.code ({ cls := "LinesTouched", name := "pointOf", desc := "(II)I" } : Jvm.MethodName) prog_1_method_11_code (3 : Nat) (Option.some Jvm.ClassFile.FieldType.int)) ∈ lw_all := lw_g (lw_at lw_m2 231 rfl) rfl
theorem q577 : (Jvm.Cond.methodLink "LinesTouched" (142 : Nat) ({ cls := "LinesTouched$Point", name := "kind", desc := "()I" } : Jvm.MethodName)) ∈ lw_all := lw_g (lw_at lw_m2 232 rfl) rfl
theorem q600 : (Jvm.Cond.methodLink "LinesTouched" (149 : Nat) ({ cls := "LinesTouched$Net", name := "cost", desc := "(I)I" } : Jvm.MethodName)) ∈ lw_all := lw_g (lw_at lw_m3 15 rfl) rfl
theorem q637 : (Jvm.Cond.methodLink "LinesTouched" (155 : Nat) ({ cls := "LinesTouched", name := "ones", desc := "(I)I" } : Jvm.MethodName)) ∈ lw_all := lw_g (lw_at lw_m3 52 rfl) rfl
theorem q639 : (Jvm.Cond.instanceMethod ({ cls := "LinesTouched", name := "change", desc := "(III)I" } : Jvm.MethodName)) ∈ lw_all := lw_g (lw_at lw_m3 54 rfl) rfl
theorem q640 : (Jvm.Cond.selects "LinesTouched" ({ cls := "LinesTouched", name := "change", desc := "(III)I" } : Jvm.MethodName) ({ cls := "LinesTouched", name := "change", desc := "(III)I" } : Jvm.MethodName)) ∈ lw_all := lw_g (lw_at lw_m3 55 rfl) rfl
theorem q641 : (Jvm.Cond.code ({ cls := "LinesTouched", name := "change", desc := "(III)I" } : Jvm.MethodName) prog_1_method_12_code (5 : Nat) (Option.some Jvm.ClassFile.FieldType.int)) ∈ lw_all := lw_g (lw_at lw_m3 56 rfl) rfl
theorem q642 : (Jvm.Cond.methodLink "LinesTouched" (158 : Nat) ({ cls := "LinesTouched", name := "made", desc := "(III)LLinesTouched$Point;" } : Jvm.MethodName)) ∈ lw_all := lw_g (lw_at lw_m3 57 rfl) rfl
theorem q644 : (Jvm.Cond.instanceMethod ({ cls := "LinesTouched", name := "count", desc := "(I)I" } : Jvm.MethodName)) ∈ lw_all := lw_g (lw_at lw_m3 59 rfl) rfl
theorem q645 : (Jvm.Cond.selects "LinesTouched" ({ cls := "LinesTouched", name := "count", desc := "(I)I" } : Jvm.MethodName) ({ cls := "LinesTouched", name := "count", desc := "(I)I" } : Jvm.MethodName)) ∈ lw_all := lw_g (lw_at lw_m3 60 rfl) rfl
theorem q646 : (Jvm.Cond.code ({ cls := "LinesTouched", name := "count", desc := "(I)I" } : Jvm.MethodName) prog_1_method_15_code (2 : Nat) (Option.some Jvm.ClassFile.FieldType.int)) ∈ lw_all := lw_g (lw_at lw_m3 61 rfl) rfl
theorem q647 : (Jvm.Cond.methodLink "LinesTouched" (162 : Nat) ({ cls := "LinesTouched", name := "lineCount", desc := "()I" } : Jvm.MethodName)) ∈ lw_all := lw_g (lw_at lw_m3 62 rfl) rfl
theorem q648 : (Jvm.Cond.privateMethod ({ cls := "LinesTouched", name := "lineCount", desc := "()I" } : Jvm.MethodName)) ∈ lw_tbl := lw_at lw_m3 63 rfl
theorem q649 : (Jvm.Cond.instanceMethod ({ cls := "LinesTouched", name := "lineCount", desc := "()I" } : Jvm.MethodName)) ∈ lw_all := lw_g (lw_at lw_m3 64 rfl) rfl
theorem q650 : (Jvm.Cond.code ({ cls := "LinesTouched", name := "lineCount", desc := "()I" } : Jvm.MethodName) prog_1_method_13_code (3 : Nat) (Option.some Jvm.ClassFile.FieldType.int)) ∈ lw_all := lw_g (lw_at lw_m3 65 rfl) rfl
theorem q651 : (Jvm.Cond.methodLink "LinesTouched" (165 : Nat) ({ cls := "LinesTouched", name := "lonely", desc := "()I" } : Jvm.MethodName)) ∈ lw_all := lw_g (lw_at lw_m3 66 rfl) rfl
theorem q652 : (Jvm.Cond.privateMethod ({ cls := "LinesTouched", name := "lonely", desc := "()I" } : Jvm.MethodName)) ∈ lw_tbl := lw_at lw_m3 67 rfl
theorem q653 : (Jvm.Cond.instanceMethod ({ cls := "LinesTouched", name := "lonely", desc := "()I" } : Jvm.MethodName)) ∈ lw_all := lw_g (lw_at lw_m3 68 rfl) rfl
theorem q654 : (Jvm.Cond.code ({ cls := "LinesTouched", name := "lonely", desc := "()I" } : Jvm.MethodName) prog_1_method_14_code (3 : Nat) (Option.some Jvm.ClassFile.FieldType.int)) ∈ lw_all := lw_g (lw_at lw_m3 69 rfl) rfl
theorem q656 : (Jvm.Cond.instanceMethod ({ cls := "LinesTouched", name := "isCover", desc := "(I)I" } : Jvm.MethodName)) ∈ lw_all := lw_g (lw_at lw_m3 71 rfl) rfl
theorem q657 : (Jvm.Cond.selects "LinesTouched" ({ cls := "LinesTouched", name := "isCover", desc := "(I)I" } : Jvm.MethodName) ({ cls := "LinesTouched", name := "isCover", desc := "(I)I" } : Jvm.MethodName)) ∈ lw_all := lw_g (lw_at lw_m3 72 rfl) rfl
theorem q658 : (Jvm.Cond.code ({ cls := "LinesTouched", name := "isCover", desc := "(I)I" } : Jvm.MethodName) prog_1_method_17_code (2 : Nat) (Option.some Jvm.ClassFile.FieldType.int)) ∈ lw_all := lw_g (lw_at lw_m3 73 rfl) rfl
theorem q659 : (Jvm.Cond.methodLink "LinesTouched" (180 : Nat) ({ cls := "LinesTouched", name := "areSet", desc := "(I)Z" } : Jvm.MethodName)) ∈ lw_all := lw_g (lw_at lw_m3 74 rfl) rfl
theorem q660 : (Jvm.Cond.privateMethod ({ cls := "LinesTouched", name := "areSet", desc := "(I)Z" } : Jvm.MethodName)) ∈ lw_tbl := lw_at lw_m3 75 rfl
theorem q661 : (Jvm.Cond.instanceMethod ({ cls := "LinesTouched", name := "areSet", desc := "(I)Z" } : Jvm.MethodName)) ∈ lw_all := lw_g (lw_at lw_m3 76 rfl) rfl
theorem q662 : (Jvm.Cond.code ({ cls := "LinesTouched", name := "areSet", desc := "(I)Z" } : Jvm.MethodName) prog_1_method_16_code (2 : Nat) (Option.some Jvm.ClassFile.FieldType.boolean)) ∈ lw_all := lw_g (lw_at lw_m3 77 rfl) rfl
theorem q663 : (Jvm.Cond.methodLink "LinesTouched" (177 : Nat) ({ cls := "LinesTouched$Net", name := "all", desc := "()I" } : Jvm.MethodName)) ∈ lw_all := lw_g (lw_at lw_m3 78 rfl) rfl
theorem q667 : (Jvm.Cond.methodLink "LinesTouched" (183 : Nat) ({ cls := "LinesTouched$Net", name := "isBare", desc := "(I)Z" } : Jvm.MethodName)) ∈ lw_all := lw_g (lw_at lw_m3 82 rfl) rfl
theorem q680 : (Jvm.Cond.methodLink "LinesTouched" (186 : Nat) ({ cls := "LinesTouched$Net", name := "isCover", desc := "(I)Z" } : Jvm.MethodName)) ∈ lw_all := lw_g (lw_at lw_m3 95 rfl) rfl
theorem q682 : (Jvm.Cond.instanceMethod ({ cls := "LinesTouched", name := "costOf", desc := "(I)I" } : Jvm.MethodName)) ∈ lw_all := lw_g (lw_at lw_m3 97 rfl) rfl
theorem q683 : (Jvm.Cond.selects "LinesTouched" ({ cls := "LinesTouched", name := "costOf", desc := "(I)I" } : Jvm.MethodName) ({ cls := "LinesTouched", name := "costOf", desc := "(I)I" } : Jvm.MethodName)) ∈ lw_all := lw_g (lw_at lw_m3 98 rfl) rfl
theorem q684 : (Jvm.Cond.code ({ cls := "LinesTouched", name := "costOf", desc := "(I)I" } : Jvm.MethodName) prog_1_method_18_code (2 : Nat) (Option.some Jvm.ClassFile.FieldType.int)) ∈ lw_all := lw_g (lw_at lw_m3 99 rfl) rfl
theorem q685 : (Jvm.Cond.methodLink "LinesTouched" (189 : Nat) ({ cls := "LinesTouched$Net", name := "costOf", desc := "(I)I" } : Jvm.MethodName)) ∈ lw_all := lw_g (lw_at lw_m3 100 rfl) rfl
theorem q691 : (Jvm.Cond.instanceMethod ({ cls := "LinesTouched", name := "fewest", desc := "(I)I" } : Jvm.MethodName)) ∈ lw_all := lw_g (lw_at lw_m3 106 rfl) rfl
theorem q692 : (Jvm.Cond.selects "LinesTouched" ({ cls := "LinesTouched", name := "fewest", desc := "(I)I" } : Jvm.MethodName) ({ cls := "LinesTouched", name := "fewest", desc := "(I)I" } : Jvm.MethodName)) ∈ lw_all := lw_g (lw_at lw_m3 107 rfl) rfl
theorem q693 : (Jvm.Cond.code ({ cls := "LinesTouched", name := "fewest", desc := "(I)I" } : Jvm.MethodName) prog_1_method_21_code (3 : Nat) (Option.some Jvm.ClassFile.FieldType.int)) ∈ lw_all := lw_g (lw_at lw_m3 108 rfl) rfl
theorem q694 : (Jvm.Cond.methodLink "LinesTouched" (212 : Nat) ({ cls := "LinesTouched", name := "cheapest", desc := "(LLinesTouched$Worth;)LLinesTouched$Cheapest;" } : Jvm.MethodName)) ∈ lw_all := lw_g (lw_at lw_m3 109 rfl) rfl
theorem q695 : (Jvm.Cond.privateMethod ({ cls := "LinesTouched", name := "cheapest", desc := "(LLinesTouched$Worth;)LLinesTouched$Cheapest;" } : Jvm.MethodName)) ∈ lw_tbl := lw_at lw_m3 110 rfl
theorem q696 : (Jvm.Cond.instanceMethod ({ cls := "LinesTouched", name := "cheapest", desc := "(LLinesTouched$Worth;)LLinesTouched$Cheapest;" } : Jvm.MethodName)) ∈ lw_all := lw_g (lw_at lw_m3 111 rfl) rfl
theorem q697 : (Jvm.Cond.code ({ cls := "LinesTouched", name := "cheapest", desc := "(LLinesTouched$Worth;)LLinesTouched$Cheapest;" } : Jvm.MethodName) prog_1_method_19_code (3 : Nat) (Option.some (Jvm.ClassFile.FieldType.object "LinesTouched$Cheapest"))) ∈ lw_all := lw_g (lw_at lw_m3 112 rfl) rfl
theorem q698 : (Jvm.Cond.classLink "LinesTouched" (192 : Nat) "LinesTouched$Cheapest") ∈ lw_all := lw_g (lw_at lw_m3 113 rfl) rfl
theorem q700 : (Jvm.Cond.methodLink "LinesTouched" (194 : Nat) ({ cls := "LinesTouched$Cheapest", name := "<init>", desc := "(LLinesTouched$Net;LLinesTouched$Worth;)V" } : Jvm.MethodName)) ∈ lw_all := lw_g (lw_at lw_m3 115 rfl) rfl
theorem q713 : (Jvm.Cond.fieldLinkNest "LinesTouched" (216 : Nat) "LinesTouched$Cheapest" "least" "I" "LinesTouched") ∈ lw_tbl := lw_at lw_m3 128 rfl
theorem q715 : (Jvm.Cond.fieldLinkNest "LinesTouched" (219 : Nat) "LinesTouched$Cheapest" "first" "I" "LinesTouched") ∈ lw_tbl := lw_at lw_m3 130 rfl
theorem q717 : (Jvm.Cond.fieldLinkNest "LinesTouched" (222 : Nat) "LinesTouched$Cheapest" "ways" "I" "LinesTouched") ∈ lw_tbl := lw_at lw_m3 132 rfl
theorem q719 : (Jvm.Cond.fieldLinkNest "LinesTouched" (225 : Nat) "LinesTouched$Cheapest" "inAll" "I" "LinesTouched") ∈ lw_tbl := lw_at lw_m3 134 rfl
theorem q721 : (Jvm.Cond.fieldLinkNest "LinesTouched" (228 : Nat) "LinesTouched$Cheapest" "inAny" "I" "LinesTouched") ∈ lw_tbl := lw_at lw_m3 136 rfl
theorem q723 : (Jvm.Cond.fieldLink "LinesTouched" (242 : Nat) "LinesTouched$Counting" "sized" "[I") ∈ lw_all := lw_g (lw_at lw_m3 138 rfl) rfl
theorem q725 : (Jvm.Cond.fieldLink "LinesTouched" (281 : Nat) "LinesTouched$Counting" "many" "I") ∈ lw_all := lw_g (lw_at lw_m3 140 rfl) rfl
theorem q746 : (Jvm.Cond.methodLink "LinesTouched" (197 : Nat) ({ cls := "LinesTouched$Cheapest", name := "starts", desc := "()V" } : Jvm.MethodName)) ∈ lw_all := lw_g (lw_at lw_m3 161 rfl) rfl
theorem q786 : (Jvm.Cond.instanceMethod ({ cls := "LinesTouched", name := "dear", desc := "(I)I" } : Jvm.MethodName)) ∈ lw_all := lw_g (lw_at lw_m3 201 rfl) rfl
theorem q787 : (Jvm.Cond.selects "LinesTouched" ({ cls := "LinesTouched", name := "dear", desc := "(I)I" } : Jvm.MethodName) ({ cls := "LinesTouched", name := "dear", desc := "(I)I" } : Jvm.MethodName)) ∈ lw_all := lw_g (lw_at lw_m3 202 rfl) rfl
theorem q788 : (Jvm.Cond.code ({ cls := "LinesTouched", name := "dear", desc := "(I)I" } : Jvm.MethodName) prog_1_method_22_code (3 : Nat) (Option.some Jvm.ClassFile.FieldType.int)) ∈ lw_all := lw_g (lw_at lw_m3 203 rfl) rfl
theorem q789 : (Jvm.Cond.privateMethod ({ cls := "LinesTouched", name := "lambda$dear$0", desc := "(I)I" } : Jvm.MethodName)) ∈ lw_tbl := lw_at lw_m3 204 rfl
theorem q790 : (Jvm.Cond.instanceMethod ({ cls := "LinesTouched", name := "lambda$dear$0", desc := "(I)I" } : Jvm.MethodName)) ∈ lw_all := lw_g (lw_at lw_m3 205 rfl) rfl
theorem q791 : (Jvm.Cond.code ({ cls := "LinesTouched", name := "lambda$dear$0", desc := "(I)I" } : Jvm.MethodName) prog_1_method_120_code (2 : Nat) (Option.some Jvm.ClassFile.FieldType.int)) ∈ lw_all := lw_g (lw_at lw_m3 206 rfl) rfl
theorem q793 : (Jvm.Cond.instanceMethod ({ cls := "LinesTouched", name := "sized", desc := "(I)I" } : Jvm.MethodName)) ∈ lw_all := lw_g (lw_at lw_m3 208 rfl) rfl
theorem q794 : (Jvm.Cond.selects "LinesTouched" ({ cls := "LinesTouched", name := "sized", desc := "(I)I" } : Jvm.MethodName) ({ cls := "LinesTouched", name := "sized", desc := "(I)I" } : Jvm.MethodName)) ∈ lw_all := lw_g (lw_at lw_m3 209 rfl) rfl
theorem q795 : (Jvm.Cond.code ({ cls := "LinesTouched", name := "sized", desc := "(I)I" } : Jvm.MethodName) prog_1_method_23_code (2 : Nat) (Option.some Jvm.ClassFile.FieldType.int)) ∈ lw_all := lw_g (lw_at lw_m3 210 rfl) rfl
theorem q796 : (Jvm.Cond.static ({ cls := "LinesTouched", name := "lambda$sized$1", desc := "(I)Z" } : Jvm.MethodName)) ∈ lw_all := lw_g (lw_at lw_m3 211 rfl) rfl
theorem q797 : (Jvm.Cond.code ({ cls := "LinesTouched", name := "lambda$sized$1", desc := "(I)Z" } : Jvm.MethodName) prog_1_method_119_code (1 : Nat) (Option.some Jvm.ClassFile.FieldType.boolean)) ∈ lw_all := lw_g (lw_at lw_m3 212 rfl) rfl
theorem q798 : (Jvm.Cond.methodLink "LinesTouched" (238 : Nat) ({ cls := "LinesTouched", name := "picked", desc := "(LLinesTouched$Meant;)LLinesTouched$Counting;" } : Jvm.MethodName)) ∈ lw_all := lw_g (lw_at lw_m3 213 rfl) rfl
theorem q799 : (Jvm.Cond.privateMethod ({ cls := "LinesTouched", name := "picked", desc := "(LLinesTouched$Meant;)LLinesTouched$Counting;" } : Jvm.MethodName)) ∈ lw_tbl := lw_at lw_m3 214 rfl
theorem q800 : (Jvm.Cond.instanceMethod ({ cls := "LinesTouched", name := "picked", desc := "(LLinesTouched$Meant;)LLinesTouched$Counting;" } : Jvm.MethodName)) ∈ lw_all := lw_g (lw_at lw_m3 215 rfl) rfl
theorem q801 : (Jvm.Cond.code ({ cls := "LinesTouched", name := "picked", desc := "(LLinesTouched$Meant;)LLinesTouched$Counting;" } : Jvm.MethodName) prog_1_method_20_code (3 : Nat) (Option.some (Jvm.ClassFile.FieldType.object "LinesTouched$Counting"))) ∈ lw_all := lw_g (lw_at lw_m3 216 rfl) rfl
theorem q802 : (Jvm.Cond.classLink "LinesTouched" (200 : Nat) "LinesTouched$Picked") ∈ lw_all := lw_g (lw_at lw_m3 217 rfl) rfl
theorem q804 : (Jvm.Cond.methodLink "LinesTouched" (202 : Nat) ({ cls := "LinesTouched$Picked", name := "<init>", desc := "(LLinesTouched$Net;LLinesTouched$Meant;)V" } : Jvm.MethodName)) ∈ lw_all := lw_g (lw_at lw_m3 219 rfl) rfl
theorem q814 : (Jvm.Cond.methodLink "LinesTouched" (205 : Nat) ({ cls := "LinesTouched$Counting", name := "starts", desc := "()V" } : Jvm.MethodName)) ∈ lw_all := lw_g (lw_at lw_m3 229 rfl) rfl
theorem q819 : (Jvm.Cond.instanceMethod ({ cls := "LinesTouched", name := "bare", desc := "(I)I" } : Jvm.MethodName)) ∈ lw_all := lw_g (lw_at lw_m3 234 rfl) rfl
theorem q820 : (Jvm.Cond.selects "LinesTouched" ({ cls := "LinesTouched", name := "bare", desc := "(I)I" } : Jvm.MethodName) ({ cls := "LinesTouched", name := "bare", desc := "(I)I" } : Jvm.MethodName)) ∈ lw_all := lw_g (lw_at lw_m3 235 rfl) rfl
theorem q821 : (Jvm.Cond.code ({ cls := "LinesTouched", name := "bare", desc := "(I)I" } : Jvm.MethodName) prog_1_method_25_code (2 : Nat) (Option.some Jvm.ClassFile.FieldType.int)) ∈ lw_all := lw_g (lw_at lw_m3 236 rfl) rfl
theorem q822 : (Jvm.Cond.classLink "LinesTouched" (251 : Nat) "java/util/HashSet") ∈ lw_all := lw_g (lw_at lw_m3 237 rfl) rfl
theorem q824 : (Jvm.Cond.methodLink "LinesTouched" (277 : Nat) ({ cls := "java/util/HashSet", name := "<init>", desc := "()V" } : Jvm.MethodName)) ∈ lw_all := lw_g (lw_at lw_m3 239 rfl) rfl
theorem q850 : (Jvm.Cond.methodLink "LinesTouched" (259 : Nat) ({ cls := "LinesTouched", name := "findsBare", desc := "(ILjava/util/HashSet;)V" } : Jvm.MethodName)) ∈ lw_all := lw_g (lw_at lw_m4 25 rfl) rfl
theorem q851 : (Jvm.Cond.privateMethod ({ cls := "LinesTouched", name := "findsBare", desc := "(ILjava/util/HashSet;)V" } : Jvm.MethodName)) ∈ lw_tbl := lw_at lw_m4 26 rfl
theorem q852 : (Jvm.Cond.instanceMethod ({ cls := "LinesTouched", name := "findsBare", desc := "(ILjava/util/HashSet;)V" } : Jvm.MethodName)) ∈ lw_all := lw_g (lw_at lw_m4 27 rfl) rfl
theorem q853 : (Jvm.Cond.code ({ cls := "LinesTouched", name := "findsBare", desc := "(ILjava/util/HashSet;)V" } : Jvm.MethodName) prog_1_method_24_code (5 : Nat) (Option.none : Option Jvm.ClassFile.FieldType)) ∈ lw_all := lw_g (lw_at lw_m4 28 rfl) rfl
theorem q854 : (Jvm.Cond.classLink "LinesTouched" (245 : Nat) "LinesTouched$Cover") ∈ lw_all := lw_g (lw_at lw_m4 29 rfl) rfl
theorem q856 : (Jvm.Cond.methodLink "LinesTouched" (247 : Nat) ({ cls := "LinesTouched$Cover", name := "<init>", desc := "(I)V" } : Jvm.MethodName)) ∈ lw_all := lw_g (lw_at lw_m4 31 rfl) rfl
theorem q864 : (Jvm.Cond.methodLink "LinesTouched" (250 : Nat) ({ cls := "java/util/HashSet", name := "add", desc := "(Ljava/lang/Object;)Z" } : Jvm.MethodName)) ∈ lw_all := lw_g (lw_at lw_m4 39 rfl) rfl
theorem q883 : (Jvm.Cond.selects "LinesTouched" ({ cls := "java/lang/Object", name := "hashCode", desc := "()I" } : Jvm.MethodName) ({ cls := "java/lang/Object", name := "hashCode", desc := "()I" } : Jvm.MethodName)) ∈ lw_all := lw_g (lw_at lw_m4 58 rfl) rfl
theorem q1102 : (Jvm.Cond.selects "LinesTouched" ({ cls := "java/lang/Object", name := "getClass", desc := "()Ljava/lang/Class;" } : Jvm.MethodName) ({ cls := "java/lang/Object", name := "getClass", desc := "()Ljava/lang/Class;" } : Jvm.MethodName)) ∈ lw_all := lw_g (lw_at lw_m5 37 rfl) rfl
theorem q1345 : (Jvm.Cond.selects "LinesTouched" ({ cls := "java/lang/Object", name := "equals", desc := "(Ljava/lang/Object;)Z" } : Jvm.MethodName) ({ cls := "java/lang/Object", name := "equals", desc := "(Ljava/lang/Object;)Z" } : Jvm.MethodName)) ∈ lw_all := lw_g (lw_at lw_m6 40 rfl) rfl
theorem q1480 : (Jvm.Cond.methodLink "LinesTouched" (272 : Nat) ({ cls := "java/lang/Math", name := "max", desc := "(II)I" } : Jvm.MethodName)) ∈ lw_all := lw_g (lw_at lw_m6 175 rfl) rfl
theorem q1482 : (Jvm.Cond.instanceMethod ({ cls := "LinesTouched", name := "share", desc := "(I)J" } : Jvm.MethodName)) ∈ lw_all := lw_g (lw_at lw_m6 177 rfl) rfl
theorem q1483 : (Jvm.Cond.selects "LinesTouched" ({ cls := "LinesTouched", name := "share", desc := "(I)J" } : Jvm.MethodName) ({ cls := "LinesTouched", name := "share", desc := "(I)J" } : Jvm.MethodName)) ∈ lw_all := lw_g (lw_at lw_m6 178 rfl) rfl
theorem q1484 : (Jvm.Cond.code ({ cls := "LinesTouched", name := "share", desc := "(I)J" } : Jvm.MethodName) prog_1_method_26_code (6 : Nat) (Option.some Jvm.ClassFile.FieldType.long)) ∈ lw_all := lw_g (lw_at lw_m6 179 rfl) rfl
theorem q1485 : (Jvm.Cond.constantLong "LinesTouched" (278 : Nat) (-2 : Int64)) ∈ lw_all := lw_g (lw_at lw_m6 180 rfl) rfl
theorem q1486 : (Jvm.Cond.static ({ cls := "LinesTouched", name := "lambda$share$2", desc := "(I)Z" } : Jvm.MethodName)) ∈ lw_all := lw_g (lw_at lw_m6 181 rfl) rfl
theorem q1487 : (Jvm.Cond.code ({ cls := "LinesTouched", name := "lambda$share$2", desc := "(I)Z" } : Jvm.MethodName) prog_1_method_118_code (1 : Nat) (Option.some Jvm.ClassFile.FieldType.boolean)) ∈ lw_all := lw_g (lw_at lw_m6 182 rfl) rfl
theorem q1489 : (Jvm.Cond.instanceMethod ({ cls := "LinesTouched", name := "halves", desc := "(I)I" } : Jvm.MethodName)) ∈ lw_all := lw_g (lw_at lw_m6 184 rfl) rfl
theorem q1490 : (Jvm.Cond.selects "LinesTouched" ({ cls := "LinesTouched", name := "halves", desc := "(I)I" } : Jvm.MethodName) ({ cls := "LinesTouched", name := "halves", desc := "(I)I" } : Jvm.MethodName)) ∈ lw_all := lw_g (lw_at lw_m6 185 rfl) rfl
theorem q1491 : (Jvm.Cond.code ({ cls := "LinesTouched", name := "halves", desc := "(I)I" } : Jvm.MethodName) prog_1_method_36_code (3 : Nat) (Option.some Jvm.ClassFile.FieldType.int)) ∈ lw_all := lw_g (lw_at lw_m6 186 rfl) rfl
theorem q1493 : (Jvm.Cond.instanceMethod ({ cls := "LinesTouched", name := "half", desc := "(I)I" } : Jvm.MethodName)) ∈ lw_all := lw_g (lw_at lw_m6 188 rfl) rfl
theorem q1494 : (Jvm.Cond.selects "LinesTouched" ({ cls := "LinesTouched", name := "half", desc := "(I)I" } : Jvm.MethodName) ({ cls := "LinesTouched", name := "half", desc := "(I)I" } : Jvm.MethodName)) ∈ lw_all := lw_g (lw_at lw_m6 189 rfl) rfl
theorem q1495 : (Jvm.Cond.code ({ cls := "LinesTouched", name := "half", desc := "(I)I" } : Jvm.MethodName) prog_1_method_37_code (2 : Nat) (Option.some Jvm.ClassFile.FieldType.int)) ∈ lw_all := lw_g (lw_at lw_m6 190 rfl) rfl
theorem q1497 : (Jvm.Cond.instanceMethod ({ cls := "LinesTouched", name := "mayHave", desc := "(I)I" } : Jvm.MethodName)) ∈ lw_all := lw_g (lw_at lw_m6 192 rfl) rfl
theorem q1498 : (Jvm.Cond.selects "LinesTouched" ({ cls := "LinesTouched", name := "mayHave", desc := "(I)I" } : Jvm.MethodName) ({ cls := "LinesTouched", name := "mayHave", desc := "(I)I" } : Jvm.MethodName)) ∈ lw_all := lw_g (lw_at lw_m6 193 rfl) rfl
theorem q1499 : (Jvm.Cond.code ({ cls := "LinesTouched", name := "mayHave", desc := "(I)I" } : Jvm.MethodName) prog_1_method_38_code (5 : Nat) (Option.some Jvm.ClassFile.FieldType.int)) ∈ lw_all := lw_g (lw_at lw_m6 194 rfl) rfl
theorem q1501 : (Jvm.Cond.instanceMethod ({ cls := "LinesTouched", name := "mate", desc := "(I)I" } : Jvm.MethodName)) ∈ lw_all := lw_g (lw_at lw_m6 196 rfl) rfl
theorem q1502 : (Jvm.Cond.selects "LinesTouched" ({ cls := "LinesTouched", name := "mate", desc := "(I)I" } : Jvm.MethodName) ({ cls := "LinesTouched", name := "mate", desc := "(I)I" } : Jvm.MethodName)) ∈ lw_all := lw_g (lw_at lw_m6 197 rfl) rfl
theorem q1503 : (Jvm.Cond.code ({ cls := "LinesTouched", name := "mate", desc := "(I)I" } : Jvm.MethodName) prog_1_method_41_code (2 : Nat) (Option.some Jvm.ClassFile.FieldType.int)) ∈ lw_all := lw_g (lw_at lw_m6 198 rfl) rfl
theorem q1504 : (Jvm.Cond.methodLink "LinesTouched" (329 : Nat) ({ cls := "LinesTouched", name := "mateIn", desc := "(III)I" } : Jvm.MethodName)) ∈ lw_all := lw_g (lw_at lw_m6 199 rfl) rfl
theorem q1505 : (Jvm.Cond.privateMethod ({ cls := "LinesTouched", name := "mateIn", desc := "(III)I" } : Jvm.MethodName)) ∈ lw_tbl := lw_at lw_m6 200 rfl
theorem q1506 : (Jvm.Cond.instanceMethod ({ cls := "LinesTouched", name := "mateIn", desc := "(III)I" } : Jvm.MethodName)) ∈ lw_all := lw_g (lw_at lw_m6 201 rfl) rfl
theorem q1507 : (Jvm.Cond.code ({ cls := "LinesTouched", name := "mateIn", desc := "(III)I" } : Jvm.MethodName) prog_1_method_40_code (8 : Nat) (Option.some Jvm.ClassFile.FieldType.int)) ∈ lw_all := lw_g (lw_at lw_m6 202 rfl) rfl
theorem q1508 : (Jvm.Cond.methodLink "LinesTouched" (326 : Nat) ({ cls := "LinesTouched", name := "canPair", desc := "(II)Z" } : Jvm.MethodName)) ∈ lw_all := lw_g (lw_at lw_m6 203 rfl) rfl
theorem q1509 : (Jvm.Cond.privateMethod ({ cls := "LinesTouched", name := "canPair", desc := "(II)Z" } : Jvm.MethodName)) ∈ lw_tbl := lw_at lw_m6 204 rfl
theorem q1510 : (Jvm.Cond.instanceMethod ({ cls := "LinesTouched", name := "canPair", desc := "(II)Z" } : Jvm.MethodName)) ∈ lw_all := lw_g (lw_at lw_m6 205 rfl) rfl
theorem q1511 : (Jvm.Cond.code ({ cls := "LinesTouched", name := "canPair", desc := "(II)Z" } : Jvm.MethodName) prog_1_method_39_code (3 : Nat) (Option.some Jvm.ClassFile.FieldType.boolean)) ∈ lw_all := lw_g (lw_at lw_m6 206 rfl) rfl
theorem q1513 : (Jvm.Cond.instanceMethod ({ cls := "LinesTouched", name := "persists", desc := "()I" } : Jvm.MethodName)) ∈ lw_all := lw_g (lw_at lw_m6 208 rfl) rfl
theorem q1514 : (Jvm.Cond.selects "LinesTouched" ({ cls := "LinesTouched", name := "persists", desc := "()I" } : Jvm.MethodName) ({ cls := "LinesTouched", name := "persists", desc := "()I" } : Jvm.MethodName)) ∈ lw_all := lw_g (lw_at lw_m6 209 rfl) rfl
theorem q1515 : (Jvm.Cond.code ({ cls := "LinesTouched", name := "persists", desc := "()I" } : Jvm.MethodName) prog_1_method_42_code (4 : Nat) (Option.some Jvm.ClassFile.FieldType.int)) ∈ lw_all := lw_g (lw_at lw_m6 210 rfl) rfl
theorem q1516 : (Jvm.Cond.methodLink "LinesTouched" (333 : Nat) ({ cls := "LinesTouched", name := "fewestOf", desc := "(I)I" } : Jvm.MethodName)) ∈ lw_all := lw_g (lw_at lw_m6 211 rfl) rfl
theorem q1517 : (Jvm.Cond.privateMethod ({ cls := "LinesTouched", name := "fewestOf", desc := "(I)I" } : Jvm.MethodName)) ∈ lw_tbl := lw_at lw_m6 212 rfl
theorem q1518 : (Jvm.Cond.instanceMethod ({ cls := "LinesTouched", name := "fewestOf", desc := "(I)I" } : Jvm.MethodName)) ∈ lw_all := lw_g (lw_at lw_m6 213 rfl) rfl
theorem q1519 : (Jvm.Cond.code ({ cls := "LinesTouched", name := "fewestOf", desc := "(I)I" } : Jvm.MethodName) prog_1_method_58_code (5 : Nat) (Option.some Jvm.ClassFile.FieldType.int)) ∈ lw_all := lw_g (lw_at lw_m6 214 rfl) rfl
theorem q1520 : (Jvm.Cond.methodLink "LinesTouched" (399 : Nat) ({ cls := "LinesTouched", name := "busiest", desc := "(I)I" } : Jvm.MethodName)) ∈ lw_all := lw_g (lw_at lw_m6 215 rfl) rfl
theorem q1521 : (Jvm.Cond.privateMethod ({ cls := "LinesTouched", name := "busiest", desc := "(I)I" } : Jvm.MethodName)) ∈ lw_tbl := lw_at lw_m6 216 rfl
theorem q1522 : (Jvm.Cond.instanceMethod ({ cls := "LinesTouched", name := "busiest", desc := "(I)I" } : Jvm.MethodName)) ∈ lw_all := lw_g (lw_at lw_m6 217 rfl) rfl
theorem q1523 : (Jvm.Cond.code ({ cls := "LinesTouched", name := "busiest", desc := "(I)I" } : Jvm.MethodName) prog_1_method_57_code (6 : Nat) (Option.some Jvm.ClassFile.FieldType.int)) ∈ lw_all := lw_g (lw_at lw_m6 218 rfl) rfl
theorem q1524 : (Jvm.Cond.methodLink "LinesTouched" (402 : Nat) ({ cls := "java/lang/Math", name := "min", desc := "(II)I" } : Jvm.MethodName)) ∈ lw_all := lw_g (lw_at lw_m6 219 rfl) rfl
theorem q1525 : (Jvm.Cond.static ({ cls := "LinesTouched", name := "lambda$persists$3", desc := "(IIII)Z" } : Jvm.MethodName)) ∈ lw_all := lw_g (lw_at lw_m6 220 rfl) rfl
theorem q1526 : (Jvm.Cond.code ({ cls := "LinesTouched", name := "lambda$persists$3", desc := "(IIII)Z" } : Jvm.MethodName) prog_1_method_117_code (4 : Nat) (Option.some Jvm.ClassFile.FieldType.boolean)) ∈ lw_all := lw_g (lw_at lw_m6 221 rfl) rfl
theorem q1528 : (Jvm.Cond.instanceMethod ({ cls := "LinesTouched", name := "isCrown", desc := "(I)I" } : Jvm.MethodName)) ∈ lw_all := lw_g (lw_at lw_m6 223 rfl) rfl
theorem q1529 : (Jvm.Cond.selects "LinesTouched" ({ cls := "LinesTouched", name := "isCrown", desc := "(I)I" } : Jvm.MethodName) ({ cls := "LinesTouched", name := "isCrown", desc := "(I)I" } : Jvm.MethodName)) ∈ lw_all := lw_g (lw_at lw_m6 224 rfl) rfl
theorem q1530 : (Jvm.Cond.code ({ cls := "LinesTouched", name := "isCrown", desc := "(I)I" } : Jvm.MethodName) prog_1_method_44_code (2 : Nat) (Option.some Jvm.ClassFile.FieldType.int)) ∈ lw_all := lw_g (lw_at lw_m6 225 rfl) rfl
theorem q1531 : (Jvm.Cond.methodLink "LinesTouched" (342 : Nat) ({ cls := "LinesTouched", name := "areCrown", desc := "(I)Z" } : Jvm.MethodName)) ∈ lw_all := lw_g (lw_at lw_m6 226 rfl) rfl
theorem q1532 : (Jvm.Cond.privateMethod ({ cls := "LinesTouched", name := "areCrown", desc := "(I)Z" } : Jvm.MethodName)) ∈ lw_tbl := lw_at lw_m6 227 rfl
theorem q1533 : (Jvm.Cond.instanceMethod ({ cls := "LinesTouched", name := "areCrown", desc := "(I)Z" } : Jvm.MethodName)) ∈ lw_all := lw_g (lw_at lw_m6 228 rfl) rfl
theorem q1534 : (Jvm.Cond.code ({ cls := "LinesTouched", name := "areCrown", desc := "(I)Z" } : Jvm.MethodName) prog_1_method_43_code (3 : Nat) (Option.some Jvm.ClassFile.FieldType.boolean)) ∈ lw_all := lw_g (lw_at lw_m6 229 rfl) rfl
theorem q1535 : (Jvm.Cond.methodLink "LinesTouched" (339 : Nat) ({ cls := "LinesTouched$Net", name := "around", desc := "(I)I" } : Jvm.MethodName)) ∈ lw_all := lw_g (lw_at lw_m6 230 rfl) rfl
theorem q1537 : (Jvm.Cond.instanceMethod ({ cls := "LinesTouched", name := "crowns", desc := "(I)I" } : Jvm.MethodName)) ∈ lw_all := lw_g (lw_at lw_m6 232 rfl) rfl
theorem q1538 : (Jvm.Cond.selects "LinesTouched" ({ cls := "LinesTouched", name := "crowns", desc := "(I)I" } : Jvm.MethodName) ({ cls := "LinesTouched", name := "crowns", desc := "(I)I" } : Jvm.MethodName)) ∈ lw_all := lw_g (lw_at lw_m6 233 rfl) rfl
theorem q1539 : (Jvm.Cond.code ({ cls := "LinesTouched", name := "crowns", desc := "(I)I" } : Jvm.MethodName) prog_1_method_45_code (5 : Nat) (Option.some Jvm.ClassFile.FieldType.int)) ∈ lw_all := lw_g (lw_at lw_m6 234 rfl) rfl
theorem q1541 : (Jvm.Cond.instanceMethod ({ cls := "LinesTouched", name := "kernel", desc := "(II)I" } : Jvm.MethodName)) ∈ lw_all := lw_g (lw_at lw_m6 236 rfl) rfl
theorem q1542 : (Jvm.Cond.selects "LinesTouched" ({ cls := "LinesTouched", name := "kernel", desc := "(II)I" } : Jvm.MethodName) ({ cls := "LinesTouched", name := "kernel", desc := "(II)I" } : Jvm.MethodName)) ∈ lw_all := lw_g (lw_at lw_m6 237 rfl) rfl
theorem q1543 : (Jvm.Cond.code ({ cls := "LinesTouched", name := "kernel", desc := "(II)I" } : Jvm.MethodName) prog_1_method_51_code (4 : Nat) (Option.some Jvm.ClassFile.FieldType.int)) ∈ lw_all := lw_g (lw_at lw_m6 238 rfl) rfl
theorem q1544 : (Jvm.Cond.methodLink "LinesTouched" (372 : Nat) ({ cls := "LinesTouched", name := "findsKernel", desc := "(I)V" } : Jvm.MethodName)) ∈ lw_all := lw_g (lw_at lw_m6 239 rfl) rfl
theorem q1545 : (Jvm.Cond.privateMethod ({ cls := "LinesTouched", name := "findsKernel", desc := "(I)V" } : Jvm.MethodName)) ∈ lw_tbl := lw_at lw_m7 0 rfl
theorem q1546 : (Jvm.Cond.instanceMethod ({ cls := "LinesTouched", name := "findsKernel", desc := "(I)V" } : Jvm.MethodName)) ∈ lw_all := lw_g (lw_at lw_m7 1 rfl) rfl
theorem q1547 : (Jvm.Cond.code ({ cls := "LinesTouched", name := "findsKernel", desc := "(I)V" } : Jvm.MethodName) prog_1_method_50_code (7 : Nat) (Option.none : Option Jvm.ClassFile.FieldType)) ∈ lw_all := lw_g (lw_at lw_m7 2 rfl) rfl
theorem q1548 : (Jvm.Cond.interfaceEntry "LinesTouched" (363 : Nat)) ∈ lw_tbl := lw_at lw_m7 3 rfl
theorem q1549 : (Jvm.Cond.methodLink "LinesTouched" (363 : Nat) ({ cls := "LinesTouched$Rule", name := "does", desc := "(II)LLinesTouched$Round;" } : Jvm.MethodName)) ∈ lw_all := lw_g (lw_at lw_m7 4 rfl) rfl
theorem q1553 : (Jvm.Cond.instanceMethod ({ cls := "LinesTouched", name := "round", desc := "(III)I" } : Jvm.MethodName)) ∈ lw_all := lw_g (lw_at lw_m7 8 rfl) rfl
theorem q1554 : (Jvm.Cond.selects "LinesTouched" ({ cls := "LinesTouched", name := "round", desc := "(III)I" } : Jvm.MethodName) ({ cls := "LinesTouched", name := "round", desc := "(III)I" } : Jvm.MethodName)) ∈ lw_all := lw_g (lw_at lw_m7 9 rfl) rfl
theorem q1555 : (Jvm.Cond.code ({ cls := "LinesTouched", name := "round", desc := "(III)I" } : Jvm.MethodName) prog_1_method_52_code (4 : Nat) (Option.some Jvm.ClassFile.FieldType.int)) ∈ lw_all := lw_g (lw_at lw_m7 10 rfl) rfl
theorem q1557 : (Jvm.Cond.instanceMethod ({ cls := "LinesTouched", name := "pack", desc := "(I)I" } : Jvm.MethodName)) ∈ lw_all := lw_g (lw_at lw_m7 12 rfl) rfl
theorem q1558 : (Jvm.Cond.selects "LinesTouched" ({ cls := "LinesTouched", name := "pack", desc := "(I)I" } : Jvm.MethodName) ({ cls := "LinesTouched", name := "pack", desc := "(I)I" } : Jvm.MethodName)) ∈ lw_all := lw_g (lw_at lw_m7 13 rfl) rfl
theorem q1559 : (Jvm.Cond.code ({ cls := "LinesTouched", name := "pack", desc := "(I)I" } : Jvm.MethodName) prog_1_method_54_code (4 : Nat) (Option.some Jvm.ClassFile.FieldType.int)) ∈ lw_all := lw_g (lw_at lw_m7 14 rfl) rfl
theorem q1560 : (Jvm.Cond.methodLink "LinesTouched" (378 : Nat) ({ cls := "LinesTouched", name := "packOf", desc := "(I)I" } : Jvm.MethodName)) ∈ lw_all := lw_g (lw_at lw_m7 15 rfl) rfl
theorem q1561 : (Jvm.Cond.privateMethod ({ cls := "LinesTouched", name := "packOf", desc := "(I)I" } : Jvm.MethodName)) ∈ lw_tbl := lw_at lw_m7 16 rfl
theorem q1562 : (Jvm.Cond.instanceMethod ({ cls := "LinesTouched", name := "packOf", desc := "(I)I" } : Jvm.MethodName)) ∈ lw_all := lw_g (lw_at lw_m7 17 rfl) rfl
theorem q1563 : (Jvm.Cond.code ({ cls := "LinesTouched", name := "packOf", desc := "(I)I" } : Jvm.MethodName) prog_1_method_53_code (8 : Nat) (Option.some Jvm.ClassFile.FieldType.int)) ∈ lw_all := lw_g (lw_at lw_m7 18 rfl) rfl
theorem q1565 : (Jvm.Cond.instanceMethod ({ cls := "LinesTouched", name := "packs", desc := "(I)I" } : Jvm.MethodName)) ∈ lw_all := lw_g (lw_at lw_m7 20 rfl) rfl
theorem q1566 : (Jvm.Cond.selects "LinesTouched" ({ cls := "LinesTouched", name := "packs", desc := "(I)I" } : Jvm.MethodName) ({ cls := "LinesTouched", name := "packs", desc := "(I)I" } : Jvm.MethodName)) ∈ lw_all := lw_g (lw_at lw_m7 21 rfl) rfl
theorem q1567 : (Jvm.Cond.code ({ cls := "LinesTouched", name := "packs", desc := "(I)I" } : Jvm.MethodName) prog_1_method_56_code (7 : Nat) (Option.some Jvm.ClassFile.FieldType.int)) ∈ lw_all := lw_g (lw_at lw_m7 22 rfl) rfl
theorem q1568 : (Jvm.Cond.methodLink "LinesTouched" (381 : Nat) ({ cls := "LinesTouched", name := "isSheet", desc := "(I)Z" } : Jvm.MethodName)) ∈ lw_all := lw_g (lw_at lw_m7 23 rfl) rfl
theorem q1569 : (Jvm.Cond.static ({ cls := "LinesTouched", name := "isSheet", desc := "(I)Z" } : Jvm.MethodName)) ∈ lw_all := lw_g (lw_at lw_m7 24 rfl) rfl
theorem q1570 : (Jvm.Cond.code ({ cls := "LinesTouched", name := "isSheet", desc := "(I)Z" } : Jvm.MethodName) prog_1_method_93_code (1 : Nat) (Option.some Jvm.ClassFile.FieldType.boolean)) ∈ lw_all := lw_g (lw_at lw_m7 25 rfl) rfl
theorem q1571 : (Jvm.Cond.methodLink "LinesTouched" (388 : Nat) ({ cls := "LinesTouched", name := "length", desc := "(Ljava/lang/Object;)I" } : Jvm.MethodName)) ∈ lw_all := lw_g (lw_at lw_m7 26 rfl) rfl
theorem q1572 : (Jvm.Cond.static ({ cls := "LinesTouched", name := "length", desc := "(Ljava/lang/Object;)I" } : Jvm.MethodName)) ∈ lw_all := lw_g (lw_at lw_m7 27 rfl) rfl
theorem q1573 : (Jvm.Cond.code ({ cls := "LinesTouched", name := "length", desc := "(Ljava/lang/Object;)I" } : Jvm.MethodName) prog_1_method_95_code (1 : Nat) (Option.some Jvm.ClassFile.FieldType.int)) ∈ lw_all := lw_g (lw_at lw_m7 28 rfl) rfl
theorem q1574 : (Jvm.Cond.classLink "LinesTouched" (628 : Nat) "[B") ∈ lw_all := lw_g (lw_at lw_m7 29 rfl) rfl
theorem q1575 : (Jvm.Cond.classLink "LinesTouched" (629 : Nat) "[S") ∈ lw_all := lw_g (lw_at lw_m7 30 rfl) rfl
theorem q1576 : (Jvm.Cond.classLink "LinesTouched" (630 : Nat) "[I") ∈ lw_all := lw_g (lw_at lw_m7 31 rfl) rfl
theorem q1577 : (Jvm.Cond.methodLink "LinesTouched" (392 : Nat) ({ cls := "LinesTouched", name := "number", desc := "(Ljava/lang/Object;I)I" } : Jvm.MethodName)) ∈ lw_all := lw_g (lw_at lw_m7 32 rfl) rfl
theorem q1578 : (Jvm.Cond.static ({ cls := "LinesTouched", name := "number", desc := "(Ljava/lang/Object;I)I" } : Jvm.MethodName)) ∈ lw_all := lw_g (lw_at lw_m7 33 rfl) rfl
theorem q1579 : (Jvm.Cond.code ({ cls := "LinesTouched", name := "number", desc := "(Ljava/lang/Object;I)I" } : Jvm.MethodName) prog_1_method_96_code (2 : Nat) (Option.some Jvm.ClassFile.FieldType.int)) ∈ lw_all := lw_g (lw_at lw_m7 34 rfl) rfl
theorem q1580 : (Jvm.Cond.methodLink "LinesTouched" (396 : Nat) ({ cls := "LinesTouched", name := "isKnot", desc := "(I)Z" } : Jvm.MethodName)) ∈ lw_all := lw_g (lw_at lw_m7 35 rfl) rfl
theorem q1581 : (Jvm.Cond.privateMethod ({ cls := "LinesTouched", name := "isKnot", desc := "(I)Z" } : Jvm.MethodName)) ∈ lw_tbl := lw_at lw_m7 36 rfl
theorem q1582 : (Jvm.Cond.instanceMethod ({ cls := "LinesTouched", name := "isKnot", desc := "(I)Z" } : Jvm.MethodName)) ∈ lw_all := lw_g (lw_at lw_m7 37 rfl) rfl
theorem q1583 : (Jvm.Cond.code ({ cls := "LinesTouched", name := "isKnot", desc := "(I)Z" } : Jvm.MethodName) prog_1_method_55_code (4 : Nat) (Option.some Jvm.ClassFile.FieldType.boolean)) ∈ lw_all := lw_g (lw_at lw_m7 38 rfl) rfl
theorem q1585 : (Jvm.Cond.instanceMethod ({ cls := "LinesTouched", name := "search", desc := "(II)I" } : Jvm.MethodName)) ∈ lw_all := lw_g (lw_at lw_m7 40 rfl) rfl
theorem q1586 : (Jvm.Cond.selects "LinesTouched" ({ cls := "LinesTouched", name := "search", desc := "(II)I" } : Jvm.MethodName) ({ cls := "LinesTouched", name := "search", desc := "(II)I" } : Jvm.MethodName)) ∈ lw_all := lw_g (lw_at lw_m7 41 rfl) rfl
theorem q1587 : (Jvm.Cond.code ({ cls := "LinesTouched", name := "search", desc := "(II)I" } : Jvm.MethodName) prog_1_method_66_code (4 : Nat) (Option.some Jvm.ClassFile.FieldType.int)) ∈ lw_all := lw_g (lw_at lw_m7 42 rfl) rfl
theorem q1588 : (Jvm.Cond.methodLink "LinesTouched" (452 : Nat) ({ cls := "LinesTouched", name := "searched", desc := "(I)I" } : Jvm.MethodName)) ∈ lw_all := lw_g (lw_at lw_m7 43 rfl) rfl
theorem q1589 : (Jvm.Cond.privateMethod ({ cls := "LinesTouched", name := "searched", desc := "(I)I" } : Jvm.MethodName)) ∈ lw_tbl := lw_at lw_m7 44 rfl
theorem q1590 : (Jvm.Cond.instanceMethod ({ cls := "LinesTouched", name := "searched", desc := "(I)I" } : Jvm.MethodName)) ∈ lw_all := lw_g (lw_at lw_m7 45 rfl) rfl
theorem q1591 : (Jvm.Cond.codeWith ({ cls := "LinesTouched", name := "searched", desc := "(I)I" } : Jvm.MethodName) prog_1_method_63_code (3 : Nat) (Option.some Jvm.ClassFile.FieldType.int) [((10 : Nat), (16 : Nat), (17 : Nat), (422 : Nat))]) ∈ lw_all := lw_g (lw_at lw_m7 46 rfl) rfl
theorem q1592 : (Jvm.Cond.classLink "LinesTouched" (422 : Nat) "LinesTouched$Found") ∈ lw_all := lw_g (lw_at lw_m7 47 rfl) rfl
theorem q1593 : (Jvm.Cond.methodLink "LinesTouched" (443 : Nat) ({ cls := "LinesTouched", name := "begins", desc := "(I)V" } : Jvm.MethodName)) ∈ lw_all := lw_g (lw_at lw_m7 48 rfl) rfl
theorem q1594 : (Jvm.Cond.privateMethod ({ cls := "LinesTouched", name := "begins", desc := "(I)V" } : Jvm.MethodName)) ∈ lw_tbl := lw_at lw_m7 49 rfl
theorem q1595 : (Jvm.Cond.instanceMethod ({ cls := "LinesTouched", name := "begins", desc := "(I)V" } : Jvm.MethodName)) ∈ lw_all := lw_g (lw_at lw_m7 50 rfl) rfl
theorem q1596 : (Jvm.Cond.code ({ cls := "LinesTouched", name := "begins", desc := "(I)V" } : Jvm.MethodName) prog_1_method_60_code (2 : Nat) (Option.none : Option Jvm.ClassFile.FieldType)) ∈ lw_all := lw_g (lw_at lw_m7 51 rfl) rfl
theorem q1597 : (Jvm.Cond.methodLink "LinesTouched" (436 : Nat) ({ cls := "LinesTouched", name := "searches", desc := "(I)V" } : Jvm.MethodName)) ∈ lw_all := lw_g (lw_at lw_m7 52 rfl) rfl
theorem q1598 : (Jvm.Cond.privateMethod ({ cls := "LinesTouched", name := "searches", desc := "(I)V" } : Jvm.MethodName)) ∈ lw_tbl := lw_at lw_m7 53 rfl
theorem q1599 : (Jvm.Cond.instanceMethod ({ cls := "LinesTouched", name := "searches", desc := "(I)V" } : Jvm.MethodName)) ∈ lw_all := lw_g (lw_at lw_m7 54 rfl) rfl
theorem q1600 : (Jvm.Cond.codeWith ({ cls := "LinesTouched", name := "searches", desc := "(I)V" } : Jvm.MethodName) prog_1_method_62_code (7 : Nat) (Option.none : Option Jvm.ClassFile.FieldType) [((107 : Nat), (131 : Nat), (141 : Nat), (0 : Nat)), ((141 : Nat), (143 : Nat), (141 : Nat), (0 : Nat))]) ∈ lw_all := lw_g (lw_at lw_m7 55 rfl) rfl
theorem q1602 : (Jvm.Cond.methodLink "LinesTouched" (416 : Nat) ({ cls := "LinesTouched$Node", name := "<init>", desc := "(IIII)V" } : Jvm.MethodName)) ∈ lw_all := lw_g (lw_at lw_m7 57 rfl) rfl
theorem q1607 : (Jvm.Cond.fieldLinkNest "LinesTouched" (461 : Nat) "LinesTouched$Node" "left" "I" "LinesTouched") ∈ lw_tbl := lw_at lw_m7 62 rfl
theorem q1609 : (Jvm.Cond.fieldLinkNest "LinesTouched" (462 : Nat) "LinesTouched$Node" "taken" "I" "LinesTouched") ∈ lw_tbl := lw_at lw_m7 64 rfl
theorem q1611 : (Jvm.Cond.fieldLinkNest "LinesTouched" (463 : Nat) "LinesTouched$Node" "k" "I" "LinesTouched") ∈ lw_tbl := lw_at lw_m7 66 rfl
theorem q1613 : (Jvm.Cond.fieldLinkNest "LinesTouched" (449 : Nat) "LinesTouched$Node" "depth" "I" "LinesTouched") ∈ lw_tbl := lw_at lw_m7 68 rfl
theorem q1615 : (Jvm.Cond.fieldLinkNest "LinesTouched" (425 : Nat) "LinesTouched$Node" "branch" "I" "LinesTouched") ∈ lw_tbl := lw_at lw_m7 70 rfl
theorem q1682 : (Jvm.Cond.methodLink "LinesTouched" (424 : Nat) ({ cls := "LinesTouched$Found", name := "<init>", desc := "(I)V" } : Jvm.MethodName)) ∈ lw_all := lw_g (lw_at lw_m7 137 rfl) rfl
theorem q1692 : (Jvm.Cond.fieldLinkNest "LinesTouched" (446 : Nat) "LinesTouched$Found" "cover" "I" "LinesTouched") ∈ lw_tbl := lw_at lw_m7 147 rfl
theorem q1708 : (Jvm.Cond.methodLink "LinesTouched" (428 : Nat) ({ cls := "LinesTouched", name := "caught", desc := "()LLinesTouched$Undo;" } : Jvm.MethodName)) ∈ lw_all := lw_g (lw_at lw_m7 163 rfl) rfl
theorem q1709 : (Jvm.Cond.privateMethod ({ cls := "LinesTouched", name := "caught", desc := "()LLinesTouched$Undo;" } : Jvm.MethodName)) ∈ lw_tbl := lw_at lw_m7 164 rfl
theorem q1710 : (Jvm.Cond.instanceMethod ({ cls := "LinesTouched", name := "caught", desc := "()LLinesTouched$Undo;" } : Jvm.MethodName)) ∈ lw_all := lw_g (lw_at lw_m7 165 rfl) rfl
theorem q1711 : (Jvm.Cond.code ({ cls := "LinesTouched", name := "caught", desc := "()LLinesTouched$Undo;" } : Jvm.MethodName) prog_1_method_59_code (4 : Nat) (Option.some (Jvm.ClassFile.FieldType.object "LinesTouched$Undo"))) ∈ lw_all := lw_g (lw_at lw_m7 166 rfl) rfl
theorem q1712 : (Jvm.Cond.privateMethod ({ cls := "LinesTouched", name := "lambda$caught$4", desc := "(III)V" } : Jvm.MethodName)) ∈ lw_tbl := lw_at lw_m7 167 rfl
theorem q1713 : (Jvm.Cond.instanceMethod ({ cls := "LinesTouched", name := "lambda$caught$4", desc := "(III)V" } : Jvm.MethodName)) ∈ lw_all := lw_g (lw_at lw_m7 168 rfl) rfl
theorem q1714 : (Jvm.Cond.code ({ cls := "LinesTouched", name := "lambda$caught$4", desc := "(III)V" } : Jvm.MethodName) prog_1_method_116_code (4 : Nat) (Option.none : Option Jvm.ClassFile.FieldType)) ∈ lw_all := lw_g (lw_at lw_m7 169 rfl) rfl
theorem q1715 : (Jvm.Cond.methodLink "LinesTouched" (432 : Nat) ({ cls := "LinesTouched", name := "takes", desc := "(IZ)V" } : Jvm.MethodName)) ∈ lw_all := lw_g (lw_at lw_m7 170 rfl) rfl
theorem q1716 : (Jvm.Cond.privateMethod ({ cls := "LinesTouched", name := "takes", desc := "(IZ)V" } : Jvm.MethodName)) ∈ lw_tbl := lw_at lw_m7 171 rfl
theorem q1717 : (Jvm.Cond.instanceMethod ({ cls := "LinesTouched", name := "takes", desc := "(IZ)V" } : Jvm.MethodName)) ∈ lw_all := lw_g (lw_at lw_m7 172 rfl) rfl
theorem q1718 : (Jvm.Cond.code ({ cls := "LinesTouched", name := "takes", desc := "(IZ)V" } : Jvm.MethodName) prog_1_method_61_code (4 : Nat) (Option.none : Option Jvm.ClassFile.FieldType)) ∈ lw_all := lw_g (lw_at lw_m7 173 rfl) rfl
theorem q1719 : (Jvm.Cond.interfaceEntry "LinesTouched" (439 : Nat)) ∈ lw_tbl := lw_at lw_m7 174 rfl
theorem q1720 : (Jvm.Cond.methodLink "LinesTouched" (439 : Nat) ({ cls := "LinesTouched$Undo", name := "runs", desc := "()V" } : Jvm.MethodName)) ∈ lw_all := lw_g (lw_at lw_m7 175 rfl) rfl
theorem q1723 : (Jvm.Cond.methodLink "LinesTouched" (455 : Nat) ({ cls := "LinesTouched", name := "refusedMany", desc := "(I)I" } : Jvm.MethodName)) ∈ lw_all := lw_g (lw_at lw_m7 178 rfl) rfl
theorem q1724 : (Jvm.Cond.privateMethod ({ cls := "LinesTouched", name := "refusedMany", desc := "(I)I" } : Jvm.MethodName)) ∈ lw_tbl := lw_at lw_m7 179 rfl
theorem q1725 : (Jvm.Cond.instanceMethod ({ cls := "LinesTouched", name := "refusedMany", desc := "(I)I" } : Jvm.MethodName)) ∈ lw_all := lw_g (lw_at lw_m7 180 rfl) rfl
theorem q1726 : (Jvm.Cond.code ({ cls := "LinesTouched", name := "refusedMany", desc := "(I)I" } : Jvm.MethodName) prog_1_method_64_code (4 : Nat) (Option.some Jvm.ClassFile.FieldType.int)) ∈ lw_all := lw_g (lw_at lw_m7 181 rfl) rfl
theorem q1727 : (Jvm.Cond.methodLink "LinesTouched" (458 : Nat) ({ cls := "LinesTouched", name := "deepest", desc := "()I" } : Jvm.MethodName)) ∈ lw_all := lw_g (lw_at lw_m7 182 rfl) rfl
theorem q1728 : (Jvm.Cond.privateMethod ({ cls := "LinesTouched", name := "deepest", desc := "()I" } : Jvm.MethodName)) ∈ lw_tbl := lw_at lw_m7 183 rfl
theorem q1729 : (Jvm.Cond.instanceMethod ({ cls := "LinesTouched", name := "deepest", desc := "()I" } : Jvm.MethodName)) ∈ lw_all := lw_g (lw_at lw_m7 184 rfl) rfl
theorem q1730 : (Jvm.Cond.code ({ cls := "LinesTouched", name := "deepest", desc := "()I" } : Jvm.MethodName) prog_1_method_65_code (3 : Nat) (Option.some Jvm.ClassFile.FieldType.int)) ∈ lw_all := lw_g (lw_at lw_m7 185 rfl) rfl
theorem q1732 : (Jvm.Cond.instanceMethod ({ cls := "LinesTouched", name := "node", desc := "(III)I" } : Jvm.MethodName)) ∈ lw_all := lw_g (lw_at lw_m7 187 rfl) rfl
theorem q1733 : (Jvm.Cond.selects "LinesTouched" ({ cls := "LinesTouched", name := "node", desc := "(III)I" } : Jvm.MethodName) ({ cls := "LinesTouched", name := "node", desc := "(III)I" } : Jvm.MethodName)) ∈ lw_all := lw_g (lw_at lw_m7 188 rfl) rfl
theorem q1734 : (Jvm.Cond.code ({ cls := "LinesTouched", name := "node", desc := "(III)I" } : Jvm.MethodName) prog_1_method_67_code (5 : Nat) (Option.some Jvm.ClassFile.FieldType.int)) ∈ lw_all := lw_g (lw_at lw_m7 189 rfl) rfl
theorem q1736 : (Jvm.Cond.instanceMethod ({ cls := "LinesTouched", name := "prove", desc := "(II)I" } : Jvm.MethodName)) ∈ lw_all := lw_g (lw_at lw_m7 191 rfl) rfl
theorem q1737 : (Jvm.Cond.selects "LinesTouched" ({ cls := "LinesTouched", name := "prove", desc := "(II)I" } : Jvm.MethodName) ({ cls := "LinesTouched", name := "prove", desc := "(II)I" } : Jvm.MethodName)) ∈ lw_all := lw_g (lw_at lw_m7 192 rfl) rfl
theorem q1738 : (Jvm.Cond.code ({ cls := "LinesTouched", name := "prove", desc := "(II)I" } : Jvm.MethodName) prog_1_method_68_code (5 : Nat) (Option.some Jvm.ClassFile.FieldType.int)) ∈ lw_all := lw_g (lw_at lw_m7 193 rfl) rfl
theorem q1740 : (Jvm.Cond.instanceMethod ({ cls := "LinesTouched", name := "proves", desc := "(II)I" } : Jvm.MethodName)) ∈ lw_all := lw_g (lw_at lw_m7 195 rfl) rfl
theorem q1741 : (Jvm.Cond.selects "LinesTouched" ({ cls := "LinesTouched", name := "proves", desc := "(II)I" } : Jvm.MethodName) ({ cls := "LinesTouched", name := "proves", desc := "(II)I" } : Jvm.MethodName)) ∈ lw_all := lw_g (lw_at lw_m7 196 rfl) rfl
theorem q1742 : (Jvm.Cond.codeWith ({ cls := "LinesTouched", name := "proves", desc := "(II)I" } : Jvm.MethodName) prog_1_method_70_code (5 : Nat) (Option.some Jvm.ClassFile.FieldType.int) [((47 : Nat), (74 : Nat), (75 : Nat), (469 : Nat)), ((47 : Nat), (74 : Nat), (84 : Nat), (476 : Nat))]) ∈ lw_all := lw_g (lw_at lw_m7 197 rfl) rfl
theorem q1743 : (Jvm.Cond.classLink "LinesTouched" (469 : Nat) "LinesTouched$Wrong") ∈ lw_all := lw_g (lw_at lw_m7 198 rfl) rfl
theorem q1744 : (Jvm.Cond.classLink "LinesTouched" (476 : Nat) "java/lang/ArrayIndexOutOfBoundsException") ∈ lw_all := lw_g (lw_at lw_m7 199 rfl) rfl
theorem q1778 : (Jvm.Cond.methodLink "LinesTouched" (472 : Nat) ({ cls := "LinesTouched", name := "reads", desc := "(Ljava/lang/Object;I)V" } : Jvm.MethodName)) ∈ lw_all := lw_g (lw_at lw_m7 233 rfl) rfl
theorem q1779 : (Jvm.Cond.privateMethod ({ cls := "LinesTouched", name := "reads", desc := "(Ljava/lang/Object;I)V" } : Jvm.MethodName)) ∈ lw_tbl := lw_at lw_m7 234 rfl
theorem q1780 : (Jvm.Cond.instanceMethod ({ cls := "LinesTouched", name := "reads", desc := "(Ljava/lang/Object;I)V" } : Jvm.MethodName)) ∈ lw_all := lw_g (lw_at lw_m7 235 rfl) rfl
theorem q1781 : (Jvm.Cond.codeWith ({ cls := "LinesTouched", name := "reads", desc := "(Ljava/lang/Object;I)V" } : Jvm.MethodName) prog_1_method_69_code (9 : Nat) (Option.none : Option Jvm.ClassFile.FieldType) [((139 : Nat), (164 : Nat), (174 : Nat), (0 : Nat)), ((174 : Nat), (176 : Nat), (174 : Nat), (0 : Nat))]) ∈ lw_all := lw_g (lw_at lw_m7 236 rfl) rfl
theorem q1790 : (Jvm.Cond.methodLink "LinesTouched" (471 : Nat) ({ cls := "LinesTouched$Wrong", name := "<init>", desc := "()V" } : Jvm.MethodName)) ∈ lw_all := lw_g (lw_at lw_m8 5 rfl) rfl
theorem q1797 : (Jvm.Cond.instanceMethod ({ cls := "LinesTouched", name := "without", desc := "(I)I" } : Jvm.MethodName)) ∈ lw_all := lw_g (lw_at lw_m8 12 rfl) rfl
theorem q1798 : (Jvm.Cond.selects "LinesTouched" ({ cls := "LinesTouched", name := "without", desc := "(I)I" } : Jvm.MethodName) ({ cls := "LinesTouched", name := "without", desc := "(I)I" } : Jvm.MethodName)) ∈ lw_all := lw_g (lw_at lw_m8 13 rfl) rfl
theorem q1799 : (Jvm.Cond.code ({ cls := "LinesTouched", name := "without", desc := "(I)I" } : Jvm.MethodName) prog_1_method_71_code (2 : Nat) (Option.some Jvm.ClassFile.FieldType.int)) ∈ lw_all := lw_g (lw_at lw_m8 14 rfl) rfl
theorem q1801 : (Jvm.Cond.instanceMethod ({ cls := "LinesTouched", name := "cut", desc := "(I)I" } : Jvm.MethodName)) ∈ lw_all := lw_g (lw_at lw_m8 16 rfl) rfl
theorem q1802 : (Jvm.Cond.selects "LinesTouched" ({ cls := "LinesTouched", name := "cut", desc := "(I)I" } : Jvm.MethodName) ({ cls := "LinesTouched", name := "cut", desc := "(I)I" } : Jvm.MethodName)) ∈ lw_all := lw_g (lw_at lw_m8 17 rfl) rfl
theorem q1803 : (Jvm.Cond.code ({ cls := "LinesTouched", name := "cut", desc := "(I)I" } : Jvm.MethodName) prog_1_method_73_code (3 : Nat) (Option.some Jvm.ClassFile.FieldType.int)) ∈ lw_all := lw_g (lw_at lw_m8 18 rfl) rfl
theorem q1804 : (Jvm.Cond.methodLink "LinesTouched" (487 : Nat) ({ cls := "LinesTouched", name := "changing", desc := "(Z)I" } : Jvm.MethodName)) ∈ lw_all := lw_g (lw_at lw_m8 19 rfl) rfl
theorem q1805 : (Jvm.Cond.privateMethod ({ cls := "LinesTouched", name := "changing", desc := "(Z)I" } : Jvm.MethodName)) ∈ lw_tbl := lw_at lw_m8 20 rfl
theorem q1806 : (Jvm.Cond.instanceMethod ({ cls := "LinesTouched", name := "changing", desc := "(Z)I" } : Jvm.MethodName)) ∈ lw_all := lw_g (lw_at lw_m8 21 rfl) rfl
theorem q1807 : (Jvm.Cond.codeWith ({ cls := "LinesTouched", name := "changing", desc := "(Z)I" } : Jvm.MethodName) prog_1_method_72_code (7 : Nat) (Option.some Jvm.ClassFile.FieldType.int) [((70 : Nat), (105 : Nat), (135 : Nat), (0 : Nat)), ((135 : Nat), (137 : Nat), (135 : Nat), (0 : Nat))]) ∈ lw_all := lw_g (lw_at lw_m8 22 rfl) rfl
theorem q1808 : (Jvm.Cond.classLink "LinesTouched" (481 : Nat) "LinesTouched$Line") ∈ lw_all := lw_g (lw_at lw_m8 23 rfl) rfl
theorem q1810 : (Jvm.Cond.methodLink "LinesTouched" (483 : Nat) ({ cls := "LinesTouched$Line", name := "<init>", desc := "(II)V" } : Jvm.MethodName)) ∈ lw_all := lw_g (lw_at lw_m8 25 rfl) rfl
theorem q1823 : (Jvm.Cond.methodLink "LinesTouched" (484 : Nat) ({ cls := "LinesTouched$Line", name := "told", desc := "()I" } : Jvm.MethodName)) ∈ lw_all := lw_g (lw_at lw_m8 38 rfl) rfl
theorem q1825 : (Jvm.Cond.instanceMethod ({ cls := "LinesTouched", name := "joins", desc := "(I)I" } : Jvm.MethodName)) ∈ lw_all := lw_g (lw_at lw_m8 40 rfl) rfl
theorem q1826 : (Jvm.Cond.selects "LinesTouched" ({ cls := "LinesTouched", name := "joins", desc := "(I)I" } : Jvm.MethodName) ({ cls := "LinesTouched", name := "joins", desc := "(I)I" } : Jvm.MethodName)) ∈ lw_all := lw_g (lw_at lw_m8 41 rfl) rfl
theorem q1827 : (Jvm.Cond.code ({ cls := "LinesTouched", name := "joins", desc := "(I)I" } : Jvm.MethodName) prog_1_method_74_code (3 : Nat) (Option.some Jvm.ClassFile.FieldType.int)) ∈ lw_all := lw_g (lw_at lw_m8 42 rfl) rfl
theorem q1829 : (Jvm.Cond.instanceMethod ({ cls := "LinesTouched", name := "pays", desc := "(I)I" } : Jvm.MethodName)) ∈ lw_all := lw_g (lw_at lw_m8 44 rfl) rfl
theorem q1830 : (Jvm.Cond.selects "LinesTouched" ({ cls := "LinesTouched", name := "pays", desc := "(I)I" } : Jvm.MethodName) ({ cls := "LinesTouched", name := "pays", desc := "(I)I" } : Jvm.MethodName)) ∈ lw_all := lw_g (lw_at lw_m8 45 rfl) rfl
theorem q1831 : (Jvm.Cond.code ({ cls := "LinesTouched", name := "pays", desc := "(I)I" } : Jvm.MethodName) prog_1_method_77_code (5 : Nat) (Option.some Jvm.ClassFile.FieldType.int)) ∈ lw_all := lw_g (lw_at lw_m8 46 rfl) rfl
theorem q1832 : (Jvm.Cond.methodLink "LinesTouched" (502 : Nat) ({ cls := "LinesTouched", name := "allPay", desc := "()V" } : Jvm.MethodName)) ∈ lw_all := lw_g (lw_at lw_m8 47 rfl) rfl
theorem q1833 : (Jvm.Cond.privateMethod ({ cls := "LinesTouched", name := "allPay", desc := "()V" } : Jvm.MethodName)) ∈ lw_tbl := lw_at lw_m8 48 rfl
theorem q1834 : (Jvm.Cond.instanceMethod ({ cls := "LinesTouched", name := "allPay", desc := "()V" } : Jvm.MethodName)) ∈ lw_all := lw_g (lw_at lw_m8 49 rfl) rfl
theorem q1835 : (Jvm.Cond.code ({ cls := "LinesTouched", name := "allPay", desc := "()V" } : Jvm.MethodName) prog_1_method_75_code (4 : Nat) (Option.none : Option Jvm.ClassFile.FieldType)) ∈ lw_all := lw_g (lw_at lw_m8 50 rfl) rfl
theorem q1836 : (Jvm.Cond.methodLink "LinesTouched" (491 : Nat) ({ cls := "java/util/LinkedHashMap", name := "clear", desc := "()V" } : Jvm.MethodName)) ∈ lw_all := lw_g (lw_at lw_m8 51 rfl) rfl
theorem q1843 : (Jvm.Cond.methodLink "LinesTouched" (494 : Nat) ({ cls := "java/lang/Integer", name := "valueOf", desc := "(I)Ljava/lang/Integer;" } : Jvm.MethodName)) ∈ lw_all := lw_g (lw_at lw_m8 58 rfl) rfl
theorem q1862 : (Jvm.Cond.methodLink "LinesTouched" (498 : Nat) ({ cls := "java/util/LinkedHashMap", name := "put", desc := "(Ljava/lang/Object;Ljava/lang/Object;)Ljava/lang/Object;" } : Jvm.MethodName)) ∈ lw_all := lw_g (lw_at lw_m8 77 rfl) rfl
theorem q1866 : (Jvm.Cond.methodLink "LinesTouched" (505 : Nat) ({ cls := "java/util/LinkedHashMap", name := "values", desc := "()Ljava/util/Collection;" } : Jvm.MethodName)) ∈ lw_all := lw_g (lw_at lw_m8 81 rfl) rfl
theorem q1888 : (Jvm.Cond.interfaceEntry "LinesTouched" (509 : Nat)) ∈ lw_tbl := lw_at lw_m8 103 rfl
theorem q1889 : (Jvm.Cond.methodLink "LinesTouched" (509 : Nat) ({ cls := "java/util/Collection", name := "iterator", desc := "()Ljava/util/Iterator;" } : Jvm.MethodName)) ∈ lw_all := lw_g (lw_at lw_m8 104 rfl) rfl
theorem q2024 : (Jvm.Cond.interfaceEntry "LinesTouched" (515 : Nat)) ∈ lw_tbl := lw_at lw_m8 239 rfl
theorem q2025 : (Jvm.Cond.methodLink "LinesTouched" (515 : Nat) ({ cls := "java/util/Iterator", name := "hasNext", desc := "()Z" } : Jvm.MethodName)) ∈ lw_all := lw_g (lw_at lw_m9 0 rfl) rfl
theorem q2043 : (Jvm.Cond.interfaceEntry "LinesTouched" (521 : Nat)) ∈ lw_tbl := lw_at lw_m9 18 rfl
theorem q2044 : (Jvm.Cond.methodLink "LinesTouched" (521 : Nat) ({ cls := "java/util/Iterator", name := "next", desc := "()Ljava/lang/Object;" } : Jvm.MethodName)) ∈ lw_all := lw_g (lw_at lw_m9 19 rfl) rfl
theorem q2084 : (Jvm.Cond.classLink "LinesTouched" (83 : Nat) "java/lang/Integer") ∈ lw_all := lw_g (lw_at lw_m9 59 rfl) rfl
theorem q2085 : (Jvm.Cond.methodLink "LinesTouched" (524 : Nat) ({ cls := "java/lang/Integer", name := "intValue", desc := "()I" } : Jvm.MethodName)) ∈ lw_all := lw_g (lw_at lw_m9 60 rfl) rfl
theorem q2086 : (Jvm.Cond.methodLink "LinesTouched" (527 : Nat) ({ cls := "LinesTouched", name := "spent", desc := "()I" } : Jvm.MethodName)) ∈ lw_all := lw_g (lw_at lw_m9 61 rfl) rfl
theorem q2087 : (Jvm.Cond.privateMethod ({ cls := "LinesTouched", name := "spent", desc := "()I" } : Jvm.MethodName)) ∈ lw_tbl := lw_at lw_m9 62 rfl
theorem q2088 : (Jvm.Cond.instanceMethod ({ cls := "LinesTouched", name := "spent", desc := "()I" } : Jvm.MethodName)) ∈ lw_all := lw_g (lw_at lw_m9 63 rfl) rfl
theorem q2089 : (Jvm.Cond.code ({ cls := "LinesTouched", name := "spent", desc := "()I" } : Jvm.MethodName) prog_1_method_76_code (3 : Nat) (Option.some Jvm.ClassFile.FieldType.int)) ∈ lw_all := lw_g (lw_at lw_m9 64 rfl) rfl
theorem q2091 : (Jvm.Cond.instanceMethod ({ cls := "LinesTouched", name := "paid", desc := "(II)I" } : Jvm.MethodName)) ∈ lw_all := lw_g (lw_at lw_m9 66 rfl) rfl
theorem q2092 : (Jvm.Cond.selects "LinesTouched" ({ cls := "LinesTouched", name := "paid", desc := "(II)I" } : Jvm.MethodName) ({ cls := "LinesTouched", name := "paid", desc := "(II)I" } : Jvm.MethodName)) ∈ lw_all := lw_g (lw_at lw_m9 67 rfl) rfl
theorem q2093 : (Jvm.Cond.code ({ cls := "LinesTouched", name := "paid", desc := "(II)I" } : Jvm.MethodName) prog_1_method_78_code (4 : Nat) (Option.some Jvm.ClassFile.FieldType.int)) ∈ lw_all := lw_g (lw_at lw_m9 68 rfl) rfl
theorem q2094 : (Jvm.Cond.methodLink "LinesTouched" (530 : Nat) ({ cls := "java/util/LinkedHashMap", name := "get", desc := "(Ljava/lang/Object;)Ljava/lang/Object;" } : Jvm.MethodName)) ∈ lw_all := lw_g (lw_at lw_m9 69 rfl) rfl
theorem q2110 : (Jvm.Cond.instanceMethod ({ cls := "LinesTouched", name := "feed", desc := "(II)I" } : Jvm.MethodName)) ∈ lw_all := lw_g (lw_at lw_m9 85 rfl) rfl
theorem q2111 : (Jvm.Cond.selects "LinesTouched" ({ cls := "LinesTouched", name := "feed", desc := "(II)I" } : Jvm.MethodName) ({ cls := "LinesTouched", name := "feed", desc := "(II)I" } : Jvm.MethodName)) ∈ lw_all := lw_g (lw_at lw_m9 86 rfl) rfl
theorem q2112 : (Jvm.Cond.code ({ cls := "LinesTouched", name := "feed", desc := "(II)I" } : Jvm.MethodName) prog_1_method_83_code (4 : Nat) (Option.some Jvm.ClassFile.FieldType.int)) ∈ lw_all := lw_g (lw_at lw_m9 87 rfl) rfl
theorem q2114 : (Jvm.Cond.instanceMethod ({ cls := "LinesTouched", name := "wipe", desc := "()I" } : Jvm.MethodName)) ∈ lw_all := lw_g (lw_at lw_m9 89 rfl) rfl
theorem q2115 : (Jvm.Cond.selects "LinesTouched" ({ cls := "LinesTouched", name := "wipe", desc := "()I" } : Jvm.MethodName) ({ cls := "LinesTouched", name := "wipe", desc := "()I" } : Jvm.MethodName)) ∈ lw_all := lw_g (lw_at lw_m9 90 rfl) rfl
theorem q2116 : (Jvm.Cond.code ({ cls := "LinesTouched", name := "wipe", desc := "()I" } : Jvm.MethodName) prog_1_method_84_code (2 : Nat) (Option.some Jvm.ClassFile.FieldType.int)) ∈ lw_all := lw_g (lw_at lw_m9 91 rfl) rfl
theorem q2118 : (Jvm.Cond.instanceMethod ({ cls := "LinesTouched", name := "text", desc := "()I" } : Jvm.MethodName)) ∈ lw_all := lw_g (lw_at lw_m9 93 rfl) rfl
theorem q2119 : (Jvm.Cond.selects "LinesTouched" ({ cls := "LinesTouched", name := "text", desc := "()I" } : Jvm.MethodName) ({ cls := "LinesTouched", name := "text", desc := "()I" } : Jvm.MethodName)) ∈ lw_all := lw_g (lw_at lw_m9 94 rfl) rfl
theorem q2120 : (Jvm.Cond.codeWith ({ cls := "LinesTouched", name := "text", desc := "()I" } : Jvm.MethodName) prog_1_method_85_code (5 : Nat) (Option.some Jvm.ClassFile.FieldType.int) [((16 : Nat), (41 : Nat), (48 : Nat), (581 : Nat)), ((16 : Nat), (41 : Nat), (64 : Nat), (0 : Nat)), ((48 : Nat), (57 : Nat), (64 : Nat), (0 : Nat)), ((64 : Nat), (66 : Nat), (64 : Nat), (0 : Nat))]) ∈ lw_all := lw_g (lw_at lw_m9 95 rfl) rfl
theorem q2121 : (Jvm.Cond.classLink "LinesTouched" (581 : Nat) "LinesTouched$Fault") ∈ lw_all := lw_g (lw_at lw_m9 96 rfl) rfl
theorem q2122 : (Jvm.Cond.classLink "LinesTouched" (572 : Nat) "LinesTouched$Reader") ∈ lw_all := lw_g (lw_at lw_m9 97 rfl) rfl
theorem q2124 : (Jvm.Cond.methodLink "LinesTouched" (574 : Nat) ({ cls := "LinesTouched$Reader", name := "<init>", desc := "([BI)V" } : Jvm.MethodName)) ∈ lw_all := lw_g (lw_at lw_m9 99 rfl) rfl
theorem q2142 : (Jvm.Cond.fieldLinkNest "LinesTouched" (579 : Nat) "LinesTouched$Reader" "twigs" "[LLinesTouched$Twig;" "LinesTouched") ∈ lw_tbl := lw_at lw_m9 117 rfl
theorem q2144 : (Jvm.Cond.fieldLinkNest "LinesTouched" (580 : Nat) "LinesTouched$Reader" "many" "I" "LinesTouched") ∈ lw_tbl := lw_at lw_m9 119 rfl
theorem q2168 : (Jvm.Cond.methodLink "LinesTouched" (577 : Nat) ({ cls := "LinesTouched$Reader", name := "reads", desc := "()V" } : Jvm.MethodName)) ∈ lw_all := lw_g (lw_at lw_m9 143 rfl) rfl
theorem q2207 : (Jvm.Cond.fieldLinkNest "LinesTouched" (583 : Nat) "LinesTouched$Fault" "place" "I" "LinesTouched") ∈ lw_tbl := lw_at lw_m9 182 rfl
theorem q2261 : (Jvm.Cond.fieldLinkNest "LinesTouched" (605 : Nat) "LinesTouched$Twig" "within" "LLinesTouched$Twig;" "LinesTouched") ∈ lw_tbl := lw_at lw_m9 236 rfl
theorem q2263 : (Jvm.Cond.fieldLinkNest "LinesTouched" (608 : Nat) "LinesTouched$Twig" "point" "LLinesTouched$Point;" "LinesTouched") ∈ lw_tbl := lw_at lw_m9 238 rfl
theorem q2265 : (Jvm.Cond.fieldLinkNest "LinesTouched" (545 : Nat) "LinesTouched$Twig" "first" "LLinesTouched$Twig;" "LinesTouched") ∈ lw_tbl := lw_at lw_m10 0 rfl
theorem q2268 : (Jvm.Cond.fieldLinkNest "LinesTouched" (561 : Nat) "LinesTouched$Twig" "behind" "LLinesTouched$Twig;" "LinesTouched") ∈ lw_tbl := lw_at lw_m10 3 rfl
theorem q2270 : (Jvm.Cond.fieldLinkNest "LinesTouched" (613 : Nat) "LinesTouched$Twig" "under" "I" "LinesTouched") ∈ lw_tbl := lw_at lw_m10 5 rfl
theorem q2288 : (Jvm.Cond.instanceMethod ({ cls := "LinesTouched", name := "tree", desc := "(I)J" } : Jvm.MethodName)) ∈ lw_all := lw_g (lw_at lw_m10 23 rfl) rfl
theorem q2289 : (Jvm.Cond.selects "LinesTouched" ({ cls := "LinesTouched", name := "tree", desc := "(I)J" } : Jvm.MethodName) ({ cls := "LinesTouched", name := "tree", desc := "(I)J" } : Jvm.MethodName)) ∈ lw_all := lw_g (lw_at lw_m10 24 rfl) rfl
theorem q2290 : (Jvm.Cond.code ({ cls := "LinesTouched", name := "tree", desc := "(I)J" } : Jvm.MethodName) prog_1_method_86_code (2 : Nat) (Option.some Jvm.ClassFile.FieldType.long)) ∈ lw_all := lw_g (lw_at lw_m10 25 rfl) rfl
theorem q2291 : (Jvm.Cond.static ({ cls := "LinesTouched", name := "lambda$tree$5", desc := "(LLinesTouched$Twig;)I" } : Jvm.MethodName)) ∈ lw_all := lw_g (lw_at lw_m10 26 rfl) rfl
theorem q2292 : (Jvm.Cond.code ({ cls := "LinesTouched", name := "lambda$tree$5", desc := "(LLinesTouched$Twig;)I" } : Jvm.MethodName) prog_1_method_115_code (1 : Nat) (Option.some Jvm.ClassFile.FieldType.int)) ∈ lw_all := lw_g (lw_at lw_m10 27 rfl) rfl
theorem q2293 : (Jvm.Cond.methodLink "LinesTouched" (589 : Nat) ({ cls := "LinesTouched", name := "either", desc := "(LLinesTouched$Twig;LLinesTouched$Counted;)LLinesTouched$Tally;" } : Jvm.MethodName)) ∈ lw_all := lw_g (lw_at lw_m10 28 rfl) rfl
theorem q2294 : (Jvm.Cond.privateMethod ({ cls := "LinesTouched", name := "either", desc := "(LLinesTouched$Twig;LLinesTouched$Counted;)LLinesTouched$Tally;" } : Jvm.MethodName)) ∈ lw_tbl := lw_at lw_m10 29 rfl
theorem q2295 : (Jvm.Cond.instanceMethod ({ cls := "LinesTouched", name := "either", desc := "(LLinesTouched$Twig;LLinesTouched$Counted;)LLinesTouched$Tally;" } : Jvm.MethodName)) ∈ lw_all := lw_g (lw_at lw_m10 30 rfl) rfl
theorem q2296 : (Jvm.Cond.code ({ cls := "LinesTouched", name := "either", desc := "(LLinesTouched$Twig;LLinesTouched$Counted;)LLinesTouched$Tally;" } : Jvm.MethodName) prog_1_method_80_code (4 : Nat) (Option.some (Jvm.ClassFile.FieldType.object "LinesTouched$Tally"))) ∈ lw_all := lw_g (lw_at lw_m10 31 rfl) rfl
theorem q2297 : (Jvm.Cond.methodLink "LinesTouched" (550 : Nat) ({ cls := "LinesTouched", name := "both", desc := "(LLinesTouched$Twig;LLinesTouched$Counted;)[LLinesTouched$Tally;" } : Jvm.MethodName)) ∈ lw_all := lw_g (lw_at lw_m10 32 rfl) rfl
theorem q2298 : (Jvm.Cond.static ({ cls := "LinesTouched", name := "both", desc := "(LLinesTouched$Twig;LLinesTouched$Counted;)[LLinesTouched$Tally;" } : Jvm.MethodName)) ∈ lw_all := lw_g (lw_at lw_m10 33 rfl) rfl
theorem q2299 : (Jvm.Cond.code ({ cls := "LinesTouched", name := "both", desc := "(LLinesTouched$Twig;LLinesTouched$Counted;)[LLinesTouched$Tally;" } : Jvm.MethodName) prog_1_method_79_code (6 : Nat) (Option.some (Jvm.ClassFile.FieldType.array (Jvm.ClassFile.FieldType.object "LinesTouched$Tally")))) ∈ lw_all := lw_g (lw_at lw_m10 34 rfl) rfl
theorem q2300 : (Jvm.Cond.classLink "LinesTouched" (534 : Nat) "LinesTouched$Tally") ∈ lw_all := lw_g (lw_at lw_m10 35 rfl) rfl
theorem q2302 : (Jvm.Cond.methodLink "LinesTouched" (536 : Nat) ({ cls := "LinesTouched$Tally", name := "<init>", desc := "(IJ)V" } : Jvm.MethodName)) ∈ lw_all := lw_g (lw_at lw_m10 37 rfl) rfl
theorem q2307 : (Jvm.Cond.fieldLinkNest "LinesTouched" (593 : Nat) "LinesTouched$Tally" "least" "I" "LinesTouched") ∈ lw_tbl := lw_at lw_m10 42 rfl
theorem q2309 : (Jvm.Cond.fieldLinkNest "LinesTouched" (595 : Nat) "LinesTouched$Tally" "ways" "J" "LinesTouched") ∈ lw_tbl := lw_at lw_m10 44 rfl
theorem q2315 : (Jvm.Cond.interfaceEntry "LinesTouched" (539 : Nat)) ∈ lw_tbl := lw_at lw_m10 50 rfl
theorem q2316 : (Jvm.Cond.methodLink "LinesTouched" (539 : Nat) ({ cls := "LinesTouched$Counted", name := "as", desc := "(LLinesTouched$Twig;)I" } : Jvm.MethodName)) ∈ lw_all := lw_g (lw_at lw_m10 51 rfl) rfl
theorem q2319 : (Jvm.Cond.methodLink "LinesTouched" (554 : Nat) ({ cls := "LinesTouched$Tally", name := "and", desc := "(LLinesTouched$Tally;)LLinesTouched$Tally;" } : Jvm.MethodName)) ∈ lw_all := lw_g (lw_at lw_m10 54 rfl) rfl
theorem q2325 : (Jvm.Cond.methodLink "LinesTouched" (558 : Nat) ({ cls := "LinesTouched$Tally", name := "or", desc := "(LLinesTouched$Tally;)LLinesTouched$Tally;" } : Jvm.MethodName)) ∈ lw_all := lw_g (lw_at lw_m10 60 rfl) rfl
theorem q2330 : (Jvm.Cond.static ({ cls := "LinesTouched", name := "lambda$tree$6", desc := "(LLinesTouched$Twig;)I" } : Jvm.MethodName)) ∈ lw_all := lw_g (lw_at lw_m10 65 rfl) rfl
theorem q2331 : (Jvm.Cond.code ({ cls := "LinesTouched", name := "lambda$tree$6", desc := "(LLinesTouched$Twig;)I" } : Jvm.MethodName) prog_1_method_114_code (1 : Nat) (Option.some Jvm.ClassFile.FieldType.int)) ∈ lw_all := lw_g (lw_at lw_m10 66 rfl) rfl
theorem q2332 : (Jvm.Cond.static ({ cls := "LinesTouched", name := "lambda$tree$7", desc := "(LLinesTouched$Twig;)I" } : Jvm.MethodName)) ∈ lw_all := lw_g (lw_at lw_m10 67 rfl) rfl
theorem q2333 : (Jvm.Cond.code ({ cls := "LinesTouched", name := "lambda$tree$7", desc := "(LLinesTouched$Twig;)I" } : Jvm.MethodName) prog_1_method_113_code (1 : Nat) (Option.some Jvm.ClassFile.FieldType.int)) ∈ lw_all := lw_g (lw_at lw_m10 68 rfl) rfl
theorem q2334 : (Jvm.Cond.static ({ cls := "LinesTouched", name := "lambda$tree$8", desc := "(LLinesTouched$Twig;)I" } : Jvm.MethodName)) ∈ lw_all := lw_g (lw_at lw_m10 69 rfl) rfl
theorem q2335 : (Jvm.Cond.code ({ cls := "LinesTouched", name := "lambda$tree$8", desc := "(LLinesTouched$Twig;)I" } : Jvm.MethodName) prog_1_method_112_code (1 : Nat) (Option.some Jvm.ClassFile.FieldType.int)) ∈ lw_all := lw_g (lw_at lw_m10 70 rfl) rfl
theorem q2336 : (Jvm.Cond.methodLink "LinesTouched" (616 : Nat) ({ cls := "LinesTouched$Twig", name := "cost", desc := "()I" } : Jvm.MethodName)) ∈ lw_all := lw_g (lw_at lw_m10 71 rfl) rfl
theorem q2341 : (Jvm.Cond.static ({ cls := "LinesTouched", name := "lambda$tree$9", desc := "(LLinesTouched$Twig;)I" } : Jvm.MethodName)) ∈ lw_all := lw_g (lw_at lw_m10 76 rfl) rfl
theorem q2342 : (Jvm.Cond.code ({ cls := "LinesTouched", name := "lambda$tree$9", desc := "(LLinesTouched$Twig;)I" } : Jvm.MethodName) prog_1_method_111_code (1 : Nat) (Option.some Jvm.ClassFile.FieldType.int)) ∈ lw_all := lw_g (lw_at lw_m10 77 rfl) rfl
theorem q2343 : (Jvm.Cond.methodLink "LinesTouched" (601 : Nat) ({ cls := "LinesTouched", name := "bareTree", desc := "()J" } : Jvm.MethodName)) ∈ lw_all := lw_g (lw_at lw_m10 78 rfl) rfl
theorem q2344 : (Jvm.Cond.privateMethod ({ cls := "LinesTouched", name := "bareTree", desc := "()J" } : Jvm.MethodName)) ∈ lw_tbl := lw_at lw_m10 79 rfl
theorem q2345 : (Jvm.Cond.instanceMethod ({ cls := "LinesTouched", name := "bareTree", desc := "()J" } : Jvm.MethodName)) ∈ lw_all := lw_g (lw_at lw_m10 80 rfl) rfl
theorem q2346 : (Jvm.Cond.code ({ cls := "LinesTouched", name := "bareTree", desc := "()J" } : Jvm.MethodName) prog_1_method_82_code (2 : Nat) (Option.some Jvm.ClassFile.FieldType.long)) ∈ lw_all := lw_g (lw_at lw_m10 81 rfl) rfl
theorem q2347 : (Jvm.Cond.methodLink "LinesTouched" (564 : Nat) ({ cls := "LinesTouched", name := "bareOf", desc := "(LLinesTouched$Twig;[J)V" } : Jvm.MethodName)) ∈ lw_all := lw_g (lw_at lw_m10 82 rfl) rfl
theorem q2348 : (Jvm.Cond.privateMethod ({ cls := "LinesTouched", name := "bareOf", desc := "(LLinesTouched$Twig;[J)V" } : Jvm.MethodName)) ∈ lw_tbl := lw_at lw_m10 83 rfl
theorem q2349 : (Jvm.Cond.instanceMethod ({ cls := "LinesTouched", name := "bareOf", desc := "(LLinesTouched$Twig;[J)V" } : Jvm.MethodName)) ∈ lw_all := lw_g (lw_at lw_m10 84 rfl) rfl
theorem q2350 : (Jvm.Cond.code ({ cls := "LinesTouched", name := "bareOf", desc := "(LLinesTouched$Twig;[J)V" } : Jvm.MethodName) prog_1_method_81_code (11 : Nat) (Option.none : Option Jvm.ClassFile.FieldType)) ∈ lw_all := lw_g (lw_at lw_m10 85 rfl) rfl
theorem q2353 : (Jvm.Cond.instanceMethod ({ cls := "LinesTouched", name := "treeOf", desc := "(II)I" } : Jvm.MethodName)) ∈ lw_all := lw_g (lw_at lw_m10 88 rfl) rfl
theorem q2354 : (Jvm.Cond.selects "LinesTouched" ({ cls := "LinesTouched", name := "treeOf", desc := "(II)I" } : Jvm.MethodName) ({ cls := "LinesTouched", name := "treeOf", desc := "(II)I" } : Jvm.MethodName)) ∈ lw_all := lw_g (lw_at lw_m10 89 rfl) rfl
theorem q2355 : (Jvm.Cond.code ({ cls := "LinesTouched", name := "treeOf", desc := "(II)I" } : Jvm.MethodName) prog_1_method_88_code (4 : Nat) (Option.some Jvm.ClassFile.FieldType.int)) ∈ lw_all := lw_g (lw_at lw_m10 90 rfl) rfl
theorem q2356 : (Jvm.Cond.methodLink "LinesTouched" (618 : Nat) ({ cls := "LinesTouched", name := "isMarked", desc := "(I)Z" } : Jvm.MethodName)) ∈ lw_all := lw_g (lw_at lw_m10 91 rfl) rfl
theorem q2357 : (Jvm.Cond.privateMethod ({ cls := "LinesTouched", name := "isMarked", desc := "(I)Z" } : Jvm.MethodName)) ∈ lw_tbl := lw_at lw_m10 92 rfl
theorem q2358 : (Jvm.Cond.instanceMethod ({ cls := "LinesTouched", name := "isMarked", desc := "(I)Z" } : Jvm.MethodName)) ∈ lw_all := lw_g (lw_at lw_m10 93 rfl) rfl
theorem q2359 : (Jvm.Cond.code ({ cls := "LinesTouched", name := "isMarked", desc := "(I)Z" } : Jvm.MethodName) prog_1_method_87_code (5 : Nat) (Option.some Jvm.ClassFile.FieldType.boolean)) ∈ lw_all := lw_g (lw_at lw_m10 94 rfl) rfl
theorem q2362 : (Jvm.Cond.instanceMethod ({ cls := "LinesTouched", name := "plant", desc := "()I" } : Jvm.MethodName)) ∈ lw_all := lw_g (lw_at lw_m10 97 rfl) rfl
theorem q2363 : (Jvm.Cond.selects "LinesTouched" ({ cls := "LinesTouched", name := "plant", desc := "()I" } : Jvm.MethodName) ({ cls := "LinesTouched", name := "plant", desc := "()I" } : Jvm.MethodName)) ∈ lw_all := lw_g (lw_at lw_m10 98 rfl) rfl
theorem q2364 : (Jvm.Cond.code ({ cls := "LinesTouched", name := "plant", desc := "()I" } : Jvm.MethodName) prog_1_method_89_code (4 : Nat) (Option.some Jvm.ClassFile.FieldType.int)) ∈ lw_all := lw_g (lw_at lw_m10 99 rfl) rfl
theorem q2366 : (Jvm.Cond.instanceMethod ({ cls := "LinesTouched", name := "seed", desc := "(I)I" } : Jvm.MethodName)) ∈ lw_all := lw_g (lw_at lw_m10 101 rfl) rfl
theorem q2367 : (Jvm.Cond.selects "LinesTouched" ({ cls := "LinesTouched", name := "seed", desc := "(I)I" } : Jvm.MethodName) ({ cls := "LinesTouched", name := "seed", desc := "(I)I" } : Jvm.MethodName)) ∈ lw_all := lw_g (lw_at lw_m10 102 rfl) rfl
theorem q2368 : (Jvm.Cond.code ({ cls := "LinesTouched", name := "seed", desc := "(I)I" } : Jvm.MethodName) prog_1_method_90_code (3 : Nat) (Option.some Jvm.ClassFile.FieldType.int)) ∈ lw_all := lw_g (lw_at lw_m10 103 rfl) rfl
theorem q2370 : (Jvm.Cond.instanceMethod ({ cls := "LinesTouched", name := "deal", desc := "(II)I" } : Jvm.MethodName)) ∈ lw_all := lw_g (lw_at lw_m10 105 rfl) rfl
theorem q2371 : (Jvm.Cond.selects "LinesTouched" ({ cls := "LinesTouched", name := "deal", desc := "(II)I" } : Jvm.MethodName) ({ cls := "LinesTouched", name := "deal", desc := "(II)I" } : Jvm.MethodName)) ∈ lw_all := lw_g (lw_at lw_m10 106 rfl) rfl
theorem q2372 : (Jvm.Cond.code ({ cls := "LinesTouched", name := "deal", desc := "(II)I" } : Jvm.MethodName) prog_1_method_91_code (3 : Nat) (Option.some Jvm.ClassFile.FieldType.int)) ∈ lw_all := lw_g (lw_at lw_m10 107 rfl) rfl
theorem q2373 : (Jvm.Cond.methodLink "LinesTouched" (621 : Nat) ({ cls := "LinesTouched$Net", name := "deals", desc := "(II)I" } : Jvm.MethodName)) ∈ lw_all := lw_g (lw_at lw_m10 108 rfl) rfl
theorem q2385 : (Jvm.Cond.instanceMethod ({ cls := "LinesTouched", name := "times", desc := "(IIII)I" } : Jvm.MethodName)) ∈ lw_all := lw_g (lw_at lw_m10 120 rfl) rfl
theorem q2386 : (Jvm.Cond.selects "LinesTouched" ({ cls := "LinesTouched", name := "times", desc := "(IIII)I" } : Jvm.MethodName) ({ cls := "LinesTouched", name := "times", desc := "(IIII)I" } : Jvm.MethodName)) ∈ lw_all := lw_g (lw_at lw_m10 121 rfl) rfl
theorem q2387 : (Jvm.Cond.codeWith ({ cls := "LinesTouched", name := "times", desc := "(IIII)I" } : Jvm.MethodName) prog_1_method_92_code (8 : Nat) (Option.some Jvm.ClassFile.FieldType.int) [((58 : Nat), (107 : Nat), (121 : Nat), (0 : Nat)), ((121 : Nat), (123 : Nat), (121 : Nat), (0 : Nat))]) ∈ lw_all := lw_g (lw_at lw_m10 122 rfl) rfl
theorem q2388 : (Jvm.Cond.methodLink "LinesTouched" (624 : Nat) ({ cls := "LinesTouched$Net", name := "become", desc := "(LLinesTouched$Net;)V" } : Jvm.MethodName)) ∈ lw_all := lw_g (lw_at lw_m10 123 rfl) rfl
theorem q2396 : (Jvm.Cond.instanceMethod ({ cls := "LinesTouched", name := "sheet", desc := "(III)I" } : Jvm.MethodName)) ∈ lw_all := lw_g (lw_at lw_m10 131 rfl) rfl
theorem q2397 : (Jvm.Cond.selects "LinesTouched" ({ cls := "LinesTouched", name := "sheet", desc := "(III)I" } : Jvm.MethodName) ({ cls := "LinesTouched", name := "sheet", desc := "(III)I" } : Jvm.MethodName)) ∈ lw_all := lw_g (lw_at lw_m10 132 rfl) rfl
theorem q2398 : (Jvm.Cond.codeWith ({ cls := "LinesTouched", name := "sheet", desc := "(III)I" } : Jvm.MethodName) prog_1_method_98_code (5 : Nat) (Option.some Jvm.ClassFile.FieldType.int) [((29 : Nat), (71 : Nat), (72 : Nat), (631 : Nat))]) ∈ lw_all := lw_g (lw_at lw_m10 133 rfl) rfl
theorem q2399 : (Jvm.Cond.classLink "LinesTouched" (631 : Nat) "java/lang/NegativeArraySizeException") ∈ lw_all := lw_g (lw_at lw_m10 134 rfl) rfl
theorem q2414 : (Jvm.Cond.instanceMethod ({ cls := "LinesTouched", name := "write", desc := "(III)I" } : Jvm.MethodName)) ∈ lw_all := lw_g (lw_at lw_m10 149 rfl) rfl
theorem q2415 : (Jvm.Cond.selects "LinesTouched" ({ cls := "LinesTouched", name := "write", desc := "(III)I" } : Jvm.MethodName) ({ cls := "LinesTouched", name := "write", desc := "(III)I" } : Jvm.MethodName)) ∈ lw_all := lw_g (lw_at lw_m10 150 rfl) rfl
theorem q2416 : (Jvm.Cond.codeWith ({ cls := "LinesTouched", name := "write", desc := "(III)I" } : Jvm.MethodName) prog_1_method_99_code (5 : Nat) (Option.some Jvm.ClassFile.FieldType.int) [((10 : Nat), (25 : Nat), (26 : Nat), (637 : Nat)), ((10 : Nat), (25 : Nat), (31 : Nat), (476 : Nat))]) ∈ lw_all := lw_g (lw_at lw_m10 151 rfl) rfl
theorem q2417 : (Jvm.Cond.classLink "LinesTouched" (637 : Nat) "java/lang/NullPointerException") ∈ lw_all := lw_g (lw_at lw_m10 152 rfl) rfl
theorem q2442 : (Jvm.Cond.methodLink "LinesTouched" (633 : Nat) ({ cls := "LinesTouched", name := "lays", desc := "(Ljava/lang/Object;II)V" } : Jvm.MethodName)) ∈ lw_all := lw_g (lw_at lw_m10 177 rfl) rfl
theorem q2443 : (Jvm.Cond.static ({ cls := "LinesTouched", name := "lays", desc := "(Ljava/lang/Object;II)V" } : Jvm.MethodName)) ∈ lw_all := lw_g (lw_at lw_m10 178 rfl) rfl
theorem q2444 : (Jvm.Cond.code ({ cls := "LinesTouched", name := "lays", desc := "(Ljava/lang/Object;II)V" } : Jvm.MethodName) prog_1_method_97_code (3 : Nat) (Option.none : Option Jvm.ClassFile.FieldType)) ∈ lw_all := lw_g (lw_at lw_m10 179 rfl) rfl
theorem q2446 : (Jvm.Cond.instanceMethod ({ cls := "LinesTouched", name := "item", desc := "(II)I" } : Jvm.MethodName)) ∈ lw_all := lw_g (lw_at lw_m10 181 rfl) rfl
theorem q2447 : (Jvm.Cond.selects "LinesTouched" ({ cls := "LinesTouched", name := "item", desc := "(II)I" } : Jvm.MethodName) ({ cls := "LinesTouched", name := "item", desc := "(II)I" } : Jvm.MethodName)) ∈ lw_all := lw_g (lw_at lw_m10 182 rfl) rfl
theorem q2448 : (Jvm.Cond.codeWith ({ cls := "LinesTouched", name := "item", desc := "(II)I" } : Jvm.MethodName) prog_1_method_100_code (4 : Nat) (Option.some Jvm.ClassFile.FieldType.int) [((10 : Nat), (23 : Nat), (24 : Nat), (637 : Nat)), ((10 : Nat), (23 : Nat), (28 : Nat), (476 : Nat))]) ∈ lw_all := lw_g (lw_at lw_m10 183 rfl) rfl
theorem q2450 : (Jvm.Cond.instanceMethod ({ cls := "LinesTouched", name := "copy", desc := "(IIIII)I" } : Jvm.MethodName)) ∈ lw_all := lw_g (lw_at lw_m10 185 rfl) rfl
theorem q2451 : (Jvm.Cond.selects "LinesTouched" ({ cls := "LinesTouched", name := "copy", desc := "(IIIII)I" } : Jvm.MethodName) ({ cls := "LinesTouched", name := "copy", desc := "(IIIII)I" } : Jvm.MethodName)) ∈ lw_all := lw_g (lw_at lw_m10 186 rfl) rfl
theorem q2452 : (Jvm.Cond.codeWith ({ cls := "LinesTouched", name := "copy", desc := "(IIIII)I" } : Jvm.MethodName) prog_1_method_101_code (9 : Nat) (Option.some Jvm.ClassFile.FieldType.int) [((68 : Nat), (82 : Nat), (83 : Nat), (476 : Nat))]) ∈ lw_all := lw_g (lw_at lw_m10 187 rfl) rfl
theorem q2453 : (Jvm.Cond.methodLink "LinesTouched" (639 : Nat) ({ cls := "LinesTouched", name := "sortOf", desc := "(Ljava/lang/Object;)I" } : Jvm.MethodName)) ∈ lw_all := lw_g (lw_at lw_m10 188 rfl) rfl
theorem q2454 : (Jvm.Cond.static ({ cls := "LinesTouched", name := "sortOf", desc := "(Ljava/lang/Object;)I" } : Jvm.MethodName)) ∈ lw_all := lw_g (lw_at lw_m10 189 rfl) rfl
theorem q2455 : (Jvm.Cond.code ({ cls := "LinesTouched", name := "sortOf", desc := "(Ljava/lang/Object;)I" } : Jvm.MethodName) prog_1_method_94_code (1 : Nat) (Option.some Jvm.ClassFile.FieldType.int)) ∈ lw_all := lw_g (lw_at lw_m10 190 rfl) rfl
theorem q2456 : (Jvm.Cond.methodLink "LinesTouched" (642 : Nat) ({ cls := "java/lang/System", name := "arraycopy", desc := "(Ljava/lang/Object;ILjava/lang/Object;II)V" } : Jvm.MethodName)) ∈ lw_all := lw_g (lw_at lw_m10 191 rfl) rfl
theorem q2458 : (Jvm.Cond.instanceMethod ({ cls := "LinesTouched", name := "load", desc := "(I)I" } : Jvm.MethodName)) ∈ lw_all := lw_g (lw_at lw_m10 193 rfl) rfl
theorem q2459 : (Jvm.Cond.selects "LinesTouched" ({ cls := "LinesTouched", name := "load", desc := "(I)I" } : Jvm.MethodName) ({ cls := "LinesTouched", name := "load", desc := "(I)I" } : Jvm.MethodName)) ∈ lw_all := lw_g (lw_at lw_m10 194 rfl) rfl
theorem q2460 : (Jvm.Cond.code ({ cls := "LinesTouched", name := "load", desc := "(I)I" } : Jvm.MethodName) prog_1_method_102_code (4 : Nat) (Option.some Jvm.ClassFile.FieldType.int)) ∈ lw_all := lw_g (lw_at lw_m10 195 rfl) rfl
theorem q2462 : (Jvm.Cond.instanceMethod ({ cls := "LinesTouched", name := "judge", desc := "(I)I" } : Jvm.MethodName)) ∈ lw_all := lw_g (lw_at lw_m10 197 rfl) rfl
theorem q2463 : (Jvm.Cond.selects "LinesTouched" ({ cls := "LinesTouched", name := "judge", desc := "(I)I" } : Jvm.MethodName) ({ cls := "LinesTouched", name := "judge", desc := "(I)I" } : Jvm.MethodName)) ∈ lw_all := lw_g (lw_at lw_m10 198 rfl) rfl
theorem q2464 : (Jvm.Cond.code ({ cls := "LinesTouched", name := "judge", desc := "(I)I" } : Jvm.MethodName) prog_1_method_104_code (5 : Nat) (Option.some Jvm.ClassFile.FieldType.int)) ∈ lw_all := lw_g (lw_at lw_m10 199 rfl) rfl
theorem q2465 : (Jvm.Cond.methodLink "LinesTouched" (648 : Nat) ({ cls := "LinesTouched", name := "isHalf", desc := "(Ljava/lang/Object;I)Z" } : Jvm.MethodName)) ∈ lw_all := lw_g (lw_at lw_m10 200 rfl) rfl
theorem q2466 : (Jvm.Cond.privateMethod ({ cls := "LinesTouched", name := "isHalf", desc := "(Ljava/lang/Object;I)Z" } : Jvm.MethodName)) ∈ lw_tbl := lw_at lw_m10 201 rfl
theorem q2467 : (Jvm.Cond.instanceMethod ({ cls := "LinesTouched", name := "isHalf", desc := "(Ljava/lang/Object;I)Z" } : Jvm.MethodName)) ∈ lw_all := lw_g (lw_at lw_m10 202 rfl) rfl
theorem q2468 : (Jvm.Cond.code ({ cls := "LinesTouched", name := "isHalf", desc := "(Ljava/lang/Object;I)Z" } : Jvm.MethodName) prog_1_method_103_code (6 : Nat) (Option.some Jvm.ClassFile.FieldType.boolean)) ∈ lw_all := lw_g (lw_at lw_m10 203 rfl) rfl
theorem q2470 : (Jvm.Cond.instanceMethod ({ cls := "LinesTouched", name := "shelf", desc := "(III)I" } : Jvm.MethodName)) ∈ lw_all := lw_g (lw_at lw_m10 205 rfl) rfl
theorem q2471 : (Jvm.Cond.selects "LinesTouched" ({ cls := "LinesTouched", name := "shelf", desc := "(III)I" } : Jvm.MethodName) ({ cls := "LinesTouched", name := "shelf", desc := "(III)I" } : Jvm.MethodName)) ∈ lw_all := lw_g (lw_at lw_m10 206 rfl) rfl
theorem q2472 : (Jvm.Cond.code ({ cls := "LinesTouched", name := "shelf", desc := "(III)I" } : Jvm.MethodName) prog_1_method_105_code (4 : Nat) (Option.some Jvm.ClassFile.FieldType.int)) ∈ lw_all := lw_g (lw_at lw_m10 207 rfl) rfl
theorem q2473 : (Jvm.Cond.classLink "LinesTouched" (652 : Nat) "LinesTouched$Ticket") ∈ lw_all := lw_g (lw_at lw_m10 208 rfl) rfl
theorem q2475 : (Jvm.Cond.methodLink "LinesTouched" (654 : Nat) ({ cls := "LinesTouched$Ticket", name := "<init>", desc := "(I)V" } : Jvm.MethodName)) ∈ lw_all := lw_g (lw_at lw_m10 210 rfl) rfl
theorem q2480 : (Jvm.Cond.fieldLinkNest "LinesTouched" (655 : Nat) "LinesTouched$Ticket" "number" "I" "LinesTouched") ∈ lw_tbl := lw_at lw_m10 215 rfl
theorem q2485 : (Jvm.Cond.instanceMethod ({ cls := "LinesTouched", name := "taken", desc := "(II)I" } : Jvm.MethodName)) ∈ lw_all := lw_g (lw_at lw_m10 220 rfl) rfl
theorem q2486 : (Jvm.Cond.selects "LinesTouched" ({ cls := "LinesTouched", name := "taken", desc := "(II)I" } : Jvm.MethodName) ({ cls := "LinesTouched", name := "taken", desc := "(II)I" } : Jvm.MethodName)) ∈ lw_all := lw_g (lw_at lw_m10 221 rfl) rfl
theorem q2487 : (Jvm.Cond.codeWith ({ cls := "LinesTouched", name := "taken", desc := "(II)I" } : Jvm.MethodName) prog_1_method_108_code (4 : Nat) (Option.some Jvm.ClassFile.FieldType.int) [((32 : Nat), (65 : Nat), (66 : Nat), (637 : Nat)), ((32 : Nat), (65 : Nat), (70 : Nat), (666 : Nat))]) ∈ lw_all := lw_g (lw_at lw_m10 222 rfl) rfl
theorem q2488 : (Jvm.Cond.classLink "LinesTouched" (666 : Nat) "java/lang/ClassCastException") ∈ lw_all := lw_g (lw_at lw_m10 223 rfl) rfl
theorem q2502 : (Jvm.Cond.methodLink "LinesTouched" (656 : Nat) ({ cls := "LinesTouched", name := "heldOn", desc := "(I)Ljava/lang/Object;" } : Jvm.MethodName)) ∈ lw_all := lw_g (lw_at lw_m10 237 rfl) rfl
theorem q2503 : (Jvm.Cond.privateMethod ({ cls := "LinesTouched", name := "heldOn", desc := "(I)Ljava/lang/Object;" } : Jvm.MethodName)) ∈ lw_tbl := lw_at lw_m10 238 rfl
theorem q2504 : (Jvm.Cond.instanceMethod ({ cls := "LinesTouched", name := "heldOn", desc := "(I)Ljava/lang/Object;" } : Jvm.MethodName)) ∈ lw_all := lw_g (lw_at lw_m10 239 rfl) rfl
theorem q2505 : (Jvm.Cond.code ({ cls := "LinesTouched", name := "heldOn", desc := "(I)Ljava/lang/Object;" } : Jvm.MethodName) prog_1_method_106_code (4 : Nat) (Option.some (Jvm.ClassFile.FieldType.object "java/lang/Object"))) ∈ lw_all := lw_g (lw_at lw_m11 0 rfl) rfl
theorem q2506 : (Jvm.Cond.methodLink "LinesTouched" (660 : Nat) ({ cls := "LinesTouched", name := "taken", desc := "(Ljava/lang/Object;I)LLinesTouched$Point;" } : Jvm.MethodName)) ∈ lw_all := lw_g (lw_at lw_m11 1 rfl) rfl
theorem q2507 : (Jvm.Cond.static ({ cls := "LinesTouched", name := "taken", desc := "(Ljava/lang/Object;I)LLinesTouched$Point;" } : Jvm.MethodName)) ∈ lw_all := lw_g (lw_at lw_m11 2 rfl) rfl
theorem q2508 : (Jvm.Cond.code ({ cls := "LinesTouched", name := "taken", desc := "(Ljava/lang/Object;I)LLinesTouched$Point;" } : Jvm.MethodName) prog_1_method_7_code (2 : Nat) (Option.some (Jvm.ClassFile.FieldType.object "LinesTouched$Point"))) ∈ lw_all := lw_g (lw_at lw_m11 3 rfl) rfl
theorem q2509 : (Jvm.Cond.methodLink "LinesTouched" (663 : Nat) ({ cls := "LinesTouched", name := "lengthAs", desc := "(Ljava/lang/Object;I)I" } : Jvm.MethodName)) ∈ lw_all := lw_g (lw_at lw_m11 4 rfl) rfl
theorem q2510 : (Jvm.Cond.static ({ cls := "LinesTouched", name := "lengthAs", desc := "(Ljava/lang/Object;I)I" } : Jvm.MethodName)) ∈ lw_all := lw_g (lw_at lw_m11 5 rfl) rfl
theorem q2511 : (Jvm.Cond.code ({ cls := "LinesTouched", name := "lengthAs", desc := "(Ljava/lang/Object;I)I" } : Jvm.MethodName) prog_1_method_107_code (2 : Nat) (Option.some Jvm.ClassFile.FieldType.int)) ∈ lw_all := lw_g (lw_at lw_m11 6 rfl) rfl
theorem q2513 : (Jvm.Cond.instanceMethod ({ cls := "LinesTouched", name := "image", desc := "()I" } : Jvm.MethodName)) ∈ lw_all := lw_g (lw_at lw_m11 8 rfl) rfl
theorem q2514 : (Jvm.Cond.selects "LinesTouched" ({ cls := "LinesTouched", name := "image", desc := "()I" } : Jvm.MethodName) ({ cls := "LinesTouched", name := "image", desc := "()I" } : Jvm.MethodName)) ∈ lw_all := lw_g (lw_at lw_m11 9 rfl) rfl
theorem q2515 : (Jvm.Cond.code ({ cls := "LinesTouched", name := "image", desc := "()I" } : Jvm.MethodName) prog_1_method_109_code (1 : Nat) (Option.some Jvm.ClassFile.FieldType.int)) ∈ lw_all := lw_g (lw_at lw_m11 10 rfl) rfl
theorem q2517 : (Jvm.Cond.instanceMethod ({ cls := "LinesTouched", name := "back", desc := "()I" } : Jvm.MethodName)) ∈ lw_all := lw_g (lw_at lw_m11 12 rfl) rfl
theorem q2518 : (Jvm.Cond.selects "LinesTouched" ({ cls := "LinesTouched", name := "back", desc := "()I" } : Jvm.MethodName) ({ cls := "LinesTouched", name := "back", desc := "()I" } : Jvm.MethodName)) ∈ lw_all := lw_g (lw_at lw_m11 13 rfl) rfl
theorem q2519 : (Jvm.Cond.code ({ cls := "LinesTouched", name := "back", desc := "()I" } : Jvm.MethodName) prog_1_method_110_code (1 : Nat) (Option.some Jvm.ClassFile.FieldType.int)) ∈ lw_all := lw_g (lw_at lw_m11 14 rfl) rfl
theorem q3130 : (Jvm.Cond.castable "LinesTouched" "java/lang/Object") ∈ lw_tbl := lw_at lw_m13 145 rfl
theorem in_X0 : ∀ w ∈ wsX00, w ∈ lw_all := lw_in wsX00 [410, 412, 414, 416, 418, 420, 422, 424, 426, 428, 430, 432, 434, 436, 438, 440, 442, 444, 446, 448, 450, 452, 454, 456, 458, 460, 462, 464, 466, 468, 470, 472] (by decide +kernel) (by decide +kernel)
