/-! jdk/internal/util/ArraysSupport -/
set_option maxRecDepth 100000
def RJ12 : String := "jdk/internal/util/ArraysSupport"
abbrev cJ12_vectorizedHashCode : ByteArray := prog_90_method_4_code
def yJ12_vectorizedHashCode : MethodName := ⟨RJ12, "vectorizedHashCode", "(Ljava/lang/Object;IIII)I"⟩
def dkwJ12_vectorizedHashCode_6 : List UInt8 := [183, 0, 91, 18, 92, 182, 0, 94, 21, 4, 182, 0, 98, 182, 0, 101, 183, 0, 105, 191, 172]
abbrev dktJ12_vectorizedHashCode_6 : List UInt8 := dkwJ12_vectorizedHashCode_6 ++ []
def dkwJ12_vectorizedHashCode_5 : List UInt8 := [167, 0, 44, 29, 42, 192, 0, 82, 27, 28, 184, 0, 84, 167, 0, 31, 187, 0, 87, 89, 187, 0, 89, 89]
abbrev dktJ12_vectorizedHashCode_5 : List UInt8 := dkwJ12_vectorizedHashCode_5 ++ dktJ12_vectorizedHashCode_6
def dkwJ12_vectorizedHashCode_4 : List UInt8 := [29, 42, 192, 0, 60, 27, 28, 184, 0, 75, 167, 0, 57, 29, 42, 192, 0, 77, 27, 28, 184, 0, 79]
abbrev dktJ12_vectorizedHashCode_4 : List UInt8 := dkwJ12_vectorizedHashCode_4 ++ dktJ12_vectorizedHashCode_5
def dkwJ12_vectorizedHashCode_3 : List UInt8 := [192, 0, 60, 27, 28, 184, 0, 66, 167, 0, 83, 29, 42, 192, 0, 69, 27, 28, 184, 0, 71, 167, 0, 70]
abbrev dktJ12_vectorizedHashCode_3 : List UInt8 := dkwJ12_vectorizedHashCode_3 ++ dktJ12_vectorizedHashCode_4
def dkwJ12_vectorizedHashCode_2 : List UInt8 := [29, 42, 192, 0, 60, 27, 28, 184, 0, 62, 167, 0, 103, 42, 193, 0, 60, 153, 0, 16, 29, 42]
abbrev dktJ12_vectorizedHashCode_2 : List UInt8 := dkwJ12_vectorizedHashCode_2 ++ dktJ12_vectorizedHashCode_3
def dkwJ12_vectorizedHashCode_1 : List UInt8 := [170, 0, 0, 0, 0, 127, 0, 0, 0, 4, 0, 0, 0, 10, 0, 0, 0, 42, 0, 0, 0, 55, 0, 0, 0, 127, 0, 0, 0, 127, 0, 0, 0, 88, 0, 0, 0, 101, 0, 0, 0, 114]
abbrev dktJ12_vectorizedHashCode_1 : List UInt8 := dkwJ12_vectorizedHashCode_1 ++ dktJ12_vectorizedHashCode_2
def dkwJ12_vectorizedHashCode_0 : List UInt8 := [21, 4]
abbrev dktJ12_vectorizedHashCode_0 : List UInt8 := dkwJ12_vectorizedHashCode_0 ++ dktJ12_vectorizedHashCode_1
theorem dksJ12_vectorizedHashCode_0 : cJ12_vectorizedHashCode.data.toList.drop 0 = dktJ12_vectorizedHashCode_0 := by decide +kernel
theorem dksJ12_vectorizedHashCode_1 : cJ12_vectorizedHashCode.data.toList.drop 2 = dktJ12_vectorizedHashCode_1 := dk_seg dksJ12_vectorizedHashCode_0 2 rfl rfl
theorem dksJ12_vectorizedHashCode_2 : cJ12_vectorizedHashCode.data.toList.drop 44 = dktJ12_vectorizedHashCode_2 := dk_seg dksJ12_vectorizedHashCode_1 42 rfl rfl
theorem dksJ12_vectorizedHashCode_3 : cJ12_vectorizedHashCode.data.toList.drop 66 = dktJ12_vectorizedHashCode_3 := dk_seg dksJ12_vectorizedHashCode_2 22 rfl rfl
theorem dksJ12_vectorizedHashCode_4 : cJ12_vectorizedHashCode.data.toList.drop 90 = dktJ12_vectorizedHashCode_4 := dk_seg dksJ12_vectorizedHashCode_3 24 rfl rfl
theorem dksJ12_vectorizedHashCode_5 : cJ12_vectorizedHashCode.data.toList.drop 113 = dktJ12_vectorizedHashCode_5 := dk_seg dksJ12_vectorizedHashCode_4 23 rfl rfl
theorem dksJ12_vectorizedHashCode_6 : cJ12_vectorizedHashCode.data.toList.drop 137 = dktJ12_vectorizedHashCode_6 := dk_seg dksJ12_vectorizedHashCode_5 24 rfl rfl
theorem dJ12_vectorizedHashCode_0 : decode cJ12_vectorizedHashCode 0 = .ok (.iload 4, 2) := dk_21 4 (dk_at dksJ12_vectorizedHashCode_0 0 rfl rfl)
theorem dJ12_vectorizedHashCode_2 : decode cJ12_vectorizedHashCode 2 = .ok (.tableswitch 127 4 10 #[42, 55, 127, 127, 88, 101, 114], 42) := by decide +kernel
theorem dJ12_vectorizedHashCode_44 : decode cJ12_vectorizedHashCode 44 = .ok (.iload_n 3, 1) := dk_29 (dk_at dksJ12_vectorizedHashCode_2 0 rfl rfl)
theorem dJ12_vectorizedHashCode_45 : decode cJ12_vectorizedHashCode 45 = .ok (.aload_n 0, 1) := dk_42 (dk_at dksJ12_vectorizedHashCode_2 1 rfl rfl)
theorem dJ12_vectorizedHashCode_46 : decode cJ12_vectorizedHashCode 46 = .ok (.checkcast 60, 3) := dk_192 0 60 (dk_at dksJ12_vectorizedHashCode_2 2 rfl rfl)
theorem dJ12_vectorizedHashCode_49 : decode cJ12_vectorizedHashCode 49 = .ok (.iload_n 1, 1) := dk_27 (dk_at dksJ12_vectorizedHashCode_2 5 rfl rfl)
theorem dJ12_vectorizedHashCode_50 : decode cJ12_vectorizedHashCode 50 = .ok (.iload_n 2, 1) := dk_28 (dk_at dksJ12_vectorizedHashCode_2 6 rfl rfl)
theorem dJ12_vectorizedHashCode_51 : decode cJ12_vectorizedHashCode 51 = .ok (.invokestatic 62, 3) := dk_184 0 62 (dk_at dksJ12_vectorizedHashCode_2 7 rfl rfl)
theorem dJ12_vectorizedHashCode_54 : decode cJ12_vectorizedHashCode 54 = .ok (.goto 103, 3) := dk_167 0 103 (dk_at dksJ12_vectorizedHashCode_2 10 rfl rfl)
theorem dJ12_vectorizedHashCode_57 : decode cJ12_vectorizedHashCode 57 = .ok (.aload_n 0, 1) := dk_42 (dk_at dksJ12_vectorizedHashCode_2 13 rfl rfl)
theorem dJ12_vectorizedHashCode_58 : decode cJ12_vectorizedHashCode 58 = .ok (.instanceof 60, 3) := dk_193 0 60 (dk_at dksJ12_vectorizedHashCode_2 14 rfl rfl)
theorem dJ12_vectorizedHashCode_61 : decode cJ12_vectorizedHashCode 61 = .ok (.ifCond .eq 16, 3) := dk_153 0 16 (dk_at dksJ12_vectorizedHashCode_2 17 rfl rfl)
theorem dJ12_vectorizedHashCode_64 : decode cJ12_vectorizedHashCode 64 = .ok (.iload_n 3, 1) := dk_29 (dk_at dksJ12_vectorizedHashCode_2 20 rfl rfl)
theorem dJ12_vectorizedHashCode_65 : decode cJ12_vectorizedHashCode 65 = .ok (.aload_n 0, 1) := dk_42 (dk_at dksJ12_vectorizedHashCode_2 21 rfl rfl)
theorem dJ12_vectorizedHashCode_66 : decode cJ12_vectorizedHashCode 66 = .ok (.checkcast 60, 3) := dk_192 0 60 (dk_at dksJ12_vectorizedHashCode_3 0 rfl rfl)
theorem dJ12_vectorizedHashCode_69 : decode cJ12_vectorizedHashCode 69 = .ok (.iload_n 1, 1) := dk_27 (dk_at dksJ12_vectorizedHashCode_3 3 rfl rfl)
theorem dJ12_vectorizedHashCode_70 : decode cJ12_vectorizedHashCode 70 = .ok (.iload_n 2, 1) := dk_28 (dk_at dksJ12_vectorizedHashCode_3 4 rfl rfl)
theorem dJ12_vectorizedHashCode_71 : decode cJ12_vectorizedHashCode 71 = .ok (.invokestatic 66, 3) := dk_184 0 66 (dk_at dksJ12_vectorizedHashCode_3 5 rfl rfl)
theorem dJ12_vectorizedHashCode_74 : decode cJ12_vectorizedHashCode 74 = .ok (.goto 83, 3) := dk_167 0 83 (dk_at dksJ12_vectorizedHashCode_3 8 rfl rfl)
theorem dJ12_vectorizedHashCode_77 : decode cJ12_vectorizedHashCode 77 = .ok (.iload_n 3, 1) := dk_29 (dk_at dksJ12_vectorizedHashCode_3 11 rfl rfl)
theorem dJ12_vectorizedHashCode_78 : decode cJ12_vectorizedHashCode 78 = .ok (.aload_n 0, 1) := dk_42 (dk_at dksJ12_vectorizedHashCode_3 12 rfl rfl)
theorem dJ12_vectorizedHashCode_79 : decode cJ12_vectorizedHashCode 79 = .ok (.checkcast 69, 3) := dk_192 0 69 (dk_at dksJ12_vectorizedHashCode_3 13 rfl rfl)
theorem dJ12_vectorizedHashCode_82 : decode cJ12_vectorizedHashCode 82 = .ok (.iload_n 1, 1) := dk_27 (dk_at dksJ12_vectorizedHashCode_3 16 rfl rfl)
theorem dJ12_vectorizedHashCode_83 : decode cJ12_vectorizedHashCode 83 = .ok (.iload_n 2, 1) := dk_28 (dk_at dksJ12_vectorizedHashCode_3 17 rfl rfl)
theorem dJ12_vectorizedHashCode_84 : decode cJ12_vectorizedHashCode 84 = .ok (.invokestatic 71, 3) := dk_184 0 71 (dk_at dksJ12_vectorizedHashCode_3 18 rfl rfl)
theorem dJ12_vectorizedHashCode_87 : decode cJ12_vectorizedHashCode 87 = .ok (.goto 70, 3) := dk_167 0 70 (dk_at dksJ12_vectorizedHashCode_3 21 rfl rfl)
theorem dJ12_vectorizedHashCode_90 : decode cJ12_vectorizedHashCode 90 = .ok (.iload_n 3, 1) := dk_29 (dk_at dksJ12_vectorizedHashCode_4 0 rfl rfl)
theorem dJ12_vectorizedHashCode_91 : decode cJ12_vectorizedHashCode 91 = .ok (.aload_n 0, 1) := dk_42 (dk_at dksJ12_vectorizedHashCode_4 1 rfl rfl)
theorem dJ12_vectorizedHashCode_92 : decode cJ12_vectorizedHashCode 92 = .ok (.checkcast 60, 3) := dk_192 0 60 (dk_at dksJ12_vectorizedHashCode_4 2 rfl rfl)
theorem dJ12_vectorizedHashCode_95 : decode cJ12_vectorizedHashCode 95 = .ok (.iload_n 1, 1) := dk_27 (dk_at dksJ12_vectorizedHashCode_4 5 rfl rfl)
theorem dJ12_vectorizedHashCode_96 : decode cJ12_vectorizedHashCode 96 = .ok (.iload_n 2, 1) := dk_28 (dk_at dksJ12_vectorizedHashCode_4 6 rfl rfl)
theorem dJ12_vectorizedHashCode_97 : decode cJ12_vectorizedHashCode 97 = .ok (.invokestatic 75, 3) := dk_184 0 75 (dk_at dksJ12_vectorizedHashCode_4 7 rfl rfl)
theorem dJ12_vectorizedHashCode_100 : decode cJ12_vectorizedHashCode 100 = .ok (.goto 57, 3) := dk_167 0 57 (dk_at dksJ12_vectorizedHashCode_4 10 rfl rfl)
theorem dJ12_vectorizedHashCode_103 : decode cJ12_vectorizedHashCode 103 = .ok (.iload_n 3, 1) := dk_29 (dk_at dksJ12_vectorizedHashCode_4 13 rfl rfl)
theorem dJ12_vectorizedHashCode_104 : decode cJ12_vectorizedHashCode 104 = .ok (.aload_n 0, 1) := dk_42 (dk_at dksJ12_vectorizedHashCode_4 14 rfl rfl)
theorem dJ12_vectorizedHashCode_105 : decode cJ12_vectorizedHashCode 105 = .ok (.checkcast 77, 3) := dk_192 0 77 (dk_at dksJ12_vectorizedHashCode_4 15 rfl rfl)
theorem dJ12_vectorizedHashCode_108 : decode cJ12_vectorizedHashCode 108 = .ok (.iload_n 1, 1) := dk_27 (dk_at dksJ12_vectorizedHashCode_4 18 rfl rfl)
theorem dJ12_vectorizedHashCode_109 : decode cJ12_vectorizedHashCode 109 = .ok (.iload_n 2, 1) := dk_28 (dk_at dksJ12_vectorizedHashCode_4 19 rfl rfl)
theorem dJ12_vectorizedHashCode_110 : decode cJ12_vectorizedHashCode 110 = .ok (.invokestatic 79, 3) := dk_184 0 79 (dk_at dksJ12_vectorizedHashCode_4 20 rfl rfl)
theorem dJ12_vectorizedHashCode_113 : decode cJ12_vectorizedHashCode 113 = .ok (.goto 44, 3) := dk_167 0 44 (dk_at dksJ12_vectorizedHashCode_5 0 rfl rfl)
theorem dJ12_vectorizedHashCode_116 : decode cJ12_vectorizedHashCode 116 = .ok (.iload_n 3, 1) := dk_29 (dk_at dksJ12_vectorizedHashCode_5 3 rfl rfl)
theorem dJ12_vectorizedHashCode_117 : decode cJ12_vectorizedHashCode 117 = .ok (.aload_n 0, 1) := dk_42 (dk_at dksJ12_vectorizedHashCode_5 4 rfl rfl)
theorem dJ12_vectorizedHashCode_118 : decode cJ12_vectorizedHashCode 118 = .ok (.checkcast 82, 3) := dk_192 0 82 (dk_at dksJ12_vectorizedHashCode_5 5 rfl rfl)
theorem dJ12_vectorizedHashCode_121 : decode cJ12_vectorizedHashCode 121 = .ok (.iload_n 1, 1) := dk_27 (dk_at dksJ12_vectorizedHashCode_5 8 rfl rfl)
theorem dJ12_vectorizedHashCode_122 : decode cJ12_vectorizedHashCode 122 = .ok (.iload_n 2, 1) := dk_28 (dk_at dksJ12_vectorizedHashCode_5 9 rfl rfl)
theorem dJ12_vectorizedHashCode_123 : decode cJ12_vectorizedHashCode 123 = .ok (.invokestatic 84, 3) := dk_184 0 84 (dk_at dksJ12_vectorizedHashCode_5 10 rfl rfl)
theorem dJ12_vectorizedHashCode_126 : decode cJ12_vectorizedHashCode 126 = .ok (.goto 31, 3) := dk_167 0 31 (dk_at dksJ12_vectorizedHashCode_5 13 rfl rfl)
theorem dJ12_vectorizedHashCode_129 : decode cJ12_vectorizedHashCode 129 = .ok (.new 87, 3) := dk_187 0 87 (dk_at dksJ12_vectorizedHashCode_5 16 rfl rfl)
theorem dJ12_vectorizedHashCode_132 : decode cJ12_vectorizedHashCode 132 = .ok (.dup, 1) := dk_89 (dk_at dksJ12_vectorizedHashCode_5 19 rfl rfl)
theorem dJ12_vectorizedHashCode_133 : decode cJ12_vectorizedHashCode 133 = .ok (.new 89, 3) := dk_187 0 89 (dk_at dksJ12_vectorizedHashCode_5 20 rfl rfl)
theorem dJ12_vectorizedHashCode_136 : decode cJ12_vectorizedHashCode 136 = .ok (.dup, 1) := dk_89 (dk_at dksJ12_vectorizedHashCode_5 23 rfl rfl)
theorem dJ12_vectorizedHashCode_137 : decode cJ12_vectorizedHashCode 137 = .ok (.invokespecial 91, 3) := dk_183 0 91 (dk_at dksJ12_vectorizedHashCode_6 0 rfl rfl)
theorem dJ12_vectorizedHashCode_140 : decode cJ12_vectorizedHashCode 140 = .ok (.ldc 92, 2) := dk_18 92 (dk_at dksJ12_vectorizedHashCode_6 3 rfl rfl)
theorem dJ12_vectorizedHashCode_142 : decode cJ12_vectorizedHashCode 142 = .ok (.invokevirtual 94, 3) := dk_182 0 94 (dk_at dksJ12_vectorizedHashCode_6 5 rfl rfl)
theorem dJ12_vectorizedHashCode_145 : decode cJ12_vectorizedHashCode 145 = .ok (.iload 4, 2) := dk_21 4 (dk_at dksJ12_vectorizedHashCode_6 8 rfl rfl)
theorem dJ12_vectorizedHashCode_147 : decode cJ12_vectorizedHashCode 147 = .ok (.invokevirtual 98, 3) := dk_182 0 98 (dk_at dksJ12_vectorizedHashCode_6 10 rfl rfl)
theorem dJ12_vectorizedHashCode_150 : decode cJ12_vectorizedHashCode 150 = .ok (.invokevirtual 101, 3) := dk_182 0 101 (dk_at dksJ12_vectorizedHashCode_6 13 rfl rfl)
theorem dJ12_vectorizedHashCode_153 : decode cJ12_vectorizedHashCode 153 = .ok (.invokespecial 105, 3) := dk_183 0 105 (dk_at dksJ12_vectorizedHashCode_6 16 rfl rfl)
theorem dJ12_vectorizedHashCode_156 : decode cJ12_vectorizedHashCode 156 = .ok (.athrow, 1) := dk_191 (dk_at dksJ12_vectorizedHashCode_6 19 rfl rfl)
theorem dJ12_vectorizedHashCode_157 : decode cJ12_vectorizedHashCode 157 = .ok (.ireturn, 1) := dk_172 (dk_at dksJ12_vectorizedHashCode_6 20 rfl rfl)
abbrev cJ12_signedHashCode : ByteArray := prog_90_method_5_code
def yJ12_signedHashCode : MethodName := ⟨RJ12, "signedHashCode", "(I[BII)I"⟩
def dkwJ12_signedHashCode_1 : List UInt8 := [17, 0, 255, 126, 96, 59, 132, 5, 1, 167, 255, 232, 26, 172]
abbrev dktJ12_signedHashCode_1 : List UInt8 := dkwJ12_signedHashCode_1 ++ []
def dkwJ12_signedHashCode_0 : List UInt8 := [28, 29, 96, 54, 4, 28, 54, 5, 21, 5, 21, 4, 162, 0, 23, 16, 31, 26, 104, 43, 21, 5, 51]
abbrev dktJ12_signedHashCode_0 : List UInt8 := dkwJ12_signedHashCode_0 ++ dktJ12_signedHashCode_1
theorem dksJ12_signedHashCode_0 : cJ12_signedHashCode.data.toList.drop 0 = dktJ12_signedHashCode_0 := by decide +kernel
theorem dksJ12_signedHashCode_1 : cJ12_signedHashCode.data.toList.drop 23 = dktJ12_signedHashCode_1 := dk_seg dksJ12_signedHashCode_0 23 rfl rfl
theorem dJ12_signedHashCode_0 : decode cJ12_signedHashCode 0 = .ok (.iload_n 2, 1) := dk_28 (dk_at dksJ12_signedHashCode_0 0 rfl rfl)
theorem dJ12_signedHashCode_1 : decode cJ12_signedHashCode 1 = .ok (.iload_n 3, 1) := dk_29 (dk_at dksJ12_signedHashCode_0 1 rfl rfl)
theorem dJ12_signedHashCode_2 : decode cJ12_signedHashCode 2 = .ok (.iadd, 1) := dk_96 (dk_at dksJ12_signedHashCode_0 2 rfl rfl)
theorem dJ12_signedHashCode_3 : decode cJ12_signedHashCode 3 = .ok (.istore 4, 2) := dk_54 4 (dk_at dksJ12_signedHashCode_0 3 rfl rfl)
theorem dJ12_signedHashCode_5 : decode cJ12_signedHashCode 5 = .ok (.iload_n 2, 1) := dk_28 (dk_at dksJ12_signedHashCode_0 5 rfl rfl)
theorem dJ12_signedHashCode_6 : decode cJ12_signedHashCode 6 = .ok (.istore 5, 2) := dk_54 5 (dk_at dksJ12_signedHashCode_0 6 rfl rfl)
theorem dJ12_signedHashCode_8 : decode cJ12_signedHashCode 8 = .ok (.iload 5, 2) := dk_21 5 (dk_at dksJ12_signedHashCode_0 8 rfl rfl)
theorem dJ12_signedHashCode_10 : decode cJ12_signedHashCode 10 = .ok (.iload 4, 2) := dk_21 4 (dk_at dksJ12_signedHashCode_0 10 rfl rfl)
theorem dJ12_signedHashCode_12 : decode cJ12_signedHashCode 12 = .ok (.if_icmp .ge 23, 3) := dk_162 0 23 (dk_at dksJ12_signedHashCode_0 12 rfl rfl)
theorem dJ12_signedHashCode_15 : decode cJ12_signedHashCode 15 = .ok (.bipush 31, 2) := dk_16 31 (dk_at dksJ12_signedHashCode_0 15 rfl rfl)
theorem dJ12_signedHashCode_17 : decode cJ12_signedHashCode 17 = .ok (.iload_n 0, 1) := dk_26 (dk_at dksJ12_signedHashCode_0 17 rfl rfl)
theorem dJ12_signedHashCode_18 : decode cJ12_signedHashCode 18 = .ok (.imul, 1) := dk_104 (dk_at dksJ12_signedHashCode_0 18 rfl rfl)
theorem dJ12_signedHashCode_19 : decode cJ12_signedHashCode 19 = .ok (.aload_n 1, 1) := dk_43 (dk_at dksJ12_signedHashCode_0 19 rfl rfl)
theorem dJ12_signedHashCode_20 : decode cJ12_signedHashCode 20 = .ok (.iload 5, 2) := dk_21 5 (dk_at dksJ12_signedHashCode_0 20 rfl rfl)
theorem dJ12_signedHashCode_22 : decode cJ12_signedHashCode 22 = .ok (.baload, 1) := dk_51 (dk_at dksJ12_signedHashCode_0 22 rfl rfl)
theorem dJ12_signedHashCode_23 : decode cJ12_signedHashCode 23 = .ok (.sipush 255, 3) := dk_17 0 255 (dk_at dksJ12_signedHashCode_1 0 rfl rfl)
theorem dJ12_signedHashCode_26 : decode cJ12_signedHashCode 26 = .ok (.iand, 1) := dk_126 (dk_at dksJ12_signedHashCode_1 3 rfl rfl)
theorem dJ12_signedHashCode_27 : decode cJ12_signedHashCode 27 = .ok (.iadd, 1) := dk_96 (dk_at dksJ12_signedHashCode_1 4 rfl rfl)
theorem dJ12_signedHashCode_28 : decode cJ12_signedHashCode 28 = .ok (.istore_n 0, 1) := dk_59 (dk_at dksJ12_signedHashCode_1 5 rfl rfl)
theorem dJ12_signedHashCode_29 : decode cJ12_signedHashCode 29 = .ok (.iinc 5 1, 3) := dk_132 5 1 (dk_at dksJ12_signedHashCode_1 6 rfl rfl)
theorem dJ12_signedHashCode_32 : decode cJ12_signedHashCode 32 = .ok (.goto (-24), 3) := dk_167 255 232 (dk_at dksJ12_signedHashCode_1 9 rfl rfl)
theorem dJ12_signedHashCode_35 : decode cJ12_signedHashCode 35 = .ok (.iload_n 0, 1) := dk_26 (dk_at dksJ12_signedHashCode_1 12 rfl rfl)
theorem dJ12_signedHashCode_36 : decode cJ12_signedHashCode 36 = .ok (.ireturn, 1) := dk_172 (dk_at dksJ12_signedHashCode_1 13 rfl rfl)
abbrev cJ12_utf16hashCode : ByteArray := prog_90_method_10_code
def yJ12_utf16hashCode : MethodName := ⟨RJ12, "utf16hashCode", "(I[BII)I"⟩
def dkwJ12_utf16hashCode_1 : List UInt8 := [21, 5, 185, 0, 110, 3, 0, 96, 59, 132, 5, 1, 167, 255, 229, 26, 172]
abbrev dktJ12_utf16hashCode_1 : List UInt8 := dkwJ12_utf16hashCode_1 ++ []
def dkwJ12_utf16hashCode_0 : List UInt8 := [28, 29, 96, 54, 4, 28, 54, 5, 21, 5, 21, 4, 162, 0, 26, 16, 31, 26, 104, 178, 0, 106, 43]
abbrev dktJ12_utf16hashCode_0 : List UInt8 := dkwJ12_utf16hashCode_0 ++ dktJ12_utf16hashCode_1
theorem dksJ12_utf16hashCode_0 : cJ12_utf16hashCode.data.toList.drop 0 = dktJ12_utf16hashCode_0 := by decide +kernel
theorem dksJ12_utf16hashCode_1 : cJ12_utf16hashCode.data.toList.drop 23 = dktJ12_utf16hashCode_1 := dk_seg dksJ12_utf16hashCode_0 23 rfl rfl
theorem dJ12_utf16hashCode_0 : decode cJ12_utf16hashCode 0 = .ok (.iload_n 2, 1) := dk_28 (dk_at dksJ12_utf16hashCode_0 0 rfl rfl)
theorem dJ12_utf16hashCode_1 : decode cJ12_utf16hashCode 1 = .ok (.iload_n 3, 1) := dk_29 (dk_at dksJ12_utf16hashCode_0 1 rfl rfl)
theorem dJ12_utf16hashCode_2 : decode cJ12_utf16hashCode 2 = .ok (.iadd, 1) := dk_96 (dk_at dksJ12_utf16hashCode_0 2 rfl rfl)
theorem dJ12_utf16hashCode_3 : decode cJ12_utf16hashCode 3 = .ok (.istore 4, 2) := dk_54 4 (dk_at dksJ12_utf16hashCode_0 3 rfl rfl)
theorem dJ12_utf16hashCode_5 : decode cJ12_utf16hashCode 5 = .ok (.iload_n 2, 1) := dk_28 (dk_at dksJ12_utf16hashCode_0 5 rfl rfl)
theorem dJ12_utf16hashCode_6 : decode cJ12_utf16hashCode 6 = .ok (.istore 5, 2) := dk_54 5 (dk_at dksJ12_utf16hashCode_0 6 rfl rfl)
theorem dJ12_utf16hashCode_8 : decode cJ12_utf16hashCode 8 = .ok (.iload 5, 2) := dk_21 5 (dk_at dksJ12_utf16hashCode_0 8 rfl rfl)
theorem dJ12_utf16hashCode_10 : decode cJ12_utf16hashCode 10 = .ok (.iload 4, 2) := dk_21 4 (dk_at dksJ12_utf16hashCode_0 10 rfl rfl)
theorem dJ12_utf16hashCode_12 : decode cJ12_utf16hashCode 12 = .ok (.if_icmp .ge 26, 3) := dk_162 0 26 (dk_at dksJ12_utf16hashCode_0 12 rfl rfl)
theorem dJ12_utf16hashCode_15 : decode cJ12_utf16hashCode 15 = .ok (.bipush 31, 2) := dk_16 31 (dk_at dksJ12_utf16hashCode_0 15 rfl rfl)
theorem dJ12_utf16hashCode_17 : decode cJ12_utf16hashCode 17 = .ok (.iload_n 0, 1) := dk_26 (dk_at dksJ12_utf16hashCode_0 17 rfl rfl)
theorem dJ12_utf16hashCode_18 : decode cJ12_utf16hashCode 18 = .ok (.imul, 1) := dk_104 (dk_at dksJ12_utf16hashCode_0 18 rfl rfl)
theorem dJ12_utf16hashCode_19 : decode cJ12_utf16hashCode 19 = .ok (.getstatic 106, 3) := dk_178 0 106 (dk_at dksJ12_utf16hashCode_0 19 rfl rfl)
theorem dJ12_utf16hashCode_22 : decode cJ12_utf16hashCode 22 = .ok (.aload_n 1, 1) := dk_43 (dk_at dksJ12_utf16hashCode_0 22 rfl rfl)
theorem dJ12_utf16hashCode_23 : decode cJ12_utf16hashCode 23 = .ok (.iload 5, 2) := dk_21 5 (dk_at dksJ12_utf16hashCode_1 0 rfl rfl)
theorem dJ12_utf16hashCode_25 : decode cJ12_utf16hashCode 25 = .ok (.invokeinterface 110 3, 5) := by decide +kernel
theorem dJ12_utf16hashCode_30 : decode cJ12_utf16hashCode 30 = .ok (.iadd, 1) := dk_96 (dk_at dksJ12_utf16hashCode_1 7 rfl rfl)
theorem dJ12_utf16hashCode_31 : decode cJ12_utf16hashCode 31 = .ok (.istore_n 0, 1) := dk_59 (dk_at dksJ12_utf16hashCode_1 8 rfl rfl)
theorem dJ12_utf16hashCode_32 : decode cJ12_utf16hashCode 32 = .ok (.iinc 5 1, 3) := dk_132 5 1 (dk_at dksJ12_utf16hashCode_1 9 rfl rfl)
theorem dJ12_utf16hashCode_35 : decode cJ12_utf16hashCode 35 = .ok (.goto (-27), 3) := dk_167 255 229 (dk_at dksJ12_utf16hashCode_1 12 rfl rfl)
theorem dJ12_utf16hashCode_38 : decode cJ12_utf16hashCode 38 = .ok (.iload_n 0, 1) := dk_26 (dk_at dksJ12_utf16hashCode_1 15 rfl rfl)
theorem dJ12_utf16hashCode_39 : decode cJ12_utf16hashCode 39 = .ok (.ireturn, 1) := dk_172 (dk_at dksJ12_utf16hashCode_1 16 rfl rfl)
abbrev cJ12_hashCode : ByteArray := prog_90_method_7_code
def yJ12_hashCode : MethodName := ⟨RJ12, "hashCode", "(I[CII)I"⟩
def dkwJ12_hashCode_1 : List UInt8 := [59, 132, 5, 1, 167, 255, 236, 26, 172]
abbrev dktJ12_hashCode_1 : List UInt8 := dkwJ12_hashCode_1 ++ []
def dkwJ12_hashCode_0 : List UInt8 := [28, 29, 96, 54, 4, 28, 54, 5, 21, 5, 21, 4, 162, 0, 19, 16, 31, 26, 104, 43, 21, 5, 52, 96]
abbrev dktJ12_hashCode_0 : List UInt8 := dkwJ12_hashCode_0 ++ dktJ12_hashCode_1
theorem dksJ12_hashCode_0 : cJ12_hashCode.data.toList.drop 0 = dktJ12_hashCode_0 := by decide +kernel
theorem dksJ12_hashCode_1 : cJ12_hashCode.data.toList.drop 24 = dktJ12_hashCode_1 := dk_seg dksJ12_hashCode_0 24 rfl rfl
theorem dJ12_hashCode_0 : decode cJ12_hashCode 0 = .ok (.iload_n 2, 1) := dk_28 (dk_at dksJ12_hashCode_0 0 rfl rfl)
theorem dJ12_hashCode_1 : decode cJ12_hashCode 1 = .ok (.iload_n 3, 1) := dk_29 (dk_at dksJ12_hashCode_0 1 rfl rfl)
theorem dJ12_hashCode_2 : decode cJ12_hashCode 2 = .ok (.iadd, 1) := dk_96 (dk_at dksJ12_hashCode_0 2 rfl rfl)
theorem dJ12_hashCode_3 : decode cJ12_hashCode 3 = .ok (.istore 4, 2) := dk_54 4 (dk_at dksJ12_hashCode_0 3 rfl rfl)
theorem dJ12_hashCode_5 : decode cJ12_hashCode 5 = .ok (.iload_n 2, 1) := dk_28 (dk_at dksJ12_hashCode_0 5 rfl rfl)
theorem dJ12_hashCode_6 : decode cJ12_hashCode 6 = .ok (.istore 5, 2) := dk_54 5 (dk_at dksJ12_hashCode_0 6 rfl rfl)
theorem dJ12_hashCode_8 : decode cJ12_hashCode 8 = .ok (.iload 5, 2) := dk_21 5 (dk_at dksJ12_hashCode_0 8 rfl rfl)
theorem dJ12_hashCode_10 : decode cJ12_hashCode 10 = .ok (.iload 4, 2) := dk_21 4 (dk_at dksJ12_hashCode_0 10 rfl rfl)
theorem dJ12_hashCode_12 : decode cJ12_hashCode 12 = .ok (.if_icmp .ge 19, 3) := dk_162 0 19 (dk_at dksJ12_hashCode_0 12 rfl rfl)
theorem dJ12_hashCode_15 : decode cJ12_hashCode 15 = .ok (.bipush 31, 2) := dk_16 31 (dk_at dksJ12_hashCode_0 15 rfl rfl)
theorem dJ12_hashCode_17 : decode cJ12_hashCode 17 = .ok (.iload_n 0, 1) := dk_26 (dk_at dksJ12_hashCode_0 17 rfl rfl)
theorem dJ12_hashCode_18 : decode cJ12_hashCode 18 = .ok (.imul, 1) := dk_104 (dk_at dksJ12_hashCode_0 18 rfl rfl)
theorem dJ12_hashCode_19 : decode cJ12_hashCode 19 = .ok (.aload_n 1, 1) := dk_43 (dk_at dksJ12_hashCode_0 19 rfl rfl)
theorem dJ12_hashCode_20 : decode cJ12_hashCode 20 = .ok (.iload 5, 2) := dk_21 5 (dk_at dksJ12_hashCode_0 20 rfl rfl)
theorem dJ12_hashCode_22 : decode cJ12_hashCode 22 = .ok (.caload, 1) := dk_52 (dk_at dksJ12_hashCode_0 22 rfl rfl)
theorem dJ12_hashCode_23 : decode cJ12_hashCode 23 = .ok (.iadd, 1) := dk_96 (dk_at dksJ12_hashCode_0 23 rfl rfl)
theorem dJ12_hashCode_24 : decode cJ12_hashCode 24 = .ok (.istore_n 0, 1) := dk_59 (dk_at dksJ12_hashCode_1 0 rfl rfl)
theorem dJ12_hashCode_25 : decode cJ12_hashCode 25 = .ok (.iinc 5 1, 3) := dk_132 5 1 (dk_at dksJ12_hashCode_1 1 rfl rfl)
theorem dJ12_hashCode_28 : decode cJ12_hashCode 28 = .ok (.goto (-20), 3) := dk_167 255 236 (dk_at dksJ12_hashCode_1 4 rfl rfl)
theorem dJ12_hashCode_31 : decode cJ12_hashCode 31 = .ok (.iload_n 0, 1) := dk_26 (dk_at dksJ12_hashCode_1 7 rfl rfl)
theorem dJ12_hashCode_32 : decode cJ12_hashCode 32 = .ok (.ireturn, 1) := dk_172 (dk_at dksJ12_hashCode_1 8 rfl rfl)
abbrev cJ12_hashCode_2 : ByteArray := prog_90_method_6_code
def yJ12_hashCode_2 : MethodName := ⟨RJ12, "hashCode", "(I[BII)I"⟩
def dkwJ12_hashCode_2_1 : List UInt8 := [59, 132, 5, 1, 167, 255, 236, 26, 172]
abbrev dktJ12_hashCode_2_1 : List UInt8 := dkwJ12_hashCode_2_1 ++ []
def dkwJ12_hashCode_2_0 : List UInt8 := [28, 29, 96, 54, 4, 28, 54, 5, 21, 5, 21, 4, 162, 0, 19, 16, 31, 26, 104, 43, 21, 5, 51, 96]
abbrev dktJ12_hashCode_2_0 : List UInt8 := dkwJ12_hashCode_2_0 ++ dktJ12_hashCode_2_1
theorem dksJ12_hashCode_2_0 : cJ12_hashCode_2.data.toList.drop 0 = dktJ12_hashCode_2_0 := by decide +kernel
theorem dksJ12_hashCode_2_1 : cJ12_hashCode_2.data.toList.drop 24 = dktJ12_hashCode_2_1 := dk_seg dksJ12_hashCode_2_0 24 rfl rfl
theorem dJ12_hashCode_2_0 : decode cJ12_hashCode_2 0 = .ok (.iload_n 2, 1) := dk_28 (dk_at dksJ12_hashCode_2_0 0 rfl rfl)
theorem dJ12_hashCode_2_1 : decode cJ12_hashCode_2 1 = .ok (.iload_n 3, 1) := dk_29 (dk_at dksJ12_hashCode_2_0 1 rfl rfl)
theorem dJ12_hashCode_2_2 : decode cJ12_hashCode_2 2 = .ok (.iadd, 1) := dk_96 (dk_at dksJ12_hashCode_2_0 2 rfl rfl)
theorem dJ12_hashCode_2_3 : decode cJ12_hashCode_2 3 = .ok (.istore 4, 2) := dk_54 4 (dk_at dksJ12_hashCode_2_0 3 rfl rfl)
theorem dJ12_hashCode_2_5 : decode cJ12_hashCode_2 5 = .ok (.iload_n 2, 1) := dk_28 (dk_at dksJ12_hashCode_2_0 5 rfl rfl)
theorem dJ12_hashCode_2_6 : decode cJ12_hashCode_2 6 = .ok (.istore 5, 2) := dk_54 5 (dk_at dksJ12_hashCode_2_0 6 rfl rfl)
theorem dJ12_hashCode_2_8 : decode cJ12_hashCode_2 8 = .ok (.iload 5, 2) := dk_21 5 (dk_at dksJ12_hashCode_2_0 8 rfl rfl)
theorem dJ12_hashCode_2_10 : decode cJ12_hashCode_2 10 = .ok (.iload 4, 2) := dk_21 4 (dk_at dksJ12_hashCode_2_0 10 rfl rfl)
theorem dJ12_hashCode_2_12 : decode cJ12_hashCode_2 12 = .ok (.if_icmp .ge 19, 3) := dk_162 0 19 (dk_at dksJ12_hashCode_2_0 12 rfl rfl)
theorem dJ12_hashCode_2_15 : decode cJ12_hashCode_2 15 = .ok (.bipush 31, 2) := dk_16 31 (dk_at dksJ12_hashCode_2_0 15 rfl rfl)
theorem dJ12_hashCode_2_17 : decode cJ12_hashCode_2 17 = .ok (.iload_n 0, 1) := dk_26 (dk_at dksJ12_hashCode_2_0 17 rfl rfl)
theorem dJ12_hashCode_2_18 : decode cJ12_hashCode_2 18 = .ok (.imul, 1) := dk_104 (dk_at dksJ12_hashCode_2_0 18 rfl rfl)
theorem dJ12_hashCode_2_19 : decode cJ12_hashCode_2 19 = .ok (.aload_n 1, 1) := dk_43 (dk_at dksJ12_hashCode_2_0 19 rfl rfl)
theorem dJ12_hashCode_2_20 : decode cJ12_hashCode_2 20 = .ok (.iload 5, 2) := dk_21 5 (dk_at dksJ12_hashCode_2_0 20 rfl rfl)
theorem dJ12_hashCode_2_22 : decode cJ12_hashCode_2 22 = .ok (.baload, 1) := dk_51 (dk_at dksJ12_hashCode_2_0 22 rfl rfl)
theorem dJ12_hashCode_2_23 : decode cJ12_hashCode_2 23 = .ok (.iadd, 1) := dk_96 (dk_at dksJ12_hashCode_2_0 23 rfl rfl)
theorem dJ12_hashCode_2_24 : decode cJ12_hashCode_2 24 = .ok (.istore_n 0, 1) := dk_59 (dk_at dksJ12_hashCode_2_1 0 rfl rfl)
theorem dJ12_hashCode_2_25 : decode cJ12_hashCode_2 25 = .ok (.iinc 5 1, 3) := dk_132 5 1 (dk_at dksJ12_hashCode_2_1 1 rfl rfl)
theorem dJ12_hashCode_2_28 : decode cJ12_hashCode_2 28 = .ok (.goto (-20), 3) := dk_167 255 236 (dk_at dksJ12_hashCode_2_1 4 rfl rfl)
theorem dJ12_hashCode_2_31 : decode cJ12_hashCode_2 31 = .ok (.iload_n 0, 1) := dk_26 (dk_at dksJ12_hashCode_2_1 7 rfl rfl)
theorem dJ12_hashCode_2_32 : decode cJ12_hashCode_2 32 = .ok (.ireturn, 1) := dk_172 (dk_at dksJ12_hashCode_2_1 8 rfl rfl)
abbrev cJ12_hashCode_3 : ByteArray := prog_90_method_8_code
def yJ12_hashCode_3 : MethodName := ⟨RJ12, "hashCode", "(I[SII)I"⟩
def dkwJ12_hashCode_3_1 : List UInt8 := [59, 132, 5, 1, 167, 255, 236, 26, 172]
abbrev dktJ12_hashCode_3_1 : List UInt8 := dkwJ12_hashCode_3_1 ++ []
def dkwJ12_hashCode_3_0 : List UInt8 := [28, 29, 96, 54, 4, 28, 54, 5, 21, 5, 21, 4, 162, 0, 19, 16, 31, 26, 104, 43, 21, 5, 53, 96]
abbrev dktJ12_hashCode_3_0 : List UInt8 := dkwJ12_hashCode_3_0 ++ dktJ12_hashCode_3_1
theorem dksJ12_hashCode_3_0 : cJ12_hashCode_3.data.toList.drop 0 = dktJ12_hashCode_3_0 := by decide +kernel
theorem dksJ12_hashCode_3_1 : cJ12_hashCode_3.data.toList.drop 24 = dktJ12_hashCode_3_1 := dk_seg dksJ12_hashCode_3_0 24 rfl rfl
theorem dJ12_hashCode_3_0 : decode cJ12_hashCode_3 0 = .ok (.iload_n 2, 1) := dk_28 (dk_at dksJ12_hashCode_3_0 0 rfl rfl)
theorem dJ12_hashCode_3_1 : decode cJ12_hashCode_3 1 = .ok (.iload_n 3, 1) := dk_29 (dk_at dksJ12_hashCode_3_0 1 rfl rfl)
theorem dJ12_hashCode_3_2 : decode cJ12_hashCode_3 2 = .ok (.iadd, 1) := dk_96 (dk_at dksJ12_hashCode_3_0 2 rfl rfl)
theorem dJ12_hashCode_3_3 : decode cJ12_hashCode_3 3 = .ok (.istore 4, 2) := dk_54 4 (dk_at dksJ12_hashCode_3_0 3 rfl rfl)
theorem dJ12_hashCode_3_5 : decode cJ12_hashCode_3 5 = .ok (.iload_n 2, 1) := dk_28 (dk_at dksJ12_hashCode_3_0 5 rfl rfl)
theorem dJ12_hashCode_3_6 : decode cJ12_hashCode_3 6 = .ok (.istore 5, 2) := dk_54 5 (dk_at dksJ12_hashCode_3_0 6 rfl rfl)
theorem dJ12_hashCode_3_8 : decode cJ12_hashCode_3 8 = .ok (.iload 5, 2) := dk_21 5 (dk_at dksJ12_hashCode_3_0 8 rfl rfl)
theorem dJ12_hashCode_3_10 : decode cJ12_hashCode_3 10 = .ok (.iload 4, 2) := dk_21 4 (dk_at dksJ12_hashCode_3_0 10 rfl rfl)
theorem dJ12_hashCode_3_12 : decode cJ12_hashCode_3 12 = .ok (.if_icmp .ge 19, 3) := dk_162 0 19 (dk_at dksJ12_hashCode_3_0 12 rfl rfl)
theorem dJ12_hashCode_3_15 : decode cJ12_hashCode_3 15 = .ok (.bipush 31, 2) := dk_16 31 (dk_at dksJ12_hashCode_3_0 15 rfl rfl)
theorem dJ12_hashCode_3_17 : decode cJ12_hashCode_3 17 = .ok (.iload_n 0, 1) := dk_26 (dk_at dksJ12_hashCode_3_0 17 rfl rfl)
theorem dJ12_hashCode_3_18 : decode cJ12_hashCode_3 18 = .ok (.imul, 1) := dk_104 (dk_at dksJ12_hashCode_3_0 18 rfl rfl)
theorem dJ12_hashCode_3_19 : decode cJ12_hashCode_3 19 = .ok (.aload_n 1, 1) := dk_43 (dk_at dksJ12_hashCode_3_0 19 rfl rfl)
theorem dJ12_hashCode_3_20 : decode cJ12_hashCode_3 20 = .ok (.iload 5, 2) := dk_21 5 (dk_at dksJ12_hashCode_3_0 20 rfl rfl)
theorem dJ12_hashCode_3_22 : decode cJ12_hashCode_3 22 = .ok (.saload, 1) := dk_53 (dk_at dksJ12_hashCode_3_0 22 rfl rfl)
theorem dJ12_hashCode_3_23 : decode cJ12_hashCode_3 23 = .ok (.iadd, 1) := dk_96 (dk_at dksJ12_hashCode_3_0 23 rfl rfl)
theorem dJ12_hashCode_3_24 : decode cJ12_hashCode_3 24 = .ok (.istore_n 0, 1) := dk_59 (dk_at dksJ12_hashCode_3_1 0 rfl rfl)
theorem dJ12_hashCode_3_25 : decode cJ12_hashCode_3 25 = .ok (.iinc 5 1, 3) := dk_132 5 1 (dk_at dksJ12_hashCode_3_1 1 rfl rfl)
theorem dJ12_hashCode_3_28 : decode cJ12_hashCode_3 28 = .ok (.goto (-20), 3) := dk_167 255 236 (dk_at dksJ12_hashCode_3_1 4 rfl rfl)
theorem dJ12_hashCode_3_31 : decode cJ12_hashCode_3 31 = .ok (.iload_n 0, 1) := dk_26 (dk_at dksJ12_hashCode_3_1 7 rfl rfl)
theorem dJ12_hashCode_3_32 : decode cJ12_hashCode_3 32 = .ok (.ireturn, 1) := dk_172 (dk_at dksJ12_hashCode_3_1 8 rfl rfl)
abbrev cJ12_hashCode_4 : ByteArray := prog_90_method_9_code
def yJ12_hashCode_4 : MethodName := ⟨RJ12, "hashCode", "(I[III)I"⟩
def dkwJ12_hashCode_4_1 : List UInt8 := [59, 132, 5, 1, 167, 255, 236, 26, 172]
abbrev dktJ12_hashCode_4_1 : List UInt8 := dkwJ12_hashCode_4_1 ++ []
def dkwJ12_hashCode_4_0 : List UInt8 := [28, 29, 96, 54, 4, 28, 54, 5, 21, 5, 21, 4, 162, 0, 19, 16, 31, 26, 104, 43, 21, 5, 46, 96]
abbrev dktJ12_hashCode_4_0 : List UInt8 := dkwJ12_hashCode_4_0 ++ dktJ12_hashCode_4_1
theorem dksJ12_hashCode_4_0 : cJ12_hashCode_4.data.toList.drop 0 = dktJ12_hashCode_4_0 := by decide +kernel
theorem dksJ12_hashCode_4_1 : cJ12_hashCode_4.data.toList.drop 24 = dktJ12_hashCode_4_1 := dk_seg dksJ12_hashCode_4_0 24 rfl rfl
theorem dJ12_hashCode_4_0 : decode cJ12_hashCode_4 0 = .ok (.iload_n 2, 1) := dk_28 (dk_at dksJ12_hashCode_4_0 0 rfl rfl)
theorem dJ12_hashCode_4_1 : decode cJ12_hashCode_4 1 = .ok (.iload_n 3, 1) := dk_29 (dk_at dksJ12_hashCode_4_0 1 rfl rfl)
theorem dJ12_hashCode_4_2 : decode cJ12_hashCode_4 2 = .ok (.iadd, 1) := dk_96 (dk_at dksJ12_hashCode_4_0 2 rfl rfl)
theorem dJ12_hashCode_4_3 : decode cJ12_hashCode_4 3 = .ok (.istore 4, 2) := dk_54 4 (dk_at dksJ12_hashCode_4_0 3 rfl rfl)
theorem dJ12_hashCode_4_5 : decode cJ12_hashCode_4 5 = .ok (.iload_n 2, 1) := dk_28 (dk_at dksJ12_hashCode_4_0 5 rfl rfl)
theorem dJ12_hashCode_4_6 : decode cJ12_hashCode_4 6 = .ok (.istore 5, 2) := dk_54 5 (dk_at dksJ12_hashCode_4_0 6 rfl rfl)
theorem dJ12_hashCode_4_8 : decode cJ12_hashCode_4 8 = .ok (.iload 5, 2) := dk_21 5 (dk_at dksJ12_hashCode_4_0 8 rfl rfl)
theorem dJ12_hashCode_4_10 : decode cJ12_hashCode_4 10 = .ok (.iload 4, 2) := dk_21 4 (dk_at dksJ12_hashCode_4_0 10 rfl rfl)
theorem dJ12_hashCode_4_12 : decode cJ12_hashCode_4 12 = .ok (.if_icmp .ge 19, 3) := dk_162 0 19 (dk_at dksJ12_hashCode_4_0 12 rfl rfl)
theorem dJ12_hashCode_4_15 : decode cJ12_hashCode_4 15 = .ok (.bipush 31, 2) := dk_16 31 (dk_at dksJ12_hashCode_4_0 15 rfl rfl)
theorem dJ12_hashCode_4_17 : decode cJ12_hashCode_4 17 = .ok (.iload_n 0, 1) := dk_26 (dk_at dksJ12_hashCode_4_0 17 rfl rfl)
theorem dJ12_hashCode_4_18 : decode cJ12_hashCode_4 18 = .ok (.imul, 1) := dk_104 (dk_at dksJ12_hashCode_4_0 18 rfl rfl)
theorem dJ12_hashCode_4_19 : decode cJ12_hashCode_4 19 = .ok (.aload_n 1, 1) := dk_43 (dk_at dksJ12_hashCode_4_0 19 rfl rfl)
theorem dJ12_hashCode_4_20 : decode cJ12_hashCode_4 20 = .ok (.iload 5, 2) := dk_21 5 (dk_at dksJ12_hashCode_4_0 20 rfl rfl)
theorem dJ12_hashCode_4_22 : decode cJ12_hashCode_4 22 = .ok (.iaload, 1) := dk_46 (dk_at dksJ12_hashCode_4_0 22 rfl rfl)
theorem dJ12_hashCode_4_23 : decode cJ12_hashCode_4 23 = .ok (.iadd, 1) := dk_96 (dk_at dksJ12_hashCode_4_0 23 rfl rfl)
theorem dJ12_hashCode_4_24 : decode cJ12_hashCode_4 24 = .ok (.istore_n 0, 1) := dk_59 (dk_at dksJ12_hashCode_4_1 0 rfl rfl)
theorem dJ12_hashCode_4_25 : decode cJ12_hashCode_4 25 = .ok (.iinc 5 1, 3) := dk_132 5 1 (dk_at dksJ12_hashCode_4_1 1 rfl rfl)
theorem dJ12_hashCode_4_28 : decode cJ12_hashCode_4 28 = .ok (.goto (-20), 3) := dk_167 255 236 (dk_at dksJ12_hashCode_4_1 4 rfl rfl)
theorem dJ12_hashCode_4_31 : decode cJ12_hashCode_4 31 = .ok (.iload_n 0, 1) := dk_26 (dk_at dksJ12_hashCode_4_1 7 rfl rfl)
theorem dJ12_hashCode_4_32 : decode cJ12_hashCode_4 32 = .ok (.ireturn, 1) := dk_172 (dk_at dksJ12_hashCode_4_1 8 rfl rfl)
abbrev cJ12_mismatch : ByteArray := prog_90_method_13_code
def yJ12_mismatch : MethodName := ⟨RJ12, "mismatch", "([B[BI)I"⟩
def dkwJ12_mismatch_3 : List UInt8 := [172]
abbrev dktJ12_mismatch_3 : List UInt8 := dkwJ12_mismatch_3 ++ []
def dkwJ12_mismatch_2 : List UInt8 := [62, 29, 28, 162, 0, 20, 42, 29, 51, 43, 29, 51, 159, 0, 5, 29, 172, 132, 3, 1, 167, 255, 237, 2]
abbrev dktJ12_mismatch_2 : List UInt8 := dkwJ12_mismatch_2 ++ dktJ12_mismatch_3
def dkwJ12_mismatch_1 : List UInt8 := [43, 178, 0, 126, 133, 28, 178, 0, 129, 184, 0, 122, 62, 29, 155, 0, 5, 29, 172, 28, 29, 2, 130, 100]
abbrev dktJ12_mismatch_1 : List UInt8 := dkwJ12_mismatch_1 ++ dktJ12_mismatch_2
def dkwJ12_mismatch_0 : List UInt8 := [3, 62, 28, 16, 7, 164, 0, 44, 42, 3, 51, 43, 3, 51, 159, 0, 5, 3, 172, 42, 178, 0, 126, 133]
abbrev dktJ12_mismatch_0 : List UInt8 := dkwJ12_mismatch_0 ++ dktJ12_mismatch_1
theorem dksJ12_mismatch_0 : cJ12_mismatch.data.toList.drop 0 = dktJ12_mismatch_0 := by decide +kernel
theorem dksJ12_mismatch_1 : cJ12_mismatch.data.toList.drop 24 = dktJ12_mismatch_1 := dk_seg dksJ12_mismatch_0 24 rfl rfl
theorem dksJ12_mismatch_2 : cJ12_mismatch.data.toList.drop 48 = dktJ12_mismatch_2 := dk_seg dksJ12_mismatch_1 24 rfl rfl
theorem dksJ12_mismatch_3 : cJ12_mismatch.data.toList.drop 72 = dktJ12_mismatch_3 := dk_seg dksJ12_mismatch_2 24 rfl rfl
theorem dJ12_mismatch_0 : decode cJ12_mismatch 0 = .ok (.iconst 0, 1) := dk_3 (dk_at dksJ12_mismatch_0 0 rfl rfl)
theorem dJ12_mismatch_1 : decode cJ12_mismatch 1 = .ok (.istore_n 3, 1) := dk_62 (dk_at dksJ12_mismatch_0 1 rfl rfl)
theorem dJ12_mismatch_2 : decode cJ12_mismatch 2 = .ok (.iload_n 2, 1) := dk_28 (dk_at dksJ12_mismatch_0 2 rfl rfl)
theorem dJ12_mismatch_3 : decode cJ12_mismatch 3 = .ok (.bipush 7, 2) := dk_16 7 (dk_at dksJ12_mismatch_0 3 rfl rfl)
theorem dJ12_mismatch_5 : decode cJ12_mismatch 5 = .ok (.if_icmp .le 44, 3) := dk_164 0 44 (dk_at dksJ12_mismatch_0 5 rfl rfl)
theorem dJ12_mismatch_8 : decode cJ12_mismatch 8 = .ok (.aload_n 0, 1) := dk_42 (dk_at dksJ12_mismatch_0 8 rfl rfl)
theorem dJ12_mismatch_9 : decode cJ12_mismatch 9 = .ok (.iconst 0, 1) := dk_3 (dk_at dksJ12_mismatch_0 9 rfl rfl)
theorem dJ12_mismatch_10 : decode cJ12_mismatch 10 = .ok (.baload, 1) := dk_51 (dk_at dksJ12_mismatch_0 10 rfl rfl)
theorem dJ12_mismatch_11 : decode cJ12_mismatch 11 = .ok (.aload_n 1, 1) := dk_43 (dk_at dksJ12_mismatch_0 11 rfl rfl)
theorem dJ12_mismatch_12 : decode cJ12_mismatch 12 = .ok (.iconst 0, 1) := dk_3 (dk_at dksJ12_mismatch_0 12 rfl rfl)
theorem dJ12_mismatch_13 : decode cJ12_mismatch 13 = .ok (.baload, 1) := dk_51 (dk_at dksJ12_mismatch_0 13 rfl rfl)
theorem dJ12_mismatch_14 : decode cJ12_mismatch 14 = .ok (.if_icmp .eq 5, 3) := dk_159 0 5 (dk_at dksJ12_mismatch_0 14 rfl rfl)
theorem dJ12_mismatch_17 : decode cJ12_mismatch 17 = .ok (.iconst 0, 1) := dk_3 (dk_at dksJ12_mismatch_0 17 rfl rfl)
theorem dJ12_mismatch_18 : decode cJ12_mismatch 18 = .ok (.ireturn, 1) := dk_172 (dk_at dksJ12_mismatch_0 18 rfl rfl)
theorem dJ12_mismatch_19 : decode cJ12_mismatch 19 = .ok (.aload_n 0, 1) := dk_42 (dk_at dksJ12_mismatch_0 19 rfl rfl)
theorem dJ12_mismatch_20 : decode cJ12_mismatch 20 = .ok (.getstatic 126, 3) := dk_178 0 126 (dk_at dksJ12_mismatch_0 20 rfl rfl)
theorem dJ12_mismatch_23 : decode cJ12_mismatch 23 = .ok (.i2l, 1) := dk_133 (dk_at dksJ12_mismatch_0 23 rfl rfl)
theorem dJ12_mismatch_24 : decode cJ12_mismatch 24 = .ok (.aload_n 1, 1) := dk_43 (dk_at dksJ12_mismatch_1 0 rfl rfl)
theorem dJ12_mismatch_25 : decode cJ12_mismatch 25 = .ok (.getstatic 126, 3) := dk_178 0 126 (dk_at dksJ12_mismatch_1 1 rfl rfl)
theorem dJ12_mismatch_28 : decode cJ12_mismatch 28 = .ok (.i2l, 1) := dk_133 (dk_at dksJ12_mismatch_1 4 rfl rfl)
theorem dJ12_mismatch_29 : decode cJ12_mismatch 29 = .ok (.iload_n 2, 1) := dk_28 (dk_at dksJ12_mismatch_1 5 rfl rfl)
theorem dJ12_mismatch_30 : decode cJ12_mismatch 30 = .ok (.getstatic 129, 3) := dk_178 0 129 (dk_at dksJ12_mismatch_1 6 rfl rfl)
theorem dJ12_mismatch_33 : decode cJ12_mismatch 33 = .ok (.invokestatic 122, 3) := dk_184 0 122 (dk_at dksJ12_mismatch_1 9 rfl rfl)
theorem dJ12_mismatch_36 : decode cJ12_mismatch 36 = .ok (.istore_n 3, 1) := dk_62 (dk_at dksJ12_mismatch_1 12 rfl rfl)
theorem dJ12_mismatch_37 : decode cJ12_mismatch 37 = .ok (.iload_n 3, 1) := dk_29 (dk_at dksJ12_mismatch_1 13 rfl rfl)
theorem dJ12_mismatch_38 : decode cJ12_mismatch 38 = .ok (.ifCond .lt 5, 3) := dk_155 0 5 (dk_at dksJ12_mismatch_1 14 rfl rfl)
theorem dJ12_mismatch_41 : decode cJ12_mismatch 41 = .ok (.iload_n 3, 1) := dk_29 (dk_at dksJ12_mismatch_1 17 rfl rfl)
theorem dJ12_mismatch_42 : decode cJ12_mismatch 42 = .ok (.ireturn, 1) := dk_172 (dk_at dksJ12_mismatch_1 18 rfl rfl)
theorem dJ12_mismatch_43 : decode cJ12_mismatch 43 = .ok (.iload_n 2, 1) := dk_28 (dk_at dksJ12_mismatch_1 19 rfl rfl)
theorem dJ12_mismatch_44 : decode cJ12_mismatch 44 = .ok (.iload_n 3, 1) := dk_29 (dk_at dksJ12_mismatch_1 20 rfl rfl)
theorem dJ12_mismatch_45 : decode cJ12_mismatch 45 = .ok (.iconst (-1), 1) := dk_2 (dk_at dksJ12_mismatch_1 21 rfl rfl)
theorem dJ12_mismatch_46 : decode cJ12_mismatch 46 = .ok (.ixor, 1) := dk_130 (dk_at dksJ12_mismatch_1 22 rfl rfl)
theorem dJ12_mismatch_47 : decode cJ12_mismatch 47 = .ok (.isub, 1) := dk_100 (dk_at dksJ12_mismatch_1 23 rfl rfl)
theorem dJ12_mismatch_48 : decode cJ12_mismatch 48 = .ok (.istore_n 3, 1) := dk_62 (dk_at dksJ12_mismatch_2 0 rfl rfl)
theorem dJ12_mismatch_49 : decode cJ12_mismatch 49 = .ok (.iload_n 3, 1) := dk_29 (dk_at dksJ12_mismatch_2 1 rfl rfl)
theorem dJ12_mismatch_50 : decode cJ12_mismatch 50 = .ok (.iload_n 2, 1) := dk_28 (dk_at dksJ12_mismatch_2 2 rfl rfl)
theorem dJ12_mismatch_51 : decode cJ12_mismatch 51 = .ok (.if_icmp .ge 20, 3) := dk_162 0 20 (dk_at dksJ12_mismatch_2 3 rfl rfl)
theorem dJ12_mismatch_54 : decode cJ12_mismatch 54 = .ok (.aload_n 0, 1) := dk_42 (dk_at dksJ12_mismatch_2 6 rfl rfl)
theorem dJ12_mismatch_55 : decode cJ12_mismatch 55 = .ok (.iload_n 3, 1) := dk_29 (dk_at dksJ12_mismatch_2 7 rfl rfl)
theorem dJ12_mismatch_56 : decode cJ12_mismatch 56 = .ok (.baload, 1) := dk_51 (dk_at dksJ12_mismatch_2 8 rfl rfl)
theorem dJ12_mismatch_57 : decode cJ12_mismatch 57 = .ok (.aload_n 1, 1) := dk_43 (dk_at dksJ12_mismatch_2 9 rfl rfl)
theorem dJ12_mismatch_58 : decode cJ12_mismatch 58 = .ok (.iload_n 3, 1) := dk_29 (dk_at dksJ12_mismatch_2 10 rfl rfl)
theorem dJ12_mismatch_59 : decode cJ12_mismatch 59 = .ok (.baload, 1) := dk_51 (dk_at dksJ12_mismatch_2 11 rfl rfl)
theorem dJ12_mismatch_60 : decode cJ12_mismatch 60 = .ok (.if_icmp .eq 5, 3) := dk_159 0 5 (dk_at dksJ12_mismatch_2 12 rfl rfl)
theorem dJ12_mismatch_63 : decode cJ12_mismatch 63 = .ok (.iload_n 3, 1) := dk_29 (dk_at dksJ12_mismatch_2 15 rfl rfl)
theorem dJ12_mismatch_64 : decode cJ12_mismatch 64 = .ok (.ireturn, 1) := dk_172 (dk_at dksJ12_mismatch_2 16 rfl rfl)
theorem dJ12_mismatch_65 : decode cJ12_mismatch 65 = .ok (.iinc 3 1, 3) := dk_132 3 1 (dk_at dksJ12_mismatch_2 17 rfl rfl)
theorem dJ12_mismatch_68 : decode cJ12_mismatch 68 = .ok (.goto (-19), 3) := dk_167 255 237 (dk_at dksJ12_mismatch_2 20 rfl rfl)
theorem dJ12_mismatch_71 : decode cJ12_mismatch 71 = .ok (.iconst (-1), 1) := dk_2 (dk_at dksJ12_mismatch_2 23 rfl rfl)
theorem dJ12_mismatch_72 : decode cJ12_mismatch 72 = .ok (.ireturn, 1) := dk_172 (dk_at dksJ12_mismatch_3 0 rfl rfl)
abbrev cJ12_vectorizedMismatch : ByteArray := prog_90_method_3_code
def yJ12_vectorizedMismatch : MethodName := ⟨RJ12, "vectorizedMismatch", "(Ljava/lang/Object;JLjava/lang/Object;JII)I"⟩
def dkwJ12_vectorizedMismatch_11 : List UInt8 := [54, 10, 21, 10, 2, 130, 172, 21, 10, 2, 130, 172]
abbrev dktJ12_vectorizedMismatch_11 : List UInt8 := dkwJ12_vectorizedMismatch_11 ++ []
def dkwJ12_vectorizedMismatch_10 : List UInt8 := [178, 0, 46, 21, 7, 96, 122, 54, 17, 21, 9, 21, 8, 120, 21, 17, 96, 172, 21, 10, 21, 11, 100]
abbrev dktJ12_vectorizedMismatch_10 : List UInt8 := dkwJ12_vectorizedMismatch_10 ++ dktJ12_vectorizedMismatch_11
def dkwJ12_vectorizedMismatch_9 : List UInt8 := [153, 0, 18, 21, 16, 184, 0, 58, 178, 0, 46, 21, 7, 96, 122, 167, 0, 15, 21, 16, 184, 0, 11]
abbrev dktJ12_vectorizedMismatch_9 : List UInt8 := dkwJ12_vectorizedMismatch_9 ++ dktJ12_vectorizedMismatch_10
def dkwJ12_vectorizedMismatch_8 : List UInt8 := [182, 0, 54, 54, 15, 21, 14, 21, 15, 159, 0, 54, 21, 14, 21, 15, 130, 54, 16, 178, 0, 36]
abbrev dktJ12_vectorizedMismatch_8 : List UInt8 := dkwJ12_vectorizedMismatch_8 ++ dktJ12_vectorizedMismatch_9
def dkwJ12_vectorizedMismatch_7 : List UInt8 := [55, 12, 178, 0, 26, 42, 31, 22, 12, 97, 182, 0, 54, 54, 14, 178, 0, 26, 45, 22, 4, 22, 12, 97]
abbrev dktJ12_vectorizedMismatch_7 : List UInt8 := dkwJ12_vectorizedMismatch_7 ++ dktJ12_vectorizedMismatch_8
def dkwJ12_vectorizedMismatch_6 : List UInt8 := [4, 178, 0, 51, 21, 7, 100, 120, 54, 11, 21, 10, 21, 11, 161, 0, 104, 21, 9, 133, 178, 0, 20, 121]
abbrev dktJ12_vectorizedMismatch_6 : List UInt8 := dkwJ12_vectorizedMismatch_6 ++ dktJ12_vectorizedMismatch_7
def dkwJ12_vectorizedMismatch_5 : List UInt8 := [132, 9, 1, 167, 255, 148, 21, 6, 21, 9, 21, 8, 120, 100, 54, 10, 21, 7, 178, 0, 51, 162, 0, 126]
abbrev dktJ12_vectorizedMismatch_5 : List UInt8 := dkwJ12_vectorizedMismatch_5 ++ dktJ12_vectorizedMismatch_6
def dkwJ12_vectorizedMismatch_4 : List UInt8 := [22, 16, 184, 0, 49, 178, 0, 46, 21, 7, 96, 122, 54, 18, 21, 9, 21, 8, 120, 21, 18, 96, 172]
abbrev dktJ12_vectorizedMismatch_4 : List UInt8 := dkwJ12_vectorizedMismatch_4 ++ dktJ12_vectorizedMismatch_5
def dkwJ12_vectorizedMismatch_3 : List UInt8 := [55, 16, 178, 0, 36, 153, 0, 18, 22, 16, 184, 0, 40, 178, 0, 46, 21, 7, 96, 122, 167, 0, 15]
abbrev dktJ12_vectorizedMismatch_3 : List UInt8 := dkwJ12_vectorizedMismatch_3 ++ dktJ12_vectorizedMismatch_4
def dkwJ12_vectorizedMismatch_2 : List UInt8 := [22, 4, 22, 10, 97, 182, 0, 30, 55, 14, 22, 12, 22, 14, 148, 153, 0, 54, 22, 12, 22, 14, 131]
abbrev dktJ12_vectorizedMismatch_2 : List UInt8 := dkwJ12_vectorizedMismatch_2 ++ dktJ12_vectorizedMismatch_3
def dkwJ12_vectorizedMismatch_1 : List UInt8 := [178, 0, 20, 121, 55, 10, 178, 0, 26, 42, 31, 22, 10, 97, 182, 0, 30, 55, 12, 178, 0, 26, 45]
abbrev dktJ12_vectorizedMismatch_1 : List UInt8 := dkwJ12_vectorizedMismatch_1 ++ dktJ12_vectorizedMismatch_2
def dkwJ12_vectorizedMismatch_0 : List UInt8 := [178, 0, 20, 21, 7, 100, 54, 8, 3, 54, 9, 21, 9, 21, 6, 21, 8, 122, 162, 0, 104, 21, 9, 133]
abbrev dktJ12_vectorizedMismatch_0 : List UInt8 := dkwJ12_vectorizedMismatch_0 ++ dktJ12_vectorizedMismatch_1
theorem dksJ12_vectorizedMismatch_0 : cJ12_vectorizedMismatch.data.toList.drop 0 = dktJ12_vectorizedMismatch_0 := by decide +kernel
theorem dksJ12_vectorizedMismatch_1 : cJ12_vectorizedMismatch.data.toList.drop 24 = dktJ12_vectorizedMismatch_1 := dk_seg dksJ12_vectorizedMismatch_0 24 rfl rfl
theorem dksJ12_vectorizedMismatch_2 : cJ12_vectorizedMismatch.data.toList.drop 47 = dktJ12_vectorizedMismatch_2 := dk_seg dksJ12_vectorizedMismatch_1 23 rfl rfl
theorem dksJ12_vectorizedMismatch_3 : cJ12_vectorizedMismatch.data.toList.drop 70 = dktJ12_vectorizedMismatch_3 := dk_seg dksJ12_vectorizedMismatch_2 23 rfl rfl
theorem dksJ12_vectorizedMismatch_4 : cJ12_vectorizedMismatch.data.toList.drop 93 = dktJ12_vectorizedMismatch_4 := dk_seg dksJ12_vectorizedMismatch_3 23 rfl rfl
theorem dksJ12_vectorizedMismatch_5 : cJ12_vectorizedMismatch.data.toList.drop 116 = dktJ12_vectorizedMismatch_5 := dk_seg dksJ12_vectorizedMismatch_4 23 rfl rfl
theorem dksJ12_vectorizedMismatch_6 : cJ12_vectorizedMismatch.data.toList.drop 140 = dktJ12_vectorizedMismatch_6 := dk_seg dksJ12_vectorizedMismatch_5 24 rfl rfl
theorem dksJ12_vectorizedMismatch_7 : cJ12_vectorizedMismatch.data.toList.drop 164 = dktJ12_vectorizedMismatch_7 := dk_seg dksJ12_vectorizedMismatch_6 24 rfl rfl
theorem dksJ12_vectorizedMismatch_8 : cJ12_vectorizedMismatch.data.toList.drop 188 = dktJ12_vectorizedMismatch_8 := dk_seg dksJ12_vectorizedMismatch_7 24 rfl rfl
theorem dksJ12_vectorizedMismatch_9 : cJ12_vectorizedMismatch.data.toList.drop 210 = dktJ12_vectorizedMismatch_9 := dk_seg dksJ12_vectorizedMismatch_8 22 rfl rfl
theorem dksJ12_vectorizedMismatch_10 : cJ12_vectorizedMismatch.data.toList.drop 233 = dktJ12_vectorizedMismatch_10 := dk_seg dksJ12_vectorizedMismatch_9 23 rfl rfl
theorem dksJ12_vectorizedMismatch_11 : cJ12_vectorizedMismatch.data.toList.drop 256 = dktJ12_vectorizedMismatch_11 := dk_seg dksJ12_vectorizedMismatch_10 23 rfl rfl
theorem dJ12_vectorizedMismatch_0 : decode cJ12_vectorizedMismatch 0 = .ok (.getstatic 20, 3) := dk_178 0 20 (dk_at dksJ12_vectorizedMismatch_0 0 rfl rfl)
theorem dJ12_vectorizedMismatch_3 : decode cJ12_vectorizedMismatch 3 = .ok (.iload 7, 2) := dk_21 7 (dk_at dksJ12_vectorizedMismatch_0 3 rfl rfl)
theorem dJ12_vectorizedMismatch_5 : decode cJ12_vectorizedMismatch 5 = .ok (.isub, 1) := dk_100 (dk_at dksJ12_vectorizedMismatch_0 5 rfl rfl)
theorem dJ12_vectorizedMismatch_6 : decode cJ12_vectorizedMismatch 6 = .ok (.istore 8, 2) := dk_54 8 (dk_at dksJ12_vectorizedMismatch_0 6 rfl rfl)
theorem dJ12_vectorizedMismatch_8 : decode cJ12_vectorizedMismatch 8 = .ok (.iconst 0, 1) := dk_3 (dk_at dksJ12_vectorizedMismatch_0 8 rfl rfl)
theorem dJ12_vectorizedMismatch_9 : decode cJ12_vectorizedMismatch 9 = .ok (.istore 9, 2) := dk_54 9 (dk_at dksJ12_vectorizedMismatch_0 9 rfl rfl)
theorem dJ12_vectorizedMismatch_11 : decode cJ12_vectorizedMismatch 11 = .ok (.iload 9, 2) := dk_21 9 (dk_at dksJ12_vectorizedMismatch_0 11 rfl rfl)
theorem dJ12_vectorizedMismatch_13 : decode cJ12_vectorizedMismatch 13 = .ok (.iload 6, 2) := dk_21 6 (dk_at dksJ12_vectorizedMismatch_0 13 rfl rfl)
theorem dJ12_vectorizedMismatch_15 : decode cJ12_vectorizedMismatch 15 = .ok (.iload 8, 2) := dk_21 8 (dk_at dksJ12_vectorizedMismatch_0 15 rfl rfl)
theorem dJ12_vectorizedMismatch_17 : decode cJ12_vectorizedMismatch 17 = .ok (.ishr, 1) := dk_122 (dk_at dksJ12_vectorizedMismatch_0 17 rfl rfl)
theorem dJ12_vectorizedMismatch_18 : decode cJ12_vectorizedMismatch 18 = .ok (.if_icmp .ge 104, 3) := dk_162 0 104 (dk_at dksJ12_vectorizedMismatch_0 18 rfl rfl)
theorem dJ12_vectorizedMismatch_21 : decode cJ12_vectorizedMismatch 21 = .ok (.iload 9, 2) := dk_21 9 (dk_at dksJ12_vectorizedMismatch_0 21 rfl rfl)
theorem dJ12_vectorizedMismatch_23 : decode cJ12_vectorizedMismatch 23 = .ok (.i2l, 1) := dk_133 (dk_at dksJ12_vectorizedMismatch_0 23 rfl rfl)
theorem dJ12_vectorizedMismatch_24 : decode cJ12_vectorizedMismatch 24 = .ok (.getstatic 20, 3) := dk_178 0 20 (dk_at dksJ12_vectorizedMismatch_1 0 rfl rfl)
theorem dJ12_vectorizedMismatch_27 : decode cJ12_vectorizedMismatch 27 = .ok (.lshl, 1) := dk_121 (dk_at dksJ12_vectorizedMismatch_1 3 rfl rfl)
theorem dJ12_vectorizedMismatch_28 : decode cJ12_vectorizedMismatch 28 = .ok (.lstore 10, 2) := dk_55 10 (dk_at dksJ12_vectorizedMismatch_1 4 rfl rfl)
theorem dJ12_vectorizedMismatch_30 : decode cJ12_vectorizedMismatch 30 = .ok (.getstatic 26, 3) := dk_178 0 26 (dk_at dksJ12_vectorizedMismatch_1 6 rfl rfl)
theorem dJ12_vectorizedMismatch_33 : decode cJ12_vectorizedMismatch 33 = .ok (.aload_n 0, 1) := dk_42 (dk_at dksJ12_vectorizedMismatch_1 9 rfl rfl)
theorem dJ12_vectorizedMismatch_34 : decode cJ12_vectorizedMismatch 34 = .ok (.lload_n 1, 1) := dk_31 (dk_at dksJ12_vectorizedMismatch_1 10 rfl rfl)
theorem dJ12_vectorizedMismatch_35 : decode cJ12_vectorizedMismatch 35 = .ok (.lload 10, 2) := dk_22 10 (dk_at dksJ12_vectorizedMismatch_1 11 rfl rfl)
theorem dJ12_vectorizedMismatch_37 : decode cJ12_vectorizedMismatch 37 = .ok (.ladd, 1) := dk_97 (dk_at dksJ12_vectorizedMismatch_1 13 rfl rfl)
theorem dJ12_vectorizedMismatch_38 : decode cJ12_vectorizedMismatch 38 = .ok (.invokevirtual 30, 3) := dk_182 0 30 (dk_at dksJ12_vectorizedMismatch_1 14 rfl rfl)
theorem dJ12_vectorizedMismatch_41 : decode cJ12_vectorizedMismatch 41 = .ok (.lstore 12, 2) := dk_55 12 (dk_at dksJ12_vectorizedMismatch_1 17 rfl rfl)
theorem dJ12_vectorizedMismatch_43 : decode cJ12_vectorizedMismatch 43 = .ok (.getstatic 26, 3) := dk_178 0 26 (dk_at dksJ12_vectorizedMismatch_1 19 rfl rfl)
theorem dJ12_vectorizedMismatch_46 : decode cJ12_vectorizedMismatch 46 = .ok (.aload_n 3, 1) := dk_45 (dk_at dksJ12_vectorizedMismatch_1 22 rfl rfl)
theorem dJ12_vectorizedMismatch_47 : decode cJ12_vectorizedMismatch 47 = .ok (.lload 4, 2) := dk_22 4 (dk_at dksJ12_vectorizedMismatch_2 0 rfl rfl)
theorem dJ12_vectorizedMismatch_49 : decode cJ12_vectorizedMismatch 49 = .ok (.lload 10, 2) := dk_22 10 (dk_at dksJ12_vectorizedMismatch_2 2 rfl rfl)
theorem dJ12_vectorizedMismatch_51 : decode cJ12_vectorizedMismatch 51 = .ok (.ladd, 1) := dk_97 (dk_at dksJ12_vectorizedMismatch_2 4 rfl rfl)
theorem dJ12_vectorizedMismatch_52 : decode cJ12_vectorizedMismatch 52 = .ok (.invokevirtual 30, 3) := dk_182 0 30 (dk_at dksJ12_vectorizedMismatch_2 5 rfl rfl)
theorem dJ12_vectorizedMismatch_55 : decode cJ12_vectorizedMismatch 55 = .ok (.lstore 14, 2) := dk_55 14 (dk_at dksJ12_vectorizedMismatch_2 8 rfl rfl)
theorem dJ12_vectorizedMismatch_57 : decode cJ12_vectorizedMismatch 57 = .ok (.lload 12, 2) := dk_22 12 (dk_at dksJ12_vectorizedMismatch_2 10 rfl rfl)
theorem dJ12_vectorizedMismatch_59 : decode cJ12_vectorizedMismatch 59 = .ok (.lload 14, 2) := dk_22 14 (dk_at dksJ12_vectorizedMismatch_2 12 rfl rfl)
theorem dJ12_vectorizedMismatch_61 : decode cJ12_vectorizedMismatch 61 = .ok (.lcmp, 1) := dk_148 (dk_at dksJ12_vectorizedMismatch_2 14 rfl rfl)
theorem dJ12_vectorizedMismatch_62 : decode cJ12_vectorizedMismatch 62 = .ok (.ifCond .eq 54, 3) := dk_153 0 54 (dk_at dksJ12_vectorizedMismatch_2 15 rfl rfl)
theorem dJ12_vectorizedMismatch_65 : decode cJ12_vectorizedMismatch 65 = .ok (.lload 12, 2) := dk_22 12 (dk_at dksJ12_vectorizedMismatch_2 18 rfl rfl)
theorem dJ12_vectorizedMismatch_67 : decode cJ12_vectorizedMismatch 67 = .ok (.lload 14, 2) := dk_22 14 (dk_at dksJ12_vectorizedMismatch_2 20 rfl rfl)
theorem dJ12_vectorizedMismatch_69 : decode cJ12_vectorizedMismatch 69 = .ok (.lxor, 1) := dk_131 (dk_at dksJ12_vectorizedMismatch_2 22 rfl rfl)
theorem dJ12_vectorizedMismatch_70 : decode cJ12_vectorizedMismatch 70 = .ok (.lstore 16, 2) := dk_55 16 (dk_at dksJ12_vectorizedMismatch_3 0 rfl rfl)
theorem dJ12_vectorizedMismatch_72 : decode cJ12_vectorizedMismatch 72 = .ok (.getstatic 36, 3) := dk_178 0 36 (dk_at dksJ12_vectorizedMismatch_3 2 rfl rfl)
theorem dJ12_vectorizedMismatch_75 : decode cJ12_vectorizedMismatch 75 = .ok (.ifCond .eq 18, 3) := dk_153 0 18 (dk_at dksJ12_vectorizedMismatch_3 5 rfl rfl)
theorem dJ12_vectorizedMismatch_78 : decode cJ12_vectorizedMismatch 78 = .ok (.lload 16, 2) := dk_22 16 (dk_at dksJ12_vectorizedMismatch_3 8 rfl rfl)
theorem dJ12_vectorizedMismatch_80 : decode cJ12_vectorizedMismatch 80 = .ok (.invokestatic 40, 3) := dk_184 0 40 (dk_at dksJ12_vectorizedMismatch_3 10 rfl rfl)
theorem dJ12_vectorizedMismatch_83 : decode cJ12_vectorizedMismatch 83 = .ok (.getstatic 46, 3) := dk_178 0 46 (dk_at dksJ12_vectorizedMismatch_3 13 rfl rfl)
theorem dJ12_vectorizedMismatch_86 : decode cJ12_vectorizedMismatch 86 = .ok (.iload 7, 2) := dk_21 7 (dk_at dksJ12_vectorizedMismatch_3 16 rfl rfl)
theorem dJ12_vectorizedMismatch_88 : decode cJ12_vectorizedMismatch 88 = .ok (.iadd, 1) := dk_96 (dk_at dksJ12_vectorizedMismatch_3 18 rfl rfl)
theorem dJ12_vectorizedMismatch_89 : decode cJ12_vectorizedMismatch 89 = .ok (.ishr, 1) := dk_122 (dk_at dksJ12_vectorizedMismatch_3 19 rfl rfl)
theorem dJ12_vectorizedMismatch_90 : decode cJ12_vectorizedMismatch 90 = .ok (.goto 15, 3) := dk_167 0 15 (dk_at dksJ12_vectorizedMismatch_3 20 rfl rfl)
theorem dJ12_vectorizedMismatch_93 : decode cJ12_vectorizedMismatch 93 = .ok (.lload 16, 2) := dk_22 16 (dk_at dksJ12_vectorizedMismatch_4 0 rfl rfl)
theorem dJ12_vectorizedMismatch_95 : decode cJ12_vectorizedMismatch 95 = .ok (.invokestatic 49, 3) := dk_184 0 49 (dk_at dksJ12_vectorizedMismatch_4 2 rfl rfl)
theorem dJ12_vectorizedMismatch_98 : decode cJ12_vectorizedMismatch 98 = .ok (.getstatic 46, 3) := dk_178 0 46 (dk_at dksJ12_vectorizedMismatch_4 5 rfl rfl)
theorem dJ12_vectorizedMismatch_101 : decode cJ12_vectorizedMismatch 101 = .ok (.iload 7, 2) := dk_21 7 (dk_at dksJ12_vectorizedMismatch_4 8 rfl rfl)
theorem dJ12_vectorizedMismatch_103 : decode cJ12_vectorizedMismatch 103 = .ok (.iadd, 1) := dk_96 (dk_at dksJ12_vectorizedMismatch_4 10 rfl rfl)
theorem dJ12_vectorizedMismatch_104 : decode cJ12_vectorizedMismatch 104 = .ok (.ishr, 1) := dk_122 (dk_at dksJ12_vectorizedMismatch_4 11 rfl rfl)
theorem dJ12_vectorizedMismatch_105 : decode cJ12_vectorizedMismatch 105 = .ok (.istore 18, 2) := dk_54 18 (dk_at dksJ12_vectorizedMismatch_4 12 rfl rfl)
theorem dJ12_vectorizedMismatch_107 : decode cJ12_vectorizedMismatch 107 = .ok (.iload 9, 2) := dk_21 9 (dk_at dksJ12_vectorizedMismatch_4 14 rfl rfl)
theorem dJ12_vectorizedMismatch_109 : decode cJ12_vectorizedMismatch 109 = .ok (.iload 8, 2) := dk_21 8 (dk_at dksJ12_vectorizedMismatch_4 16 rfl rfl)
theorem dJ12_vectorizedMismatch_111 : decode cJ12_vectorizedMismatch 111 = .ok (.ishl, 1) := dk_120 (dk_at dksJ12_vectorizedMismatch_4 18 rfl rfl)
theorem dJ12_vectorizedMismatch_112 : decode cJ12_vectorizedMismatch 112 = .ok (.iload 18, 2) := dk_21 18 (dk_at dksJ12_vectorizedMismatch_4 19 rfl rfl)
theorem dJ12_vectorizedMismatch_114 : decode cJ12_vectorizedMismatch 114 = .ok (.iadd, 1) := dk_96 (dk_at dksJ12_vectorizedMismatch_4 21 rfl rfl)
theorem dJ12_vectorizedMismatch_115 : decode cJ12_vectorizedMismatch 115 = .ok (.ireturn, 1) := dk_172 (dk_at dksJ12_vectorizedMismatch_4 22 rfl rfl)
theorem dJ12_vectorizedMismatch_116 : decode cJ12_vectorizedMismatch 116 = .ok (.iinc 9 1, 3) := dk_132 9 1 (dk_at dksJ12_vectorizedMismatch_5 0 rfl rfl)
theorem dJ12_vectorizedMismatch_119 : decode cJ12_vectorizedMismatch 119 = .ok (.goto (-108), 3) := dk_167 255 148 (dk_at dksJ12_vectorizedMismatch_5 3 rfl rfl)
theorem dJ12_vectorizedMismatch_122 : decode cJ12_vectorizedMismatch 122 = .ok (.iload 6, 2) := dk_21 6 (dk_at dksJ12_vectorizedMismatch_5 6 rfl rfl)
theorem dJ12_vectorizedMismatch_124 : decode cJ12_vectorizedMismatch 124 = .ok (.iload 9, 2) := dk_21 9 (dk_at dksJ12_vectorizedMismatch_5 8 rfl rfl)
theorem dJ12_vectorizedMismatch_126 : decode cJ12_vectorizedMismatch 126 = .ok (.iload 8, 2) := dk_21 8 (dk_at dksJ12_vectorizedMismatch_5 10 rfl rfl)
theorem dJ12_vectorizedMismatch_128 : decode cJ12_vectorizedMismatch 128 = .ok (.ishl, 1) := dk_120 (dk_at dksJ12_vectorizedMismatch_5 12 rfl rfl)
theorem dJ12_vectorizedMismatch_129 : decode cJ12_vectorizedMismatch 129 = .ok (.isub, 1) := dk_100 (dk_at dksJ12_vectorizedMismatch_5 13 rfl rfl)
theorem dJ12_vectorizedMismatch_130 : decode cJ12_vectorizedMismatch 130 = .ok (.istore 10, 2) := dk_54 10 (dk_at dksJ12_vectorizedMismatch_5 14 rfl rfl)
theorem dJ12_vectorizedMismatch_132 : decode cJ12_vectorizedMismatch 132 = .ok (.iload 7, 2) := dk_21 7 (dk_at dksJ12_vectorizedMismatch_5 16 rfl rfl)
theorem dJ12_vectorizedMismatch_134 : decode cJ12_vectorizedMismatch 134 = .ok (.getstatic 51, 3) := dk_178 0 51 (dk_at dksJ12_vectorizedMismatch_5 18 rfl rfl)
theorem dJ12_vectorizedMismatch_137 : decode cJ12_vectorizedMismatch 137 = .ok (.if_icmp .ge 126, 3) := dk_162 0 126 (dk_at dksJ12_vectorizedMismatch_5 21 rfl rfl)
theorem dJ12_vectorizedMismatch_140 : decode cJ12_vectorizedMismatch 140 = .ok (.iconst 1, 1) := dk_4 (dk_at dksJ12_vectorizedMismatch_6 0 rfl rfl)
theorem dJ12_vectorizedMismatch_141 : decode cJ12_vectorizedMismatch 141 = .ok (.getstatic 51, 3) := dk_178 0 51 (dk_at dksJ12_vectorizedMismatch_6 1 rfl rfl)
theorem dJ12_vectorizedMismatch_144 : decode cJ12_vectorizedMismatch 144 = .ok (.iload 7, 2) := dk_21 7 (dk_at dksJ12_vectorizedMismatch_6 4 rfl rfl)
theorem dJ12_vectorizedMismatch_146 : decode cJ12_vectorizedMismatch 146 = .ok (.isub, 1) := dk_100 (dk_at dksJ12_vectorizedMismatch_6 6 rfl rfl)
theorem dJ12_vectorizedMismatch_147 : decode cJ12_vectorizedMismatch 147 = .ok (.ishl, 1) := dk_120 (dk_at dksJ12_vectorizedMismatch_6 7 rfl rfl)
theorem dJ12_vectorizedMismatch_148 : decode cJ12_vectorizedMismatch 148 = .ok (.istore 11, 2) := dk_54 11 (dk_at dksJ12_vectorizedMismatch_6 8 rfl rfl)
theorem dJ12_vectorizedMismatch_150 : decode cJ12_vectorizedMismatch 150 = .ok (.iload 10, 2) := dk_21 10 (dk_at dksJ12_vectorizedMismatch_6 10 rfl rfl)
theorem dJ12_vectorizedMismatch_152 : decode cJ12_vectorizedMismatch 152 = .ok (.iload 11, 2) := dk_21 11 (dk_at dksJ12_vectorizedMismatch_6 12 rfl rfl)
theorem dJ12_vectorizedMismatch_154 : decode cJ12_vectorizedMismatch 154 = .ok (.if_icmp .lt 104, 3) := dk_161 0 104 (dk_at dksJ12_vectorizedMismatch_6 14 rfl rfl)
theorem dJ12_vectorizedMismatch_157 : decode cJ12_vectorizedMismatch 157 = .ok (.iload 9, 2) := dk_21 9 (dk_at dksJ12_vectorizedMismatch_6 17 rfl rfl)
theorem dJ12_vectorizedMismatch_159 : decode cJ12_vectorizedMismatch 159 = .ok (.i2l, 1) := dk_133 (dk_at dksJ12_vectorizedMismatch_6 19 rfl rfl)
theorem dJ12_vectorizedMismatch_160 : decode cJ12_vectorizedMismatch 160 = .ok (.getstatic 20, 3) := dk_178 0 20 (dk_at dksJ12_vectorizedMismatch_6 20 rfl rfl)
theorem dJ12_vectorizedMismatch_163 : decode cJ12_vectorizedMismatch 163 = .ok (.lshl, 1) := dk_121 (dk_at dksJ12_vectorizedMismatch_6 23 rfl rfl)
theorem dJ12_vectorizedMismatch_164 : decode cJ12_vectorizedMismatch 164 = .ok (.lstore 12, 2) := dk_55 12 (dk_at dksJ12_vectorizedMismatch_7 0 rfl rfl)
theorem dJ12_vectorizedMismatch_166 : decode cJ12_vectorizedMismatch 166 = .ok (.getstatic 26, 3) := dk_178 0 26 (dk_at dksJ12_vectorizedMismatch_7 2 rfl rfl)
theorem dJ12_vectorizedMismatch_169 : decode cJ12_vectorizedMismatch 169 = .ok (.aload_n 0, 1) := dk_42 (dk_at dksJ12_vectorizedMismatch_7 5 rfl rfl)
theorem dJ12_vectorizedMismatch_170 : decode cJ12_vectorizedMismatch 170 = .ok (.lload_n 1, 1) := dk_31 (dk_at dksJ12_vectorizedMismatch_7 6 rfl rfl)
theorem dJ12_vectorizedMismatch_171 : decode cJ12_vectorizedMismatch 171 = .ok (.lload 12, 2) := dk_22 12 (dk_at dksJ12_vectorizedMismatch_7 7 rfl rfl)
theorem dJ12_vectorizedMismatch_173 : decode cJ12_vectorizedMismatch 173 = .ok (.ladd, 1) := dk_97 (dk_at dksJ12_vectorizedMismatch_7 9 rfl rfl)
theorem dJ12_vectorizedMismatch_174 : decode cJ12_vectorizedMismatch 174 = .ok (.invokevirtual 54, 3) := dk_182 0 54 (dk_at dksJ12_vectorizedMismatch_7 10 rfl rfl)
theorem dJ12_vectorizedMismatch_177 : decode cJ12_vectorizedMismatch 177 = .ok (.istore 14, 2) := dk_54 14 (dk_at dksJ12_vectorizedMismatch_7 13 rfl rfl)
theorem dJ12_vectorizedMismatch_179 : decode cJ12_vectorizedMismatch 179 = .ok (.getstatic 26, 3) := dk_178 0 26 (dk_at dksJ12_vectorizedMismatch_7 15 rfl rfl)
theorem dJ12_vectorizedMismatch_182 : decode cJ12_vectorizedMismatch 182 = .ok (.aload_n 3, 1) := dk_45 (dk_at dksJ12_vectorizedMismatch_7 18 rfl rfl)
theorem dJ12_vectorizedMismatch_183 : decode cJ12_vectorizedMismatch 183 = .ok (.lload 4, 2) := dk_22 4 (dk_at dksJ12_vectorizedMismatch_7 19 rfl rfl)
theorem dJ12_vectorizedMismatch_185 : decode cJ12_vectorizedMismatch 185 = .ok (.lload 12, 2) := dk_22 12 (dk_at dksJ12_vectorizedMismatch_7 21 rfl rfl)
theorem dJ12_vectorizedMismatch_187 : decode cJ12_vectorizedMismatch 187 = .ok (.ladd, 1) := dk_97 (dk_at dksJ12_vectorizedMismatch_7 23 rfl rfl)
theorem dJ12_vectorizedMismatch_188 : decode cJ12_vectorizedMismatch 188 = .ok (.invokevirtual 54, 3) := dk_182 0 54 (dk_at dksJ12_vectorizedMismatch_8 0 rfl rfl)
theorem dJ12_vectorizedMismatch_191 : decode cJ12_vectorizedMismatch 191 = .ok (.istore 15, 2) := dk_54 15 (dk_at dksJ12_vectorizedMismatch_8 3 rfl rfl)
theorem dJ12_vectorizedMismatch_193 : decode cJ12_vectorizedMismatch 193 = .ok (.iload 14, 2) := dk_21 14 (dk_at dksJ12_vectorizedMismatch_8 5 rfl rfl)
theorem dJ12_vectorizedMismatch_195 : decode cJ12_vectorizedMismatch 195 = .ok (.iload 15, 2) := dk_21 15 (dk_at dksJ12_vectorizedMismatch_8 7 rfl rfl)
theorem dJ12_vectorizedMismatch_197 : decode cJ12_vectorizedMismatch 197 = .ok (.if_icmp .eq 54, 3) := dk_159 0 54 (dk_at dksJ12_vectorizedMismatch_8 9 rfl rfl)
theorem dJ12_vectorizedMismatch_200 : decode cJ12_vectorizedMismatch 200 = .ok (.iload 14, 2) := dk_21 14 (dk_at dksJ12_vectorizedMismatch_8 12 rfl rfl)
theorem dJ12_vectorizedMismatch_202 : decode cJ12_vectorizedMismatch 202 = .ok (.iload 15, 2) := dk_21 15 (dk_at dksJ12_vectorizedMismatch_8 14 rfl rfl)
theorem dJ12_vectorizedMismatch_204 : decode cJ12_vectorizedMismatch 204 = .ok (.ixor, 1) := dk_130 (dk_at dksJ12_vectorizedMismatch_8 16 rfl rfl)
theorem dJ12_vectorizedMismatch_205 : decode cJ12_vectorizedMismatch 205 = .ok (.istore 16, 2) := dk_54 16 (dk_at dksJ12_vectorizedMismatch_8 17 rfl rfl)
theorem dJ12_vectorizedMismatch_207 : decode cJ12_vectorizedMismatch 207 = .ok (.getstatic 36, 3) := dk_178 0 36 (dk_at dksJ12_vectorizedMismatch_8 19 rfl rfl)
theorem dJ12_vectorizedMismatch_210 : decode cJ12_vectorizedMismatch 210 = .ok (.ifCond .eq 18, 3) := dk_153 0 18 (dk_at dksJ12_vectorizedMismatch_9 0 rfl rfl)
theorem dJ12_vectorizedMismatch_213 : decode cJ12_vectorizedMismatch 213 = .ok (.iload 16, 2) := dk_21 16 (dk_at dksJ12_vectorizedMismatch_9 3 rfl rfl)
theorem dJ12_vectorizedMismatch_215 : decode cJ12_vectorizedMismatch 215 = .ok (.invokestatic 58, 3) := dk_184 0 58 (dk_at dksJ12_vectorizedMismatch_9 5 rfl rfl)
theorem dJ12_vectorizedMismatch_218 : decode cJ12_vectorizedMismatch 218 = .ok (.getstatic 46, 3) := dk_178 0 46 (dk_at dksJ12_vectorizedMismatch_9 8 rfl rfl)
theorem dJ12_vectorizedMismatch_221 : decode cJ12_vectorizedMismatch 221 = .ok (.iload 7, 2) := dk_21 7 (dk_at dksJ12_vectorizedMismatch_9 11 rfl rfl)
theorem dJ12_vectorizedMismatch_223 : decode cJ12_vectorizedMismatch 223 = .ok (.iadd, 1) := dk_96 (dk_at dksJ12_vectorizedMismatch_9 13 rfl rfl)
theorem dJ12_vectorizedMismatch_224 : decode cJ12_vectorizedMismatch 224 = .ok (.ishr, 1) := dk_122 (dk_at dksJ12_vectorizedMismatch_9 14 rfl rfl)
theorem dJ12_vectorizedMismatch_225 : decode cJ12_vectorizedMismatch 225 = .ok (.goto 15, 3) := dk_167 0 15 (dk_at dksJ12_vectorizedMismatch_9 15 rfl rfl)
theorem dJ12_vectorizedMismatch_228 : decode cJ12_vectorizedMismatch 228 = .ok (.iload 16, 2) := dk_21 16 (dk_at dksJ12_vectorizedMismatch_9 18 rfl rfl)
theorem dJ12_vectorizedMismatch_230 : decode cJ12_vectorizedMismatch 230 = .ok (.invokestatic 11, 3) := dk_184 0 11 (dk_at dksJ12_vectorizedMismatch_9 20 rfl rfl)
theorem dJ12_vectorizedMismatch_233 : decode cJ12_vectorizedMismatch 233 = .ok (.getstatic 46, 3) := dk_178 0 46 (dk_at dksJ12_vectorizedMismatch_10 0 rfl rfl)
theorem dJ12_vectorizedMismatch_236 : decode cJ12_vectorizedMismatch 236 = .ok (.iload 7, 2) := dk_21 7 (dk_at dksJ12_vectorizedMismatch_10 3 rfl rfl)
theorem dJ12_vectorizedMismatch_238 : decode cJ12_vectorizedMismatch 238 = .ok (.iadd, 1) := dk_96 (dk_at dksJ12_vectorizedMismatch_10 5 rfl rfl)
theorem dJ12_vectorizedMismatch_239 : decode cJ12_vectorizedMismatch 239 = .ok (.ishr, 1) := dk_122 (dk_at dksJ12_vectorizedMismatch_10 6 rfl rfl)
theorem dJ12_vectorizedMismatch_240 : decode cJ12_vectorizedMismatch 240 = .ok (.istore 17, 2) := dk_54 17 (dk_at dksJ12_vectorizedMismatch_10 7 rfl rfl)
theorem dJ12_vectorizedMismatch_242 : decode cJ12_vectorizedMismatch 242 = .ok (.iload 9, 2) := dk_21 9 (dk_at dksJ12_vectorizedMismatch_10 9 rfl rfl)
theorem dJ12_vectorizedMismatch_244 : decode cJ12_vectorizedMismatch 244 = .ok (.iload 8, 2) := dk_21 8 (dk_at dksJ12_vectorizedMismatch_10 11 rfl rfl)
theorem dJ12_vectorizedMismatch_246 : decode cJ12_vectorizedMismatch 246 = .ok (.ishl, 1) := dk_120 (dk_at dksJ12_vectorizedMismatch_10 13 rfl rfl)
theorem dJ12_vectorizedMismatch_247 : decode cJ12_vectorizedMismatch 247 = .ok (.iload 17, 2) := dk_21 17 (dk_at dksJ12_vectorizedMismatch_10 14 rfl rfl)
theorem dJ12_vectorizedMismatch_249 : decode cJ12_vectorizedMismatch 249 = .ok (.iadd, 1) := dk_96 (dk_at dksJ12_vectorizedMismatch_10 16 rfl rfl)
theorem dJ12_vectorizedMismatch_250 : decode cJ12_vectorizedMismatch 250 = .ok (.ireturn, 1) := dk_172 (dk_at dksJ12_vectorizedMismatch_10 17 rfl rfl)
theorem dJ12_vectorizedMismatch_251 : decode cJ12_vectorizedMismatch 251 = .ok (.iload 10, 2) := dk_21 10 (dk_at dksJ12_vectorizedMismatch_10 18 rfl rfl)
theorem dJ12_vectorizedMismatch_253 : decode cJ12_vectorizedMismatch 253 = .ok (.iload 11, 2) := dk_21 11 (dk_at dksJ12_vectorizedMismatch_10 20 rfl rfl)
theorem dJ12_vectorizedMismatch_255 : decode cJ12_vectorizedMismatch 255 = .ok (.isub, 1) := dk_100 (dk_at dksJ12_vectorizedMismatch_10 22 rfl rfl)
theorem dJ12_vectorizedMismatch_256 : decode cJ12_vectorizedMismatch 256 = .ok (.istore 10, 2) := dk_54 10 (dk_at dksJ12_vectorizedMismatch_11 0 rfl rfl)
theorem dJ12_vectorizedMismatch_258 : decode cJ12_vectorizedMismatch 258 = .ok (.iload 10, 2) := dk_21 10 (dk_at dksJ12_vectorizedMismatch_11 2 rfl rfl)
theorem dJ12_vectorizedMismatch_260 : decode cJ12_vectorizedMismatch 260 = .ok (.iconst (-1), 1) := dk_2 (dk_at dksJ12_vectorizedMismatch_11 4 rfl rfl)
theorem dJ12_vectorizedMismatch_261 : decode cJ12_vectorizedMismatch 261 = .ok (.ixor, 1) := dk_130 (dk_at dksJ12_vectorizedMismatch_11 5 rfl rfl)
theorem dJ12_vectorizedMismatch_262 : decode cJ12_vectorizedMismatch 262 = .ok (.ireturn, 1) := dk_172 (dk_at dksJ12_vectorizedMismatch_11 6 rfl rfl)
theorem dJ12_vectorizedMismatch_263 : decode cJ12_vectorizedMismatch 263 = .ok (.iload 10, 2) := dk_21 10 (dk_at dksJ12_vectorizedMismatch_11 7 rfl rfl)
theorem dJ12_vectorizedMismatch_265 : decode cJ12_vectorizedMismatch 265 = .ok (.iconst (-1), 1) := dk_2 (dk_at dksJ12_vectorizedMismatch_11 9 rfl rfl)
theorem dJ12_vectorizedMismatch_266 : decode cJ12_vectorizedMismatch 266 = .ok (.ixor, 1) := dk_130 (dk_at dksJ12_vectorizedMismatch_11 10 rfl rfl)
theorem dJ12_vectorizedMismatch_267 : decode cJ12_vectorizedMismatch 267 = .ok (.ireturn, 1) := dk_172 (dk_at dksJ12_vectorizedMismatch_11 11 rfl rfl)
theorem q134 : (Jvm.Cond.initialized "jdk/internal/util/ArraysSupport") ∈ lw_all := lw_g (lw_at lw_m1 29 rfl) rfl
theorem q937 : (Jvm.Cond.static ({ cls := "jdk/internal/util/ArraysSupport", name := "vectorizedHashCode", desc := "(Ljava/lang/Object;IIII)I" } : Jvm.MethodName)) ∈ lw_all := lw_g (lw_at lw_m4 112 rfl) rfl
theorem q938 : (Jvm.Cond.code ({ cls := "jdk/internal/util/ArraysSupport", name := "vectorizedHashCode", desc := "(Ljava/lang/Object;IIII)I" } : Jvm.MethodName) prog_90_method_4_code (5 : Nat) (Option.some Jvm.ClassFile.FieldType.int)) ∈ lw_all := lw_g (lw_at lw_m4 113 rfl) rfl
theorem q939 : (Jvm.Cond.classLink "jdk/internal/util/ArraysSupport" (60 : Nat) "[B") ∈ lw_all := lw_g (lw_at lw_m4 114 rfl) rfl
theorem q940 : (Jvm.Cond.methodLink "jdk/internal/util/ArraysSupport" (62 : Nat) ({ cls := "jdk/internal/util/ArraysSupport", name := "signedHashCode", desc := "(I[BII)I" } : Jvm.MethodName)) ∈ lw_all := lw_g (lw_at lw_m4 115 rfl) rfl
theorem q941 : (Jvm.Cond.static ({ cls := "jdk/internal/util/ArraysSupport", name := "signedHashCode", desc := "(I[BII)I" } : Jvm.MethodName)) ∈ lw_all := lw_g (lw_at lw_m4 116 rfl) rfl
theorem q942 : (Jvm.Cond.code ({ cls := "jdk/internal/util/ArraysSupport", name := "signedHashCode", desc := "(I[BII)I" } : Jvm.MethodName) prog_90_method_5_code (6 : Nat) (Option.some Jvm.ClassFile.FieldType.int)) ∈ lw_all := lw_g (lw_at lw_m4 117 rfl) rfl
theorem q943 : (Jvm.Cond.methodLink "jdk/internal/util/ArraysSupport" (66 : Nat) ({ cls := "jdk/internal/util/ArraysSupport", name := "utf16hashCode", desc := "(I[BII)I" } : Jvm.MethodName)) ∈ lw_all := lw_g (lw_at lw_m4 118 rfl) rfl
theorem q944 : (Jvm.Cond.static ({ cls := "jdk/internal/util/ArraysSupport", name := "utf16hashCode", desc := "(I[BII)I" } : Jvm.MethodName)) ∈ lw_all := lw_g (lw_at lw_m4 119 rfl) rfl
theorem q945 : (Jvm.Cond.code ({ cls := "jdk/internal/util/ArraysSupport", name := "utf16hashCode", desc := "(I[BII)I" } : Jvm.MethodName) prog_90_method_10_code (6 : Nat) (Option.some Jvm.ClassFile.FieldType.int)) ∈ lw_all := lw_g (lw_at lw_m4 120 rfl) rfl
theorem q946 : (Jvm.Cond.fieldLink "jdk/internal/util/ArraysSupport" (106 : Nat) "jdk/internal/util/ArraysSupport" "JLA" "Ljdk/internal/access/JavaLangAccess;") ∈ lw_all := lw_g (lw_at lw_m4 121 rfl) rfl
theorem q947 : (Jvm.Cond.laysStatic "jdk/internal/util/ArraysSupport" "JLA" "Ljdk/internal/access/JavaLangAccess;") ∈ lw_tbl := lw_at lw_m4 122 rfl
theorem q948 : (Jvm.Cond.interfaceEntry "jdk/internal/util/ArraysSupport" (110 : Nat)) ∈ lw_tbl := lw_at lw_m4 123 rfl
theorem q949 : (Jvm.Cond.methodLink "jdk/internal/util/ArraysSupport" (110 : Nat) ({ cls := "jdk/internal/access/JavaLangAccess", name := "getUTF16Char", desc := "([BI)C" } : Jvm.MethodName)) ∈ lw_all := lw_g (lw_at lw_m4 124 rfl) rfl
theorem q970 : (Jvm.Cond.classLink "jdk/internal/util/ArraysSupport" (69 : Nat) "[C") ∈ lw_all := lw_g (lw_at lw_m4 145 rfl) rfl
theorem q971 : (Jvm.Cond.methodLink "jdk/internal/util/ArraysSupport" (71 : Nat) ({ cls := "jdk/internal/util/ArraysSupport", name := "hashCode", desc := "(I[CII)I" } : Jvm.MethodName)) ∈ lw_all := lw_g (lw_at lw_m4 146 rfl) rfl
theorem q972 : (Jvm.Cond.static ({ cls := "jdk/internal/util/ArraysSupport", name := "hashCode", desc := "(I[CII)I" } : Jvm.MethodName)) ∈ lw_all := lw_g (lw_at lw_m4 147 rfl) rfl
theorem q973 : (Jvm.Cond.code ({ cls := "jdk/internal/util/ArraysSupport", name := "hashCode", desc := "(I[CII)I" } : Jvm.MethodName) prog_90_method_7_code (6 : Nat) (Option.some Jvm.ClassFile.FieldType.int)) ∈ lw_all := lw_g (lw_at lw_m4 148 rfl) rfl
theorem q974 : (Jvm.Cond.methodLink "jdk/internal/util/ArraysSupport" (75 : Nat) ({ cls := "jdk/internal/util/ArraysSupport", name := "hashCode", desc := "(I[BII)I" } : Jvm.MethodName)) ∈ lw_all := lw_g (lw_at lw_m4 149 rfl) rfl
theorem q975 : (Jvm.Cond.static ({ cls := "jdk/internal/util/ArraysSupport", name := "hashCode", desc := "(I[BII)I" } : Jvm.MethodName)) ∈ lw_all := lw_g (lw_at lw_m4 150 rfl) rfl
theorem q976 : (Jvm.Cond.code ({ cls := "jdk/internal/util/ArraysSupport", name := "hashCode", desc := "(I[BII)I" } : Jvm.MethodName) prog_90_method_6_code (6 : Nat) (Option.some Jvm.ClassFile.FieldType.int)) ∈ lw_all := lw_g (lw_at lw_m4 151 rfl) rfl
theorem q977 : (Jvm.Cond.classLink "jdk/internal/util/ArraysSupport" (77 : Nat) "[S") ∈ lw_all := lw_g (lw_at lw_m4 152 rfl) rfl
theorem q978 : (Jvm.Cond.methodLink "jdk/internal/util/ArraysSupport" (79 : Nat) ({ cls := "jdk/internal/util/ArraysSupport", name := "hashCode", desc := "(I[SII)I" } : Jvm.MethodName)) ∈ lw_all := lw_g (lw_at lw_m4 153 rfl) rfl
theorem q979 : (Jvm.Cond.static ({ cls := "jdk/internal/util/ArraysSupport", name := "hashCode", desc := "(I[SII)I" } : Jvm.MethodName)) ∈ lw_all := lw_g (lw_at lw_m4 154 rfl) rfl
theorem q980 : (Jvm.Cond.code ({ cls := "jdk/internal/util/ArraysSupport", name := "hashCode", desc := "(I[SII)I" } : Jvm.MethodName) prog_90_method_8_code (6 : Nat) (Option.some Jvm.ClassFile.FieldType.int)) ∈ lw_all := lw_g (lw_at lw_m4 155 rfl) rfl
theorem q981 : (Jvm.Cond.classLink "jdk/internal/util/ArraysSupport" (82 : Nat) "[I") ∈ lw_all := lw_g (lw_at lw_m4 156 rfl) rfl
theorem q982 : (Jvm.Cond.methodLink "jdk/internal/util/ArraysSupport" (84 : Nat) ({ cls := "jdk/internal/util/ArraysSupport", name := "hashCode", desc := "(I[III)I" } : Jvm.MethodName)) ∈ lw_all := lw_g (lw_at lw_m4 157 rfl) rfl
theorem q983 : (Jvm.Cond.static ({ cls := "jdk/internal/util/ArraysSupport", name := "hashCode", desc := "(I[III)I" } : Jvm.MethodName)) ∈ lw_all := lw_g (lw_at lw_m4 158 rfl) rfl
theorem q984 : (Jvm.Cond.code ({ cls := "jdk/internal/util/ArraysSupport", name := "hashCode", desc := "(I[III)I" } : Jvm.MethodName) prog_90_method_9_code (6 : Nat) (Option.some Jvm.ClassFile.FieldType.int)) ∈ lw_all := lw_g (lw_at lw_m4 159 rfl) rfl
theorem q1190 : (Jvm.Cond.static ({ cls := "jdk/internal/util/ArraysSupport", name := "mismatch", desc := "([B[BI)I" } : Jvm.MethodName)) ∈ lw_all := lw_g (lw_at lw_m5 125 rfl) rfl
theorem q1191 : (Jvm.Cond.code ({ cls := "jdk/internal/util/ArraysSupport", name := "mismatch", desc := "([B[BI)I" } : Jvm.MethodName) prog_90_method_13_code (4 : Nat) (Option.some Jvm.ClassFile.FieldType.int)) ∈ lw_all := lw_g (lw_at lw_m5 126 rfl) rfl
theorem q1192 : (Jvm.Cond.fieldLink "jdk/internal/util/ArraysSupport" (126 : Nat) "jdk/internal/misc/Unsafe" "ARRAY_BYTE_BASE_OFFSET" "I") ∈ lw_all := lw_g (lw_at lw_m5 127 rfl) rfl
theorem q1194 : (Jvm.Cond.fieldLink "jdk/internal/util/ArraysSupport" (129 : Nat) "jdk/internal/util/ArraysSupport" "LOG2_ARRAY_BYTE_INDEX_SCALE" "I") ∈ lw_all := lw_g (lw_at lw_m5 129 rfl) rfl
theorem q1195 : (Jvm.Cond.laysStatic "jdk/internal/util/ArraysSupport" "LOG2_ARRAY_BYTE_INDEX_SCALE" "I") ∈ lw_tbl := lw_at lw_m5 130 rfl
theorem q1196 : (Jvm.Cond.methodLink "jdk/internal/util/ArraysSupport" (122 : Nat) ({ cls := "jdk/internal/util/ArraysSupport", name := "vectorizedMismatch", desc := "(Ljava/lang/Object;JLjava/lang/Object;JII)I" } : Jvm.MethodName)) ∈ lw_all := lw_g (lw_at lw_m5 131 rfl) rfl
theorem q1197 : (Jvm.Cond.static ({ cls := "jdk/internal/util/ArraysSupport", name := "vectorizedMismatch", desc := "(Ljava/lang/Object;JLjava/lang/Object;JII)I" } : Jvm.MethodName)) ∈ lw_all := lw_g (lw_at lw_m5 132 rfl) rfl
theorem q1198 : (Jvm.Cond.code ({ cls := "jdk/internal/util/ArraysSupport", name := "vectorizedMismatch", desc := "(Ljava/lang/Object;JLjava/lang/Object;JII)I" } : Jvm.MethodName) prog_90_method_3_code (19 : Nat) (Option.some Jvm.ClassFile.FieldType.int)) ∈ lw_all := lw_g (lw_at lw_m5 133 rfl) rfl
theorem q1199 : (Jvm.Cond.fieldLink "jdk/internal/util/ArraysSupport" (20 : Nat) "jdk/internal/util/ArraysSupport" "LOG2_ARRAY_LONG_INDEX_SCALE" "I") ∈ lw_all := lw_g (lw_at lw_m5 134 rfl) rfl
theorem q1200 : (Jvm.Cond.laysStatic "jdk/internal/util/ArraysSupport" "LOG2_ARRAY_LONG_INDEX_SCALE" "I") ∈ lw_tbl := lw_at lw_m5 135 rfl
theorem q1201 : (Jvm.Cond.fieldLink "jdk/internal/util/ArraysSupport" (26 : Nat) "jdk/internal/util/ArraysSupport" "U" "Ljdk/internal/misc/Unsafe;") ∈ lw_all := lw_g (lw_at lw_m5 136 rfl) rfl
theorem q1202 : (Jvm.Cond.laysStatic "jdk/internal/util/ArraysSupport" "U" "Ljdk/internal/misc/Unsafe;") ∈ lw_tbl := lw_at lw_m5 137 rfl
theorem q1203 : (Jvm.Cond.methodLink "jdk/internal/util/ArraysSupport" (30 : Nat) ({ cls := "jdk/internal/misc/Unsafe", name := "getLongUnaligned", desc := "(Ljava/lang/Object;J)J" } : Jvm.MethodName)) ∈ lw_all := lw_g (lw_at lw_m5 138 rfl) rfl
theorem q1255 : (Jvm.Cond.fieldLink "jdk/internal/util/ArraysSupport" (36 : Nat) "jdk/internal/util/ArraysSupport" "BIG_ENDIAN" "Z") ∈ lw_all := lw_g (lw_at lw_m5 190 rfl) rfl
theorem q1256 : (Jvm.Cond.laysStatic "jdk/internal/util/ArraysSupport" "BIG_ENDIAN" "Z") ∈ lw_tbl := lw_at lw_m5 191 rfl
theorem q1257 : (Jvm.Cond.methodLink "jdk/internal/util/ArraysSupport" (40 : Nat) ({ cls := "java/lang/Long", name := "numberOfLeadingZeros", desc := "(J)I" } : Jvm.MethodName)) ∈ lw_all := lw_g (lw_at lw_m5 192 rfl) rfl
theorem q1263 : (Jvm.Cond.fieldLink "jdk/internal/util/ArraysSupport" (46 : Nat) "jdk/internal/util/ArraysSupport" "LOG2_BYTE_BIT_SIZE" "I") ∈ lw_all := lw_g (lw_at lw_m5 198 rfl) rfl
theorem q1264 : (Jvm.Cond.laysStatic "jdk/internal/util/ArraysSupport" "LOG2_BYTE_BIT_SIZE" "I") ∈ lw_tbl := lw_at lw_m5 199 rfl
theorem q1265 : (Jvm.Cond.methodLink "jdk/internal/util/ArraysSupport" (49 : Nat) ({ cls := "java/lang/Long", name := "numberOfTrailingZeros", desc := "(J)I" } : Jvm.MethodName)) ∈ lw_all := lw_g (lw_at lw_m5 200 rfl) rfl
theorem q1269 : (Jvm.Cond.fieldLink "jdk/internal/util/ArraysSupport" (51 : Nat) "jdk/internal/util/ArraysSupport" "LOG2_ARRAY_INT_INDEX_SCALE" "I") ∈ lw_all := lw_g (lw_at lw_m5 204 rfl) rfl
theorem q1270 : (Jvm.Cond.laysStatic "jdk/internal/util/ArraysSupport" "LOG2_ARRAY_INT_INDEX_SCALE" "I") ∈ lw_tbl := lw_at lw_m5 205 rfl
theorem q1271 : (Jvm.Cond.methodLink "jdk/internal/util/ArraysSupport" (54 : Nat) ({ cls := "jdk/internal/misc/Unsafe", name := "getIntUnaligned", desc := "(Ljava/lang/Object;J)I" } : Jvm.MethodName)) ∈ lw_all := lw_g (lw_at lw_m5 206 rfl) rfl
theorem q1288 : (Jvm.Cond.methodLink "jdk/internal/util/ArraysSupport" (58 : Nat) ({ cls := "java/lang/Integer", name := "numberOfLeadingZeros", desc := "(I)I" } : Jvm.MethodName)) ∈ lw_all := lw_g (lw_at lw_m5 223 rfl) rfl
theorem q1289 : (Jvm.Cond.methodLink "jdk/internal/util/ArraysSupport" (11 : Nat) ({ cls := "java/lang/Integer", name := "numberOfTrailingZeros", desc := "(I)I" } : Jvm.MethodName)) ∈ lw_all := lw_g (lw_at lw_m5 224 rfl) rfl
/-! java/lang/StringUTF16 -/
set_option maxRecDepth 100000
def RJ13 : String := "java/lang/StringUTF16"
abbrev cJ13_getChar : ByteArray := prog_52_method_5_code
def yJ13_getChar : MethodName := ⟨RJ13, "getChar", "([BI)C"⟩
def dkwJ13_getChar_2 : List UInt8 := [51, 17, 0, 255, 126, 178, 0, 63, 120, 128, 146, 172]
abbrev dktJ13_getChar_2 : List UInt8 := dkwJ13_getChar_2 ++ []
def dkwJ13_getChar_1 : List UInt8 := [183, 0, 56, 191, 27, 4, 120, 60, 42, 27, 132, 1, 1, 51, 17, 0, 255, 126, 178, 0, 59, 120, 42, 27]
abbrev dktJ13_getChar_1 : List UInt8 := dkwJ13_getChar_1 ++ dktJ13_getChar_2
def dkwJ13_getChar_0 : List UInt8 := [178, 0, 44, 154, 0, 25, 27, 155, 0, 11, 27, 42, 184, 0, 48, 161, 0, 13, 187, 0, 52, 89, 18, 54]
abbrev dktJ13_getChar_0 : List UInt8 := dkwJ13_getChar_0 ++ dktJ13_getChar_1
theorem dksJ13_getChar_0 : cJ13_getChar.data.toList.drop 0 = dktJ13_getChar_0 := by decide +kernel
theorem dksJ13_getChar_1 : cJ13_getChar.data.toList.drop 24 = dktJ13_getChar_1 := dk_seg dksJ13_getChar_0 24 rfl rfl
theorem dksJ13_getChar_2 : cJ13_getChar.data.toList.drop 48 = dktJ13_getChar_2 := dk_seg dksJ13_getChar_1 24 rfl rfl
theorem dJ13_getChar_0 : decode cJ13_getChar 0 = .ok (.getstatic 44, 3) := dk_178 0 44 (dk_at dksJ13_getChar_0 0 rfl rfl)
theorem dJ13_getChar_3 : decode cJ13_getChar 3 = .ok (.ifCond .ne 25, 3) := dk_154 0 25 (dk_at dksJ13_getChar_0 3 rfl rfl)
theorem dJ13_getChar_6 : decode cJ13_getChar 6 = .ok (.iload_n 1, 1) := dk_27 (dk_at dksJ13_getChar_0 6 rfl rfl)
theorem dJ13_getChar_7 : decode cJ13_getChar 7 = .ok (.ifCond .lt 11, 3) := dk_155 0 11 (dk_at dksJ13_getChar_0 7 rfl rfl)
theorem dJ13_getChar_10 : decode cJ13_getChar 10 = .ok (.iload_n 1, 1) := dk_27 (dk_at dksJ13_getChar_0 10 rfl rfl)
theorem dJ13_getChar_11 : decode cJ13_getChar 11 = .ok (.aload_n 0, 1) := dk_42 (dk_at dksJ13_getChar_0 11 rfl rfl)
theorem dJ13_getChar_12 : decode cJ13_getChar 12 = .ok (.invokestatic 48, 3) := dk_184 0 48 (dk_at dksJ13_getChar_0 12 rfl rfl)
theorem dJ13_getChar_15 : decode cJ13_getChar 15 = .ok (.if_icmp .lt 13, 3) := dk_161 0 13 (dk_at dksJ13_getChar_0 15 rfl rfl)
theorem dJ13_getChar_18 : decode cJ13_getChar 18 = .ok (.new 52, 3) := dk_187 0 52 (dk_at dksJ13_getChar_0 18 rfl rfl)
theorem dJ13_getChar_21 : decode cJ13_getChar 21 = .ok (.dup, 1) := dk_89 (dk_at dksJ13_getChar_0 21 rfl rfl)
theorem dJ13_getChar_22 : decode cJ13_getChar 22 = .ok (.ldc 54, 2) := dk_18 54 (dk_at dksJ13_getChar_0 22 rfl rfl)
theorem dJ13_getChar_24 : decode cJ13_getChar 24 = .ok (.invokespecial 56, 3) := dk_183 0 56 (dk_at dksJ13_getChar_1 0 rfl rfl)
theorem dJ13_getChar_27 : decode cJ13_getChar 27 = .ok (.athrow, 1) := dk_191 (dk_at dksJ13_getChar_1 3 rfl rfl)
theorem dJ13_getChar_28 : decode cJ13_getChar 28 = .ok (.iload_n 1, 1) := dk_27 (dk_at dksJ13_getChar_1 4 rfl rfl)
theorem dJ13_getChar_29 : decode cJ13_getChar 29 = .ok (.iconst 1, 1) := dk_4 (dk_at dksJ13_getChar_1 5 rfl rfl)
theorem dJ13_getChar_30 : decode cJ13_getChar 30 = .ok (.ishl, 1) := dk_120 (dk_at dksJ13_getChar_1 6 rfl rfl)
theorem dJ13_getChar_31 : decode cJ13_getChar 31 = .ok (.istore_n 1, 1) := dk_60 (dk_at dksJ13_getChar_1 7 rfl rfl)
theorem dJ13_getChar_32 : decode cJ13_getChar 32 = .ok (.aload_n 0, 1) := dk_42 (dk_at dksJ13_getChar_1 8 rfl rfl)
theorem dJ13_getChar_33 : decode cJ13_getChar 33 = .ok (.iload_n 1, 1) := dk_27 (dk_at dksJ13_getChar_1 9 rfl rfl)
theorem dJ13_getChar_34 : decode cJ13_getChar 34 = .ok (.iinc 1 1, 3) := dk_132 1 1 (dk_at dksJ13_getChar_1 10 rfl rfl)
theorem dJ13_getChar_37 : decode cJ13_getChar 37 = .ok (.baload, 1) := dk_51 (dk_at dksJ13_getChar_1 13 rfl rfl)
theorem dJ13_getChar_38 : decode cJ13_getChar 38 = .ok (.sipush 255, 3) := dk_17 0 255 (dk_at dksJ13_getChar_1 14 rfl rfl)
theorem dJ13_getChar_41 : decode cJ13_getChar 41 = .ok (.iand, 1) := dk_126 (dk_at dksJ13_getChar_1 17 rfl rfl)
theorem dJ13_getChar_42 : decode cJ13_getChar 42 = .ok (.getstatic 59, 3) := dk_178 0 59 (dk_at dksJ13_getChar_1 18 rfl rfl)
theorem dJ13_getChar_45 : decode cJ13_getChar 45 = .ok (.ishl, 1) := dk_120 (dk_at dksJ13_getChar_1 21 rfl rfl)
theorem dJ13_getChar_46 : decode cJ13_getChar 46 = .ok (.aload_n 0, 1) := dk_42 (dk_at dksJ13_getChar_1 22 rfl rfl)
theorem dJ13_getChar_47 : decode cJ13_getChar 47 = .ok (.iload_n 1, 1) := dk_27 (dk_at dksJ13_getChar_1 23 rfl rfl)
theorem dJ13_getChar_48 : decode cJ13_getChar 48 = .ok (.baload, 1) := dk_51 (dk_at dksJ13_getChar_2 0 rfl rfl)
theorem dJ13_getChar_49 : decode cJ13_getChar 49 = .ok (.sipush 255, 3) := dk_17 0 255 (dk_at dksJ13_getChar_2 1 rfl rfl)
theorem dJ13_getChar_52 : decode cJ13_getChar 52 = .ok (.iand, 1) := dk_126 (dk_at dksJ13_getChar_2 4 rfl rfl)
theorem dJ13_getChar_53 : decode cJ13_getChar 53 = .ok (.getstatic 63, 3) := dk_178 0 63 (dk_at dksJ13_getChar_2 5 rfl rfl)
theorem dJ13_getChar_56 : decode cJ13_getChar 56 = .ok (.ishl, 1) := dk_120 (dk_at dksJ13_getChar_2 8 rfl rfl)
theorem dJ13_getChar_57 : decode cJ13_getChar 57 = .ok (.ior, 1) := dk_128 (dk_at dksJ13_getChar_2 9 rfl rfl)
theorem dJ13_getChar_58 : decode cJ13_getChar 58 = .ok (.i2c, 1) := dk_146 (dk_at dksJ13_getChar_2 10 rfl rfl)
theorem dJ13_getChar_59 : decode cJ13_getChar 59 = .ok (.ireturn, 1) := dk_172 (dk_at dksJ13_getChar_2 11 rfl rfl)
abbrev cJ13_length : ByteArray := prog_52_method_6_code
def yJ13_length : MethodName := ⟨RJ13, "length", "([B)I"⟩
def dkwJ13_length_0 : List UInt8 := [42, 190, 4, 122, 172]
abbrev dktJ13_length_0 : List UInt8 := dkwJ13_length_0 ++ []
theorem dksJ13_length_0 : cJ13_length.data.toList.drop 0 = dktJ13_length_0 := by decide +kernel
theorem dJ13_length_0 : decode cJ13_length 0 = .ok (.aload_n 0, 1) := dk_42 (dk_at dksJ13_length_0 0 rfl rfl)
theorem dJ13_length_1 : decode cJ13_length 1 = .ok (.arraylength, 1) := dk_190 (dk_at dksJ13_length_0 1 rfl rfl)
theorem dJ13_length_2 : decode cJ13_length 2 = .ok (.iconst 1, 1) := dk_4 (dk_at dksJ13_length_0 2 rfl rfl)
theorem dJ13_length_3 : decode cJ13_length 3 = .ok (.ishr, 1) := dk_122 (dk_at dksJ13_length_0 3 rfl rfl)
theorem dJ13_length_4 : decode cJ13_length 4 = .ok (.ireturn, 1) := dk_172 (dk_at dksJ13_length_0 4 rfl rfl)
abbrev cJ13_hashCode : ByteArray := prog_52_method_39_code
def yJ13_hashCode : MethodName := ⟨RJ13, "hashCode", "([B)I"⟩
def dkwJ13_hashCode_2 : List UInt8 := [3, 167, 0, 22, 42, 3, 184, 0, 71, 167, 0, 14, 42, 3, 42, 190, 4, 122, 3, 8, 184, 0, 220, 172]
abbrev dktJ13_hashCode_2 : List UInt8 := dkwJ13_hashCode_2 ++ []
def dkwJ13_hashCode_1 : List UInt8 := [171, 0, 0, 0, 0, 38, 0, 0, 0, 2, 0, 0, 0, 0, 0, 0, 0, 26, 0, 0, 0, 2, 0, 0, 0, 30]
abbrev dktJ13_hashCode_1 : List UInt8 := dkwJ13_hashCode_1 ++ dktJ13_hashCode_2
def dkwJ13_hashCode_0 : List UInt8 := [42, 190]
abbrev dktJ13_hashCode_0 : List UInt8 := dkwJ13_hashCode_0 ++ dktJ13_hashCode_1
theorem dksJ13_hashCode_0 : cJ13_hashCode.data.toList.drop 0 = dktJ13_hashCode_0 := by decide +kernel
theorem dksJ13_hashCode_1 : cJ13_hashCode.data.toList.drop 2 = dktJ13_hashCode_1 := dk_seg dksJ13_hashCode_0 2 rfl rfl
theorem dksJ13_hashCode_2 : cJ13_hashCode.data.toList.drop 28 = dktJ13_hashCode_2 := dk_seg dksJ13_hashCode_1 26 rfl rfl
theorem dJ13_hashCode_0 : decode cJ13_hashCode 0 = .ok (.aload_n 0, 1) := dk_42 (dk_at dksJ13_hashCode_0 0 rfl rfl)
theorem dJ13_hashCode_1 : decode cJ13_hashCode 1 = .ok (.arraylength, 1) := dk_190 (dk_at dksJ13_hashCode_0 1 rfl rfl)
theorem dJ13_hashCode_2 : decode cJ13_hashCode 2 = .ok (.lookupswitch 38 #[(0, 26), (2, 30)], 26) := by decide +kernel
theorem dJ13_hashCode_28 : decode cJ13_hashCode 28 = .ok (.iconst 0, 1) := dk_3 (dk_at dksJ13_hashCode_2 0 rfl rfl)
theorem dJ13_hashCode_29 : decode cJ13_hashCode 29 = .ok (.goto 22, 3) := dk_167 0 22 (dk_at dksJ13_hashCode_2 1 rfl rfl)
theorem dJ13_hashCode_32 : decode cJ13_hashCode 32 = .ok (.aload_n 0, 1) := dk_42 (dk_at dksJ13_hashCode_2 4 rfl rfl)
theorem dJ13_hashCode_33 : decode cJ13_hashCode 33 = .ok (.iconst 0, 1) := dk_3 (dk_at dksJ13_hashCode_2 5 rfl rfl)
theorem dJ13_hashCode_34 : decode cJ13_hashCode 34 = .ok (.invokestatic 71, 3) := dk_184 0 71 (dk_at dksJ13_hashCode_2 6 rfl rfl)
theorem dJ13_hashCode_37 : decode cJ13_hashCode 37 = .ok (.goto 14, 3) := dk_167 0 14 (dk_at dksJ13_hashCode_2 9 rfl rfl)
theorem dJ13_hashCode_40 : decode cJ13_hashCode 40 = .ok (.aload_n 0, 1) := dk_42 (dk_at dksJ13_hashCode_2 12 rfl rfl)
theorem dJ13_hashCode_41 : decode cJ13_hashCode 41 = .ok (.iconst 0, 1) := dk_3 (dk_at dksJ13_hashCode_2 13 rfl rfl)
theorem dJ13_hashCode_42 : decode cJ13_hashCode 42 = .ok (.aload_n 0, 1) := dk_42 (dk_at dksJ13_hashCode_2 14 rfl rfl)
theorem dJ13_hashCode_43 : decode cJ13_hashCode 43 = .ok (.arraylength, 1) := dk_190 (dk_at dksJ13_hashCode_2 15 rfl rfl)
theorem dJ13_hashCode_44 : decode cJ13_hashCode 44 = .ok (.iconst 1, 1) := dk_4 (dk_at dksJ13_hashCode_2 16 rfl rfl)
theorem dJ13_hashCode_45 : decode cJ13_hashCode 45 = .ok (.ishr, 1) := dk_122 (dk_at dksJ13_hashCode_2 17 rfl rfl)
theorem dJ13_hashCode_46 : decode cJ13_hashCode 46 = .ok (.iconst 0, 1) := dk_3 (dk_at dksJ13_hashCode_2 18 rfl rfl)
theorem dJ13_hashCode_47 : decode cJ13_hashCode 47 = .ok (.iconst 5, 1) := dk_8 (dk_at dksJ13_hashCode_2 19 rfl rfl)
theorem dJ13_hashCode_48 : decode cJ13_hashCode 48 = .ok (.invokestatic 220, 3) := dk_184 0 220 (dk_at dksJ13_hashCode_2 20 rfl rfl)
theorem dJ13_hashCode_51 : decode cJ13_hashCode 51 = .ok (.ireturn, 1) := dk_172 (dk_at dksJ13_hashCode_2 23 rfl rfl)
abbrev cJ13_compareTo : ByteArray := prog_52_method_29_code
def yJ13_compareTo : MethodName := ⟨RJ13, "compareTo", "([B[B)I"⟩
def dkwJ13_compareTo_0 : List UInt8 := [42, 184, 0, 48, 61, 43, 184, 0, 48, 62, 42, 43, 28, 29, 184, 0, 176, 172]
abbrev dktJ13_compareTo_0 : List UInt8 := dkwJ13_compareTo_0 ++ []
theorem dksJ13_compareTo_0 : cJ13_compareTo.data.toList.drop 0 = dktJ13_compareTo_0 := by decide +kernel
theorem dJ13_compareTo_0 : decode cJ13_compareTo 0 = .ok (.aload_n 0, 1) := dk_42 (dk_at dksJ13_compareTo_0 0 rfl rfl)
theorem dJ13_compareTo_1 : decode cJ13_compareTo 1 = .ok (.invokestatic 48, 3) := dk_184 0 48 (dk_at dksJ13_compareTo_0 1 rfl rfl)
theorem dJ13_compareTo_4 : decode cJ13_compareTo 4 = .ok (.istore_n 2, 1) := dk_61 (dk_at dksJ13_compareTo_0 4 rfl rfl)
theorem dJ13_compareTo_5 : decode cJ13_compareTo 5 = .ok (.aload_n 1, 1) := dk_43 (dk_at dksJ13_compareTo_0 5 rfl rfl)
theorem dJ13_compareTo_6 : decode cJ13_compareTo 6 = .ok (.invokestatic 48, 3) := dk_184 0 48 (dk_at dksJ13_compareTo_0 6 rfl rfl)
theorem dJ13_compareTo_9 : decode cJ13_compareTo 9 = .ok (.istore_n 3, 1) := dk_62 (dk_at dksJ13_compareTo_0 9 rfl rfl)
theorem dJ13_compareTo_10 : decode cJ13_compareTo 10 = .ok (.aload_n 0, 1) := dk_42 (dk_at dksJ13_compareTo_0 10 rfl rfl)
theorem dJ13_compareTo_11 : decode cJ13_compareTo 11 = .ok (.aload_n 1, 1) := dk_43 (dk_at dksJ13_compareTo_0 11 rfl rfl)
theorem dJ13_compareTo_12 : decode cJ13_compareTo 12 = .ok (.iload_n 2, 1) := dk_28 (dk_at dksJ13_compareTo_0 12 rfl rfl)
theorem dJ13_compareTo_13 : decode cJ13_compareTo 13 = .ok (.iload_n 3, 1) := dk_29 (dk_at dksJ13_compareTo_0 13 rfl rfl)
theorem dJ13_compareTo_14 : decode cJ13_compareTo 14 = .ok (.invokestatic 176, 3) := dk_184 0 176 (dk_at dksJ13_compareTo_0 14 rfl rfl)
theorem dJ13_compareTo_17 : decode cJ13_compareTo 17 = .ok (.ireturn, 1) := dk_172 (dk_at dksJ13_compareTo_0 17 rfl rfl)
abbrev cJ13_compareValues : ByteArray := prog_52_method_31_code
def yJ13_compareValues : MethodName := ⟨RJ13, "compareValues", "([B[BII)I"⟩
def dkwJ13_compareValues_2 : List UInt8 := [132, 5, 1, 167, 255, 217, 28, 29, 100, 172]
abbrev dktJ13_compareValues_2 : List UInt8 := dkwJ13_compareValues_2 ++ []
def dkwJ13_compareValues_1 : List UInt8 := [54, 6, 43, 21, 5, 184, 0, 71, 54, 7, 21, 6, 21, 7, 159, 0, 9, 21, 6, 21, 7, 100, 172]
abbrev dktJ13_compareValues_1 : List UInt8 := dkwJ13_compareValues_1 ++ dktJ13_compareValues_2
def dkwJ13_compareValues_0 : List UInt8 := [28, 29, 184, 0, 183, 54, 4, 3, 54, 5, 21, 5, 21, 4, 162, 0, 38, 42, 21, 5, 184, 0, 71]
abbrev dktJ13_compareValues_0 : List UInt8 := dkwJ13_compareValues_0 ++ dktJ13_compareValues_1
theorem dksJ13_compareValues_0 : cJ13_compareValues.data.toList.drop 0 = dktJ13_compareValues_0 := by decide +kernel
theorem dksJ13_compareValues_1 : cJ13_compareValues.data.toList.drop 23 = dktJ13_compareValues_1 := dk_seg dksJ13_compareValues_0 23 rfl rfl
theorem dksJ13_compareValues_2 : cJ13_compareValues.data.toList.drop 46 = dktJ13_compareValues_2 := dk_seg dksJ13_compareValues_1 23 rfl rfl
theorem dJ13_compareValues_0 : decode cJ13_compareValues 0 = .ok (.iload_n 2, 1) := dk_28 (dk_at dksJ13_compareValues_0 0 rfl rfl)
theorem dJ13_compareValues_1 : decode cJ13_compareValues 1 = .ok (.iload_n 3, 1) := dk_29 (dk_at dksJ13_compareValues_0 1 rfl rfl)
theorem dJ13_compareValues_2 : decode cJ13_compareValues 2 = .ok (.invokestatic 183, 3) := dk_184 0 183 (dk_at dksJ13_compareValues_0 2 rfl rfl)
theorem dJ13_compareValues_5 : decode cJ13_compareValues 5 = .ok (.istore 4, 2) := dk_54 4 (dk_at dksJ13_compareValues_0 5 rfl rfl)
theorem dJ13_compareValues_7 : decode cJ13_compareValues 7 = .ok (.iconst 0, 1) := dk_3 (dk_at dksJ13_compareValues_0 7 rfl rfl)
theorem dJ13_compareValues_8 : decode cJ13_compareValues 8 = .ok (.istore 5, 2) := dk_54 5 (dk_at dksJ13_compareValues_0 8 rfl rfl)
theorem dJ13_compareValues_10 : decode cJ13_compareValues 10 = .ok (.iload 5, 2) := dk_21 5 (dk_at dksJ13_compareValues_0 10 rfl rfl)
theorem dJ13_compareValues_12 : decode cJ13_compareValues 12 = .ok (.iload 4, 2) := dk_21 4 (dk_at dksJ13_compareValues_0 12 rfl rfl)
theorem dJ13_compareValues_14 : decode cJ13_compareValues 14 = .ok (.if_icmp .ge 38, 3) := dk_162 0 38 (dk_at dksJ13_compareValues_0 14 rfl rfl)
theorem dJ13_compareValues_17 : decode cJ13_compareValues 17 = .ok (.aload_n 0, 1) := dk_42 (dk_at dksJ13_compareValues_0 17 rfl rfl)
theorem dJ13_compareValues_18 : decode cJ13_compareValues 18 = .ok (.iload 5, 2) := dk_21 5 (dk_at dksJ13_compareValues_0 18 rfl rfl)
theorem dJ13_compareValues_20 : decode cJ13_compareValues 20 = .ok (.invokestatic 71, 3) := dk_184 0 71 (dk_at dksJ13_compareValues_0 20 rfl rfl)
theorem dJ13_compareValues_23 : decode cJ13_compareValues 23 = .ok (.istore 6, 2) := dk_54 6 (dk_at dksJ13_compareValues_1 0 rfl rfl)
theorem dJ13_compareValues_25 : decode cJ13_compareValues 25 = .ok (.aload_n 1, 1) := dk_43 (dk_at dksJ13_compareValues_1 2 rfl rfl)
theorem dJ13_compareValues_26 : decode cJ13_compareValues 26 = .ok (.iload 5, 2) := dk_21 5 (dk_at dksJ13_compareValues_1 3 rfl rfl)
theorem dJ13_compareValues_28 : decode cJ13_compareValues 28 = .ok (.invokestatic 71, 3) := dk_184 0 71 (dk_at dksJ13_compareValues_1 5 rfl rfl)
theorem dJ13_compareValues_31 : decode cJ13_compareValues 31 = .ok (.istore 7, 2) := dk_54 7 (dk_at dksJ13_compareValues_1 8 rfl rfl)
theorem dJ13_compareValues_33 : decode cJ13_compareValues 33 = .ok (.iload 6, 2) := dk_21 6 (dk_at dksJ13_compareValues_1 10 rfl rfl)
theorem dJ13_compareValues_35 : decode cJ13_compareValues 35 = .ok (.iload 7, 2) := dk_21 7 (dk_at dksJ13_compareValues_1 12 rfl rfl)
theorem dJ13_compareValues_37 : decode cJ13_compareValues 37 = .ok (.if_icmp .eq 9, 3) := dk_159 0 9 (dk_at dksJ13_compareValues_1 14 rfl rfl)
theorem dJ13_compareValues_40 : decode cJ13_compareValues 40 = .ok (.iload 6, 2) := dk_21 6 (dk_at dksJ13_compareValues_1 17 rfl rfl)
theorem dJ13_compareValues_42 : decode cJ13_compareValues 42 = .ok (.iload 7, 2) := dk_21 7 (dk_at dksJ13_compareValues_1 19 rfl rfl)
theorem dJ13_compareValues_44 : decode cJ13_compareValues 44 = .ok (.isub, 1) := dk_100 (dk_at dksJ13_compareValues_1 21 rfl rfl)
theorem dJ13_compareValues_45 : decode cJ13_compareValues 45 = .ok (.ireturn, 1) := dk_172 (dk_at dksJ13_compareValues_1 22 rfl rfl)
theorem dJ13_compareValues_46 : decode cJ13_compareValues 46 = .ok (.iinc 5 1, 3) := dk_132 5 1 (dk_at dksJ13_compareValues_2 0 rfl rfl)
theorem dJ13_compareValues_49 : decode cJ13_compareValues 49 = .ok (.goto (-39), 3) := dk_167 255 217 (dk_at dksJ13_compareValues_2 3 rfl rfl)
theorem dJ13_compareValues_52 : decode cJ13_compareValues 52 = .ok (.iload_n 2, 1) := dk_28 (dk_at dksJ13_compareValues_2 6 rfl rfl)
theorem dJ13_compareValues_53 : decode cJ13_compareValues 53 = .ok (.iload_n 3, 1) := dk_29 (dk_at dksJ13_compareValues_2 7 rfl rfl)
theorem dJ13_compareValues_54 : decode cJ13_compareValues 54 = .ok (.isub, 1) := dk_100 (dk_at dksJ13_compareValues_2 8 rfl rfl)
theorem dJ13_compareValues_55 : decode cJ13_compareValues 55 = .ok (.ireturn, 1) := dk_172 (dk_at dksJ13_compareValues_2 9 rfl rfl)
abbrev cJ13_compareToLatin1 : ByteArray := prog_52_method_32_code
def yJ13_compareToLatin1 : MethodName := ⟨RJ13, "compareToLatin1", "([B[B)I"⟩
def dkwJ13_compareToLatin1_0 : List UInt8 := [43, 42, 184, 0, 189, 116, 172]
abbrev dktJ13_compareToLatin1_0 : List UInt8 := dkwJ13_compareToLatin1_0 ++ []
theorem dksJ13_compareToLatin1_0 : cJ13_compareToLatin1.data.toList.drop 0 = dktJ13_compareToLatin1_0 := by decide +kernel
theorem dJ13_compareToLatin1_0 : decode cJ13_compareToLatin1 0 = .ok (.aload_n 1, 1) := dk_43 (dk_at dksJ13_compareToLatin1_0 0 rfl rfl)
theorem dJ13_compareToLatin1_1 : decode cJ13_compareToLatin1 1 = .ok (.aload_n 0, 1) := dk_42 (dk_at dksJ13_compareToLatin1_0 1 rfl rfl)
theorem dJ13_compareToLatin1_2 : decode cJ13_compareToLatin1 2 = .ok (.invokestatic 189, 3) := dk_184 0 189 (dk_at dksJ13_compareToLatin1_0 2 rfl rfl)
theorem dJ13_compareToLatin1_5 : decode cJ13_compareToLatin1 5 = .ok (.ineg, 1) := dk_116 (dk_at dksJ13_compareToLatin1_0 5 rfl rfl)
theorem dJ13_compareToLatin1_6 : decode cJ13_compareToLatin1 6 = .ok (.ireturn, 1) := dk_172 (dk_at dksJ13_compareToLatin1_0 6 rfl rfl)
abbrev cJ13_charAt : ByteArray := prog_52_method_83_code
def yJ13_charAt : MethodName := ⟨RJ13, "charAt", "([BI)C"⟩
def dkwJ13_charAt_0 : List UInt8 := [27, 42, 184, 0, 67, 42, 27, 184, 0, 71, 172]
abbrev dktJ13_charAt_0 : List UInt8 := dkwJ13_charAt_0 ++ []
theorem dksJ13_charAt_0 : cJ13_charAt.data.toList.drop 0 = dktJ13_charAt_0 := by decide +kernel
theorem dJ13_charAt_0 : decode cJ13_charAt 0 = .ok (.iload_n 1, 1) := dk_27 (dk_at dksJ13_charAt_0 0 rfl rfl)
theorem dJ13_charAt_1 : decode cJ13_charAt 1 = .ok (.aload_n 0, 1) := dk_42 (dk_at dksJ13_charAt_0 1 rfl rfl)
theorem dJ13_charAt_2 : decode cJ13_charAt 2 = .ok (.invokestatic 67, 3) := dk_184 0 67 (dk_at dksJ13_charAt_0 2 rfl rfl)
theorem dJ13_charAt_5 : decode cJ13_charAt 5 = .ok (.aload_n 0, 1) := dk_42 (dk_at dksJ13_charAt_0 5 rfl rfl)
theorem dJ13_charAt_6 : decode cJ13_charAt 6 = .ok (.iload_n 1, 1) := dk_27 (dk_at dksJ13_charAt_0 6 rfl rfl)
theorem dJ13_charAt_7 : decode cJ13_charAt 7 = .ok (.invokestatic 71, 3) := dk_184 0 71 (dk_at dksJ13_charAt_0 7 rfl rfl)
theorem dJ13_charAt_10 : decode cJ13_charAt 10 = .ok (.ireturn, 1) := dk_172 (dk_at dksJ13_charAt_0 10 rfl rfl)
abbrev cJ13_checkIndex : ByteArray := prog_52_method_91_code
def yJ13_checkIndex : MethodName := ⟨RJ13, "checkIndex", "(I[B)V"⟩
def dkwJ13_checkIndex_0 : List UInt8 := [26, 43, 184, 0, 48, 184, 1, 158, 177]
abbrev dktJ13_checkIndex_0 : List UInt8 := dkwJ13_checkIndex_0 ++ []
theorem dksJ13_checkIndex_0 : cJ13_checkIndex.data.toList.drop 0 = dktJ13_checkIndex_0 := by decide +kernel
theorem dJ13_checkIndex_0 : decode cJ13_checkIndex 0 = .ok (.iload_n 0, 1) := dk_26 (dk_at dksJ13_checkIndex_0 0 rfl rfl)
theorem dJ13_checkIndex_1 : decode cJ13_checkIndex 1 = .ok (.aload_n 1, 1) := dk_43 (dk_at dksJ13_checkIndex_0 1 rfl rfl)
theorem dJ13_checkIndex_2 : decode cJ13_checkIndex 2 = .ok (.invokestatic 48, 3) := dk_184 0 48 (dk_at dksJ13_checkIndex_0 2 rfl rfl)
theorem dJ13_checkIndex_5 : decode cJ13_checkIndex 5 = .ok (.invokestatic 414, 3) := dk_184 1 158 (dk_at dksJ13_checkIndex_0 5 rfl rfl)
theorem dJ13_checkIndex_8 : decode cJ13_checkIndex 8 = .ok (.return_, 1) := dk_177 (dk_at dksJ13_checkIndex_0 8 rfl rfl)
theorem q135 : (Jvm.Cond.initialized "java/lang/StringUTF16") ∈ lw_all := lw_g (lw_at lw_m1 30 rfl) rfl
theorem q959 : (Jvm.Cond.static ({ cls := "java/lang/StringUTF16", name := "getChar", desc := "([BI)C" } : Jvm.MethodName)) ∈ lw_all := lw_g (lw_at lw_m4 134 rfl) rfl
theorem q960 : (Jvm.Cond.code ({ cls := "java/lang/StringUTF16", name := "getChar", desc := "([BI)C" } : Jvm.MethodName) prog_52_method_5_code (2 : Nat) (Option.some Jvm.ClassFile.FieldType.char)) ∈ lw_all := lw_g (lw_at lw_m4 135 rfl) rfl
theorem q961 : (Jvm.Cond.fieldLink "java/lang/StringUTF16" (44 : Nat) "java/lang/StringUTF16" "$assertionsDisabled" "Z") ∈ lw_all := lw_g (lw_at lw_m4 136 rfl) rfl
theorem q962 : (Jvm.Cond.laysStatic "java/lang/StringUTF16" "$assertionsDisabled" "Z") ∈ lw_tbl := lw_at lw_m4 137 rfl
theorem q963 : (Jvm.Cond.methodLink "java/lang/StringUTF16" (48 : Nat) ({ cls := "java/lang/StringUTF16", name := "length", desc := "([B)I" } : Jvm.MethodName)) ∈ lw_all := lw_g (lw_at lw_m4 138 rfl) rfl
theorem q964 : (Jvm.Cond.static ({ cls := "java/lang/StringUTF16", name := "length", desc := "([B)I" } : Jvm.MethodName)) ∈ lw_all := lw_g (lw_at lw_m4 139 rfl) rfl
theorem q965 : (Jvm.Cond.code ({ cls := "java/lang/StringUTF16", name := "length", desc := "([B)I" } : Jvm.MethodName) prog_52_method_6_code (1 : Nat) (Option.some Jvm.ClassFile.FieldType.int)) ∈ lw_all := lw_g (lw_at lw_m4 140 rfl) rfl
theorem q966 : (Jvm.Cond.fieldLink "java/lang/StringUTF16" (59 : Nat) "java/lang/StringUTF16" "HI_BYTE_SHIFT" "I") ∈ lw_all := lw_g (lw_at lw_m4 141 rfl) rfl
theorem q967 : (Jvm.Cond.laysStatic "java/lang/StringUTF16" "HI_BYTE_SHIFT" "I") ∈ lw_tbl := lw_at lw_m4 142 rfl
theorem q968 : (Jvm.Cond.fieldLink "java/lang/StringUTF16" (63 : Nat) "java/lang/StringUTF16" "LO_BYTE_SHIFT" "I") ∈ lw_all := lw_g (lw_at lw_m4 143 rfl) rfl
theorem q969 : (Jvm.Cond.laysStatic "java/lang/StringUTF16" "LO_BYTE_SHIFT" "I") ∈ lw_tbl := lw_at lw_m4 144 rfl
theorem q986 : (Jvm.Cond.static ({ cls := "java/lang/StringUTF16", name := "hashCode", desc := "([B)I" } : Jvm.MethodName)) ∈ lw_all := lw_g (lw_at lw_m4 161 rfl) rfl
theorem q987 : (Jvm.Cond.code ({ cls := "java/lang/StringUTF16", name := "hashCode", desc := "([B)I" } : Jvm.MethodName) prog_52_method_39_code (1 : Nat) (Option.some Jvm.ClassFile.FieldType.int)) ∈ lw_all := lw_g (lw_at lw_m4 162 rfl) rfl
theorem q988 : (Jvm.Cond.methodLink "java/lang/StringUTF16" (71 : Nat) ({ cls := "java/lang/StringUTF16", name := "getChar", desc := "([BI)C" } : Jvm.MethodName)) ∈ lw_all := lw_g (lw_at lw_m4 163 rfl) rfl
theorem q989 : (Jvm.Cond.methodLink "java/lang/StringUTF16" (220 : Nat) ({ cls := "jdk/internal/util/ArraysSupport", name := "vectorizedHashCode", desc := "(Ljava/lang/Object;IIII)I" } : Jvm.MethodName)) ∈ lw_all := lw_g (lw_at lw_m4 164 rfl) rfl
theorem q1294 : (Jvm.Cond.static ({ cls := "java/lang/StringUTF16", name := "compareTo", desc := "([B[B)I" } : Jvm.MethodName)) ∈ lw_all := lw_g (lw_at lw_m5 229 rfl) rfl
theorem q1295 : (Jvm.Cond.code ({ cls := "java/lang/StringUTF16", name := "compareTo", desc := "([B[B)I" } : Jvm.MethodName) prog_52_method_29_code (4 : Nat) (Option.some Jvm.ClassFile.FieldType.int)) ∈ lw_all := lw_g (lw_at lw_m5 230 rfl) rfl
theorem q1296 : (Jvm.Cond.methodLink "java/lang/StringUTF16" (176 : Nat) ({ cls := "java/lang/StringUTF16", name := "compareValues", desc := "([B[BII)I" } : Jvm.MethodName)) ∈ lw_all := lw_g (lw_at lw_m5 231 rfl) rfl
theorem q1297 : (Jvm.Cond.static ({ cls := "java/lang/StringUTF16", name := "compareValues", desc := "([B[BII)I" } : Jvm.MethodName)) ∈ lw_all := lw_g (lw_at lw_m5 232 rfl) rfl
theorem q1298 : (Jvm.Cond.code ({ cls := "java/lang/StringUTF16", name := "compareValues", desc := "([B[BII)I" } : Jvm.MethodName) prog_52_method_31_code (8 : Nat) (Option.some Jvm.ClassFile.FieldType.int)) ∈ lw_all := lw_g (lw_at lw_m5 233 rfl) rfl
theorem q1299 : (Jvm.Cond.methodLink "java/lang/StringUTF16" (183 : Nat) ({ cls := "java/lang/Math", name := "min", desc := "(II)I" } : Jvm.MethodName)) ∈ lw_all := lw_g (lw_at lw_m5 234 rfl) rfl
theorem q1312 : (Jvm.Cond.static ({ cls := "java/lang/StringUTF16", name := "compareToLatin1", desc := "([B[B)I" } : Jvm.MethodName)) ∈ lw_all := lw_g (lw_at lw_m6 7 rfl) rfl
theorem q1313 : (Jvm.Cond.code ({ cls := "java/lang/StringUTF16", name := "compareToLatin1", desc := "([B[B)I" } : Jvm.MethodName) prog_52_method_32_code (2 : Nat) (Option.some Jvm.ClassFile.FieldType.int)) ∈ lw_all := lw_g (lw_at lw_m6 8 rfl) rfl
theorem q1314 : (Jvm.Cond.methodLink "java/lang/StringUTF16" (189 : Nat) ({ cls := "java/lang/StringLatin1", name := "compareToUTF16", desc := "([B[B)I" } : Jvm.MethodName)) ∈ lw_all := lw_g (lw_at lw_m6 9 rfl) rfl
theorem q2240 : (Jvm.Cond.static ({ cls := "java/lang/StringUTF16", name := "charAt", desc := "([BI)C" } : Jvm.MethodName)) ∈ lw_all := lw_g (lw_at lw_m9 215 rfl) rfl
theorem q2241 : (Jvm.Cond.code ({ cls := "java/lang/StringUTF16", name := "charAt", desc := "([BI)C" } : Jvm.MethodName) prog_52_method_83_code (2 : Nat) (Option.some Jvm.ClassFile.FieldType.char)) ∈ lw_all := lw_g (lw_at lw_m9 216 rfl) rfl
theorem q2242 : (Jvm.Cond.methodLink "java/lang/StringUTF16" (67 : Nat) ({ cls := "java/lang/StringUTF16", name := "checkIndex", desc := "(I[B)V" } : Jvm.MethodName)) ∈ lw_all := lw_g (lw_at lw_m9 217 rfl) rfl
theorem q2243 : (Jvm.Cond.static ({ cls := "java/lang/StringUTF16", name := "checkIndex", desc := "(I[B)V" } : Jvm.MethodName)) ∈ lw_all := lw_g (lw_at lw_m9 218 rfl) rfl
theorem q2244 : (Jvm.Cond.code ({ cls := "java/lang/StringUTF16", name := "checkIndex", desc := "(I[B)V" } : Jvm.MethodName) prog_52_method_91_code (2 : Nat) (Option.none : Option Jvm.ClassFile.FieldType)) ∈ lw_all := lw_g (lw_at lw_m9 219 rfl) rfl
theorem q2245 : (Jvm.Cond.methodLink "java/lang/StringUTF16" (414 : Nat) ({ cls := "java/lang/String", name := "checkIndex", desc := "(II)V" } : Jvm.MethodName)) ∈ lw_all := lw_g (lw_at lw_m9 220 rfl) rfl
/-! jdk/internal/misc/Unsafe -/
set_option maxRecDepth 100000
def RJ16 : String := "jdk/internal/misc/Unsafe"
abbrev cJ16_getLongUnaligned : ByteArray := prog_88_method_334_code
def yJ16_getLongUnaligned : MethodName := ⟨RJ16, "getLongUnaligned", "(Ljava/lang/Object;J)J"⟩
def dkwJ16_getLongUnaligned_7 : List UInt8 := [182, 0, 39, 184, 2, 197, 173]
abbrev dktJ16_getLongUnaligned_7 : List UInt8 := dkwJ16_getLongUnaligned_7 ++ []
def dkwJ16_getLongUnaligned_6 : List UInt8 := [20, 2, 195, 97, 182, 0, 39, 42, 43, 32, 20, 2, 190, 97, 182, 0, 39, 42, 43, 32, 20, 2, 184, 97]
abbrev dktJ16_getLongUnaligned_6 : List UInt8 := dkwJ16_getLongUnaligned_6 ++ dktJ16_getLongUnaligned_7
def dkwJ16_getLongUnaligned_5 : List UInt8 := [43, 32, 20, 1, 93, 97, 182, 0, 39, 42, 43, 32, 20, 0, 205, 97, 182, 0, 39, 42, 43, 32]
abbrev dktJ16_getLongUnaligned_5 : List UInt8 := dkwJ16_getLongUnaligned_5 ++ dktJ16_getLongUnaligned_6
def dkwJ16_getLongUnaligned_4 : List UInt8 := [43, 32, 182, 0, 39, 42, 43, 32, 10, 97, 182, 0, 39, 42, 43, 32, 20, 0, 203, 97, 182, 0, 39, 42]
abbrev dktJ16_getLongUnaligned_4 : List UInt8 := dkwJ16_getLongUnaligned_4 ++ dktJ16_getLongUnaligned_5
def dkwJ16_getLongUnaligned_3 : List UInt8 := [43, 32, 20, 0, 205, 97, 182, 0, 47, 42, 43, 32, 20, 2, 190, 97, 182, 0, 47, 184, 2, 192, 173, 42]
abbrev dktJ16_getLongUnaligned_3 : List UInt8 := dkwJ16_getLongUnaligned_3 ++ dktJ16_getLongUnaligned_4
def dkwJ16_getLongUnaligned_2 : List UInt8 := [10, 127, 9, 148, 154, 0, 43, 42, 43, 32, 182, 0, 47, 42, 43, 32, 20, 0, 203, 97, 182, 0, 47, 42]
abbrev dktJ16_getLongUnaligned_2 : List UInt8 := dkwJ16_getLongUnaligned_2 ++ dktJ16_getLongUnaligned_3
def dkwJ16_getLongUnaligned_1 : List UInt8 := [154, 0, 23, 42, 43, 32, 182, 0, 17, 42, 43, 32, 20, 0, 205, 97, 182, 0, 17, 184, 2, 186, 173, 32]
abbrev dktJ16_getLongUnaligned_1 : List UInt8 := dkwJ16_getLongUnaligned_1 ++ dktJ16_getLongUnaligned_2
def dkwJ16_getLongUnaligned_0 : List UInt8 := [32, 20, 2, 184, 127, 9, 148, 154, 0, 10, 42, 43, 32, 182, 0, 27, 173, 32, 20, 1, 93, 127, 9, 148]
abbrev dktJ16_getLongUnaligned_0 : List UInt8 := dkwJ16_getLongUnaligned_0 ++ dktJ16_getLongUnaligned_1
theorem dksJ16_getLongUnaligned_0 : cJ16_getLongUnaligned.data.toList.drop 0 = dktJ16_getLongUnaligned_0 := by decide +kernel
theorem dksJ16_getLongUnaligned_1 : cJ16_getLongUnaligned.data.toList.drop 24 = dktJ16_getLongUnaligned_1 := dk_seg dksJ16_getLongUnaligned_0 24 rfl rfl
theorem dksJ16_getLongUnaligned_2 : cJ16_getLongUnaligned.data.toList.drop 48 = dktJ16_getLongUnaligned_2 := dk_seg dksJ16_getLongUnaligned_1 24 rfl rfl
theorem dksJ16_getLongUnaligned_3 : cJ16_getLongUnaligned.data.toList.drop 72 = dktJ16_getLongUnaligned_3 := dk_seg dksJ16_getLongUnaligned_2 24 rfl rfl
theorem dksJ16_getLongUnaligned_4 : cJ16_getLongUnaligned.data.toList.drop 96 = dktJ16_getLongUnaligned_4 := dk_seg dksJ16_getLongUnaligned_3 24 rfl rfl
theorem dksJ16_getLongUnaligned_5 : cJ16_getLongUnaligned.data.toList.drop 120 = dktJ16_getLongUnaligned_5 := dk_seg dksJ16_getLongUnaligned_4 24 rfl rfl
theorem dksJ16_getLongUnaligned_6 : cJ16_getLongUnaligned.data.toList.drop 142 = dktJ16_getLongUnaligned_6 := dk_seg dksJ16_getLongUnaligned_5 22 rfl rfl
theorem dksJ16_getLongUnaligned_7 : cJ16_getLongUnaligned.data.toList.drop 166 = dktJ16_getLongUnaligned_7 := dk_seg dksJ16_getLongUnaligned_6 24 rfl rfl
theorem dJ16_getLongUnaligned_0 : decode cJ16_getLongUnaligned 0 = .ok (.lload_n 2, 1) := dk_32 (dk_at dksJ16_getLongUnaligned_0 0 rfl rfl)
theorem dJ16_getLongUnaligned_1 : decode cJ16_getLongUnaligned 1 = .ok (.ldc2_w 696, 3) := dk_20 2 184 (dk_at dksJ16_getLongUnaligned_0 1 rfl rfl)
theorem dJ16_getLongUnaligned_4 : decode cJ16_getLongUnaligned 4 = .ok (.land, 1) := dk_127 (dk_at dksJ16_getLongUnaligned_0 4 rfl rfl)
theorem dJ16_getLongUnaligned_5 : decode cJ16_getLongUnaligned 5 = .ok (.lconst 0, 1) := dk_9 (dk_at dksJ16_getLongUnaligned_0 5 rfl rfl)
theorem dJ16_getLongUnaligned_6 : decode cJ16_getLongUnaligned 6 = .ok (.lcmp, 1) := dk_148 (dk_at dksJ16_getLongUnaligned_0 6 rfl rfl)
theorem dJ16_getLongUnaligned_7 : decode cJ16_getLongUnaligned 7 = .ok (.ifCond .ne 10, 3) := dk_154 0 10 (dk_at dksJ16_getLongUnaligned_0 7 rfl rfl)
theorem dJ16_getLongUnaligned_10 : decode cJ16_getLongUnaligned 10 = .ok (.aload_n 0, 1) := dk_42 (dk_at dksJ16_getLongUnaligned_0 10 rfl rfl)
theorem dJ16_getLongUnaligned_11 : decode cJ16_getLongUnaligned 11 = .ok (.aload_n 1, 1) := dk_43 (dk_at dksJ16_getLongUnaligned_0 11 rfl rfl)
theorem dJ16_getLongUnaligned_12 : decode cJ16_getLongUnaligned 12 = .ok (.lload_n 2, 1) := dk_32 (dk_at dksJ16_getLongUnaligned_0 12 rfl rfl)
theorem dJ16_getLongUnaligned_13 : decode cJ16_getLongUnaligned 13 = .ok (.invokevirtual 27, 3) := dk_182 0 27 (dk_at dksJ16_getLongUnaligned_0 13 rfl rfl)
theorem dJ16_getLongUnaligned_16 : decode cJ16_getLongUnaligned 16 = .ok (.lreturn, 1) := dk_173 (dk_at dksJ16_getLongUnaligned_0 16 rfl rfl)
theorem dJ16_getLongUnaligned_17 : decode cJ16_getLongUnaligned 17 = .ok (.lload_n 2, 1) := dk_32 (dk_at dksJ16_getLongUnaligned_0 17 rfl rfl)
theorem dJ16_getLongUnaligned_18 : decode cJ16_getLongUnaligned 18 = .ok (.ldc2_w 349, 3) := dk_20 1 93 (dk_at dksJ16_getLongUnaligned_0 18 rfl rfl)
theorem dJ16_getLongUnaligned_21 : decode cJ16_getLongUnaligned 21 = .ok (.land, 1) := dk_127 (dk_at dksJ16_getLongUnaligned_0 21 rfl rfl)
theorem dJ16_getLongUnaligned_22 : decode cJ16_getLongUnaligned 22 = .ok (.lconst 0, 1) := dk_9 (dk_at dksJ16_getLongUnaligned_0 22 rfl rfl)
theorem dJ16_getLongUnaligned_23 : decode cJ16_getLongUnaligned 23 = .ok (.lcmp, 1) := dk_148 (dk_at dksJ16_getLongUnaligned_0 23 rfl rfl)
theorem dJ16_getLongUnaligned_24 : decode cJ16_getLongUnaligned 24 = .ok (.ifCond .ne 23, 3) := dk_154 0 23 (dk_at dksJ16_getLongUnaligned_1 0 rfl rfl)
theorem dJ16_getLongUnaligned_27 : decode cJ16_getLongUnaligned 27 = .ok (.aload_n 0, 1) := dk_42 (dk_at dksJ16_getLongUnaligned_1 3 rfl rfl)
theorem dJ16_getLongUnaligned_28 : decode cJ16_getLongUnaligned 28 = .ok (.aload_n 1, 1) := dk_43 (dk_at dksJ16_getLongUnaligned_1 4 rfl rfl)
theorem dJ16_getLongUnaligned_29 : decode cJ16_getLongUnaligned 29 = .ok (.lload_n 2, 1) := dk_32 (dk_at dksJ16_getLongUnaligned_1 5 rfl rfl)
theorem dJ16_getLongUnaligned_30 : decode cJ16_getLongUnaligned 30 = .ok (.invokevirtual 17, 3) := dk_182 0 17 (dk_at dksJ16_getLongUnaligned_1 6 rfl rfl)
theorem dJ16_getLongUnaligned_33 : decode cJ16_getLongUnaligned 33 = .ok (.aload_n 0, 1) := dk_42 (dk_at dksJ16_getLongUnaligned_1 9 rfl rfl)
theorem dJ16_getLongUnaligned_34 : decode cJ16_getLongUnaligned 34 = .ok (.aload_n 1, 1) := dk_43 (dk_at dksJ16_getLongUnaligned_1 10 rfl rfl)
theorem dJ16_getLongUnaligned_35 : decode cJ16_getLongUnaligned 35 = .ok (.lload_n 2, 1) := dk_32 (dk_at dksJ16_getLongUnaligned_1 11 rfl rfl)
theorem dJ16_getLongUnaligned_36 : decode cJ16_getLongUnaligned 36 = .ok (.ldc2_w 205, 3) := dk_20 0 205 (dk_at dksJ16_getLongUnaligned_1 12 rfl rfl)
theorem dJ16_getLongUnaligned_39 : decode cJ16_getLongUnaligned 39 = .ok (.ladd, 1) := dk_97 (dk_at dksJ16_getLongUnaligned_1 15 rfl rfl)
theorem dJ16_getLongUnaligned_40 : decode cJ16_getLongUnaligned 40 = .ok (.invokevirtual 17, 3) := dk_182 0 17 (dk_at dksJ16_getLongUnaligned_1 16 rfl rfl)
theorem dJ16_getLongUnaligned_43 : decode cJ16_getLongUnaligned 43 = .ok (.invokestatic 698, 3) := dk_184 2 186 (dk_at dksJ16_getLongUnaligned_1 19 rfl rfl)
theorem dJ16_getLongUnaligned_46 : decode cJ16_getLongUnaligned 46 = .ok (.lreturn, 1) := dk_173 (dk_at dksJ16_getLongUnaligned_1 22 rfl rfl)
theorem dJ16_getLongUnaligned_47 : decode cJ16_getLongUnaligned 47 = .ok (.lload_n 2, 1) := dk_32 (dk_at dksJ16_getLongUnaligned_1 23 rfl rfl)
theorem dJ16_getLongUnaligned_48 : decode cJ16_getLongUnaligned 48 = .ok (.lconst 1, 1) := dk_10 (dk_at dksJ16_getLongUnaligned_2 0 rfl rfl)
theorem dJ16_getLongUnaligned_49 : decode cJ16_getLongUnaligned 49 = .ok (.land, 1) := dk_127 (dk_at dksJ16_getLongUnaligned_2 1 rfl rfl)
theorem dJ16_getLongUnaligned_50 : decode cJ16_getLongUnaligned 50 = .ok (.lconst 0, 1) := dk_9 (dk_at dksJ16_getLongUnaligned_2 2 rfl rfl)
theorem dJ16_getLongUnaligned_51 : decode cJ16_getLongUnaligned 51 = .ok (.lcmp, 1) := dk_148 (dk_at dksJ16_getLongUnaligned_2 3 rfl rfl)
theorem dJ16_getLongUnaligned_52 : decode cJ16_getLongUnaligned 52 = .ok (.ifCond .ne 43, 3) := dk_154 0 43 (dk_at dksJ16_getLongUnaligned_2 4 rfl rfl)
theorem dJ16_getLongUnaligned_55 : decode cJ16_getLongUnaligned 55 = .ok (.aload_n 0, 1) := dk_42 (dk_at dksJ16_getLongUnaligned_2 7 rfl rfl)
theorem dJ16_getLongUnaligned_56 : decode cJ16_getLongUnaligned 56 = .ok (.aload_n 1, 1) := dk_43 (dk_at dksJ16_getLongUnaligned_2 8 rfl rfl)
theorem dJ16_getLongUnaligned_57 : decode cJ16_getLongUnaligned 57 = .ok (.lload_n 2, 1) := dk_32 (dk_at dksJ16_getLongUnaligned_2 9 rfl rfl)
theorem dJ16_getLongUnaligned_58 : decode cJ16_getLongUnaligned 58 = .ok (.invokevirtual 47, 3) := dk_182 0 47 (dk_at dksJ16_getLongUnaligned_2 10 rfl rfl)
theorem dJ16_getLongUnaligned_61 : decode cJ16_getLongUnaligned 61 = .ok (.aload_n 0, 1) := dk_42 (dk_at dksJ16_getLongUnaligned_2 13 rfl rfl)
theorem dJ16_getLongUnaligned_62 : decode cJ16_getLongUnaligned 62 = .ok (.aload_n 1, 1) := dk_43 (dk_at dksJ16_getLongUnaligned_2 14 rfl rfl)
theorem dJ16_getLongUnaligned_63 : decode cJ16_getLongUnaligned 63 = .ok (.lload_n 2, 1) := dk_32 (dk_at dksJ16_getLongUnaligned_2 15 rfl rfl)
theorem dJ16_getLongUnaligned_64 : decode cJ16_getLongUnaligned 64 = .ok (.ldc2_w 203, 3) := dk_20 0 203 (dk_at dksJ16_getLongUnaligned_2 16 rfl rfl)
theorem dJ16_getLongUnaligned_67 : decode cJ16_getLongUnaligned 67 = .ok (.ladd, 1) := dk_97 (dk_at dksJ16_getLongUnaligned_2 19 rfl rfl)
theorem dJ16_getLongUnaligned_68 : decode cJ16_getLongUnaligned 68 = .ok (.invokevirtual 47, 3) := dk_182 0 47 (dk_at dksJ16_getLongUnaligned_2 20 rfl rfl)
theorem dJ16_getLongUnaligned_71 : decode cJ16_getLongUnaligned 71 = .ok (.aload_n 0, 1) := dk_42 (dk_at dksJ16_getLongUnaligned_2 23 rfl rfl)
theorem dJ16_getLongUnaligned_72 : decode cJ16_getLongUnaligned 72 = .ok (.aload_n 1, 1) := dk_43 (dk_at dksJ16_getLongUnaligned_3 0 rfl rfl)
theorem dJ16_getLongUnaligned_73 : decode cJ16_getLongUnaligned 73 = .ok (.lload_n 2, 1) := dk_32 (dk_at dksJ16_getLongUnaligned_3 1 rfl rfl)
theorem dJ16_getLongUnaligned_74 : decode cJ16_getLongUnaligned 74 = .ok (.ldc2_w 205, 3) := dk_20 0 205 (dk_at dksJ16_getLongUnaligned_3 2 rfl rfl)
theorem dJ16_getLongUnaligned_77 : decode cJ16_getLongUnaligned 77 = .ok (.ladd, 1) := dk_97 (dk_at dksJ16_getLongUnaligned_3 5 rfl rfl)
theorem dJ16_getLongUnaligned_78 : decode cJ16_getLongUnaligned 78 = .ok (.invokevirtual 47, 3) := dk_182 0 47 (dk_at dksJ16_getLongUnaligned_3 6 rfl rfl)
theorem dJ16_getLongUnaligned_81 : decode cJ16_getLongUnaligned 81 = .ok (.aload_n 0, 1) := dk_42 (dk_at dksJ16_getLongUnaligned_3 9 rfl rfl)
theorem dJ16_getLongUnaligned_82 : decode cJ16_getLongUnaligned 82 = .ok (.aload_n 1, 1) := dk_43 (dk_at dksJ16_getLongUnaligned_3 10 rfl rfl)
theorem dJ16_getLongUnaligned_83 : decode cJ16_getLongUnaligned 83 = .ok (.lload_n 2, 1) := dk_32 (dk_at dksJ16_getLongUnaligned_3 11 rfl rfl)
theorem dJ16_getLongUnaligned_84 : decode cJ16_getLongUnaligned 84 = .ok (.ldc2_w 702, 3) := dk_20 2 190 (dk_at dksJ16_getLongUnaligned_3 12 rfl rfl)
theorem dJ16_getLongUnaligned_87 : decode cJ16_getLongUnaligned 87 = .ok (.ladd, 1) := dk_97 (dk_at dksJ16_getLongUnaligned_3 15 rfl rfl)
theorem dJ16_getLongUnaligned_88 : decode cJ16_getLongUnaligned 88 = .ok (.invokevirtual 47, 3) := dk_182 0 47 (dk_at dksJ16_getLongUnaligned_3 16 rfl rfl)
theorem dJ16_getLongUnaligned_91 : decode cJ16_getLongUnaligned 91 = .ok (.invokestatic 704, 3) := dk_184 2 192 (dk_at dksJ16_getLongUnaligned_3 19 rfl rfl)
theorem dJ16_getLongUnaligned_94 : decode cJ16_getLongUnaligned 94 = .ok (.lreturn, 1) := dk_173 (dk_at dksJ16_getLongUnaligned_3 22 rfl rfl)
theorem dJ16_getLongUnaligned_95 : decode cJ16_getLongUnaligned 95 = .ok (.aload_n 0, 1) := dk_42 (dk_at dksJ16_getLongUnaligned_3 23 rfl rfl)
theorem dJ16_getLongUnaligned_96 : decode cJ16_getLongUnaligned 96 = .ok (.aload_n 1, 1) := dk_43 (dk_at dksJ16_getLongUnaligned_4 0 rfl rfl)
theorem dJ16_getLongUnaligned_97 : decode cJ16_getLongUnaligned 97 = .ok (.lload_n 2, 1) := dk_32 (dk_at dksJ16_getLongUnaligned_4 1 rfl rfl)
theorem dJ16_getLongUnaligned_98 : decode cJ16_getLongUnaligned 98 = .ok (.invokevirtual 39, 3) := dk_182 0 39 (dk_at dksJ16_getLongUnaligned_4 2 rfl rfl)
theorem dJ16_getLongUnaligned_101 : decode cJ16_getLongUnaligned 101 = .ok (.aload_n 0, 1) := dk_42 (dk_at dksJ16_getLongUnaligned_4 5 rfl rfl)
theorem dJ16_getLongUnaligned_102 : decode cJ16_getLongUnaligned 102 = .ok (.aload_n 1, 1) := dk_43 (dk_at dksJ16_getLongUnaligned_4 6 rfl rfl)
theorem dJ16_getLongUnaligned_103 : decode cJ16_getLongUnaligned 103 = .ok (.lload_n 2, 1) := dk_32 (dk_at dksJ16_getLongUnaligned_4 7 rfl rfl)
theorem dJ16_getLongUnaligned_104 : decode cJ16_getLongUnaligned 104 = .ok (.lconst 1, 1) := dk_10 (dk_at dksJ16_getLongUnaligned_4 8 rfl rfl)
theorem dJ16_getLongUnaligned_105 : decode cJ16_getLongUnaligned 105 = .ok (.ladd, 1) := dk_97 (dk_at dksJ16_getLongUnaligned_4 9 rfl rfl)
theorem dJ16_getLongUnaligned_106 : decode cJ16_getLongUnaligned 106 = .ok (.invokevirtual 39, 3) := dk_182 0 39 (dk_at dksJ16_getLongUnaligned_4 10 rfl rfl)
theorem dJ16_getLongUnaligned_109 : decode cJ16_getLongUnaligned 109 = .ok (.aload_n 0, 1) := dk_42 (dk_at dksJ16_getLongUnaligned_4 13 rfl rfl)
theorem dJ16_getLongUnaligned_110 : decode cJ16_getLongUnaligned 110 = .ok (.aload_n 1, 1) := dk_43 (dk_at dksJ16_getLongUnaligned_4 14 rfl rfl)
theorem dJ16_getLongUnaligned_111 : decode cJ16_getLongUnaligned 111 = .ok (.lload_n 2, 1) := dk_32 (dk_at dksJ16_getLongUnaligned_4 15 rfl rfl)
theorem dJ16_getLongUnaligned_112 : decode cJ16_getLongUnaligned 112 = .ok (.ldc2_w 203, 3) := dk_20 0 203 (dk_at dksJ16_getLongUnaligned_4 16 rfl rfl)
theorem dJ16_getLongUnaligned_115 : decode cJ16_getLongUnaligned 115 = .ok (.ladd, 1) := dk_97 (dk_at dksJ16_getLongUnaligned_4 19 rfl rfl)
theorem dJ16_getLongUnaligned_116 : decode cJ16_getLongUnaligned 116 = .ok (.invokevirtual 39, 3) := dk_182 0 39 (dk_at dksJ16_getLongUnaligned_4 20 rfl rfl)
theorem dJ16_getLongUnaligned_119 : decode cJ16_getLongUnaligned 119 = .ok (.aload_n 0, 1) := dk_42 (dk_at dksJ16_getLongUnaligned_4 23 rfl rfl)
theorem dJ16_getLongUnaligned_120 : decode cJ16_getLongUnaligned 120 = .ok (.aload_n 1, 1) := dk_43 (dk_at dksJ16_getLongUnaligned_5 0 rfl rfl)
theorem dJ16_getLongUnaligned_121 : decode cJ16_getLongUnaligned 121 = .ok (.lload_n 2, 1) := dk_32 (dk_at dksJ16_getLongUnaligned_5 1 rfl rfl)
theorem dJ16_getLongUnaligned_122 : decode cJ16_getLongUnaligned 122 = .ok (.ldc2_w 349, 3) := dk_20 1 93 (dk_at dksJ16_getLongUnaligned_5 2 rfl rfl)
theorem dJ16_getLongUnaligned_125 : decode cJ16_getLongUnaligned 125 = .ok (.ladd, 1) := dk_97 (dk_at dksJ16_getLongUnaligned_5 5 rfl rfl)
theorem dJ16_getLongUnaligned_126 : decode cJ16_getLongUnaligned 126 = .ok (.invokevirtual 39, 3) := dk_182 0 39 (dk_at dksJ16_getLongUnaligned_5 6 rfl rfl)
theorem dJ16_getLongUnaligned_129 : decode cJ16_getLongUnaligned 129 = .ok (.aload_n 0, 1) := dk_42 (dk_at dksJ16_getLongUnaligned_5 9 rfl rfl)
theorem dJ16_getLongUnaligned_130 : decode cJ16_getLongUnaligned 130 = .ok (.aload_n 1, 1) := dk_43 (dk_at dksJ16_getLongUnaligned_5 10 rfl rfl)
theorem dJ16_getLongUnaligned_131 : decode cJ16_getLongUnaligned 131 = .ok (.lload_n 2, 1) := dk_32 (dk_at dksJ16_getLongUnaligned_5 11 rfl rfl)
theorem dJ16_getLongUnaligned_132 : decode cJ16_getLongUnaligned 132 = .ok (.ldc2_w 205, 3) := dk_20 0 205 (dk_at dksJ16_getLongUnaligned_5 12 rfl rfl)
theorem dJ16_getLongUnaligned_135 : decode cJ16_getLongUnaligned 135 = .ok (.ladd, 1) := dk_97 (dk_at dksJ16_getLongUnaligned_5 15 rfl rfl)
theorem dJ16_getLongUnaligned_136 : decode cJ16_getLongUnaligned 136 = .ok (.invokevirtual 39, 3) := dk_182 0 39 (dk_at dksJ16_getLongUnaligned_5 16 rfl rfl)
theorem dJ16_getLongUnaligned_139 : decode cJ16_getLongUnaligned 139 = .ok (.aload_n 0, 1) := dk_42 (dk_at dksJ16_getLongUnaligned_5 19 rfl rfl)
theorem dJ16_getLongUnaligned_140 : decode cJ16_getLongUnaligned 140 = .ok (.aload_n 1, 1) := dk_43 (dk_at dksJ16_getLongUnaligned_5 20 rfl rfl)
theorem dJ16_getLongUnaligned_141 : decode cJ16_getLongUnaligned 141 = .ok (.lload_n 2, 1) := dk_32 (dk_at dksJ16_getLongUnaligned_5 21 rfl rfl)
theorem dJ16_getLongUnaligned_142 : decode cJ16_getLongUnaligned 142 = .ok (.ldc2_w 707, 3) := dk_20 2 195 (dk_at dksJ16_getLongUnaligned_6 0 rfl rfl)
theorem dJ16_getLongUnaligned_145 : decode cJ16_getLongUnaligned 145 = .ok (.ladd, 1) := dk_97 (dk_at dksJ16_getLongUnaligned_6 3 rfl rfl)
theorem dJ16_getLongUnaligned_146 : decode cJ16_getLongUnaligned 146 = .ok (.invokevirtual 39, 3) := dk_182 0 39 (dk_at dksJ16_getLongUnaligned_6 4 rfl rfl)
theorem dJ16_getLongUnaligned_149 : decode cJ16_getLongUnaligned 149 = .ok (.aload_n 0, 1) := dk_42 (dk_at dksJ16_getLongUnaligned_6 7 rfl rfl)
theorem dJ16_getLongUnaligned_150 : decode cJ16_getLongUnaligned 150 = .ok (.aload_n 1, 1) := dk_43 (dk_at dksJ16_getLongUnaligned_6 8 rfl rfl)
theorem dJ16_getLongUnaligned_151 : decode cJ16_getLongUnaligned 151 = .ok (.lload_n 2, 1) := dk_32 (dk_at dksJ16_getLongUnaligned_6 9 rfl rfl)
theorem dJ16_getLongUnaligned_152 : decode cJ16_getLongUnaligned 152 = .ok (.ldc2_w 702, 3) := dk_20 2 190 (dk_at dksJ16_getLongUnaligned_6 10 rfl rfl)
theorem dJ16_getLongUnaligned_155 : decode cJ16_getLongUnaligned 155 = .ok (.ladd, 1) := dk_97 (dk_at dksJ16_getLongUnaligned_6 13 rfl rfl)
theorem dJ16_getLongUnaligned_156 : decode cJ16_getLongUnaligned 156 = .ok (.invokevirtual 39, 3) := dk_182 0 39 (dk_at dksJ16_getLongUnaligned_6 14 rfl rfl)
theorem dJ16_getLongUnaligned_159 : decode cJ16_getLongUnaligned 159 = .ok (.aload_n 0, 1) := dk_42 (dk_at dksJ16_getLongUnaligned_6 17 rfl rfl)
theorem dJ16_getLongUnaligned_160 : decode cJ16_getLongUnaligned 160 = .ok (.aload_n 1, 1) := dk_43 (dk_at dksJ16_getLongUnaligned_6 18 rfl rfl)
theorem dJ16_getLongUnaligned_161 : decode cJ16_getLongUnaligned 161 = .ok (.lload_n 2, 1) := dk_32 (dk_at dksJ16_getLongUnaligned_6 19 rfl rfl)
theorem dJ16_getLongUnaligned_162 : decode cJ16_getLongUnaligned 162 = .ok (.ldc2_w 696, 3) := dk_20 2 184 (dk_at dksJ16_getLongUnaligned_6 20 rfl rfl)
theorem dJ16_getLongUnaligned_165 : decode cJ16_getLongUnaligned 165 = .ok (.ladd, 1) := dk_97 (dk_at dksJ16_getLongUnaligned_6 23 rfl rfl)
theorem dJ16_getLongUnaligned_166 : decode cJ16_getLongUnaligned 166 = .ok (.invokevirtual 39, 3) := dk_182 0 39 (dk_at dksJ16_getLongUnaligned_7 0 rfl rfl)
theorem dJ16_getLongUnaligned_169 : decode cJ16_getLongUnaligned 169 = .ok (.invokestatic 709, 3) := dk_184 2 197 (dk_at dksJ16_getLongUnaligned_7 3 rfl rfl)
theorem dJ16_getLongUnaligned_172 : decode cJ16_getLongUnaligned 172 = .ok (.lreturn, 1) := dk_173 (dk_at dksJ16_getLongUnaligned_7 6 rfl rfl)
abbrev cJ16_makeLong : ByteArray := prog_88_method_353_code
def yJ16_makeLong : MethodName := ⟨RJ16, "makeLong", "(II)J"⟩
def dkwJ16_makeLong_1 : List UInt8 := [173]
abbrev dktJ16_makeLong_1 : List UInt8 := dkwJ16_makeLong_1 ++ []
def dkwJ16_makeLong_0 : List UInt8 := [26, 184, 3, 23, 16, 32, 3, 184, 3, 16, 121, 27, 184, 3, 23, 16, 32, 16, 32, 184, 3, 16, 121, 129]
abbrev dktJ16_makeLong_0 : List UInt8 := dkwJ16_makeLong_0 ++ dktJ16_makeLong_1
theorem dksJ16_makeLong_0 : cJ16_makeLong.data.toList.drop 0 = dktJ16_makeLong_0 := by decide +kernel
theorem dksJ16_makeLong_1 : cJ16_makeLong.data.toList.drop 24 = dktJ16_makeLong_1 := dk_seg dksJ16_makeLong_0 24 rfl rfl
theorem dJ16_makeLong_0 : decode cJ16_makeLong 0 = .ok (.iload_n 0, 1) := dk_26 (dk_at dksJ16_makeLong_0 0 rfl rfl)
theorem dJ16_makeLong_1 : decode cJ16_makeLong 1 = .ok (.invokestatic 791, 3) := dk_184 3 23 (dk_at dksJ16_makeLong_0 1 rfl rfl)
theorem dJ16_makeLong_4 : decode cJ16_makeLong 4 = .ok (.bipush 32, 2) := dk_16 32 (dk_at dksJ16_makeLong_0 4 rfl rfl)
theorem dJ16_makeLong_6 : decode cJ16_makeLong 6 = .ok (.iconst 0, 1) := dk_3 (dk_at dksJ16_makeLong_0 6 rfl rfl)
theorem dJ16_makeLong_7 : decode cJ16_makeLong 7 = .ok (.invokestatic 784, 3) := dk_184 3 16 (dk_at dksJ16_makeLong_0 7 rfl rfl)
theorem dJ16_makeLong_10 : decode cJ16_makeLong 10 = .ok (.lshl, 1) := dk_121 (dk_at dksJ16_makeLong_0 10 rfl rfl)
theorem dJ16_makeLong_11 : decode cJ16_makeLong 11 = .ok (.iload_n 1, 1) := dk_27 (dk_at dksJ16_makeLong_0 11 rfl rfl)
theorem dJ16_makeLong_12 : decode cJ16_makeLong 12 = .ok (.invokestatic 791, 3) := dk_184 3 23 (dk_at dksJ16_makeLong_0 12 rfl rfl)
theorem dJ16_makeLong_15 : decode cJ16_makeLong 15 = .ok (.bipush 32, 2) := dk_16 32 (dk_at dksJ16_makeLong_0 15 rfl rfl)
theorem dJ16_makeLong_17 : decode cJ16_makeLong 17 = .ok (.bipush 32, 2) := dk_16 32 (dk_at dksJ16_makeLong_0 17 rfl rfl)
theorem dJ16_makeLong_19 : decode cJ16_makeLong 19 = .ok (.invokestatic 784, 3) := dk_184 3 16 (dk_at dksJ16_makeLong_0 19 rfl rfl)
theorem dJ16_makeLong_22 : decode cJ16_makeLong 22 = .ok (.lshl, 1) := dk_121 (dk_at dksJ16_makeLong_0 22 rfl rfl)
theorem dJ16_makeLong_23 : decode cJ16_makeLong 23 = .ok (.lor, 1) := dk_129 (dk_at dksJ16_makeLong_0 23 rfl rfl)
theorem dJ16_makeLong_24 : decode cJ16_makeLong 24 = .ok (.lreturn, 1) := dk_173 (dk_at dksJ16_makeLong_1 0 rfl rfl)
abbrev cJ16_toUnsignedLong : ByteArray := prog_88_method_370_code
def yJ16_toUnsignedLong : MethodName := ⟨RJ16, "toUnsignedLong", "(I)J"⟩
def dkwJ16_toUnsignedLong_0 : List UInt8 := [26, 133, 20, 3, 44, 127, 173]
abbrev dktJ16_toUnsignedLong_0 : List UInt8 := dkwJ16_toUnsignedLong_0 ++ []
theorem dksJ16_toUnsignedLong_0 : cJ16_toUnsignedLong.data.toList.drop 0 = dktJ16_toUnsignedLong_0 := by decide +kernel
theorem dJ16_toUnsignedLong_0 : decode cJ16_toUnsignedLong 0 = .ok (.iload_n 0, 1) := dk_26 (dk_at dksJ16_toUnsignedLong_0 0 rfl rfl)
theorem dJ16_toUnsignedLong_1 : decode cJ16_toUnsignedLong 1 = .ok (.i2l, 1) := dk_133 (dk_at dksJ16_toUnsignedLong_0 1 rfl rfl)
theorem dJ16_toUnsignedLong_2 : decode cJ16_toUnsignedLong 2 = .ok (.ldc2_w 812, 3) := dk_20 3 44 (dk_at dksJ16_toUnsignedLong_0 2 rfl rfl)
theorem dJ16_toUnsignedLong_5 : decode cJ16_toUnsignedLong 5 = .ok (.land, 1) := dk_127 (dk_at dksJ16_toUnsignedLong_0 5 rfl rfl)
theorem dJ16_toUnsignedLong_6 : decode cJ16_toUnsignedLong 6 = .ok (.lreturn, 1) := dk_173 (dk_at dksJ16_toUnsignedLong_0 6 rfl rfl)
abbrev cJ16_pickPos : ByteArray := prog_88_method_350_code
def yJ16_pickPos : MethodName := ⟨RJ16, "pickPos", "(II)I"⟩
def dkwJ16_pickPos_0 : List UInt8 := [178, 1, 95, 153, 0, 9, 26, 27, 100, 167, 0, 4, 27, 172]
abbrev dktJ16_pickPos_0 : List UInt8 := dkwJ16_pickPos_0 ++ []
theorem dksJ16_pickPos_0 : cJ16_pickPos.data.toList.drop 0 = dktJ16_pickPos_0 := by decide +kernel
theorem dJ16_pickPos_0 : decode cJ16_pickPos 0 = .ok (.getstatic 351, 3) := dk_178 1 95 (dk_at dksJ16_pickPos_0 0 rfl rfl)
theorem dJ16_pickPos_3 : decode cJ16_pickPos 3 = .ok (.ifCond .eq 9, 3) := dk_153 0 9 (dk_at dksJ16_pickPos_0 3 rfl rfl)
theorem dJ16_pickPos_6 : decode cJ16_pickPos 6 = .ok (.iload_n 0, 1) := dk_26 (dk_at dksJ16_pickPos_0 6 rfl rfl)
theorem dJ16_pickPos_7 : decode cJ16_pickPos 7 = .ok (.iload_n 1, 1) := dk_27 (dk_at dksJ16_pickPos_0 7 rfl rfl)
theorem dJ16_pickPos_8 : decode cJ16_pickPos 8 = .ok (.isub, 1) := dk_100 (dk_at dksJ16_pickPos_0 8 rfl rfl)
theorem dJ16_pickPos_9 : decode cJ16_pickPos 9 = .ok (.goto 4, 3) := dk_167 0 4 (dk_at dksJ16_pickPos_0 9 rfl rfl)
theorem dJ16_pickPos_12 : decode cJ16_pickPos 12 = .ok (.iload_n 1, 1) := dk_27 (dk_at dksJ16_pickPos_0 12 rfl rfl)
theorem dJ16_pickPos_13 : decode cJ16_pickPos 13 = .ok (.ireturn, 1) := dk_172 (dk_at dksJ16_pickPos_0 13 rfl rfl)
abbrev cJ16_makeLong_2 : ByteArray := prog_88_method_352_code
def yJ16_makeLong_2 : MethodName := ⟨RJ16, "makeLong", "(SSSS)J"⟩
def dkwJ16_makeLong_2_2 : List UInt8 := [121, 129, 173]
abbrev dktJ16_makeLong_2_2 : List UInt8 := dkwJ16_makeLong_2_2 ++ []
def dkwJ16_makeLong_2_1 : List UInt8 := [28, 184, 3, 20, 16, 48, 16, 32, 184, 3, 16, 121, 129, 29, 184, 3, 20, 16, 48, 16, 48, 184, 3, 16]
abbrev dktJ16_makeLong_2_1 : List UInt8 := dkwJ16_makeLong_2_1 ++ dktJ16_makeLong_2_2
def dkwJ16_makeLong_2_0 : List UInt8 := [26, 184, 3, 20, 16, 48, 3, 184, 3, 16, 121, 27, 184, 3, 20, 16, 48, 16, 16, 184, 3, 16, 121, 129]
abbrev dktJ16_makeLong_2_0 : List UInt8 := dkwJ16_makeLong_2_0 ++ dktJ16_makeLong_2_1
theorem dksJ16_makeLong_2_0 : cJ16_makeLong_2.data.toList.drop 0 = dktJ16_makeLong_2_0 := by decide +kernel
theorem dksJ16_makeLong_2_1 : cJ16_makeLong_2.data.toList.drop 24 = dktJ16_makeLong_2_1 := dk_seg dksJ16_makeLong_2_0 24 rfl rfl
theorem dksJ16_makeLong_2_2 : cJ16_makeLong_2.data.toList.drop 48 = dktJ16_makeLong_2_2 := dk_seg dksJ16_makeLong_2_1 24 rfl rfl
theorem dJ16_makeLong_2_0 : decode cJ16_makeLong_2 0 = .ok (.iload_n 0, 1) := dk_26 (dk_at dksJ16_makeLong_2_0 0 rfl rfl)
theorem dJ16_makeLong_2_1 : decode cJ16_makeLong_2 1 = .ok (.invokestatic 788, 3) := dk_184 3 20 (dk_at dksJ16_makeLong_2_0 1 rfl rfl)
theorem dJ16_makeLong_2_4 : decode cJ16_makeLong_2 4 = .ok (.bipush 48, 2) := dk_16 48 (dk_at dksJ16_makeLong_2_0 4 rfl rfl)
theorem dJ16_makeLong_2_6 : decode cJ16_makeLong_2 6 = .ok (.iconst 0, 1) := dk_3 (dk_at dksJ16_makeLong_2_0 6 rfl rfl)
theorem dJ16_makeLong_2_7 : decode cJ16_makeLong_2 7 = .ok (.invokestatic 784, 3) := dk_184 3 16 (dk_at dksJ16_makeLong_2_0 7 rfl rfl)
theorem dJ16_makeLong_2_10 : decode cJ16_makeLong_2 10 = .ok (.lshl, 1) := dk_121 (dk_at dksJ16_makeLong_2_0 10 rfl rfl)
theorem dJ16_makeLong_2_11 : decode cJ16_makeLong_2 11 = .ok (.iload_n 1, 1) := dk_27 (dk_at dksJ16_makeLong_2_0 11 rfl rfl)
theorem dJ16_makeLong_2_12 : decode cJ16_makeLong_2 12 = .ok (.invokestatic 788, 3) := dk_184 3 20 (dk_at dksJ16_makeLong_2_0 12 rfl rfl)
theorem dJ16_makeLong_2_15 : decode cJ16_makeLong_2 15 = .ok (.bipush 48, 2) := dk_16 48 (dk_at dksJ16_makeLong_2_0 15 rfl rfl)
theorem dJ16_makeLong_2_17 : decode cJ16_makeLong_2 17 = .ok (.bipush 16, 2) := dk_16 16 (dk_at dksJ16_makeLong_2_0 17 rfl rfl)
theorem dJ16_makeLong_2_19 : decode cJ16_makeLong_2 19 = .ok (.invokestatic 784, 3) := dk_184 3 16 (dk_at dksJ16_makeLong_2_0 19 rfl rfl)
theorem dJ16_makeLong_2_22 : decode cJ16_makeLong_2 22 = .ok (.lshl, 1) := dk_121 (dk_at dksJ16_makeLong_2_0 22 rfl rfl)
theorem dJ16_makeLong_2_23 : decode cJ16_makeLong_2 23 = .ok (.lor, 1) := dk_129 (dk_at dksJ16_makeLong_2_0 23 rfl rfl)
theorem dJ16_makeLong_2_24 : decode cJ16_makeLong_2 24 = .ok (.iload_n 2, 1) := dk_28 (dk_at dksJ16_makeLong_2_1 0 rfl rfl)
theorem dJ16_makeLong_2_25 : decode cJ16_makeLong_2 25 = .ok (.invokestatic 788, 3) := dk_184 3 20 (dk_at dksJ16_makeLong_2_1 1 rfl rfl)
theorem dJ16_makeLong_2_28 : decode cJ16_makeLong_2 28 = .ok (.bipush 48, 2) := dk_16 48 (dk_at dksJ16_makeLong_2_1 4 rfl rfl)
theorem dJ16_makeLong_2_30 : decode cJ16_makeLong_2 30 = .ok (.bipush 32, 2) := dk_16 32 (dk_at dksJ16_makeLong_2_1 6 rfl rfl)
theorem dJ16_makeLong_2_32 : decode cJ16_makeLong_2 32 = .ok (.invokestatic 784, 3) := dk_184 3 16 (dk_at dksJ16_makeLong_2_1 8 rfl rfl)
theorem dJ16_makeLong_2_35 : decode cJ16_makeLong_2 35 = .ok (.lshl, 1) := dk_121 (dk_at dksJ16_makeLong_2_1 11 rfl rfl)
theorem dJ16_makeLong_2_36 : decode cJ16_makeLong_2 36 = .ok (.lor, 1) := dk_129 (dk_at dksJ16_makeLong_2_1 12 rfl rfl)
theorem dJ16_makeLong_2_37 : decode cJ16_makeLong_2 37 = .ok (.iload_n 3, 1) := dk_29 (dk_at dksJ16_makeLong_2_1 13 rfl rfl)
theorem dJ16_makeLong_2_38 : decode cJ16_makeLong_2 38 = .ok (.invokestatic 788, 3) := dk_184 3 20 (dk_at dksJ16_makeLong_2_1 14 rfl rfl)
theorem dJ16_makeLong_2_41 : decode cJ16_makeLong_2 41 = .ok (.bipush 48, 2) := dk_16 48 (dk_at dksJ16_makeLong_2_1 17 rfl rfl)
theorem dJ16_makeLong_2_43 : decode cJ16_makeLong_2 43 = .ok (.bipush 48, 2) := dk_16 48 (dk_at dksJ16_makeLong_2_1 19 rfl rfl)
theorem dJ16_makeLong_2_45 : decode cJ16_makeLong_2 45 = .ok (.invokestatic 784, 3) := dk_184 3 16 (dk_at dksJ16_makeLong_2_1 21 rfl rfl)
theorem dJ16_makeLong_2_48 : decode cJ16_makeLong_2 48 = .ok (.lshl, 1) := dk_121 (dk_at dksJ16_makeLong_2_2 0 rfl rfl)
theorem dJ16_makeLong_2_49 : decode cJ16_makeLong_2 49 = .ok (.lor, 1) := dk_129 (dk_at dksJ16_makeLong_2_2 1 rfl rfl)
theorem dJ16_makeLong_2_50 : decode cJ16_makeLong_2 50 = .ok (.lreturn, 1) := dk_173 (dk_at dksJ16_makeLong_2_2 2 rfl rfl)
abbrev cJ16_toUnsignedLong_2 : ByteArray := prog_88_method_369_code
def yJ16_toUnsignedLong_2 : MethodName := ⟨RJ16, "toUnsignedLong", "(S)J"⟩
def dkwJ16_toUnsignedLong_2_0 : List UInt8 := [26, 133, 20, 3, 42, 127, 173]
abbrev dktJ16_toUnsignedLong_2_0 : List UInt8 := dkwJ16_toUnsignedLong_2_0 ++ []
theorem dksJ16_toUnsignedLong_2_0 : cJ16_toUnsignedLong_2.data.toList.drop 0 = dktJ16_toUnsignedLong_2_0 := by decide +kernel
theorem dJ16_toUnsignedLong_2_0 : decode cJ16_toUnsignedLong_2 0 = .ok (.iload_n 0, 1) := dk_26 (dk_at dksJ16_toUnsignedLong_2_0 0 rfl rfl)
theorem dJ16_toUnsignedLong_2_1 : decode cJ16_toUnsignedLong_2 1 = .ok (.i2l, 1) := dk_133 (dk_at dksJ16_toUnsignedLong_2_0 1 rfl rfl)
theorem dJ16_toUnsignedLong_2_2 : decode cJ16_toUnsignedLong_2 2 = .ok (.ldc2_w 810, 3) := dk_20 3 42 (dk_at dksJ16_toUnsignedLong_2_0 2 rfl rfl)
theorem dJ16_toUnsignedLong_2_5 : decode cJ16_toUnsignedLong_2 5 = .ok (.land, 1) := dk_127 (dk_at dksJ16_toUnsignedLong_2_0 5 rfl rfl)
theorem dJ16_toUnsignedLong_2_6 : decode cJ16_toUnsignedLong_2 6 = .ok (.lreturn, 1) := dk_173 (dk_at dksJ16_toUnsignedLong_2_0 6 rfl rfl)
abbrev cJ16_makeLong_3 : ByteArray := prog_88_method_351_code
def yJ16_makeLong_3 : MethodName := ⟨RJ16, "makeLong", "(BBBBBBBB)J"⟩
def dkwJ16_makeLong_3_4 : List UInt8 := [184, 3, 13, 16, 56, 16, 56, 184, 3, 16, 121, 129, 173]
abbrev dktJ16_makeLong_3_4 : List UInt8 := dkwJ16_makeLong_3_4 ++ []
def dkwJ16_makeLong_3_3 : List UInt8 := [16, 40, 184, 3, 16, 121, 129, 21, 6, 184, 3, 13, 16, 56, 16, 48, 184, 3, 16, 121, 129, 21, 7]
abbrev dktJ16_makeLong_3_3 : List UInt8 := dkwJ16_makeLong_3_3 ++ dktJ16_makeLong_3_4
def dkwJ16_makeLong_3_2 : List UInt8 := [121, 129, 21, 4, 184, 3, 13, 16, 56, 16, 32, 184, 3, 16, 121, 129, 21, 5, 184, 3, 13, 16, 56]
abbrev dktJ16_makeLong_3_2 : List UInt8 := dkwJ16_makeLong_3_2 ++ dktJ16_makeLong_3_3
def dkwJ16_makeLong_3_1 : List UInt8 := [28, 184, 3, 13, 16, 56, 16, 16, 184, 3, 16, 121, 129, 29, 184, 3, 13, 16, 56, 16, 24, 184, 3, 16]
abbrev dktJ16_makeLong_3_1 : List UInt8 := dkwJ16_makeLong_3_1 ++ dktJ16_makeLong_3_2
def dkwJ16_makeLong_3_0 : List UInt8 := [26, 184, 3, 13, 16, 56, 3, 184, 3, 16, 121, 27, 184, 3, 13, 16, 56, 16, 8, 184, 3, 16, 121, 129]
abbrev dktJ16_makeLong_3_0 : List UInt8 := dkwJ16_makeLong_3_0 ++ dktJ16_makeLong_3_1
theorem dksJ16_makeLong_3_0 : cJ16_makeLong_3.data.toList.drop 0 = dktJ16_makeLong_3_0 := by decide +kernel
theorem dksJ16_makeLong_3_1 : cJ16_makeLong_3.data.toList.drop 24 = dktJ16_makeLong_3_1 := dk_seg dksJ16_makeLong_3_0 24 rfl rfl
theorem dksJ16_makeLong_3_2 : cJ16_makeLong_3.data.toList.drop 48 = dktJ16_makeLong_3_2 := dk_seg dksJ16_makeLong_3_1 24 rfl rfl
theorem dksJ16_makeLong_3_3 : cJ16_makeLong_3.data.toList.drop 71 = dktJ16_makeLong_3_3 := dk_seg dksJ16_makeLong_3_2 23 rfl rfl
theorem dksJ16_makeLong_3_4 : cJ16_makeLong_3.data.toList.drop 94 = dktJ16_makeLong_3_4 := dk_seg dksJ16_makeLong_3_3 23 rfl rfl
theorem dJ16_makeLong_3_0 : decode cJ16_makeLong_3 0 = .ok (.iload_n 0, 1) := dk_26 (dk_at dksJ16_makeLong_3_0 0 rfl rfl)
theorem dJ16_makeLong_3_1 : decode cJ16_makeLong_3 1 = .ok (.invokestatic 781, 3) := dk_184 3 13 (dk_at dksJ16_makeLong_3_0 1 rfl rfl)
theorem dJ16_makeLong_3_4 : decode cJ16_makeLong_3 4 = .ok (.bipush 56, 2) := dk_16 56 (dk_at dksJ16_makeLong_3_0 4 rfl rfl)
theorem dJ16_makeLong_3_6 : decode cJ16_makeLong_3 6 = .ok (.iconst 0, 1) := dk_3 (dk_at dksJ16_makeLong_3_0 6 rfl rfl)
theorem dJ16_makeLong_3_7 : decode cJ16_makeLong_3 7 = .ok (.invokestatic 784, 3) := dk_184 3 16 (dk_at dksJ16_makeLong_3_0 7 rfl rfl)
theorem dJ16_makeLong_3_10 : decode cJ16_makeLong_3 10 = .ok (.lshl, 1) := dk_121 (dk_at dksJ16_makeLong_3_0 10 rfl rfl)
theorem dJ16_makeLong_3_11 : decode cJ16_makeLong_3 11 = .ok (.iload_n 1, 1) := dk_27 (dk_at dksJ16_makeLong_3_0 11 rfl rfl)
theorem dJ16_makeLong_3_12 : decode cJ16_makeLong_3 12 = .ok (.invokestatic 781, 3) := dk_184 3 13 (dk_at dksJ16_makeLong_3_0 12 rfl rfl)
theorem dJ16_makeLong_3_15 : decode cJ16_makeLong_3 15 = .ok (.bipush 56, 2) := dk_16 56 (dk_at dksJ16_makeLong_3_0 15 rfl rfl)
theorem dJ16_makeLong_3_17 : decode cJ16_makeLong_3 17 = .ok (.bipush 8, 2) := dk_16 8 (dk_at dksJ16_makeLong_3_0 17 rfl rfl)
theorem dJ16_makeLong_3_19 : decode cJ16_makeLong_3 19 = .ok (.invokestatic 784, 3) := dk_184 3 16 (dk_at dksJ16_makeLong_3_0 19 rfl rfl)
theorem dJ16_makeLong_3_22 : decode cJ16_makeLong_3 22 = .ok (.lshl, 1) := dk_121 (dk_at dksJ16_makeLong_3_0 22 rfl rfl)
theorem dJ16_makeLong_3_23 : decode cJ16_makeLong_3 23 = .ok (.lor, 1) := dk_129 (dk_at dksJ16_makeLong_3_0 23 rfl rfl)
theorem dJ16_makeLong_3_24 : decode cJ16_makeLong_3 24 = .ok (.iload_n 2, 1) := dk_28 (dk_at dksJ16_makeLong_3_1 0 rfl rfl)
theorem dJ16_makeLong_3_25 : decode cJ16_makeLong_3 25 = .ok (.invokestatic 781, 3) := dk_184 3 13 (dk_at dksJ16_makeLong_3_1 1 rfl rfl)
theorem dJ16_makeLong_3_28 : decode cJ16_makeLong_3 28 = .ok (.bipush 56, 2) := dk_16 56 (dk_at dksJ16_makeLong_3_1 4 rfl rfl)
theorem dJ16_makeLong_3_30 : decode cJ16_makeLong_3 30 = .ok (.bipush 16, 2) := dk_16 16 (dk_at dksJ16_makeLong_3_1 6 rfl rfl)
theorem dJ16_makeLong_3_32 : decode cJ16_makeLong_3 32 = .ok (.invokestatic 784, 3) := dk_184 3 16 (dk_at dksJ16_makeLong_3_1 8 rfl rfl)
theorem dJ16_makeLong_3_35 : decode cJ16_makeLong_3 35 = .ok (.lshl, 1) := dk_121 (dk_at dksJ16_makeLong_3_1 11 rfl rfl)
theorem dJ16_makeLong_3_36 : decode cJ16_makeLong_3 36 = .ok (.lor, 1) := dk_129 (dk_at dksJ16_makeLong_3_1 12 rfl rfl)
theorem dJ16_makeLong_3_37 : decode cJ16_makeLong_3 37 = .ok (.iload_n 3, 1) := dk_29 (dk_at dksJ16_makeLong_3_1 13 rfl rfl)
theorem dJ16_makeLong_3_38 : decode cJ16_makeLong_3 38 = .ok (.invokestatic 781, 3) := dk_184 3 13 (dk_at dksJ16_makeLong_3_1 14 rfl rfl)
theorem dJ16_makeLong_3_41 : decode cJ16_makeLong_3 41 = .ok (.bipush 56, 2) := dk_16 56 (dk_at dksJ16_makeLong_3_1 17 rfl rfl)
theorem dJ16_makeLong_3_43 : decode cJ16_makeLong_3 43 = .ok (.bipush 24, 2) := dk_16 24 (dk_at dksJ16_makeLong_3_1 19 rfl rfl)
theorem dJ16_makeLong_3_45 : decode cJ16_makeLong_3 45 = .ok (.invokestatic 784, 3) := dk_184 3 16 (dk_at dksJ16_makeLong_3_1 21 rfl rfl)
theorem dJ16_makeLong_3_48 : decode cJ16_makeLong_3 48 = .ok (.lshl, 1) := dk_121 (dk_at dksJ16_makeLong_3_2 0 rfl rfl)
theorem dJ16_makeLong_3_49 : decode cJ16_makeLong_3 49 = .ok (.lor, 1) := dk_129 (dk_at dksJ16_makeLong_3_2 1 rfl rfl)
theorem dJ16_makeLong_3_50 : decode cJ16_makeLong_3 50 = .ok (.iload 4, 2) := dk_21 4 (dk_at dksJ16_makeLong_3_2 2 rfl rfl)
theorem dJ16_makeLong_3_52 : decode cJ16_makeLong_3 52 = .ok (.invokestatic 781, 3) := dk_184 3 13 (dk_at dksJ16_makeLong_3_2 4 rfl rfl)
theorem dJ16_makeLong_3_55 : decode cJ16_makeLong_3 55 = .ok (.bipush 56, 2) := dk_16 56 (dk_at dksJ16_makeLong_3_2 7 rfl rfl)
theorem dJ16_makeLong_3_57 : decode cJ16_makeLong_3 57 = .ok (.bipush 32, 2) := dk_16 32 (dk_at dksJ16_makeLong_3_2 9 rfl rfl)
theorem dJ16_makeLong_3_59 : decode cJ16_makeLong_3 59 = .ok (.invokestatic 784, 3) := dk_184 3 16 (dk_at dksJ16_makeLong_3_2 11 rfl rfl)
theorem dJ16_makeLong_3_62 : decode cJ16_makeLong_3 62 = .ok (.lshl, 1) := dk_121 (dk_at dksJ16_makeLong_3_2 14 rfl rfl)
theorem dJ16_makeLong_3_63 : decode cJ16_makeLong_3 63 = .ok (.lor, 1) := dk_129 (dk_at dksJ16_makeLong_3_2 15 rfl rfl)
theorem dJ16_makeLong_3_64 : decode cJ16_makeLong_3 64 = .ok (.iload 5, 2) := dk_21 5 (dk_at dksJ16_makeLong_3_2 16 rfl rfl)
theorem dJ16_makeLong_3_66 : decode cJ16_makeLong_3 66 = .ok (.invokestatic 781, 3) := dk_184 3 13 (dk_at dksJ16_makeLong_3_2 18 rfl rfl)
theorem dJ16_makeLong_3_69 : decode cJ16_makeLong_3 69 = .ok (.bipush 56, 2) := dk_16 56 (dk_at dksJ16_makeLong_3_2 21 rfl rfl)
theorem dJ16_makeLong_3_71 : decode cJ16_makeLong_3 71 = .ok (.bipush 40, 2) := dk_16 40 (dk_at dksJ16_makeLong_3_3 0 rfl rfl)
theorem dJ16_makeLong_3_73 : decode cJ16_makeLong_3 73 = .ok (.invokestatic 784, 3) := dk_184 3 16 (dk_at dksJ16_makeLong_3_3 2 rfl rfl)
theorem dJ16_makeLong_3_76 : decode cJ16_makeLong_3 76 = .ok (.lshl, 1) := dk_121 (dk_at dksJ16_makeLong_3_3 5 rfl rfl)
theorem dJ16_makeLong_3_77 : decode cJ16_makeLong_3 77 = .ok (.lor, 1) := dk_129 (dk_at dksJ16_makeLong_3_3 6 rfl rfl)
theorem dJ16_makeLong_3_78 : decode cJ16_makeLong_3 78 = .ok (.iload 6, 2) := dk_21 6 (dk_at dksJ16_makeLong_3_3 7 rfl rfl)
theorem dJ16_makeLong_3_80 : decode cJ16_makeLong_3 80 = .ok (.invokestatic 781, 3) := dk_184 3 13 (dk_at dksJ16_makeLong_3_3 9 rfl rfl)
theorem dJ16_makeLong_3_83 : decode cJ16_makeLong_3 83 = .ok (.bipush 56, 2) := dk_16 56 (dk_at dksJ16_makeLong_3_3 12 rfl rfl)
theorem dJ16_makeLong_3_85 : decode cJ16_makeLong_3 85 = .ok (.bipush 48, 2) := dk_16 48 (dk_at dksJ16_makeLong_3_3 14 rfl rfl)
theorem dJ16_makeLong_3_87 : decode cJ16_makeLong_3 87 = .ok (.invokestatic 784, 3) := dk_184 3 16 (dk_at dksJ16_makeLong_3_3 16 rfl rfl)
theorem dJ16_makeLong_3_90 : decode cJ16_makeLong_3 90 = .ok (.lshl, 1) := dk_121 (dk_at dksJ16_makeLong_3_3 19 rfl rfl)
theorem dJ16_makeLong_3_91 : decode cJ16_makeLong_3 91 = .ok (.lor, 1) := dk_129 (dk_at dksJ16_makeLong_3_3 20 rfl rfl)
theorem dJ16_makeLong_3_92 : decode cJ16_makeLong_3 92 = .ok (.iload 7, 2) := dk_21 7 (dk_at dksJ16_makeLong_3_3 21 rfl rfl)
theorem dJ16_makeLong_3_94 : decode cJ16_makeLong_3 94 = .ok (.invokestatic 781, 3) := dk_184 3 13 (dk_at dksJ16_makeLong_3_4 0 rfl rfl)
theorem dJ16_makeLong_3_97 : decode cJ16_makeLong_3 97 = .ok (.bipush 56, 2) := dk_16 56 (dk_at dksJ16_makeLong_3_4 3 rfl rfl)
theorem dJ16_makeLong_3_99 : decode cJ16_makeLong_3 99 = .ok (.bipush 56, 2) := dk_16 56 (dk_at dksJ16_makeLong_3_4 5 rfl rfl)
theorem dJ16_makeLong_3_101 : decode cJ16_makeLong_3 101 = .ok (.invokestatic 784, 3) := dk_184 3 16 (dk_at dksJ16_makeLong_3_4 7 rfl rfl)
theorem dJ16_makeLong_3_104 : decode cJ16_makeLong_3 104 = .ok (.lshl, 1) := dk_121 (dk_at dksJ16_makeLong_3_4 10 rfl rfl)
theorem dJ16_makeLong_3_105 : decode cJ16_makeLong_3 105 = .ok (.lor, 1) := dk_129 (dk_at dksJ16_makeLong_3_4 11 rfl rfl)
theorem dJ16_makeLong_3_106 : decode cJ16_makeLong_3 106 = .ok (.lreturn, 1) := dk_173 (dk_at dksJ16_makeLong_3_4 12 rfl rfl)
abbrev cJ16_toUnsignedLong_3 : ByteArray := prog_88_method_368_code
def yJ16_toUnsignedLong_3 : MethodName := ⟨RJ16, "toUnsignedLong", "(B)J"⟩
def dkwJ16_toUnsignedLong_3_0 : List UInt8 := [26, 133, 20, 3, 40, 127, 173]
abbrev dktJ16_toUnsignedLong_3_0 : List UInt8 := dkwJ16_toUnsignedLong_3_0 ++ []
theorem dksJ16_toUnsignedLong_3_0 : cJ16_toUnsignedLong_3.data.toList.drop 0 = dktJ16_toUnsignedLong_3_0 := by decide +kernel
theorem dJ16_toUnsignedLong_3_0 : decode cJ16_toUnsignedLong_3 0 = .ok (.iload_n 0, 1) := dk_26 (dk_at dksJ16_toUnsignedLong_3_0 0 rfl rfl)
theorem dJ16_toUnsignedLong_3_1 : decode cJ16_toUnsignedLong_3 1 = .ok (.i2l, 1) := dk_133 (dk_at dksJ16_toUnsignedLong_3_0 1 rfl rfl)
theorem dJ16_toUnsignedLong_3_2 : decode cJ16_toUnsignedLong_3 2 = .ok (.ldc2_w 808, 3) := dk_20 3 40 (dk_at dksJ16_toUnsignedLong_3_0 2 rfl rfl)
theorem dJ16_toUnsignedLong_3_5 : decode cJ16_toUnsignedLong_3 5 = .ok (.land, 1) := dk_127 (dk_at dksJ16_toUnsignedLong_3_0 5 rfl rfl)
theorem dJ16_toUnsignedLong_3_6 : decode cJ16_toUnsignedLong_3 6 = .ok (.lreturn, 1) := dk_173 (dk_at dksJ16_toUnsignedLong_3_0 6 rfl rfl)
abbrev cJ16_getIntUnaligned : ByteArray := prog_88_method_336_code
def yJ16_getIntUnaligned : MethodName := ⟨RJ16, "getIntUnaligned", "(Ljava/lang/Object;J)I"⟩
def dkwJ16_getIntUnaligned_3 : List UInt8 := [43, 32, 20, 1, 93, 97, 182, 0, 39, 184, 2, 211, 172]
abbrev dktJ16_getIntUnaligned_3 : List UInt8 := dkwJ16_getIntUnaligned_3 ++ []
def dkwJ16_getIntUnaligned_2 : List UInt8 := [43, 32, 182, 0, 39, 42, 43, 32, 10, 97, 182, 0, 39, 42, 43, 32, 20, 0, 203, 97, 182, 0, 39, 42]
abbrev dktJ16_getIntUnaligned_2 : List UInt8 := dkwJ16_getIntUnaligned_2 ++ dktJ16_getIntUnaligned_3
def dkwJ16_getIntUnaligned_1 : List UInt8 := [154, 0, 23, 42, 43, 32, 182, 0, 47, 42, 43, 32, 20, 0, 203, 97, 182, 0, 47, 184, 2, 207, 172, 42]
abbrev dktJ16_getIntUnaligned_1 : List UInt8 := dkwJ16_getIntUnaligned_1 ++ dktJ16_getIntUnaligned_2
def dkwJ16_getIntUnaligned_0 : List UInt8 := [32, 20, 1, 93, 127, 9, 148, 154, 0, 10, 42, 43, 32, 182, 0, 17, 172, 32, 10, 127, 9, 148]
abbrev dktJ16_getIntUnaligned_0 : List UInt8 := dkwJ16_getIntUnaligned_0 ++ dktJ16_getIntUnaligned_1
theorem dksJ16_getIntUnaligned_0 : cJ16_getIntUnaligned.data.toList.drop 0 = dktJ16_getIntUnaligned_0 := by decide +kernel
theorem dksJ16_getIntUnaligned_1 : cJ16_getIntUnaligned.data.toList.drop 22 = dktJ16_getIntUnaligned_1 := dk_seg dksJ16_getIntUnaligned_0 22 rfl rfl
theorem dksJ16_getIntUnaligned_2 : cJ16_getIntUnaligned.data.toList.drop 46 = dktJ16_getIntUnaligned_2 := dk_seg dksJ16_getIntUnaligned_1 24 rfl rfl
theorem dksJ16_getIntUnaligned_3 : cJ16_getIntUnaligned.data.toList.drop 70 = dktJ16_getIntUnaligned_3 := dk_seg dksJ16_getIntUnaligned_2 24 rfl rfl
theorem dJ16_getIntUnaligned_0 : decode cJ16_getIntUnaligned 0 = .ok (.lload_n 2, 1) := dk_32 (dk_at dksJ16_getIntUnaligned_0 0 rfl rfl)
theorem dJ16_getIntUnaligned_1 : decode cJ16_getIntUnaligned 1 = .ok (.ldc2_w 349, 3) := dk_20 1 93 (dk_at dksJ16_getIntUnaligned_0 1 rfl rfl)
theorem dJ16_getIntUnaligned_4 : decode cJ16_getIntUnaligned 4 = .ok (.land, 1) := dk_127 (dk_at dksJ16_getIntUnaligned_0 4 rfl rfl)
theorem dJ16_getIntUnaligned_5 : decode cJ16_getIntUnaligned 5 = .ok (.lconst 0, 1) := dk_9 (dk_at dksJ16_getIntUnaligned_0 5 rfl rfl)
theorem dJ16_getIntUnaligned_6 : decode cJ16_getIntUnaligned 6 = .ok (.lcmp, 1) := dk_148 (dk_at dksJ16_getIntUnaligned_0 6 rfl rfl)
theorem dJ16_getIntUnaligned_7 : decode cJ16_getIntUnaligned 7 = .ok (.ifCond .ne 10, 3) := dk_154 0 10 (dk_at dksJ16_getIntUnaligned_0 7 rfl rfl)
theorem dJ16_getIntUnaligned_10 : decode cJ16_getIntUnaligned 10 = .ok (.aload_n 0, 1) := dk_42 (dk_at dksJ16_getIntUnaligned_0 10 rfl rfl)
theorem dJ16_getIntUnaligned_11 : decode cJ16_getIntUnaligned 11 = .ok (.aload_n 1, 1) := dk_43 (dk_at dksJ16_getIntUnaligned_0 11 rfl rfl)
theorem dJ16_getIntUnaligned_12 : decode cJ16_getIntUnaligned 12 = .ok (.lload_n 2, 1) := dk_32 (dk_at dksJ16_getIntUnaligned_0 12 rfl rfl)
theorem dJ16_getIntUnaligned_13 : decode cJ16_getIntUnaligned 13 = .ok (.invokevirtual 17, 3) := dk_182 0 17 (dk_at dksJ16_getIntUnaligned_0 13 rfl rfl)
theorem dJ16_getIntUnaligned_16 : decode cJ16_getIntUnaligned 16 = .ok (.ireturn, 1) := dk_172 (dk_at dksJ16_getIntUnaligned_0 16 rfl rfl)
theorem dJ16_getIntUnaligned_17 : decode cJ16_getIntUnaligned 17 = .ok (.lload_n 2, 1) := dk_32 (dk_at dksJ16_getIntUnaligned_0 17 rfl rfl)
theorem dJ16_getIntUnaligned_18 : decode cJ16_getIntUnaligned 18 = .ok (.lconst 1, 1) := dk_10 (dk_at dksJ16_getIntUnaligned_0 18 rfl rfl)
theorem dJ16_getIntUnaligned_19 : decode cJ16_getIntUnaligned 19 = .ok (.land, 1) := dk_127 (dk_at dksJ16_getIntUnaligned_0 19 rfl rfl)
theorem dJ16_getIntUnaligned_20 : decode cJ16_getIntUnaligned 20 = .ok (.lconst 0, 1) := dk_9 (dk_at dksJ16_getIntUnaligned_0 20 rfl rfl)
theorem dJ16_getIntUnaligned_21 : decode cJ16_getIntUnaligned 21 = .ok (.lcmp, 1) := dk_148 (dk_at dksJ16_getIntUnaligned_0 21 rfl rfl)
theorem dJ16_getIntUnaligned_22 : decode cJ16_getIntUnaligned 22 = .ok (.ifCond .ne 23, 3) := dk_154 0 23 (dk_at dksJ16_getIntUnaligned_1 0 rfl rfl)
theorem dJ16_getIntUnaligned_25 : decode cJ16_getIntUnaligned 25 = .ok (.aload_n 0, 1) := dk_42 (dk_at dksJ16_getIntUnaligned_1 3 rfl rfl)
theorem dJ16_getIntUnaligned_26 : decode cJ16_getIntUnaligned 26 = .ok (.aload_n 1, 1) := dk_43 (dk_at dksJ16_getIntUnaligned_1 4 rfl rfl)
theorem dJ16_getIntUnaligned_27 : decode cJ16_getIntUnaligned 27 = .ok (.lload_n 2, 1) := dk_32 (dk_at dksJ16_getIntUnaligned_1 5 rfl rfl)
theorem dJ16_getIntUnaligned_28 : decode cJ16_getIntUnaligned 28 = .ok (.invokevirtual 47, 3) := dk_182 0 47 (dk_at dksJ16_getIntUnaligned_1 6 rfl rfl)
theorem dJ16_getIntUnaligned_31 : decode cJ16_getIntUnaligned 31 = .ok (.aload_n 0, 1) := dk_42 (dk_at dksJ16_getIntUnaligned_1 9 rfl rfl)
theorem dJ16_getIntUnaligned_32 : decode cJ16_getIntUnaligned 32 = .ok (.aload_n 1, 1) := dk_43 (dk_at dksJ16_getIntUnaligned_1 10 rfl rfl)
theorem dJ16_getIntUnaligned_33 : decode cJ16_getIntUnaligned 33 = .ok (.lload_n 2, 1) := dk_32 (dk_at dksJ16_getIntUnaligned_1 11 rfl rfl)
theorem dJ16_getIntUnaligned_34 : decode cJ16_getIntUnaligned 34 = .ok (.ldc2_w 203, 3) := dk_20 0 203 (dk_at dksJ16_getIntUnaligned_1 12 rfl rfl)
theorem dJ16_getIntUnaligned_37 : decode cJ16_getIntUnaligned 37 = .ok (.ladd, 1) := dk_97 (dk_at dksJ16_getIntUnaligned_1 15 rfl rfl)
theorem dJ16_getIntUnaligned_38 : decode cJ16_getIntUnaligned 38 = .ok (.invokevirtual 47, 3) := dk_182 0 47 (dk_at dksJ16_getIntUnaligned_1 16 rfl rfl)
theorem dJ16_getIntUnaligned_41 : decode cJ16_getIntUnaligned 41 = .ok (.invokestatic 719, 3) := dk_184 2 207 (dk_at dksJ16_getIntUnaligned_1 19 rfl rfl)
theorem dJ16_getIntUnaligned_44 : decode cJ16_getIntUnaligned 44 = .ok (.ireturn, 1) := dk_172 (dk_at dksJ16_getIntUnaligned_1 22 rfl rfl)
theorem dJ16_getIntUnaligned_45 : decode cJ16_getIntUnaligned 45 = .ok (.aload_n 0, 1) := dk_42 (dk_at dksJ16_getIntUnaligned_1 23 rfl rfl)
theorem dJ16_getIntUnaligned_46 : decode cJ16_getIntUnaligned 46 = .ok (.aload_n 1, 1) := dk_43 (dk_at dksJ16_getIntUnaligned_2 0 rfl rfl)
theorem dJ16_getIntUnaligned_47 : decode cJ16_getIntUnaligned 47 = .ok (.lload_n 2, 1) := dk_32 (dk_at dksJ16_getIntUnaligned_2 1 rfl rfl)
theorem dJ16_getIntUnaligned_48 : decode cJ16_getIntUnaligned 48 = .ok (.invokevirtual 39, 3) := dk_182 0 39 (dk_at dksJ16_getIntUnaligned_2 2 rfl rfl)
theorem dJ16_getIntUnaligned_51 : decode cJ16_getIntUnaligned 51 = .ok (.aload_n 0, 1) := dk_42 (dk_at dksJ16_getIntUnaligned_2 5 rfl rfl)
theorem dJ16_getIntUnaligned_52 : decode cJ16_getIntUnaligned 52 = .ok (.aload_n 1, 1) := dk_43 (dk_at dksJ16_getIntUnaligned_2 6 rfl rfl)
theorem dJ16_getIntUnaligned_53 : decode cJ16_getIntUnaligned 53 = .ok (.lload_n 2, 1) := dk_32 (dk_at dksJ16_getIntUnaligned_2 7 rfl rfl)
theorem dJ16_getIntUnaligned_54 : decode cJ16_getIntUnaligned 54 = .ok (.lconst 1, 1) := dk_10 (dk_at dksJ16_getIntUnaligned_2 8 rfl rfl)
theorem dJ16_getIntUnaligned_55 : decode cJ16_getIntUnaligned 55 = .ok (.ladd, 1) := dk_97 (dk_at dksJ16_getIntUnaligned_2 9 rfl rfl)
theorem dJ16_getIntUnaligned_56 : decode cJ16_getIntUnaligned 56 = .ok (.invokevirtual 39, 3) := dk_182 0 39 (dk_at dksJ16_getIntUnaligned_2 10 rfl rfl)
theorem dJ16_getIntUnaligned_59 : decode cJ16_getIntUnaligned 59 = .ok (.aload_n 0, 1) := dk_42 (dk_at dksJ16_getIntUnaligned_2 13 rfl rfl)
theorem dJ16_getIntUnaligned_60 : decode cJ16_getIntUnaligned 60 = .ok (.aload_n 1, 1) := dk_43 (dk_at dksJ16_getIntUnaligned_2 14 rfl rfl)
theorem dJ16_getIntUnaligned_61 : decode cJ16_getIntUnaligned 61 = .ok (.lload_n 2, 1) := dk_32 (dk_at dksJ16_getIntUnaligned_2 15 rfl rfl)
theorem dJ16_getIntUnaligned_62 : decode cJ16_getIntUnaligned 62 = .ok (.ldc2_w 203, 3) := dk_20 0 203 (dk_at dksJ16_getIntUnaligned_2 16 rfl rfl)
theorem dJ16_getIntUnaligned_65 : decode cJ16_getIntUnaligned 65 = .ok (.ladd, 1) := dk_97 (dk_at dksJ16_getIntUnaligned_2 19 rfl rfl)
theorem dJ16_getIntUnaligned_66 : decode cJ16_getIntUnaligned 66 = .ok (.invokevirtual 39, 3) := dk_182 0 39 (dk_at dksJ16_getIntUnaligned_2 20 rfl rfl)
theorem dJ16_getIntUnaligned_69 : decode cJ16_getIntUnaligned 69 = .ok (.aload_n 0, 1) := dk_42 (dk_at dksJ16_getIntUnaligned_2 23 rfl rfl)
theorem dJ16_getIntUnaligned_70 : decode cJ16_getIntUnaligned 70 = .ok (.aload_n 1, 1) := dk_43 (dk_at dksJ16_getIntUnaligned_3 0 rfl rfl)
theorem dJ16_getIntUnaligned_71 : decode cJ16_getIntUnaligned 71 = .ok (.lload_n 2, 1) := dk_32 (dk_at dksJ16_getIntUnaligned_3 1 rfl rfl)
theorem dJ16_getIntUnaligned_72 : decode cJ16_getIntUnaligned 72 = .ok (.ldc2_w 349, 3) := dk_20 1 93 (dk_at dksJ16_getIntUnaligned_3 2 rfl rfl)
theorem dJ16_getIntUnaligned_75 : decode cJ16_getIntUnaligned 75 = .ok (.ladd, 1) := dk_97 (dk_at dksJ16_getIntUnaligned_3 5 rfl rfl)
theorem dJ16_getIntUnaligned_76 : decode cJ16_getIntUnaligned 76 = .ok (.invokevirtual 39, 3) := dk_182 0 39 (dk_at dksJ16_getIntUnaligned_3 6 rfl rfl)
theorem dJ16_getIntUnaligned_79 : decode cJ16_getIntUnaligned 79 = .ok (.invokestatic 723, 3) := dk_184 2 211 (dk_at dksJ16_getIntUnaligned_3 9 rfl rfl)
theorem dJ16_getIntUnaligned_82 : decode cJ16_getIntUnaligned 82 = .ok (.ireturn, 1) := dk_172 (dk_at dksJ16_getIntUnaligned_3 12 rfl rfl)
abbrev cJ16_makeInt : ByteArray := prog_88_method_354_code
def yJ16_makeInt : MethodName := ⟨RJ16, "makeInt", "(SS)I"⟩
def dkwJ16_makeInt_1 : List UInt8 := [172]
abbrev dktJ16_makeInt_1 : List UInt8 := dkwJ16_makeInt_1 ++ []
def dkwJ16_makeInt_0 : List UInt8 := [26, 184, 3, 24, 16, 16, 3, 184, 3, 16, 120, 27, 184, 3, 24, 16, 16, 16, 16, 184, 3, 16, 120, 128]
abbrev dktJ16_makeInt_0 : List UInt8 := dkwJ16_makeInt_0 ++ dktJ16_makeInt_1
theorem dksJ16_makeInt_0 : cJ16_makeInt.data.toList.drop 0 = dktJ16_makeInt_0 := by decide +kernel
theorem dksJ16_makeInt_1 : cJ16_makeInt.data.toList.drop 24 = dktJ16_makeInt_1 := dk_seg dksJ16_makeInt_0 24 rfl rfl
theorem dJ16_makeInt_0 : decode cJ16_makeInt 0 = .ok (.iload_n 0, 1) := dk_26 (dk_at dksJ16_makeInt_0 0 rfl rfl)
theorem dJ16_makeInt_1 : decode cJ16_makeInt 1 = .ok (.invokestatic 792, 3) := dk_184 3 24 (dk_at dksJ16_makeInt_0 1 rfl rfl)
theorem dJ16_makeInt_4 : decode cJ16_makeInt 4 = .ok (.bipush 16, 2) := dk_16 16 (dk_at dksJ16_makeInt_0 4 rfl rfl)
theorem dJ16_makeInt_6 : decode cJ16_makeInt 6 = .ok (.iconst 0, 1) := dk_3 (dk_at dksJ16_makeInt_0 6 rfl rfl)
theorem dJ16_makeInt_7 : decode cJ16_makeInt 7 = .ok (.invokestatic 784, 3) := dk_184 3 16 (dk_at dksJ16_makeInt_0 7 rfl rfl)
theorem dJ16_makeInt_10 : decode cJ16_makeInt 10 = .ok (.ishl, 1) := dk_120 (dk_at dksJ16_makeInt_0 10 rfl rfl)
theorem dJ16_makeInt_11 : decode cJ16_makeInt 11 = .ok (.iload_n 1, 1) := dk_27 (dk_at dksJ16_makeInt_0 11 rfl rfl)
theorem dJ16_makeInt_12 : decode cJ16_makeInt 12 = .ok (.invokestatic 792, 3) := dk_184 3 24 (dk_at dksJ16_makeInt_0 12 rfl rfl)
theorem dJ16_makeInt_15 : decode cJ16_makeInt 15 = .ok (.bipush 16, 2) := dk_16 16 (dk_at dksJ16_makeInt_0 15 rfl rfl)
theorem dJ16_makeInt_17 : decode cJ16_makeInt 17 = .ok (.bipush 16, 2) := dk_16 16 (dk_at dksJ16_makeInt_0 17 rfl rfl)
theorem dJ16_makeInt_19 : decode cJ16_makeInt 19 = .ok (.invokestatic 784, 3) := dk_184 3 16 (dk_at dksJ16_makeInt_0 19 rfl rfl)
theorem dJ16_makeInt_22 : decode cJ16_makeInt 22 = .ok (.ishl, 1) := dk_120 (dk_at dksJ16_makeInt_0 22 rfl rfl)
theorem dJ16_makeInt_23 : decode cJ16_makeInt 23 = .ok (.ior, 1) := dk_128 (dk_at dksJ16_makeInt_0 23 rfl rfl)
theorem dJ16_makeInt_24 : decode cJ16_makeInt 24 = .ok (.ireturn, 1) := dk_172 (dk_at dksJ16_makeInt_1 0 rfl rfl)
abbrev cJ16_toUnsignedInt : ByteArray := prog_88_method_367_code
def yJ16_toUnsignedInt : MethodName := ⟨RJ16, "toUnsignedInt", "(S)I"⟩
def dkwJ16_toUnsignedInt_0 : List UInt8 := [26, 19, 1, 118, 126, 172]
abbrev dktJ16_toUnsignedInt_0 : List UInt8 := dkwJ16_toUnsignedInt_0 ++ []
theorem dksJ16_toUnsignedInt_0 : cJ16_toUnsignedInt.data.toList.drop 0 = dktJ16_toUnsignedInt_0 := by decide +kernel
theorem dJ16_toUnsignedInt_0 : decode cJ16_toUnsignedInt 0 = .ok (.iload_n 0, 1) := dk_26 (dk_at dksJ16_toUnsignedInt_0 0 rfl rfl)
theorem dJ16_toUnsignedInt_1 : decode cJ16_toUnsignedInt 1 = .ok (.ldc_w 374, 3) := dk_19 1 118 (dk_at dksJ16_toUnsignedInt_0 1 rfl rfl)
theorem dJ16_toUnsignedInt_4 : decode cJ16_toUnsignedInt 4 = .ok (.iand, 1) := dk_126 (dk_at dksJ16_toUnsignedInt_0 4 rfl rfl)
theorem dJ16_toUnsignedInt_5 : decode cJ16_toUnsignedInt 5 = .ok (.ireturn, 1) := dk_172 (dk_at dksJ16_toUnsignedInt_0 5 rfl rfl)
abbrev cJ16_makeInt_2 : ByteArray := prog_88_method_355_code
def yJ16_makeInt_2 : MethodName := ⟨RJ16, "makeInt", "(BBBB)I"⟩
def dkwJ16_makeInt_2_2 : List UInt8 := [120, 128, 172]
abbrev dktJ16_makeInt_2_2 : List UInt8 := dkwJ16_makeInt_2_2 ++ []
def dkwJ16_makeInt_2_1 : List UInt8 := [28, 184, 3, 28, 16, 24, 16, 16, 184, 3, 16, 120, 128, 29, 184, 3, 28, 16, 24, 16, 24, 184, 3, 16]
abbrev dktJ16_makeInt_2_1 : List UInt8 := dkwJ16_makeInt_2_1 ++ dktJ16_makeInt_2_2
def dkwJ16_makeInt_2_0 : List UInt8 := [26, 184, 3, 28, 16, 24, 3, 184, 3, 16, 120, 27, 184, 3, 28, 16, 24, 16, 8, 184, 3, 16, 120, 128]
abbrev dktJ16_makeInt_2_0 : List UInt8 := dkwJ16_makeInt_2_0 ++ dktJ16_makeInt_2_1
theorem dksJ16_makeInt_2_0 : cJ16_makeInt_2.data.toList.drop 0 = dktJ16_makeInt_2_0 := by decide +kernel
theorem dksJ16_makeInt_2_1 : cJ16_makeInt_2.data.toList.drop 24 = dktJ16_makeInt_2_1 := dk_seg dksJ16_makeInt_2_0 24 rfl rfl
theorem dksJ16_makeInt_2_2 : cJ16_makeInt_2.data.toList.drop 48 = dktJ16_makeInt_2_2 := dk_seg dksJ16_makeInt_2_1 24 rfl rfl
theorem dJ16_makeInt_2_0 : decode cJ16_makeInt_2 0 = .ok (.iload_n 0, 1) := dk_26 (dk_at dksJ16_makeInt_2_0 0 rfl rfl)
theorem dJ16_makeInt_2_1 : decode cJ16_makeInt_2 1 = .ok (.invokestatic 796, 3) := dk_184 3 28 (dk_at dksJ16_makeInt_2_0 1 rfl rfl)
theorem dJ16_makeInt_2_4 : decode cJ16_makeInt_2 4 = .ok (.bipush 24, 2) := dk_16 24 (dk_at dksJ16_makeInt_2_0 4 rfl rfl)
theorem dJ16_makeInt_2_6 : decode cJ16_makeInt_2 6 = .ok (.iconst 0, 1) := dk_3 (dk_at dksJ16_makeInt_2_0 6 rfl rfl)
theorem dJ16_makeInt_2_7 : decode cJ16_makeInt_2 7 = .ok (.invokestatic 784, 3) := dk_184 3 16 (dk_at dksJ16_makeInt_2_0 7 rfl rfl)
theorem dJ16_makeInt_2_10 : decode cJ16_makeInt_2 10 = .ok (.ishl, 1) := dk_120 (dk_at dksJ16_makeInt_2_0 10 rfl rfl)
theorem dJ16_makeInt_2_11 : decode cJ16_makeInt_2 11 = .ok (.iload_n 1, 1) := dk_27 (dk_at dksJ16_makeInt_2_0 11 rfl rfl)
theorem dJ16_makeInt_2_12 : decode cJ16_makeInt_2 12 = .ok (.invokestatic 796, 3) := dk_184 3 28 (dk_at dksJ16_makeInt_2_0 12 rfl rfl)
theorem dJ16_makeInt_2_15 : decode cJ16_makeInt_2 15 = .ok (.bipush 24, 2) := dk_16 24 (dk_at dksJ16_makeInt_2_0 15 rfl rfl)
theorem dJ16_makeInt_2_17 : decode cJ16_makeInt_2 17 = .ok (.bipush 8, 2) := dk_16 8 (dk_at dksJ16_makeInt_2_0 17 rfl rfl)
theorem dJ16_makeInt_2_19 : decode cJ16_makeInt_2 19 = .ok (.invokestatic 784, 3) := dk_184 3 16 (dk_at dksJ16_makeInt_2_0 19 rfl rfl)
theorem dJ16_makeInt_2_22 : decode cJ16_makeInt_2 22 = .ok (.ishl, 1) := dk_120 (dk_at dksJ16_makeInt_2_0 22 rfl rfl)
theorem dJ16_makeInt_2_23 : decode cJ16_makeInt_2 23 = .ok (.ior, 1) := dk_128 (dk_at dksJ16_makeInt_2_0 23 rfl rfl)
theorem dJ16_makeInt_2_24 : decode cJ16_makeInt_2 24 = .ok (.iload_n 2, 1) := dk_28 (dk_at dksJ16_makeInt_2_1 0 rfl rfl)
theorem dJ16_makeInt_2_25 : decode cJ16_makeInt_2 25 = .ok (.invokestatic 796, 3) := dk_184 3 28 (dk_at dksJ16_makeInt_2_1 1 rfl rfl)
theorem dJ16_makeInt_2_28 : decode cJ16_makeInt_2 28 = .ok (.bipush 24, 2) := dk_16 24 (dk_at dksJ16_makeInt_2_1 4 rfl rfl)
theorem dJ16_makeInt_2_30 : decode cJ16_makeInt_2 30 = .ok (.bipush 16, 2) := dk_16 16 (dk_at dksJ16_makeInt_2_1 6 rfl rfl)
theorem dJ16_makeInt_2_32 : decode cJ16_makeInt_2 32 = .ok (.invokestatic 784, 3) := dk_184 3 16 (dk_at dksJ16_makeInt_2_1 8 rfl rfl)
theorem dJ16_makeInt_2_35 : decode cJ16_makeInt_2 35 = .ok (.ishl, 1) := dk_120 (dk_at dksJ16_makeInt_2_1 11 rfl rfl)
theorem dJ16_makeInt_2_36 : decode cJ16_makeInt_2 36 = .ok (.ior, 1) := dk_128 (dk_at dksJ16_makeInt_2_1 12 rfl rfl)
theorem dJ16_makeInt_2_37 : decode cJ16_makeInt_2 37 = .ok (.iload_n 3, 1) := dk_29 (dk_at dksJ16_makeInt_2_1 13 rfl rfl)
theorem dJ16_makeInt_2_38 : decode cJ16_makeInt_2 38 = .ok (.invokestatic 796, 3) := dk_184 3 28 (dk_at dksJ16_makeInt_2_1 14 rfl rfl)
theorem dJ16_makeInt_2_41 : decode cJ16_makeInt_2 41 = .ok (.bipush 24, 2) := dk_16 24 (dk_at dksJ16_makeInt_2_1 17 rfl rfl)
theorem dJ16_makeInt_2_43 : decode cJ16_makeInt_2 43 = .ok (.bipush 24, 2) := dk_16 24 (dk_at dksJ16_makeInt_2_1 19 rfl rfl)
theorem dJ16_makeInt_2_45 : decode cJ16_makeInt_2 45 = .ok (.invokestatic 784, 3) := dk_184 3 16 (dk_at dksJ16_makeInt_2_1 21 rfl rfl)
theorem dJ16_makeInt_2_48 : decode cJ16_makeInt_2 48 = .ok (.ishl, 1) := dk_120 (dk_at dksJ16_makeInt_2_2 0 rfl rfl)
theorem dJ16_makeInt_2_49 : decode cJ16_makeInt_2 49 = .ok (.ior, 1) := dk_128 (dk_at dksJ16_makeInt_2_2 1 rfl rfl)
theorem dJ16_makeInt_2_50 : decode cJ16_makeInt_2 50 = .ok (.ireturn, 1) := dk_172 (dk_at dksJ16_makeInt_2_2 2 rfl rfl)
abbrev cJ16_toUnsignedInt_2 : ByteArray := prog_88_method_366_code
def yJ16_toUnsignedInt_2 : MethodName := ⟨RJ16, "toUnsignedInt", "(B)I"⟩
def dkwJ16_toUnsignedInt_2_0 : List UInt8 := [26, 17, 0, 255, 126, 172]
abbrev dktJ16_toUnsignedInt_2_0 : List UInt8 := dkwJ16_toUnsignedInt_2_0 ++ []
theorem dksJ16_toUnsignedInt_2_0 : cJ16_toUnsignedInt_2.data.toList.drop 0 = dktJ16_toUnsignedInt_2_0 := by decide +kernel
theorem dJ16_toUnsignedInt_2_0 : decode cJ16_toUnsignedInt_2 0 = .ok (.iload_n 0, 1) := dk_26 (dk_at dksJ16_toUnsignedInt_2_0 0 rfl rfl)
theorem dJ16_toUnsignedInt_2_1 : decode cJ16_toUnsignedInt_2 1 = .ok (.sipush 255, 3) := dk_17 0 255 (dk_at dksJ16_toUnsignedInt_2_0 1 rfl rfl)
theorem dJ16_toUnsignedInt_2_4 : decode cJ16_toUnsignedInt_2 4 = .ok (.iand, 1) := dk_126 (dk_at dksJ16_toUnsignedInt_2_0 4 rfl rfl)
theorem dJ16_toUnsignedInt_2_5 : decode cJ16_toUnsignedInt_2 5 = .ok (.ireturn, 1) := dk_172 (dk_at dksJ16_toUnsignedInt_2_0 5 rfl rfl)
theorem q138 : (Jvm.Cond.initialized "jdk/internal/misc/Unsafe") ∈ lw_all := lw_g (lw_at lw_m1 33 rfl) rfl
theorem q991 : (Jvm.Cond.selects "jdk/internal/misc/Unsafe" ({ cls := "java/lang/Object", name := "hashCode", desc := "()I" } : Jvm.MethodName) ({ cls := "java/lang/Object", name := "hashCode", desc := "()I" } : Jvm.MethodName)) ∈ lw_all := lw_g (lw_at lw_m4 166 rfl) rfl
theorem q1143 : (Jvm.Cond.selects "jdk/internal/misc/Unsafe" ({ cls := "java/lang/Object", name := "getClass", desc := "()Ljava/lang/Class;" } : Jvm.MethodName) ({ cls := "java/lang/Object", name := "getClass", desc := "()Ljava/lang/Class;" } : Jvm.MethodName)) ∈ lw_all := lw_g (lw_at lw_m5 78 rfl) rfl
theorem q1193 : (Jvm.Cond.laysStatic "jdk/internal/misc/Unsafe" "ARRAY_BYTE_BASE_OFFSET" "I") ∈ lw_tbl := lw_at lw_m5 128 rfl
theorem q1204 : (Jvm.Cond.instanceMethod ({ cls := "jdk/internal/misc/Unsafe", name := "getLongUnaligned", desc := "(Ljava/lang/Object;J)J" } : Jvm.MethodName)) ∈ lw_all := lw_g (lw_at lw_m5 139 rfl) rfl
theorem q1205 : (Jvm.Cond.selects "jdk/internal/misc/Unsafe" ({ cls := "jdk/internal/misc/Unsafe", name := "getLongUnaligned", desc := "(Ljava/lang/Object;J)J" } : Jvm.MethodName) ({ cls := "jdk/internal/misc/Unsafe", name := "getLongUnaligned", desc := "(Ljava/lang/Object;J)J" } : Jvm.MethodName)) ∈ lw_all := lw_g (lw_at lw_m5 140 rfl) rfl
theorem q1206 : (Jvm.Cond.code ({ cls := "jdk/internal/misc/Unsafe", name := "getLongUnaligned", desc := "(Ljava/lang/Object;J)J" } : Jvm.MethodName) prog_88_method_334_code (4 : Nat) (Option.some Jvm.ClassFile.FieldType.long)) ∈ lw_all := lw_g (lw_at lw_m5 141 rfl) rfl
theorem q1207 : (Jvm.Cond.constantLong "jdk/internal/misc/Unsafe" (696 : Nat) (7 : Int64)) ∈ lw_all := lw_g (lw_at lw_m5 142 rfl) rfl
theorem q1208 : (Jvm.Cond.methodLink "jdk/internal/misc/Unsafe" (27 : Nat) ({ cls := "jdk/internal/misc/Unsafe", name := "getLong", desc := "(Ljava/lang/Object;J)J" } : Jvm.MethodName)) ∈ lw_all := lw_g (lw_at lw_m5 143 rfl) rfl
theorem q1209 : (Jvm.Cond.instanceMethod ({ cls := "jdk/internal/misc/Unsafe", name := "getLong", desc := "(Ljava/lang/Object;J)J" } : Jvm.MethodName)) ∈ lw_all := lw_g (lw_at lw_m5 144 rfl) rfl
theorem q1210 : (Jvm.Cond.selects "jdk/internal/misc/Unsafe" ({ cls := "jdk/internal/misc/Unsafe", name := "getLong", desc := "(Ljava/lang/Object;J)J" } : Jvm.MethodName) ({ cls := "jdk/internal/misc/Unsafe", name := "getLong", desc := "(Ljava/lang/Object;J)J" } : Jvm.MethodName)) ∈ lw_all := lw_g (lw_at lw_m5 145 rfl) rfl
theorem q1211 : (Jvm.Cond.native ({ cls := "jdk/internal/misc/Unsafe", name := "getLong", desc := "(Ljava/lang/Object;J)J" } : Jvm.MethodName)) ∈ lw_all := lw_g (lw_at lw_m5 146 rfl) rfl
theorem q1212 : (Jvm.Cond.constantLong "jdk/internal/misc/Unsafe" (349 : Nat) (3 : Int64)) ∈ lw_all := lw_g (lw_at lw_m5 147 rfl) rfl
theorem q1213 : (Jvm.Cond.methodLink "jdk/internal/misc/Unsafe" (17 : Nat) ({ cls := "jdk/internal/misc/Unsafe", name := "getInt", desc := "(Ljava/lang/Object;J)I" } : Jvm.MethodName)) ∈ lw_all := lw_g (lw_at lw_m5 148 rfl) rfl
theorem q1214 : (Jvm.Cond.instanceMethod ({ cls := "jdk/internal/misc/Unsafe", name := "getInt", desc := "(Ljava/lang/Object;J)I" } : Jvm.MethodName)) ∈ lw_all := lw_g (lw_at lw_m5 149 rfl) rfl
theorem q1215 : (Jvm.Cond.selects "jdk/internal/misc/Unsafe" ({ cls := "jdk/internal/misc/Unsafe", name := "getInt", desc := "(Ljava/lang/Object;J)I" } : Jvm.MethodName) ({ cls := "jdk/internal/misc/Unsafe", name := "getInt", desc := "(Ljava/lang/Object;J)I" } : Jvm.MethodName)) ∈ lw_all := lw_g (lw_at lw_m5 150 rfl) rfl
theorem q1216 : (Jvm.Cond.native ({ cls := "jdk/internal/misc/Unsafe", name := "getInt", desc := "(Ljava/lang/Object;J)I" } : Jvm.MethodName)) ∈ lw_all := lw_g (lw_at lw_m5 151 rfl) rfl
theorem q1217 : (Jvm.Cond.constantLong "jdk/internal/misc/Unsafe" (205 : Nat) (4 : Int64)) ∈ lw_all := lw_g (lw_at lw_m5 152 rfl) rfl
theorem q1218 : (Jvm.Cond.methodLink "jdk/internal/misc/Unsafe" (698 : Nat) ({ cls := "jdk/internal/misc/Unsafe", name := "makeLong", desc := "(II)J" } : Jvm.MethodName)) ∈ lw_all := lw_g (lw_at lw_m5 153 rfl) rfl
theorem q1219 : (Jvm.Cond.static ({ cls := "jdk/internal/misc/Unsafe", name := "makeLong", desc := "(II)J" } : Jvm.MethodName)) ∈ lw_all := lw_g (lw_at lw_m5 154 rfl) rfl
theorem q1220 : (Jvm.Cond.code ({ cls := "jdk/internal/misc/Unsafe", name := "makeLong", desc := "(II)J" } : Jvm.MethodName) prog_88_method_353_code (2 : Nat) (Option.some Jvm.ClassFile.FieldType.long)) ∈ lw_all := lw_g (lw_at lw_m5 155 rfl) rfl
theorem q1221 : (Jvm.Cond.methodLink "jdk/internal/misc/Unsafe" (791 : Nat) ({ cls := "jdk/internal/misc/Unsafe", name := "toUnsignedLong", desc := "(I)J" } : Jvm.MethodName)) ∈ lw_all := lw_g (lw_at lw_m5 156 rfl) rfl
theorem q1222 : (Jvm.Cond.static ({ cls := "jdk/internal/misc/Unsafe", name := "toUnsignedLong", desc := "(I)J" } : Jvm.MethodName)) ∈ lw_all := lw_g (lw_at lw_m5 157 rfl) rfl
theorem q1223 : (Jvm.Cond.code ({ cls := "jdk/internal/misc/Unsafe", name := "toUnsignedLong", desc := "(I)J" } : Jvm.MethodName) prog_88_method_370_code (1 : Nat) (Option.some Jvm.ClassFile.FieldType.long)) ∈ lw_all := lw_g (lw_at lw_m5 158 rfl) rfl
theorem q1224 : (Jvm.Cond.constantLong "jdk/internal/misc/Unsafe" (812 : Nat) (4294967295 : Int64)) ∈ lw_all := lw_g (lw_at lw_m5 159 rfl) rfl
theorem q1225 : (Jvm.Cond.methodLink "jdk/internal/misc/Unsafe" (784 : Nat) ({ cls := "jdk/internal/misc/Unsafe", name := "pickPos", desc := "(II)I" } : Jvm.MethodName)) ∈ lw_all := lw_g (lw_at lw_m5 160 rfl) rfl
theorem q1226 : (Jvm.Cond.static ({ cls := "jdk/internal/misc/Unsafe", name := "pickPos", desc := "(II)I" } : Jvm.MethodName)) ∈ lw_all := lw_g (lw_at lw_m5 161 rfl) rfl
theorem q1227 : (Jvm.Cond.code ({ cls := "jdk/internal/misc/Unsafe", name := "pickPos", desc := "(II)I" } : Jvm.MethodName) prog_88_method_350_code (2 : Nat) (Option.some Jvm.ClassFile.FieldType.int)) ∈ lw_all := lw_g (lw_at lw_m5 162 rfl) rfl
theorem q1228 : (Jvm.Cond.fieldLink "jdk/internal/misc/Unsafe" (351 : Nat) "jdk/internal/misc/UnsafeConstants" "BIG_ENDIAN" "Z") ∈ lw_all := lw_g (lw_at lw_m5 163 rfl) rfl
theorem q1230 : (Jvm.Cond.methodLink "jdk/internal/misc/Unsafe" (47 : Nat) ({ cls := "jdk/internal/misc/Unsafe", name := "getShort", desc := "(Ljava/lang/Object;J)S" } : Jvm.MethodName)) ∈ lw_all := lw_g (lw_at lw_m5 165 rfl) rfl
theorem q1231 : (Jvm.Cond.instanceMethod ({ cls := "jdk/internal/misc/Unsafe", name := "getShort", desc := "(Ljava/lang/Object;J)S" } : Jvm.MethodName)) ∈ lw_all := lw_g (lw_at lw_m5 166 rfl) rfl
theorem q1232 : (Jvm.Cond.selects "jdk/internal/misc/Unsafe" ({ cls := "jdk/internal/misc/Unsafe", name := "getShort", desc := "(Ljava/lang/Object;J)S" } : Jvm.MethodName) ({ cls := "jdk/internal/misc/Unsafe", name := "getShort", desc := "(Ljava/lang/Object;J)S" } : Jvm.MethodName)) ∈ lw_all := lw_g (lw_at lw_m5 167 rfl) rfl
theorem q1233 : (Jvm.Cond.native ({ cls := "jdk/internal/misc/Unsafe", name := "getShort", desc := "(Ljava/lang/Object;J)S" } : Jvm.MethodName)) ∈ lw_all := lw_g (lw_at lw_m5 168 rfl) rfl
theorem q1234 : (Jvm.Cond.constantLong "jdk/internal/misc/Unsafe" (203 : Nat) (2 : Int64)) ∈ lw_all := lw_g (lw_at lw_m5 169 rfl) rfl
theorem q1235 : (Jvm.Cond.constantLong "jdk/internal/misc/Unsafe" (702 : Nat) (6 : Int64)) ∈ lw_all := lw_g (lw_at lw_m5 170 rfl) rfl
theorem q1236 : (Jvm.Cond.methodLink "jdk/internal/misc/Unsafe" (704 : Nat) ({ cls := "jdk/internal/misc/Unsafe", name := "makeLong", desc := "(SSSS)J" } : Jvm.MethodName)) ∈ lw_all := lw_g (lw_at lw_m5 171 rfl) rfl
theorem q1237 : (Jvm.Cond.static ({ cls := "jdk/internal/misc/Unsafe", name := "makeLong", desc := "(SSSS)J" } : Jvm.MethodName)) ∈ lw_all := lw_g (lw_at lw_m5 172 rfl) rfl
theorem q1238 : (Jvm.Cond.code ({ cls := "jdk/internal/misc/Unsafe", name := "makeLong", desc := "(SSSS)J" } : Jvm.MethodName) prog_88_method_352_code (4 : Nat) (Option.some Jvm.ClassFile.FieldType.long)) ∈ lw_all := lw_g (lw_at lw_m5 173 rfl) rfl
theorem q1239 : (Jvm.Cond.methodLink "jdk/internal/misc/Unsafe" (788 : Nat) ({ cls := "jdk/internal/misc/Unsafe", name := "toUnsignedLong", desc := "(S)J" } : Jvm.MethodName)) ∈ lw_all := lw_g (lw_at lw_m5 174 rfl) rfl
theorem q1240 : (Jvm.Cond.static ({ cls := "jdk/internal/misc/Unsafe", name := "toUnsignedLong", desc := "(S)J" } : Jvm.MethodName)) ∈ lw_all := lw_g (lw_at lw_m5 175 rfl) rfl
theorem q1241 : (Jvm.Cond.code ({ cls := "jdk/internal/misc/Unsafe", name := "toUnsignedLong", desc := "(S)J" } : Jvm.MethodName) prog_88_method_369_code (1 : Nat) (Option.some Jvm.ClassFile.FieldType.long)) ∈ lw_all := lw_g (lw_at lw_m5 176 rfl) rfl
theorem q1242 : (Jvm.Cond.constantLong "jdk/internal/misc/Unsafe" (810 : Nat) (65535 : Int64)) ∈ lw_all := lw_g (lw_at lw_m5 177 rfl) rfl
theorem q1243 : (Jvm.Cond.methodLink "jdk/internal/misc/Unsafe" (39 : Nat) ({ cls := "jdk/internal/misc/Unsafe", name := "getByte", desc := "(Ljava/lang/Object;J)B" } : Jvm.MethodName)) ∈ lw_all := lw_g (lw_at lw_m5 178 rfl) rfl
theorem q1244 : (Jvm.Cond.instanceMethod ({ cls := "jdk/internal/misc/Unsafe", name := "getByte", desc := "(Ljava/lang/Object;J)B" } : Jvm.MethodName)) ∈ lw_all := lw_g (lw_at lw_m5 179 rfl) rfl
theorem q1245 : (Jvm.Cond.selects "jdk/internal/misc/Unsafe" ({ cls := "jdk/internal/misc/Unsafe", name := "getByte", desc := "(Ljava/lang/Object;J)B" } : Jvm.MethodName) ({ cls := "jdk/internal/misc/Unsafe", name := "getByte", desc := "(Ljava/lang/Object;J)B" } : Jvm.MethodName)) ∈ lw_all := lw_g (lw_at lw_m5 180 rfl) rfl
theorem q1246 : (Jvm.Cond.native ({ cls := "jdk/internal/misc/Unsafe", name := "getByte", desc := "(Ljava/lang/Object;J)B" } : Jvm.MethodName)) ∈ lw_all := lw_g (lw_at lw_m5 181 rfl) rfl
theorem q1247 : (Jvm.Cond.constantLong "jdk/internal/misc/Unsafe" (707 : Nat) (5 : Int64)) ∈ lw_all := lw_g (lw_at lw_m5 182 rfl) rfl
theorem q1248 : (Jvm.Cond.methodLink "jdk/internal/misc/Unsafe" (709 : Nat) ({ cls := "jdk/internal/misc/Unsafe", name := "makeLong", desc := "(BBBBBBBB)J" } : Jvm.MethodName)) ∈ lw_all := lw_g (lw_at lw_m5 183 rfl) rfl
theorem q1249 : (Jvm.Cond.static ({ cls := "jdk/internal/misc/Unsafe", name := "makeLong", desc := "(BBBBBBBB)J" } : Jvm.MethodName)) ∈ lw_all := lw_g (lw_at lw_m5 184 rfl) rfl
theorem q1250 : (Jvm.Cond.code ({ cls := "jdk/internal/misc/Unsafe", name := "makeLong", desc := "(BBBBBBBB)J" } : Jvm.MethodName) prog_88_method_351_code (8 : Nat) (Option.some Jvm.ClassFile.FieldType.long)) ∈ lw_all := lw_g (lw_at lw_m5 185 rfl) rfl
theorem q1251 : (Jvm.Cond.methodLink "jdk/internal/misc/Unsafe" (781 : Nat) ({ cls := "jdk/internal/misc/Unsafe", name := "toUnsignedLong", desc := "(B)J" } : Jvm.MethodName)) ∈ lw_all := lw_g (lw_at lw_m5 186 rfl) rfl
theorem q1252 : (Jvm.Cond.static ({ cls := "jdk/internal/misc/Unsafe", name := "toUnsignedLong", desc := "(B)J" } : Jvm.MethodName)) ∈ lw_all := lw_g (lw_at lw_m5 187 rfl) rfl
theorem q1253 : (Jvm.Cond.code ({ cls := "jdk/internal/misc/Unsafe", name := "toUnsignedLong", desc := "(B)J" } : Jvm.MethodName) prog_88_method_368_code (1 : Nat) (Option.some Jvm.ClassFile.FieldType.long)) ∈ lw_all := lw_g (lw_at lw_m5 188 rfl) rfl
theorem q1254 : (Jvm.Cond.constantLong "jdk/internal/misc/Unsafe" (808 : Nat) (255 : Int64)) ∈ lw_all := lw_g (lw_at lw_m5 189 rfl) rfl
theorem q1272 : (Jvm.Cond.instanceMethod ({ cls := "jdk/internal/misc/Unsafe", name := "getIntUnaligned", desc := "(Ljava/lang/Object;J)I" } : Jvm.MethodName)) ∈ lw_all := lw_g (lw_at lw_m5 207 rfl) rfl
theorem q1273 : (Jvm.Cond.selects "jdk/internal/misc/Unsafe" ({ cls := "jdk/internal/misc/Unsafe", name := "getIntUnaligned", desc := "(Ljava/lang/Object;J)I" } : Jvm.MethodName) ({ cls := "jdk/internal/misc/Unsafe", name := "getIntUnaligned", desc := "(Ljava/lang/Object;J)I" } : Jvm.MethodName)) ∈ lw_all := lw_g (lw_at lw_m5 208 rfl) rfl
theorem q1274 : (Jvm.Cond.code ({ cls := "jdk/internal/misc/Unsafe", name := "getIntUnaligned", desc := "(Ljava/lang/Object;J)I" } : Jvm.MethodName) prog_88_method_336_code (4 : Nat) (Option.some Jvm.ClassFile.FieldType.int)) ∈ lw_all := lw_g (lw_at lw_m5 209 rfl) rfl
theorem q1275 : (Jvm.Cond.methodLink "jdk/internal/misc/Unsafe" (719 : Nat) ({ cls := "jdk/internal/misc/Unsafe", name := "makeInt", desc := "(SS)I" } : Jvm.MethodName)) ∈ lw_all := lw_g (lw_at lw_m5 210 rfl) rfl
theorem q1276 : (Jvm.Cond.static ({ cls := "jdk/internal/misc/Unsafe", name := "makeInt", desc := "(SS)I" } : Jvm.MethodName)) ∈ lw_all := lw_g (lw_at lw_m5 211 rfl) rfl
theorem q1277 : (Jvm.Cond.code ({ cls := "jdk/internal/misc/Unsafe", name := "makeInt", desc := "(SS)I" } : Jvm.MethodName) prog_88_method_354_code (2 : Nat) (Option.some Jvm.ClassFile.FieldType.int)) ∈ lw_all := lw_g (lw_at lw_m5 212 rfl) rfl
theorem q1278 : (Jvm.Cond.methodLink "jdk/internal/misc/Unsafe" (792 : Nat) ({ cls := "jdk/internal/misc/Unsafe", name := "toUnsignedInt", desc := "(S)I" } : Jvm.MethodName)) ∈ lw_all := lw_g (lw_at lw_m5 213 rfl) rfl
theorem q1279 : (Jvm.Cond.static ({ cls := "jdk/internal/misc/Unsafe", name := "toUnsignedInt", desc := "(S)I" } : Jvm.MethodName)) ∈ lw_all := lw_g (lw_at lw_m5 214 rfl) rfl
theorem q1280 : (Jvm.Cond.code ({ cls := "jdk/internal/misc/Unsafe", name := "toUnsignedInt", desc := "(S)I" } : Jvm.MethodName) prog_88_method_367_code (1 : Nat) (Option.some Jvm.ClassFile.FieldType.int)) ∈ lw_all := lw_g (lw_at lw_m5 215 rfl) rfl
theorem q1281 : (Jvm.Cond.constant "jdk/internal/misc/Unsafe" (374 : Nat) (65535 : Int32)) ∈ lw_all := lw_g (lw_at lw_m5 216 rfl) rfl
theorem q1282 : (Jvm.Cond.methodLink "jdk/internal/misc/Unsafe" (723 : Nat) ({ cls := "jdk/internal/misc/Unsafe", name := "makeInt", desc := "(BBBB)I" } : Jvm.MethodName)) ∈ lw_all := lw_g (lw_at lw_m5 217 rfl) rfl
theorem q1283 : (Jvm.Cond.static ({ cls := "jdk/internal/misc/Unsafe", name := "makeInt", desc := "(BBBB)I" } : Jvm.MethodName)) ∈ lw_all := lw_g (lw_at lw_m5 218 rfl) rfl
theorem q1284 : (Jvm.Cond.code ({ cls := "jdk/internal/misc/Unsafe", name := "makeInt", desc := "(BBBB)I" } : Jvm.MethodName) prog_88_method_355_code (4 : Nat) (Option.some Jvm.ClassFile.FieldType.int)) ∈ lw_all := lw_g (lw_at lw_m5 219 rfl) rfl
theorem q1285 : (Jvm.Cond.methodLink "jdk/internal/misc/Unsafe" (796 : Nat) ({ cls := "jdk/internal/misc/Unsafe", name := "toUnsignedInt", desc := "(B)I" } : Jvm.MethodName)) ∈ lw_all := lw_g (lw_at lw_m5 220 rfl) rfl
theorem q1286 : (Jvm.Cond.static ({ cls := "jdk/internal/misc/Unsafe", name := "toUnsignedInt", desc := "(B)I" } : Jvm.MethodName)) ∈ lw_all := lw_g (lw_at lw_m5 221 rfl) rfl
theorem q1287 : (Jvm.Cond.code ({ cls := "jdk/internal/misc/Unsafe", name := "toUnsignedInt", desc := "(B)I" } : Jvm.MethodName) prog_88_method_366_code (1 : Nat) (Option.some Jvm.ClassFile.FieldType.int)) ∈ lw_all := lw_g (lw_at lw_m5 222 rfl) rfl
theorem q1392 : (Jvm.Cond.selects "jdk/internal/misc/Unsafe" ({ cls := "java/lang/Object", name := "equals", desc := "(Ljava/lang/Object;)Z" } : Jvm.MethodName) ({ cls := "java/lang/Object", name := "equals", desc := "(Ljava/lang/Object;)Z" } : Jvm.MethodName)) ∈ lw_all := lw_g (lw_at lw_m6 87 rfl) rfl
theorem q3171 : (Jvm.Cond.castable "jdk/internal/misc/Unsafe" "java/lang/Object") ∈ lw_tbl := lw_at lw_m13 186 rfl
theorem q2317 : (Jvm.Cond.interfaceMethod "LinesTouched$Counted" "LinesTouched$Counted" "as" "(LLinesTouched$Twig;)I") ∈ lw_tbl := lw_at lw_m10 52 rfl
set_option maxRecDepth 100000
theorem q2318 : (Jvm.Cond.declares ({ cls := "LinesTouched$Counted", name := "as", desc := "(LLinesTouched$Twig;)I" } : Jvm.MethodName)) ∈ lw_tbl := lw_at lw_m10 53 rfl
theorem q780 : (Jvm.Cond.interfaceMethod "LinesTouched$Meant" "LinesTouched$Meant" "is" "(I)Z") ∈ lw_tbl := lw_at lw_m3 195 rfl
set_option maxRecDepth 100000
theorem q781 : (Jvm.Cond.declares ({ cls := "LinesTouched$Meant", name := "is", desc := "(I)Z" } : Jvm.MethodName)) ∈ lw_tbl := lw_at lw_m3 196 rfl
theorem q1550 : (Jvm.Cond.interfaceMethod "LinesTouched$Rule" "LinesTouched$Rule" "does" "(II)LLinesTouched$Round;") ∈ lw_tbl := lw_at lw_m7 5 rfl
set_option maxRecDepth 100000
theorem q1551 : (Jvm.Cond.declares ({ cls := "LinesTouched$Rule", name := "does", desc := "(II)LLinesTouched$Round;" } : Jvm.MethodName)) ∈ lw_tbl := lw_at lw_m7 6 rfl
theorem q1721 : (Jvm.Cond.interfaceMethod "LinesTouched$Undo" "LinesTouched$Undo" "runs" "()V") ∈ lw_tbl := lw_at lw_m7 176 rfl
set_option maxRecDepth 100000
theorem q1722 : (Jvm.Cond.declares ({ cls := "LinesTouched$Undo", name := "runs", desc := "()V" } : Jvm.MethodName)) ∈ lw_tbl := lw_at lw_m7 177 rfl
theorem q770 : (Jvm.Cond.interfaceMethod "LinesTouched$Worth" "LinesTouched$Worth" "of" "(I)I") ∈ lw_tbl := lw_at lw_m3 185 rfl
set_option maxRecDepth 100000
theorem q771 : (Jvm.Cond.declares ({ cls := "LinesTouched$Worth", name := "of", desc := "(I)I" } : Jvm.MethodName)) ∈ lw_tbl := lw_at lw_m3 186 rfl
theorem q3183 : (Jvm.Cond.castable "[B" "java/lang/Object") ∈ lw_tbl := lw_at lw_m13 198 rfl
set_option maxRecDepth 100000
theorem q3181 : (Jvm.Cond.castable "[I" "java/lang/Object") ∈ lw_tbl := lw_at lw_m13 196 rfl
set_option maxRecDepth 100000
theorem q3192 : (Jvm.Cond.castable "[J" "java/lang/Object") ∈ lw_tbl := lw_at lw_m13 207 rfl
set_option maxRecDepth 100000
theorem q3185 : (Jvm.Cond.castable "[LLinesTouched$Node;" "java/lang/Object") ∈ lw_tbl := lw_at lw_m13 200 rfl
set_option maxRecDepth 100000
theorem q3180 : (Jvm.Cond.castable "[LLinesTouched$Point;" "java/lang/Object") ∈ lw_tbl := lw_at lw_m13 195 rfl
set_option maxRecDepth 100000
theorem q3184 : (Jvm.Cond.castable "[LLinesTouched$Round;" "java/lang/Object") ∈ lw_tbl := lw_at lw_m13 199 rfl
set_option maxRecDepth 100000
theorem q3182 : (Jvm.Cond.castable "[LLinesTouched$Rule;" "java/lang/Object") ∈ lw_tbl := lw_at lw_m13 197 rfl
set_option maxRecDepth 100000
theorem q3187 : (Jvm.Cond.castable "[LLinesTouched$Slot;" "java/lang/Object") ∈ lw_tbl := lw_at lw_m13 202 rfl
set_option maxRecDepth 100000
theorem q3191 : (Jvm.Cond.castable "[LLinesTouched$Tally;" "java/lang/Object") ∈ lw_tbl := lw_at lw_m13 206 rfl
set_option maxRecDepth 100000
theorem q3190 : (Jvm.Cond.castable "[LLinesTouched$Twig;" "java/lang/Object") ∈ lw_tbl := lw_at lw_m13 205 rfl
set_option maxRecDepth 100000
theorem q3177 : (Jvm.Cond.sameMethod "[Ljava/lang/Object;" "java/lang/Object" "getClass" "()Ljava/lang/Class;") ∈ lw_all := lw_g (lw_at lw_m13 192 rfl) rfl
set_option maxRecDepth 100000
theorem q3178 : (Jvm.Cond.selects "[Ljava/lang/Object;" ({ cls := "java/lang/Object", name := "getClass", desc := "()Ljava/lang/Class;" } : Jvm.MethodName) ({ cls := "java/lang/Object", name := "getClass", desc := "()Ljava/lang/Class;" } : Jvm.MethodName)) ∈ lw_all := lw_g (lw_at lw_m13 193 rfl) rfl
theorem q3194 : (Jvm.Cond.castable "[Ljava/lang/Object;" "java/lang/Object") ∈ lw_tbl := lw_at lw_m13 209 rfl
theorem q3189 : (Jvm.Cond.castable "[Ljava/lang/String;" "java/lang/Object") ∈ lw_tbl := lw_at lw_m13 204 rfl
set_option maxRecDepth 100000
theorem q3188 : (Jvm.Cond.castable "[Ljava/util/HashMap$Node;" "java/lang/Object") ∈ lw_tbl := lw_at lw_m13 203 rfl
set_option maxRecDepth 100000
theorem q3186 : (Jvm.Cond.castable "[S" "java/lang/Object") ∈ lw_tbl := lw_at lw_m13 201 rfl
set_option maxRecDepth 100000
theorem q3193 : (Jvm.Cond.castable "[Z" "java/lang/Object") ∈ lw_tbl := lw_at lw_m13 208 rfl
set_option maxRecDepth 100000
theorem q1151 : (Jvm.Cond.interfaceMethod "java/lang/Comparable" "java/lang/Comparable" "compareTo" "(Ljava/lang/Object;)I") ∈ lw_tbl := lw_at lw_m5 86 rfl
set_option maxRecDepth 100000
theorem q1152 : (Jvm.Cond.declares ({ cls := "java/lang/Comparable", name := "compareTo", desc := "(Ljava/lang/Object;)I" } : Jvm.MethodName)) ∈ lw_tbl := lw_at lw_m5 87 rfl
theorem q150 : (Jvm.Cond.initialized "java/lang/Integer$IntegerCache") ∈ lw_all := lw_g (lw_at lw_m1 45 rfl) rfl
set_option maxRecDepth 100000
theorem q1847 : (Jvm.Cond.laysStatic "java/lang/Integer$IntegerCache" "high" "I") ∈ lw_tbl := lw_at lw_m8 62 rfl
theorem q1849 : (Jvm.Cond.laysStatic "java/lang/Integer$IntegerCache" "cache" "[Ljava/lang/Integer;") ∈ lw_tbl := lw_at lw_m8 64 rfl
theorem q164 : (Jvm.Cond.initialized "java/lang/System") ∈ lw_all := lw_g (lw_at lw_m1 59 rfl) rfl
set_option maxRecDepth 100000
theorem q2393 : (Jvm.Cond.static ({ cls := "java/lang/System", name := "arraycopy", desc := "(Ljava/lang/Object;ILjava/lang/Object;II)V" } : Jvm.MethodName)) ∈ lw_all := lw_g (lw_at lw_m10 128 rfl) rfl
theorem q2394 : (Jvm.Cond.native ({ cls := "java/lang/System", name := "arraycopy", desc := "(Ljava/lang/Object;ILjava/lang/Object;II)V" } : Jvm.MethodName)) ∈ lw_all := lw_g (lw_at lw_m10 129 rfl) rfl
theorem q1890 : (Jvm.Cond.interfaceMethod "java/util/Collection" "java/util/Collection" "iterator" "()Ljava/util/Iterator;") ∈ lw_tbl := lw_at lw_m8 105 rfl
set_option maxRecDepth 100000
theorem q1891 : (Jvm.Cond.declares ({ cls := "java/util/Collection", name := "iterator", desc := "()Ljava/util/Iterator;" } : Jvm.MethodName)) ∈ lw_tbl := lw_at lw_m8 106 rfl
theorem q2026 : (Jvm.Cond.interfaceMethod "java/util/Iterator" "java/util/Iterator" "hasNext" "()Z") ∈ lw_tbl := lw_at lw_m9 1 rfl
set_option maxRecDepth 100000
theorem q2027 : (Jvm.Cond.declares ({ cls := "java/util/Iterator", name := "hasNext", desc := "()Z" } : Jvm.MethodName)) ∈ lw_tbl := lw_at lw_m9 2 rfl
theorem q2045 : (Jvm.Cond.interfaceMethod "java/util/Iterator" "java/util/Iterator" "next" "()Ljava/lang/Object;") ∈ lw_tbl := lw_at lw_m9 20 rfl
theorem q2046 : (Jvm.Cond.declares ({ cls := "java/util/Iterator", name := "next", desc := "()Ljava/lang/Object;" } : Jvm.MethodName)) ∈ lw_tbl := lw_at lw_m9 21 rfl
theorem q1967 : (Jvm.Cond.interfaceMethod "java/util/Set" "java/util/Set" "iterator" "()Ljava/util/Iterator;") ∈ lw_tbl := lw_at lw_m8 182 rfl
set_option maxRecDepth 100000
theorem q1968 : (Jvm.Cond.declares ({ cls := "java/util/Set", name := "iterator", desc := "()Ljava/util/Iterator;" } : Jvm.MethodName)) ∈ lw_tbl := lw_at lw_m8 183 rfl
theorem q950 : (Jvm.Cond.interfaceMethod "jdk/internal/access/JavaLangAccess" "jdk/internal/access/JavaLangAccess" "getUTF16Char" "([BI)C") ∈ lw_tbl := lw_at lw_m4 125 rfl
set_option maxRecDepth 100000
theorem q951 : (Jvm.Cond.declares ({ cls := "jdk/internal/access/JavaLangAccess", name := "getUTF16Char", desc := "([BI)C" } : Jvm.MethodName)) ∈ lw_tbl := lw_at lw_m4 126 rfl
theorem q139 : (Jvm.Cond.initialized "jdk/internal/misc/UnsafeConstants") ∈ lw_all := lw_g (lw_at lw_m1 34 rfl) rfl
set_option maxRecDepth 100000
theorem q1229 : (Jvm.Cond.laysStatic "jdk/internal/misc/UnsafeConstants" "BIG_ENDIAN" "Z") ∈ lw_tbl := lw_at lw_m5 164 rfl
theorem q184 : (Jvm.Cond.arrayOver (Jvm.ClassFile.FieldType.object "LinesTouched$Point")) ∈ lw_tbl := lw_at lw_m1 79 rfl
set_option maxRecDepth 100000
theorem q204 : (Jvm.Cond.arrayClass Jvm.ClassFile.FieldType.int) ∈ lw_all := lw_g (lw_at lw_m1 99 rfl) rfl
theorem q206 : (Jvm.Cond.arrayOver (Jvm.ClassFile.FieldType.object "LinesTouched$Rule")) ∈ lw_tbl := lw_at lw_m1 101 rfl
theorem q245 : (Jvm.Cond.arrayClass Jvm.ClassFile.FieldType.byte) ∈ lw_all := lw_g (lw_at lw_m1 140 rfl) rfl
theorem q302 : (Jvm.Cond.arrayOver (Jvm.ClassFile.FieldType.object "LinesTouched$Round")) ∈ lw_tbl := lw_at lw_m1 197 rfl
theorem q304 : (Jvm.Cond.arrayOver (Jvm.ClassFile.FieldType.object "LinesTouched$Node")) ∈ lw_tbl := lw_at lw_m1 199 rfl
theorem q366 : (Jvm.Cond.arrayClass Jvm.ClassFile.FieldType.short) ∈ lw_all := lw_g (lw_at lw_m2 21 rfl) rfl
theorem q368 : (Jvm.Cond.arrayOver (Jvm.ClassFile.FieldType.object "LinesTouched$Slot")) ∈ lw_tbl := lw_at lw_m2 23 rfl
theorem q1009 : (Jvm.Cond.arrayOver (Jvm.ClassFile.FieldType.object "java/util/HashMap$Node")) ∈ lw_tbl := lw_at lw_m4 184 rfl
theorem q2129 : (Jvm.Cond.arrayOver (Jvm.ClassFile.FieldType.object "java/lang/String")) ∈ lw_tbl := lw_at lw_m9 104 rfl
theorem q2137 : (Jvm.Cond.arrayOver (Jvm.ClassFile.FieldType.object "LinesTouched$Twig")) ∈ lw_tbl := lw_at lw_m9 112 rfl
theorem q2329 : (Jvm.Cond.arrayOver (Jvm.ClassFile.FieldType.object "LinesTouched$Tally")) ∈ lw_tbl := lw_at lw_m10 64 rfl
theorem q2351 : (Jvm.Cond.arrayClass Jvm.ClassFile.FieldType.long) ∈ lw_all := lw_g (lw_at lw_m10 86 rfl) rfl
theorem q2360 : (Jvm.Cond.arrayClass Jvm.ClassFile.FieldType.boolean) ∈ lw_all := lw_g (lw_at lw_m10 95 rfl) rfl
theorem q3176 : (Jvm.Cond.arrayOver (Jvm.ClassFile.FieldType.object "java/lang/Object")) ∈ lw_tbl := lw_at lw_m13 191 rfl
theorem q3195 : (Jvm.Cond.arrayClass Jvm.ClassFile.FieldType.char) ∈ lw_all := lw_g (lw_at lw_m13 210 rfl) rfl
