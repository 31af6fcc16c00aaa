/-! RatSorters$Tokens -/
set_option maxRecDepth 100000
def RX2 : String := "RatSorters$Tokens"
def TX2 : u_T := fun k => match k with
  | 0 => ("RatSorters$Tokens", "words", "[Ljava/lang/String;", true)
  | 1 => ("RatSorters$Tokens", "tape", "[B", true)
  | 2 => ("RatSorters$Tokens", "taped", "I", false)
  | 3 => ("RatSorters$Tokens", "sort", "[B", true)
  | 4 => ("RatSorters$Tokens", "from", "[S", true)
  | 5 => ("RatSorters$Tokens", "to", "[S", true)
  | 6 => ("RatSorters$Tokens", "what", "[S", true)
  | _ => ("RatSorters$Tokens", "many", "I", false)
def tyX2 : Nat → FieldType := fun k => match k with
  | 0 => .array (.object "java/lang/String")
  | 1 => .array .byte
  | 2 => .int
  | 3 => .array .byte
  | 4 => .array .short
  | 5 => .array .short
  | 6 => .array .short
  | _ => .int
abbrev wsX20 : List Cond := u_ws RX2 TX2 8
theorem nmX2 : ∀ a, a < 8 → ∀ b, b < 8 → a ≠ b → (TX2 a).2.1 ≠ (TX2 b).2.1 := by decide +kernel
theorem tyX2_ok : ∀ k, k < 8 → parseFieldDescriptor (TX2 k).2.2.1 = some (tyX2 k) := by decide +kernel
abbrev cX2_init : ByteArray := prog_20_method_1_code
def yX2_init : MethodName := ⟨RX2, "<init>", "()V"⟩
def dkwX2_init_7 : List UInt8 := [17, 7, 209, 188, 9, 181, 0, 71, 177]
abbrev dktX2_init_7 : List UInt8 := dkwX2_init_7 ++ []
def dkwX2_init_6 : List UInt8 := [181, 0, 61, 42, 17, 7, 209, 188, 9, 181, 0, 64, 42, 17, 7, 209, 188, 9, 181, 0, 68, 42]
abbrev dktX2_init_6 : List UInt8 := dkwX2_init_6 ++ dktX2_init_7
def dkwX2_init_5 : List UInt8 := [16, 19, 18, 49, 83, 181, 0, 51, 42, 17, 7, 208, 188, 8, 181, 0, 57, 42, 17, 7, 209, 188, 8]
abbrev dktX2_init_5 : List UInt8 := dkwX2_init_5 ++ dktX2_init_6
def dkwX2_init_4 : List UInt8 := [16, 15, 18, 41, 83, 89, 16, 16, 18, 43, 83, 89, 16, 17, 18, 45, 83, 89, 16, 18, 18, 47, 83, 89]
abbrev dktX2_init_4 : List UInt8 := dkwX2_init_4 ++ dktX2_init_5
def dkwX2_init_3 : List UInt8 := [16, 11, 18, 33, 83, 89, 16, 12, 18, 35, 83, 89, 16, 13, 18, 37, 83, 89, 16, 14, 18, 39, 83, 89]
abbrev dktX2_init_3 : List UInt8 := dkwX2_init_3 ++ dktX2_init_4
def dkwX2_init_2 : List UInt8 := [16, 7, 18, 25, 83, 89, 16, 8, 18, 27, 83, 89, 16, 9, 18, 29, 83, 89, 16, 10, 18, 31, 83, 89]
abbrev dktX2_init_2 : List UInt8 := dkwX2_init_2 ++ dktX2_init_3
def dkwX2_init_1 : List UInt8 := [83, 89, 6, 18, 17, 83, 89, 7, 18, 19, 83, 89, 8, 18, 21, 83, 89, 16, 6, 18, 23, 83, 89]
abbrev dktX2_init_1 : List UInt8 := dkwX2_init_1 ++ dktX2_init_2
def dkwX2_init_0 : List UInt8 := [42, 183, 0, 3, 42, 16, 20, 189, 0, 9, 89, 3, 18, 11, 83, 89, 4, 18, 13, 83, 89, 5, 18, 15]
abbrev dktX2_init_0 : List UInt8 := dkwX2_init_0 ++ dktX2_init_1
theorem dksX2_init_0 : cX2_init.data.toList.drop 0 = dktX2_init_0 := by decide +kernel
theorem dksX2_init_1 : cX2_init.data.toList.drop 24 = dktX2_init_1 := dk_seg dksX2_init_0 24 rfl rfl
theorem dksX2_init_2 : cX2_init.data.toList.drop 47 = dktX2_init_2 := dk_seg dksX2_init_1 23 rfl rfl
theorem dksX2_init_3 : cX2_init.data.toList.drop 71 = dktX2_init_3 := dk_seg dksX2_init_2 24 rfl rfl
theorem dksX2_init_4 : cX2_init.data.toList.drop 95 = dktX2_init_4 := dk_seg dksX2_init_3 24 rfl rfl
theorem dksX2_init_5 : cX2_init.data.toList.drop 119 = dktX2_init_5 := dk_seg dksX2_init_4 24 rfl rfl
theorem dksX2_init_6 : cX2_init.data.toList.drop 142 = dktX2_init_6 := dk_seg dksX2_init_5 23 rfl rfl
theorem dksX2_init_7 : cX2_init.data.toList.drop 164 = dktX2_init_7 := dk_seg dksX2_init_6 22 rfl rfl
theorem dX2_init_0 : decode cX2_init 0 = .ok (.aload_n 0, 1) := dk_42 (dk_at dksX2_init_0 0 rfl rfl)
theorem dX2_init_1 : decode cX2_init 1 = .ok (.invokespecial 3, 3) := dk_183 0 3 (dk_at dksX2_init_0 1 rfl rfl)
theorem dX2_init_4 : decode cX2_init 4 = .ok (.aload_n 0, 1) := dk_42 (dk_at dksX2_init_0 4 rfl rfl)
theorem dX2_init_5 : decode cX2_init 5 = .ok (.bipush 20, 2) := dk_16 20 (dk_at dksX2_init_0 5 rfl rfl)
theorem dX2_init_7 : decode cX2_init 7 = .ok (.anewarray 9, 3) := dk_189 0 9 (dk_at dksX2_init_0 7 rfl rfl)
theorem dX2_init_10 : decode cX2_init 10 = .ok (.dup, 1) := dk_89 (dk_at dksX2_init_0 10 rfl rfl)
theorem dX2_init_11 : decode cX2_init 11 = .ok (.iconst 0, 1) := dk_3 (dk_at dksX2_init_0 11 rfl rfl)
theorem dX2_init_12 : decode cX2_init 12 = .ok (.ldc 11, 2) := dk_18 11 (dk_at dksX2_init_0 12 rfl rfl)
theorem dX2_init_14 : decode cX2_init 14 = .ok (.aastore, 1) := dk_83 (dk_at dksX2_init_0 14 rfl rfl)
theorem dX2_init_15 : decode cX2_init 15 = .ok (.dup, 1) := dk_89 (dk_at dksX2_init_0 15 rfl rfl)
theorem dX2_init_16 : decode cX2_init 16 = .ok (.iconst 1, 1) := dk_4 (dk_at dksX2_init_0 16 rfl rfl)
theorem dX2_init_17 : decode cX2_init 17 = .ok (.ldc 13, 2) := dk_18 13 (dk_at dksX2_init_0 17 rfl rfl)
theorem dX2_init_19 : decode cX2_init 19 = .ok (.aastore, 1) := dk_83 (dk_at dksX2_init_0 19 rfl rfl)
theorem dX2_init_20 : decode cX2_init 20 = .ok (.dup, 1) := dk_89 (dk_at dksX2_init_0 20 rfl rfl)
theorem dX2_init_21 : decode cX2_init 21 = .ok (.iconst 2, 1) := dk_5 (dk_at dksX2_init_0 21 rfl rfl)
theorem dX2_init_22 : decode cX2_init 22 = .ok (.ldc 15, 2) := dk_18 15 (dk_at dksX2_init_0 22 rfl rfl)
theorem dX2_init_24 : decode cX2_init 24 = .ok (.aastore, 1) := dk_83 (dk_at dksX2_init_1 0 rfl rfl)
theorem dX2_init_25 : decode cX2_init 25 = .ok (.dup, 1) := dk_89 (dk_at dksX2_init_1 1 rfl rfl)
theorem dX2_init_26 : decode cX2_init 26 = .ok (.iconst 3, 1) := dk_6 (dk_at dksX2_init_1 2 rfl rfl)
theorem dX2_init_27 : decode cX2_init 27 = .ok (.ldc 17, 2) := dk_18 17 (dk_at dksX2_init_1 3 rfl rfl)
theorem dX2_init_29 : decode cX2_init 29 = .ok (.aastore, 1) := dk_83 (dk_at dksX2_init_1 5 rfl rfl)
theorem dX2_init_30 : decode cX2_init 30 = .ok (.dup, 1) := dk_89 (dk_at dksX2_init_1 6 rfl rfl)
theorem dX2_init_31 : decode cX2_init 31 = .ok (.iconst 4, 1) := dk_7 (dk_at dksX2_init_1 7 rfl rfl)
theorem dX2_init_32 : decode cX2_init 32 = .ok (.ldc 19, 2) := dk_18 19 (dk_at dksX2_init_1 8 rfl rfl)
theorem dX2_init_34 : decode cX2_init 34 = .ok (.aastore, 1) := dk_83 (dk_at dksX2_init_1 10 rfl rfl)
theorem dX2_init_35 : decode cX2_init 35 = .ok (.dup, 1) := dk_89 (dk_at dksX2_init_1 11 rfl rfl)
theorem dX2_init_36 : decode cX2_init 36 = .ok (.iconst 5, 1) := dk_8 (dk_at dksX2_init_1 12 rfl rfl)
theorem dX2_init_37 : decode cX2_init 37 = .ok (.ldc 21, 2) := dk_18 21 (dk_at dksX2_init_1 13 rfl rfl)
theorem dX2_init_39 : decode cX2_init 39 = .ok (.aastore, 1) := dk_83 (dk_at dksX2_init_1 15 rfl rfl)
theorem dX2_init_40 : decode cX2_init 40 = .ok (.dup, 1) := dk_89 (dk_at dksX2_init_1 16 rfl rfl)
theorem dX2_init_41 : decode cX2_init 41 = .ok (.bipush 6, 2) := dk_16 6 (dk_at dksX2_init_1 17 rfl rfl)
theorem dX2_init_43 : decode cX2_init 43 = .ok (.ldc 23, 2) := dk_18 23 (dk_at dksX2_init_1 19 rfl rfl)
theorem dX2_init_45 : decode cX2_init 45 = .ok (.aastore, 1) := dk_83 (dk_at dksX2_init_1 21 rfl rfl)
theorem dX2_init_46 : decode cX2_init 46 = .ok (.dup, 1) := dk_89 (dk_at dksX2_init_1 22 rfl rfl)
theorem dX2_init_47 : decode cX2_init 47 = .ok (.bipush 7, 2) := dk_16 7 (dk_at dksX2_init_2 0 rfl rfl)
theorem dX2_init_49 : decode cX2_init 49 = .ok (.ldc 25, 2) := dk_18 25 (dk_at dksX2_init_2 2 rfl rfl)
theorem dX2_init_51 : decode cX2_init 51 = .ok (.aastore, 1) := dk_83 (dk_at dksX2_init_2 4 rfl rfl)
theorem dX2_init_52 : decode cX2_init 52 = .ok (.dup, 1) := dk_89 (dk_at dksX2_init_2 5 rfl rfl)
theorem dX2_init_53 : decode cX2_init 53 = .ok (.bipush 8, 2) := dk_16 8 (dk_at dksX2_init_2 6 rfl rfl)
theorem dX2_init_55 : decode cX2_init 55 = .ok (.ldc 27, 2) := dk_18 27 (dk_at dksX2_init_2 8 rfl rfl)
theorem dX2_init_57 : decode cX2_init 57 = .ok (.aastore, 1) := dk_83 (dk_at dksX2_init_2 10 rfl rfl)
theorem dX2_init_58 : decode cX2_init 58 = .ok (.dup, 1) := dk_89 (dk_at dksX2_init_2 11 rfl rfl)
theorem dX2_init_59 : decode cX2_init 59 = .ok (.bipush 9, 2) := dk_16 9 (dk_at dksX2_init_2 12 rfl rfl)
theorem dX2_init_61 : decode cX2_init 61 = .ok (.ldc 29, 2) := dk_18 29 (dk_at dksX2_init_2 14 rfl rfl)
theorem dX2_init_63 : decode cX2_init 63 = .ok (.aastore, 1) := dk_83 (dk_at dksX2_init_2 16 rfl rfl)
theorem dX2_init_64 : decode cX2_init 64 = .ok (.dup, 1) := dk_89 (dk_at dksX2_init_2 17 rfl rfl)
theorem dX2_init_65 : decode cX2_init 65 = .ok (.bipush 10, 2) := dk_16 10 (dk_at dksX2_init_2 18 rfl rfl)
theorem dX2_init_67 : decode cX2_init 67 = .ok (.ldc 31, 2) := dk_18 31 (dk_at dksX2_init_2 20 rfl rfl)
theorem dX2_init_69 : decode cX2_init 69 = .ok (.aastore, 1) := dk_83 (dk_at dksX2_init_2 22 rfl rfl)
theorem dX2_init_70 : decode cX2_init 70 = .ok (.dup, 1) := dk_89 (dk_at dksX2_init_2 23 rfl rfl)
theorem dX2_init_71 : decode cX2_init 71 = .ok (.bipush 11, 2) := dk_16 11 (dk_at dksX2_init_3 0 rfl rfl)
theorem dX2_init_73 : decode cX2_init 73 = .ok (.ldc 33, 2) := dk_18 33 (dk_at dksX2_init_3 2 rfl rfl)
theorem dX2_init_75 : decode cX2_init 75 = .ok (.aastore, 1) := dk_83 (dk_at dksX2_init_3 4 rfl rfl)
theorem dX2_init_76 : decode cX2_init 76 = .ok (.dup, 1) := dk_89 (dk_at dksX2_init_3 5 rfl rfl)
theorem dX2_init_77 : decode cX2_init 77 = .ok (.bipush 12, 2) := dk_16 12 (dk_at dksX2_init_3 6 rfl rfl)
theorem dX2_init_79 : decode cX2_init 79 = .ok (.ldc 35, 2) := dk_18 35 (dk_at dksX2_init_3 8 rfl rfl)
theorem dX2_init_81 : decode cX2_init 81 = .ok (.aastore, 1) := dk_83 (dk_at dksX2_init_3 10 rfl rfl)
theorem dX2_init_82 : decode cX2_init 82 = .ok (.dup, 1) := dk_89 (dk_at dksX2_init_3 11 rfl rfl)
theorem dX2_init_83 : decode cX2_init 83 = .ok (.bipush 13, 2) := dk_16 13 (dk_at dksX2_init_3 12 rfl rfl)
theorem dX2_init_85 : decode cX2_init 85 = .ok (.ldc 37, 2) := dk_18 37 (dk_at dksX2_init_3 14 rfl rfl)
theorem dX2_init_87 : decode cX2_init 87 = .ok (.aastore, 1) := dk_83 (dk_at dksX2_init_3 16 rfl rfl)
theorem dX2_init_88 : decode cX2_init 88 = .ok (.dup, 1) := dk_89 (dk_at dksX2_init_3 17 rfl rfl)
theorem dX2_init_89 : decode cX2_init 89 = .ok (.bipush 14, 2) := dk_16 14 (dk_at dksX2_init_3 18 rfl rfl)
theorem dX2_init_91 : decode cX2_init 91 = .ok (.ldc 39, 2) := dk_18 39 (dk_at dksX2_init_3 20 rfl rfl)
theorem dX2_init_93 : decode cX2_init 93 = .ok (.aastore, 1) := dk_83 (dk_at dksX2_init_3 22 rfl rfl)
theorem dX2_init_94 : decode cX2_init 94 = .ok (.dup, 1) := dk_89 (dk_at dksX2_init_3 23 rfl rfl)
theorem dX2_init_95 : decode cX2_init 95 = .ok (.bipush 15, 2) := dk_16 15 (dk_at dksX2_init_4 0 rfl rfl)
theorem dX2_init_97 : decode cX2_init 97 = .ok (.ldc 41, 2) := dk_18 41 (dk_at dksX2_init_4 2 rfl rfl)
theorem dX2_init_99 : decode cX2_init 99 = .ok (.aastore, 1) := dk_83 (dk_at dksX2_init_4 4 rfl rfl)
theorem dX2_init_100 : decode cX2_init 100 = .ok (.dup, 1) := dk_89 (dk_at dksX2_init_4 5 rfl rfl)
theorem dX2_init_101 : decode cX2_init 101 = .ok (.bipush 16, 2) := dk_16 16 (dk_at dksX2_init_4 6 rfl rfl)
theorem dX2_init_103 : decode cX2_init 103 = .ok (.ldc 43, 2) := dk_18 43 (dk_at dksX2_init_4 8 rfl rfl)
theorem dX2_init_105 : decode cX2_init 105 = .ok (.aastore, 1) := dk_83 (dk_at dksX2_init_4 10 rfl rfl)
theorem dX2_init_106 : decode cX2_init 106 = .ok (.dup, 1) := dk_89 (dk_at dksX2_init_4 11 rfl rfl)
theorem dX2_init_107 : decode cX2_init 107 = .ok (.bipush 17, 2) := dk_16 17 (dk_at dksX2_init_4 12 rfl rfl)
theorem dX2_init_109 : decode cX2_init 109 = .ok (.ldc 45, 2) := dk_18 45 (dk_at dksX2_init_4 14 rfl rfl)
theorem dX2_init_111 : decode cX2_init 111 = .ok (.aastore, 1) := dk_83 (dk_at dksX2_init_4 16 rfl rfl)
theorem dX2_init_112 : decode cX2_init 112 = .ok (.dup, 1) := dk_89 (dk_at dksX2_init_4 17 rfl rfl)
theorem dX2_init_113 : decode cX2_init 113 = .ok (.bipush 18, 2) := dk_16 18 (dk_at dksX2_init_4 18 rfl rfl)
theorem dX2_init_115 : decode cX2_init 115 = .ok (.ldc 47, 2) := dk_18 47 (dk_at dksX2_init_4 20 rfl rfl)
theorem dX2_init_117 : decode cX2_init 117 = .ok (.aastore, 1) := dk_83 (dk_at dksX2_init_4 22 rfl rfl)
theorem dX2_init_118 : decode cX2_init 118 = .ok (.dup, 1) := dk_89 (dk_at dksX2_init_4 23 rfl rfl)
theorem dX2_init_119 : decode cX2_init 119 = .ok (.bipush 19, 2) := dk_16 19 (dk_at dksX2_init_5 0 rfl rfl)
theorem dX2_init_121 : decode cX2_init 121 = .ok (.ldc 49, 2) := dk_18 49 (dk_at dksX2_init_5 2 rfl rfl)
theorem dX2_init_123 : decode cX2_init 123 = .ok (.aastore, 1) := dk_83 (dk_at dksX2_init_5 4 rfl rfl)
theorem dX2_init_124 : decode cX2_init 124 = .ok (.putfield 51, 3) := dk_181 0 51 (dk_at dksX2_init_5 5 rfl rfl)
theorem dX2_init_127 : decode cX2_init 127 = .ok (.aload_n 0, 1) := dk_42 (dk_at dksX2_init_5 8 rfl rfl)
theorem dX2_init_128 : decode cX2_init 128 = .ok (.sipush 2000, 3) := dk_17 7 208 (dk_at dksX2_init_5 9 rfl rfl)
theorem dX2_init_131 : decode cX2_init 131 = .ok (.newarray .byte, 2) := dk_188_8 (dk_at dksX2_init_5 12 rfl rfl)
theorem dX2_init_133 : decode cX2_init 133 = .ok (.putfield 57, 3) := dk_181 0 57 (dk_at dksX2_init_5 14 rfl rfl)
theorem dX2_init_136 : decode cX2_init 136 = .ok (.aload_n 0, 1) := dk_42 (dk_at dksX2_init_5 17 rfl rfl)
theorem dX2_init_137 : decode cX2_init 137 = .ok (.sipush 2001, 3) := dk_17 7 209 (dk_at dksX2_init_5 18 rfl rfl)
theorem dX2_init_140 : decode cX2_init 140 = .ok (.newarray .byte, 2) := dk_188_8 (dk_at dksX2_init_5 21 rfl rfl)
theorem dX2_init_142 : decode cX2_init 142 = .ok (.putfield 61, 3) := dk_181 0 61 (dk_at dksX2_init_6 0 rfl rfl)
theorem dX2_init_145 : decode cX2_init 145 = .ok (.aload_n 0, 1) := dk_42 (dk_at dksX2_init_6 3 rfl rfl)
theorem dX2_init_146 : decode cX2_init 146 = .ok (.sipush 2001, 3) := dk_17 7 209 (dk_at dksX2_init_6 4 rfl rfl)
theorem dX2_init_149 : decode cX2_init 149 = .ok (.newarray .short, 2) := dk_188_9 (dk_at dksX2_init_6 7 rfl rfl)
theorem dX2_init_151 : decode cX2_init 151 = .ok (.putfield 64, 3) := dk_181 0 64 (dk_at dksX2_init_6 9 rfl rfl)
theorem dX2_init_154 : decode cX2_init 154 = .ok (.aload_n 0, 1) := dk_42 (dk_at dksX2_init_6 12 rfl rfl)
theorem dX2_init_155 : decode cX2_init 155 = .ok (.sipush 2001, 3) := dk_17 7 209 (dk_at dksX2_init_6 13 rfl rfl)
theorem dX2_init_158 : decode cX2_init 158 = .ok (.newarray .short, 2) := dk_188_9 (dk_at dksX2_init_6 16 rfl rfl)
theorem dX2_init_160 : decode cX2_init 160 = .ok (.putfield 68, 3) := dk_181 0 68 (dk_at dksX2_init_6 18 rfl rfl)
theorem dX2_init_163 : decode cX2_init 163 = .ok (.aload_n 0, 1) := dk_42 (dk_at dksX2_init_6 21 rfl rfl)
theorem dX2_init_164 : decode cX2_init 164 = .ok (.sipush 2001, 3) := dk_17 7 209 (dk_at dksX2_init_7 0 rfl rfl)
theorem dX2_init_167 : decode cX2_init 167 = .ok (.newarray .short, 2) := dk_188_9 (dk_at dksX2_init_7 3 rfl rfl)
theorem dX2_init_169 : decode cX2_init 169 = .ok (.putfield 71, 3) := dk_181 0 71 (dk_at dksX2_init_7 5 rfl rfl)
theorem dX2_init_172 : decode cX2_init 172 = .ok (.return_, 1) := dk_177 (dk_at dksX2_init_7 8 rfl rfl)
abbrev cX2_read : ByteArray := prog_20_method_8_code
def yX2_read : MethodName := ⟨RX2, "read", "()V"⟩
def dkwX2_read_9 : List UInt8 := [61, 21, 4, 60, 167, 255, 53, 28, 153, 0, 11, 42, 7, 27, 27, 3, 182, 0, 107, 177]
abbrev dktX2_read_9 : List UInt8 := dkwX2_read_9 ++ []
def dkwX2_read_8 : List UInt8 := [54, 5, 42, 21, 5, 27, 21, 4, 21, 6, 182, 0, 107, 21, 5, 8, 159, 0, 7, 4, 167, 0, 4, 3]
abbrev dktX2_read_8 : List UInt8 := dkwX2_read_8 ++ dktX2_read_9
def dkwX2_read_7 : List UInt8 := [4, 54, 5, 167, 0, 22, 42, 27, 182, 0, 104, 54, 6, 21, 6, 154, 0, 7, 8, 167, 0, 4, 5]
abbrev dktX2_read_7 : List UInt8 := dkwX2_read_7 ++ dktX2_read_8
def dkwX2_read_6 : List UInt8 := [182, 0, 101, 153, 0, 9, 132, 4, 1, 167, 255, 244, 21, 4, 27, 100, 7, 164, 0, 7, 8, 167, 0, 4]
abbrev dktX2_read_6 : List UInt8 := dkwX2_read_6 ++ dktX2_read_7
def dkwX2_read_5 : List UInt8 := [164, 0, 7, 8, 167, 0, 4, 3, 54, 5, 167, 0, 63, 42, 27, 182, 0, 101, 153, 0, 36, 42, 21, 4]
abbrev dktX2_read_5 : List UInt8 := dkwX2_read_5 ++ dktX2_read_6
def dkwX2_read_4 : List UInt8 := [21, 4, 182, 0, 97, 54, 6, 21, 6, 155, 0, 7, 6, 167, 0, 17, 21, 4, 27, 100, 16, 8]
abbrev dktX2_read_4 : List UInt8 := dkwX2_read_4 ++ dktX2_read_5
def dkwX2_read_3 : List UInt8 := [182, 0, 93, 153, 0, 55, 42, 21, 4, 182, 0, 93, 153, 0, 9, 132, 4, 1, 167, 255, 244, 42, 27]
abbrev dktX2_read_3 : List UInt8 := dkwX2_read_3 ++ dktX2_read_4
def dkwX2_read_2 : List UInt8 := [16, 10, 159, 0, 9, 29, 16, 13, 160, 0, 9, 132, 1, 1, 167, 255, 205, 3, 54, 6, 42, 27]
abbrev dktX2_read_2 : List UInt8 := dkwX2_read_2 ++ dktX2_read_3
def dkwX2_read_1 : List UInt8 := [180, 0, 57, 27, 51, 62, 27, 4, 96, 54, 4, 29, 16, 32, 159, 0, 21, 29, 16, 9, 159, 0, 15, 29]
abbrev dktX2_read_1 : List UInt8 := dkwX2_read_1 ++ dktX2_read_2
def dkwX2_read_0 : List UInt8 := [42, 3, 181, 0, 82, 3, 60, 4, 61, 27, 42, 180, 0, 74, 162, 0, 201, 28, 153, 0, 197, 42]
abbrev dktX2_read_0 : List UInt8 := dkwX2_read_0 ++ dktX2_read_1
theorem dksX2_read_0 : cX2_read.data.toList.drop 0 = dktX2_read_0 := by decide +kernel
theorem dksX2_read_1 : cX2_read.data.toList.drop 22 = dktX2_read_1 := dk_seg dksX2_read_0 22 rfl rfl
theorem dksX2_read_2 : cX2_read.data.toList.drop 46 = dktX2_read_2 := dk_seg dksX2_read_1 24 rfl rfl
theorem dksX2_read_3 : cX2_read.data.toList.drop 68 = dktX2_read_3 := dk_seg dksX2_read_2 22 rfl rfl
theorem dksX2_read_4 : cX2_read.data.toList.drop 91 = dktX2_read_4 := dk_seg dksX2_read_3 23 rfl rfl
theorem dksX2_read_5 : cX2_read.data.toList.drop 113 = dktX2_read_5 := dk_seg dksX2_read_4 22 rfl rfl
theorem dksX2_read_6 : cX2_read.data.toList.drop 137 = dktX2_read_6 := dk_seg dksX2_read_5 24 rfl rfl
theorem dksX2_read_7 : cX2_read.data.toList.drop 161 = dktX2_read_7 := dk_seg dksX2_read_6 24 rfl rfl
theorem dksX2_read_8 : cX2_read.data.toList.drop 184 = dktX2_read_8 := dk_seg dksX2_read_7 23 rfl rfl
theorem dksX2_read_9 : cX2_read.data.toList.drop 208 = dktX2_read_9 := dk_seg dksX2_read_8 24 rfl rfl
theorem dX2_read_0 : decode cX2_read 0 = .ok (.aload_n 0, 1) := dk_42 (dk_at dksX2_read_0 0 rfl rfl)
theorem dX2_read_1 : decode cX2_read 1 = .ok (.iconst 0, 1) := dk_3 (dk_at dksX2_read_0 1 rfl rfl)
theorem dX2_read_2 : decode cX2_read 2 = .ok (.putfield 82, 3) := dk_181 0 82 (dk_at dksX2_read_0 2 rfl rfl)
theorem dX2_read_5 : decode cX2_read 5 = .ok (.iconst 0, 1) := dk_3 (dk_at dksX2_read_0 5 rfl rfl)
theorem dX2_read_6 : decode cX2_read 6 = .ok (.istore_n 1, 1) := dk_60 (dk_at dksX2_read_0 6 rfl rfl)
theorem dX2_read_7 : decode cX2_read 7 = .ok (.iconst 1, 1) := dk_4 (dk_at dksX2_read_0 7 rfl rfl)
theorem dX2_read_8 : decode cX2_read 8 = .ok (.istore_n 2, 1) := dk_61 (dk_at dksX2_read_0 8 rfl rfl)
theorem dX2_read_9 : decode cX2_read 9 = .ok (.iload_n 1, 1) := dk_27 (dk_at dksX2_read_0 9 rfl rfl)
theorem dX2_read_10 : decode cX2_read 10 = .ok (.aload_n 0, 1) := dk_42 (dk_at dksX2_read_0 10 rfl rfl)
theorem dX2_read_11 : decode cX2_read 11 = .ok (.getfield 74, 3) := dk_180 0 74 (dk_at dksX2_read_0 11 rfl rfl)
theorem dX2_read_14 : decode cX2_read 14 = .ok (.if_icmp .ge 201, 3) := dk_162 0 201 (dk_at dksX2_read_0 14 rfl rfl)
theorem dX2_read_17 : decode cX2_read 17 = .ok (.iload_n 2, 1) := dk_28 (dk_at dksX2_read_0 17 rfl rfl)
theorem dX2_read_18 : decode cX2_read 18 = .ok (.ifCond .eq 197, 3) := dk_153 0 197 (dk_at dksX2_read_0 18 rfl rfl)
theorem dX2_read_21 : decode cX2_read 21 = .ok (.aload_n 0, 1) := dk_42 (dk_at dksX2_read_0 21 rfl rfl)
theorem dX2_read_22 : decode cX2_read 22 = .ok (.getfield 57, 3) := dk_180 0 57 (dk_at dksX2_read_1 0 rfl rfl)
theorem dX2_read_25 : decode cX2_read 25 = .ok (.iload_n 1, 1) := dk_27 (dk_at dksX2_read_1 3 rfl rfl)
theorem dX2_read_26 : decode cX2_read 26 = .ok (.baload, 1) := dk_51 (dk_at dksX2_read_1 4 rfl rfl)
theorem dX2_read_27 : decode cX2_read 27 = .ok (.istore_n 3, 1) := dk_62 (dk_at dksX2_read_1 5 rfl rfl)
theorem dX2_read_28 : decode cX2_read 28 = .ok (.iload_n 1, 1) := dk_27 (dk_at dksX2_read_1 6 rfl rfl)
theorem dX2_read_29 : decode cX2_read 29 = .ok (.iconst 1, 1) := dk_4 (dk_at dksX2_read_1 7 rfl rfl)
theorem dX2_read_30 : decode cX2_read 30 = .ok (.iadd, 1) := dk_96 (dk_at dksX2_read_1 8 rfl rfl)
theorem dX2_read_31 : decode cX2_read 31 = .ok (.istore 4, 2) := dk_54 4 (dk_at dksX2_read_1 9 rfl rfl)
theorem dX2_read_33 : decode cX2_read 33 = .ok (.iload_n 3, 1) := dk_29 (dk_at dksX2_read_1 11 rfl rfl)
theorem dX2_read_34 : decode cX2_read 34 = .ok (.bipush 32, 2) := dk_16 32 (dk_at dksX2_read_1 12 rfl rfl)
theorem dX2_read_36 : decode cX2_read 36 = .ok (.if_icmp .eq 21, 3) := dk_159 0 21 (dk_at dksX2_read_1 14 rfl rfl)
theorem dX2_read_39 : decode cX2_read 39 = .ok (.iload_n 3, 1) := dk_29 (dk_at dksX2_read_1 17 rfl rfl)
theorem dX2_read_40 : decode cX2_read 40 = .ok (.bipush 9, 2) := dk_16 9 (dk_at dksX2_read_1 18 rfl rfl)
theorem dX2_read_42 : decode cX2_read 42 = .ok (.if_icmp .eq 15, 3) := dk_159 0 15 (dk_at dksX2_read_1 20 rfl rfl)
theorem dX2_read_45 : decode cX2_read 45 = .ok (.iload_n 3, 1) := dk_29 (dk_at dksX2_read_1 23 rfl rfl)
theorem dX2_read_46 : decode cX2_read 46 = .ok (.bipush 10, 2) := dk_16 10 (dk_at dksX2_read_2 0 rfl rfl)
theorem dX2_read_48 : decode cX2_read 48 = .ok (.if_icmp .eq 9, 3) := dk_159 0 9 (dk_at dksX2_read_2 2 rfl rfl)
theorem dX2_read_51 : decode cX2_read 51 = .ok (.iload_n 3, 1) := dk_29 (dk_at dksX2_read_2 5 rfl rfl)
theorem dX2_read_52 : decode cX2_read 52 = .ok (.bipush 13, 2) := dk_16 13 (dk_at dksX2_read_2 6 rfl rfl)
theorem dX2_read_54 : decode cX2_read 54 = .ok (.if_icmp .ne 9, 3) := dk_160 0 9 (dk_at dksX2_read_2 8 rfl rfl)
theorem dX2_read_57 : decode cX2_read 57 = .ok (.iinc 1 1, 3) := dk_132 1 1 (dk_at dksX2_read_2 11 rfl rfl)
theorem dX2_read_60 : decode cX2_read 60 = .ok (.goto (-51), 3) := dk_167 255 205 (dk_at dksX2_read_2 14 rfl rfl)
theorem dX2_read_63 : decode cX2_read 63 = .ok (.iconst 0, 1) := dk_3 (dk_at dksX2_read_2 17 rfl rfl)
theorem dX2_read_64 : decode cX2_read 64 = .ok (.istore 6, 2) := dk_54 6 (dk_at dksX2_read_2 18 rfl rfl)
theorem dX2_read_66 : decode cX2_read 66 = .ok (.aload_n 0, 1) := dk_42 (dk_at dksX2_read_2 20 rfl rfl)
theorem dX2_read_67 : decode cX2_read 67 = .ok (.iload_n 1, 1) := dk_27 (dk_at dksX2_read_2 21 rfl rfl)
theorem dX2_read_68 : decode cX2_read 68 = .ok (.invokevirtual 93, 3) := dk_182 0 93 (dk_at dksX2_read_3 0 rfl rfl)
theorem dX2_read_71 : decode cX2_read 71 = .ok (.ifCond .eq 55, 3) := dk_153 0 55 (dk_at dksX2_read_3 3 rfl rfl)
theorem dX2_read_74 : decode cX2_read 74 = .ok (.aload_n 0, 1) := dk_42 (dk_at dksX2_read_3 6 rfl rfl)
theorem dX2_read_75 : decode cX2_read 75 = .ok (.iload 4, 2) := dk_21 4 (dk_at dksX2_read_3 7 rfl rfl)
theorem dX2_read_77 : decode cX2_read 77 = .ok (.invokevirtual 93, 3) := dk_182 0 93 (dk_at dksX2_read_3 9 rfl rfl)
theorem dX2_read_80 : decode cX2_read 80 = .ok (.ifCond .eq 9, 3) := dk_153 0 9 (dk_at dksX2_read_3 12 rfl rfl)
theorem dX2_read_83 : decode cX2_read 83 = .ok (.iinc 4 1, 3) := dk_132 4 1 (dk_at dksX2_read_3 15 rfl rfl)
theorem dX2_read_86 : decode cX2_read 86 = .ok (.goto (-12), 3) := dk_167 255 244 (dk_at dksX2_read_3 18 rfl rfl)
theorem dX2_read_89 : decode cX2_read 89 = .ok (.aload_n 0, 1) := dk_42 (dk_at dksX2_read_3 21 rfl rfl)
theorem dX2_read_90 : decode cX2_read 90 = .ok (.iload_n 1, 1) := dk_27 (dk_at dksX2_read_3 22 rfl rfl)
theorem dX2_read_91 : decode cX2_read 91 = .ok (.iload 4, 2) := dk_21 4 (dk_at dksX2_read_4 0 rfl rfl)
theorem dX2_read_93 : decode cX2_read 93 = .ok (.invokevirtual 97, 3) := dk_182 0 97 (dk_at dksX2_read_4 2 rfl rfl)
theorem dX2_read_96 : decode cX2_read 96 = .ok (.istore 6, 2) := dk_54 6 (dk_at dksX2_read_4 5 rfl rfl)
theorem dX2_read_98 : decode cX2_read 98 = .ok (.iload 6, 2) := dk_21 6 (dk_at dksX2_read_4 7 rfl rfl)
theorem dX2_read_100 : decode cX2_read 100 = .ok (.ifCond .lt 7, 3) := dk_155 0 7 (dk_at dksX2_read_4 9 rfl rfl)
theorem dX2_read_103 : decode cX2_read 103 = .ok (.iconst 3, 1) := dk_6 (dk_at dksX2_read_4 12 rfl rfl)
theorem dX2_read_104 : decode cX2_read 104 = .ok (.goto 17, 3) := dk_167 0 17 (dk_at dksX2_read_4 13 rfl rfl)
theorem dX2_read_107 : decode cX2_read 107 = .ok (.iload 4, 2) := dk_21 4 (dk_at dksX2_read_4 16 rfl rfl)
theorem dX2_read_109 : decode cX2_read 109 = .ok (.iload_n 1, 1) := dk_27 (dk_at dksX2_read_4 18 rfl rfl)
theorem dX2_read_110 : decode cX2_read 110 = .ok (.isub, 1) := dk_100 (dk_at dksX2_read_4 19 rfl rfl)
theorem dX2_read_111 : decode cX2_read 111 = .ok (.bipush 8, 2) := dk_16 8 (dk_at dksX2_read_4 20 rfl rfl)
theorem dX2_read_113 : decode cX2_read 113 = .ok (.if_icmp .le 7, 3) := dk_164 0 7 (dk_at dksX2_read_5 0 rfl rfl)
theorem dX2_read_116 : decode cX2_read 116 = .ok (.iconst 5, 1) := dk_8 (dk_at dksX2_read_5 3 rfl rfl)
theorem dX2_read_117 : decode cX2_read 117 = .ok (.goto 4, 3) := dk_167 0 4 (dk_at dksX2_read_5 4 rfl rfl)
theorem dX2_read_120 : decode cX2_read 120 = .ok (.iconst 0, 1) := dk_3 (dk_at dksX2_read_5 7 rfl rfl)
theorem dX2_read_121 : decode cX2_read 121 = .ok (.istore 5, 2) := dk_54 5 (dk_at dksX2_read_5 8 rfl rfl)
theorem dX2_read_123 : decode cX2_read 123 = .ok (.goto 63, 3) := dk_167 0 63 (dk_at dksX2_read_5 10 rfl rfl)
theorem dX2_read_126 : decode cX2_read 126 = .ok (.aload_n 0, 1) := dk_42 (dk_at dksX2_read_5 13 rfl rfl)
theorem dX2_read_127 : decode cX2_read 127 = .ok (.iload_n 1, 1) := dk_27 (dk_at dksX2_read_5 14 rfl rfl)
theorem dX2_read_128 : decode cX2_read 128 = .ok (.invokevirtual 101, 3) := dk_182 0 101 (dk_at dksX2_read_5 15 rfl rfl)
theorem dX2_read_131 : decode cX2_read 131 = .ok (.ifCond .eq 36, 3) := dk_153 0 36 (dk_at dksX2_read_5 18 rfl rfl)
theorem dX2_read_134 : decode cX2_read 134 = .ok (.aload_n 0, 1) := dk_42 (dk_at dksX2_read_5 21 rfl rfl)
theorem dX2_read_135 : decode cX2_read 135 = .ok (.iload 4, 2) := dk_21 4 (dk_at dksX2_read_5 22 rfl rfl)
theorem dX2_read_137 : decode cX2_read 137 = .ok (.invokevirtual 101, 3) := dk_182 0 101 (dk_at dksX2_read_6 0 rfl rfl)
theorem dX2_read_140 : decode cX2_read 140 = .ok (.ifCond .eq 9, 3) := dk_153 0 9 (dk_at dksX2_read_6 3 rfl rfl)
theorem dX2_read_143 : decode cX2_read 143 = .ok (.iinc 4 1, 3) := dk_132 4 1 (dk_at dksX2_read_6 6 rfl rfl)
theorem dX2_read_146 : decode cX2_read 146 = .ok (.goto (-12), 3) := dk_167 255 244 (dk_at dksX2_read_6 9 rfl rfl)
theorem dX2_read_149 : decode cX2_read 149 = .ok (.iload 4, 2) := dk_21 4 (dk_at dksX2_read_6 12 rfl rfl)
theorem dX2_read_151 : decode cX2_read 151 = .ok (.iload_n 1, 1) := dk_27 (dk_at dksX2_read_6 14 rfl rfl)
theorem dX2_read_152 : decode cX2_read 152 = .ok (.isub, 1) := dk_100 (dk_at dksX2_read_6 15 rfl rfl)
theorem dX2_read_153 : decode cX2_read 153 = .ok (.iconst 4, 1) := dk_7 (dk_at dksX2_read_6 16 rfl rfl)
theorem dX2_read_154 : decode cX2_read 154 = .ok (.if_icmp .le 7, 3) := dk_164 0 7 (dk_at dksX2_read_6 17 rfl rfl)
theorem dX2_read_157 : decode cX2_read 157 = .ok (.iconst 5, 1) := dk_8 (dk_at dksX2_read_6 20 rfl rfl)
theorem dX2_read_158 : decode cX2_read 158 = .ok (.goto 4, 3) := dk_167 0 4 (dk_at dksX2_read_6 21 rfl rfl)
theorem dX2_read_161 : decode cX2_read 161 = .ok (.iconst 1, 1) := dk_4 (dk_at dksX2_read_7 0 rfl rfl)
theorem dX2_read_162 : decode cX2_read 162 = .ok (.istore 5, 2) := dk_54 5 (dk_at dksX2_read_7 1 rfl rfl)
theorem dX2_read_164 : decode cX2_read 164 = .ok (.goto 22, 3) := dk_167 0 22 (dk_at dksX2_read_7 3 rfl rfl)
theorem dX2_read_167 : decode cX2_read 167 = .ok (.aload_n 0, 1) := dk_42 (dk_at dksX2_read_7 6 rfl rfl)
theorem dX2_read_168 : decode cX2_read 168 = .ok (.iload_n 1, 1) := dk_27 (dk_at dksX2_read_7 7 rfl rfl)
theorem dX2_read_169 : decode cX2_read 169 = .ok (.invokevirtual 104, 3) := dk_182 0 104 (dk_at dksX2_read_7 8 rfl rfl)
theorem dX2_read_172 : decode cX2_read 172 = .ok (.istore 6, 2) := dk_54 6 (dk_at dksX2_read_7 11 rfl rfl)
theorem dX2_read_174 : decode cX2_read 174 = .ok (.iload 6, 2) := dk_21 6 (dk_at dksX2_read_7 13 rfl rfl)
theorem dX2_read_176 : decode cX2_read 176 = .ok (.ifCond .ne 7, 3) := dk_154 0 7 (dk_at dksX2_read_7 15 rfl rfl)
theorem dX2_read_179 : decode cX2_read 179 = .ok (.iconst 5, 1) := dk_8 (dk_at dksX2_read_7 18 rfl rfl)
theorem dX2_read_180 : decode cX2_read 180 = .ok (.goto 4, 3) := dk_167 0 4 (dk_at dksX2_read_7 19 rfl rfl)
theorem dX2_read_183 : decode cX2_read 183 = .ok (.iconst 2, 1) := dk_5 (dk_at dksX2_read_7 22 rfl rfl)
theorem dX2_read_184 : decode cX2_read 184 = .ok (.istore 5, 2) := dk_54 5 (dk_at dksX2_read_8 0 rfl rfl)
theorem dX2_read_186 : decode cX2_read 186 = .ok (.aload_n 0, 1) := dk_42 (dk_at dksX2_read_8 2 rfl rfl)
theorem dX2_read_187 : decode cX2_read 187 = .ok (.iload 5, 2) := dk_21 5 (dk_at dksX2_read_8 3 rfl rfl)
theorem dX2_read_189 : decode cX2_read 189 = .ok (.iload_n 1, 1) := dk_27 (dk_at dksX2_read_8 5 rfl rfl)
theorem dX2_read_190 : decode cX2_read 190 = .ok (.iload 4, 2) := dk_21 4 (dk_at dksX2_read_8 6 rfl rfl)
theorem dX2_read_192 : decode cX2_read 192 = .ok (.iload 6, 2) := dk_21 6 (dk_at dksX2_read_8 8 rfl rfl)
theorem dX2_read_194 : decode cX2_read 194 = .ok (.invokevirtual 107, 3) := dk_182 0 107 (dk_at dksX2_read_8 10 rfl rfl)
theorem dX2_read_197 : decode cX2_read 197 = .ok (.iload 5, 2) := dk_21 5 (dk_at dksX2_read_8 13 rfl rfl)
theorem dX2_read_199 : decode cX2_read 199 = .ok (.iconst 5, 1) := dk_8 (dk_at dksX2_read_8 15 rfl rfl)
theorem dX2_read_200 : decode cX2_read 200 = .ok (.if_icmp .eq 7, 3) := dk_159 0 7 (dk_at dksX2_read_8 16 rfl rfl)
theorem dX2_read_203 : decode cX2_read 203 = .ok (.iconst 1, 1) := dk_4 (dk_at dksX2_read_8 19 rfl rfl)
theorem dX2_read_204 : decode cX2_read 204 = .ok (.goto 4, 3) := dk_167 0 4 (dk_at dksX2_read_8 20 rfl rfl)
theorem dX2_read_207 : decode cX2_read 207 = .ok (.iconst 0, 1) := dk_3 (dk_at dksX2_read_8 23 rfl rfl)
theorem dX2_read_208 : decode cX2_read 208 = .ok (.istore_n 2, 1) := dk_61 (dk_at dksX2_read_9 0 rfl rfl)
theorem dX2_read_209 : decode cX2_read 209 = .ok (.iload 4, 2) := dk_21 4 (dk_at dksX2_read_9 1 rfl rfl)
theorem dX2_read_211 : decode cX2_read 211 = .ok (.istore_n 1, 1) := dk_60 (dk_at dksX2_read_9 3 rfl rfl)
theorem dX2_read_212 : decode cX2_read 212 = .ok (.goto (-203), 3) := dk_167 255 53 (dk_at dksX2_read_9 4 rfl rfl)
theorem dX2_read_215 : decode cX2_read 215 = .ok (.iload_n 2, 1) := dk_28 (dk_at dksX2_read_9 7 rfl rfl)
theorem dX2_read_216 : decode cX2_read 216 = .ok (.ifCond .eq 11, 3) := dk_153 0 11 (dk_at dksX2_read_9 8 rfl rfl)
theorem dX2_read_219 : decode cX2_read 219 = .ok (.aload_n 0, 1) := dk_42 (dk_at dksX2_read_9 11 rfl rfl)
theorem dX2_read_220 : decode cX2_read 220 = .ok (.iconst 4, 1) := dk_7 (dk_at dksX2_read_9 12 rfl rfl)
theorem dX2_read_221 : decode cX2_read 221 = .ok (.iload_n 1, 1) := dk_27 (dk_at dksX2_read_9 13 rfl rfl)
theorem dX2_read_222 : decode cX2_read 222 = .ok (.iload_n 1, 1) := dk_27 (dk_at dksX2_read_9 14 rfl rfl)
theorem dX2_read_223 : decode cX2_read 223 = .ok (.iconst 0, 1) := dk_3 (dk_at dksX2_read_9 15 rfl rfl)
theorem dX2_read_224 : decode cX2_read 224 = .ok (.invokevirtual 107, 3) := dk_182 0 107 (dk_at dksX2_read_9 16 rfl rfl)
theorem dX2_read_227 : decode cX2_read 227 = .ok (.return_, 1) := dk_177 (dk_at dksX2_read_9 19 rfl rfl)
abbrev cX2_isLetter : ByteArray := prog_20_method_4_code
def yX2_isLetter : MethodName := ⟨RX2, "isLetter", "(I)Z"⟩
def dkwX2_isLetter_1 : List UInt8 := [3, 172]
abbrev dktX2_isLetter_1 : List UInt8 := dkwX2_isLetter_1 ++ []
def dkwX2_isLetter_0 : List UInt8 := [42, 27, 182, 0, 78, 16, 97, 161, 0, 17, 42, 27, 182, 0, 78, 16, 122, 163, 0, 7, 4, 167, 0, 4]
abbrev dktX2_isLetter_0 : List UInt8 := dkwX2_isLetter_0 ++ dktX2_isLetter_1
theorem dksX2_isLetter_0 : cX2_isLetter.data.toList.drop 0 = dktX2_isLetter_0 := by decide +kernel
theorem dksX2_isLetter_1 : cX2_isLetter.data.toList.drop 24 = dktX2_isLetter_1 := dk_seg dksX2_isLetter_0 24 rfl rfl
theorem dX2_isLetter_0 : decode cX2_isLetter 0 = .ok (.aload_n 0, 1) := dk_42 (dk_at dksX2_isLetter_0 0 rfl rfl)
theorem dX2_isLetter_1 : decode cX2_isLetter 1 = .ok (.iload_n 1, 1) := dk_27 (dk_at dksX2_isLetter_0 1 rfl rfl)
theorem dX2_isLetter_2 : decode cX2_isLetter 2 = .ok (.invokevirtual 78, 3) := dk_182 0 78 (dk_at dksX2_isLetter_0 2 rfl rfl)
theorem dX2_isLetter_5 : decode cX2_isLetter 5 = .ok (.bipush 97, 2) := dk_16 97 (dk_at dksX2_isLetter_0 5 rfl rfl)
theorem dX2_isLetter_7 : decode cX2_isLetter 7 = .ok (.if_icmp .lt 17, 3) := dk_161 0 17 (dk_at dksX2_isLetter_0 7 rfl rfl)
theorem dX2_isLetter_10 : decode cX2_isLetter 10 = .ok (.aload_n 0, 1) := dk_42 (dk_at dksX2_isLetter_0 10 rfl rfl)
theorem dX2_isLetter_11 : decode cX2_isLetter 11 = .ok (.iload_n 1, 1) := dk_27 (dk_at dksX2_isLetter_0 11 rfl rfl)
theorem dX2_isLetter_12 : decode cX2_isLetter 12 = .ok (.invokevirtual 78, 3) := dk_182 0 78 (dk_at dksX2_isLetter_0 12 rfl rfl)
theorem dX2_isLetter_15 : decode cX2_isLetter 15 = .ok (.bipush 122, 2) := dk_16 122 (dk_at dksX2_isLetter_0 15 rfl rfl)
theorem dX2_isLetter_17 : decode cX2_isLetter 17 = .ok (.if_icmp .gt 7, 3) := dk_163 0 7 (dk_at dksX2_isLetter_0 17 rfl rfl)
theorem dX2_isLetter_20 : decode cX2_isLetter 20 = .ok (.iconst 1, 1) := dk_4 (dk_at dksX2_isLetter_0 20 rfl rfl)
theorem dX2_isLetter_21 : decode cX2_isLetter 21 = .ok (.goto 4, 3) := dk_167 0 4 (dk_at dksX2_isLetter_0 21 rfl rfl)
theorem dX2_isLetter_24 : decode cX2_isLetter 24 = .ok (.iconst 0, 1) := dk_3 (dk_at dksX2_isLetter_1 0 rfl rfl)
theorem dX2_isLetter_25 : decode cX2_isLetter 25 = .ok (.ireturn, 1) := dk_172 (dk_at dksX2_isLetter_1 1 rfl rfl)
abbrev cX2_at : ByteArray := prog_20_method_2_code
def yX2_at : MethodName := ⟨RX2, "at", "(I)I"⟩
def dkwX2_at_0 : List UInt8 := [27, 42, 180, 0, 74, 162, 0, 12, 42, 180, 0, 57, 27, 51, 167, 0, 4, 3, 172]
abbrev dktX2_at_0 : List UInt8 := dkwX2_at_0 ++ []
theorem dksX2_at_0 : cX2_at.data.toList.drop 0 = dktX2_at_0 := by decide +kernel
theorem dX2_at_0 : decode cX2_at 0 = .ok (.iload_n 1, 1) := dk_27 (dk_at dksX2_at_0 0 rfl rfl)
theorem dX2_at_1 : decode cX2_at 1 = .ok (.aload_n 0, 1) := dk_42 (dk_at dksX2_at_0 1 rfl rfl)
theorem dX2_at_2 : decode cX2_at 2 = .ok (.getfield 74, 3) := dk_180 0 74 (dk_at dksX2_at_0 2 rfl rfl)
theorem dX2_at_5 : decode cX2_at 5 = .ok (.if_icmp .ge 12, 3) := dk_162 0 12 (dk_at dksX2_at_0 5 rfl rfl)
theorem dX2_at_8 : decode cX2_at 8 = .ok (.aload_n 0, 1) := dk_42 (dk_at dksX2_at_0 8 rfl rfl)
theorem dX2_at_9 : decode cX2_at 9 = .ok (.getfield 57, 3) := dk_180 0 57 (dk_at dksX2_at_0 9 rfl rfl)
theorem dX2_at_12 : decode cX2_at 12 = .ok (.iload_n 1, 1) := dk_27 (dk_at dksX2_at_0 12 rfl rfl)
theorem dX2_at_13 : decode cX2_at 13 = .ok (.baload, 1) := dk_51 (dk_at dksX2_at_0 13 rfl rfl)
theorem dX2_at_14 : decode cX2_at 14 = .ok (.goto 4, 3) := dk_167 0 4 (dk_at dksX2_at_0 14 rfl rfl)
theorem dX2_at_17 : decode cX2_at 17 = .ok (.iconst 0, 1) := dk_3 (dk_at dksX2_at_0 17 rfl rfl)
theorem dX2_at_18 : decode cX2_at 18 = .ok (.ireturn, 1) := dk_172 (dk_at dksX2_at_0 18 rfl rfl)
abbrev cX2_word : ByteArray := prog_20_method_6_code
def yX2_word : MethodName := ⟨RX2, "word", "(II)I"⟩
def dkwX2_word_4 : List UInt8 := [167, 255, 165, 2, 172]
abbrev dktX2_word_4 : List UInt8 := dkwX2_word_4 ++ []
def dkwX2_word_3 : List UInt8 := [167, 0, 4, 3, 54, 4, 132, 5, 1, 167, 255, 212, 21, 4, 153, 0, 5, 29, 172, 132, 3, 1]
abbrev dktX2_word_3 : List UInt8 := dkwX2_word_3 ++ dktX2_word_4
def dkwX2_word_2 : List UInt8 := [42, 180, 0, 51, 29, 50, 21, 5, 27, 100, 182, 0, 89, 42, 180, 0, 57, 21, 5, 51, 160, 0, 7, 4]
abbrev dktX2_word_2 : List UInt8 := dkwX2_word_2 ++ dktX2_word_3
def dkwX2_word_1 : List UInt8 := [160, 0, 7, 4, 167, 0, 4, 3, 54, 4, 27, 54, 5, 21, 5, 28, 162, 0, 44, 21, 4, 153, 0, 39]
abbrev dktX2_word_1 : List UInt8 := dkwX2_word_1 ++ dktX2_word_2
def dkwX2_word_0 : List UInt8 := [3, 62, 29, 42, 180, 0, 51, 190, 162, 0, 88, 42, 180, 0, 51, 29, 50, 182, 0, 85, 28, 27, 100]
abbrev dktX2_word_0 : List UInt8 := dkwX2_word_0 ++ dktX2_word_1
theorem dksX2_word_0 : cX2_word.data.toList.drop 0 = dktX2_word_0 := by decide +kernel
theorem dksX2_word_1 : cX2_word.data.toList.drop 23 = dktX2_word_1 := dk_seg dksX2_word_0 23 rfl rfl
theorem dksX2_word_2 : cX2_word.data.toList.drop 47 = dktX2_word_2 := dk_seg dksX2_word_1 24 rfl rfl
theorem dksX2_word_3 : cX2_word.data.toList.drop 71 = dktX2_word_3 := dk_seg dksX2_word_2 24 rfl rfl
theorem dksX2_word_4 : cX2_word.data.toList.drop 93 = dktX2_word_4 := dk_seg dksX2_word_3 22 rfl rfl
theorem dX2_word_0 : decode cX2_word 0 = .ok (.iconst 0, 1) := dk_3 (dk_at dksX2_word_0 0 rfl rfl)
theorem dX2_word_1 : decode cX2_word 1 = .ok (.istore_n 3, 1) := dk_62 (dk_at dksX2_word_0 1 rfl rfl)
theorem dX2_word_2 : decode cX2_word 2 = .ok (.iload_n 3, 1) := dk_29 (dk_at dksX2_word_0 2 rfl rfl)
theorem dX2_word_3 : decode cX2_word 3 = .ok (.aload_n 0, 1) := dk_42 (dk_at dksX2_word_0 3 rfl rfl)
theorem dX2_word_4 : decode cX2_word 4 = .ok (.getfield 51, 3) := dk_180 0 51 (dk_at dksX2_word_0 4 rfl rfl)
theorem dX2_word_7 : decode cX2_word 7 = .ok (.arraylength, 1) := dk_190 (dk_at dksX2_word_0 7 rfl rfl)
theorem dX2_word_8 : decode cX2_word 8 = .ok (.if_icmp .ge 88, 3) := dk_162 0 88 (dk_at dksX2_word_0 8 rfl rfl)
theorem dX2_word_11 : decode cX2_word 11 = .ok (.aload_n 0, 1) := dk_42 (dk_at dksX2_word_0 11 rfl rfl)
theorem dX2_word_12 : decode cX2_word 12 = .ok (.getfield 51, 3) := dk_180 0 51 (dk_at dksX2_word_0 12 rfl rfl)
theorem dX2_word_15 : decode cX2_word 15 = .ok (.iload_n 3, 1) := dk_29 (dk_at dksX2_word_0 15 rfl rfl)
theorem dX2_word_16 : decode cX2_word 16 = .ok (.aaload, 1) := dk_50 (dk_at dksX2_word_0 16 rfl rfl)
theorem dX2_word_17 : decode cX2_word 17 = .ok (.invokevirtual 85, 3) := dk_182 0 85 (dk_at dksX2_word_0 17 rfl rfl)
theorem dX2_word_20 : decode cX2_word 20 = .ok (.iload_n 2, 1) := dk_28 (dk_at dksX2_word_0 20 rfl rfl)
theorem dX2_word_21 : decode cX2_word 21 = .ok (.iload_n 1, 1) := dk_27 (dk_at dksX2_word_0 21 rfl rfl)
theorem dX2_word_22 : decode cX2_word 22 = .ok (.isub, 1) := dk_100 (dk_at dksX2_word_0 22 rfl rfl)
theorem dX2_word_23 : decode cX2_word 23 = .ok (.if_icmp .ne 7, 3) := dk_160 0 7 (dk_at dksX2_word_1 0 rfl rfl)
theorem dX2_word_26 : decode cX2_word 26 = .ok (.iconst 1, 1) := dk_4 (dk_at dksX2_word_1 3 rfl rfl)
theorem dX2_word_27 : decode cX2_word 27 = .ok (.goto 4, 3) := dk_167 0 4 (dk_at dksX2_word_1 4 rfl rfl)
theorem dX2_word_30 : decode cX2_word 30 = .ok (.iconst 0, 1) := dk_3 (dk_at dksX2_word_1 7 rfl rfl)
theorem dX2_word_31 : decode cX2_word 31 = .ok (.istore 4, 2) := dk_54 4 (dk_at dksX2_word_1 8 rfl rfl)
theorem dX2_word_33 : decode cX2_word 33 = .ok (.iload_n 1, 1) := dk_27 (dk_at dksX2_word_1 10 rfl rfl)
theorem dX2_word_34 : decode cX2_word 34 = .ok (.istore 5, 2) := dk_54 5 (dk_at dksX2_word_1 11 rfl rfl)
theorem dX2_word_36 : decode cX2_word 36 = .ok (.iload 5, 2) := dk_21 5 (dk_at dksX2_word_1 13 rfl rfl)
theorem dX2_word_38 : decode cX2_word 38 = .ok (.iload_n 2, 1) := dk_28 (dk_at dksX2_word_1 15 rfl rfl)
theorem dX2_word_39 : decode cX2_word 39 = .ok (.if_icmp .ge 44, 3) := dk_162 0 44 (dk_at dksX2_word_1 16 rfl rfl)
theorem dX2_word_42 : decode cX2_word 42 = .ok (.iload 4, 2) := dk_21 4 (dk_at dksX2_word_1 19 rfl rfl)
theorem dX2_word_44 : decode cX2_word 44 = .ok (.ifCond .eq 39, 3) := dk_153 0 39 (dk_at dksX2_word_1 21 rfl rfl)
theorem dX2_word_47 : decode cX2_word 47 = .ok (.aload_n 0, 1) := dk_42 (dk_at dksX2_word_2 0 rfl rfl)
theorem dX2_word_48 : decode cX2_word 48 = .ok (.getfield 51, 3) := dk_180 0 51 (dk_at dksX2_word_2 1 rfl rfl)
theorem dX2_word_51 : decode cX2_word 51 = .ok (.iload_n 3, 1) := dk_29 (dk_at dksX2_word_2 4 rfl rfl)
theorem dX2_word_52 : decode cX2_word 52 = .ok (.aaload, 1) := dk_50 (dk_at dksX2_word_2 5 rfl rfl)
theorem dX2_word_53 : decode cX2_word 53 = .ok (.iload 5, 2) := dk_21 5 (dk_at dksX2_word_2 6 rfl rfl)
theorem dX2_word_55 : decode cX2_word 55 = .ok (.iload_n 1, 1) := dk_27 (dk_at dksX2_word_2 8 rfl rfl)
theorem dX2_word_56 : decode cX2_word 56 = .ok (.isub, 1) := dk_100 (dk_at dksX2_word_2 9 rfl rfl)
theorem dX2_word_57 : decode cX2_word 57 = .ok (.invokevirtual 89, 3) := dk_182 0 89 (dk_at dksX2_word_2 10 rfl rfl)
theorem dX2_word_60 : decode cX2_word 60 = .ok (.aload_n 0, 1) := dk_42 (dk_at dksX2_word_2 13 rfl rfl)
theorem dX2_word_61 : decode cX2_word 61 = .ok (.getfield 57, 3) := dk_180 0 57 (dk_at dksX2_word_2 14 rfl rfl)
theorem dX2_word_64 : decode cX2_word 64 = .ok (.iload 5, 2) := dk_21 5 (dk_at dksX2_word_2 17 rfl rfl)
theorem dX2_word_66 : decode cX2_word 66 = .ok (.baload, 1) := dk_51 (dk_at dksX2_word_2 19 rfl rfl)
theorem dX2_word_67 : decode cX2_word 67 = .ok (.if_icmp .ne 7, 3) := dk_160 0 7 (dk_at dksX2_word_2 20 rfl rfl)
theorem dX2_word_70 : decode cX2_word 70 = .ok (.iconst 1, 1) := dk_4 (dk_at dksX2_word_2 23 rfl rfl)
theorem dX2_word_71 : decode cX2_word 71 = .ok (.goto 4, 3) := dk_167 0 4 (dk_at dksX2_word_3 0 rfl rfl)
theorem dX2_word_74 : decode cX2_word 74 = .ok (.iconst 0, 1) := dk_3 (dk_at dksX2_word_3 3 rfl rfl)
theorem dX2_word_75 : decode cX2_word 75 = .ok (.istore 4, 2) := dk_54 4 (dk_at dksX2_word_3 4 rfl rfl)
theorem dX2_word_77 : decode cX2_word 77 = .ok (.iinc 5 1, 3) := dk_132 5 1 (dk_at dksX2_word_3 6 rfl rfl)
theorem dX2_word_80 : decode cX2_word 80 = .ok (.goto (-44), 3) := dk_167 255 212 (dk_at dksX2_word_3 9 rfl rfl)
theorem dX2_word_83 : decode cX2_word 83 = .ok (.iload 4, 2) := dk_21 4 (dk_at dksX2_word_3 12 rfl rfl)
theorem dX2_word_85 : decode cX2_word 85 = .ok (.ifCond .eq 5, 3) := dk_153 0 5 (dk_at dksX2_word_3 14 rfl rfl)
theorem dX2_word_88 : decode cX2_word 88 = .ok (.iload_n 3, 1) := dk_29 (dk_at dksX2_word_3 17 rfl rfl)
theorem dX2_word_89 : decode cX2_word 89 = .ok (.ireturn, 1) := dk_172 (dk_at dksX2_word_3 18 rfl rfl)
theorem dX2_word_90 : decode cX2_word 90 = .ok (.iinc 3 1, 3) := dk_132 3 1 (dk_at dksX2_word_3 19 rfl rfl)
theorem dX2_word_93 : decode cX2_word 93 = .ok (.goto (-91), 3) := dk_167 255 165 (dk_at dksX2_word_4 0 rfl rfl)
theorem dX2_word_96 : decode cX2_word 96 = .ok (.iconst (-1), 1) := dk_2 (dk_at dksX2_word_4 3 rfl rfl)
theorem dX2_word_97 : decode cX2_word 97 = .ok (.ireturn, 1) := dk_172 (dk_at dksX2_word_4 4 rfl rfl)
abbrev cX2_isDigit : ByteArray := prog_20_method_3_code
def yX2_isDigit : MethodName := ⟨RX2, "isDigit", "(I)Z"⟩
def dkwX2_isDigit_1 : List UInt8 := [3, 172]
abbrev dktX2_isDigit_1 : List UInt8 := dkwX2_isDigit_1 ++ []
def dkwX2_isDigit_0 : List UInt8 := [42, 27, 182, 0, 78, 16, 48, 161, 0, 17, 42, 27, 182, 0, 78, 16, 57, 163, 0, 7, 4, 167, 0, 4]
abbrev dktX2_isDigit_0 : List UInt8 := dkwX2_isDigit_0 ++ dktX2_isDigit_1
theorem dksX2_isDigit_0 : cX2_isDigit.data.toList.drop 0 = dktX2_isDigit_0 := by decide +kernel
theorem dksX2_isDigit_1 : cX2_isDigit.data.toList.drop 24 = dktX2_isDigit_1 := dk_seg dksX2_isDigit_0 24 rfl rfl
theorem dX2_isDigit_0 : decode cX2_isDigit 0 = .ok (.aload_n 0, 1) := dk_42 (dk_at dksX2_isDigit_0 0 rfl rfl)
theorem dX2_isDigit_1 : decode cX2_isDigit 1 = .ok (.iload_n 1, 1) := dk_27 (dk_at dksX2_isDigit_0 1 rfl rfl)
theorem dX2_isDigit_2 : decode cX2_isDigit 2 = .ok (.invokevirtual 78, 3) := dk_182 0 78 (dk_at dksX2_isDigit_0 2 rfl rfl)
theorem dX2_isDigit_5 : decode cX2_isDigit 5 = .ok (.bipush 48, 2) := dk_16 48 (dk_at dksX2_isDigit_0 5 rfl rfl)
theorem dX2_isDigit_7 : decode cX2_isDigit 7 = .ok (.if_icmp .lt 17, 3) := dk_161 0 17 (dk_at dksX2_isDigit_0 7 rfl rfl)
theorem dX2_isDigit_10 : decode cX2_isDigit 10 = .ok (.aload_n 0, 1) := dk_42 (dk_at dksX2_isDigit_0 10 rfl rfl)
theorem dX2_isDigit_11 : decode cX2_isDigit 11 = .ok (.iload_n 1, 1) := dk_27 (dk_at dksX2_isDigit_0 11 rfl rfl)
theorem dX2_isDigit_12 : decode cX2_isDigit 12 = .ok (.invokevirtual 78, 3) := dk_182 0 78 (dk_at dksX2_isDigit_0 12 rfl rfl)
theorem dX2_isDigit_15 : decode cX2_isDigit 15 = .ok (.bipush 57, 2) := dk_16 57 (dk_at dksX2_isDigit_0 15 rfl rfl)
theorem dX2_isDigit_17 : decode cX2_isDigit 17 = .ok (.if_icmp .gt 7, 3) := dk_163 0 7 (dk_at dksX2_isDigit_0 17 rfl rfl)
theorem dX2_isDigit_20 : decode cX2_isDigit 20 = .ok (.iconst 1, 1) := dk_4 (dk_at dksX2_isDigit_0 20 rfl rfl)
theorem dX2_isDigit_21 : decode cX2_isDigit 21 = .ok (.goto 4, 3) := dk_167 0 4 (dk_at dksX2_isDigit_0 21 rfl rfl)
theorem dX2_isDigit_24 : decode cX2_isDigit 24 = .ok (.iconst 0, 1) := dk_3 (dk_at dksX2_isDigit_1 0 rfl rfl)
theorem dX2_isDigit_25 : decode cX2_isDigit 25 = .ok (.ireturn, 1) := dk_172 (dk_at dksX2_isDigit_1 1 rfl rfl)
abbrev cX2_sign : ByteArray := prog_20_method_7_code
def yX2_sign : MethodName := ⟨RX2, "sign", "(I)I"⟩
def dkwX2_sign_2 : List UInt8 := [28, 172, 3, 172]
abbrev dktX2_sign_2 : List UInt8 := dkwX2_sign_2 ++ []
def dkwX2_sign_1 : List UInt8 := [170, 0, 0, 0, 103, 0, 0, 0, 40, 0, 0, 0, 61, 0, 0, 0, 101, 0, 0, 0, 101, 0, 0, 0, 101, 0, 0, 0, 101, 0, 0, 0, 103, 0, 0, 0, 101, 0, 0, 0, 103, 0, 0, 0, 101, 0, 0, 0, 103, 0, 0, 0, 103, 0, 0, 0, 103, 0, 0, 0, 103, 0, 0, 0, 103, 0, 0, 0, 103, 0, 0, 0, 103, 0, 0, 0, 103, 0, 0, 0, 103, 0, 0, 0, 103, 0, 0, 0, 103, 0, 0, 0, 101, 0, 0, 0, 101, 0, 0, 0, 101]
abbrev dktX2_sign_1 : List UInt8 := dkwX2_sign_1 ++ dktX2_sign_2
def dkwX2_sign_0 : List UInt8 := [42, 27, 182, 0, 78, 61, 28]
abbrev dktX2_sign_0 : List UInt8 := dkwX2_sign_0 ++ dktX2_sign_1
theorem dksX2_sign_0 : cX2_sign.data.toList.drop 0 = dktX2_sign_0 := by decide +kernel
theorem dksX2_sign_1 : cX2_sign.data.toList.drop 7 = dktX2_sign_1 := dk_seg dksX2_sign_0 7 rfl rfl
theorem dksX2_sign_2 : cX2_sign.data.toList.drop 108 = dktX2_sign_2 := dk_seg dksX2_sign_1 101 rfl rfl
theorem dX2_sign_0 : decode cX2_sign 0 = .ok (.aload_n 0, 1) := dk_42 (dk_at dksX2_sign_0 0 rfl rfl)
theorem dX2_sign_1 : decode cX2_sign 1 = .ok (.iload_n 1, 1) := dk_27 (dk_at dksX2_sign_0 1 rfl rfl)
theorem dX2_sign_2 : decode cX2_sign 2 = .ok (.invokevirtual 78, 3) := dk_182 0 78 (dk_at dksX2_sign_0 2 rfl rfl)
theorem dX2_sign_5 : decode cX2_sign 5 = .ok (.istore_n 2, 1) := dk_61 (dk_at dksX2_sign_0 5 rfl rfl)
theorem dX2_sign_6 : decode cX2_sign 6 = .ok (.iload_n 2, 1) := dk_28 (dk_at dksX2_sign_0 6 rfl rfl)
theorem dX2_sign_7 : decode cX2_sign 7 = .ok (.tableswitch 103 40 61 #[101, 101, 101, 101, 103, 101, 103, 101, 103, 103, 103, 103, 103, 103, 103, 103, 103, 103, 103, 101, 101, 101], 101) := by decide +kernel
theorem dX2_sign_108 : decode cX2_sign 108 = .ok (.iload_n 2, 1) := dk_28 (dk_at dksX2_sign_2 0 rfl rfl)
theorem dX2_sign_109 : decode cX2_sign 109 = .ok (.ireturn, 1) := dk_172 (dk_at dksX2_sign_2 1 rfl rfl)
theorem dX2_sign_110 : decode cX2_sign 110 = .ok (.iconst 0, 1) := dk_3 (dk_at dksX2_sign_2 2 rfl rfl)
theorem dX2_sign_111 : decode cX2_sign 111 = .ok (.ireturn, 1) := dk_172 (dk_at dksX2_sign_2 3 rfl rfl)
abbrev cX2_add : ByteArray := prog_20_method_5_code
def yX2_add : MethodName := ⟨RX2, "add", "(IIII)V"⟩
def dkwX2_add_2 : List UInt8 := [180, 0, 82, 4, 96, 181, 0, 82, 177]
abbrev dktX2_add_2 : List UInt8 := dkwX2_add_2 ++ []
def dkwX2_add_1 : List UInt8 := [180, 0, 68, 42, 180, 0, 82, 29, 147, 86, 42, 180, 0, 71, 42, 180, 0, 82, 21, 4, 147, 86, 42, 89]
abbrev dktX2_add_1 : List UInt8 := dkwX2_add_1 ++ dktX2_add_2
def dkwX2_add_0 : List UInt8 := [42, 180, 0, 61, 42, 180, 0, 82, 27, 145, 84, 42, 180, 0, 64, 42, 180, 0, 82, 28, 147, 86, 42]
abbrev dktX2_add_0 : List UInt8 := dkwX2_add_0 ++ dktX2_add_1
theorem dksX2_add_0 : cX2_add.data.toList.drop 0 = dktX2_add_0 := by decide +kernel
theorem dksX2_add_1 : cX2_add.data.toList.drop 23 = dktX2_add_1 := dk_seg dksX2_add_0 23 rfl rfl
theorem dksX2_add_2 : cX2_add.data.toList.drop 47 = dktX2_add_2 := dk_seg dksX2_add_1 24 rfl rfl
theorem dX2_add_0 : decode cX2_add 0 = .ok (.aload_n 0, 1) := dk_42 (dk_at dksX2_add_0 0 rfl rfl)
theorem dX2_add_1 : decode cX2_add 1 = .ok (.getfield 61, 3) := dk_180 0 61 (dk_at dksX2_add_0 1 rfl rfl)
theorem dX2_add_4 : decode cX2_add 4 = .ok (.aload_n 0, 1) := dk_42 (dk_at dksX2_add_0 4 rfl rfl)
theorem dX2_add_5 : decode cX2_add 5 = .ok (.getfield 82, 3) := dk_180 0 82 (dk_at dksX2_add_0 5 rfl rfl)
theorem dX2_add_8 : decode cX2_add 8 = .ok (.iload_n 1, 1) := dk_27 (dk_at dksX2_add_0 8 rfl rfl)
theorem dX2_add_9 : decode cX2_add 9 = .ok (.i2b, 1) := dk_145 (dk_at dksX2_add_0 9 rfl rfl)
theorem dX2_add_10 : decode cX2_add 10 = .ok (.bastore, 1) := dk_84 (dk_at dksX2_add_0 10 rfl rfl)
theorem dX2_add_11 : decode cX2_add 11 = .ok (.aload_n 0, 1) := dk_42 (dk_at dksX2_add_0 11 rfl rfl)
theorem dX2_add_12 : decode cX2_add 12 = .ok (.getfield 64, 3) := dk_180 0 64 (dk_at dksX2_add_0 12 rfl rfl)
theorem dX2_add_15 : decode cX2_add 15 = .ok (.aload_n 0, 1) := dk_42 (dk_at dksX2_add_0 15 rfl rfl)
theorem dX2_add_16 : decode cX2_add 16 = .ok (.getfield 82, 3) := dk_180 0 82 (dk_at dksX2_add_0 16 rfl rfl)
theorem dX2_add_19 : decode cX2_add 19 = .ok (.iload_n 2, 1) := dk_28 (dk_at dksX2_add_0 19 rfl rfl)
theorem dX2_add_20 : decode cX2_add 20 = .ok (.i2s, 1) := dk_147 (dk_at dksX2_add_0 20 rfl rfl)
theorem dX2_add_21 : decode cX2_add 21 = .ok (.sastore, 1) := dk_86 (dk_at dksX2_add_0 21 rfl rfl)
theorem dX2_add_22 : decode cX2_add 22 = .ok (.aload_n 0, 1) := dk_42 (dk_at dksX2_add_0 22 rfl rfl)
theorem dX2_add_23 : decode cX2_add 23 = .ok (.getfield 68, 3) := dk_180 0 68 (dk_at dksX2_add_1 0 rfl rfl)
theorem dX2_add_26 : decode cX2_add 26 = .ok (.aload_n 0, 1) := dk_42 (dk_at dksX2_add_1 3 rfl rfl)
theorem dX2_add_27 : decode cX2_add 27 = .ok (.getfield 82, 3) := dk_180 0 82 (dk_at dksX2_add_1 4 rfl rfl)
theorem dX2_add_30 : decode cX2_add 30 = .ok (.iload_n 3, 1) := dk_29 (dk_at dksX2_add_1 7 rfl rfl)
theorem dX2_add_31 : decode cX2_add 31 = .ok (.i2s, 1) := dk_147 (dk_at dksX2_add_1 8 rfl rfl)
theorem dX2_add_32 : decode cX2_add 32 = .ok (.sastore, 1) := dk_86 (dk_at dksX2_add_1 9 rfl rfl)
theorem dX2_add_33 : decode cX2_add 33 = .ok (.aload_n 0, 1) := dk_42 (dk_at dksX2_add_1 10 rfl rfl)
theorem dX2_add_34 : decode cX2_add 34 = .ok (.getfield 71, 3) := dk_180 0 71 (dk_at dksX2_add_1 11 rfl rfl)
theorem dX2_add_37 : decode cX2_add 37 = .ok (.aload_n 0, 1) := dk_42 (dk_at dksX2_add_1 14 rfl rfl)
theorem dX2_add_38 : decode cX2_add 38 = .ok (.getfield 82, 3) := dk_180 0 82 (dk_at dksX2_add_1 15 rfl rfl)
theorem dX2_add_41 : decode cX2_add 41 = .ok (.iload 4, 2) := dk_21 4 (dk_at dksX2_add_1 18 rfl rfl)
theorem dX2_add_43 : decode cX2_add 43 = .ok (.i2s, 1) := dk_147 (dk_at dksX2_add_1 20 rfl rfl)
theorem dX2_add_44 : decode cX2_add 44 = .ok (.sastore, 1) := dk_86 (dk_at dksX2_add_1 21 rfl rfl)
theorem dX2_add_45 : decode cX2_add 45 = .ok (.aload_n 0, 1) := dk_42 (dk_at dksX2_add_1 22 rfl rfl)
theorem dX2_add_46 : decode cX2_add 46 = .ok (.dup, 1) := dk_89 (dk_at dksX2_add_1 23 rfl rfl)
theorem dX2_add_47 : decode cX2_add 47 = .ok (.getfield 82, 3) := dk_180 0 82 (dk_at dksX2_add_2 0 rfl rfl)
theorem dX2_add_50 : decode cX2_add 50 = .ok (.iconst 1, 1) := dk_4 (dk_at dksX2_add_2 3 rfl rfl)
theorem dX2_add_51 : decode cX2_add 51 = .ok (.iadd, 1) := dk_96 (dk_at dksX2_add_2 4 rfl rfl)
theorem dX2_add_52 : decode cX2_add 52 = .ok (.putfield 82, 3) := dk_181 0 82 (dk_at dksX2_add_2 5 rfl rfl)
theorem dX2_add_55 : decode cX2_add 55 = .ok (.return_, 1) := dk_177 (dk_at dksX2_add_2 8 rfl rfl)
abbrev cX2_text : ByteArray := prog_20_method_9_code
def yX2_text : MethodName := ⟨RX2, "text", "(I)Ljava/lang/String;"⟩
def dkwX2_text_2 : List UInt8 := [182, 0, 118, 176]
abbrev dktX2_text_2 : List UInt8 := dkwX2_text_2 ++ []
def dkwX2_text_1 : List UInt8 := [162, 0, 21, 44, 42, 180, 0, 57, 29, 51, 146, 182, 0, 114, 87, 132, 3, 1, 167, 255, 231, 44]
abbrev dktX2_text_1 : List UInt8 := dkwX2_text_1 ++ dktX2_text_2
def dkwX2_text_0 : List UInt8 := [187, 0, 111, 89, 183, 0, 113, 77, 42, 180, 0, 64, 27, 53, 62, 29, 42, 180, 0, 68, 27, 53]
abbrev dktX2_text_0 : List UInt8 := dkwX2_text_0 ++ dktX2_text_1
theorem dksX2_text_0 : cX2_text.data.toList.drop 0 = dktX2_text_0 := by decide +kernel
theorem dksX2_text_1 : cX2_text.data.toList.drop 22 = dktX2_text_1 := dk_seg dksX2_text_0 22 rfl rfl
theorem dksX2_text_2 : cX2_text.data.toList.drop 44 = dktX2_text_2 := dk_seg dksX2_text_1 22 rfl rfl
theorem dX2_text_0 : decode cX2_text 0 = .ok (.new 111, 3) := dk_187 0 111 (dk_at dksX2_text_0 0 rfl rfl)
theorem dX2_text_3 : decode cX2_text 3 = .ok (.dup, 1) := dk_89 (dk_at dksX2_text_0 3 rfl rfl)
theorem dX2_text_4 : decode cX2_text 4 = .ok (.invokespecial 113, 3) := dk_183 0 113 (dk_at dksX2_text_0 4 rfl rfl)
theorem dX2_text_7 : decode cX2_text 7 = .ok (.astore_n 2, 1) := dk_77 (dk_at dksX2_text_0 7 rfl rfl)
theorem dX2_text_8 : decode cX2_text 8 = .ok (.aload_n 0, 1) := dk_42 (dk_at dksX2_text_0 8 rfl rfl)
theorem dX2_text_9 : decode cX2_text 9 = .ok (.getfield 64, 3) := dk_180 0 64 (dk_at dksX2_text_0 9 rfl rfl)
theorem dX2_text_12 : decode cX2_text 12 = .ok (.iload_n 1, 1) := dk_27 (dk_at dksX2_text_0 12 rfl rfl)
theorem dX2_text_13 : decode cX2_text 13 = .ok (.saload, 1) := dk_53 (dk_at dksX2_text_0 13 rfl rfl)
theorem dX2_text_14 : decode cX2_text 14 = .ok (.istore_n 3, 1) := dk_62 (dk_at dksX2_text_0 14 rfl rfl)
theorem dX2_text_15 : decode cX2_text 15 = .ok (.iload_n 3, 1) := dk_29 (dk_at dksX2_text_0 15 rfl rfl)
theorem dX2_text_16 : decode cX2_text 16 = .ok (.aload_n 0, 1) := dk_42 (dk_at dksX2_text_0 16 rfl rfl)
theorem dX2_text_17 : decode cX2_text 17 = .ok (.getfield 68, 3) := dk_180 0 68 (dk_at dksX2_text_0 17 rfl rfl)
theorem dX2_text_20 : decode cX2_text 20 = .ok (.iload_n 1, 1) := dk_27 (dk_at dksX2_text_0 20 rfl rfl)
theorem dX2_text_21 : decode cX2_text 21 = .ok (.saload, 1) := dk_53 (dk_at dksX2_text_0 21 rfl rfl)
theorem dX2_text_22 : decode cX2_text 22 = .ok (.if_icmp .ge 21, 3) := dk_162 0 21 (dk_at dksX2_text_1 0 rfl rfl)
theorem dX2_text_25 : decode cX2_text 25 = .ok (.aload_n 2, 1) := dk_44 (dk_at dksX2_text_1 3 rfl rfl)
theorem dX2_text_26 : decode cX2_text 26 = .ok (.aload_n 0, 1) := dk_42 (dk_at dksX2_text_1 4 rfl rfl)
theorem dX2_text_27 : decode cX2_text 27 = .ok (.getfield 57, 3) := dk_180 0 57 (dk_at dksX2_text_1 5 rfl rfl)
theorem dX2_text_30 : decode cX2_text 30 = .ok (.iload_n 3, 1) := dk_29 (dk_at dksX2_text_1 8 rfl rfl)
theorem dX2_text_31 : decode cX2_text 31 = .ok (.baload, 1) := dk_51 (dk_at dksX2_text_1 9 rfl rfl)
theorem dX2_text_32 : decode cX2_text 32 = .ok (.i2c, 1) := dk_146 (dk_at dksX2_text_1 10 rfl rfl)
theorem dX2_text_33 : decode cX2_text 33 = .ok (.invokevirtual 114, 3) := dk_182 0 114 (dk_at dksX2_text_1 11 rfl rfl)
theorem dX2_text_36 : decode cX2_text 36 = .ok (.pop, 1) := dk_87 (dk_at dksX2_text_1 14 rfl rfl)
theorem dX2_text_37 : decode cX2_text 37 = .ok (.iinc 3 1, 3) := dk_132 3 1 (dk_at dksX2_text_1 15 rfl rfl)
theorem dX2_text_40 : decode cX2_text 40 = .ok (.goto (-25), 3) := dk_167 255 231 (dk_at dksX2_text_1 18 rfl rfl)
theorem dX2_text_43 : decode cX2_text 43 = .ok (.aload_n 2, 1) := dk_44 (dk_at dksX2_text_1 21 rfl rfl)
theorem dX2_text_44 : decode cX2_text 44 = .ok (.invokevirtual 118, 3) := dk_182 0 118 (dk_at dksX2_text_2 0 rfl rfl)
theorem dX2_text_47 : decode cX2_text 47 = .ok (.areturn, 1) := dk_176 (dk_at dksX2_text_2 3 rfl rfl)
abbrev cX2_number : ByteArray := prog_20_method_10_code
def yX2_number : MethodName := ⟨RX2, "number", "(I)I"⟩
def dkwX2_number_1 : List UInt8 := [180, 0, 57, 29, 51, 96, 16, 48, 100, 61, 132, 3, 1, 167, 255, 228, 28, 172]
abbrev dktX2_number_1 : List UInt8 := dkwX2_number_1 ++ []
def dkwX2_number_0 : List UInt8 := [3, 61, 42, 180, 0, 64, 27, 53, 62, 29, 42, 180, 0, 68, 27, 53, 162, 0, 24, 16, 10, 28, 104, 42]
abbrev dktX2_number_0 : List UInt8 := dkwX2_number_0 ++ dktX2_number_1
theorem dksX2_number_0 : cX2_number.data.toList.drop 0 = dktX2_number_0 := by decide +kernel
theorem dksX2_number_1 : cX2_number.data.toList.drop 24 = dktX2_number_1 := dk_seg dksX2_number_0 24 rfl rfl
theorem dX2_number_0 : decode cX2_number 0 = .ok (.iconst 0, 1) := dk_3 (dk_at dksX2_number_0 0 rfl rfl)
theorem dX2_number_1 : decode cX2_number 1 = .ok (.istore_n 2, 1) := dk_61 (dk_at dksX2_number_0 1 rfl rfl)
theorem dX2_number_2 : decode cX2_number 2 = .ok (.aload_n 0, 1) := dk_42 (dk_at dksX2_number_0 2 rfl rfl)
theorem dX2_number_3 : decode cX2_number 3 = .ok (.getfield 64, 3) := dk_180 0 64 (dk_at dksX2_number_0 3 rfl rfl)
theorem dX2_number_6 : decode cX2_number 6 = .ok (.iload_n 1, 1) := dk_27 (dk_at dksX2_number_0 6 rfl rfl)
theorem dX2_number_7 : decode cX2_number 7 = .ok (.saload, 1) := dk_53 (dk_at dksX2_number_0 7 rfl rfl)
theorem dX2_number_8 : decode cX2_number 8 = .ok (.istore_n 3, 1) := dk_62 (dk_at dksX2_number_0 8 rfl rfl)
theorem dX2_number_9 : decode cX2_number 9 = .ok (.iload_n 3, 1) := dk_29 (dk_at dksX2_number_0 9 rfl rfl)
theorem dX2_number_10 : decode cX2_number 10 = .ok (.aload_n 0, 1) := dk_42 (dk_at dksX2_number_0 10 rfl rfl)
theorem dX2_number_11 : decode cX2_number 11 = .ok (.getfield 68, 3) := dk_180 0 68 (dk_at dksX2_number_0 11 rfl rfl)
theorem dX2_number_14 : decode cX2_number 14 = .ok (.iload_n 1, 1) := dk_27 (dk_at dksX2_number_0 14 rfl rfl)
theorem dX2_number_15 : decode cX2_number 15 = .ok (.saload, 1) := dk_53 (dk_at dksX2_number_0 15 rfl rfl)
theorem dX2_number_16 : decode cX2_number 16 = .ok (.if_icmp .ge 24, 3) := dk_162 0 24 (dk_at dksX2_number_0 16 rfl rfl)
theorem dX2_number_19 : decode cX2_number 19 = .ok (.bipush 10, 2) := dk_16 10 (dk_at dksX2_number_0 19 rfl rfl)
theorem dX2_number_21 : decode cX2_number 21 = .ok (.iload_n 2, 1) := dk_28 (dk_at dksX2_number_0 21 rfl rfl)
theorem dX2_number_22 : decode cX2_number 22 = .ok (.imul, 1) := dk_104 (dk_at dksX2_number_0 22 rfl rfl)
theorem dX2_number_23 : decode cX2_number 23 = .ok (.aload_n 0, 1) := dk_42 (dk_at dksX2_number_0 23 rfl rfl)
theorem dX2_number_24 : decode cX2_number 24 = .ok (.getfield 57, 3) := dk_180 0 57 (dk_at dksX2_number_1 0 rfl rfl)
theorem dX2_number_27 : decode cX2_number 27 = .ok (.iload_n 3, 1) := dk_29 (dk_at dksX2_number_1 3 rfl rfl)
theorem dX2_number_28 : decode cX2_number 28 = .ok (.baload, 1) := dk_51 (dk_at dksX2_number_1 4 rfl rfl)
theorem dX2_number_29 : decode cX2_number 29 = .ok (.iadd, 1) := dk_96 (dk_at dksX2_number_1 5 rfl rfl)
theorem dX2_number_30 : decode cX2_number 30 = .ok (.bipush 48, 2) := dk_16 48 (dk_at dksX2_number_1 6 rfl rfl)
theorem dX2_number_32 : decode cX2_number 32 = .ok (.isub, 1) := dk_100 (dk_at dksX2_number_1 8 rfl rfl)
theorem dX2_number_33 : decode cX2_number 33 = .ok (.istore_n 2, 1) := dk_61 (dk_at dksX2_number_1 9 rfl rfl)
theorem dX2_number_34 : decode cX2_number 34 = .ok (.iinc 3 1, 3) := dk_132 3 1 (dk_at dksX2_number_1 10 rfl rfl)
theorem dX2_number_37 : decode cX2_number 37 = .ok (.goto (-28), 3) := dk_167 255 228 (dk_at dksX2_number_1 13 rfl rfl)
theorem dX2_number_40 : decode cX2_number 40 = .ok (.iload_n 2, 1) := dk_28 (dk_at dksX2_number_1 16 rfl rfl)
theorem dX2_number_41 : decode cX2_number 41 = .ok (.ireturn, 1) := dk_172 (dk_at dksX2_number_1 17 rfl rfl)
theorem q118 : (Jvm.Cond.initialized "RatSorters$Tokens") ∈ lw_all := lw_g (lw_at lw_m1 6 rfl) rfl
theorem q237 : (Jvm.Cond.instantiable "RatSorters$Tokens" (8 : Nat)) ∈ lw_all := lw_g (lw_at lw_m1 125 rfl) rfl
theorem q239 : (Jvm.Cond.instanceMethod ({ cls := "RatSorters$Tokens", name := "<init>", desc := "()V" } : Jvm.MethodName)) ∈ lw_all := lw_g (lw_at lw_m1 127 rfl) rfl
theorem q240 : (Jvm.Cond.code ({ cls := "RatSorters$Tokens", name := "<init>", desc := "()V" } : Jvm.MethodName) prog_20_method_1_code (1 : Nat) (Option.none : Option Jvm.ClassFile.FieldType)) ∈ lw_all := lw_g (lw_at lw_m1 128 rfl) rfl
theorem q241 : (Jvm.Cond.methodLink "RatSorters$Tokens" (3 : Nat) ({ cls := "java/lang/Object", name := "<init>", desc := "()V" } : Jvm.MethodName)) ∈ lw_all := lw_g (lw_at lw_m1 129 rfl) rfl
theorem q242 : (Jvm.Cond.classLink "RatSorters$Tokens" (9 : Nat) "java/lang/String") ∈ lw_all := lw_g (lw_at lw_m1 130 rfl) rfl
theorem q244 : (Jvm.Cond.stringRef "RatSorters$Tokens" (11 : Nat) "grain") ∈ lw_tbl := lw_at lw_m1 132 rfl
theorem q245 : (Jvm.Cond.stringRef "RatSorters$Tokens" (13 : Nat) "hole") ∈ lw_tbl := lw_at lw_m1 133 rfl
theorem q246 : (Jvm.Cond.stringRef "RatSorters$Tokens" (15 : Nat) "rat") ∈ lw_tbl := lw_at lw_m1 134 rfl
theorem q247 : (Jvm.Cond.stringRef "RatSorters$Tokens" (17 : Nat) "load") ∈ lw_tbl := lw_at lw_m1 135 rfl
theorem q248 : (Jvm.Cond.stringRef "RatSorters$Tokens" (19 : Nat) "eats") ∈ lw_tbl := lw_at lw_m1 136 rfl
theorem q249 : (Jvm.Cond.stringRef "RatSorters$Tokens" (21 : Nat) "errs") ∈ lw_tbl := lw_at lw_m1 137 rfl
theorem q250 : (Jvm.Cond.stringRef "RatSorters$Tokens" (23 : Nat) "wants") ∈ lw_tbl := lw_at lw_m1 138 rfl
theorem q251 : (Jvm.Cond.stringRef "RatSorters$Tokens" (25 : Nat) "lamp") ∈ lw_tbl := lw_at lw_m1 139 rfl
theorem q252 : (Jvm.Cond.stringRef "RatSorters$Tokens" (27 : Nat) "odd") ∈ lw_tbl := lw_at lw_m1 140 rfl
theorem q253 : (Jvm.Cond.stringRef "RatSorters$Tokens" (29 : Nat) "seed") ∈ lw_tbl := lw_at lw_m1 141 rfl
theorem q254 : (Jvm.Cond.stringRef "RatSorters$Tokens" (31 : Nat) "if") ∈ lw_tbl := lw_at lw_m1 142 rfl
theorem q255 : (Jvm.Cond.stringRef "RatSorters$Tokens" (33 : Nat) "then") ∈ lw_tbl := lw_at lw_m1 143 rfl
theorem q256 : (Jvm.Cond.stringRef "RatSorters$Tokens" (35 : Nat) "else") ∈ lw_tbl := lw_at lw_m1 144 rfl
theorem q257 : (Jvm.Cond.stringRef "RatSorters$Tokens" (37 : Nat) "hunger") ∈ lw_tbl := lw_at lw_m1 145 rfl
theorem q258 : (Jvm.Cond.stringRef "RatSorters$Tokens" (39 : Nat) "fat") ∈ lw_tbl := lw_at lw_m1 146 rfl
theorem q259 : (Jvm.Cond.stringRef "RatSorters$Tokens" (41 : Nat) "much") ∈ lw_tbl := lw_at lw_m1 147 rfl
theorem q260 : (Jvm.Cond.stringRef "RatSorters$Tokens" (43 : Nat) "dark") ∈ lw_tbl := lw_at lw_m1 148 rfl
theorem q261 : (Jvm.Cond.stringRef "RatSorters$Tokens" (45 : Nat) "far") ∈ lw_tbl := lw_at lw_m1 149 rfl
theorem q262 : (Jvm.Cond.stringRef "RatSorters$Tokens" (47 : Nat) "know") ∈ lw_tbl := lw_at lw_m1 150 rfl
theorem q263 : (Jvm.Cond.stringRef "RatSorters$Tokens" (49 : Nat) "trips") ∈ lw_tbl := lw_at lw_m1 151 rfl
theorem q264 : (Jvm.Cond.fieldLink "RatSorters$Tokens" (51 : Nat) "RatSorters$Tokens" "words" "[Ljava/lang/String;") ∈ lw_all := lw_g (lw_at lw_m1 152 rfl) rfl
theorem q265 : (Jvm.Cond.fieldLink "RatSorters$Tokens" (57 : Nat) "RatSorters$Tokens" "tape" "[B") ∈ lw_all := lw_g (lw_at lw_m1 153 rfl) rfl
theorem q267 : (Jvm.Cond.fieldLink "RatSorters$Tokens" (74 : Nat) "RatSorters$Tokens" "taped" "I") ∈ lw_all := lw_g (lw_at lw_m1 155 rfl) rfl
theorem q269 : (Jvm.Cond.fieldLink "RatSorters$Tokens" (61 : Nat) "RatSorters$Tokens" "sort" "[B") ∈ lw_all := lw_g (lw_at lw_m1 157 rfl) rfl
theorem q271 : (Jvm.Cond.fieldLink "RatSorters$Tokens" (64 : Nat) "RatSorters$Tokens" "from" "[S") ∈ lw_all := lw_g (lw_at lw_m1 159 rfl) rfl
theorem q273 : (Jvm.Cond.fieldLink "RatSorters$Tokens" (68 : Nat) "RatSorters$Tokens" "to" "[S") ∈ lw_all := lw_g (lw_at lw_m1 161 rfl) rfl
theorem q274 : (Jvm.Cond.fieldLink "RatSorters$Tokens" (71 : Nat) "RatSorters$Tokens" "what" "[S") ∈ lw_all := lw_g (lw_at lw_m1 162 rfl) rfl
theorem q276 : (Jvm.Cond.fieldLink "RatSorters$Tokens" (82 : Nat) "RatSorters$Tokens" "many" "I") ∈ lw_all := lw_g (lw_at lw_m1 164 rfl) rfl
theorem q277 : (Jvm.Cond.laysFinal "RatSorters$Tokens" "RatSorters$Tokens" "words" "[Ljava/lang/String;") ∈ lw_all := lw_g (lw_at lw_m1 165 rfl) rfl
theorem q278 : (Jvm.Cond.soleField "RatSorters$Tokens" "words") ∈ lw_all := lw_g (lw_at lw_m1 166 rfl) rfl
theorem q279 : (Jvm.Cond.laysFinal "RatSorters$Tokens" "RatSorters$Tokens" "tape" "[B") ∈ lw_all := lw_g (lw_at lw_m1 167 rfl) rfl
theorem q280 : (Jvm.Cond.soleField "RatSorters$Tokens" "tape") ∈ lw_all := lw_g (lw_at lw_m1 168 rfl) rfl
theorem q281 : (Jvm.Cond.lays "RatSorters$Tokens" "RatSorters$Tokens" "taped" "I") ∈ lw_all := lw_g (lw_at lw_m1 169 rfl) rfl
theorem q282 : (Jvm.Cond.soleField "RatSorters$Tokens" "taped") ∈ lw_all := lw_g (lw_at lw_m1 170 rfl) rfl
theorem q283 : (Jvm.Cond.laysFinal "RatSorters$Tokens" "RatSorters$Tokens" "sort" "[B") ∈ lw_all := lw_g (lw_at lw_m1 171 rfl) rfl
theorem q284 : (Jvm.Cond.soleField "RatSorters$Tokens" "sort") ∈ lw_all := lw_g (lw_at lw_m1 172 rfl) rfl
theorem q285 : (Jvm.Cond.laysFinal "RatSorters$Tokens" "RatSorters$Tokens" "from" "[S") ∈ lw_all := lw_g (lw_at lw_m1 173 rfl) rfl
theorem q286 : (Jvm.Cond.soleField "RatSorters$Tokens" "from") ∈ lw_all := lw_g (lw_at lw_m1 174 rfl) rfl
theorem q287 : (Jvm.Cond.laysFinal "RatSorters$Tokens" "RatSorters$Tokens" "to" "[S") ∈ lw_all := lw_g (lw_at lw_m1 175 rfl) rfl
theorem q288 : (Jvm.Cond.soleField "RatSorters$Tokens" "to") ∈ lw_all := lw_g (lw_at lw_m1 176 rfl) rfl
theorem q289 : (Jvm.Cond.laysFinal "RatSorters$Tokens" "RatSorters$Tokens" "what" "[S") ∈ lw_all := lw_g (lw_at lw_m1 177 rfl) rfl
theorem q290 : (Jvm.Cond.soleField "RatSorters$Tokens" "what") ∈ lw_all := lw_g (lw_at lw_m1 178 rfl) rfl
theorem q291 : (Jvm.Cond.lays "RatSorters$Tokens" "RatSorters$Tokens" "many" "I") ∈ lw_all := lw_g (lw_at lw_m1 179 rfl) rfl
theorem q292 : (Jvm.Cond.soleField "RatSorters$Tokens" "many") ∈ lw_all := lw_g (lw_at lw_m1 180 rfl) rfl
theorem q293 : (Jvm.Cond.superclass "RatSorters$Tokens" "java/lang/Object") ∈ lw_all := lw_g (lw_at lw_m1 181 rfl) rfl
theorem q678 : (Jvm.Cond.instanceMethod ({ cls := "RatSorters$Tokens", name := "read", desc := "()V" } : Jvm.MethodName)) ∈ lw_all := lw_g (lw_at lw_m3 86 rfl) rfl
theorem q679 : (Jvm.Cond.selects "RatSorters$Tokens" ({ cls := "RatSorters$Tokens", name := "read", desc := "()V" } : Jvm.MethodName) ({ cls := "RatSorters$Tokens", name := "read", desc := "()V" } : Jvm.MethodName)) ∈ lw_all := lw_g (lw_at lw_m3 87 rfl) rfl
theorem q680 : (Jvm.Cond.code ({ cls := "RatSorters$Tokens", name := "read", desc := "()V" } : Jvm.MethodName) prog_20_method_8_code (7 : Nat) (Option.none : Option Jvm.ClassFile.FieldType)) ∈ lw_all := lw_g (lw_at lw_m3 88 rfl) rfl
theorem q681 : (Jvm.Cond.methodLink "RatSorters$Tokens" (93 : Nat) ({ cls := "RatSorters$Tokens", name := "isLetter", desc := "(I)Z" } : Jvm.MethodName)) ∈ lw_all := lw_g (lw_at lw_m3 89 rfl) rfl
theorem q682 : (Jvm.Cond.privateMethod ({ cls := "RatSorters$Tokens", name := "isLetter", desc := "(I)Z" } : Jvm.MethodName)) ∈ lw_tbl := lw_at lw_m3 90 rfl
theorem q683 : (Jvm.Cond.instanceMethod ({ cls := "RatSorters$Tokens", name := "isLetter", desc := "(I)Z" } : Jvm.MethodName)) ∈ lw_all := lw_g (lw_at lw_m3 91 rfl) rfl
theorem q684 : (Jvm.Cond.code ({ cls := "RatSorters$Tokens", name := "isLetter", desc := "(I)Z" } : Jvm.MethodName) prog_20_method_4_code (2 : Nat) (Option.some Jvm.ClassFile.FieldType.boolean)) ∈ lw_all := lw_g (lw_at lw_m3 92 rfl) rfl
theorem q685 : (Jvm.Cond.methodLink "RatSorters$Tokens" (78 : Nat) ({ cls := "RatSorters$Tokens", name := "at", desc := "(I)I" } : Jvm.MethodName)) ∈ lw_all := lw_g (lw_at lw_m3 93 rfl) rfl
theorem q686 : (Jvm.Cond.privateMethod ({ cls := "RatSorters$Tokens", name := "at", desc := "(I)I" } : Jvm.MethodName)) ∈ lw_tbl := lw_at lw_m3 94 rfl
theorem q687 : (Jvm.Cond.instanceMethod ({ cls := "RatSorters$Tokens", name := "at", desc := "(I)I" } : Jvm.MethodName)) ∈ lw_all := lw_g (lw_at lw_m3 95 rfl) rfl
theorem q688 : (Jvm.Cond.code ({ cls := "RatSorters$Tokens", name := "at", desc := "(I)I" } : Jvm.MethodName) prog_20_method_2_code (2 : Nat) (Option.some Jvm.ClassFile.FieldType.int)) ∈ lw_all := lw_g (lw_at lw_m3 96 rfl) rfl
theorem q689 : (Jvm.Cond.methodLink "RatSorters$Tokens" (97 : Nat) ({ cls := "RatSorters$Tokens", name := "word", desc := "(II)I" } : Jvm.MethodName)) ∈ lw_all := lw_g (lw_at lw_m3 97 rfl) rfl
theorem q690 : (Jvm.Cond.privateMethod ({ cls := "RatSorters$Tokens", name := "word", desc := "(II)I" } : Jvm.MethodName)) ∈ lw_tbl := lw_at lw_m3 98 rfl
theorem q691 : (Jvm.Cond.instanceMethod ({ cls := "RatSorters$Tokens", name := "word", desc := "(II)I" } : Jvm.MethodName)) ∈ lw_all := lw_g (lw_at lw_m3 99 rfl) rfl
theorem q692 : (Jvm.Cond.code ({ cls := "RatSorters$Tokens", name := "word", desc := "(II)I" } : Jvm.MethodName) prog_20_method_6_code (6 : Nat) (Option.some Jvm.ClassFile.FieldType.int)) ∈ lw_all := lw_g (lw_at lw_m3 100 rfl) rfl
theorem q693 : (Jvm.Cond.methodLink "RatSorters$Tokens" (85 : Nat) ({ cls := "java/lang/String", name := "length", desc := "()I" } : Jvm.MethodName)) ∈ lw_all := lw_g (lw_at lw_m3 101 rfl) rfl
theorem q703 : (Jvm.Cond.methodLink "RatSorters$Tokens" (89 : Nat) ({ cls := "java/lang/String", name := "charAt", desc := "(I)C" } : Jvm.MethodName)) ∈ lw_all := lw_g (lw_at lw_m3 111 rfl) rfl
theorem q739 : (Jvm.Cond.methodLink "RatSorters$Tokens" (101 : Nat) ({ cls := "RatSorters$Tokens", name := "isDigit", desc := "(I)Z" } : Jvm.MethodName)) ∈ lw_all := lw_g (lw_at lw_m3 147 rfl) rfl
theorem q740 : (Jvm.Cond.privateMethod ({ cls := "RatSorters$Tokens", name := "isDigit", desc := "(I)Z" } : Jvm.MethodName)) ∈ lw_tbl := lw_at lw_m3 148 rfl
theorem q741 : (Jvm.Cond.instanceMethod ({ cls := "RatSorters$Tokens", name := "isDigit", desc := "(I)Z" } : Jvm.MethodName)) ∈ lw_all := lw_g (lw_at lw_m3 149 rfl) rfl
theorem q742 : (Jvm.Cond.code ({ cls := "RatSorters$Tokens", name := "isDigit", desc := "(I)Z" } : Jvm.MethodName) prog_20_method_3_code (2 : Nat) (Option.some Jvm.ClassFile.FieldType.boolean)) ∈ lw_all := lw_g (lw_at lw_m3 150 rfl) rfl
theorem q743 : (Jvm.Cond.methodLink "RatSorters$Tokens" (104 : Nat) ({ cls := "RatSorters$Tokens", name := "sign", desc := "(I)I" } : Jvm.MethodName)) ∈ lw_all := lw_g (lw_at lw_m3 151 rfl) rfl
theorem q744 : (Jvm.Cond.privateMethod ({ cls := "RatSorters$Tokens", name := "sign", desc := "(I)I" } : Jvm.MethodName)) ∈ lw_tbl := lw_at lw_m3 152 rfl
theorem q745 : (Jvm.Cond.instanceMethod ({ cls := "RatSorters$Tokens", name := "sign", desc := "(I)I" } : Jvm.MethodName)) ∈ lw_all := lw_g (lw_at lw_m3 153 rfl) rfl
theorem q746 : (Jvm.Cond.code ({ cls := "RatSorters$Tokens", name := "sign", desc := "(I)I" } : Jvm.MethodName) prog_20_method_7_code (3 : Nat) (Option.some Jvm.ClassFile.FieldType.int)) ∈ lw_all := lw_g (lw_at lw_m3 154 rfl) rfl
theorem q747 : (Jvm.Cond.methodLink "RatSorters$Tokens" (107 : Nat) ({ cls := "RatSorters$Tokens", name := "add", desc := "(IIII)V" } : Jvm.MethodName)) ∈ lw_all := lw_g (lw_at lw_m3 155 rfl) rfl
theorem q748 : (Jvm.Cond.privateMethod ({ cls := "RatSorters$Tokens", name := "add", desc := "(IIII)V" } : Jvm.MethodName)) ∈ lw_tbl := lw_at lw_m3 156 rfl
theorem q749 : (Jvm.Cond.instanceMethod ({ cls := "RatSorters$Tokens", name := "add", desc := "(IIII)V" } : Jvm.MethodName)) ∈ lw_all := lw_g (lw_at lw_m3 157 rfl) rfl
theorem q750 : (Jvm.Cond.code ({ cls := "RatSorters$Tokens", name := "add", desc := "(IIII)V" } : Jvm.MethodName) prog_20_method_5_code (5 : Nat) (Option.none : Option Jvm.ClassFile.FieldType)) ∈ lw_all := lw_g (lw_at lw_m3 158 rfl) rfl
theorem q793 : (Jvm.Cond.instanceMethod ({ cls := "RatSorters$Tokens", name := "text", desc := "(I)Ljava/lang/String;" } : Jvm.MethodName)) ∈ lw_all := lw_g (lw_at lw_m3 201 rfl) rfl
theorem q794 : (Jvm.Cond.selects "RatSorters$Tokens" ({ cls := "RatSorters$Tokens", name := "text", desc := "(I)Ljava/lang/String;" } : Jvm.MethodName) ({ cls := "RatSorters$Tokens", name := "text", desc := "(I)Ljava/lang/String;" } : Jvm.MethodName)) ∈ lw_all := lw_g (lw_at lw_m3 202 rfl) rfl
theorem q795 : (Jvm.Cond.code ({ cls := "RatSorters$Tokens", name := "text", desc := "(I)Ljava/lang/String;" } : Jvm.MethodName) prog_20_method_9_code (4 : Nat) (Option.some (Jvm.ClassFile.FieldType.object "java/lang/String"))) ∈ lw_all := lw_g (lw_at lw_m3 203 rfl) rfl
theorem q796 : (Jvm.Cond.classLink "RatSorters$Tokens" (111 : Nat) "java/lang/StringBuilder") ∈ lw_all := lw_g (lw_at lw_m3 204 rfl) rfl
theorem q798 : (Jvm.Cond.methodLink "RatSorters$Tokens" (113 : Nat) ({ cls := "java/lang/StringBuilder", name := "<init>", desc := "()V" } : Jvm.MethodName)) ∈ lw_all := lw_g (lw_at lw_m3 206 rfl) rfl
theorem q826 : (Jvm.Cond.methodLink "RatSorters$Tokens" (114 : Nat) ({ cls := "java/lang/StringBuilder", name := "append", desc := "(C)Ljava/lang/StringBuilder;" } : Jvm.MethodName)) ∈ lw_all := lw_g (lw_at lw_m3 234 rfl) rfl
theorem q901 : (Jvm.Cond.methodLink "RatSorters$Tokens" (118 : Nat) ({ cls := "java/lang/StringBuilder", name := "toString", desc := "()Ljava/lang/String;" } : Jvm.MethodName)) ∈ lw_all := lw_g (lw_at lw_m4 69 rfl) rfl
theorem q1005 : (Jvm.Cond.instanceMethod ({ cls := "RatSorters$Tokens", name := "number", desc := "(I)I" } : Jvm.MethodName)) ∈ lw_all := lw_g (lw_at lw_m4 173 rfl) rfl
theorem q1006 : (Jvm.Cond.selects "RatSorters$Tokens" ({ cls := "RatSorters$Tokens", name := "number", desc := "(I)I" } : Jvm.MethodName) ({ cls := "RatSorters$Tokens", name := "number", desc := "(I)I" } : Jvm.MethodName)) ∈ lw_all := lw_g (lw_at lw_m4 174 rfl) rfl
theorem q1007 : (Jvm.Cond.code ({ cls := "RatSorters$Tokens", name := "number", desc := "(I)I" } : Jvm.MethodName) prog_20_method_10_code (4 : Nat) (Option.some Jvm.ClassFile.FieldType.int)) ∈ lw_all := lw_g (lw_at lw_m4 175 rfl) rfl
theorem q1048 : (Jvm.Cond.selects "RatSorters$Tokens" ({ cls := "java/lang/Object", name := "getClass", desc := "()Ljava/lang/Class;" } : Jvm.MethodName) ({ cls := "java/lang/Object", name := "getClass", desc := "()Ljava/lang/Class;" } : Jvm.MethodName)) ∈ lw_all := lw_g (lw_at lw_m4 216 rfl) rfl
theorem q2272 : (Jvm.Cond.castable "RatSorters$Tokens" "java/lang/Object") ∈ lw_tbl := lw_at lw_m10 0 rfl
theorem in_X2 : ∀ w ∈ wsX20, w ∈ lw_all := lw_in wsX20 [277, 279, 281, 283, 285, 287, 289, 291] (by decide +kernel) (by decide +kernel)
