/-! RatSorters$House -/
set_option maxRecDepth 100000
def RX5 : String := "RatSorters$House"
def TX5 : u_T := fun k => match k with
  | 0 => ("RatSorters$House", "heap", "[I", true)
  | 1 => ("RatSorters$House", "far", "[I", true)
  | 2 => ("RatSorters$House", "hole", "[[I", true)
  | 3 => ("RatSorters$House", "is", "[I", true)
  | 4 => ("RatSorters$House", "left", "[I", true)
  | 5 => ("RatSorters$House", "carries", "[I", true)
  | 6 => ("RatSorters$House", "of", "[I", true)
  | 7 => ("RatSorters$House", "to", "[I", true)
  | 8 => ("RatSorters$House", "hunger", "[I", true)
  | 9 => ("RatSorters$House", "fat", "[I", true)
  | 10 => ("RatSorters$House", "knows", "[I", true)
  | 11 => ("RatSorters$House", "trips", "[I", true)
  | 12 => ("RatSorters$House", "cat", "I", false)
  | 13 => ("RatSorters$House", "minute", "I", false)
  | 14 => ("RatSorters$House", "eaten", "I", false)
  | 15 => ("RatSorters$House", "coins", "I", false)
  | 16 => ("RatSorters$House", "sold", "I", false)
  | 17 => ("RatSorters$House", "quarrels", "I", false)
  | 18 => ("RatSorters$House", "seed", "I", false)
  | 19 => ("RatSorters$House", "loaded", "I", false)
  | 20 => ("RatSorters$House", "asked", "LRatSorters$Asked;", true)
  | _ => ("RatSorters$House", "doings", "[LRatSorters$Doing;", true)
def tyX5 : Nat → FieldType := fun k => match k with
  | 0 => .array .int
  | 1 => .array .int
  | 2 => .array (.array .int)
  | 3 => .array .int
  | 4 => .array .int
  | 5 => .array .int
  | 6 => .array .int
  | 7 => .array .int
  | 8 => .array .int
  | 9 => .array .int
  | 10 => .array .int
  | 11 => .array .int
  | 12 => .int
  | 13 => .int
  | 14 => .int
  | 15 => .int
  | 16 => .int
  | 17 => .int
  | 18 => .int
  | 19 => .int
  | 20 => .object "RatSorters$Asked"
  | _ => .array (.object "RatSorters$Doing")
abbrev wsX50 : List Cond := u_ws RX5 TX5 22
set_option maxRecDepth 100000 in
theorem nmX5 : ∀ a, a < 22 → ∀ b, b < 22 → a ≠ b → (TX5 a).2.1 ≠ (TX5 b).2.1 := by decide +kernel
set_option maxRecDepth 100000 in
theorem tyX5_ok : ∀ k, k < 22 → parseFieldDescriptor (TX5 k).2.2.1 = some (tyX5 k) := by decide +kernel
abbrev cX5_init : ByteArray := prog_8_method_1_code
def yX5_init : MethodName := ⟨RX5, "<init>", "()V"⟩
def dkwX5_init_6 : List UInt8 := [5, 187, 0, 65, 89, 183, 0, 67, 83, 89, 6, 187, 0, 57, 89, 183, 0, 68, 83, 181, 0, 69, 177]
abbrev dktX5_init_6 : List UInt8 := dkwX5_init_6 ++ []
def dkwX5_init_5 : List UInt8 := [189, 0, 57, 89, 3, 187, 0, 59, 89, 183, 0, 61, 83, 89, 4, 187, 0, 62, 89, 183, 0, 64, 83, 89]
abbrev dktX5_init_5 : List UInt8 := dkwX5_init_5 ++ dktX5_init_6
def dkwX5_init_4 : List UInt8 := [181, 0, 44, 42, 16, 8, 188, 10, 181, 0, 47, 42, 187, 0, 50, 89, 183, 0, 52, 181, 0, 53, 42, 7]
abbrev dktX5_init_4 : List UInt8 := dkwX5_init_4 ++ dktX5_init_5
def dkwX5_init_3 : List UInt8 := [181, 0, 35, 42, 16, 8, 188, 10, 181, 0, 38, 42, 16, 8, 188, 10, 181, 0, 41, 42, 16, 8, 188, 10]
abbrev dktX5_init_3 : List UInt8 := dkwX5_init_3 ++ dktX5_init_4
def dkwX5_init_2 : List UInt8 := [181, 0, 26, 42, 16, 8, 188, 10, 181, 0, 29, 42, 16, 8, 188, 10, 181, 0, 32, 42, 16, 8, 188, 10]
abbrev dktX5_init_2 : List UInt8 := dkwX5_init_2 ++ dktX5_init_3
def dkwX5_init_1 : List UInt8 := [16, 6, 197, 0, 18, 2, 181, 0, 20, 42, 16, 8, 188, 10, 181, 0, 23, 42, 16, 8, 188, 10]
abbrev dktX5_init_1 : List UInt8 := dkwX5_init_1 ++ dktX5_init_2
def dkwX5_init_0 : List UInt8 := [42, 183, 0, 3, 42, 16, 6, 188, 10, 181, 0, 9, 42, 16, 6, 188, 10, 181, 0, 15, 42, 16, 6]
abbrev dktX5_init_0 : List UInt8 := dkwX5_init_0 ++ dktX5_init_1
theorem dksX5_init_0 : cX5_init.data.toList.drop 0 = dktX5_init_0 := by decide +kernel
theorem dksX5_init_1 : cX5_init.data.toList.drop 23 = dktX5_init_1 := dk_seg dksX5_init_0 23 rfl rfl
theorem dksX5_init_2 : cX5_init.data.toList.drop 45 = dktX5_init_2 := dk_seg dksX5_init_1 22 rfl rfl
theorem dksX5_init_3 : cX5_init.data.toList.drop 69 = dktX5_init_3 := dk_seg dksX5_init_2 24 rfl rfl
theorem dksX5_init_4 : cX5_init.data.toList.drop 93 = dktX5_init_4 := dk_seg dksX5_init_3 24 rfl rfl
theorem dksX5_init_5 : cX5_init.data.toList.drop 117 = dktX5_init_5 := dk_seg dksX5_init_4 24 rfl rfl
theorem dksX5_init_6 : cX5_init.data.toList.drop 141 = dktX5_init_6 := dk_seg dksX5_init_5 24 rfl rfl
theorem dX5_init_0 : decode cX5_init 0 = .ok (.aload_n 0, 1) := dk_42 (dk_at dksX5_init_0 0 rfl rfl)
theorem dX5_init_1 : decode cX5_init 1 = .ok (.invokespecial 3, 3) := dk_183 0 3 (dk_at dksX5_init_0 1 rfl rfl)
theorem dX5_init_4 : decode cX5_init 4 = .ok (.aload_n 0, 1) := dk_42 (dk_at dksX5_init_0 4 rfl rfl)
theorem dX5_init_5 : decode cX5_init 5 = .ok (.bipush 6, 2) := dk_16 6 (dk_at dksX5_init_0 5 rfl rfl)
theorem dX5_init_7 : decode cX5_init 7 = .ok (.newarray .int, 2) := dk_188_10 (dk_at dksX5_init_0 7 rfl rfl)
theorem dX5_init_9 : decode cX5_init 9 = .ok (.putfield 9, 3) := dk_181 0 9 (dk_at dksX5_init_0 9 rfl rfl)
theorem dX5_init_12 : decode cX5_init 12 = .ok (.aload_n 0, 1) := dk_42 (dk_at dksX5_init_0 12 rfl rfl)
theorem dX5_init_13 : decode cX5_init 13 = .ok (.bipush 6, 2) := dk_16 6 (dk_at dksX5_init_0 13 rfl rfl)
theorem dX5_init_15 : decode cX5_init 15 = .ok (.newarray .int, 2) := dk_188_10 (dk_at dksX5_init_0 15 rfl rfl)
theorem dX5_init_17 : decode cX5_init 17 = .ok (.putfield 15, 3) := dk_181 0 15 (dk_at dksX5_init_0 17 rfl rfl)
theorem dX5_init_20 : decode cX5_init 20 = .ok (.aload_n 0, 1) := dk_42 (dk_at dksX5_init_0 20 rfl rfl)
theorem dX5_init_21 : decode cX5_init 21 = .ok (.bipush 6, 2) := dk_16 6 (dk_at dksX5_init_0 21 rfl rfl)
theorem dX5_init_23 : decode cX5_init 23 = .ok (.bipush 6, 2) := dk_16 6 (dk_at dksX5_init_1 0 rfl rfl)
theorem dX5_init_25 : decode cX5_init 25 = .ok (.multianewarray 18 2, 4) := by decide +kernel
theorem dX5_init_29 : decode cX5_init 29 = .ok (.putfield 20, 3) := dk_181 0 20 (dk_at dksX5_init_1 6 rfl rfl)
theorem dX5_init_32 : decode cX5_init 32 = .ok (.aload_n 0, 1) := dk_42 (dk_at dksX5_init_1 9 rfl rfl)
theorem dX5_init_33 : decode cX5_init 33 = .ok (.bipush 8, 2) := dk_16 8 (dk_at dksX5_init_1 10 rfl rfl)
theorem dX5_init_35 : decode cX5_init 35 = .ok (.newarray .int, 2) := dk_188_10 (dk_at dksX5_init_1 12 rfl rfl)
theorem dX5_init_37 : decode cX5_init 37 = .ok (.putfield 23, 3) := dk_181 0 23 (dk_at dksX5_init_1 14 rfl rfl)
theorem dX5_init_40 : decode cX5_init 40 = .ok (.aload_n 0, 1) := dk_42 (dk_at dksX5_init_1 17 rfl rfl)
theorem dX5_init_41 : decode cX5_init 41 = .ok (.bipush 8, 2) := dk_16 8 (dk_at dksX5_init_1 18 rfl rfl)
theorem dX5_init_43 : decode cX5_init 43 = .ok (.newarray .int, 2) := dk_188_10 (dk_at dksX5_init_1 20 rfl rfl)
theorem dX5_init_45 : decode cX5_init 45 = .ok (.putfield 26, 3) := dk_181 0 26 (dk_at dksX5_init_2 0 rfl rfl)
theorem dX5_init_48 : decode cX5_init 48 = .ok (.aload_n 0, 1) := dk_42 (dk_at dksX5_init_2 3 rfl rfl)
theorem dX5_init_49 : decode cX5_init 49 = .ok (.bipush 8, 2) := dk_16 8 (dk_at dksX5_init_2 4 rfl rfl)
theorem dX5_init_51 : decode cX5_init 51 = .ok (.newarray .int, 2) := dk_188_10 (dk_at dksX5_init_2 6 rfl rfl)
theorem dX5_init_53 : decode cX5_init 53 = .ok (.putfield 29, 3) := dk_181 0 29 (dk_at dksX5_init_2 8 rfl rfl)
theorem dX5_init_56 : decode cX5_init 56 = .ok (.aload_n 0, 1) := dk_42 (dk_at dksX5_init_2 11 rfl rfl)
theorem dX5_init_57 : decode cX5_init 57 = .ok (.bipush 8, 2) := dk_16 8 (dk_at dksX5_init_2 12 rfl rfl)
theorem dX5_init_59 : decode cX5_init 59 = .ok (.newarray .int, 2) := dk_188_10 (dk_at dksX5_init_2 14 rfl rfl)
theorem dX5_init_61 : decode cX5_init 61 = .ok (.putfield 32, 3) := dk_181 0 32 (dk_at dksX5_init_2 16 rfl rfl)
theorem dX5_init_64 : decode cX5_init 64 = .ok (.aload_n 0, 1) := dk_42 (dk_at dksX5_init_2 19 rfl rfl)
theorem dX5_init_65 : decode cX5_init 65 = .ok (.bipush 8, 2) := dk_16 8 (dk_at dksX5_init_2 20 rfl rfl)
theorem dX5_init_67 : decode cX5_init 67 = .ok (.newarray .int, 2) := dk_188_10 (dk_at dksX5_init_2 22 rfl rfl)
theorem dX5_init_69 : decode cX5_init 69 = .ok (.putfield 35, 3) := dk_181 0 35 (dk_at dksX5_init_3 0 rfl rfl)
theorem dX5_init_72 : decode cX5_init 72 = .ok (.aload_n 0, 1) := dk_42 (dk_at dksX5_init_3 3 rfl rfl)
theorem dX5_init_73 : decode cX5_init 73 = .ok (.bipush 8, 2) := dk_16 8 (dk_at dksX5_init_3 4 rfl rfl)
theorem dX5_init_75 : decode cX5_init 75 = .ok (.newarray .int, 2) := dk_188_10 (dk_at dksX5_init_3 6 rfl rfl)
theorem dX5_init_77 : decode cX5_init 77 = .ok (.putfield 38, 3) := dk_181 0 38 (dk_at dksX5_init_3 8 rfl rfl)
theorem dX5_init_80 : decode cX5_init 80 = .ok (.aload_n 0, 1) := dk_42 (dk_at dksX5_init_3 11 rfl rfl)
theorem dX5_init_81 : decode cX5_init 81 = .ok (.bipush 8, 2) := dk_16 8 (dk_at dksX5_init_3 12 rfl rfl)
theorem dX5_init_83 : decode cX5_init 83 = .ok (.newarray .int, 2) := dk_188_10 (dk_at dksX5_init_3 14 rfl rfl)
theorem dX5_init_85 : decode cX5_init 85 = .ok (.putfield 41, 3) := dk_181 0 41 (dk_at dksX5_init_3 16 rfl rfl)
theorem dX5_init_88 : decode cX5_init 88 = .ok (.aload_n 0, 1) := dk_42 (dk_at dksX5_init_3 19 rfl rfl)
theorem dX5_init_89 : decode cX5_init 89 = .ok (.bipush 8, 2) := dk_16 8 (dk_at dksX5_init_3 20 rfl rfl)
theorem dX5_init_91 : decode cX5_init 91 = .ok (.newarray .int, 2) := dk_188_10 (dk_at dksX5_init_3 22 rfl rfl)
theorem dX5_init_93 : decode cX5_init 93 = .ok (.putfield 44, 3) := dk_181 0 44 (dk_at dksX5_init_4 0 rfl rfl)
theorem dX5_init_96 : decode cX5_init 96 = .ok (.aload_n 0, 1) := dk_42 (dk_at dksX5_init_4 3 rfl rfl)
theorem dX5_init_97 : decode cX5_init 97 = .ok (.bipush 8, 2) := dk_16 8 (dk_at dksX5_init_4 4 rfl rfl)
theorem dX5_init_99 : decode cX5_init 99 = .ok (.newarray .int, 2) := dk_188_10 (dk_at dksX5_init_4 6 rfl rfl)
theorem dX5_init_101 : decode cX5_init 101 = .ok (.putfield 47, 3) := dk_181 0 47 (dk_at dksX5_init_4 8 rfl rfl)
theorem dX5_init_104 : decode cX5_init 104 = .ok (.aload_n 0, 1) := dk_42 (dk_at dksX5_init_4 11 rfl rfl)
theorem dX5_init_105 : decode cX5_init 105 = .ok (.new 50, 3) := dk_187 0 50 (dk_at dksX5_init_4 12 rfl rfl)
theorem dX5_init_108 : decode cX5_init 108 = .ok (.dup, 1) := dk_89 (dk_at dksX5_init_4 15 rfl rfl)
theorem dX5_init_109 : decode cX5_init 109 = .ok (.invokespecial 52, 3) := dk_183 0 52 (dk_at dksX5_init_4 16 rfl rfl)
theorem dX5_init_112 : decode cX5_init 112 = .ok (.putfield 53, 3) := dk_181 0 53 (dk_at dksX5_init_4 19 rfl rfl)
theorem dX5_init_115 : decode cX5_init 115 = .ok (.aload_n 0, 1) := dk_42 (dk_at dksX5_init_4 22 rfl rfl)
theorem dX5_init_116 : decode cX5_init 116 = .ok (.iconst 4, 1) := dk_7 (dk_at dksX5_init_4 23 rfl rfl)
theorem dX5_init_117 : decode cX5_init 117 = .ok (.anewarray 57, 3) := dk_189 0 57 (dk_at dksX5_init_5 0 rfl rfl)
theorem dX5_init_120 : decode cX5_init 120 = .ok (.dup, 1) := dk_89 (dk_at dksX5_init_5 3 rfl rfl)
theorem dX5_init_121 : decode cX5_init 121 = .ok (.iconst 0, 1) := dk_3 (dk_at dksX5_init_5 4 rfl rfl)
theorem dX5_init_122 : decode cX5_init 122 = .ok (.new 59, 3) := dk_187 0 59 (dk_at dksX5_init_5 5 rfl rfl)
theorem dX5_init_125 : decode cX5_init 125 = .ok (.dup, 1) := dk_89 (dk_at dksX5_init_5 8 rfl rfl)
theorem dX5_init_126 : decode cX5_init 126 = .ok (.invokespecial 61, 3) := dk_183 0 61 (dk_at dksX5_init_5 9 rfl rfl)
theorem dX5_init_129 : decode cX5_init 129 = .ok (.aastore, 1) := dk_83 (dk_at dksX5_init_5 12 rfl rfl)
theorem dX5_init_130 : decode cX5_init 130 = .ok (.dup, 1) := dk_89 (dk_at dksX5_init_5 13 rfl rfl)
theorem dX5_init_131 : decode cX5_init 131 = .ok (.iconst 1, 1) := dk_4 (dk_at dksX5_init_5 14 rfl rfl)
theorem dX5_init_132 : decode cX5_init 132 = .ok (.new 62, 3) := dk_187 0 62 (dk_at dksX5_init_5 15 rfl rfl)
theorem dX5_init_135 : decode cX5_init 135 = .ok (.dup, 1) := dk_89 (dk_at dksX5_init_5 18 rfl rfl)
theorem dX5_init_136 : decode cX5_init 136 = .ok (.invokespecial 64, 3) := dk_183 0 64 (dk_at dksX5_init_5 19 rfl rfl)
theorem dX5_init_139 : decode cX5_init 139 = .ok (.aastore, 1) := dk_83 (dk_at dksX5_init_5 22 rfl rfl)
theorem dX5_init_140 : decode cX5_init 140 = .ok (.dup, 1) := dk_89 (dk_at dksX5_init_5 23 rfl rfl)
theorem dX5_init_141 : decode cX5_init 141 = .ok (.iconst 2, 1) := dk_5 (dk_at dksX5_init_6 0 rfl rfl)
theorem dX5_init_142 : decode cX5_init 142 = .ok (.new 65, 3) := dk_187 0 65 (dk_at dksX5_init_6 1 rfl rfl)
theorem dX5_init_145 : decode cX5_init 145 = .ok (.dup, 1) := dk_89 (dk_at dksX5_init_6 4 rfl rfl)
theorem dX5_init_146 : decode cX5_init 146 = .ok (.invokespecial 67, 3) := dk_183 0 67 (dk_at dksX5_init_6 5 rfl rfl)
theorem dX5_init_149 : decode cX5_init 149 = .ok (.aastore, 1) := dk_83 (dk_at dksX5_init_6 8 rfl rfl)
theorem dX5_init_150 : decode cX5_init 150 = .ok (.dup, 1) := dk_89 (dk_at dksX5_init_6 9 rfl rfl)
theorem dX5_init_151 : decode cX5_init 151 = .ok (.iconst 3, 1) := dk_6 (dk_at dksX5_init_6 10 rfl rfl)
theorem dX5_init_152 : decode cX5_init 152 = .ok (.new 57, 3) := dk_187 0 57 (dk_at dksX5_init_6 11 rfl rfl)
theorem dX5_init_155 : decode cX5_init 155 = .ok (.dup, 1) := dk_89 (dk_at dksX5_init_6 14 rfl rfl)
theorem dX5_init_156 : decode cX5_init 156 = .ok (.invokespecial 68, 3) := dk_183 0 68 (dk_at dksX5_init_6 15 rfl rfl)
theorem dX5_init_159 : decode cX5_init 159 = .ok (.aastore, 1) := dk_83 (dk_at dksX5_init_6 18 rfl rfl)
theorem dX5_init_160 : decode cX5_init 160 = .ok (.putfield 69, 3) := dk_181 0 69 (dk_at dksX5_init_6 19 rfl rfl)
theorem dX5_init_163 : decode cX5_init 163 = .ok (.return_, 1) := dk_177 (dk_at dksX5_init_6 22 rfl rfl)
abbrev cX5_begins : ByteArray := prog_8_method_2_code
def yX5_begins : MethodName := ⟨RX5, "begins", "(LRatSorters$Text;)V"⟩
def dkwX5_begins_12 : List UInt8 := [43, 180, 0, 129, 181, 0, 132, 177]
abbrev dktX5_begins_12 : List UInt8 := dkwX5_begins_12 ++ []
def dkwX5_begins_11 : List UInt8 := [181, 0, 114, 42, 3, 181, 0, 117, 42, 3, 181, 0, 120, 42, 3, 181, 0, 123, 42, 3, 181, 0, 126, 42]
abbrev dktX5_begins_11 : List UInt8 := dkwX5_begins_11 ++ dktX5_begins_12
def dkwX5_begins_10 : List UInt8 := [192, 0, 105, 180, 0, 109, 167, 0, 4, 3, 79, 132, 2, 1, 167, 255, 123, 42, 3, 181, 0, 111, 42, 3]
abbrev dktX5_begins_10 : List UInt8 := dkwX5_begins_10 ++ dktX5_begins_11
def dkwX5_begins_9 : List UInt8 := [167, 0, 4, 3, 79, 42, 180, 0, 44, 28, 29, 153, 0, 20, 43, 180, 0, 102, 28, 182, 0, 85]
abbrev dktX5_begins_9 : List UInt8 := dkwX5_begins_9 ++ dktX5_begins_10
def dkwX5_begins_8 : List UInt8 := [180, 0, 41, 28, 29, 153, 0, 20, 43, 180, 0, 102, 28, 182, 0, 85, 192, 0, 105, 180, 0, 107]
abbrev dktX5_begins_8 : List UInt8 := dkwX5_begins_8 ++ dktX5_begins_9
def dkwX5_begins_7 : List UInt8 := [180, 0, 35, 28, 16, 254, 79, 42, 180, 0, 38, 28, 3, 79, 42, 180, 0, 47, 28, 3, 79, 42]
abbrev dktX5_begins_7 : List UInt8 := dkwX5_begins_7 ++ dktX5_begins_8
def dkwX5_begins_6 : List UInt8 := [42, 180, 0, 26, 28, 3, 79, 42, 180, 0, 29, 28, 3, 79, 42, 180, 0, 32, 28, 16, 254, 79, 42]
abbrev dktX5_begins_6 : List UInt8 := dkwX5_begins_6 ++ dktX5_begins_7
def dkwX5_begins_5 : List UInt8 := [28, 43, 180, 0, 102, 182, 0, 79, 162, 0, 7, 4, 167, 0, 4, 3, 62, 42, 180, 0, 23, 28, 3, 79]
abbrev dktX5_begins_5 : List UInt8 := dkwX5_begins_5 ++ dktX5_begins_6
def dkwX5_begins_4 : List UInt8 := [182, 0, 85, 192, 0, 98, 180, 0, 100, 79, 132, 2, 1, 167, 255, 222, 3, 61, 28, 16, 8, 162, 0, 133]
abbrev dktX5_begins_4 : List UInt8 := dkwX5_begins_4 ++ dktX5_begins_5
def dkwX5_begins_3 : List UInt8 := [3, 61, 28, 43, 180, 0, 95, 182, 0, 79, 162, 0, 29, 42, 180, 0, 15, 28, 43, 180, 0, 95, 28]
abbrev dktX5_begins_3 : List UInt8 := dkwX5_begins_3 ++ dktX5_begins_4
def dkwX5_begins_2 : List UInt8 := [162, 0, 18, 42, 180, 0, 20, 29, 50, 28, 3, 79, 132, 3, 1, 167, 255, 238, 132, 2, 1, 167, 255, 189]
abbrev dktX5_begins_2 : List UInt8 := dkwX5_begins_2 ++ dktX5_begins_3
def dkwX5_begins_1 : List UInt8 := [43, 180, 0, 73, 28, 182, 0, 85, 192, 0, 89, 180, 0, 91, 167, 0, 4, 3, 79, 3, 62, 29, 16, 6]
abbrev dktX5_begins_1 : List UInt8 := dkwX5_begins_1 ++ dktX5_begins_2
def dkwX5_begins_0 : List UInt8 := [3, 61, 28, 16, 6, 162, 0, 67, 42, 180, 0, 9, 28, 28, 43, 180, 0, 73, 182, 0, 79, 162, 0, 20]
abbrev dktX5_begins_0 : List UInt8 := dkwX5_begins_0 ++ dktX5_begins_1
theorem dksX5_begins_0 : cX5_begins.data.toList.drop 0 = dktX5_begins_0 := by decide +kernel
theorem dksX5_begins_1 : cX5_begins.data.toList.drop 24 = dktX5_begins_1 := dk_seg dksX5_begins_0 24 rfl rfl
theorem dksX5_begins_2 : cX5_begins.data.toList.drop 48 = dktX5_begins_2 := dk_seg dksX5_begins_1 24 rfl rfl
theorem dksX5_begins_3 : cX5_begins.data.toList.drop 72 = dktX5_begins_3 := dk_seg dksX5_begins_2 24 rfl rfl
theorem dksX5_begins_4 : cX5_begins.data.toList.drop 95 = dktX5_begins_4 := dk_seg dksX5_begins_3 23 rfl rfl
theorem dksX5_begins_5 : cX5_begins.data.toList.drop 119 = dktX5_begins_5 := dk_seg dksX5_begins_4 24 rfl rfl
theorem dksX5_begins_6 : cX5_begins.data.toList.drop 143 = dktX5_begins_6 := dk_seg dksX5_begins_5 24 rfl rfl
theorem dksX5_begins_7 : cX5_begins.data.toList.drop 166 = dktX5_begins_7 := dk_seg dksX5_begins_6 23 rfl rfl
theorem dksX5_begins_8 : cX5_begins.data.toList.drop 188 = dktX5_begins_8 := dk_seg dksX5_begins_7 22 rfl rfl
theorem dksX5_begins_9 : cX5_begins.data.toList.drop 210 = dktX5_begins_9 := dk_seg dksX5_begins_8 22 rfl rfl
theorem dksX5_begins_10 : cX5_begins.data.toList.drop 232 = dktX5_begins_10 := dk_seg dksX5_begins_9 22 rfl rfl
theorem dksX5_begins_11 : cX5_begins.data.toList.drop 256 = dktX5_begins_11 := dk_seg dksX5_begins_10 24 rfl rfl
theorem dksX5_begins_12 : cX5_begins.data.toList.drop 280 = dktX5_begins_12 := dk_seg dksX5_begins_11 24 rfl rfl
theorem dX5_begins_0 : decode cX5_begins 0 = .ok (.iconst 0, 1) := dk_3 (dk_at dksX5_begins_0 0 rfl rfl)
theorem dX5_begins_1 : decode cX5_begins 1 = .ok (.istore_n 2, 1) := dk_61 (dk_at dksX5_begins_0 1 rfl rfl)
theorem dX5_begins_2 : decode cX5_begins 2 = .ok (.iload_n 2, 1) := dk_28 (dk_at dksX5_begins_0 2 rfl rfl)
theorem dX5_begins_3 : decode cX5_begins 3 = .ok (.bipush 6, 2) := dk_16 6 (dk_at dksX5_begins_0 3 rfl rfl)
theorem dX5_begins_5 : decode cX5_begins 5 = .ok (.if_icmp .ge 67, 3) := dk_162 0 67 (dk_at dksX5_begins_0 5 rfl rfl)
theorem dX5_begins_8 : decode cX5_begins 8 = .ok (.aload_n 0, 1) := dk_42 (dk_at dksX5_begins_0 8 rfl rfl)
theorem dX5_begins_9 : decode cX5_begins 9 = .ok (.getfield 9, 3) := dk_180 0 9 (dk_at dksX5_begins_0 9 rfl rfl)
theorem dX5_begins_12 : decode cX5_begins 12 = .ok (.iload_n 2, 1) := dk_28 (dk_at dksX5_begins_0 12 rfl rfl)
theorem dX5_begins_13 : decode cX5_begins 13 = .ok (.iload_n 2, 1) := dk_28 (dk_at dksX5_begins_0 13 rfl rfl)
theorem dX5_begins_14 : decode cX5_begins 14 = .ok (.aload_n 1, 1) := dk_43 (dk_at dksX5_begins_0 14 rfl rfl)
theorem dX5_begins_15 : decode cX5_begins 15 = .ok (.getfield 73, 3) := dk_180 0 73 (dk_at dksX5_begins_0 15 rfl rfl)
theorem dX5_begins_18 : decode cX5_begins 18 = .ok (.invokevirtual 79, 3) := dk_182 0 79 (dk_at dksX5_begins_0 18 rfl rfl)
theorem dX5_begins_21 : decode cX5_begins 21 = .ok (.if_icmp .ge 20, 3) := dk_162 0 20 (dk_at dksX5_begins_0 21 rfl rfl)
theorem dX5_begins_24 : decode cX5_begins 24 = .ok (.aload_n 1, 1) := dk_43 (dk_at dksX5_begins_1 0 rfl rfl)
theorem dX5_begins_25 : decode cX5_begins 25 = .ok (.getfield 73, 3) := dk_180 0 73 (dk_at dksX5_begins_1 1 rfl rfl)
theorem dX5_begins_28 : decode cX5_begins 28 = .ok (.iload_n 2, 1) := dk_28 (dk_at dksX5_begins_1 4 rfl rfl)
theorem dX5_begins_29 : decode cX5_begins 29 = .ok (.invokevirtual 85, 3) := dk_182 0 85 (dk_at dksX5_begins_1 5 rfl rfl)
theorem dX5_begins_32 : decode cX5_begins 32 = .ok (.checkcast 89, 3) := dk_192 0 89 (dk_at dksX5_begins_1 8 rfl rfl)
theorem dX5_begins_35 : decode cX5_begins 35 = .ok (.getfield 91, 3) := dk_180 0 91 (dk_at dksX5_begins_1 11 rfl rfl)
theorem dX5_begins_38 : decode cX5_begins 38 = .ok (.goto 4, 3) := dk_167 0 4 (dk_at dksX5_begins_1 14 rfl rfl)
theorem dX5_begins_41 : decode cX5_begins 41 = .ok (.iconst 0, 1) := dk_3 (dk_at dksX5_begins_1 17 rfl rfl)
theorem dX5_begins_42 : decode cX5_begins 42 = .ok (.iastore, 1) := dk_79 (dk_at dksX5_begins_1 18 rfl rfl)
theorem dX5_begins_43 : decode cX5_begins 43 = .ok (.iconst 0, 1) := dk_3 (dk_at dksX5_begins_1 19 rfl rfl)
theorem dX5_begins_44 : decode cX5_begins 44 = .ok (.istore_n 3, 1) := dk_62 (dk_at dksX5_begins_1 20 rfl rfl)
theorem dX5_begins_45 : decode cX5_begins 45 = .ok (.iload_n 3, 1) := dk_29 (dk_at dksX5_begins_1 21 rfl rfl)
theorem dX5_begins_46 : decode cX5_begins 46 = .ok (.bipush 6, 2) := dk_16 6 (dk_at dksX5_begins_1 22 rfl rfl)
theorem dX5_begins_48 : decode cX5_begins 48 = .ok (.if_icmp .ge 18, 3) := dk_162 0 18 (dk_at dksX5_begins_2 0 rfl rfl)
theorem dX5_begins_51 : decode cX5_begins 51 = .ok (.aload_n 0, 1) := dk_42 (dk_at dksX5_begins_2 3 rfl rfl)
theorem dX5_begins_52 : decode cX5_begins 52 = .ok (.getfield 20, 3) := dk_180 0 20 (dk_at dksX5_begins_2 4 rfl rfl)
theorem dX5_begins_55 : decode cX5_begins 55 = .ok (.iload_n 3, 1) := dk_29 (dk_at dksX5_begins_2 7 rfl rfl)
theorem dX5_begins_56 : decode cX5_begins 56 = .ok (.aaload, 1) := dk_50 (dk_at dksX5_begins_2 8 rfl rfl)
theorem dX5_begins_57 : decode cX5_begins 57 = .ok (.iload_n 2, 1) := dk_28 (dk_at dksX5_begins_2 9 rfl rfl)
theorem dX5_begins_58 : decode cX5_begins 58 = .ok (.iconst 0, 1) := dk_3 (dk_at dksX5_begins_2 10 rfl rfl)
theorem dX5_begins_59 : decode cX5_begins 59 = .ok (.iastore, 1) := dk_79 (dk_at dksX5_begins_2 11 rfl rfl)
theorem dX5_begins_60 : decode cX5_begins 60 = .ok (.iinc 3 1, 3) := dk_132 3 1 (dk_at dksX5_begins_2 12 rfl rfl)
theorem dX5_begins_63 : decode cX5_begins 63 = .ok (.goto (-18), 3) := dk_167 255 238 (dk_at dksX5_begins_2 15 rfl rfl)
theorem dX5_begins_66 : decode cX5_begins 66 = .ok (.iinc 2 1, 3) := dk_132 2 1 (dk_at dksX5_begins_2 18 rfl rfl)
theorem dX5_begins_69 : decode cX5_begins 69 = .ok (.goto (-67), 3) := dk_167 255 189 (dk_at dksX5_begins_2 21 rfl rfl)
theorem dX5_begins_72 : decode cX5_begins 72 = .ok (.iconst 0, 1) := dk_3 (dk_at dksX5_begins_3 0 rfl rfl)
theorem dX5_begins_73 : decode cX5_begins 73 = .ok (.istore_n 2, 1) := dk_61 (dk_at dksX5_begins_3 1 rfl rfl)
theorem dX5_begins_74 : decode cX5_begins 74 = .ok (.iload_n 2, 1) := dk_28 (dk_at dksX5_begins_3 2 rfl rfl)
theorem dX5_begins_75 : decode cX5_begins 75 = .ok (.aload_n 1, 1) := dk_43 (dk_at dksX5_begins_3 3 rfl rfl)
theorem dX5_begins_76 : decode cX5_begins 76 = .ok (.getfield 95, 3) := dk_180 0 95 (dk_at dksX5_begins_3 4 rfl rfl)
theorem dX5_begins_79 : decode cX5_begins 79 = .ok (.invokevirtual 79, 3) := dk_182 0 79 (dk_at dksX5_begins_3 7 rfl rfl)
theorem dX5_begins_82 : decode cX5_begins 82 = .ok (.if_icmp .ge 29, 3) := dk_162 0 29 (dk_at dksX5_begins_3 10 rfl rfl)
theorem dX5_begins_85 : decode cX5_begins 85 = .ok (.aload_n 0, 1) := dk_42 (dk_at dksX5_begins_3 13 rfl rfl)
theorem dX5_begins_86 : decode cX5_begins 86 = .ok (.getfield 15, 3) := dk_180 0 15 (dk_at dksX5_begins_3 14 rfl rfl)
theorem dX5_begins_89 : decode cX5_begins 89 = .ok (.iload_n 2, 1) := dk_28 (dk_at dksX5_begins_3 17 rfl rfl)
theorem dX5_begins_90 : decode cX5_begins 90 = .ok (.aload_n 1, 1) := dk_43 (dk_at dksX5_begins_3 18 rfl rfl)
theorem dX5_begins_91 : decode cX5_begins 91 = .ok (.getfield 95, 3) := dk_180 0 95 (dk_at dksX5_begins_3 19 rfl rfl)
theorem dX5_begins_94 : decode cX5_begins 94 = .ok (.iload_n 2, 1) := dk_28 (dk_at dksX5_begins_3 22 rfl rfl)
theorem dX5_begins_95 : decode cX5_begins 95 = .ok (.invokevirtual 85, 3) := dk_182 0 85 (dk_at dksX5_begins_4 0 rfl rfl)
theorem dX5_begins_98 : decode cX5_begins 98 = .ok (.checkcast 98, 3) := dk_192 0 98 (dk_at dksX5_begins_4 3 rfl rfl)
theorem dX5_begins_101 : decode cX5_begins 101 = .ok (.getfield 100, 3) := dk_180 0 100 (dk_at dksX5_begins_4 6 rfl rfl)
theorem dX5_begins_104 : decode cX5_begins 104 = .ok (.iastore, 1) := dk_79 (dk_at dksX5_begins_4 9 rfl rfl)
theorem dX5_begins_105 : decode cX5_begins 105 = .ok (.iinc 2 1, 3) := dk_132 2 1 (dk_at dksX5_begins_4 10 rfl rfl)
theorem dX5_begins_108 : decode cX5_begins 108 = .ok (.goto (-34), 3) := dk_167 255 222 (dk_at dksX5_begins_4 13 rfl rfl)
theorem dX5_begins_111 : decode cX5_begins 111 = .ok (.iconst 0, 1) := dk_3 (dk_at dksX5_begins_4 16 rfl rfl)
theorem dX5_begins_112 : decode cX5_begins 112 = .ok (.istore_n 2, 1) := dk_61 (dk_at dksX5_begins_4 17 rfl rfl)
theorem dX5_begins_113 : decode cX5_begins 113 = .ok (.iload_n 2, 1) := dk_28 (dk_at dksX5_begins_4 18 rfl rfl)
theorem dX5_begins_114 : decode cX5_begins 114 = .ok (.bipush 8, 2) := dk_16 8 (dk_at dksX5_begins_4 19 rfl rfl)
theorem dX5_begins_116 : decode cX5_begins 116 = .ok (.if_icmp .ge 133, 3) := dk_162 0 133 (dk_at dksX5_begins_4 21 rfl rfl)
theorem dX5_begins_119 : decode cX5_begins 119 = .ok (.iload_n 2, 1) := dk_28 (dk_at dksX5_begins_5 0 rfl rfl)
theorem dX5_begins_120 : decode cX5_begins 120 = .ok (.aload_n 1, 1) := dk_43 (dk_at dksX5_begins_5 1 rfl rfl)
theorem dX5_begins_121 : decode cX5_begins 121 = .ok (.getfield 102, 3) := dk_180 0 102 (dk_at dksX5_begins_5 2 rfl rfl)
theorem dX5_begins_124 : decode cX5_begins 124 = .ok (.invokevirtual 79, 3) := dk_182 0 79 (dk_at dksX5_begins_5 5 rfl rfl)
theorem dX5_begins_127 : decode cX5_begins 127 = .ok (.if_icmp .ge 7, 3) := dk_162 0 7 (dk_at dksX5_begins_5 8 rfl rfl)
theorem dX5_begins_130 : decode cX5_begins 130 = .ok (.iconst 1, 1) := dk_4 (dk_at dksX5_begins_5 11 rfl rfl)
theorem dX5_begins_131 : decode cX5_begins 131 = .ok (.goto 4, 3) := dk_167 0 4 (dk_at dksX5_begins_5 12 rfl rfl)
theorem dX5_begins_134 : decode cX5_begins 134 = .ok (.iconst 0, 1) := dk_3 (dk_at dksX5_begins_5 15 rfl rfl)
theorem dX5_begins_135 : decode cX5_begins 135 = .ok (.istore_n 3, 1) := dk_62 (dk_at dksX5_begins_5 16 rfl rfl)
theorem dX5_begins_136 : decode cX5_begins 136 = .ok (.aload_n 0, 1) := dk_42 (dk_at dksX5_begins_5 17 rfl rfl)
theorem dX5_begins_137 : decode cX5_begins 137 = .ok (.getfield 23, 3) := dk_180 0 23 (dk_at dksX5_begins_5 18 rfl rfl)
theorem dX5_begins_140 : decode cX5_begins 140 = .ok (.iload_n 2, 1) := dk_28 (dk_at dksX5_begins_5 21 rfl rfl)
theorem dX5_begins_141 : decode cX5_begins 141 = .ok (.iconst 0, 1) := dk_3 (dk_at dksX5_begins_5 22 rfl rfl)
theorem dX5_begins_142 : decode cX5_begins 142 = .ok (.iastore, 1) := dk_79 (dk_at dksX5_begins_5 23 rfl rfl)
theorem dX5_begins_143 : decode cX5_begins 143 = .ok (.aload_n 0, 1) := dk_42 (dk_at dksX5_begins_6 0 rfl rfl)
theorem dX5_begins_144 : decode cX5_begins 144 = .ok (.getfield 26, 3) := dk_180 0 26 (dk_at dksX5_begins_6 1 rfl rfl)
theorem dX5_begins_147 : decode cX5_begins 147 = .ok (.iload_n 2, 1) := dk_28 (dk_at dksX5_begins_6 4 rfl rfl)
theorem dX5_begins_148 : decode cX5_begins 148 = .ok (.iconst 0, 1) := dk_3 (dk_at dksX5_begins_6 5 rfl rfl)
theorem dX5_begins_149 : decode cX5_begins 149 = .ok (.iastore, 1) := dk_79 (dk_at dksX5_begins_6 6 rfl rfl)
theorem dX5_begins_150 : decode cX5_begins 150 = .ok (.aload_n 0, 1) := dk_42 (dk_at dksX5_begins_6 7 rfl rfl)
theorem dX5_begins_151 : decode cX5_begins 151 = .ok (.getfield 29, 3) := dk_180 0 29 (dk_at dksX5_begins_6 8 rfl rfl)
theorem dX5_begins_154 : decode cX5_begins 154 = .ok (.iload_n 2, 1) := dk_28 (dk_at dksX5_begins_6 11 rfl rfl)
theorem dX5_begins_155 : decode cX5_begins 155 = .ok (.iconst 0, 1) := dk_3 (dk_at dksX5_begins_6 12 rfl rfl)
theorem dX5_begins_156 : decode cX5_begins 156 = .ok (.iastore, 1) := dk_79 (dk_at dksX5_begins_6 13 rfl rfl)
theorem dX5_begins_157 : decode cX5_begins 157 = .ok (.aload_n 0, 1) := dk_42 (dk_at dksX5_begins_6 14 rfl rfl)
theorem dX5_begins_158 : decode cX5_begins 158 = .ok (.getfield 32, 3) := dk_180 0 32 (dk_at dksX5_begins_6 15 rfl rfl)
theorem dX5_begins_161 : decode cX5_begins 161 = .ok (.iload_n 2, 1) := dk_28 (dk_at dksX5_begins_6 18 rfl rfl)
theorem dX5_begins_162 : decode cX5_begins 162 = .ok (.bipush (-2), 2) := dk_16 254 (dk_at dksX5_begins_6 19 rfl rfl)
theorem dX5_begins_164 : decode cX5_begins 164 = .ok (.iastore, 1) := dk_79 (dk_at dksX5_begins_6 21 rfl rfl)
theorem dX5_begins_165 : decode cX5_begins 165 = .ok (.aload_n 0, 1) := dk_42 (dk_at dksX5_begins_6 22 rfl rfl)
theorem dX5_begins_166 : decode cX5_begins 166 = .ok (.getfield 35, 3) := dk_180 0 35 (dk_at dksX5_begins_7 0 rfl rfl)
theorem dX5_begins_169 : decode cX5_begins 169 = .ok (.iload_n 2, 1) := dk_28 (dk_at dksX5_begins_7 3 rfl rfl)
theorem dX5_begins_170 : decode cX5_begins 170 = .ok (.bipush (-2), 2) := dk_16 254 (dk_at dksX5_begins_7 4 rfl rfl)
theorem dX5_begins_172 : decode cX5_begins 172 = .ok (.iastore, 1) := dk_79 (dk_at dksX5_begins_7 6 rfl rfl)
theorem dX5_begins_173 : decode cX5_begins 173 = .ok (.aload_n 0, 1) := dk_42 (dk_at dksX5_begins_7 7 rfl rfl)
theorem dX5_begins_174 : decode cX5_begins 174 = .ok (.getfield 38, 3) := dk_180 0 38 (dk_at dksX5_begins_7 8 rfl rfl)
theorem dX5_begins_177 : decode cX5_begins 177 = .ok (.iload_n 2, 1) := dk_28 (dk_at dksX5_begins_7 11 rfl rfl)
theorem dX5_begins_178 : decode cX5_begins 178 = .ok (.iconst 0, 1) := dk_3 (dk_at dksX5_begins_7 12 rfl rfl)
theorem dX5_begins_179 : decode cX5_begins 179 = .ok (.iastore, 1) := dk_79 (dk_at dksX5_begins_7 13 rfl rfl)
theorem dX5_begins_180 : decode cX5_begins 180 = .ok (.aload_n 0, 1) := dk_42 (dk_at dksX5_begins_7 14 rfl rfl)
theorem dX5_begins_181 : decode cX5_begins 181 = .ok (.getfield 47, 3) := dk_180 0 47 (dk_at dksX5_begins_7 15 rfl rfl)
theorem dX5_begins_184 : decode cX5_begins 184 = .ok (.iload_n 2, 1) := dk_28 (dk_at dksX5_begins_7 18 rfl rfl)
theorem dX5_begins_185 : decode cX5_begins 185 = .ok (.iconst 0, 1) := dk_3 (dk_at dksX5_begins_7 19 rfl rfl)
theorem dX5_begins_186 : decode cX5_begins 186 = .ok (.iastore, 1) := dk_79 (dk_at dksX5_begins_7 20 rfl rfl)
theorem dX5_begins_187 : decode cX5_begins 187 = .ok (.aload_n 0, 1) := dk_42 (dk_at dksX5_begins_7 21 rfl rfl)
theorem dX5_begins_188 : decode cX5_begins 188 = .ok (.getfield 41, 3) := dk_180 0 41 (dk_at dksX5_begins_8 0 rfl rfl)
theorem dX5_begins_191 : decode cX5_begins 191 = .ok (.iload_n 2, 1) := dk_28 (dk_at dksX5_begins_8 3 rfl rfl)
theorem dX5_begins_192 : decode cX5_begins 192 = .ok (.iload_n 3, 1) := dk_29 (dk_at dksX5_begins_8 4 rfl rfl)
theorem dX5_begins_193 : decode cX5_begins 193 = .ok (.ifCond .eq 20, 3) := dk_153 0 20 (dk_at dksX5_begins_8 5 rfl rfl)
theorem dX5_begins_196 : decode cX5_begins 196 = .ok (.aload_n 1, 1) := dk_43 (dk_at dksX5_begins_8 8 rfl rfl)
theorem dX5_begins_197 : decode cX5_begins 197 = .ok (.getfield 102, 3) := dk_180 0 102 (dk_at dksX5_begins_8 9 rfl rfl)
theorem dX5_begins_200 : decode cX5_begins 200 = .ok (.iload_n 2, 1) := dk_28 (dk_at dksX5_begins_8 12 rfl rfl)
theorem dX5_begins_201 : decode cX5_begins 201 = .ok (.invokevirtual 85, 3) := dk_182 0 85 (dk_at dksX5_begins_8 13 rfl rfl)
theorem dX5_begins_204 : decode cX5_begins 204 = .ok (.checkcast 105, 3) := dk_192 0 105 (dk_at dksX5_begins_8 16 rfl rfl)
theorem dX5_begins_207 : decode cX5_begins 207 = .ok (.getfield 107, 3) := dk_180 0 107 (dk_at dksX5_begins_8 19 rfl rfl)
theorem dX5_begins_210 : decode cX5_begins 210 = .ok (.goto 4, 3) := dk_167 0 4 (dk_at dksX5_begins_9 0 rfl rfl)
theorem dX5_begins_213 : decode cX5_begins 213 = .ok (.iconst 0, 1) := dk_3 (dk_at dksX5_begins_9 3 rfl rfl)
theorem dX5_begins_214 : decode cX5_begins 214 = .ok (.iastore, 1) := dk_79 (dk_at dksX5_begins_9 4 rfl rfl)
theorem dX5_begins_215 : decode cX5_begins 215 = .ok (.aload_n 0, 1) := dk_42 (dk_at dksX5_begins_9 5 rfl rfl)
theorem dX5_begins_216 : decode cX5_begins 216 = .ok (.getfield 44, 3) := dk_180 0 44 (dk_at dksX5_begins_9 6 rfl rfl)
theorem dX5_begins_219 : decode cX5_begins 219 = .ok (.iload_n 2, 1) := dk_28 (dk_at dksX5_begins_9 9 rfl rfl)
theorem dX5_begins_220 : decode cX5_begins 220 = .ok (.iload_n 3, 1) := dk_29 (dk_at dksX5_begins_9 10 rfl rfl)
theorem dX5_begins_221 : decode cX5_begins 221 = .ok (.ifCond .eq 20, 3) := dk_153 0 20 (dk_at dksX5_begins_9 11 rfl rfl)
theorem dX5_begins_224 : decode cX5_begins 224 = .ok (.aload_n 1, 1) := dk_43 (dk_at dksX5_begins_9 14 rfl rfl)
theorem dX5_begins_225 : decode cX5_begins 225 = .ok (.getfield 102, 3) := dk_180 0 102 (dk_at dksX5_begins_9 15 rfl rfl)
theorem dX5_begins_228 : decode cX5_begins 228 = .ok (.iload_n 2, 1) := dk_28 (dk_at dksX5_begins_9 18 rfl rfl)
theorem dX5_begins_229 : decode cX5_begins 229 = .ok (.invokevirtual 85, 3) := dk_182 0 85 (dk_at dksX5_begins_9 19 rfl rfl)
theorem dX5_begins_232 : decode cX5_begins 232 = .ok (.checkcast 105, 3) := dk_192 0 105 (dk_at dksX5_begins_10 0 rfl rfl)
theorem dX5_begins_235 : decode cX5_begins 235 = .ok (.getfield 109, 3) := dk_180 0 109 (dk_at dksX5_begins_10 3 rfl rfl)
theorem dX5_begins_238 : decode cX5_begins 238 = .ok (.goto 4, 3) := dk_167 0 4 (dk_at dksX5_begins_10 6 rfl rfl)
theorem dX5_begins_241 : decode cX5_begins 241 = .ok (.iconst 0, 1) := dk_3 (dk_at dksX5_begins_10 9 rfl rfl)
theorem dX5_begins_242 : decode cX5_begins 242 = .ok (.iastore, 1) := dk_79 (dk_at dksX5_begins_10 10 rfl rfl)
theorem dX5_begins_243 : decode cX5_begins 243 = .ok (.iinc 2 1, 3) := dk_132 2 1 (dk_at dksX5_begins_10 11 rfl rfl)
theorem dX5_begins_246 : decode cX5_begins 246 = .ok (.goto (-133), 3) := dk_167 255 123 (dk_at dksX5_begins_10 14 rfl rfl)
theorem dX5_begins_249 : decode cX5_begins 249 = .ok (.aload_n 0, 1) := dk_42 (dk_at dksX5_begins_10 17 rfl rfl)
theorem dX5_begins_250 : decode cX5_begins 250 = .ok (.iconst 0, 1) := dk_3 (dk_at dksX5_begins_10 18 rfl rfl)
theorem dX5_begins_251 : decode cX5_begins 251 = .ok (.putfield 111, 3) := dk_181 0 111 (dk_at dksX5_begins_10 19 rfl rfl)
theorem dX5_begins_254 : decode cX5_begins 254 = .ok (.aload_n 0, 1) := dk_42 (dk_at dksX5_begins_10 22 rfl rfl)
theorem dX5_begins_255 : decode cX5_begins 255 = .ok (.iconst 0, 1) := dk_3 (dk_at dksX5_begins_10 23 rfl rfl)
theorem dX5_begins_256 : decode cX5_begins 256 = .ok (.putfield 114, 3) := dk_181 0 114 (dk_at dksX5_begins_11 0 rfl rfl)
theorem dX5_begins_259 : decode cX5_begins 259 = .ok (.aload_n 0, 1) := dk_42 (dk_at dksX5_begins_11 3 rfl rfl)
theorem dX5_begins_260 : decode cX5_begins 260 = .ok (.iconst 0, 1) := dk_3 (dk_at dksX5_begins_11 4 rfl rfl)
theorem dX5_begins_261 : decode cX5_begins 261 = .ok (.putfield 117, 3) := dk_181 0 117 (dk_at dksX5_begins_11 5 rfl rfl)
theorem dX5_begins_264 : decode cX5_begins 264 = .ok (.aload_n 0, 1) := dk_42 (dk_at dksX5_begins_11 8 rfl rfl)
theorem dX5_begins_265 : decode cX5_begins 265 = .ok (.iconst 0, 1) := dk_3 (dk_at dksX5_begins_11 9 rfl rfl)
theorem dX5_begins_266 : decode cX5_begins 266 = .ok (.putfield 120, 3) := dk_181 0 120 (dk_at dksX5_begins_11 10 rfl rfl)
theorem dX5_begins_269 : decode cX5_begins 269 = .ok (.aload_n 0, 1) := dk_42 (dk_at dksX5_begins_11 13 rfl rfl)
theorem dX5_begins_270 : decode cX5_begins 270 = .ok (.iconst 0, 1) := dk_3 (dk_at dksX5_begins_11 14 rfl rfl)
theorem dX5_begins_271 : decode cX5_begins 271 = .ok (.putfield 123, 3) := dk_181 0 123 (dk_at dksX5_begins_11 15 rfl rfl)
theorem dX5_begins_274 : decode cX5_begins 274 = .ok (.aload_n 0, 1) := dk_42 (dk_at dksX5_begins_11 18 rfl rfl)
theorem dX5_begins_275 : decode cX5_begins 275 = .ok (.iconst 0, 1) := dk_3 (dk_at dksX5_begins_11 19 rfl rfl)
theorem dX5_begins_276 : decode cX5_begins 276 = .ok (.putfield 126, 3) := dk_181 0 126 (dk_at dksX5_begins_11 20 rfl rfl)
theorem dX5_begins_279 : decode cX5_begins 279 = .ok (.aload_n 0, 1) := dk_42 (dk_at dksX5_begins_11 23 rfl rfl)
theorem dX5_begins_280 : decode cX5_begins 280 = .ok (.aload_n 1, 1) := dk_43 (dk_at dksX5_begins_12 0 rfl rfl)
theorem dX5_begins_281 : decode cX5_begins 281 = .ok (.getfield 129, 3) := dk_180 0 129 (dk_at dksX5_begins_12 1 rfl rfl)
theorem dX5_begins_284 : decode cX5_begins 284 = .ok (.putfield 132, 3) := dk_181 0 132 (dk_at dksX5_begins_12 4 rfl rfl)
theorem dX5_begins_287 : decode cX5_begins 287 = .ok (.return_, 1) := dk_177 (dk_at dksX5_begins_12 7 rfl rfl)
abbrev cX5_worth : ByteArray := prog_8_method_17_code
def yX5_worth : MethodName := ⟨RX5, "worth", "(LRatSorters$Text;I)I"⟩
def dkwX5_worth_2 : List UInt8 := [182, 0, 202, 21, 4, 100, 104, 100, 104, 184, 0, 149, 172]
abbrev dktX5_worth_2 : List UInt8 := dkwX5_worth_2 ++ []
def dkwX5_worth_1 : List UInt8 := [54, 4, 3, 43, 180, 0, 73, 29, 182, 0, 85, 192, 0, 89, 180, 0, 199, 21, 4, 5, 42, 28]
abbrev dktX5_worth_1 : List UInt8 := dkwX5_worth_1 ++ dktX5_worth_2
def dkwX5_worth_0 : List UInt8 := [43, 180, 0, 95, 28, 182, 0, 85, 192, 0, 98, 180, 0, 196, 62, 42, 180, 0, 20, 28, 50, 29, 46]
abbrev dktX5_worth_0 : List UInt8 := dkwX5_worth_0 ++ dktX5_worth_1
theorem dksX5_worth_0 : cX5_worth.data.toList.drop 0 = dktX5_worth_0 := by decide +kernel
theorem dksX5_worth_1 : cX5_worth.data.toList.drop 23 = dktX5_worth_1 := dk_seg dksX5_worth_0 23 rfl rfl
theorem dksX5_worth_2 : cX5_worth.data.toList.drop 45 = dktX5_worth_2 := dk_seg dksX5_worth_1 22 rfl rfl
theorem dX5_worth_0 : decode cX5_worth 0 = .ok (.aload_n 1, 1) := dk_43 (dk_at dksX5_worth_0 0 rfl rfl)
theorem dX5_worth_1 : decode cX5_worth 1 = .ok (.getfield 95, 3) := dk_180 0 95 (dk_at dksX5_worth_0 1 rfl rfl)
theorem dX5_worth_4 : decode cX5_worth 4 = .ok (.iload_n 2, 1) := dk_28 (dk_at dksX5_worth_0 4 rfl rfl)
theorem dX5_worth_5 : decode cX5_worth 5 = .ok (.invokevirtual 85, 3) := dk_182 0 85 (dk_at dksX5_worth_0 5 rfl rfl)
theorem dX5_worth_8 : decode cX5_worth 8 = .ok (.checkcast 98, 3) := dk_192 0 98 (dk_at dksX5_worth_0 8 rfl rfl)
theorem dX5_worth_11 : decode cX5_worth 11 = .ok (.getfield 196, 3) := dk_180 0 196 (dk_at dksX5_worth_0 11 rfl rfl)
theorem dX5_worth_14 : decode cX5_worth 14 = .ok (.istore_n 3, 1) := dk_62 (dk_at dksX5_worth_0 14 rfl rfl)
theorem dX5_worth_15 : decode cX5_worth 15 = .ok (.aload_n 0, 1) := dk_42 (dk_at dksX5_worth_0 15 rfl rfl)
theorem dX5_worth_16 : decode cX5_worth 16 = .ok (.getfield 20, 3) := dk_180 0 20 (dk_at dksX5_worth_0 16 rfl rfl)
theorem dX5_worth_19 : decode cX5_worth 19 = .ok (.iload_n 2, 1) := dk_28 (dk_at dksX5_worth_0 19 rfl rfl)
theorem dX5_worth_20 : decode cX5_worth 20 = .ok (.aaload, 1) := dk_50 (dk_at dksX5_worth_0 20 rfl rfl)
theorem dX5_worth_21 : decode cX5_worth 21 = .ok (.iload_n 3, 1) := dk_29 (dk_at dksX5_worth_0 21 rfl rfl)
theorem dX5_worth_22 : decode cX5_worth 22 = .ok (.iaload, 1) := dk_46 (dk_at dksX5_worth_0 22 rfl rfl)
theorem dX5_worth_23 : decode cX5_worth 23 = .ok (.istore 4, 2) := dk_54 4 (dk_at dksX5_worth_1 0 rfl rfl)
theorem dX5_worth_25 : decode cX5_worth 25 = .ok (.iconst 0, 1) := dk_3 (dk_at dksX5_worth_1 2 rfl rfl)
theorem dX5_worth_26 : decode cX5_worth 26 = .ok (.aload_n 1, 1) := dk_43 (dk_at dksX5_worth_1 3 rfl rfl)
theorem dX5_worth_27 : decode cX5_worth 27 = .ok (.getfield 73, 3) := dk_180 0 73 (dk_at dksX5_worth_1 4 rfl rfl)
theorem dX5_worth_30 : decode cX5_worth 30 = .ok (.iload_n 3, 1) := dk_29 (dk_at dksX5_worth_1 7 rfl rfl)
theorem dX5_worth_31 : decode cX5_worth 31 = .ok (.invokevirtual 85, 3) := dk_182 0 85 (dk_at dksX5_worth_1 8 rfl rfl)
theorem dX5_worth_34 : decode cX5_worth 34 = .ok (.checkcast 89, 3) := dk_192 0 89 (dk_at dksX5_worth_1 11 rfl rfl)
theorem dX5_worth_37 : decode cX5_worth 37 = .ok (.getfield 199, 3) := dk_180 0 199 (dk_at dksX5_worth_1 14 rfl rfl)
theorem dX5_worth_40 : decode cX5_worth 40 = .ok (.iload 4, 2) := dk_21 4 (dk_at dksX5_worth_1 17 rfl rfl)
theorem dX5_worth_42 : decode cX5_worth 42 = .ok (.iconst 2, 1) := dk_5 (dk_at dksX5_worth_1 19 rfl rfl)
theorem dX5_worth_43 : decode cX5_worth 43 = .ok (.aload_n 0, 1) := dk_42 (dk_at dksX5_worth_1 20 rfl rfl)
theorem dX5_worth_44 : decode cX5_worth 44 = .ok (.iload_n 2, 1) := dk_28 (dk_at dksX5_worth_1 21 rfl rfl)
theorem dX5_worth_45 : decode cX5_worth 45 = .ok (.invokevirtual 202, 3) := dk_182 0 202 (dk_at dksX5_worth_2 0 rfl rfl)
theorem dX5_worth_48 : decode cX5_worth 48 = .ok (.iload 4, 2) := dk_21 4 (dk_at dksX5_worth_2 3 rfl rfl)
theorem dX5_worth_50 : decode cX5_worth 50 = .ok (.isub, 1) := dk_100 (dk_at dksX5_worth_2 5 rfl rfl)
theorem dX5_worth_51 : decode cX5_worth 51 = .ok (.imul, 1) := dk_104 (dk_at dksX5_worth_2 6 rfl rfl)
theorem dX5_worth_52 : decode cX5_worth 52 = .ok (.isub, 1) := dk_100 (dk_at dksX5_worth_2 7 rfl rfl)
theorem dX5_worth_53 : decode cX5_worth 53 = .ok (.imul, 1) := dk_104 (dk_at dksX5_worth_2 8 rfl rfl)
theorem dX5_worth_54 : decode cX5_worth 54 = .ok (.invokestatic 149, 3) := dk_184 0 149 (dk_at dksX5_worth_2 9 rfl rfl)
theorem dX5_worth_57 : decode cX5_worth 57 = .ok (.ireturn, 1) := dk_172 (dk_at dksX5_worth_2 12 rfl rfl)
abbrev cX5_inHole : ByteArray := prog_8_method_16_code
def yX5_inHole : MethodName := ⟨RX5, "inHole", "(I)I"⟩
def dkwX5_inHole_1 : List UInt8 := [167, 255, 236, 28, 172]
abbrev dktX5_inHole_1 : List UInt8 := dkwX5_inHole_1 ++ []
def dkwX5_inHole_0 : List UInt8 := [3, 61, 3, 62, 29, 16, 6, 162, 0, 20, 28, 42, 180, 0, 20, 27, 50, 29, 46, 96, 61, 132, 3, 1]
abbrev dktX5_inHole_0 : List UInt8 := dkwX5_inHole_0 ++ dktX5_inHole_1
theorem dksX5_inHole_0 : cX5_inHole.data.toList.drop 0 = dktX5_inHole_0 := by decide +kernel
theorem dksX5_inHole_1 : cX5_inHole.data.toList.drop 24 = dktX5_inHole_1 := dk_seg dksX5_inHole_0 24 rfl rfl
theorem dX5_inHole_0 : decode cX5_inHole 0 = .ok (.iconst 0, 1) := dk_3 (dk_at dksX5_inHole_0 0 rfl rfl)
theorem dX5_inHole_1 : decode cX5_inHole 1 = .ok (.istore_n 2, 1) := dk_61 (dk_at dksX5_inHole_0 1 rfl rfl)
theorem dX5_inHole_2 : decode cX5_inHole 2 = .ok (.iconst 0, 1) := dk_3 (dk_at dksX5_inHole_0 2 rfl rfl)
theorem dX5_inHole_3 : decode cX5_inHole 3 = .ok (.istore_n 3, 1) := dk_62 (dk_at dksX5_inHole_0 3 rfl rfl)
theorem dX5_inHole_4 : decode cX5_inHole 4 = .ok (.iload_n 3, 1) := dk_29 (dk_at dksX5_inHole_0 4 rfl rfl)
theorem dX5_inHole_5 : decode cX5_inHole 5 = .ok (.bipush 6, 2) := dk_16 6 (dk_at dksX5_inHole_0 5 rfl rfl)
theorem dX5_inHole_7 : decode cX5_inHole 7 = .ok (.if_icmp .ge 20, 3) := dk_162 0 20 (dk_at dksX5_inHole_0 7 rfl rfl)
theorem dX5_inHole_10 : decode cX5_inHole 10 = .ok (.iload_n 2, 1) := dk_28 (dk_at dksX5_inHole_0 10 rfl rfl)
theorem dX5_inHole_11 : decode cX5_inHole 11 = .ok (.aload_n 0, 1) := dk_42 (dk_at dksX5_inHole_0 11 rfl rfl)
theorem dX5_inHole_12 : decode cX5_inHole 12 = .ok (.getfield 20, 3) := dk_180 0 20 (dk_at dksX5_inHole_0 12 rfl rfl)
theorem dX5_inHole_15 : decode cX5_inHole 15 = .ok (.iload_n 1, 1) := dk_27 (dk_at dksX5_inHole_0 15 rfl rfl)
theorem dX5_inHole_16 : decode cX5_inHole 16 = .ok (.aaload, 1) := dk_50 (dk_at dksX5_inHole_0 16 rfl rfl)
theorem dX5_inHole_17 : decode cX5_inHole 17 = .ok (.iload_n 3, 1) := dk_29 (dk_at dksX5_inHole_0 17 rfl rfl)
theorem dX5_inHole_18 : decode cX5_inHole 18 = .ok (.iaload, 1) := dk_46 (dk_at dksX5_inHole_0 18 rfl rfl)
theorem dX5_inHole_19 : decode cX5_inHole 19 = .ok (.iadd, 1) := dk_96 (dk_at dksX5_inHole_0 19 rfl rfl)
theorem dX5_inHole_20 : decode cX5_inHole 20 = .ok (.istore_n 2, 1) := dk_61 (dk_at dksX5_inHole_0 20 rfl rfl)
theorem dX5_inHole_21 : decode cX5_inHole 21 = .ok (.iinc 3 1, 3) := dk_132 3 1 (dk_at dksX5_inHole_0 21 rfl rfl)
theorem dX5_inHole_24 : decode cX5_inHole 24 = .ok (.goto (-20), 3) := dk_167 255 236 (dk_at dksX5_inHole_1 0 rfl rfl)
theorem dX5_inHole_27 : decode cX5_inHole 27 = .ok (.iload_n 2, 1) := dk_28 (dk_at dksX5_inHole_1 3 rfl rfl)
theorem dX5_inHole_28 : decode cX5_inHole 28 = .ok (.ireturn, 1) := dk_172 (dk_at dksX5_inHole_1 4 rfl rfl)
abbrev cX5_takes : ByteArray := prog_8_method_4_code
def yX5_takes : MethodName := ⟨RX5, "takes", "(LRatSorters$House;)V"⟩
def dkwX5_takes_8 : List UInt8 := [180, 0, 123, 181, 0, 123, 42, 43, 180, 0, 126, 181, 0, 126, 42, 43, 180, 0, 132, 181, 0, 132, 177]
abbrev dktX5_takes_8 : List UInt8 := dkwX5_takes_8 ++ []
def dkwX5_takes_7 : List UInt8 := [180, 0, 114, 181, 0, 114, 42, 43, 180, 0, 117, 181, 0, 117, 42, 43, 180, 0, 120, 181, 0, 120, 42, 43]
abbrev dktX5_takes_7 : List UInt8 := dkwX5_takes_7 ++ dktX5_takes_8
def dkwX5_takes_6 : List UInt8 := [184, 0, 139, 43, 180, 0, 47, 42, 180, 0, 47, 184, 0, 139, 42, 43, 180, 0, 111, 181, 0, 111, 42, 43]
abbrev dktX5_takes_6 : List UInt8 := dkwX5_takes_6 ++ dktX5_takes_7
def dkwX5_takes_5 : List UInt8 := [184, 0, 139, 43, 180, 0, 41, 42, 180, 0, 41, 184, 0, 139, 43, 180, 0, 44, 42, 180, 0, 44]
abbrev dktX5_takes_5 : List UInt8 := dkwX5_takes_5 ++ dktX5_takes_6
def dkwX5_takes_4 : List UInt8 := [184, 0, 139, 43, 180, 0, 35, 42, 180, 0, 35, 184, 0, 139, 43, 180, 0, 38, 42, 180, 0, 38]
abbrev dktX5_takes_4 : List UInt8 := dkwX5_takes_4 ++ dktX5_takes_5
def dkwX5_takes_3 : List UInt8 := [184, 0, 139, 43, 180, 0, 29, 42, 180, 0, 29, 184, 0, 139, 43, 180, 0, 32, 42, 180, 0, 32]
abbrev dktX5_takes_3 : List UInt8 := dkwX5_takes_3 ++ dktX5_takes_4
def dkwX5_takes_2 : List UInt8 := [167, 255, 232, 43, 180, 0, 23, 42, 180, 0, 23, 184, 0, 139, 43, 180, 0, 26, 42, 180, 0, 26]
abbrev dktX5_takes_2 : List UInt8 := dkwX5_takes_2 ++ dktX5_takes_3
def dkwX5_takes_1 : List UInt8 := [28, 16, 6, 162, 0, 24, 43, 180, 0, 20, 28, 50, 42, 180, 0, 20, 28, 50, 184, 0, 139, 132, 2, 1]
abbrev dktX5_takes_1 : List UInt8 := dkwX5_takes_1 ++ dktX5_takes_2
def dkwX5_takes_0 : List UInt8 := [43, 180, 0, 9, 42, 180, 0, 9, 184, 0, 139, 43, 180, 0, 15, 42, 180, 0, 15, 184, 0, 139, 3, 61]
abbrev dktX5_takes_0 : List UInt8 := dkwX5_takes_0 ++ dktX5_takes_1
theorem dksX5_takes_0 : cX5_takes.data.toList.drop 0 = dktX5_takes_0 := by decide +kernel
theorem dksX5_takes_1 : cX5_takes.data.toList.drop 24 = dktX5_takes_1 := dk_seg dksX5_takes_0 24 rfl rfl
theorem dksX5_takes_2 : cX5_takes.data.toList.drop 48 = dktX5_takes_2 := dk_seg dksX5_takes_1 24 rfl rfl
theorem dksX5_takes_3 : cX5_takes.data.toList.drop 70 = dktX5_takes_3 := dk_seg dksX5_takes_2 22 rfl rfl
theorem dksX5_takes_4 : cX5_takes.data.toList.drop 92 = dktX5_takes_4 := dk_seg dksX5_takes_3 22 rfl rfl
theorem dksX5_takes_5 : cX5_takes.data.toList.drop 114 = dktX5_takes_5 := dk_seg dksX5_takes_4 22 rfl rfl
theorem dksX5_takes_6 : cX5_takes.data.toList.drop 136 = dktX5_takes_6 := dk_seg dksX5_takes_5 22 rfl rfl
theorem dksX5_takes_7 : cX5_takes.data.toList.drop 160 = dktX5_takes_7 := dk_seg dksX5_takes_6 24 rfl rfl
theorem dksX5_takes_8 : cX5_takes.data.toList.drop 184 = dktX5_takes_8 := dk_seg dksX5_takes_7 24 rfl rfl
theorem dX5_takes_0 : decode cX5_takes 0 = .ok (.aload_n 1, 1) := dk_43 (dk_at dksX5_takes_0 0 rfl rfl)
theorem dX5_takes_1 : decode cX5_takes 1 = .ok (.getfield 9, 3) := dk_180 0 9 (dk_at dksX5_takes_0 1 rfl rfl)
theorem dX5_takes_4 : decode cX5_takes 4 = .ok (.aload_n 0, 1) := dk_42 (dk_at dksX5_takes_0 4 rfl rfl)
theorem dX5_takes_5 : decode cX5_takes 5 = .ok (.getfield 9, 3) := dk_180 0 9 (dk_at dksX5_takes_0 5 rfl rfl)
theorem dX5_takes_8 : decode cX5_takes 8 = .ok (.invokestatic 139, 3) := dk_184 0 139 (dk_at dksX5_takes_0 8 rfl rfl)
theorem dX5_takes_11 : decode cX5_takes 11 = .ok (.aload_n 1, 1) := dk_43 (dk_at dksX5_takes_0 11 rfl rfl)
theorem dX5_takes_12 : decode cX5_takes 12 = .ok (.getfield 15, 3) := dk_180 0 15 (dk_at dksX5_takes_0 12 rfl rfl)
theorem dX5_takes_15 : decode cX5_takes 15 = .ok (.aload_n 0, 1) := dk_42 (dk_at dksX5_takes_0 15 rfl rfl)
theorem dX5_takes_16 : decode cX5_takes 16 = .ok (.getfield 15, 3) := dk_180 0 15 (dk_at dksX5_takes_0 16 rfl rfl)
theorem dX5_takes_19 : decode cX5_takes 19 = .ok (.invokestatic 139, 3) := dk_184 0 139 (dk_at dksX5_takes_0 19 rfl rfl)
theorem dX5_takes_22 : decode cX5_takes 22 = .ok (.iconst 0, 1) := dk_3 (dk_at dksX5_takes_0 22 rfl rfl)
theorem dX5_takes_23 : decode cX5_takes 23 = .ok (.istore_n 2, 1) := dk_61 (dk_at dksX5_takes_0 23 rfl rfl)
theorem dX5_takes_24 : decode cX5_takes 24 = .ok (.iload_n 2, 1) := dk_28 (dk_at dksX5_takes_1 0 rfl rfl)
theorem dX5_takes_25 : decode cX5_takes 25 = .ok (.bipush 6, 2) := dk_16 6 (dk_at dksX5_takes_1 1 rfl rfl)
theorem dX5_takes_27 : decode cX5_takes 27 = .ok (.if_icmp .ge 24, 3) := dk_162 0 24 (dk_at dksX5_takes_1 3 rfl rfl)
theorem dX5_takes_30 : decode cX5_takes 30 = .ok (.aload_n 1, 1) := dk_43 (dk_at dksX5_takes_1 6 rfl rfl)
theorem dX5_takes_31 : decode cX5_takes 31 = .ok (.getfield 20, 3) := dk_180 0 20 (dk_at dksX5_takes_1 7 rfl rfl)
theorem dX5_takes_34 : decode cX5_takes 34 = .ok (.iload_n 2, 1) := dk_28 (dk_at dksX5_takes_1 10 rfl rfl)
theorem dX5_takes_35 : decode cX5_takes 35 = .ok (.aaload, 1) := dk_50 (dk_at dksX5_takes_1 11 rfl rfl)
theorem dX5_takes_36 : decode cX5_takes 36 = .ok (.aload_n 0, 1) := dk_42 (dk_at dksX5_takes_1 12 rfl rfl)
theorem dX5_takes_37 : decode cX5_takes 37 = .ok (.getfield 20, 3) := dk_180 0 20 (dk_at dksX5_takes_1 13 rfl rfl)
theorem dX5_takes_40 : decode cX5_takes 40 = .ok (.iload_n 2, 1) := dk_28 (dk_at dksX5_takes_1 16 rfl rfl)
theorem dX5_takes_41 : decode cX5_takes 41 = .ok (.aaload, 1) := dk_50 (dk_at dksX5_takes_1 17 rfl rfl)
theorem dX5_takes_42 : decode cX5_takes 42 = .ok (.invokestatic 139, 3) := dk_184 0 139 (dk_at dksX5_takes_1 18 rfl rfl)
theorem dX5_takes_45 : decode cX5_takes 45 = .ok (.iinc 2 1, 3) := dk_132 2 1 (dk_at dksX5_takes_1 21 rfl rfl)
theorem dX5_takes_48 : decode cX5_takes 48 = .ok (.goto (-24), 3) := dk_167 255 232 (dk_at dksX5_takes_2 0 rfl rfl)
theorem dX5_takes_51 : decode cX5_takes 51 = .ok (.aload_n 1, 1) := dk_43 (dk_at dksX5_takes_2 3 rfl rfl)
theorem dX5_takes_52 : decode cX5_takes 52 = .ok (.getfield 23, 3) := dk_180 0 23 (dk_at dksX5_takes_2 4 rfl rfl)
theorem dX5_takes_55 : decode cX5_takes 55 = .ok (.aload_n 0, 1) := dk_42 (dk_at dksX5_takes_2 7 rfl rfl)
theorem dX5_takes_56 : decode cX5_takes 56 = .ok (.getfield 23, 3) := dk_180 0 23 (dk_at dksX5_takes_2 8 rfl rfl)
theorem dX5_takes_59 : decode cX5_takes 59 = .ok (.invokestatic 139, 3) := dk_184 0 139 (dk_at dksX5_takes_2 11 rfl rfl)
theorem dX5_takes_62 : decode cX5_takes 62 = .ok (.aload_n 1, 1) := dk_43 (dk_at dksX5_takes_2 14 rfl rfl)
theorem dX5_takes_63 : decode cX5_takes 63 = .ok (.getfield 26, 3) := dk_180 0 26 (dk_at dksX5_takes_2 15 rfl rfl)
theorem dX5_takes_66 : decode cX5_takes 66 = .ok (.aload_n 0, 1) := dk_42 (dk_at dksX5_takes_2 18 rfl rfl)
theorem dX5_takes_67 : decode cX5_takes 67 = .ok (.getfield 26, 3) := dk_180 0 26 (dk_at dksX5_takes_2 19 rfl rfl)
theorem dX5_takes_70 : decode cX5_takes 70 = .ok (.invokestatic 139, 3) := dk_184 0 139 (dk_at dksX5_takes_3 0 rfl rfl)
theorem dX5_takes_73 : decode cX5_takes 73 = .ok (.aload_n 1, 1) := dk_43 (dk_at dksX5_takes_3 3 rfl rfl)
theorem dX5_takes_74 : decode cX5_takes 74 = .ok (.getfield 29, 3) := dk_180 0 29 (dk_at dksX5_takes_3 4 rfl rfl)
theorem dX5_takes_77 : decode cX5_takes 77 = .ok (.aload_n 0, 1) := dk_42 (dk_at dksX5_takes_3 7 rfl rfl)
theorem dX5_takes_78 : decode cX5_takes 78 = .ok (.getfield 29, 3) := dk_180 0 29 (dk_at dksX5_takes_3 8 rfl rfl)
theorem dX5_takes_81 : decode cX5_takes 81 = .ok (.invokestatic 139, 3) := dk_184 0 139 (dk_at dksX5_takes_3 11 rfl rfl)
theorem dX5_takes_84 : decode cX5_takes 84 = .ok (.aload_n 1, 1) := dk_43 (dk_at dksX5_takes_3 14 rfl rfl)
theorem dX5_takes_85 : decode cX5_takes 85 = .ok (.getfield 32, 3) := dk_180 0 32 (dk_at dksX5_takes_3 15 rfl rfl)
theorem dX5_takes_88 : decode cX5_takes 88 = .ok (.aload_n 0, 1) := dk_42 (dk_at dksX5_takes_3 18 rfl rfl)
theorem dX5_takes_89 : decode cX5_takes 89 = .ok (.getfield 32, 3) := dk_180 0 32 (dk_at dksX5_takes_3 19 rfl rfl)
theorem dX5_takes_92 : decode cX5_takes 92 = .ok (.invokestatic 139, 3) := dk_184 0 139 (dk_at dksX5_takes_4 0 rfl rfl)
theorem dX5_takes_95 : decode cX5_takes 95 = .ok (.aload_n 1, 1) := dk_43 (dk_at dksX5_takes_4 3 rfl rfl)
theorem dX5_takes_96 : decode cX5_takes 96 = .ok (.getfield 35, 3) := dk_180 0 35 (dk_at dksX5_takes_4 4 rfl rfl)
theorem dX5_takes_99 : decode cX5_takes 99 = .ok (.aload_n 0, 1) := dk_42 (dk_at dksX5_takes_4 7 rfl rfl)
theorem dX5_takes_100 : decode cX5_takes 100 = .ok (.getfield 35, 3) := dk_180 0 35 (dk_at dksX5_takes_4 8 rfl rfl)
theorem dX5_takes_103 : decode cX5_takes 103 = .ok (.invokestatic 139, 3) := dk_184 0 139 (dk_at dksX5_takes_4 11 rfl rfl)
theorem dX5_takes_106 : decode cX5_takes 106 = .ok (.aload_n 1, 1) := dk_43 (dk_at dksX5_takes_4 14 rfl rfl)
theorem dX5_takes_107 : decode cX5_takes 107 = .ok (.getfield 38, 3) := dk_180 0 38 (dk_at dksX5_takes_4 15 rfl rfl)
theorem dX5_takes_110 : decode cX5_takes 110 = .ok (.aload_n 0, 1) := dk_42 (dk_at dksX5_takes_4 18 rfl rfl)
theorem dX5_takes_111 : decode cX5_takes 111 = .ok (.getfield 38, 3) := dk_180 0 38 (dk_at dksX5_takes_4 19 rfl rfl)
theorem dX5_takes_114 : decode cX5_takes 114 = .ok (.invokestatic 139, 3) := dk_184 0 139 (dk_at dksX5_takes_5 0 rfl rfl)
theorem dX5_takes_117 : decode cX5_takes 117 = .ok (.aload_n 1, 1) := dk_43 (dk_at dksX5_takes_5 3 rfl rfl)
theorem dX5_takes_118 : decode cX5_takes 118 = .ok (.getfield 41, 3) := dk_180 0 41 (dk_at dksX5_takes_5 4 rfl rfl)
theorem dX5_takes_121 : decode cX5_takes 121 = .ok (.aload_n 0, 1) := dk_42 (dk_at dksX5_takes_5 7 rfl rfl)
theorem dX5_takes_122 : decode cX5_takes 122 = .ok (.getfield 41, 3) := dk_180 0 41 (dk_at dksX5_takes_5 8 rfl rfl)
theorem dX5_takes_125 : decode cX5_takes 125 = .ok (.invokestatic 139, 3) := dk_184 0 139 (dk_at dksX5_takes_5 11 rfl rfl)
theorem dX5_takes_128 : decode cX5_takes 128 = .ok (.aload_n 1, 1) := dk_43 (dk_at dksX5_takes_5 14 rfl rfl)
theorem dX5_takes_129 : decode cX5_takes 129 = .ok (.getfield 44, 3) := dk_180 0 44 (dk_at dksX5_takes_5 15 rfl rfl)
theorem dX5_takes_132 : decode cX5_takes 132 = .ok (.aload_n 0, 1) := dk_42 (dk_at dksX5_takes_5 18 rfl rfl)
theorem dX5_takes_133 : decode cX5_takes 133 = .ok (.getfield 44, 3) := dk_180 0 44 (dk_at dksX5_takes_5 19 rfl rfl)
theorem dX5_takes_136 : decode cX5_takes 136 = .ok (.invokestatic 139, 3) := dk_184 0 139 (dk_at dksX5_takes_6 0 rfl rfl)
theorem dX5_takes_139 : decode cX5_takes 139 = .ok (.aload_n 1, 1) := dk_43 (dk_at dksX5_takes_6 3 rfl rfl)
theorem dX5_takes_140 : decode cX5_takes 140 = .ok (.getfield 47, 3) := dk_180 0 47 (dk_at dksX5_takes_6 4 rfl rfl)
theorem dX5_takes_143 : decode cX5_takes 143 = .ok (.aload_n 0, 1) := dk_42 (dk_at dksX5_takes_6 7 rfl rfl)
theorem dX5_takes_144 : decode cX5_takes 144 = .ok (.getfield 47, 3) := dk_180 0 47 (dk_at dksX5_takes_6 8 rfl rfl)
theorem dX5_takes_147 : decode cX5_takes 147 = .ok (.invokestatic 139, 3) := dk_184 0 139 (dk_at dksX5_takes_6 11 rfl rfl)
theorem dX5_takes_150 : decode cX5_takes 150 = .ok (.aload_n 0, 1) := dk_42 (dk_at dksX5_takes_6 14 rfl rfl)
theorem dX5_takes_151 : decode cX5_takes 151 = .ok (.aload_n 1, 1) := dk_43 (dk_at dksX5_takes_6 15 rfl rfl)
theorem dX5_takes_152 : decode cX5_takes 152 = .ok (.getfield 111, 3) := dk_180 0 111 (dk_at dksX5_takes_6 16 rfl rfl)
theorem dX5_takes_155 : decode cX5_takes 155 = .ok (.putfield 111, 3) := dk_181 0 111 (dk_at dksX5_takes_6 19 rfl rfl)
theorem dX5_takes_158 : decode cX5_takes 158 = .ok (.aload_n 0, 1) := dk_42 (dk_at dksX5_takes_6 22 rfl rfl)
theorem dX5_takes_159 : decode cX5_takes 159 = .ok (.aload_n 1, 1) := dk_43 (dk_at dksX5_takes_6 23 rfl rfl)
theorem dX5_takes_160 : decode cX5_takes 160 = .ok (.getfield 114, 3) := dk_180 0 114 (dk_at dksX5_takes_7 0 rfl rfl)
theorem dX5_takes_163 : decode cX5_takes 163 = .ok (.putfield 114, 3) := dk_181 0 114 (dk_at dksX5_takes_7 3 rfl rfl)
theorem dX5_takes_166 : decode cX5_takes 166 = .ok (.aload_n 0, 1) := dk_42 (dk_at dksX5_takes_7 6 rfl rfl)
theorem dX5_takes_167 : decode cX5_takes 167 = .ok (.aload_n 1, 1) := dk_43 (dk_at dksX5_takes_7 7 rfl rfl)
theorem dX5_takes_168 : decode cX5_takes 168 = .ok (.getfield 117, 3) := dk_180 0 117 (dk_at dksX5_takes_7 8 rfl rfl)
theorem dX5_takes_171 : decode cX5_takes 171 = .ok (.putfield 117, 3) := dk_181 0 117 (dk_at dksX5_takes_7 11 rfl rfl)
theorem dX5_takes_174 : decode cX5_takes 174 = .ok (.aload_n 0, 1) := dk_42 (dk_at dksX5_takes_7 14 rfl rfl)
theorem dX5_takes_175 : decode cX5_takes 175 = .ok (.aload_n 1, 1) := dk_43 (dk_at dksX5_takes_7 15 rfl rfl)
theorem dX5_takes_176 : decode cX5_takes 176 = .ok (.getfield 120, 3) := dk_180 0 120 (dk_at dksX5_takes_7 16 rfl rfl)
theorem dX5_takes_179 : decode cX5_takes 179 = .ok (.putfield 120, 3) := dk_181 0 120 (dk_at dksX5_takes_7 19 rfl rfl)
theorem dX5_takes_182 : decode cX5_takes 182 = .ok (.aload_n 0, 1) := dk_42 (dk_at dksX5_takes_7 22 rfl rfl)
theorem dX5_takes_183 : decode cX5_takes 183 = .ok (.aload_n 1, 1) := dk_43 (dk_at dksX5_takes_7 23 rfl rfl)
theorem dX5_takes_184 : decode cX5_takes 184 = .ok (.getfield 123, 3) := dk_180 0 123 (dk_at dksX5_takes_8 0 rfl rfl)
theorem dX5_takes_187 : decode cX5_takes 187 = .ok (.putfield 123, 3) := dk_181 0 123 (dk_at dksX5_takes_8 3 rfl rfl)
theorem dX5_takes_190 : decode cX5_takes 190 = .ok (.aload_n 0, 1) := dk_42 (dk_at dksX5_takes_8 6 rfl rfl)
theorem dX5_takes_191 : decode cX5_takes 191 = .ok (.aload_n 1, 1) := dk_43 (dk_at dksX5_takes_8 7 rfl rfl)
theorem dX5_takes_192 : decode cX5_takes 192 = .ok (.getfield 126, 3) := dk_180 0 126 (dk_at dksX5_takes_8 8 rfl rfl)
theorem dX5_takes_195 : decode cX5_takes 195 = .ok (.putfield 126, 3) := dk_181 0 126 (dk_at dksX5_takes_8 11 rfl rfl)
theorem dX5_takes_198 : decode cX5_takes 198 = .ok (.aload_n 0, 1) := dk_42 (dk_at dksX5_takes_8 14 rfl rfl)
theorem dX5_takes_199 : decode cX5_takes 199 = .ok (.aload_n 1, 1) := dk_43 (dk_at dksX5_takes_8 15 rfl rfl)
theorem dX5_takes_200 : decode cX5_takes 200 = .ok (.getfield 132, 3) := dk_180 0 132 (dk_at dksX5_takes_8 16 rfl rfl)
theorem dX5_takes_203 : decode cX5_takes 203 = .ok (.putfield 132, 3) := dk_181 0 132 (dk_at dksX5_takes_8 19 rfl rfl)
theorem dX5_takes_206 : decode cX5_takes 206 = .ok (.return_, 1) := dk_177 (dk_at dksX5_takes_8 22 rfl rfl)
abbrev cX5_copies : ByteArray := prog_8_method_3_code
def yX5_copies : MethodName := ⟨RX5, "copies", "([I[I)V"⟩
def dkwX5_copies_0 : List UInt8 := [42, 3, 43, 3, 42, 190, 184, 0, 133, 177]
abbrev dktX5_copies_0 : List UInt8 := dkwX5_copies_0 ++ []
theorem dksX5_copies_0 : cX5_copies.data.toList.drop 0 = dktX5_copies_0 := by decide +kernel
theorem dX5_copies_0 : decode cX5_copies 0 = .ok (.aload_n 0, 1) := dk_42 (dk_at dksX5_copies_0 0 rfl rfl)
theorem dX5_copies_1 : decode cX5_copies 1 = .ok (.iconst 0, 1) := dk_3 (dk_at dksX5_copies_0 1 rfl rfl)
theorem dX5_copies_2 : decode cX5_copies 2 = .ok (.aload_n 1, 1) := dk_43 (dk_at dksX5_copies_0 2 rfl rfl)
theorem dX5_copies_3 : decode cX5_copies 3 = .ok (.iconst 0, 1) := dk_3 (dk_at dksX5_copies_0 3 rfl rfl)
theorem dX5_copies_4 : decode cX5_copies 4 = .ok (.aload_n 0, 1) := dk_42 (dk_at dksX5_copies_0 4 rfl rfl)
theorem dX5_copies_5 : decode cX5_copies 5 = .ok (.arraylength, 1) := dk_190 (dk_at dksX5_copies_0 5 rfl rfl)
theorem dX5_copies_6 : decode cX5_copies 6 = .ok (.invokestatic 133, 3) := dk_184 0 133 (dk_at dksX5_copies_0 6 rfl rfl)
theorem dX5_copies_9 : decode cX5_copies 9 = .ok (.return_, 1) := dk_177 (dk_at dksX5_copies_0 9 rfl rfl)
abbrev cX5_minute : ByteArray := prog_8_method_13_code
def yX5_minute : MethodName := ⟨RX5, "minute", "(LRatSorters$Text;)V"⟩
def dkwX5_minute_2 : List UInt8 := [4, 100, 184, 0, 149, 181, 0, 111, 42, 89, 180, 0, 114, 4, 96, 181, 0, 114, 177]
abbrev dktX5_minute_2 : List UInt8 := dkwX5_minute_2 ++ []
def dkwX5_minute_1 : List UInt8 := [180, 0, 23, 28, 46, 50, 42, 43, 28, 182, 0, 192, 132, 2, 1, 167, 255, 225, 42, 3, 42, 180, 0, 111]
abbrev dktX5_minute_1 : List UInt8 := dkwX5_minute_1 ++ dktX5_minute_2
def dkwX5_minute_0 : List UInt8 := [42, 3, 181, 0, 162, 3, 61, 28, 43, 180, 0, 102, 182, 0, 79, 162, 0, 26, 42, 180, 0, 69, 42]
abbrev dktX5_minute_0 : List UInt8 := dkwX5_minute_0 ++ dktX5_minute_1
theorem dksX5_minute_0 : cX5_minute.data.toList.drop 0 = dktX5_minute_0 := by decide +kernel
theorem dksX5_minute_1 : cX5_minute.data.toList.drop 23 = dktX5_minute_1 := dk_seg dksX5_minute_0 23 rfl rfl
theorem dksX5_minute_2 : cX5_minute.data.toList.drop 47 = dktX5_minute_2 := dk_seg dksX5_minute_1 24 rfl rfl
theorem dX5_minute_0 : decode cX5_minute 0 = .ok (.aload_n 0, 1) := dk_42 (dk_at dksX5_minute_0 0 rfl rfl)
theorem dX5_minute_1 : decode cX5_minute 1 = .ok (.iconst 0, 1) := dk_3 (dk_at dksX5_minute_0 1 rfl rfl)
theorem dX5_minute_2 : decode cX5_minute 2 = .ok (.putfield 162, 3) := dk_181 0 162 (dk_at dksX5_minute_0 2 rfl rfl)
theorem dX5_minute_5 : decode cX5_minute 5 = .ok (.iconst 0, 1) := dk_3 (dk_at dksX5_minute_0 5 rfl rfl)
theorem dX5_minute_6 : decode cX5_minute 6 = .ok (.istore_n 2, 1) := dk_61 (dk_at dksX5_minute_0 6 rfl rfl)
theorem dX5_minute_7 : decode cX5_minute 7 = .ok (.iload_n 2, 1) := dk_28 (dk_at dksX5_minute_0 7 rfl rfl)
theorem dX5_minute_8 : decode cX5_minute 8 = .ok (.aload_n 1, 1) := dk_43 (dk_at dksX5_minute_0 8 rfl rfl)
theorem dX5_minute_9 : decode cX5_minute 9 = .ok (.getfield 102, 3) := dk_180 0 102 (dk_at dksX5_minute_0 9 rfl rfl)
theorem dX5_minute_12 : decode cX5_minute 12 = .ok (.invokevirtual 79, 3) := dk_182 0 79 (dk_at dksX5_minute_0 12 rfl rfl)
theorem dX5_minute_15 : decode cX5_minute 15 = .ok (.if_icmp .ge 26, 3) := dk_162 0 26 (dk_at dksX5_minute_0 15 rfl rfl)
theorem dX5_minute_18 : decode cX5_minute 18 = .ok (.aload_n 0, 1) := dk_42 (dk_at dksX5_minute_0 18 rfl rfl)
theorem dX5_minute_19 : decode cX5_minute 19 = .ok (.getfield 69, 3) := dk_180 0 69 (dk_at dksX5_minute_0 19 rfl rfl)
theorem dX5_minute_22 : decode cX5_minute 22 = .ok (.aload_n 0, 1) := dk_42 (dk_at dksX5_minute_0 22 rfl rfl)
theorem dX5_minute_23 : decode cX5_minute 23 = .ok (.getfield 23, 3) := dk_180 0 23 (dk_at dksX5_minute_1 0 rfl rfl)
theorem dX5_minute_26 : decode cX5_minute 26 = .ok (.iload_n 2, 1) := dk_28 (dk_at dksX5_minute_1 3 rfl rfl)
theorem dX5_minute_27 : decode cX5_minute 27 = .ok (.iaload, 1) := dk_46 (dk_at dksX5_minute_1 4 rfl rfl)
theorem dX5_minute_28 : decode cX5_minute 28 = .ok (.aaload, 1) := dk_50 (dk_at dksX5_minute_1 5 rfl rfl)
theorem dX5_minute_29 : decode cX5_minute 29 = .ok (.aload_n 0, 1) := dk_42 (dk_at dksX5_minute_1 6 rfl rfl)
theorem dX5_minute_30 : decode cX5_minute 30 = .ok (.aload_n 1, 1) := dk_43 (dk_at dksX5_minute_1 7 rfl rfl)
theorem dX5_minute_31 : decode cX5_minute 31 = .ok (.iload_n 2, 1) := dk_28 (dk_at dksX5_minute_1 8 rfl rfl)
theorem dX5_minute_32 : decode cX5_minute 32 = .ok (.invokevirtual 192, 3) := dk_182 0 192 (dk_at dksX5_minute_1 9 rfl rfl)
theorem dX5_minute_35 : decode cX5_minute 35 = .ok (.iinc 2 1, 3) := dk_132 2 1 (dk_at dksX5_minute_1 12 rfl rfl)
theorem dX5_minute_38 : decode cX5_minute 38 = .ok (.goto (-31), 3) := dk_167 255 225 (dk_at dksX5_minute_1 15 rfl rfl)
theorem dX5_minute_41 : decode cX5_minute 41 = .ok (.aload_n 0, 1) := dk_42 (dk_at dksX5_minute_1 18 rfl rfl)
theorem dX5_minute_42 : decode cX5_minute 42 = .ok (.iconst 0, 1) := dk_3 (dk_at dksX5_minute_1 19 rfl rfl)
theorem dX5_minute_43 : decode cX5_minute 43 = .ok (.aload_n 0, 1) := dk_42 (dk_at dksX5_minute_1 20 rfl rfl)
theorem dX5_minute_44 : decode cX5_minute 44 = .ok (.getfield 111, 3) := dk_180 0 111 (dk_at dksX5_minute_1 21 rfl rfl)
theorem dX5_minute_47 : decode cX5_minute 47 = .ok (.iconst 1, 1) := dk_4 (dk_at dksX5_minute_2 0 rfl rfl)
theorem dX5_minute_48 : decode cX5_minute 48 = .ok (.isub, 1) := dk_100 (dk_at dksX5_minute_2 1 rfl rfl)
theorem dX5_minute_49 : decode cX5_minute 49 = .ok (.invokestatic 149, 3) := dk_184 0 149 (dk_at dksX5_minute_2 2 rfl rfl)
theorem dX5_minute_52 : decode cX5_minute 52 = .ok (.putfield 111, 3) := dk_181 0 111 (dk_at dksX5_minute_2 5 rfl rfl)
theorem dX5_minute_55 : decode cX5_minute 55 = .ok (.aload_n 0, 1) := dk_42 (dk_at dksX5_minute_2 8 rfl rfl)
theorem dX5_minute_56 : decode cX5_minute 56 = .ok (.dup, 1) := dk_89 (dk_at dksX5_minute_2 9 rfl rfl)
theorem dX5_minute_57 : decode cX5_minute 57 = .ok (.getfield 114, 3) := dk_180 0 114 (dk_at dksX5_minute_2 10 rfl rfl)
theorem dX5_minute_60 : decode cX5_minute 60 = .ok (.iconst 1, 1) := dk_4 (dk_at dksX5_minute_2 13 rfl rfl)
theorem dX5_minute_61 : decode cX5_minute 61 = .ok (.iadd, 1) := dk_96 (dk_at dksX5_minute_2 14 rfl rfl)
theorem dX5_minute_62 : decode cX5_minute 62 = .ok (.putfield 114, 3) := dk_181 0 114 (dk_at dksX5_minute_2 15 rfl rfl)
theorem dX5_minute_65 : decode cX5_minute 65 = .ok (.return_, 1) := dk_177 (dk_at dksX5_minute_2 18 rfl rfl)
abbrev cX5_drops : ByteArray := prog_8_method_11_code
def yX5_drops : MethodName := ⟨RX5, "drops", "(I)V"⟩
def dkwX5_drops_2 : List UInt8 := [180, 0, 29, 27, 3, 79, 42, 180, 0, 32, 27, 16, 254, 79, 177]
abbrev dktX5_drops_2 : List UInt8 := dkwX5_drops_2 ++ []
def dkwX5_drops_1 : List UInt8 := [27, 46, 92, 46, 42, 180, 0, 29, 27, 46, 96, 79, 42, 180, 0, 47, 27, 92, 46, 4, 96, 79, 42]
abbrev dktX5_drops_1 : List UInt8 := dkwX5_drops_1 ++ dktX5_drops_2
def dkwX5_drops_0 : List UInt8 := [42, 180, 0, 29, 27, 46, 158, 0, 40, 42, 180, 0, 20, 42, 180, 0, 35, 27, 46, 50, 42, 180, 0, 32]
abbrev dktX5_drops_0 : List UInt8 := dkwX5_drops_0 ++ dktX5_drops_1
theorem dksX5_drops_0 : cX5_drops.data.toList.drop 0 = dktX5_drops_0 := by decide +kernel
theorem dksX5_drops_1 : cX5_drops.data.toList.drop 24 = dktX5_drops_1 := dk_seg dksX5_drops_0 24 rfl rfl
theorem dksX5_drops_2 : cX5_drops.data.toList.drop 47 = dktX5_drops_2 := dk_seg dksX5_drops_1 23 rfl rfl
theorem dX5_drops_0 : decode cX5_drops 0 = .ok (.aload_n 0, 1) := dk_42 (dk_at dksX5_drops_0 0 rfl rfl)
theorem dX5_drops_1 : decode cX5_drops 1 = .ok (.getfield 29, 3) := dk_180 0 29 (dk_at dksX5_drops_0 1 rfl rfl)
theorem dX5_drops_4 : decode cX5_drops 4 = .ok (.iload_n 1, 1) := dk_27 (dk_at dksX5_drops_0 4 rfl rfl)
theorem dX5_drops_5 : decode cX5_drops 5 = .ok (.iaload, 1) := dk_46 (dk_at dksX5_drops_0 5 rfl rfl)
theorem dX5_drops_6 : decode cX5_drops 6 = .ok (.ifCond .le 40, 3) := dk_158 0 40 (dk_at dksX5_drops_0 6 rfl rfl)
theorem dX5_drops_9 : decode cX5_drops 9 = .ok (.aload_n 0, 1) := dk_42 (dk_at dksX5_drops_0 9 rfl rfl)
theorem dX5_drops_10 : decode cX5_drops 10 = .ok (.getfield 20, 3) := dk_180 0 20 (dk_at dksX5_drops_0 10 rfl rfl)
theorem dX5_drops_13 : decode cX5_drops 13 = .ok (.aload_n 0, 1) := dk_42 (dk_at dksX5_drops_0 13 rfl rfl)
theorem dX5_drops_14 : decode cX5_drops 14 = .ok (.getfield 35, 3) := dk_180 0 35 (dk_at dksX5_drops_0 14 rfl rfl)
theorem dX5_drops_17 : decode cX5_drops 17 = .ok (.iload_n 1, 1) := dk_27 (dk_at dksX5_drops_0 17 rfl rfl)
theorem dX5_drops_18 : decode cX5_drops 18 = .ok (.iaload, 1) := dk_46 (dk_at dksX5_drops_0 18 rfl rfl)
theorem dX5_drops_19 : decode cX5_drops 19 = .ok (.aaload, 1) := dk_50 (dk_at dksX5_drops_0 19 rfl rfl)
theorem dX5_drops_20 : decode cX5_drops 20 = .ok (.aload_n 0, 1) := dk_42 (dk_at dksX5_drops_0 20 rfl rfl)
theorem dX5_drops_21 : decode cX5_drops 21 = .ok (.getfield 32, 3) := dk_180 0 32 (dk_at dksX5_drops_0 21 rfl rfl)
theorem dX5_drops_24 : decode cX5_drops 24 = .ok (.iload_n 1, 1) := dk_27 (dk_at dksX5_drops_1 0 rfl rfl)
theorem dX5_drops_25 : decode cX5_drops 25 = .ok (.iaload, 1) := dk_46 (dk_at dksX5_drops_1 1 rfl rfl)
theorem dX5_drops_26 : decode cX5_drops 26 = .ok (.dup2, 1) := dk_92 (dk_at dksX5_drops_1 2 rfl rfl)
theorem dX5_drops_27 : decode cX5_drops 27 = .ok (.iaload, 1) := dk_46 (dk_at dksX5_drops_1 3 rfl rfl)
theorem dX5_drops_28 : decode cX5_drops 28 = .ok (.aload_n 0, 1) := dk_42 (dk_at dksX5_drops_1 4 rfl rfl)
theorem dX5_drops_29 : decode cX5_drops 29 = .ok (.getfield 29, 3) := dk_180 0 29 (dk_at dksX5_drops_1 5 rfl rfl)
theorem dX5_drops_32 : decode cX5_drops 32 = .ok (.iload_n 1, 1) := dk_27 (dk_at dksX5_drops_1 8 rfl rfl)
theorem dX5_drops_33 : decode cX5_drops 33 = .ok (.iaload, 1) := dk_46 (dk_at dksX5_drops_1 9 rfl rfl)
theorem dX5_drops_34 : decode cX5_drops 34 = .ok (.iadd, 1) := dk_96 (dk_at dksX5_drops_1 10 rfl rfl)
theorem dX5_drops_35 : decode cX5_drops 35 = .ok (.iastore, 1) := dk_79 (dk_at dksX5_drops_1 11 rfl rfl)
theorem dX5_drops_36 : decode cX5_drops 36 = .ok (.aload_n 0, 1) := dk_42 (dk_at dksX5_drops_1 12 rfl rfl)
theorem dX5_drops_37 : decode cX5_drops 37 = .ok (.getfield 47, 3) := dk_180 0 47 (dk_at dksX5_drops_1 13 rfl rfl)
theorem dX5_drops_40 : decode cX5_drops 40 = .ok (.iload_n 1, 1) := dk_27 (dk_at dksX5_drops_1 16 rfl rfl)
theorem dX5_drops_41 : decode cX5_drops 41 = .ok (.dup2, 1) := dk_92 (dk_at dksX5_drops_1 17 rfl rfl)
theorem dX5_drops_42 : decode cX5_drops 42 = .ok (.iaload, 1) := dk_46 (dk_at dksX5_drops_1 18 rfl rfl)
theorem dX5_drops_43 : decode cX5_drops 43 = .ok (.iconst 1, 1) := dk_4 (dk_at dksX5_drops_1 19 rfl rfl)
theorem dX5_drops_44 : decode cX5_drops 44 = .ok (.iadd, 1) := dk_96 (dk_at dksX5_drops_1 20 rfl rfl)
theorem dX5_drops_45 : decode cX5_drops 45 = .ok (.iastore, 1) := dk_79 (dk_at dksX5_drops_1 21 rfl rfl)
theorem dX5_drops_46 : decode cX5_drops 46 = .ok (.aload_n 0, 1) := dk_42 (dk_at dksX5_drops_1 22 rfl rfl)
theorem dX5_drops_47 : decode cX5_drops 47 = .ok (.getfield 29, 3) := dk_180 0 29 (dk_at dksX5_drops_2 0 rfl rfl)
theorem dX5_drops_50 : decode cX5_drops 50 = .ok (.iload_n 1, 1) := dk_27 (dk_at dksX5_drops_2 3 rfl rfl)
theorem dX5_drops_51 : decode cX5_drops 51 = .ok (.iconst 0, 1) := dk_3 (dk_at dksX5_drops_2 4 rfl rfl)
theorem dX5_drops_52 : decode cX5_drops 52 = .ok (.iastore, 1) := dk_79 (dk_at dksX5_drops_2 5 rfl rfl)
theorem dX5_drops_53 : decode cX5_drops 53 = .ok (.aload_n 0, 1) := dk_42 (dk_at dksX5_drops_2 6 rfl rfl)
theorem dX5_drops_54 : decode cX5_drops 54 = .ok (.getfield 32, 3) := dk_180 0 32 (dk_at dksX5_drops_2 7 rfl rfl)
theorem dX5_drops_57 : decode cX5_drops 57 = .ok (.iload_n 1, 1) := dk_27 (dk_at dksX5_drops_2 10 rfl rfl)
theorem dX5_drops_58 : decode cX5_drops 58 = .ok (.bipush (-2), 2) := dk_16 254 (dk_at dksX5_drops_2 11 rfl rfl)
theorem dX5_drops_60 : decode cX5_drops 60 = .ok (.iastore, 1) := dk_79 (dk_at dksX5_drops_2 13 rfl rfl)
theorem dX5_drops_61 : decode cX5_drops 61 = .ok (.return_, 1) := dk_177 (dk_at dksX5_drops_2 14 rfl rfl)
abbrev cX5_isDark : ByteArray := prog_8_method_6_code
def yX5_isDark : MethodName := ⟨RX5, "isDark", "(LRatSorters$Text;)Z"⟩
def dkwX5_isDark_0 : List UInt8 := [42, 180, 0, 114, 43, 180, 0, 146, 162, 0, 10, 42, 180, 0, 111, 158, 0, 7, 4, 167, 0, 4, 3, 172]
abbrev dktX5_isDark_0 : List UInt8 := dkwX5_isDark_0 ++ []
theorem dksX5_isDark_0 : cX5_isDark.data.toList.drop 0 = dktX5_isDark_0 := by decide +kernel
theorem dX5_isDark_0 : decode cX5_isDark 0 = .ok (.aload_n 0, 1) := dk_42 (dk_at dksX5_isDark_0 0 rfl rfl)
theorem dX5_isDark_1 : decode cX5_isDark 1 = .ok (.getfield 114, 3) := dk_180 0 114 (dk_at dksX5_isDark_0 1 rfl rfl)
theorem dX5_isDark_4 : decode cX5_isDark 4 = .ok (.aload_n 1, 1) := dk_43 (dk_at dksX5_isDark_0 4 rfl rfl)
theorem dX5_isDark_5 : decode cX5_isDark 5 = .ok (.getfield 146, 3) := dk_180 0 146 (dk_at dksX5_isDark_0 5 rfl rfl)
theorem dX5_isDark_8 : decode cX5_isDark 8 = .ok (.if_icmp .ge 10, 3) := dk_162 0 10 (dk_at dksX5_isDark_0 8 rfl rfl)
theorem dX5_isDark_11 : decode cX5_isDark 11 = .ok (.aload_n 0, 1) := dk_42 (dk_at dksX5_isDark_0 11 rfl rfl)
theorem dX5_isDark_12 : decode cX5_isDark 12 = .ok (.getfield 111, 3) := dk_180 0 111 (dk_at dksX5_isDark_0 12 rfl rfl)
theorem dX5_isDark_15 : decode cX5_isDark 15 = .ok (.ifCond .le 7, 3) := dk_158 0 7 (dk_at dksX5_isDark_0 15 rfl rfl)
theorem dX5_isDark_18 : decode cX5_isDark 18 = .ok (.iconst 1, 1) := dk_4 (dk_at dksX5_isDark_0 18 rfl rfl)
theorem dX5_isDark_19 : decode cX5_isDark 19 = .ok (.goto 4, 3) := dk_167 0 4 (dk_at dksX5_isDark_0 19 rfl rfl)
theorem dX5_isDark_22 : decode cX5_isDark 22 = .ok (.iconst 0, 1) := dk_3 (dk_at dksX5_isDark_0 22 rfl rfl)
theorem dX5_isDark_23 : decode cX5_isDark 23 = .ok (.ireturn, 1) := dk_172 (dk_at dksX5_isDark_0 23 rfl rfl)
abbrev cX5_hasLoaded : ByteArray := prog_8_method_7_code
def yX5_hasLoaded : MethodName := ⟨RX5, "hasLoaded", "(I)Z"⟩
def dkwX5_hasLoaded_0 : List UInt8 := [42, 180, 0, 162, 27, 122, 4, 126, 4, 160, 0, 7, 4, 167, 0, 4, 3, 172]
abbrev dktX5_hasLoaded_0 : List UInt8 := dkwX5_hasLoaded_0 ++ []
theorem dksX5_hasLoaded_0 : cX5_hasLoaded.data.toList.drop 0 = dktX5_hasLoaded_0 := by decide +kernel
theorem dX5_hasLoaded_0 : decode cX5_hasLoaded 0 = .ok (.aload_n 0, 1) := dk_42 (dk_at dksX5_hasLoaded_0 0 rfl rfl)
theorem dX5_hasLoaded_1 : decode cX5_hasLoaded 1 = .ok (.getfield 162, 3) := dk_180 0 162 (dk_at dksX5_hasLoaded_0 1 rfl rfl)
theorem dX5_hasLoaded_4 : decode cX5_hasLoaded 4 = .ok (.iload_n 1, 1) := dk_27 (dk_at dksX5_hasLoaded_0 4 rfl rfl)
theorem dX5_hasLoaded_5 : decode cX5_hasLoaded 5 = .ok (.ishr, 1) := dk_122 (dk_at dksX5_hasLoaded_0 5 rfl rfl)
theorem dX5_hasLoaded_6 : decode cX5_hasLoaded 6 = .ok (.iconst 1, 1) := dk_4 (dk_at dksX5_hasLoaded_0 6 rfl rfl)
theorem dX5_hasLoaded_7 : decode cX5_hasLoaded 7 = .ok (.iand, 1) := dk_126 (dk_at dksX5_hasLoaded_0 7 rfl rfl)
theorem dX5_hasLoaded_8 : decode cX5_hasLoaded 8 = .ok (.iconst 1, 1) := dk_4 (dk_at dksX5_hasLoaded_0 8 rfl rfl)
theorem dX5_hasLoaded_9 : decode cX5_hasLoaded 9 = .ok (.if_icmp .ne 7, 3) := dk_160 0 7 (dk_at dksX5_hasLoaded_0 9 rfl rfl)
theorem dX5_hasLoaded_12 : decode cX5_hasLoaded 12 = .ok (.iconst 1, 1) := dk_4 (dk_at dksX5_hasLoaded_0 12 rfl rfl)
theorem dX5_hasLoaded_13 : decode cX5_hasLoaded 13 = .ok (.goto 4, 3) := dk_167 0 4 (dk_at dksX5_hasLoaded_0 13 rfl rfl)
theorem dX5_hasLoaded_16 : decode cX5_hasLoaded 16 = .ok (.iconst 0, 1) := dk_3 (dk_at dksX5_hasLoaded_0 16 rfl rfl)
theorem dX5_hasLoaded_17 : decode cX5_hasLoaded 17 = .ok (.ireturn, 1) := dk_172 (dk_at dksX5_hasLoaded_0 17 rfl rfl)
abbrev cX5_loads : ByteArray := prog_8_method_8_code
def yX5_loads : MethodName := ⟨RX5, "loads", "(LRatSorters$Text;I)V"⟩
def dkwX5_loads_10 : List UInt8 := [180, 0, 23, 28, 4, 79, 42, 180, 0, 26, 28, 42, 180, 0, 15, 42, 180, 0, 35, 28, 46, 46, 79, 177]
abbrev dktX5_loads_10 : List UInt8 := dkwX5_loads_10 ++ []
def dkwX5_loads_9 : List UInt8 := [153, 0, 18, 21, 7, 4, 96, 43, 180, 0, 95, 182, 0, 79, 112, 167, 0, 5, 21, 7, 79, 42]
abbrev dktX5_loads_9 : List UInt8 := dkwX5_loads_9 ++ dktX5_loads_10
def dkwX5_loads_8 : List UInt8 := [180, 0, 29, 28, 46, 154, 0, 8, 16, 254, 167, 0, 4, 29, 79, 42, 180, 0, 35, 28, 21, 6]
abbrev dktX5_loads_8 : List UInt8 := dkwX5_loads_8 ++ dktX5_loads_9
def dkwX5_loads_7 : List UInt8 := [180, 0, 155, 54, 7, 42, 180, 0, 29, 28, 21, 4, 21, 5, 100, 79, 42, 180, 0, 32, 28, 42]
abbrev dktX5_loads_7 : List UInt8 := dkwX5_loads_7 ++ dktX5_loads_8
def dkwX5_loads_6 : List UInt8 := [184, 0, 173, 162, 0, 7, 4, 167, 0, 4, 3, 54, 6, 43, 180, 0, 102, 28, 182, 0, 85, 192, 0, 105]
abbrev dktX5_loads_6 : List UInt8 := dkwX5_loads_6 ++ dktX5_loads_7
def dkwX5_loads_5 : List UInt8 := [43, 43, 180, 0, 189, 3, 28, 42, 180, 0, 9, 29, 46, 21, 4, 96, 182, 0, 169, 3, 16, 100]
abbrev dktX5_loads_5 : List UInt8 := dkwX5_loads_5 ++ dktX5_loads_6
def dkwX5_loads_4 : List UInt8 := [21, 5, 182, 0, 183, 42, 180, 0, 132, 16, 8, 42, 180, 0, 114, 104, 28, 96, 16, 100, 184, 0, 186, 42]
abbrev dktX5_loads_4 : List UInt8 := dkwX5_loads_4 ++ dktX5_loads_5
def dkwX5_loads_3 : List UInt8 := [180, 0, 180, 3, 28, 21, 4, 182, 0, 169, 3, 16, 99, 184, 0, 173, 184, 0, 177, 54, 5, 42, 28]
abbrev dktX5_loads_3 : List UInt8 := dkwX5_loads_3 ++ dktX5_loads_4
def dkwX5_loads_2 : List UInt8 := [4, 29, 120, 128, 181, 0, 162, 42, 180, 0, 9, 29, 92, 46, 21, 4, 100, 79, 21, 4, 42, 43, 43]
abbrev dktX5_loads_2 : List UInt8 := dkwX5_loads_2 ++ dktX5_loads_3
def dkwX5_loads_1 : List UInt8 := [180, 0, 9, 29, 46, 182, 0, 169, 4, 16, 99, 184, 0, 173, 184, 0, 177, 54, 4, 42, 89, 180, 0, 162]
abbrev dktX5_loads_1 : List UInt8 := dkwX5_loads_1 ++ dktX5_loads_2
def dkwX5_loads_0 : List UInt8 := [42, 180, 0, 44, 28, 46, 62, 42, 180, 0, 9, 29, 46, 42, 43, 43, 180, 0, 165, 8, 28, 42]
abbrev dktX5_loads_0 : List UInt8 := dkwX5_loads_0 ++ dktX5_loads_1
theorem dksX5_loads_0 : cX5_loads.data.toList.drop 0 = dktX5_loads_0 := by decide +kernel
theorem dksX5_loads_1 : cX5_loads.data.toList.drop 22 = dktX5_loads_1 := dk_seg dksX5_loads_0 22 rfl rfl
theorem dksX5_loads_2 : cX5_loads.data.toList.drop 46 = dktX5_loads_2 := dk_seg dksX5_loads_1 24 rfl rfl
theorem dksX5_loads_3 : cX5_loads.data.toList.drop 69 = dktX5_loads_3 := dk_seg dksX5_loads_2 23 rfl rfl
theorem dksX5_loads_4 : cX5_loads.data.toList.drop 92 = dktX5_loads_4 := dk_seg dksX5_loads_3 23 rfl rfl
theorem dksX5_loads_5 : cX5_loads.data.toList.drop 116 = dktX5_loads_5 := dk_seg dksX5_loads_4 24 rfl rfl
theorem dksX5_loads_6 : cX5_loads.data.toList.drop 138 = dktX5_loads_6 := dk_seg dksX5_loads_5 22 rfl rfl
theorem dksX5_loads_7 : cX5_loads.data.toList.drop 162 = dktX5_loads_7 := dk_seg dksX5_loads_6 24 rfl rfl
theorem dksX5_loads_8 : cX5_loads.data.toList.drop 184 = dktX5_loads_8 := dk_seg dksX5_loads_7 22 rfl rfl
theorem dksX5_loads_9 : cX5_loads.data.toList.drop 206 = dktX5_loads_9 := dk_seg dksX5_loads_8 22 rfl rfl
theorem dksX5_loads_10 : cX5_loads.data.toList.drop 228 = dktX5_loads_10 := dk_seg dksX5_loads_9 22 rfl rfl
theorem dX5_loads_0 : decode cX5_loads 0 = .ok (.aload_n 0, 1) := dk_42 (dk_at dksX5_loads_0 0 rfl rfl)
theorem dX5_loads_1 : decode cX5_loads 1 = .ok (.getfield 44, 3) := dk_180 0 44 (dk_at dksX5_loads_0 1 rfl rfl)
theorem dX5_loads_4 : decode cX5_loads 4 = .ok (.iload_n 2, 1) := dk_28 (dk_at dksX5_loads_0 4 rfl rfl)
theorem dX5_loads_5 : decode cX5_loads 5 = .ok (.iaload, 1) := dk_46 (dk_at dksX5_loads_0 5 rfl rfl)
theorem dX5_loads_6 : decode cX5_loads 6 = .ok (.istore_n 3, 1) := dk_62 (dk_at dksX5_loads_0 6 rfl rfl)
theorem dX5_loads_7 : decode cX5_loads 7 = .ok (.aload_n 0, 1) := dk_42 (dk_at dksX5_loads_0 7 rfl rfl)
theorem dX5_loads_8 : decode cX5_loads 8 = .ok (.getfield 9, 3) := dk_180 0 9 (dk_at dksX5_loads_0 8 rfl rfl)
theorem dX5_loads_11 : decode cX5_loads 11 = .ok (.iload_n 3, 1) := dk_29 (dk_at dksX5_loads_0 11 rfl rfl)
theorem dX5_loads_12 : decode cX5_loads 12 = .ok (.iaload, 1) := dk_46 (dk_at dksX5_loads_0 12 rfl rfl)
theorem dX5_loads_13 : decode cX5_loads 13 = .ok (.aload_n 0, 1) := dk_42 (dk_at dksX5_loads_0 13 rfl rfl)
theorem dX5_loads_14 : decode cX5_loads 14 = .ok (.aload_n 1, 1) := dk_43 (dk_at dksX5_loads_0 14 rfl rfl)
theorem dX5_loads_15 : decode cX5_loads 15 = .ok (.aload_n 1, 1) := dk_43 (dk_at dksX5_loads_0 15 rfl rfl)
theorem dX5_loads_16 : decode cX5_loads 16 = .ok (.getfield 165, 3) := dk_180 0 165 (dk_at dksX5_loads_0 16 rfl rfl)
theorem dX5_loads_19 : decode cX5_loads 19 = .ok (.iconst 5, 1) := dk_8 (dk_at dksX5_loads_0 19 rfl rfl)
theorem dX5_loads_20 : decode cX5_loads 20 = .ok (.iload_n 2, 1) := dk_28 (dk_at dksX5_loads_0 20 rfl rfl)
theorem dX5_loads_21 : decode cX5_loads 21 = .ok (.aload_n 0, 1) := dk_42 (dk_at dksX5_loads_0 21 rfl rfl)
theorem dX5_loads_22 : decode cX5_loads 22 = .ok (.getfield 9, 3) := dk_180 0 9 (dk_at dksX5_loads_1 0 rfl rfl)
theorem dX5_loads_25 : decode cX5_loads 25 = .ok (.iload_n 3, 1) := dk_29 (dk_at dksX5_loads_1 3 rfl rfl)
theorem dX5_loads_26 : decode cX5_loads 26 = .ok (.iaload, 1) := dk_46 (dk_at dksX5_loads_1 4 rfl rfl)
theorem dX5_loads_27 : decode cX5_loads 27 = .ok (.invokevirtual 169, 3) := dk_182 0 169 (dk_at dksX5_loads_1 5 rfl rfl)
theorem dX5_loads_30 : decode cX5_loads 30 = .ok (.iconst 1, 1) := dk_4 (dk_at dksX5_loads_1 8 rfl rfl)
theorem dX5_loads_31 : decode cX5_loads 31 = .ok (.bipush 99, 2) := dk_16 99 (dk_at dksX5_loads_1 9 rfl rfl)
theorem dX5_loads_33 : decode cX5_loads 33 = .ok (.invokestatic 173, 3) := dk_184 0 173 (dk_at dksX5_loads_1 11 rfl rfl)
theorem dX5_loads_36 : decode cX5_loads 36 = .ok (.invokestatic 177, 3) := dk_184 0 177 (dk_at dksX5_loads_1 14 rfl rfl)
theorem dX5_loads_39 : decode cX5_loads 39 = .ok (.istore 4, 2) := dk_54 4 (dk_at dksX5_loads_1 17 rfl rfl)
theorem dX5_loads_41 : decode cX5_loads 41 = .ok (.aload_n 0, 1) := dk_42 (dk_at dksX5_loads_1 19 rfl rfl)
theorem dX5_loads_42 : decode cX5_loads 42 = .ok (.dup, 1) := dk_89 (dk_at dksX5_loads_1 20 rfl rfl)
theorem dX5_loads_43 : decode cX5_loads 43 = .ok (.getfield 162, 3) := dk_180 0 162 (dk_at dksX5_loads_1 21 rfl rfl)
theorem dX5_loads_46 : decode cX5_loads 46 = .ok (.iconst 1, 1) := dk_4 (dk_at dksX5_loads_2 0 rfl rfl)
theorem dX5_loads_47 : decode cX5_loads 47 = .ok (.iload_n 3, 1) := dk_29 (dk_at dksX5_loads_2 1 rfl rfl)
theorem dX5_loads_48 : decode cX5_loads 48 = .ok (.ishl, 1) := dk_120 (dk_at dksX5_loads_2 2 rfl rfl)
theorem dX5_loads_49 : decode cX5_loads 49 = .ok (.ior, 1) := dk_128 (dk_at dksX5_loads_2 3 rfl rfl)
theorem dX5_loads_50 : decode cX5_loads 50 = .ok (.putfield 162, 3) := dk_181 0 162 (dk_at dksX5_loads_2 4 rfl rfl)
theorem dX5_loads_53 : decode cX5_loads 53 = .ok (.aload_n 0, 1) := dk_42 (dk_at dksX5_loads_2 7 rfl rfl)
theorem dX5_loads_54 : decode cX5_loads 54 = .ok (.getfield 9, 3) := dk_180 0 9 (dk_at dksX5_loads_2 8 rfl rfl)
theorem dX5_loads_57 : decode cX5_loads 57 = .ok (.iload_n 3, 1) := dk_29 (dk_at dksX5_loads_2 11 rfl rfl)
theorem dX5_loads_58 : decode cX5_loads 58 = .ok (.dup2, 1) := dk_92 (dk_at dksX5_loads_2 12 rfl rfl)
theorem dX5_loads_59 : decode cX5_loads 59 = .ok (.iaload, 1) := dk_46 (dk_at dksX5_loads_2 13 rfl rfl)
theorem dX5_loads_60 : decode cX5_loads 60 = .ok (.iload 4, 2) := dk_21 4 (dk_at dksX5_loads_2 14 rfl rfl)
theorem dX5_loads_62 : decode cX5_loads 62 = .ok (.isub, 1) := dk_100 (dk_at dksX5_loads_2 16 rfl rfl)
theorem dX5_loads_63 : decode cX5_loads 63 = .ok (.iastore, 1) := dk_79 (dk_at dksX5_loads_2 17 rfl rfl)
theorem dX5_loads_64 : decode cX5_loads 64 = .ok (.iload 4, 2) := dk_21 4 (dk_at dksX5_loads_2 18 rfl rfl)
theorem dX5_loads_66 : decode cX5_loads 66 = .ok (.aload_n 0, 1) := dk_42 (dk_at dksX5_loads_2 20 rfl rfl)
theorem dX5_loads_67 : decode cX5_loads 67 = .ok (.aload_n 1, 1) := dk_43 (dk_at dksX5_loads_2 21 rfl rfl)
theorem dX5_loads_68 : decode cX5_loads 68 = .ok (.aload_n 1, 1) := dk_43 (dk_at dksX5_loads_2 22 rfl rfl)
theorem dX5_loads_69 : decode cX5_loads 69 = .ok (.getfield 180, 3) := dk_180 0 180 (dk_at dksX5_loads_3 0 rfl rfl)
theorem dX5_loads_72 : decode cX5_loads 72 = .ok (.iconst 0, 1) := dk_3 (dk_at dksX5_loads_3 3 rfl rfl)
theorem dX5_loads_73 : decode cX5_loads 73 = .ok (.iload_n 2, 1) := dk_28 (dk_at dksX5_loads_3 4 rfl rfl)
theorem dX5_loads_74 : decode cX5_loads 74 = .ok (.iload 4, 2) := dk_21 4 (dk_at dksX5_loads_3 5 rfl rfl)
theorem dX5_loads_76 : decode cX5_loads 76 = .ok (.invokevirtual 169, 3) := dk_182 0 169 (dk_at dksX5_loads_3 7 rfl rfl)
theorem dX5_loads_79 : decode cX5_loads 79 = .ok (.iconst 0, 1) := dk_3 (dk_at dksX5_loads_3 10 rfl rfl)
theorem dX5_loads_80 : decode cX5_loads 80 = .ok (.bipush 99, 2) := dk_16 99 (dk_at dksX5_loads_3 11 rfl rfl)
theorem dX5_loads_82 : decode cX5_loads 82 = .ok (.invokestatic 173, 3) := dk_184 0 173 (dk_at dksX5_loads_3 13 rfl rfl)
theorem dX5_loads_85 : decode cX5_loads 85 = .ok (.invokestatic 177, 3) := dk_184 0 177 (dk_at dksX5_loads_3 16 rfl rfl)
theorem dX5_loads_88 : decode cX5_loads 88 = .ok (.istore 5, 2) := dk_54 5 (dk_at dksX5_loads_3 19 rfl rfl)
theorem dX5_loads_90 : decode cX5_loads 90 = .ok (.aload_n 0, 1) := dk_42 (dk_at dksX5_loads_3 21 rfl rfl)
theorem dX5_loads_91 : decode cX5_loads 91 = .ok (.iload_n 2, 1) := dk_28 (dk_at dksX5_loads_3 22 rfl rfl)
theorem dX5_loads_92 : decode cX5_loads 92 = .ok (.iload 5, 2) := dk_21 5 (dk_at dksX5_loads_4 0 rfl rfl)
theorem dX5_loads_94 : decode cX5_loads 94 = .ok (.invokevirtual 183, 3) := dk_182 0 183 (dk_at dksX5_loads_4 2 rfl rfl)
theorem dX5_loads_97 : decode cX5_loads 97 = .ok (.aload_n 0, 1) := dk_42 (dk_at dksX5_loads_4 5 rfl rfl)
theorem dX5_loads_98 : decode cX5_loads 98 = .ok (.getfield 132, 3) := dk_180 0 132 (dk_at dksX5_loads_4 6 rfl rfl)
theorem dX5_loads_101 : decode cX5_loads 101 = .ok (.bipush 8, 2) := dk_16 8 (dk_at dksX5_loads_4 9 rfl rfl)
theorem dX5_loads_103 : decode cX5_loads 103 = .ok (.aload_n 0, 1) := dk_42 (dk_at dksX5_loads_4 11 rfl rfl)
theorem dX5_loads_104 : decode cX5_loads 104 = .ok (.getfield 114, 3) := dk_180 0 114 (dk_at dksX5_loads_4 12 rfl rfl)
theorem dX5_loads_107 : decode cX5_loads 107 = .ok (.imul, 1) := dk_104 (dk_at dksX5_loads_4 15 rfl rfl)
theorem dX5_loads_108 : decode cX5_loads 108 = .ok (.iload_n 2, 1) := dk_28 (dk_at dksX5_loads_4 16 rfl rfl)
theorem dX5_loads_109 : decode cX5_loads 109 = .ok (.iadd, 1) := dk_96 (dk_at dksX5_loads_4 17 rfl rfl)
theorem dX5_loads_110 : decode cX5_loads 110 = .ok (.bipush 100, 2) := dk_16 100 (dk_at dksX5_loads_4 18 rfl rfl)
theorem dX5_loads_112 : decode cX5_loads 112 = .ok (.invokestatic 186, 3) := dk_184 0 186 (dk_at dksX5_loads_4 20 rfl rfl)
theorem dX5_loads_115 : decode cX5_loads 115 = .ok (.aload_n 0, 1) := dk_42 (dk_at dksX5_loads_4 23 rfl rfl)
theorem dX5_loads_116 : decode cX5_loads 116 = .ok (.aload_n 1, 1) := dk_43 (dk_at dksX5_loads_5 0 rfl rfl)
theorem dX5_loads_117 : decode cX5_loads 117 = .ok (.aload_n 1, 1) := dk_43 (dk_at dksX5_loads_5 1 rfl rfl)
theorem dX5_loads_118 : decode cX5_loads 118 = .ok (.getfield 189, 3) := dk_180 0 189 (dk_at dksX5_loads_5 2 rfl rfl)
theorem dX5_loads_121 : decode cX5_loads 121 = .ok (.iconst 0, 1) := dk_3 (dk_at dksX5_loads_5 5 rfl rfl)
theorem dX5_loads_122 : decode cX5_loads 122 = .ok (.iload_n 2, 1) := dk_28 (dk_at dksX5_loads_5 6 rfl rfl)
theorem dX5_loads_123 : decode cX5_loads 123 = .ok (.aload_n 0, 1) := dk_42 (dk_at dksX5_loads_5 7 rfl rfl)
theorem dX5_loads_124 : decode cX5_loads 124 = .ok (.getfield 9, 3) := dk_180 0 9 (dk_at dksX5_loads_5 8 rfl rfl)
theorem dX5_loads_127 : decode cX5_loads 127 = .ok (.iload_n 3, 1) := dk_29 (dk_at dksX5_loads_5 11 rfl rfl)
theorem dX5_loads_128 : decode cX5_loads 128 = .ok (.iaload, 1) := dk_46 (dk_at dksX5_loads_5 12 rfl rfl)
theorem dX5_loads_129 : decode cX5_loads 129 = .ok (.iload 4, 2) := dk_21 4 (dk_at dksX5_loads_5 13 rfl rfl)
theorem dX5_loads_131 : decode cX5_loads 131 = .ok (.iadd, 1) := dk_96 (dk_at dksX5_loads_5 15 rfl rfl)
theorem dX5_loads_132 : decode cX5_loads 132 = .ok (.invokevirtual 169, 3) := dk_182 0 169 (dk_at dksX5_loads_5 16 rfl rfl)
theorem dX5_loads_135 : decode cX5_loads 135 = .ok (.iconst 0, 1) := dk_3 (dk_at dksX5_loads_5 19 rfl rfl)
theorem dX5_loads_136 : decode cX5_loads 136 = .ok (.bipush 100, 2) := dk_16 100 (dk_at dksX5_loads_5 20 rfl rfl)
theorem dX5_loads_138 : decode cX5_loads 138 = .ok (.invokestatic 173, 3) := dk_184 0 173 (dk_at dksX5_loads_6 0 rfl rfl)
theorem dX5_loads_141 : decode cX5_loads 141 = .ok (.if_icmp .ge 7, 3) := dk_162 0 7 (dk_at dksX5_loads_6 3 rfl rfl)
theorem dX5_loads_144 : decode cX5_loads 144 = .ok (.iconst 1, 1) := dk_4 (dk_at dksX5_loads_6 6 rfl rfl)
theorem dX5_loads_145 : decode cX5_loads 145 = .ok (.goto 4, 3) := dk_167 0 4 (dk_at dksX5_loads_6 7 rfl rfl)
theorem dX5_loads_148 : decode cX5_loads 148 = .ok (.iconst 0, 1) := dk_3 (dk_at dksX5_loads_6 10 rfl rfl)
theorem dX5_loads_149 : decode cX5_loads 149 = .ok (.istore 6, 2) := dk_54 6 (dk_at dksX5_loads_6 11 rfl rfl)
theorem dX5_loads_151 : decode cX5_loads 151 = .ok (.aload_n 1, 1) := dk_43 (dk_at dksX5_loads_6 13 rfl rfl)
theorem dX5_loads_152 : decode cX5_loads 152 = .ok (.getfield 102, 3) := dk_180 0 102 (dk_at dksX5_loads_6 14 rfl rfl)
theorem dX5_loads_155 : decode cX5_loads 155 = .ok (.iload_n 2, 1) := dk_28 (dk_at dksX5_loads_6 17 rfl rfl)
theorem dX5_loads_156 : decode cX5_loads 156 = .ok (.invokevirtual 85, 3) := dk_182 0 85 (dk_at dksX5_loads_6 18 rfl rfl)
theorem dX5_loads_159 : decode cX5_loads 159 = .ok (.checkcast 105, 3) := dk_192 0 105 (dk_at dksX5_loads_6 21 rfl rfl)
theorem dX5_loads_162 : decode cX5_loads 162 = .ok (.getfield 155, 3) := dk_180 0 155 (dk_at dksX5_loads_7 0 rfl rfl)
theorem dX5_loads_165 : decode cX5_loads 165 = .ok (.istore 7, 2) := dk_54 7 (dk_at dksX5_loads_7 3 rfl rfl)
theorem dX5_loads_167 : decode cX5_loads 167 = .ok (.aload_n 0, 1) := dk_42 (dk_at dksX5_loads_7 5 rfl rfl)
theorem dX5_loads_168 : decode cX5_loads 168 = .ok (.getfield 29, 3) := dk_180 0 29 (dk_at dksX5_loads_7 6 rfl rfl)
theorem dX5_loads_171 : decode cX5_loads 171 = .ok (.iload_n 2, 1) := dk_28 (dk_at dksX5_loads_7 9 rfl rfl)
theorem dX5_loads_172 : decode cX5_loads 172 = .ok (.iload 4, 2) := dk_21 4 (dk_at dksX5_loads_7 10 rfl rfl)
theorem dX5_loads_174 : decode cX5_loads 174 = .ok (.iload 5, 2) := dk_21 5 (dk_at dksX5_loads_7 12 rfl rfl)
theorem dX5_loads_176 : decode cX5_loads 176 = .ok (.isub, 1) := dk_100 (dk_at dksX5_loads_7 14 rfl rfl)
theorem dX5_loads_177 : decode cX5_loads 177 = .ok (.iastore, 1) := dk_79 (dk_at dksX5_loads_7 15 rfl rfl)
theorem dX5_loads_178 : decode cX5_loads 178 = .ok (.aload_n 0, 1) := dk_42 (dk_at dksX5_loads_7 16 rfl rfl)
theorem dX5_loads_179 : decode cX5_loads 179 = .ok (.getfield 32, 3) := dk_180 0 32 (dk_at dksX5_loads_7 17 rfl rfl)
theorem dX5_loads_182 : decode cX5_loads 182 = .ok (.iload_n 2, 1) := dk_28 (dk_at dksX5_loads_7 20 rfl rfl)
theorem dX5_loads_183 : decode cX5_loads 183 = .ok (.aload_n 0, 1) := dk_42 (dk_at dksX5_loads_7 21 rfl rfl)
theorem dX5_loads_184 : decode cX5_loads 184 = .ok (.getfield 29, 3) := dk_180 0 29 (dk_at dksX5_loads_8 0 rfl rfl)
theorem dX5_loads_187 : decode cX5_loads 187 = .ok (.iload_n 2, 1) := dk_28 (dk_at dksX5_loads_8 3 rfl rfl)
theorem dX5_loads_188 : decode cX5_loads 188 = .ok (.iaload, 1) := dk_46 (dk_at dksX5_loads_8 4 rfl rfl)
theorem dX5_loads_189 : decode cX5_loads 189 = .ok (.ifCond .ne 8, 3) := dk_154 0 8 (dk_at dksX5_loads_8 5 rfl rfl)
theorem dX5_loads_192 : decode cX5_loads 192 = .ok (.bipush (-2), 2) := dk_16 254 (dk_at dksX5_loads_8 8 rfl rfl)
theorem dX5_loads_194 : decode cX5_loads 194 = .ok (.goto 4, 3) := dk_167 0 4 (dk_at dksX5_loads_8 10 rfl rfl)
theorem dX5_loads_197 : decode cX5_loads 197 = .ok (.iload_n 3, 1) := dk_29 (dk_at dksX5_loads_8 13 rfl rfl)
theorem dX5_loads_198 : decode cX5_loads 198 = .ok (.iastore, 1) := dk_79 (dk_at dksX5_loads_8 14 rfl rfl)
theorem dX5_loads_199 : decode cX5_loads 199 = .ok (.aload_n 0, 1) := dk_42 (dk_at dksX5_loads_8 15 rfl rfl)
theorem dX5_loads_200 : decode cX5_loads 200 = .ok (.getfield 35, 3) := dk_180 0 35 (dk_at dksX5_loads_8 16 rfl rfl)
theorem dX5_loads_203 : decode cX5_loads 203 = .ok (.iload_n 2, 1) := dk_28 (dk_at dksX5_loads_8 19 rfl rfl)
theorem dX5_loads_204 : decode cX5_loads 204 = .ok (.iload 6, 2) := dk_21 6 (dk_at dksX5_loads_8 20 rfl rfl)
theorem dX5_loads_206 : decode cX5_loads 206 = .ok (.ifCond .eq 18, 3) := dk_153 0 18 (dk_at dksX5_loads_9 0 rfl rfl)
theorem dX5_loads_209 : decode cX5_loads 209 = .ok (.iload 7, 2) := dk_21 7 (dk_at dksX5_loads_9 3 rfl rfl)
theorem dX5_loads_211 : decode cX5_loads 211 = .ok (.iconst 1, 1) := dk_4 (dk_at dksX5_loads_9 5 rfl rfl)
theorem dX5_loads_212 : decode cX5_loads 212 = .ok (.iadd, 1) := dk_96 (dk_at dksX5_loads_9 6 rfl rfl)
theorem dX5_loads_213 : decode cX5_loads 213 = .ok (.aload_n 1, 1) := dk_43 (dk_at dksX5_loads_9 7 rfl rfl)
theorem dX5_loads_214 : decode cX5_loads 214 = .ok (.getfield 95, 3) := dk_180 0 95 (dk_at dksX5_loads_9 8 rfl rfl)
theorem dX5_loads_217 : decode cX5_loads 217 = .ok (.invokevirtual 79, 3) := dk_182 0 79 (dk_at dksX5_loads_9 11 rfl rfl)
theorem dX5_loads_220 : decode cX5_loads 220 = .ok (.irem, 1) := dk_112 (dk_at dksX5_loads_9 14 rfl rfl)
theorem dX5_loads_221 : decode cX5_loads 221 = .ok (.goto 5, 3) := dk_167 0 5 (dk_at dksX5_loads_9 15 rfl rfl)
theorem dX5_loads_224 : decode cX5_loads 224 = .ok (.iload 7, 2) := dk_21 7 (dk_at dksX5_loads_9 18 rfl rfl)
theorem dX5_loads_226 : decode cX5_loads 226 = .ok (.iastore, 1) := dk_79 (dk_at dksX5_loads_9 20 rfl rfl)
theorem dX5_loads_227 : decode cX5_loads 227 = .ok (.aload_n 0, 1) := dk_42 (dk_at dksX5_loads_9 21 rfl rfl)
theorem dX5_loads_228 : decode cX5_loads 228 = .ok (.getfield 23, 3) := dk_180 0 23 (dk_at dksX5_loads_10 0 rfl rfl)
theorem dX5_loads_231 : decode cX5_loads 231 = .ok (.iload_n 2, 1) := dk_28 (dk_at dksX5_loads_10 3 rfl rfl)
theorem dX5_loads_232 : decode cX5_loads 232 = .ok (.iconst 1, 1) := dk_4 (dk_at dksX5_loads_10 4 rfl rfl)
theorem dX5_loads_233 : decode cX5_loads 233 = .ok (.iastore, 1) := dk_79 (dk_at dksX5_loads_10 5 rfl rfl)
theorem dX5_loads_234 : decode cX5_loads 234 = .ok (.aload_n 0, 1) := dk_42 (dk_at dksX5_loads_10 6 rfl rfl)
theorem dX5_loads_235 : decode cX5_loads 235 = .ok (.getfield 26, 3) := dk_180 0 26 (dk_at dksX5_loads_10 7 rfl rfl)
theorem dX5_loads_238 : decode cX5_loads 238 = .ok (.iload_n 2, 1) := dk_28 (dk_at dksX5_loads_10 10 rfl rfl)
theorem dX5_loads_239 : decode cX5_loads 239 = .ok (.aload_n 0, 1) := dk_42 (dk_at dksX5_loads_10 11 rfl rfl)
theorem dX5_loads_240 : decode cX5_loads 240 = .ok (.getfield 15, 3) := dk_180 0 15 (dk_at dksX5_loads_10 12 rfl rfl)
theorem dX5_loads_243 : decode cX5_loads 243 = .ok (.aload_n 0, 1) := dk_42 (dk_at dksX5_loads_10 15 rfl rfl)
theorem dX5_loads_244 : decode cX5_loads 244 = .ok (.getfield 35, 3) := dk_180 0 35 (dk_at dksX5_loads_10 16 rfl rfl)
theorem dX5_loads_247 : decode cX5_loads 247 = .ok (.iload_n 2, 1) := dk_28 (dk_at dksX5_loads_10 19 rfl rfl)
theorem dX5_loads_248 : decode cX5_loads 248 = .ok (.iaload, 1) := dk_46 (dk_at dksX5_loads_10 20 rfl rfl)
theorem dX5_loads_249 : decode cX5_loads 249 = .ok (.iaload, 1) := dk_46 (dk_at dksX5_loads_10 21 rfl rfl)
theorem dX5_loads_250 : decode cX5_loads 250 = .ok (.iastore, 1) := dk_79 (dk_at dksX5_loads_10 22 rfl rfl)
theorem dX5_loads_251 : decode cX5_loads 251 = .ok (.return_, 1) := dk_177 (dk_at dksX5_loads_10 23 rfl rfl)
abbrev cX5_asks : ByteArray := prog_8_method_5_code
def yX5_asks : MethodName := ⟨RX5, "asks", "(LRatSorters$Text;LRatSorters$Law;III)I"⟩
def dkwX5_asks_6 : List UInt8 := [182, 0, 157, 172]
abbrev dktX5_asks_6 : List UInt8 := dkwX5_asks_6 ++ []
def dkwX5_asks_5 : List UInt8 := [42, 180, 0, 53, 180, 0, 143, 16, 6, 42, 180, 0, 47, 21, 4, 46, 79, 44, 42, 180, 0, 53]
abbrev dktX5_asks_5 : List UInt8 := dkwX5_asks_5 ++ dktX5_asks_6
def dkwX5_asks_4 : List UInt8 := [192, 0, 105, 180, 0, 155, 46, 79, 42, 180, 0, 53, 180, 0, 143, 8, 42, 180, 0, 44, 21, 4, 46, 79]
abbrev dktX5_asks_4 : List UInt8 := dkwX5_asks_4 ++ dktX5_asks_5
def dkwX5_asks_3 : List UInt8 := [79, 42, 180, 0, 53, 180, 0, 143, 7, 42, 180, 0, 15, 43, 180, 0, 102, 21, 4, 182, 0, 85]
abbrev dktX5_asks_3 : List UInt8 := dkwX5_asks_3 ++ dktX5_asks_4
def dkwX5_asks_2 : List UInt8 := [21, 5, 79, 42, 180, 0, 53, 180, 0, 143, 6, 3, 43, 180, 0, 146, 42, 180, 0, 114, 100, 184, 0, 149]
abbrev dktX5_asks_2 : List UInt8 := dkwX5_asks_2 ++ dktX5_asks_3
def dkwX5_asks_1 : List UInt8 := [180, 0, 53, 180, 0, 143, 4, 42, 180, 0, 41, 21, 4, 46, 79, 42, 180, 0, 53, 180, 0, 143, 5]
abbrev dktX5_asks_1 : List UInt8 := dkwX5_asks_1 ++ dktX5_asks_2
def dkwX5_asks_0 : List UInt8 := [44, 199, 0, 5, 29, 172, 42, 180, 0, 53, 180, 0, 143, 3, 42, 180, 0, 38, 21, 4, 46, 79, 42]
abbrev dktX5_asks_0 : List UInt8 := dkwX5_asks_0 ++ dktX5_asks_1
theorem dksX5_asks_0 : cX5_asks.data.toList.drop 0 = dktX5_asks_0 := by decide +kernel
theorem dksX5_asks_1 : cX5_asks.data.toList.drop 23 = dktX5_asks_1 := dk_seg dksX5_asks_0 23 rfl rfl
theorem dksX5_asks_2 : cX5_asks.data.toList.drop 46 = dktX5_asks_2 := dk_seg dksX5_asks_1 23 rfl rfl
theorem dksX5_asks_3 : cX5_asks.data.toList.drop 70 = dktX5_asks_3 := dk_seg dksX5_asks_2 24 rfl rfl
theorem dksX5_asks_4 : cX5_asks.data.toList.drop 92 = dktX5_asks_4 := dk_seg dksX5_asks_3 22 rfl rfl
theorem dksX5_asks_5 : cX5_asks.data.toList.drop 116 = dktX5_asks_5 := dk_seg dksX5_asks_4 24 rfl rfl
theorem dksX5_asks_6 : cX5_asks.data.toList.drop 138 = dktX5_asks_6 := dk_seg dksX5_asks_5 22 rfl rfl
theorem dX5_asks_0 : decode cX5_asks 0 = .ok (.aload_n 2, 1) := dk_44 (dk_at dksX5_asks_0 0 rfl rfl)
theorem dX5_asks_1 : decode cX5_asks 1 = .ok (.ifnonnull 5, 3) := dk_199 0 5 (dk_at dksX5_asks_0 1 rfl rfl)
theorem dX5_asks_4 : decode cX5_asks 4 = .ok (.iload_n 3, 1) := dk_29 (dk_at dksX5_asks_0 4 rfl rfl)
theorem dX5_asks_5 : decode cX5_asks 5 = .ok (.ireturn, 1) := dk_172 (dk_at dksX5_asks_0 5 rfl rfl)
theorem dX5_asks_6 : decode cX5_asks 6 = .ok (.aload_n 0, 1) := dk_42 (dk_at dksX5_asks_0 6 rfl rfl)
theorem dX5_asks_7 : decode cX5_asks 7 = .ok (.getfield 53, 3) := dk_180 0 53 (dk_at dksX5_asks_0 7 rfl rfl)
theorem dX5_asks_10 : decode cX5_asks 10 = .ok (.getfield 143, 3) := dk_180 0 143 (dk_at dksX5_asks_0 10 rfl rfl)
theorem dX5_asks_13 : decode cX5_asks 13 = .ok (.iconst 0, 1) := dk_3 (dk_at dksX5_asks_0 13 rfl rfl)
theorem dX5_asks_14 : decode cX5_asks 14 = .ok (.aload_n 0, 1) := dk_42 (dk_at dksX5_asks_0 14 rfl rfl)
theorem dX5_asks_15 : decode cX5_asks 15 = .ok (.getfield 38, 3) := dk_180 0 38 (dk_at dksX5_asks_0 15 rfl rfl)
theorem dX5_asks_18 : decode cX5_asks 18 = .ok (.iload 4, 2) := dk_21 4 (dk_at dksX5_asks_0 18 rfl rfl)
theorem dX5_asks_20 : decode cX5_asks 20 = .ok (.iaload, 1) := dk_46 (dk_at dksX5_asks_0 20 rfl rfl)
theorem dX5_asks_21 : decode cX5_asks 21 = .ok (.iastore, 1) := dk_79 (dk_at dksX5_asks_0 21 rfl rfl)
theorem dX5_asks_22 : decode cX5_asks 22 = .ok (.aload_n 0, 1) := dk_42 (dk_at dksX5_asks_0 22 rfl rfl)
theorem dX5_asks_23 : decode cX5_asks 23 = .ok (.getfield 53, 3) := dk_180 0 53 (dk_at dksX5_asks_1 0 rfl rfl)
theorem dX5_asks_26 : decode cX5_asks 26 = .ok (.getfield 143, 3) := dk_180 0 143 (dk_at dksX5_asks_1 3 rfl rfl)
theorem dX5_asks_29 : decode cX5_asks 29 = .ok (.iconst 1, 1) := dk_4 (dk_at dksX5_asks_1 6 rfl rfl)
theorem dX5_asks_30 : decode cX5_asks 30 = .ok (.aload_n 0, 1) := dk_42 (dk_at dksX5_asks_1 7 rfl rfl)
theorem dX5_asks_31 : decode cX5_asks 31 = .ok (.getfield 41, 3) := dk_180 0 41 (dk_at dksX5_asks_1 8 rfl rfl)
theorem dX5_asks_34 : decode cX5_asks 34 = .ok (.iload 4, 2) := dk_21 4 (dk_at dksX5_asks_1 11 rfl rfl)
theorem dX5_asks_36 : decode cX5_asks 36 = .ok (.iaload, 1) := dk_46 (dk_at dksX5_asks_1 13 rfl rfl)
theorem dX5_asks_37 : decode cX5_asks 37 = .ok (.iastore, 1) := dk_79 (dk_at dksX5_asks_1 14 rfl rfl)
theorem dX5_asks_38 : decode cX5_asks 38 = .ok (.aload_n 0, 1) := dk_42 (dk_at dksX5_asks_1 15 rfl rfl)
theorem dX5_asks_39 : decode cX5_asks 39 = .ok (.getfield 53, 3) := dk_180 0 53 (dk_at dksX5_asks_1 16 rfl rfl)
theorem dX5_asks_42 : decode cX5_asks 42 = .ok (.getfield 143, 3) := dk_180 0 143 (dk_at dksX5_asks_1 19 rfl rfl)
theorem dX5_asks_45 : decode cX5_asks 45 = .ok (.iconst 2, 1) := dk_5 (dk_at dksX5_asks_1 22 rfl rfl)
theorem dX5_asks_46 : decode cX5_asks 46 = .ok (.iload 5, 2) := dk_21 5 (dk_at dksX5_asks_2 0 rfl rfl)
theorem dX5_asks_48 : decode cX5_asks 48 = .ok (.iastore, 1) := dk_79 (dk_at dksX5_asks_2 2 rfl rfl)
theorem dX5_asks_49 : decode cX5_asks 49 = .ok (.aload_n 0, 1) := dk_42 (dk_at dksX5_asks_2 3 rfl rfl)
theorem dX5_asks_50 : decode cX5_asks 50 = .ok (.getfield 53, 3) := dk_180 0 53 (dk_at dksX5_asks_2 4 rfl rfl)
theorem dX5_asks_53 : decode cX5_asks 53 = .ok (.getfield 143, 3) := dk_180 0 143 (dk_at dksX5_asks_2 7 rfl rfl)
theorem dX5_asks_56 : decode cX5_asks 56 = .ok (.iconst 3, 1) := dk_6 (dk_at dksX5_asks_2 10 rfl rfl)
theorem dX5_asks_57 : decode cX5_asks 57 = .ok (.iconst 0, 1) := dk_3 (dk_at dksX5_asks_2 11 rfl rfl)
theorem dX5_asks_58 : decode cX5_asks 58 = .ok (.aload_n 1, 1) := dk_43 (dk_at dksX5_asks_2 12 rfl rfl)
theorem dX5_asks_59 : decode cX5_asks 59 = .ok (.getfield 146, 3) := dk_180 0 146 (dk_at dksX5_asks_2 13 rfl rfl)
theorem dX5_asks_62 : decode cX5_asks 62 = .ok (.aload_n 0, 1) := dk_42 (dk_at dksX5_asks_2 16 rfl rfl)
theorem dX5_asks_63 : decode cX5_asks 63 = .ok (.getfield 114, 3) := dk_180 0 114 (dk_at dksX5_asks_2 17 rfl rfl)
theorem dX5_asks_66 : decode cX5_asks 66 = .ok (.isub, 1) := dk_100 (dk_at dksX5_asks_2 20 rfl rfl)
theorem dX5_asks_67 : decode cX5_asks 67 = .ok (.invokestatic 149, 3) := dk_184 0 149 (dk_at dksX5_asks_2 21 rfl rfl)
theorem dX5_asks_70 : decode cX5_asks 70 = .ok (.iastore, 1) := dk_79 (dk_at dksX5_asks_3 0 rfl rfl)
theorem dX5_asks_71 : decode cX5_asks 71 = .ok (.aload_n 0, 1) := dk_42 (dk_at dksX5_asks_3 1 rfl rfl)
theorem dX5_asks_72 : decode cX5_asks 72 = .ok (.getfield 53, 3) := dk_180 0 53 (dk_at dksX5_asks_3 2 rfl rfl)
theorem dX5_asks_75 : decode cX5_asks 75 = .ok (.getfield 143, 3) := dk_180 0 143 (dk_at dksX5_asks_3 5 rfl rfl)
theorem dX5_asks_78 : decode cX5_asks 78 = .ok (.iconst 4, 1) := dk_7 (dk_at dksX5_asks_3 8 rfl rfl)
theorem dX5_asks_79 : decode cX5_asks 79 = .ok (.aload_n 0, 1) := dk_42 (dk_at dksX5_asks_3 9 rfl rfl)
theorem dX5_asks_80 : decode cX5_asks 80 = .ok (.getfield 15, 3) := dk_180 0 15 (dk_at dksX5_asks_3 10 rfl rfl)
theorem dX5_asks_83 : decode cX5_asks 83 = .ok (.aload_n 1, 1) := dk_43 (dk_at dksX5_asks_3 13 rfl rfl)
theorem dX5_asks_84 : decode cX5_asks 84 = .ok (.getfield 102, 3) := dk_180 0 102 (dk_at dksX5_asks_3 14 rfl rfl)
theorem dX5_asks_87 : decode cX5_asks 87 = .ok (.iload 4, 2) := dk_21 4 (dk_at dksX5_asks_3 17 rfl rfl)
theorem dX5_asks_89 : decode cX5_asks 89 = .ok (.invokevirtual 85, 3) := dk_182 0 85 (dk_at dksX5_asks_3 19 rfl rfl)
theorem dX5_asks_92 : decode cX5_asks 92 = .ok (.checkcast 105, 3) := dk_192 0 105 (dk_at dksX5_asks_4 0 rfl rfl)
theorem dX5_asks_95 : decode cX5_asks 95 = .ok (.getfield 155, 3) := dk_180 0 155 (dk_at dksX5_asks_4 3 rfl rfl)
theorem dX5_asks_98 : decode cX5_asks 98 = .ok (.iaload, 1) := dk_46 (dk_at dksX5_asks_4 6 rfl rfl)
theorem dX5_asks_99 : decode cX5_asks 99 = .ok (.iastore, 1) := dk_79 (dk_at dksX5_asks_4 7 rfl rfl)
theorem dX5_asks_100 : decode cX5_asks 100 = .ok (.aload_n 0, 1) := dk_42 (dk_at dksX5_asks_4 8 rfl rfl)
theorem dX5_asks_101 : decode cX5_asks 101 = .ok (.getfield 53, 3) := dk_180 0 53 (dk_at dksX5_asks_4 9 rfl rfl)
theorem dX5_asks_104 : decode cX5_asks 104 = .ok (.getfield 143, 3) := dk_180 0 143 (dk_at dksX5_asks_4 12 rfl rfl)
theorem dX5_asks_107 : decode cX5_asks 107 = .ok (.iconst 5, 1) := dk_8 (dk_at dksX5_asks_4 15 rfl rfl)
theorem dX5_asks_108 : decode cX5_asks 108 = .ok (.aload_n 0, 1) := dk_42 (dk_at dksX5_asks_4 16 rfl rfl)
theorem dX5_asks_109 : decode cX5_asks 109 = .ok (.getfield 44, 3) := dk_180 0 44 (dk_at dksX5_asks_4 17 rfl rfl)
theorem dX5_asks_112 : decode cX5_asks 112 = .ok (.iload 4, 2) := dk_21 4 (dk_at dksX5_asks_4 20 rfl rfl)
theorem dX5_asks_114 : decode cX5_asks 114 = .ok (.iaload, 1) := dk_46 (dk_at dksX5_asks_4 22 rfl rfl)
theorem dX5_asks_115 : decode cX5_asks 115 = .ok (.iastore, 1) := dk_79 (dk_at dksX5_asks_4 23 rfl rfl)
theorem dX5_asks_116 : decode cX5_asks 116 = .ok (.aload_n 0, 1) := dk_42 (dk_at dksX5_asks_5 0 rfl rfl)
theorem dX5_asks_117 : decode cX5_asks 117 = .ok (.getfield 53, 3) := dk_180 0 53 (dk_at dksX5_asks_5 1 rfl rfl)
theorem dX5_asks_120 : decode cX5_asks 120 = .ok (.getfield 143, 3) := dk_180 0 143 (dk_at dksX5_asks_5 4 rfl rfl)
theorem dX5_asks_123 : decode cX5_asks 123 = .ok (.bipush 6, 2) := dk_16 6 (dk_at dksX5_asks_5 7 rfl rfl)
theorem dX5_asks_125 : decode cX5_asks 125 = .ok (.aload_n 0, 1) := dk_42 (dk_at dksX5_asks_5 9 rfl rfl)
theorem dX5_asks_126 : decode cX5_asks 126 = .ok (.getfield 47, 3) := dk_180 0 47 (dk_at dksX5_asks_5 10 rfl rfl)
theorem dX5_asks_129 : decode cX5_asks 129 = .ok (.iload 4, 2) := dk_21 4 (dk_at dksX5_asks_5 13 rfl rfl)
theorem dX5_asks_131 : decode cX5_asks 131 = .ok (.iaload, 1) := dk_46 (dk_at dksX5_asks_5 15 rfl rfl)
theorem dX5_asks_132 : decode cX5_asks 132 = .ok (.iastore, 1) := dk_79 (dk_at dksX5_asks_5 16 rfl rfl)
theorem dX5_asks_133 : decode cX5_asks 133 = .ok (.aload_n 2, 1) := dk_44 (dk_at dksX5_asks_5 17 rfl rfl)
theorem dX5_asks_134 : decode cX5_asks 134 = .ok (.aload_n 0, 1) := dk_42 (dk_at dksX5_asks_5 18 rfl rfl)
theorem dX5_asks_135 : decode cX5_asks 135 = .ok (.getfield 53, 3) := dk_180 0 53 (dk_at dksX5_asks_5 19 rfl rfl)
theorem dX5_asks_138 : decode cX5_asks 138 = .ok (.invokevirtual 157, 3) := dk_182 0 157 (dk_at dksX5_asks_6 0 rfl rfl)
theorem dX5_asks_141 : decode cX5_asks 141 = .ok (.ireturn, 1) := dk_172 (dk_at dksX5_asks_6 3 rfl rfl)
abbrev cX5_eats : ByteArray := prog_8_method_9_code
def yX5_eats : MethodName := ⟨RX5, "eats", "(II)V"⟩
def dkwX5_eats_0 : List UInt8 := [42, 89, 180, 0, 117, 28, 96, 181, 0, 117, 28, 158, 0, 10, 42, 180, 0, 38, 27, 3, 79, 177]
abbrev dktX5_eats_0 : List UInt8 := dkwX5_eats_0 ++ []
theorem dksX5_eats_0 : cX5_eats.data.toList.drop 0 = dktX5_eats_0 := by decide +kernel
theorem dX5_eats_0 : decode cX5_eats 0 = .ok (.aload_n 0, 1) := dk_42 (dk_at dksX5_eats_0 0 rfl rfl)
theorem dX5_eats_1 : decode cX5_eats 1 = .ok (.dup, 1) := dk_89 (dk_at dksX5_eats_0 1 rfl rfl)
theorem dX5_eats_2 : decode cX5_eats 2 = .ok (.getfield 117, 3) := dk_180 0 117 (dk_at dksX5_eats_0 2 rfl rfl)
theorem dX5_eats_5 : decode cX5_eats 5 = .ok (.iload_n 2, 1) := dk_28 (dk_at dksX5_eats_0 5 rfl rfl)
theorem dX5_eats_6 : decode cX5_eats 6 = .ok (.iadd, 1) := dk_96 (dk_at dksX5_eats_0 6 rfl rfl)
theorem dX5_eats_7 : decode cX5_eats 7 = .ok (.putfield 117, 3) := dk_181 0 117 (dk_at dksX5_eats_0 7 rfl rfl)
theorem dX5_eats_10 : decode cX5_eats 10 = .ok (.iload_n 2, 1) := dk_28 (dk_at dksX5_eats_0 10 rfl rfl)
theorem dX5_eats_11 : decode cX5_eats 11 = .ok (.ifCond .le 10, 3) := dk_158 0 10 (dk_at dksX5_eats_0 11 rfl rfl)
theorem dX5_eats_14 : decode cX5_eats 14 = .ok (.aload_n 0, 1) := dk_42 (dk_at dksX5_eats_0 14 rfl rfl)
theorem dX5_eats_15 : decode cX5_eats 15 = .ok (.getfield 38, 3) := dk_180 0 38 (dk_at dksX5_eats_0 15 rfl rfl)
theorem dX5_eats_18 : decode cX5_eats 18 = .ok (.iload_n 1, 1) := dk_27 (dk_at dksX5_eats_0 18 rfl rfl)
theorem dX5_eats_19 : decode cX5_eats 19 = .ok (.iconst 0, 1) := dk_3 (dk_at dksX5_eats_0 19 rfl rfl)
theorem dX5_eats_20 : decode cX5_eats 20 = .ok (.iastore, 1) := dk_79 (dk_at dksX5_eats_0 20 rfl rfl)
theorem dX5_eats_21 : decode cX5_eats 21 = .ok (.return_, 1) := dk_177 (dk_at dksX5_eats_0 21 rfl rfl)
abbrev cX5_eatsOdd : ByteArray := prog_8_method_10_code
def yX5_eatsOdd : MethodName := ⟨RX5, "eatsOdd", "(LRatSorters$Text;I)V"⟩
def dkwX5_eatsOdd_3 : List UInt8 := [42, 28, 4, 182, 0, 183, 177]
abbrev dktX5_eatsOdd_3 : List UInt8 := dkwX5_eatsOdd_3 ++ []
def dkwX5_eatsOdd_2 : List UInt8 := [21, 4, 62, 132, 4, 1, 167, 255, 208, 29, 156, 0, 4, 177, 42, 180, 0, 9, 29, 92, 46, 4, 100, 79]
abbrev dktX5_eatsOdd_2 : List UInt8 := dkwX5_eatsOdd_2 ++ dktX5_eatsOdd_3
def dkwX5_eatsOdd_1 : List UInt8 := [158, 0, 26, 29, 155, 0, 19, 42, 180, 0, 9, 21, 4, 46, 42, 180, 0, 9, 29, 46, 164, 0, 6]
abbrev dktX5_eatsOdd_1 : List UInt8 := dkwX5_eatsOdd_1 ++ dktX5_eatsOdd_2
def dkwX5_eatsOdd_0 : List UInt8 := [2, 62, 3, 54, 4, 21, 4, 43, 180, 0, 73, 182, 0, 79, 162, 0, 42, 42, 180, 0, 9, 21, 4, 46]
abbrev dktX5_eatsOdd_0 : List UInt8 := dkwX5_eatsOdd_0 ++ dktX5_eatsOdd_1
theorem dksX5_eatsOdd_0 : cX5_eatsOdd.data.toList.drop 0 = dktX5_eatsOdd_0 := by decide +kernel
theorem dksX5_eatsOdd_1 : cX5_eatsOdd.data.toList.drop 24 = dktX5_eatsOdd_1 := dk_seg dksX5_eatsOdd_0 24 rfl rfl
theorem dksX5_eatsOdd_2 : cX5_eatsOdd.data.toList.drop 47 = dktX5_eatsOdd_2 := dk_seg dksX5_eatsOdd_1 23 rfl rfl
theorem dksX5_eatsOdd_3 : cX5_eatsOdd.data.toList.drop 71 = dktX5_eatsOdd_3 := dk_seg dksX5_eatsOdd_2 24 rfl rfl
theorem dX5_eatsOdd_0 : decode cX5_eatsOdd 0 = .ok (.iconst (-1), 1) := dk_2 (dk_at dksX5_eatsOdd_0 0 rfl rfl)
theorem dX5_eatsOdd_1 : decode cX5_eatsOdd 1 = .ok (.istore_n 3, 1) := dk_62 (dk_at dksX5_eatsOdd_0 1 rfl rfl)
theorem dX5_eatsOdd_2 : decode cX5_eatsOdd 2 = .ok (.iconst 0, 1) := dk_3 (dk_at dksX5_eatsOdd_0 2 rfl rfl)
theorem dX5_eatsOdd_3 : decode cX5_eatsOdd 3 = .ok (.istore 4, 2) := dk_54 4 (dk_at dksX5_eatsOdd_0 3 rfl rfl)
theorem dX5_eatsOdd_5 : decode cX5_eatsOdd 5 = .ok (.iload 4, 2) := dk_21 4 (dk_at dksX5_eatsOdd_0 5 rfl rfl)
theorem dX5_eatsOdd_7 : decode cX5_eatsOdd 7 = .ok (.aload_n 1, 1) := dk_43 (dk_at dksX5_eatsOdd_0 7 rfl rfl)
theorem dX5_eatsOdd_8 : decode cX5_eatsOdd 8 = .ok (.getfield 73, 3) := dk_180 0 73 (dk_at dksX5_eatsOdd_0 8 rfl rfl)
theorem dX5_eatsOdd_11 : decode cX5_eatsOdd 11 = .ok (.invokevirtual 79, 3) := dk_182 0 79 (dk_at dksX5_eatsOdd_0 11 rfl rfl)
theorem dX5_eatsOdd_14 : decode cX5_eatsOdd 14 = .ok (.if_icmp .ge 42, 3) := dk_162 0 42 (dk_at dksX5_eatsOdd_0 14 rfl rfl)
theorem dX5_eatsOdd_17 : decode cX5_eatsOdd 17 = .ok (.aload_n 0, 1) := dk_42 (dk_at dksX5_eatsOdd_0 17 rfl rfl)
theorem dX5_eatsOdd_18 : decode cX5_eatsOdd 18 = .ok (.getfield 9, 3) := dk_180 0 9 (dk_at dksX5_eatsOdd_0 18 rfl rfl)
theorem dX5_eatsOdd_21 : decode cX5_eatsOdd 21 = .ok (.iload 4, 2) := dk_21 4 (dk_at dksX5_eatsOdd_0 21 rfl rfl)
theorem dX5_eatsOdd_23 : decode cX5_eatsOdd 23 = .ok (.iaload, 1) := dk_46 (dk_at dksX5_eatsOdd_0 23 rfl rfl)
theorem dX5_eatsOdd_24 : decode cX5_eatsOdd 24 = .ok (.ifCond .le 26, 3) := dk_158 0 26 (dk_at dksX5_eatsOdd_1 0 rfl rfl)
theorem dX5_eatsOdd_27 : decode cX5_eatsOdd 27 = .ok (.iload_n 3, 1) := dk_29 (dk_at dksX5_eatsOdd_1 3 rfl rfl)
theorem dX5_eatsOdd_28 : decode cX5_eatsOdd 28 = .ok (.ifCond .lt 19, 3) := dk_155 0 19 (dk_at dksX5_eatsOdd_1 4 rfl rfl)
theorem dX5_eatsOdd_31 : decode cX5_eatsOdd 31 = .ok (.aload_n 0, 1) := dk_42 (dk_at dksX5_eatsOdd_1 7 rfl rfl)
theorem dX5_eatsOdd_32 : decode cX5_eatsOdd 32 = .ok (.getfield 9, 3) := dk_180 0 9 (dk_at dksX5_eatsOdd_1 8 rfl rfl)
theorem dX5_eatsOdd_35 : decode cX5_eatsOdd 35 = .ok (.iload 4, 2) := dk_21 4 (dk_at dksX5_eatsOdd_1 11 rfl rfl)
theorem dX5_eatsOdd_37 : decode cX5_eatsOdd 37 = .ok (.iaload, 1) := dk_46 (dk_at dksX5_eatsOdd_1 13 rfl rfl)
theorem dX5_eatsOdd_38 : decode cX5_eatsOdd 38 = .ok (.aload_n 0, 1) := dk_42 (dk_at dksX5_eatsOdd_1 14 rfl rfl)
theorem dX5_eatsOdd_39 : decode cX5_eatsOdd 39 = .ok (.getfield 9, 3) := dk_180 0 9 (dk_at dksX5_eatsOdd_1 15 rfl rfl)
theorem dX5_eatsOdd_42 : decode cX5_eatsOdd 42 = .ok (.iload_n 3, 1) := dk_29 (dk_at dksX5_eatsOdd_1 18 rfl rfl)
theorem dX5_eatsOdd_43 : decode cX5_eatsOdd 43 = .ok (.iaload, 1) := dk_46 (dk_at dksX5_eatsOdd_1 19 rfl rfl)
theorem dX5_eatsOdd_44 : decode cX5_eatsOdd 44 = .ok (.if_icmp .le 6, 3) := dk_164 0 6 (dk_at dksX5_eatsOdd_1 20 rfl rfl)
theorem dX5_eatsOdd_47 : decode cX5_eatsOdd 47 = .ok (.iload 4, 2) := dk_21 4 (dk_at dksX5_eatsOdd_2 0 rfl rfl)
theorem dX5_eatsOdd_49 : decode cX5_eatsOdd 49 = .ok (.istore_n 3, 1) := dk_62 (dk_at dksX5_eatsOdd_2 2 rfl rfl)
theorem dX5_eatsOdd_50 : decode cX5_eatsOdd 50 = .ok (.iinc 4 1, 3) := dk_132 4 1 (dk_at dksX5_eatsOdd_2 3 rfl rfl)
theorem dX5_eatsOdd_53 : decode cX5_eatsOdd 53 = .ok (.goto (-48), 3) := dk_167 255 208 (dk_at dksX5_eatsOdd_2 6 rfl rfl)
theorem dX5_eatsOdd_56 : decode cX5_eatsOdd 56 = .ok (.iload_n 3, 1) := dk_29 (dk_at dksX5_eatsOdd_2 9 rfl rfl)
theorem dX5_eatsOdd_57 : decode cX5_eatsOdd 57 = .ok (.ifCond .ge 4, 3) := dk_156 0 4 (dk_at dksX5_eatsOdd_2 10 rfl rfl)
theorem dX5_eatsOdd_60 : decode cX5_eatsOdd 60 = .ok (.return_, 1) := dk_177 (dk_at dksX5_eatsOdd_2 13 rfl rfl)
theorem dX5_eatsOdd_61 : decode cX5_eatsOdd 61 = .ok (.aload_n 0, 1) := dk_42 (dk_at dksX5_eatsOdd_2 14 rfl rfl)
theorem dX5_eatsOdd_62 : decode cX5_eatsOdd 62 = .ok (.getfield 9, 3) := dk_180 0 9 (dk_at dksX5_eatsOdd_2 15 rfl rfl)
theorem dX5_eatsOdd_65 : decode cX5_eatsOdd 65 = .ok (.iload_n 3, 1) := dk_29 (dk_at dksX5_eatsOdd_2 18 rfl rfl)
theorem dX5_eatsOdd_66 : decode cX5_eatsOdd 66 = .ok (.dup2, 1) := dk_92 (dk_at dksX5_eatsOdd_2 19 rfl rfl)
theorem dX5_eatsOdd_67 : decode cX5_eatsOdd 67 = .ok (.iaload, 1) := dk_46 (dk_at dksX5_eatsOdd_2 20 rfl rfl)
theorem dX5_eatsOdd_68 : decode cX5_eatsOdd 68 = .ok (.iconst 1, 1) := dk_4 (dk_at dksX5_eatsOdd_2 21 rfl rfl)
theorem dX5_eatsOdd_69 : decode cX5_eatsOdd 69 = .ok (.isub, 1) := dk_100 (dk_at dksX5_eatsOdd_2 22 rfl rfl)
theorem dX5_eatsOdd_70 : decode cX5_eatsOdd 70 = .ok (.iastore, 1) := dk_79 (dk_at dksX5_eatsOdd_2 23 rfl rfl)
theorem dX5_eatsOdd_71 : decode cX5_eatsOdd 71 = .ok (.aload_n 0, 1) := dk_42 (dk_at dksX5_eatsOdd_3 0 rfl rfl)
theorem dX5_eatsOdd_72 : decode cX5_eatsOdd 72 = .ok (.iload_n 2, 1) := dk_28 (dk_at dksX5_eatsOdd_3 1 rfl rfl)
theorem dX5_eatsOdd_73 : decode cX5_eatsOdd 73 = .ok (.iconst 1, 1) := dk_4 (dk_at dksX5_eatsOdd_3 2 rfl rfl)
theorem dX5_eatsOdd_74 : decode cX5_eatsOdd 74 = .ok (.invokevirtual 183, 3) := dk_182 0 183 (dk_at dksX5_eatsOdd_3 3 rfl rfl)
theorem dX5_eatsOdd_77 : decode cX5_eatsOdd 77 = .ok (.return_, 1) := dk_177 (dk_at dksX5_eatsOdd_3 6 rfl rfl)
abbrev cX5_goesHome : ByteArray := prog_8_method_12_code
def yX5_goesHome : MethodName := ⟨RX5, "goesHome", "(I)V"⟩
def dkwX5_goesHome_2 : List UInt8 := [180, 0, 35, 27, 16, 254, 79, 42, 180, 0, 26, 27, 3, 79, 42, 180, 0, 23, 27, 6, 79, 177]
abbrev dktX5_goesHome_2 : List UInt8 := dkwX5_goesHome_2 ++ []
def dkwX5_goesHome_1 : List UInt8 := [180, 0, 29, 27, 46, 96, 79, 42, 180, 0, 29, 27, 3, 79, 42, 180, 0, 32, 27, 16, 254, 79, 42]
abbrev dktX5_goesHome_1 : List UInt8 := dkwX5_goesHome_1 ++ dktX5_goesHome_2
def dkwX5_goesHome_0 : List UInt8 := [42, 180, 0, 29, 27, 46, 158, 0, 23, 42, 180, 0, 9, 42, 180, 0, 32, 27, 46, 92, 46, 42]
abbrev dktX5_goesHome_0 : List UInt8 := dkwX5_goesHome_0 ++ dktX5_goesHome_1
theorem dksX5_goesHome_0 : cX5_goesHome.data.toList.drop 0 = dktX5_goesHome_0 := by decide +kernel
theorem dksX5_goesHome_1 : cX5_goesHome.data.toList.drop 22 = dktX5_goesHome_1 := dk_seg dksX5_goesHome_0 22 rfl rfl
theorem dksX5_goesHome_2 : cX5_goesHome.data.toList.drop 45 = dktX5_goesHome_2 := dk_seg dksX5_goesHome_1 23 rfl rfl
theorem dX5_goesHome_0 : decode cX5_goesHome 0 = .ok (.aload_n 0, 1) := dk_42 (dk_at dksX5_goesHome_0 0 rfl rfl)
theorem dX5_goesHome_1 : decode cX5_goesHome 1 = .ok (.getfield 29, 3) := dk_180 0 29 (dk_at dksX5_goesHome_0 1 rfl rfl)
theorem dX5_goesHome_4 : decode cX5_goesHome 4 = .ok (.iload_n 1, 1) := dk_27 (dk_at dksX5_goesHome_0 4 rfl rfl)
theorem dX5_goesHome_5 : decode cX5_goesHome 5 = .ok (.iaload, 1) := dk_46 (dk_at dksX5_goesHome_0 5 rfl rfl)
theorem dX5_goesHome_6 : decode cX5_goesHome 6 = .ok (.ifCond .le 23, 3) := dk_158 0 23 (dk_at dksX5_goesHome_0 6 rfl rfl)
theorem dX5_goesHome_9 : decode cX5_goesHome 9 = .ok (.aload_n 0, 1) := dk_42 (dk_at dksX5_goesHome_0 9 rfl rfl)
theorem dX5_goesHome_10 : decode cX5_goesHome 10 = .ok (.getfield 9, 3) := dk_180 0 9 (dk_at dksX5_goesHome_0 10 rfl rfl)
theorem dX5_goesHome_13 : decode cX5_goesHome 13 = .ok (.aload_n 0, 1) := dk_42 (dk_at dksX5_goesHome_0 13 rfl rfl)
theorem dX5_goesHome_14 : decode cX5_goesHome 14 = .ok (.getfield 32, 3) := dk_180 0 32 (dk_at dksX5_goesHome_0 14 rfl rfl)
theorem dX5_goesHome_17 : decode cX5_goesHome 17 = .ok (.iload_n 1, 1) := dk_27 (dk_at dksX5_goesHome_0 17 rfl rfl)
theorem dX5_goesHome_18 : decode cX5_goesHome 18 = .ok (.iaload, 1) := dk_46 (dk_at dksX5_goesHome_0 18 rfl rfl)
theorem dX5_goesHome_19 : decode cX5_goesHome 19 = .ok (.dup2, 1) := dk_92 (dk_at dksX5_goesHome_0 19 rfl rfl)
theorem dX5_goesHome_20 : decode cX5_goesHome 20 = .ok (.iaload, 1) := dk_46 (dk_at dksX5_goesHome_0 20 rfl rfl)
theorem dX5_goesHome_21 : decode cX5_goesHome 21 = .ok (.aload_n 0, 1) := dk_42 (dk_at dksX5_goesHome_0 21 rfl rfl)
theorem dX5_goesHome_22 : decode cX5_goesHome 22 = .ok (.getfield 29, 3) := dk_180 0 29 (dk_at dksX5_goesHome_1 0 rfl rfl)
theorem dX5_goesHome_25 : decode cX5_goesHome 25 = .ok (.iload_n 1, 1) := dk_27 (dk_at dksX5_goesHome_1 3 rfl rfl)
theorem dX5_goesHome_26 : decode cX5_goesHome 26 = .ok (.iaload, 1) := dk_46 (dk_at dksX5_goesHome_1 4 rfl rfl)
theorem dX5_goesHome_27 : decode cX5_goesHome 27 = .ok (.iadd, 1) := dk_96 (dk_at dksX5_goesHome_1 5 rfl rfl)
theorem dX5_goesHome_28 : decode cX5_goesHome 28 = .ok (.iastore, 1) := dk_79 (dk_at dksX5_goesHome_1 6 rfl rfl)
theorem dX5_goesHome_29 : decode cX5_goesHome 29 = .ok (.aload_n 0, 1) := dk_42 (dk_at dksX5_goesHome_1 7 rfl rfl)
theorem dX5_goesHome_30 : decode cX5_goesHome 30 = .ok (.getfield 29, 3) := dk_180 0 29 (dk_at dksX5_goesHome_1 8 rfl rfl)
theorem dX5_goesHome_33 : decode cX5_goesHome 33 = .ok (.iload_n 1, 1) := dk_27 (dk_at dksX5_goesHome_1 11 rfl rfl)
theorem dX5_goesHome_34 : decode cX5_goesHome 34 = .ok (.iconst 0, 1) := dk_3 (dk_at dksX5_goesHome_1 12 rfl rfl)
theorem dX5_goesHome_35 : decode cX5_goesHome 35 = .ok (.iastore, 1) := dk_79 (dk_at dksX5_goesHome_1 13 rfl rfl)
theorem dX5_goesHome_36 : decode cX5_goesHome 36 = .ok (.aload_n 0, 1) := dk_42 (dk_at dksX5_goesHome_1 14 rfl rfl)
theorem dX5_goesHome_37 : decode cX5_goesHome 37 = .ok (.getfield 32, 3) := dk_180 0 32 (dk_at dksX5_goesHome_1 15 rfl rfl)
theorem dX5_goesHome_40 : decode cX5_goesHome 40 = .ok (.iload_n 1, 1) := dk_27 (dk_at dksX5_goesHome_1 18 rfl rfl)
theorem dX5_goesHome_41 : decode cX5_goesHome 41 = .ok (.bipush (-2), 2) := dk_16 254 (dk_at dksX5_goesHome_1 19 rfl rfl)
theorem dX5_goesHome_43 : decode cX5_goesHome 43 = .ok (.iastore, 1) := dk_79 (dk_at dksX5_goesHome_1 21 rfl rfl)
theorem dX5_goesHome_44 : decode cX5_goesHome 44 = .ok (.aload_n 0, 1) := dk_42 (dk_at dksX5_goesHome_1 22 rfl rfl)
theorem dX5_goesHome_45 : decode cX5_goesHome 45 = .ok (.getfield 35, 3) := dk_180 0 35 (dk_at dksX5_goesHome_2 0 rfl rfl)
theorem dX5_goesHome_48 : decode cX5_goesHome 48 = .ok (.iload_n 1, 1) := dk_27 (dk_at dksX5_goesHome_2 3 rfl rfl)
theorem dX5_goesHome_49 : decode cX5_goesHome 49 = .ok (.bipush (-2), 2) := dk_16 254 (dk_at dksX5_goesHome_2 4 rfl rfl)
theorem dX5_goesHome_51 : decode cX5_goesHome 51 = .ok (.iastore, 1) := dk_79 (dk_at dksX5_goesHome_2 6 rfl rfl)
theorem dX5_goesHome_52 : decode cX5_goesHome 52 = .ok (.aload_n 0, 1) := dk_42 (dk_at dksX5_goesHome_2 7 rfl rfl)
theorem dX5_goesHome_53 : decode cX5_goesHome 53 = .ok (.getfield 26, 3) := dk_180 0 26 (dk_at dksX5_goesHome_2 8 rfl rfl)
theorem dX5_goesHome_56 : decode cX5_goesHome 56 = .ok (.iload_n 1, 1) := dk_27 (dk_at dksX5_goesHome_2 11 rfl rfl)
theorem dX5_goesHome_57 : decode cX5_goesHome 57 = .ok (.iconst 0, 1) := dk_3 (dk_at dksX5_goesHome_2 12 rfl rfl)
theorem dX5_goesHome_58 : decode cX5_goesHome 58 = .ok (.iastore, 1) := dk_79 (dk_at dksX5_goesHome_2 13 rfl rfl)
theorem dX5_goesHome_59 : decode cX5_goesHome 59 = .ok (.aload_n 0, 1) := dk_42 (dk_at dksX5_goesHome_2 14 rfl rfl)
theorem dX5_goesHome_60 : decode cX5_goesHome 60 = .ok (.getfield 23, 3) := dk_180 0 23 (dk_at dksX5_goesHome_2 15 rfl rfl)
theorem dX5_goesHome_63 : decode cX5_goesHome 63 = .ok (.iload_n 1, 1) := dk_27 (dk_at dksX5_goesHome_2 18 rfl rfl)
theorem dX5_goesHome_64 : decode cX5_goesHome 64 = .ok (.iconst 3, 1) := dk_6 (dk_at dksX5_goesHome_2 19 rfl rfl)
theorem dX5_goesHome_65 : decode cX5_goesHome 65 = .ok (.iastore, 1) := dk_79 (dk_at dksX5_goesHome_2 20 rfl rfl)
theorem dX5_goesHome_66 : decode cX5_goesHome 66 = .ok (.return_, 1) := dk_177 (dk_at dksX5_goesHome_2 21 rfl rfl)
abbrev cX5_isSorted : ByteArray := prog_8_method_15_code
def yX5_isSorted : MethodName := ⟨RX5, "isSorted", "(LRatSorters$Text;Z)Z"⟩
def dkwX5_isSorted_2 : List UInt8 := [167, 255, 212, 4, 172]
abbrev dktX5_isSorted_2 : List UInt8 := dkwX5_isSorted_2 ++ []
def dkwX5_isSorted_1 : List UInt8 := [159, 0, 19, 42, 180, 0, 9, 42, 180, 0, 44, 29, 46, 46, 158, 0, 5, 3, 172, 132, 3, 1]
abbrev dktX5_isSorted_1 : List UInt8 := dkwX5_isSorted_1 ++ dktX5_isSorted_2
def dkwX5_isSorted_0 : List UInt8 := [3, 62, 29, 43, 180, 0, 102, 182, 0, 79, 162, 0, 39, 28, 154, 0, 13, 42, 180, 0, 23, 29, 46, 6]
abbrev dktX5_isSorted_0 : List UInt8 := dkwX5_isSorted_0 ++ dktX5_isSorted_1
theorem dksX5_isSorted_0 : cX5_isSorted.data.toList.drop 0 = dktX5_isSorted_0 := by decide +kernel
theorem dksX5_isSorted_1 : cX5_isSorted.data.toList.drop 24 = dktX5_isSorted_1 := dk_seg dksX5_isSorted_0 24 rfl rfl
theorem dksX5_isSorted_2 : cX5_isSorted.data.toList.drop 46 = dktX5_isSorted_2 := dk_seg dksX5_isSorted_1 22 rfl rfl
theorem dX5_isSorted_0 : decode cX5_isSorted 0 = .ok (.iconst 0, 1) := dk_3 (dk_at dksX5_isSorted_0 0 rfl rfl)
theorem dX5_isSorted_1 : decode cX5_isSorted 1 = .ok (.istore_n 3, 1) := dk_62 (dk_at dksX5_isSorted_0 1 rfl rfl)
theorem dX5_isSorted_2 : decode cX5_isSorted 2 = .ok (.iload_n 3, 1) := dk_29 (dk_at dksX5_isSorted_0 2 rfl rfl)
theorem dX5_isSorted_3 : decode cX5_isSorted 3 = .ok (.aload_n 1, 1) := dk_43 (dk_at dksX5_isSorted_0 3 rfl rfl)
theorem dX5_isSorted_4 : decode cX5_isSorted 4 = .ok (.getfield 102, 3) := dk_180 0 102 (dk_at dksX5_isSorted_0 4 rfl rfl)
theorem dX5_isSorted_7 : decode cX5_isSorted 7 = .ok (.invokevirtual 79, 3) := dk_182 0 79 (dk_at dksX5_isSorted_0 7 rfl rfl)
theorem dX5_isSorted_10 : decode cX5_isSorted 10 = .ok (.if_icmp .ge 39, 3) := dk_162 0 39 (dk_at dksX5_isSorted_0 10 rfl rfl)
theorem dX5_isSorted_13 : decode cX5_isSorted 13 = .ok (.iload_n 2, 1) := dk_28 (dk_at dksX5_isSorted_0 13 rfl rfl)
theorem dX5_isSorted_14 : decode cX5_isSorted 14 = .ok (.ifCond .ne 13, 3) := dk_154 0 13 (dk_at dksX5_isSorted_0 14 rfl rfl)
theorem dX5_isSorted_17 : decode cX5_isSorted 17 = .ok (.aload_n 0, 1) := dk_42 (dk_at dksX5_isSorted_0 17 rfl rfl)
theorem dX5_isSorted_18 : decode cX5_isSorted 18 = .ok (.getfield 23, 3) := dk_180 0 23 (dk_at dksX5_isSorted_0 18 rfl rfl)
theorem dX5_isSorted_21 : decode cX5_isSorted 21 = .ok (.iload_n 3, 1) := dk_29 (dk_at dksX5_isSorted_0 21 rfl rfl)
theorem dX5_isSorted_22 : decode cX5_isSorted 22 = .ok (.iaload, 1) := dk_46 (dk_at dksX5_isSorted_0 22 rfl rfl)
theorem dX5_isSorted_23 : decode cX5_isSorted 23 = .ok (.iconst 3, 1) := dk_6 (dk_at dksX5_isSorted_0 23 rfl rfl)
theorem dX5_isSorted_24 : decode cX5_isSorted 24 = .ok (.if_icmp .eq 19, 3) := dk_159 0 19 (dk_at dksX5_isSorted_1 0 rfl rfl)
theorem dX5_isSorted_27 : decode cX5_isSorted 27 = .ok (.aload_n 0, 1) := dk_42 (dk_at dksX5_isSorted_1 3 rfl rfl)
theorem dX5_isSorted_28 : decode cX5_isSorted 28 = .ok (.getfield 9, 3) := dk_180 0 9 (dk_at dksX5_isSorted_1 4 rfl rfl)
theorem dX5_isSorted_31 : decode cX5_isSorted 31 = .ok (.aload_n 0, 1) := dk_42 (dk_at dksX5_isSorted_1 7 rfl rfl)
theorem dX5_isSorted_32 : decode cX5_isSorted 32 = .ok (.getfield 44, 3) := dk_180 0 44 (dk_at dksX5_isSorted_1 8 rfl rfl)
theorem dX5_isSorted_35 : decode cX5_isSorted 35 = .ok (.iload_n 3, 1) := dk_29 (dk_at dksX5_isSorted_1 11 rfl rfl)
theorem dX5_isSorted_36 : decode cX5_isSorted 36 = .ok (.iaload, 1) := dk_46 (dk_at dksX5_isSorted_1 12 rfl rfl)
theorem dX5_isSorted_37 : decode cX5_isSorted 37 = .ok (.iaload, 1) := dk_46 (dk_at dksX5_isSorted_1 13 rfl rfl)
theorem dX5_isSorted_38 : decode cX5_isSorted 38 = .ok (.ifCond .le 5, 3) := dk_158 0 5 (dk_at dksX5_isSorted_1 14 rfl rfl)
theorem dX5_isSorted_41 : decode cX5_isSorted 41 = .ok (.iconst 0, 1) := dk_3 (dk_at dksX5_isSorted_1 17 rfl rfl)
theorem dX5_isSorted_42 : decode cX5_isSorted 42 = .ok (.ireturn, 1) := dk_172 (dk_at dksX5_isSorted_1 18 rfl rfl)
theorem dX5_isSorted_43 : decode cX5_isSorted 43 = .ok (.iinc 3 1, 3) := dk_132 3 1 (dk_at dksX5_isSorted_1 19 rfl rfl)
theorem dX5_isSorted_46 : decode cX5_isSorted 46 = .ok (.goto (-44), 3) := dk_167 255 212 (dk_at dksX5_isSorted_2 0 rfl rfl)
theorem dX5_isSorted_49 : decode cX5_isSorted 49 = .ok (.iconst 1, 1) := dk_4 (dk_at dksX5_isSorted_2 3 rfl rfl)
theorem dX5_isSorted_50 : decode cX5_isSorted 50 = .ok (.ireturn, 1) := dk_172 (dk_at dksX5_isSorted_2 4 rfl rfl)
abbrev cX5_isGoing : ByteArray := prog_8_method_14_code
def yX5_isGoing : MethodName := ⟨RX5, "isGoing", "(LRatSorters$Text;)Z"⟩
def dkwX5_isGoing_1 : List UInt8 := [172, 132, 2, 1, 167, 255, 230, 3, 172]
abbrev dktX5_isGoing_1 : List UInt8 := dkwX5_isGoing_1 ++ []
def dkwX5_isGoing_0 : List UInt8 := [3, 61, 28, 43, 180, 0, 102, 182, 0, 79, 162, 0, 21, 42, 180, 0, 23, 28, 46, 4, 160, 0, 5, 4]
abbrev dktX5_isGoing_0 : List UInt8 := dkwX5_isGoing_0 ++ dktX5_isGoing_1
theorem dksX5_isGoing_0 : cX5_isGoing.data.toList.drop 0 = dktX5_isGoing_0 := by decide +kernel
theorem dksX5_isGoing_1 : cX5_isGoing.data.toList.drop 24 = dktX5_isGoing_1 := dk_seg dksX5_isGoing_0 24 rfl rfl
theorem dX5_isGoing_0 : decode cX5_isGoing 0 = .ok (.iconst 0, 1) := dk_3 (dk_at dksX5_isGoing_0 0 rfl rfl)
theorem dX5_isGoing_1 : decode cX5_isGoing 1 = .ok (.istore_n 2, 1) := dk_61 (dk_at dksX5_isGoing_0 1 rfl rfl)
theorem dX5_isGoing_2 : decode cX5_isGoing 2 = .ok (.iload_n 2, 1) := dk_28 (dk_at dksX5_isGoing_0 2 rfl rfl)
theorem dX5_isGoing_3 : decode cX5_isGoing 3 = .ok (.aload_n 1, 1) := dk_43 (dk_at dksX5_isGoing_0 3 rfl rfl)
theorem dX5_isGoing_4 : decode cX5_isGoing 4 = .ok (.getfield 102, 3) := dk_180 0 102 (dk_at dksX5_isGoing_0 4 rfl rfl)
theorem dX5_isGoing_7 : decode cX5_isGoing 7 = .ok (.invokevirtual 79, 3) := dk_182 0 79 (dk_at dksX5_isGoing_0 7 rfl rfl)
theorem dX5_isGoing_10 : decode cX5_isGoing 10 = .ok (.if_icmp .ge 21, 3) := dk_162 0 21 (dk_at dksX5_isGoing_0 10 rfl rfl)
theorem dX5_isGoing_13 : decode cX5_isGoing 13 = .ok (.aload_n 0, 1) := dk_42 (dk_at dksX5_isGoing_0 13 rfl rfl)
theorem dX5_isGoing_14 : decode cX5_isGoing 14 = .ok (.getfield 23, 3) := dk_180 0 23 (dk_at dksX5_isGoing_0 14 rfl rfl)
theorem dX5_isGoing_17 : decode cX5_isGoing 17 = .ok (.iload_n 2, 1) := dk_28 (dk_at dksX5_isGoing_0 17 rfl rfl)
theorem dX5_isGoing_18 : decode cX5_isGoing 18 = .ok (.iaload, 1) := dk_46 (dk_at dksX5_isGoing_0 18 rfl rfl)
theorem dX5_isGoing_19 : decode cX5_isGoing 19 = .ok (.iconst 1, 1) := dk_4 (dk_at dksX5_isGoing_0 19 rfl rfl)
theorem dX5_isGoing_20 : decode cX5_isGoing 20 = .ok (.if_icmp .ne 5, 3) := dk_160 0 5 (dk_at dksX5_isGoing_0 20 rfl rfl)
theorem dX5_isGoing_23 : decode cX5_isGoing 23 = .ok (.iconst 1, 1) := dk_4 (dk_at dksX5_isGoing_0 23 rfl rfl)
theorem dX5_isGoing_24 : decode cX5_isGoing 24 = .ok (.ireturn, 1) := dk_172 (dk_at dksX5_isGoing_1 0 rfl rfl)
theorem dX5_isGoing_25 : decode cX5_isGoing 25 = .ok (.iinc 2 1, 3) := dk_132 2 1 (dk_at dksX5_isGoing_1 1 rfl rfl)
theorem dX5_isGoing_28 : decode cX5_isGoing 28 = .ok (.goto (-26), 3) := dk_167 255 230 (dk_at dksX5_isGoing_1 4 rfl rfl)
theorem dX5_isGoing_31 : decode cX5_isGoing 31 = .ok (.iconst 0, 1) := dk_3 (dk_at dksX5_isGoing_1 7 rfl rfl)
theorem dX5_isGoing_32 : decode cX5_isGoing 32 = .ok (.ireturn, 1) := dk_172 (dk_at dksX5_isGoing_1 8 rfl rfl)
abbrev cX5_worthAll : ByteArray := prog_8_method_18_code
def yX5_worthAll : MethodName := ⟨RX5, "worthAll", "(LRatSorters$Text;)I"⟩
def dkwX5_worthAll_1 : List UInt8 := [132, 3, 1, 167, 255, 233, 28, 172]
abbrev dktX5_worthAll_1 : List UInt8 := dkwX5_worthAll_1 ++ []
def dkwX5_worthAll_0 : List UInt8 := [3, 61, 3, 62, 29, 43, 180, 0, 95, 182, 0, 79, 162, 0, 18, 28, 42, 43, 29, 182, 0, 206, 96, 61]
abbrev dktX5_worthAll_0 : List UInt8 := dkwX5_worthAll_0 ++ dktX5_worthAll_1
theorem dksX5_worthAll_0 : cX5_worthAll.data.toList.drop 0 = dktX5_worthAll_0 := by decide +kernel
theorem dksX5_worthAll_1 : cX5_worthAll.data.toList.drop 24 = dktX5_worthAll_1 := dk_seg dksX5_worthAll_0 24 rfl rfl
theorem dX5_worthAll_0 : decode cX5_worthAll 0 = .ok (.iconst 0, 1) := dk_3 (dk_at dksX5_worthAll_0 0 rfl rfl)
theorem dX5_worthAll_1 : decode cX5_worthAll 1 = .ok (.istore_n 2, 1) := dk_61 (dk_at dksX5_worthAll_0 1 rfl rfl)
theorem dX5_worthAll_2 : decode cX5_worthAll 2 = .ok (.iconst 0, 1) := dk_3 (dk_at dksX5_worthAll_0 2 rfl rfl)
theorem dX5_worthAll_3 : decode cX5_worthAll 3 = .ok (.istore_n 3, 1) := dk_62 (dk_at dksX5_worthAll_0 3 rfl rfl)
theorem dX5_worthAll_4 : decode cX5_worthAll 4 = .ok (.iload_n 3, 1) := dk_29 (dk_at dksX5_worthAll_0 4 rfl rfl)
theorem dX5_worthAll_5 : decode cX5_worthAll 5 = .ok (.aload_n 1, 1) := dk_43 (dk_at dksX5_worthAll_0 5 rfl rfl)
theorem dX5_worthAll_6 : decode cX5_worthAll 6 = .ok (.getfield 95, 3) := dk_180 0 95 (dk_at dksX5_worthAll_0 6 rfl rfl)
theorem dX5_worthAll_9 : decode cX5_worthAll 9 = .ok (.invokevirtual 79, 3) := dk_182 0 79 (dk_at dksX5_worthAll_0 9 rfl rfl)
theorem dX5_worthAll_12 : decode cX5_worthAll 12 = .ok (.if_icmp .ge 18, 3) := dk_162 0 18 (dk_at dksX5_worthAll_0 12 rfl rfl)
theorem dX5_worthAll_15 : decode cX5_worthAll 15 = .ok (.iload_n 2, 1) := dk_28 (dk_at dksX5_worthAll_0 15 rfl rfl)
theorem dX5_worthAll_16 : decode cX5_worthAll 16 = .ok (.aload_n 0, 1) := dk_42 (dk_at dksX5_worthAll_0 16 rfl rfl)
theorem dX5_worthAll_17 : decode cX5_worthAll 17 = .ok (.aload_n 1, 1) := dk_43 (dk_at dksX5_worthAll_0 17 rfl rfl)
theorem dX5_worthAll_18 : decode cX5_worthAll 18 = .ok (.iload_n 3, 1) := dk_29 (dk_at dksX5_worthAll_0 18 rfl rfl)
theorem dX5_worthAll_19 : decode cX5_worthAll 19 = .ok (.invokevirtual 206, 3) := dk_182 0 206 (dk_at dksX5_worthAll_0 19 rfl rfl)
theorem dX5_worthAll_22 : decode cX5_worthAll 22 = .ok (.iadd, 1) := dk_96 (dk_at dksX5_worthAll_0 22 rfl rfl)
theorem dX5_worthAll_23 : decode cX5_worthAll 23 = .ok (.istore_n 2, 1) := dk_61 (dk_at dksX5_worthAll_0 23 rfl rfl)
theorem dX5_worthAll_24 : decode cX5_worthAll 24 = .ok (.iinc 3 1, 3) := dk_132 3 1 (dk_at dksX5_worthAll_1 0 rfl rfl)
theorem dX5_worthAll_27 : decode cX5_worthAll 27 = .ok (.goto (-23), 3) := dk_167 255 233 (dk_at dksX5_worthAll_1 3 rfl rfl)
theorem dX5_worthAll_30 : decode cX5_worthAll 30 = .ok (.iload_n 2, 1) := dk_28 (dk_at dksX5_worthAll_1 6 rfl rfl)
theorem dX5_worthAll_31 : decode cX5_worthAll 31 = .ok (.ireturn, 1) := dk_172 (dk_at dksX5_worthAll_1 7 rfl rfl)
abbrev cX5_inHeap : ByteArray := prog_8_method_19_code
def yX5_inHeap : MethodName := ⟨RX5, "inHeap", "()I"⟩
def dkwX5_inHeap_1 : List UInt8 := [167, 255, 238, 27, 172]
abbrev dktX5_inHeap_1 : List UInt8 := dkwX5_inHeap_1 ++ []
def dkwX5_inHeap_0 : List UInt8 := [3, 60, 3, 61, 28, 16, 6, 162, 0, 18, 27, 42, 180, 0, 9, 28, 46, 96, 60, 132, 2, 1]
abbrev dktX5_inHeap_0 : List UInt8 := dkwX5_inHeap_0 ++ dktX5_inHeap_1
theorem dksX5_inHeap_0 : cX5_inHeap.data.toList.drop 0 = dktX5_inHeap_0 := by decide +kernel
theorem dksX5_inHeap_1 : cX5_inHeap.data.toList.drop 22 = dktX5_inHeap_1 := dk_seg dksX5_inHeap_0 22 rfl rfl
theorem dX5_inHeap_0 : decode cX5_inHeap 0 = .ok (.iconst 0, 1) := dk_3 (dk_at dksX5_inHeap_0 0 rfl rfl)
theorem dX5_inHeap_1 : decode cX5_inHeap 1 = .ok (.istore_n 1, 1) := dk_60 (dk_at dksX5_inHeap_0 1 rfl rfl)
theorem dX5_inHeap_2 : decode cX5_inHeap 2 = .ok (.iconst 0, 1) := dk_3 (dk_at dksX5_inHeap_0 2 rfl rfl)
theorem dX5_inHeap_3 : decode cX5_inHeap 3 = .ok (.istore_n 2, 1) := dk_61 (dk_at dksX5_inHeap_0 3 rfl rfl)
theorem dX5_inHeap_4 : decode cX5_inHeap 4 = .ok (.iload_n 2, 1) := dk_28 (dk_at dksX5_inHeap_0 4 rfl rfl)
theorem dX5_inHeap_5 : decode cX5_inHeap 5 = .ok (.bipush 6, 2) := dk_16 6 (dk_at dksX5_inHeap_0 5 rfl rfl)
theorem dX5_inHeap_7 : decode cX5_inHeap 7 = .ok (.if_icmp .ge 18, 3) := dk_162 0 18 (dk_at dksX5_inHeap_0 7 rfl rfl)
theorem dX5_inHeap_10 : decode cX5_inHeap 10 = .ok (.iload_n 1, 1) := dk_27 (dk_at dksX5_inHeap_0 10 rfl rfl)
theorem dX5_inHeap_11 : decode cX5_inHeap 11 = .ok (.aload_n 0, 1) := dk_42 (dk_at dksX5_inHeap_0 11 rfl rfl)
theorem dX5_inHeap_12 : decode cX5_inHeap 12 = .ok (.getfield 9, 3) := dk_180 0 9 (dk_at dksX5_inHeap_0 12 rfl rfl)
theorem dX5_inHeap_15 : decode cX5_inHeap 15 = .ok (.iload_n 2, 1) := dk_28 (dk_at dksX5_inHeap_0 15 rfl rfl)
theorem dX5_inHeap_16 : decode cX5_inHeap 16 = .ok (.iaload, 1) := dk_46 (dk_at dksX5_inHeap_0 16 rfl rfl)
theorem dX5_inHeap_17 : decode cX5_inHeap 17 = .ok (.iadd, 1) := dk_96 (dk_at dksX5_inHeap_0 17 rfl rfl)
theorem dX5_inHeap_18 : decode cX5_inHeap 18 = .ok (.istore_n 1, 1) := dk_60 (dk_at dksX5_inHeap_0 18 rfl rfl)
theorem dX5_inHeap_19 : decode cX5_inHeap 19 = .ok (.iinc 2 1, 3) := dk_132 2 1 (dk_at dksX5_inHeap_0 19 rfl rfl)
theorem dX5_inHeap_22 : decode cX5_inHeap 22 = .ok (.goto (-18), 3) := dk_167 255 238 (dk_at dksX5_inHeap_1 0 rfl rfl)
theorem dX5_inHeap_25 : decode cX5_inHeap 25 = .ok (.iload_n 1, 1) := dk_27 (dk_at dksX5_inHeap_1 3 rfl rfl)
theorem dX5_inHeap_26 : decode cX5_inHeap 26 = .ok (.ireturn, 1) := dk_172 (dk_at dksX5_inHeap_1 4 rfl rfl)
abbrev cX5_sorted : ByteArray := prog_8_method_20_code
def yX5_sorted : MethodName := ⟨RX5, "sorted", "(LRatSorters$Text;Z)I"⟩
def dkwX5_sorted_2 : List UInt8 := [21, 5, 167, 0, 12, 42, 21, 4, 182, 0, 202, 21, 5, 100, 96, 62, 132, 4, 1, 167, 255, 195, 29, 172]
abbrev dktX5_sorted_2 : List UInt8 := dkwX5_sorted_2 ++ []
def dkwX5_sorted_1 : List UInt8 := [43, 180, 0, 95, 21, 4, 182, 0, 85, 192, 0, 98, 180, 0, 196, 46, 54, 5, 29, 28, 153, 0, 8]
abbrev dktX5_sorted_1 : List UInt8 := dkwX5_sorted_1 ++ dktX5_sorted_2
def dkwX5_sorted_0 : List UInt8 := [3, 62, 3, 54, 4, 21, 4, 43, 180, 0, 95, 182, 0, 79, 162, 0, 55, 42, 180, 0, 20, 21, 4, 50]
abbrev dktX5_sorted_0 : List UInt8 := dkwX5_sorted_0 ++ dktX5_sorted_1
theorem dksX5_sorted_0 : cX5_sorted.data.toList.drop 0 = dktX5_sorted_0 := by decide +kernel
theorem dksX5_sorted_1 : cX5_sorted.data.toList.drop 24 = dktX5_sorted_1 := dk_seg dksX5_sorted_0 24 rfl rfl
theorem dksX5_sorted_2 : cX5_sorted.data.toList.drop 47 = dktX5_sorted_2 := dk_seg dksX5_sorted_1 23 rfl rfl
theorem dX5_sorted_0 : decode cX5_sorted 0 = .ok (.iconst 0, 1) := dk_3 (dk_at dksX5_sorted_0 0 rfl rfl)
theorem dX5_sorted_1 : decode cX5_sorted 1 = .ok (.istore_n 3, 1) := dk_62 (dk_at dksX5_sorted_0 1 rfl rfl)
theorem dX5_sorted_2 : decode cX5_sorted 2 = .ok (.iconst 0, 1) := dk_3 (dk_at dksX5_sorted_0 2 rfl rfl)
theorem dX5_sorted_3 : decode cX5_sorted 3 = .ok (.istore 4, 2) := dk_54 4 (dk_at dksX5_sorted_0 3 rfl rfl)
theorem dX5_sorted_5 : decode cX5_sorted 5 = .ok (.iload 4, 2) := dk_21 4 (dk_at dksX5_sorted_0 5 rfl rfl)
theorem dX5_sorted_7 : decode cX5_sorted 7 = .ok (.aload_n 1, 1) := dk_43 (dk_at dksX5_sorted_0 7 rfl rfl)
theorem dX5_sorted_8 : decode cX5_sorted 8 = .ok (.getfield 95, 3) := dk_180 0 95 (dk_at dksX5_sorted_0 8 rfl rfl)
theorem dX5_sorted_11 : decode cX5_sorted 11 = .ok (.invokevirtual 79, 3) := dk_182 0 79 (dk_at dksX5_sorted_0 11 rfl rfl)
theorem dX5_sorted_14 : decode cX5_sorted 14 = .ok (.if_icmp .ge 55, 3) := dk_162 0 55 (dk_at dksX5_sorted_0 14 rfl rfl)
theorem dX5_sorted_17 : decode cX5_sorted 17 = .ok (.aload_n 0, 1) := dk_42 (dk_at dksX5_sorted_0 17 rfl rfl)
theorem dX5_sorted_18 : decode cX5_sorted 18 = .ok (.getfield 20, 3) := dk_180 0 20 (dk_at dksX5_sorted_0 18 rfl rfl)
theorem dX5_sorted_21 : decode cX5_sorted 21 = .ok (.iload 4, 2) := dk_21 4 (dk_at dksX5_sorted_0 21 rfl rfl)
theorem dX5_sorted_23 : decode cX5_sorted 23 = .ok (.aaload, 1) := dk_50 (dk_at dksX5_sorted_0 23 rfl rfl)
theorem dX5_sorted_24 : decode cX5_sorted 24 = .ok (.aload_n 1, 1) := dk_43 (dk_at dksX5_sorted_1 0 rfl rfl)
theorem dX5_sorted_25 : decode cX5_sorted 25 = .ok (.getfield 95, 3) := dk_180 0 95 (dk_at dksX5_sorted_1 1 rfl rfl)
theorem dX5_sorted_28 : decode cX5_sorted 28 = .ok (.iload 4, 2) := dk_21 4 (dk_at dksX5_sorted_1 4 rfl rfl)
theorem dX5_sorted_30 : decode cX5_sorted 30 = .ok (.invokevirtual 85, 3) := dk_182 0 85 (dk_at dksX5_sorted_1 6 rfl rfl)
theorem dX5_sorted_33 : decode cX5_sorted 33 = .ok (.checkcast 98, 3) := dk_192 0 98 (dk_at dksX5_sorted_1 9 rfl rfl)
theorem dX5_sorted_36 : decode cX5_sorted 36 = .ok (.getfield 196, 3) := dk_180 0 196 (dk_at dksX5_sorted_1 12 rfl rfl)
theorem dX5_sorted_39 : decode cX5_sorted 39 = .ok (.iaload, 1) := dk_46 (dk_at dksX5_sorted_1 15 rfl rfl)
theorem dX5_sorted_40 : decode cX5_sorted 40 = .ok (.istore 5, 2) := dk_54 5 (dk_at dksX5_sorted_1 16 rfl rfl)
theorem dX5_sorted_42 : decode cX5_sorted 42 = .ok (.iload_n 3, 1) := dk_29 (dk_at dksX5_sorted_1 18 rfl rfl)
theorem dX5_sorted_43 : decode cX5_sorted 43 = .ok (.iload_n 2, 1) := dk_28 (dk_at dksX5_sorted_1 19 rfl rfl)
theorem dX5_sorted_44 : decode cX5_sorted 44 = .ok (.ifCond .eq 8, 3) := dk_153 0 8 (dk_at dksX5_sorted_1 20 rfl rfl)
theorem dX5_sorted_47 : decode cX5_sorted 47 = .ok (.iload 5, 2) := dk_21 5 (dk_at dksX5_sorted_2 0 rfl rfl)
theorem dX5_sorted_49 : decode cX5_sorted 49 = .ok (.goto 12, 3) := dk_167 0 12 (dk_at dksX5_sorted_2 2 rfl rfl)
theorem dX5_sorted_52 : decode cX5_sorted 52 = .ok (.aload_n 0, 1) := dk_42 (dk_at dksX5_sorted_2 5 rfl rfl)
theorem dX5_sorted_53 : decode cX5_sorted 53 = .ok (.iload 4, 2) := dk_21 4 (dk_at dksX5_sorted_2 6 rfl rfl)
theorem dX5_sorted_55 : decode cX5_sorted 55 = .ok (.invokevirtual 202, 3) := dk_182 0 202 (dk_at dksX5_sorted_2 8 rfl rfl)
theorem dX5_sorted_58 : decode cX5_sorted 58 = .ok (.iload 5, 2) := dk_21 5 (dk_at dksX5_sorted_2 11 rfl rfl)
theorem dX5_sorted_60 : decode cX5_sorted 60 = .ok (.isub, 1) := dk_100 (dk_at dksX5_sorted_2 13 rfl rfl)
theorem dX5_sorted_61 : decode cX5_sorted 61 = .ok (.iadd, 1) := dk_96 (dk_at dksX5_sorted_2 14 rfl rfl)
theorem dX5_sorted_62 : decode cX5_sorted 62 = .ok (.istore_n 3, 1) := dk_62 (dk_at dksX5_sorted_2 15 rfl rfl)
theorem dX5_sorted_63 : decode cX5_sorted 63 = .ok (.iinc 4 1, 3) := dk_132 4 1 (dk_at dksX5_sorted_2 16 rfl rfl)
theorem dX5_sorted_66 : decode cX5_sorted 66 = .ok (.goto (-61), 3) := dk_167 255 195 (dk_at dksX5_sorted_2 19 rfl rfl)
theorem dX5_sorted_69 : decode cX5_sorted 69 = .ok (.iload_n 3, 1) := dk_29 (dk_at dksX5_sorted_2 22 rfl rfl)
theorem dX5_sorted_70 : decode cX5_sorted 70 = .ok (.ireturn, 1) := dk_172 (dk_at dksX5_sorted_2 23 rfl rfl)
theorem q124 : (Jvm.Cond.initialized "RatSorters$House") ∈ lw_all := lw_g (lw_at lw_m1 12 rfl) rfl
theorem q356 : (Jvm.Cond.fieldLink "RatSorters$House" (73 : Nat) "RatSorters$Text" "grains" "Ljava/util/ArrayList;") ∈ lw_all := lw_g (lw_at lw_m2 4 rfl) rfl
theorem q360 : (Jvm.Cond.fieldLink "RatSorters$House" (95 : Nat) "RatSorters$Text" "holes" "Ljava/util/ArrayList;") ∈ lw_all := lw_g (lw_at lw_m2 8 rfl) rfl
theorem q364 : (Jvm.Cond.fieldLink "RatSorters$House" (102 : Nat) "RatSorters$Text" "rats" "Ljava/util/ArrayList;") ∈ lw_all := lw_g (lw_at lw_m2 12 rfl) rfl
theorem q371 : (Jvm.Cond.fieldLink "RatSorters$House" (146 : Nat) "RatSorters$Text" "lamp" "I") ∈ lw_all := lw_g (lw_at lw_m2 19 rfl) rfl
theorem q376 : (Jvm.Cond.fieldLink "RatSorters$House" (129 : Nat) "RatSorters$Text" "seed" "I") ∈ lw_all := lw_g (lw_at lw_m2 24 rfl) rfl
theorem q379 : (Jvm.Cond.fieldLink "RatSorters$House" (165 : Nat) "RatSorters$Text" "load" "LRatSorters$Law;") ∈ lw_all := lw_g (lw_at lw_m2 27 rfl) rfl
theorem q381 : (Jvm.Cond.fieldLink "RatSorters$House" (180 : Nat) "RatSorters$Text" "eats" "LRatSorters$Law;") ∈ lw_all := lw_g (lw_at lw_m2 29 rfl) rfl
theorem q383 : (Jvm.Cond.fieldLink "RatSorters$House" (189 : Nat) "RatSorters$Text" "errs" "LRatSorters$Law;") ∈ lw_all := lw_g (lw_at lw_m2 31 rfl) rfl
theorem q407 : (Jvm.Cond.instantiable "RatSorters$House" (22 : Nat)) ∈ lw_all := lw_g (lw_at lw_m2 55 rfl) rfl
theorem q409 : (Jvm.Cond.instanceMethod ({ cls := "RatSorters$House", name := "<init>", desc := "()V" } : Jvm.MethodName)) ∈ lw_all := lw_g (lw_at lw_m2 57 rfl) rfl
theorem q410 : (Jvm.Cond.code ({ cls := "RatSorters$House", name := "<init>", desc := "()V" } : Jvm.MethodName) prog_8_method_1_code (1 : Nat) (Option.none : Option Jvm.ClassFile.FieldType)) ∈ lw_all := lw_g (lw_at lw_m2 58 rfl) rfl
theorem q411 : (Jvm.Cond.methodLink "RatSorters$House" (3 : Nat) ({ cls := "java/lang/Object", name := "<init>", desc := "()V" } : Jvm.MethodName)) ∈ lw_all := lw_g (lw_at lw_m2 59 rfl) rfl
theorem q412 : (Jvm.Cond.classLink "RatSorters$House" (18 : Nat) "[[I") ∈ lw_all := lw_g (lw_at lw_m2 60 rfl) rfl
theorem q414 : (Jvm.Cond.classLink "RatSorters$House" (50 : Nat) "RatSorters$Asked") ∈ lw_all := lw_g (lw_at lw_m2 62 rfl) rfl
theorem q416 : (Jvm.Cond.methodLinkNest "RatSorters$House" (52 : Nat) ({ cls := "RatSorters$Asked", name := "<init>", desc := "()V" } : Jvm.MethodName) "RatSorters") ∈ lw_tbl := lw_at lw_m2 64 rfl
theorem q422 : (Jvm.Cond.fieldLink "RatSorters$House" (143 : Nat) "RatSorters$Asked" "v" "[I") ∈ lw_all := lw_g (lw_at lw_m2 70 rfl) rfl
theorem q431 : (Jvm.Cond.classLink "RatSorters$House" (57 : Nat) "RatSorters$Doing") ∈ lw_all := lw_g (lw_at lw_m2 79 rfl) rfl
theorem q433 : (Jvm.Cond.classLink "RatSorters$House" (59 : Nat) "RatSorters$Loading") ∈ lw_all := lw_g (lw_at lw_m2 81 rfl) rfl
theorem q435 : (Jvm.Cond.methodLinkNest "RatSorters$House" (61 : Nat) ({ cls := "RatSorters$Loading", name := "<init>", desc := "()V" } : Jvm.MethodName) "RatSorters") ∈ lw_tbl := lw_at lw_m2 83 rfl
theorem q446 : (Jvm.Cond.classLink "RatSorters$House" (62 : Nat) "RatSorters$Going") ∈ lw_all := lw_g (lw_at lw_m2 94 rfl) rfl
theorem q448 : (Jvm.Cond.methodLinkNest "RatSorters$House" (64 : Nat) ({ cls := "RatSorters$Going", name := "<init>", desc := "()V" } : Jvm.MethodName) "RatSorters") ∈ lw_tbl := lw_at lw_m2 96 rfl
theorem q453 : (Jvm.Cond.classLink "RatSorters$House" (65 : Nat) "RatSorters$Returning") ∈ lw_all := lw_g (lw_at lw_m2 101 rfl) rfl
theorem q455 : (Jvm.Cond.methodLinkNest "RatSorters$House" (67 : Nat) ({ cls := "RatSorters$Returning", name := "<init>", desc := "()V" } : Jvm.MethodName) "RatSorters") ∈ lw_tbl := lw_at lw_m2 103 rfl
theorem q461 : (Jvm.Cond.methodLinkNest "RatSorters$House" (68 : Nat) ({ cls := "RatSorters$Doing", name := "<init>", desc := "()V" } : Jvm.MethodName) "RatSorters") ∈ lw_tbl := lw_at lw_m2 109 rfl
theorem q463 : (Jvm.Cond.fieldLink "RatSorters$House" (9 : Nat) "RatSorters$House" "heap" "[I") ∈ lw_all := lw_g (lw_at lw_m2 111 rfl) rfl
theorem q466 : (Jvm.Cond.fieldLink "RatSorters$House" (15 : Nat) "RatSorters$House" "far" "[I") ∈ lw_all := lw_g (lw_at lw_m2 114 rfl) rfl
theorem q469 : (Jvm.Cond.fieldLink "RatSorters$House" (20 : Nat) "RatSorters$House" "hole" "[[I") ∈ lw_all := lw_g (lw_at lw_m2 117 rfl) rfl
theorem q471 : (Jvm.Cond.fieldLink "RatSorters$House" (23 : Nat) "RatSorters$House" "is" "[I") ∈ lw_all := lw_g (lw_at lw_m2 119 rfl) rfl
theorem q475 : (Jvm.Cond.fieldLink "RatSorters$House" (26 : Nat) "RatSorters$House" "left" "[I") ∈ lw_all := lw_g (lw_at lw_m2 123 rfl) rfl
theorem q479 : (Jvm.Cond.fieldLink "RatSorters$House" (29 : Nat) "RatSorters$House" "carries" "[I") ∈ lw_all := lw_g (lw_at lw_m2 127 rfl) rfl
theorem q481 : (Jvm.Cond.fieldLink "RatSorters$House" (32 : Nat) "RatSorters$House" "of" "[I") ∈ lw_all := lw_g (lw_at lw_m2 129 rfl) rfl
theorem q483 : (Jvm.Cond.fieldLink "RatSorters$House" (35 : Nat) "RatSorters$House" "to" "[I") ∈ lw_all := lw_g (lw_at lw_m2 131 rfl) rfl
theorem q486 : (Jvm.Cond.fieldLink "RatSorters$House" (38 : Nat) "RatSorters$House" "hunger" "[I") ∈ lw_all := lw_g (lw_at lw_m2 134 rfl) rfl
theorem q490 : (Jvm.Cond.fieldLink "RatSorters$House" (41 : Nat) "RatSorters$House" "fat" "[I") ∈ lw_all := lw_g (lw_at lw_m2 138 rfl) rfl
theorem q492 : (Jvm.Cond.fieldLink "RatSorters$House" (44 : Nat) "RatSorters$House" "knows" "[I") ∈ lw_all := lw_g (lw_at lw_m2 140 rfl) rfl
theorem q495 : (Jvm.Cond.fieldLink "RatSorters$House" (47 : Nat) "RatSorters$House" "trips" "[I") ∈ lw_all := lw_g (lw_at lw_m2 143 rfl) rfl
theorem q497 : (Jvm.Cond.fieldLink "RatSorters$House" (111 : Nat) "RatSorters$House" "cat" "I") ∈ lw_all := lw_g (lw_at lw_m2 145 rfl) rfl
theorem q499 : (Jvm.Cond.fieldLink "RatSorters$House" (114 : Nat) "RatSorters$House" "minute" "I") ∈ lw_all := lw_g (lw_at lw_m2 147 rfl) rfl
theorem q501 : (Jvm.Cond.fieldLink "RatSorters$House" (117 : Nat) "RatSorters$House" "eaten" "I") ∈ lw_all := lw_g (lw_at lw_m2 149 rfl) rfl
theorem q503 : (Jvm.Cond.fieldLink "RatSorters$House" (120 : Nat) "RatSorters$House" "coins" "I") ∈ lw_all := lw_g (lw_at lw_m2 151 rfl) rfl
theorem q505 : (Jvm.Cond.fieldLink "RatSorters$House" (123 : Nat) "RatSorters$House" "sold" "I") ∈ lw_all := lw_g (lw_at lw_m2 153 rfl) rfl
theorem q508 : (Jvm.Cond.fieldLink "RatSorters$House" (126 : Nat) "RatSorters$House" "quarrels" "I") ∈ lw_all := lw_g (lw_at lw_m2 156 rfl) rfl
theorem q510 : (Jvm.Cond.fieldLink "RatSorters$House" (132 : Nat) "RatSorters$House" "seed" "I") ∈ lw_all := lw_g (lw_at lw_m2 158 rfl) rfl
theorem q512 : (Jvm.Cond.fieldLink "RatSorters$House" (162 : Nat) "RatSorters$House" "loaded" "I") ∈ lw_all := lw_g (lw_at lw_m2 160 rfl) rfl
theorem q513 : (Jvm.Cond.fieldLink "RatSorters$House" (53 : Nat) "RatSorters$House" "asked" "LRatSorters$Asked;") ∈ lw_all := lw_g (lw_at lw_m2 161 rfl) rfl
theorem q514 : (Jvm.Cond.fieldLink "RatSorters$House" (69 : Nat) "RatSorters$House" "doings" "[LRatSorters$Doing;") ∈ lw_all := lw_g (lw_at lw_m2 162 rfl) rfl
theorem q515 : (Jvm.Cond.laysFinal "RatSorters$House" "RatSorters$House" "heap" "[I") ∈ lw_all := lw_g (lw_at lw_m2 163 rfl) rfl
theorem q516 : (Jvm.Cond.soleField "RatSorters$House" "heap") ∈ lw_all := lw_g (lw_at lw_m2 164 rfl) rfl
theorem q517 : (Jvm.Cond.laysFinal "RatSorters$House" "RatSorters$House" "far" "[I") ∈ lw_all := lw_g (lw_at lw_m2 165 rfl) rfl
theorem q518 : (Jvm.Cond.soleField "RatSorters$House" "far") ∈ lw_all := lw_g (lw_at lw_m2 166 rfl) rfl
theorem q519 : (Jvm.Cond.laysFinal "RatSorters$House" "RatSorters$House" "hole" "[[I") ∈ lw_all := lw_g (lw_at lw_m2 167 rfl) rfl
theorem q520 : (Jvm.Cond.soleField "RatSorters$House" "hole") ∈ lw_all := lw_g (lw_at lw_m2 168 rfl) rfl
theorem q521 : (Jvm.Cond.laysFinal "RatSorters$House" "RatSorters$House" "is" "[I") ∈ lw_all := lw_g (lw_at lw_m2 169 rfl) rfl
theorem q522 : (Jvm.Cond.soleField "RatSorters$House" "is") ∈ lw_all := lw_g (lw_at lw_m2 170 rfl) rfl
theorem q523 : (Jvm.Cond.laysFinal "RatSorters$House" "RatSorters$House" "left" "[I") ∈ lw_all := lw_g (lw_at lw_m2 171 rfl) rfl
theorem q524 : (Jvm.Cond.soleField "RatSorters$House" "left") ∈ lw_all := lw_g (lw_at lw_m2 172 rfl) rfl
theorem q525 : (Jvm.Cond.laysFinal "RatSorters$House" "RatSorters$House" "carries" "[I") ∈ lw_all := lw_g (lw_at lw_m2 173 rfl) rfl
theorem q526 : (Jvm.Cond.soleField "RatSorters$House" "carries") ∈ lw_all := lw_g (lw_at lw_m2 174 rfl) rfl
theorem q527 : (Jvm.Cond.laysFinal "RatSorters$House" "RatSorters$House" "of" "[I") ∈ lw_all := lw_g (lw_at lw_m2 175 rfl) rfl
theorem q528 : (Jvm.Cond.soleField "RatSorters$House" "of") ∈ lw_all := lw_g (lw_at lw_m2 176 rfl) rfl
theorem q529 : (Jvm.Cond.laysFinal "RatSorters$House" "RatSorters$House" "to" "[I") ∈ lw_all := lw_g (lw_at lw_m2 177 rfl) rfl
theorem q530 : (Jvm.Cond.soleField "RatSorters$House" "to") ∈ lw_all := lw_g (lw_at lw_m2 178 rfl) rfl
theorem q531 : (Jvm.Cond.laysFinal "RatSorters$House" "RatSorters$House" "hunger" "[I") ∈ lw_all := lw_g (lw_at lw_m2 179 rfl) rfl
theorem q532 : (Jvm.Cond.soleField "RatSorters$House" "hunger") ∈ lw_all := lw_g (lw_at lw_m2 180 rfl) rfl
theorem q533 : (Jvm.Cond.laysFinal "RatSorters$House" "RatSorters$House" "fat" "[I") ∈ lw_all := lw_g (lw_at lw_m2 181 rfl) rfl
theorem q534 : (Jvm.Cond.soleField "RatSorters$House" "fat") ∈ lw_all := lw_g (lw_at lw_m2 182 rfl) rfl
theorem q535 : (Jvm.Cond.laysFinal "RatSorters$House" "RatSorters$House" "knows" "[I") ∈ lw_all := lw_g (lw_at lw_m2 183 rfl) rfl
theorem q536 : (Jvm.Cond.soleField "RatSorters$House" "knows") ∈ lw_all := lw_g (lw_at lw_m2 184 rfl) rfl
theorem q537 : (Jvm.Cond.laysFinal "RatSorters$House" "RatSorters$House" "trips" "[I") ∈ lw_all := lw_g (lw_at lw_m2 185 rfl) rfl
theorem q538 : (Jvm.Cond.soleField "RatSorters$House" "trips") ∈ lw_all := lw_g (lw_at lw_m2 186 rfl) rfl
theorem q539 : (Jvm.Cond.lays "RatSorters$House" "RatSorters$House" "cat" "I") ∈ lw_all := lw_g (lw_at lw_m2 187 rfl) rfl
theorem q540 : (Jvm.Cond.soleField "RatSorters$House" "cat") ∈ lw_all := lw_g (lw_at lw_m2 188 rfl) rfl
theorem q541 : (Jvm.Cond.lays "RatSorters$House" "RatSorters$House" "minute" "I") ∈ lw_all := lw_g (lw_at lw_m2 189 rfl) rfl
theorem q542 : (Jvm.Cond.soleField "RatSorters$House" "minute") ∈ lw_all := lw_g (lw_at lw_m2 190 rfl) rfl
theorem q543 : (Jvm.Cond.lays "RatSorters$House" "RatSorters$House" "eaten" "I") ∈ lw_all := lw_g (lw_at lw_m2 191 rfl) rfl
theorem q544 : (Jvm.Cond.soleField "RatSorters$House" "eaten") ∈ lw_all := lw_g (lw_at lw_m2 192 rfl) rfl
theorem q545 : (Jvm.Cond.lays "RatSorters$House" "RatSorters$House" "coins" "I") ∈ lw_all := lw_g (lw_at lw_m2 193 rfl) rfl
theorem q546 : (Jvm.Cond.soleField "RatSorters$House" "coins") ∈ lw_all := lw_g (lw_at lw_m2 194 rfl) rfl
theorem q547 : (Jvm.Cond.lays "RatSorters$House" "RatSorters$House" "sold" "I") ∈ lw_all := lw_g (lw_at lw_m2 195 rfl) rfl
theorem q548 : (Jvm.Cond.soleField "RatSorters$House" "sold") ∈ lw_all := lw_g (lw_at lw_m2 196 rfl) rfl
theorem q549 : (Jvm.Cond.lays "RatSorters$House" "RatSorters$House" "quarrels" "I") ∈ lw_all := lw_g (lw_at lw_m2 197 rfl) rfl
theorem q550 : (Jvm.Cond.soleField "RatSorters$House" "quarrels") ∈ lw_all := lw_g (lw_at lw_m2 198 rfl) rfl
theorem q551 : (Jvm.Cond.lays "RatSorters$House" "RatSorters$House" "seed" "I") ∈ lw_all := lw_g (lw_at lw_m2 199 rfl) rfl
theorem q552 : (Jvm.Cond.soleField "RatSorters$House" "seed") ∈ lw_all := lw_g (lw_at lw_m2 200 rfl) rfl
theorem q553 : (Jvm.Cond.lays "RatSorters$House" "RatSorters$House" "loaded" "I") ∈ lw_all := lw_g (lw_at lw_m2 201 rfl) rfl
theorem q554 : (Jvm.Cond.soleField "RatSorters$House" "loaded") ∈ lw_all := lw_g (lw_at lw_m2 202 rfl) rfl
theorem q555 : (Jvm.Cond.laysFinal "RatSorters$House" "RatSorters$House" "asked" "LRatSorters$Asked;") ∈ lw_all := lw_g (lw_at lw_m2 203 rfl) rfl
theorem q556 : (Jvm.Cond.soleField "RatSorters$House" "asked") ∈ lw_all := lw_g (lw_at lw_m2 204 rfl) rfl
theorem q557 : (Jvm.Cond.laysFinal "RatSorters$House" "RatSorters$House" "doings" "[LRatSorters$Doing;") ∈ lw_all := lw_g (lw_at lw_m2 205 rfl) rfl
theorem q558 : (Jvm.Cond.soleField "RatSorters$House" "doings") ∈ lw_all := lw_g (lw_at lw_m2 206 rfl) rfl
theorem q559 : (Jvm.Cond.superclass "RatSorters$House" "java/lang/Object") ∈ lw_all := lw_g (lw_at lw_m2 207 rfl) rfl
theorem q562 : (Jvm.Cond.instanceMethod ({ cls := "RatSorters$House", name := "begins", desc := "(LRatSorters$Text;)V" } : Jvm.MethodName)) ∈ lw_all := lw_g (lw_at lw_m2 210 rfl) rfl
theorem q563 : (Jvm.Cond.selects "RatSorters$House" ({ cls := "RatSorters$House", name := "begins", desc := "(LRatSorters$Text;)V" } : Jvm.MethodName) ({ cls := "RatSorters$House", name := "begins", desc := "(LRatSorters$Text;)V" } : Jvm.MethodName)) ∈ lw_all := lw_g (lw_at lw_m2 211 rfl) rfl
theorem q564 : (Jvm.Cond.code ({ cls := "RatSorters$House", name := "begins", desc := "(LRatSorters$Text;)V" } : Jvm.MethodName) prog_8_method_2_code (4 : Nat) (Option.none : Option Jvm.ClassFile.FieldType)) ∈ lw_all := lw_g (lw_at lw_m2 212 rfl) rfl
theorem q565 : (Jvm.Cond.methodLink "RatSorters$House" (79 : Nat) ({ cls := "java/util/ArrayList", name := "size", desc := "()I" } : Jvm.MethodName)) ∈ lw_all := lw_g (lw_at lw_m2 213 rfl) rfl
theorem q569 : (Jvm.Cond.methodLink "RatSorters$House" (85 : Nat) ({ cls := "java/util/ArrayList", name := "get", desc := "(I)Ljava/lang/Object;" } : Jvm.MethodName)) ∈ lw_all := lw_g (lw_at lw_m2 217 rfl) rfl
theorem q583 : (Jvm.Cond.classLink "RatSorters$House" (89 : Nat) "RatSorters$Grain") ∈ lw_all := lw_g (lw_at lw_m2 231 rfl) rfl
theorem q584 : (Jvm.Cond.classLink "RatSorters$House" (98 : Nat) "RatSorters$Hole") ∈ lw_all := lw_g (lw_at lw_m2 232 rfl) rfl
theorem q585 : (Jvm.Cond.classLink "RatSorters$House" (105 : Nat) "RatSorters$Rat") ∈ lw_all := lw_g (lw_at lw_m2 233 rfl) rfl
theorem q987 : (Jvm.Cond.fieldLink "RatSorters$House" (91 : Nat) "RatSorters$Grain" "poured" "I") ∈ lw_all := lw_g (lw_at lw_m4 155 rfl) rfl
theorem q989 : (Jvm.Cond.fieldLink "RatSorters$House" (199 : Nat) "RatSorters$Grain" "pence" "I") ∈ lw_all := lw_g (lw_at lw_m4 157 rfl) rfl
theorem q1038 : (Jvm.Cond.selects "RatSorters$House" ({ cls := "java/lang/Object", name := "getClass", desc := "()Ljava/lang/Class;" } : Jvm.MethodName) ({ cls := "java/lang/Object", name := "getClass", desc := "()Ljava/lang/Class;" } : Jvm.MethodName)) ∈ lw_all := lw_g (lw_at lw_m4 206 rfl) rfl
theorem q1069 : (Jvm.Cond.fieldLink "RatSorters$House" (100 : Nat) "RatSorters$Hole" "far" "I") ∈ lw_all := lw_g (lw_at lw_m4 237 rfl) rfl
theorem q1071 : (Jvm.Cond.fieldLink "RatSorters$House" (196 : Nat) "RatSorters$Hole" "grain" "I") ∈ lw_all := lw_g (lw_at lw_m4 239 rfl) rfl
theorem q1091 : (Jvm.Cond.fieldLink "RatSorters$House" (109 : Nat) "RatSorters$Rat" "knows" "I") ∈ lw_all := lw_g (lw_at lw_m5 19 rfl) rfl
theorem q1093 : (Jvm.Cond.fieldLink "RatSorters$House" (155 : Nat) "RatSorters$Rat" "hole" "I") ∈ lw_all := lw_g (lw_at lw_m5 21 rfl) rfl
theorem q1095 : (Jvm.Cond.fieldLink "RatSorters$House" (107 : Nat) "RatSorters$Rat" "fat" "I") ∈ lw_all := lw_g (lw_at lw_m5 23 rfl) rfl
theorem q1288 : (Jvm.Cond.instanceMethod ({ cls := "RatSorters$House", name := "worth", desc := "(LRatSorters$Text;I)I" } : Jvm.MethodName)) ∈ lw_all := lw_g (lw_at lw_m5 216 rfl) rfl
theorem q1289 : (Jvm.Cond.selects "RatSorters$House" ({ cls := "RatSorters$House", name := "worth", desc := "(LRatSorters$Text;I)I" } : Jvm.MethodName) ({ cls := "RatSorters$House", name := "worth", desc := "(LRatSorters$Text;I)I" } : Jvm.MethodName)) ∈ lw_all := lw_g (lw_at lw_m5 217 rfl) rfl
theorem q1290 : (Jvm.Cond.code ({ cls := "RatSorters$House", name := "worth", desc := "(LRatSorters$Text;I)I" } : Jvm.MethodName) prog_8_method_17_code (5 : Nat) (Option.some Jvm.ClassFile.FieldType.int)) ∈ lw_all := lw_g (lw_at lw_m5 218 rfl) rfl
theorem q1291 : (Jvm.Cond.methodLink "RatSorters$House" (202 : Nat) ({ cls := "RatSorters$House", name := "inHole", desc := "(I)I" } : Jvm.MethodName)) ∈ lw_all := lw_g (lw_at lw_m5 219 rfl) rfl
theorem q1292 : (Jvm.Cond.instanceMethod ({ cls := "RatSorters$House", name := "inHole", desc := "(I)I" } : Jvm.MethodName)) ∈ lw_all := lw_g (lw_at lw_m5 220 rfl) rfl
theorem q1293 : (Jvm.Cond.selects "RatSorters$House" ({ cls := "RatSorters$House", name := "inHole", desc := "(I)I" } : Jvm.MethodName) ({ cls := "RatSorters$House", name := "inHole", desc := "(I)I" } : Jvm.MethodName)) ∈ lw_all := lw_g (lw_at lw_m5 221 rfl) rfl
theorem q1294 : (Jvm.Cond.code ({ cls := "RatSorters$House", name := "inHole", desc := "(I)I" } : Jvm.MethodName) prog_8_method_16_code (4 : Nat) (Option.some Jvm.ClassFile.FieldType.int)) ∈ lw_all := lw_g (lw_at lw_m5 222 rfl) rfl
theorem q1295 : (Jvm.Cond.methodLink "RatSorters$House" (149 : Nat) ({ cls := "java/lang/Math", name := "max", desc := "(II)I" } : Jvm.MethodName)) ∈ lw_all := lw_g (lw_at lw_m5 223 rfl) rfl
theorem q1313 : (Jvm.Cond.instanceMethod ({ cls := "RatSorters$House", name := "takes", desc := "(LRatSorters$House;)V" } : Jvm.MethodName)) ∈ lw_all := lw_g (lw_at lw_m6 1 rfl) rfl
theorem q1314 : (Jvm.Cond.selects "RatSorters$House" ({ cls := "RatSorters$House", name := "takes", desc := "(LRatSorters$House;)V" } : Jvm.MethodName) ({ cls := "RatSorters$House", name := "takes", desc := "(LRatSorters$House;)V" } : Jvm.MethodName)) ∈ lw_all := lw_g (lw_at lw_m6 2 rfl) rfl
theorem q1315 : (Jvm.Cond.code ({ cls := "RatSorters$House", name := "takes", desc := "(LRatSorters$House;)V" } : Jvm.MethodName) prog_8_method_4_code (3 : Nat) (Option.none : Option Jvm.ClassFile.FieldType)) ∈ lw_all := lw_g (lw_at lw_m6 3 rfl) rfl
theorem q1316 : (Jvm.Cond.methodLink "RatSorters$House" (139 : Nat) ({ cls := "RatSorters$House", name := "copies", desc := "([I[I)V" } : Jvm.MethodName)) ∈ lw_all := lw_g (lw_at lw_m6 4 rfl) rfl
theorem q1317 : (Jvm.Cond.static ({ cls := "RatSorters$House", name := "copies", desc := "([I[I)V" } : Jvm.MethodName)) ∈ lw_all := lw_g (lw_at lw_m6 5 rfl) rfl
theorem q1318 : (Jvm.Cond.code ({ cls := "RatSorters$House", name := "copies", desc := "([I[I)V" } : Jvm.MethodName) prog_8_method_3_code (2 : Nat) (Option.none : Option Jvm.ClassFile.FieldType)) ∈ lw_all := lw_g (lw_at lw_m6 6 rfl) rfl
theorem q1319 : (Jvm.Cond.methodLink "RatSorters$House" (133 : Nat) ({ cls := "java/lang/System", name := "arraycopy", desc := "(Ljava/lang/Object;ILjava/lang/Object;II)V" } : Jvm.MethodName)) ∈ lw_all := lw_g (lw_at lw_m6 7 rfl) rfl
theorem q1326 : (Jvm.Cond.instanceMethod ({ cls := "RatSorters$House", name := "minute", desc := "(LRatSorters$Text;)V" } : Jvm.MethodName)) ∈ lw_all := lw_g (lw_at lw_m6 14 rfl) rfl
theorem q1327 : (Jvm.Cond.selects "RatSorters$House" ({ cls := "RatSorters$House", name := "minute", desc := "(LRatSorters$Text;)V" } : Jvm.MethodName) ({ cls := "RatSorters$House", name := "minute", desc := "(LRatSorters$Text;)V" } : Jvm.MethodName)) ∈ lw_all := lw_g (lw_at lw_m6 15 rfl) rfl
theorem q1328 : (Jvm.Cond.code ({ cls := "RatSorters$House", name := "minute", desc := "(LRatSorters$Text;)V" } : Jvm.MethodName) prog_8_method_13_code (3 : Nat) (Option.none : Option Jvm.ClassFile.FieldType)) ∈ lw_all := lw_g (lw_at lw_m6 16 rfl) rfl
theorem q1329 : (Jvm.Cond.methodLink "RatSorters$House" (192 : Nat) ({ cls := "RatSorters$Doing", name := "goes", desc := "(LRatSorters$House;LRatSorters$Text;I)V" } : Jvm.MethodName)) ∈ lw_all := lw_g (lw_at lw_m6 17 rfl) rfl
theorem q1341 : (Jvm.Cond.instanceMethod ({ cls := "RatSorters$House", name := "drops", desc := "(I)V" } : Jvm.MethodName)) ∈ lw_all := lw_g (lw_at lw_m6 29 rfl) rfl
theorem q1342 : (Jvm.Cond.selects "RatSorters$House" ({ cls := "RatSorters$House", name := "drops", desc := "(I)V" } : Jvm.MethodName) ({ cls := "RatSorters$House", name := "drops", desc := "(I)V" } : Jvm.MethodName)) ∈ lw_all := lw_g (lw_at lw_m6 30 rfl) rfl
theorem q1343 : (Jvm.Cond.code ({ cls := "RatSorters$House", name := "drops", desc := "(I)V" } : Jvm.MethodName) prog_8_method_11_code (2 : Nat) (Option.none : Option Jvm.ClassFile.FieldType)) ∈ lw_all := lw_g (lw_at lw_m6 31 rfl) rfl
theorem q1349 : (Jvm.Cond.instanceMethod ({ cls := "RatSorters$House", name := "isDark", desc := "(LRatSorters$Text;)Z" } : Jvm.MethodName)) ∈ lw_all := lw_g (lw_at lw_m6 37 rfl) rfl
theorem q1350 : (Jvm.Cond.selects "RatSorters$House" ({ cls := "RatSorters$House", name := "isDark", desc := "(LRatSorters$Text;)Z" } : Jvm.MethodName) ({ cls := "RatSorters$House", name := "isDark", desc := "(LRatSorters$Text;)Z" } : Jvm.MethodName)) ∈ lw_all := lw_g (lw_at lw_m6 38 rfl) rfl
theorem q1351 : (Jvm.Cond.code ({ cls := "RatSorters$House", name := "isDark", desc := "(LRatSorters$Text;)Z" } : Jvm.MethodName) prog_8_method_6_code (2 : Nat) (Option.some Jvm.ClassFile.FieldType.boolean)) ∈ lw_all := lw_g (lw_at lw_m6 39 rfl) rfl
theorem q1353 : (Jvm.Cond.instanceMethod ({ cls := "RatSorters$House", name := "hasLoaded", desc := "(I)Z" } : Jvm.MethodName)) ∈ lw_all := lw_g (lw_at lw_m6 41 rfl) rfl
theorem q1354 : (Jvm.Cond.selects "RatSorters$House" ({ cls := "RatSorters$House", name := "hasLoaded", desc := "(I)Z" } : Jvm.MethodName) ({ cls := "RatSorters$House", name := "hasLoaded", desc := "(I)Z" } : Jvm.MethodName)) ∈ lw_all := lw_g (lw_at lw_m6 42 rfl) rfl
theorem q1355 : (Jvm.Cond.code ({ cls := "RatSorters$House", name := "hasLoaded", desc := "(I)Z" } : Jvm.MethodName) prog_8_method_7_code (2 : Nat) (Option.some Jvm.ClassFile.FieldType.boolean)) ∈ lw_all := lw_g (lw_at lw_m6 43 rfl) rfl
theorem q1357 : (Jvm.Cond.instanceMethod ({ cls := "RatSorters$House", name := "loads", desc := "(LRatSorters$Text;I)V" } : Jvm.MethodName)) ∈ lw_all := lw_g (lw_at lw_m6 45 rfl) rfl
theorem q1358 : (Jvm.Cond.selects "RatSorters$House" ({ cls := "RatSorters$House", name := "loads", desc := "(LRatSorters$Text;I)V" } : Jvm.MethodName) ({ cls := "RatSorters$House", name := "loads", desc := "(LRatSorters$Text;I)V" } : Jvm.MethodName)) ∈ lw_all := lw_g (lw_at lw_m6 46 rfl) rfl
theorem q1359 : (Jvm.Cond.code ({ cls := "RatSorters$House", name := "loads", desc := "(LRatSorters$Text;I)V" } : Jvm.MethodName) prog_8_method_8_code (8 : Nat) (Option.none : Option Jvm.ClassFile.FieldType)) ∈ lw_all := lw_g (lw_at lw_m6 47 rfl) rfl
theorem q1360 : (Jvm.Cond.methodLink "RatSorters$House" (169 : Nat) ({ cls := "RatSorters$House", name := "asks", desc := "(LRatSorters$Text;LRatSorters$Law;III)I" } : Jvm.MethodName)) ∈ lw_all := lw_g (lw_at lw_m6 48 rfl) rfl
theorem q1361 : (Jvm.Cond.privateMethod ({ cls := "RatSorters$House", name := "asks", desc := "(LRatSorters$Text;LRatSorters$Law;III)I" } : Jvm.MethodName)) ∈ lw_tbl := lw_at lw_m6 49 rfl
theorem q1362 : (Jvm.Cond.instanceMethod ({ cls := "RatSorters$House", name := "asks", desc := "(LRatSorters$Text;LRatSorters$Law;III)I" } : Jvm.MethodName)) ∈ lw_all := lw_g (lw_at lw_m6 50 rfl) rfl
theorem q1363 : (Jvm.Cond.code ({ cls := "RatSorters$House", name := "asks", desc := "(LRatSorters$Text;LRatSorters$Law;III)I" } : Jvm.MethodName) prog_8_method_5_code (6 : Nat) (Option.some Jvm.ClassFile.FieldType.int)) ∈ lw_all := lw_g (lw_at lw_m6 51 rfl) rfl
theorem q1364 : (Jvm.Cond.methodLink "RatSorters$House" (157 : Nat) ({ cls := "RatSorters$Law", name := "of", desc := "(LRatSorters$Asked;)I" } : Jvm.MethodName)) ∈ lw_all := lw_g (lw_at lw_m6 52 rfl) rfl
theorem q1381 : (Jvm.Cond.methodLinkNest "RatSorters$House" (173 : Nat) ({ cls := "RatSorters", name := "within", desc := "(III)I" } : Jvm.MethodName) "RatSorters") ∈ lw_tbl := lw_at lw_m6 69 rfl
theorem q1384 : (Jvm.Cond.methodLink "RatSorters$House" (177 : Nat) ({ cls := "java/lang/Math", name := "min", desc := "(II)I" } : Jvm.MethodName)) ∈ lw_all := lw_g (lw_at lw_m6 72 rfl) rfl
theorem q1385 : (Jvm.Cond.methodLink "RatSorters$House" (183 : Nat) ({ cls := "RatSorters$House", name := "eats", desc := "(II)V" } : Jvm.MethodName)) ∈ lw_all := lw_g (lw_at lw_m6 73 rfl) rfl
theorem q1386 : (Jvm.Cond.instanceMethod ({ cls := "RatSorters$House", name := "eats", desc := "(II)V" } : Jvm.MethodName)) ∈ lw_all := lw_g (lw_at lw_m6 74 rfl) rfl
theorem q1387 : (Jvm.Cond.selects "RatSorters$House" ({ cls := "RatSorters$House", name := "eats", desc := "(II)V" } : Jvm.MethodName) ({ cls := "RatSorters$House", name := "eats", desc := "(II)V" } : Jvm.MethodName)) ∈ lw_all := lw_g (lw_at lw_m6 75 rfl) rfl
theorem q1388 : (Jvm.Cond.code ({ cls := "RatSorters$House", name := "eats", desc := "(II)V" } : Jvm.MethodName) prog_8_method_9_code (3 : Nat) (Option.none : Option Jvm.ClassFile.FieldType)) ∈ lw_all := lw_g (lw_at lw_m6 76 rfl) rfl
theorem q1389 : (Jvm.Cond.methodLinkNest "RatSorters$House" (186 : Nat) ({ cls := "RatSorters", name := "lot", desc := "(III)I" } : Jvm.MethodName) "RatSorters") ∈ lw_tbl := lw_at lw_m6 77 rfl
theorem q1397 : (Jvm.Cond.instanceMethod ({ cls := "RatSorters$House", name := "eatsOdd", desc := "(LRatSorters$Text;I)V" } : Jvm.MethodName)) ∈ lw_all := lw_g (lw_at lw_m6 85 rfl) rfl
theorem q1398 : (Jvm.Cond.selects "RatSorters$House" ({ cls := "RatSorters$House", name := "eatsOdd", desc := "(LRatSorters$Text;I)V" } : Jvm.MethodName) ({ cls := "RatSorters$House", name := "eatsOdd", desc := "(LRatSorters$Text;I)V" } : Jvm.MethodName)) ∈ lw_all := lw_g (lw_at lw_m6 86 rfl) rfl
theorem q1399 : (Jvm.Cond.code ({ cls := "RatSorters$House", name := "eatsOdd", desc := "(LRatSorters$Text;I)V" } : Jvm.MethodName) prog_8_method_10_code (5 : Nat) (Option.none : Option Jvm.ClassFile.FieldType)) ∈ lw_all := lw_g (lw_at lw_m6 87 rfl) rfl
theorem q1433 : (Jvm.Cond.instanceMethod ({ cls := "RatSorters$House", name := "goesHome", desc := "(I)V" } : Jvm.MethodName)) ∈ lw_all := lw_g (lw_at lw_m6 121 rfl) rfl
theorem q1434 : (Jvm.Cond.selects "RatSorters$House" ({ cls := "RatSorters$House", name := "goesHome", desc := "(I)V" } : Jvm.MethodName) ({ cls := "RatSorters$House", name := "goesHome", desc := "(I)V" } : Jvm.MethodName)) ∈ lw_all := lw_g (lw_at lw_m6 122 rfl) rfl
theorem q1435 : (Jvm.Cond.code ({ cls := "RatSorters$House", name := "goesHome", desc := "(I)V" } : Jvm.MethodName) prog_8_method_12_code (2 : Nat) (Option.none : Option Jvm.ClassFile.FieldType)) ∈ lw_all := lw_g (lw_at lw_m6 123 rfl) rfl
theorem q1470 : (Jvm.Cond.instanceMethod ({ cls := "RatSorters$House", name := "isSorted", desc := "(LRatSorters$Text;Z)Z" } : Jvm.MethodName)) ∈ lw_all := lw_g (lw_at lw_m6 158 rfl) rfl
theorem q1471 : (Jvm.Cond.selects "RatSorters$House" ({ cls := "RatSorters$House", name := "isSorted", desc := "(LRatSorters$Text;Z)Z" } : Jvm.MethodName) ({ cls := "RatSorters$House", name := "isSorted", desc := "(LRatSorters$Text;Z)Z" } : Jvm.MethodName)) ∈ lw_all := lw_g (lw_at lw_m6 159 rfl) rfl
theorem q1472 : (Jvm.Cond.code ({ cls := "RatSorters$House", name := "isSorted", desc := "(LRatSorters$Text;Z)Z" } : Jvm.MethodName) prog_8_method_15_code (4 : Nat) (Option.some Jvm.ClassFile.FieldType.boolean)) ∈ lw_all := lw_g (lw_at lw_m6 160 rfl) rfl
theorem q1474 : (Jvm.Cond.instanceMethod ({ cls := "RatSorters$House", name := "isGoing", desc := "(LRatSorters$Text;)Z" } : Jvm.MethodName)) ∈ lw_all := lw_g (lw_at lw_m6 162 rfl) rfl
theorem q1475 : (Jvm.Cond.selects "RatSorters$House" ({ cls := "RatSorters$House", name := "isGoing", desc := "(LRatSorters$Text;)Z" } : Jvm.MethodName) ({ cls := "RatSorters$House", name := "isGoing", desc := "(LRatSorters$Text;)Z" } : Jvm.MethodName)) ∈ lw_all := lw_g (lw_at lw_m6 163 rfl) rfl
theorem q1476 : (Jvm.Cond.code ({ cls := "RatSorters$House", name := "isGoing", desc := "(LRatSorters$Text;)Z" } : Jvm.MethodName) prog_8_method_14_code (3 : Nat) (Option.some Jvm.ClassFile.FieldType.boolean)) ∈ lw_all := lw_g (lw_at lw_m6 164 rfl) rfl
theorem q1490 : (Jvm.Cond.instanceMethod ({ cls := "RatSorters$House", name := "worthAll", desc := "(LRatSorters$Text;)I" } : Jvm.MethodName)) ∈ lw_all := lw_g (lw_at lw_m6 178 rfl) rfl
theorem q1491 : (Jvm.Cond.selects "RatSorters$House" ({ cls := "RatSorters$House", name := "worthAll", desc := "(LRatSorters$Text;)I" } : Jvm.MethodName) ({ cls := "RatSorters$House", name := "worthAll", desc := "(LRatSorters$Text;)I" } : Jvm.MethodName)) ∈ lw_all := lw_g (lw_at lw_m6 179 rfl) rfl
theorem q1492 : (Jvm.Cond.code ({ cls := "RatSorters$House", name := "worthAll", desc := "(LRatSorters$Text;)I" } : Jvm.MethodName) prog_8_method_18_code (4 : Nat) (Option.some Jvm.ClassFile.FieldType.int)) ∈ lw_all := lw_g (lw_at lw_m6 180 rfl) rfl
theorem q1493 : (Jvm.Cond.methodLink "RatSorters$House" (206 : Nat) ({ cls := "RatSorters$House", name := "worth", desc := "(LRatSorters$Text;I)I" } : Jvm.MethodName)) ∈ lw_all := lw_g (lw_at lw_m6 181 rfl) rfl
theorem q1495 : (Jvm.Cond.instanceMethod ({ cls := "RatSorters$House", name := "inHeap", desc := "()I" } : Jvm.MethodName)) ∈ lw_all := lw_g (lw_at lw_m6 183 rfl) rfl
theorem q1496 : (Jvm.Cond.selects "RatSorters$House" ({ cls := "RatSorters$House", name := "inHeap", desc := "()I" } : Jvm.MethodName) ({ cls := "RatSorters$House", name := "inHeap", desc := "()I" } : Jvm.MethodName)) ∈ lw_all := lw_g (lw_at lw_m6 184 rfl) rfl
theorem q1497 : (Jvm.Cond.code ({ cls := "RatSorters$House", name := "inHeap", desc := "()I" } : Jvm.MethodName) prog_8_method_19_code (3 : Nat) (Option.some Jvm.ClassFile.FieldType.int)) ∈ lw_all := lw_g (lw_at lw_m6 185 rfl) rfl
theorem q1499 : (Jvm.Cond.instanceMethod ({ cls := "RatSorters$House", name := "sorted", desc := "(LRatSorters$Text;Z)I" } : Jvm.MethodName)) ∈ lw_all := lw_g (lw_at lw_m6 187 rfl) rfl
theorem q1500 : (Jvm.Cond.selects "RatSorters$House" ({ cls := "RatSorters$House", name := "sorted", desc := "(LRatSorters$Text;Z)I" } : Jvm.MethodName) ({ cls := "RatSorters$House", name := "sorted", desc := "(LRatSorters$Text;Z)I" } : Jvm.MethodName)) ∈ lw_all := lw_g (lw_at lw_m6 188 rfl) rfl
theorem q1501 : (Jvm.Cond.code ({ cls := "RatSorters$House", name := "sorted", desc := "(LRatSorters$Text;Z)I" } : Jvm.MethodName) prog_8_method_20_code (6 : Nat) (Option.some Jvm.ClassFile.FieldType.int)) ∈ lw_all := lw_g (lw_at lw_m6 189 rfl) rfl
theorem q2268 : (Jvm.Cond.castable "RatSorters$House" "java/lang/Object") ∈ lw_tbl := lw_at lw_m9 236 rfl
theorem in_X5 : ∀ w ∈ wsX50, w ∈ lw_all := lw_in wsX50 [515, 517, 519, 521, 523, 525, 527, 529, 531, 533, 535, 537, 539, 541, 543, 545, 547, 549, 551, 553, 555, 557] (by decide +kernel) (by decide +kernel)
